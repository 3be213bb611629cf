/-! room QR (printed by tools/zgen2.py) -/
set_option maxRecDepth 100000
def RX40 : String := "KnowHouse$QlRewrite"
def TX40 : u_T := fun k => match k with
  | 0 => ("KnowHouse$QlRewrite", "kinds", "[I", true)
  | 1 => ("KnowHouse$QlRewrite", "lefts", "[I", true)
  | 2 => ("KnowHouse$QlRewrite", "rights", "[I", true)
  | 3 => ("KnowHouse$QlRewrite", "axioms", "I", false)
  | 4 => ("KnowHouse$QlRewrite", "classFacts", "[Z", true)
  | 5 => ("KnowHouse$QlRewrite", "roleFacts", "[Z", true)
  | 6 => ("KnowHouse$QlRewrite", "facts", "I", false)
  | 7 => ("KnowHouse$QlRewrite", "draft", "LKnowHouse$QlRewrite$Draft;", true)
  | 8 => ("KnowHouse$QlRewrite", "questions", "[LKnowHouse$QlRewrite$Question;", true)
  | 9 => ("KnowHouse$QlRewrite", "questionCount", "I", false)
  | 10 => ("KnowHouse$QlRewrite", "forbidden", "[LKnowHouse$QlRewrite$Question;", true)
  | _ => ("KnowHouse$QlRewrite", "given", "[I", true)
def tyX40 : Nat → FieldType := fun k => match k with
  | 0 => .array .int
  | 1 => .array .int
  | 2 => .array .int
  | 3 => .int
  | 4 => .array .boolean
  | 5 => .array .boolean
  | 6 => .int
  | 7 => .object "KnowHouse$QlRewrite$Draft"
  | 8 => .array (.object "KnowHouse$QlRewrite$Question")
  | 9 => .int
  | 10 => .array (.object "KnowHouse$QlRewrite$Question")
  | _ => .array .int
abbrev wsX400 : List Cond := u_ws RX40 TX40 12
theorem nmX40 : ∀ a, a < 12 → ∀ b, b < 12 → a ≠ b → (TX40 a).2.1 ≠ (TX40 b).2.1 := by decide +kernel
theorem tyX40_ok : ∀ k, k < 12 → parseFieldDescriptor (TX40 k).2.2.1 = some (tyX40 k) := by decide +kernel
abbrev cX40_init : ByteArray := prog_45_method_1_code
def yX40_init : MethodName := ⟨RX40, "<init>", "()V"⟩
theorem dX40_init_0 : decode cX40_init 0 = .ok (.aload_n 0, 1) := by decide +kernel
theorem dX40_init_1 : decode cX40_init 1 = .ok (.invokespecial 1, 3) := by decide +kernel
theorem dX40_init_4 : decode cX40_init 4 = .ok (.aload_n 0, 1) := by decide +kernel
theorem dX40_init_5 : decode cX40_init 5 = .ok (.bipush 16, 2) := by decide +kernel
theorem dX40_init_7 : decode cX40_init 7 = .ok (.newarray .int, 2) := by decide +kernel
theorem dX40_init_9 : decode cX40_init 9 = .ok (.putfield 9, 3) := by decide +kernel
theorem dX40_init_12 : decode cX40_init 12 = .ok (.aload_n 0, 1) := by decide +kernel
theorem dX40_init_13 : decode cX40_init 13 = .ok (.bipush 16, 2) := by decide +kernel
theorem dX40_init_15 : decode cX40_init 15 = .ok (.newarray .int, 2) := by decide +kernel
theorem dX40_init_17 : decode cX40_init 17 = .ok (.putfield 13, 3) := by decide +kernel
theorem dX40_init_20 : decode cX40_init 20 = .ok (.aload_n 0, 1) := by decide +kernel
theorem dX40_init_21 : decode cX40_init 21 = .ok (.bipush 16, 2) := by decide +kernel
theorem dX40_init_23 : decode cX40_init 23 = .ok (.newarray .int, 2) := by decide +kernel
theorem dX40_init_25 : decode cX40_init 25 = .ok (.putfield 16, 3) := by decide +kernel
theorem dX40_init_28 : decode cX40_init 28 = .ok (.aload_n 0, 1) := by decide +kernel
theorem dX40_init_29 : decode cX40_init 29 = .ok (.bipush 120, 2) := by decide +kernel
theorem dX40_init_31 : decode cX40_init 31 = .ok (.newarray .boolean, 2) := by decide +kernel
theorem dX40_init_33 : decode cX40_init 33 = .ok (.putfield 19, 3) := by decide +kernel
theorem dX40_init_36 : decode cX40_init 36 = .ok (.aload_n 0, 1) := by decide +kernel
theorem dX40_init_37 : decode cX40_init 37 = .ok (.sipush 1152, 3) := by decide +kernel
theorem dX40_init_40 : decode cX40_init 40 = .ok (.newarray .boolean, 2) := by decide +kernel
theorem dX40_init_42 : decode cX40_init 42 = .ok (.putfield 23, 3) := by decide +kernel
theorem dX40_init_45 : decode cX40_init 45 = .ok (.aload_n 0, 1) := by decide +kernel
theorem dX40_init_46 : decode cX40_init 46 = .ok (.new 26, 3) := by decide +kernel
theorem dX40_init_49 : decode cX40_init 49 = .ok (.dup, 1) := by decide +kernel
theorem dX40_init_50 : decode cX40_init 50 = .ok (.invokespecial 28, 3) := by decide +kernel
theorem dX40_init_53 : decode cX40_init 53 = .ok (.putfield 29, 3) := by decide +kernel
theorem dX40_init_56 : decode cX40_init 56 = .ok (.aload_n 0, 1) := by decide +kernel
theorem dX40_init_57 : decode cX40_init 57 = .ok (.bipush 6, 2) := by decide +kernel
theorem dX40_init_59 : decode cX40_init 59 = .ok (.anewarray 33, 3) := by decide +kernel
theorem dX40_init_62 : decode cX40_init 62 = .ok (.putfield 35, 3) := by decide +kernel
theorem dX40_init_65 : decode cX40_init 65 = .ok (.aload_n 0, 1) := by decide +kernel
theorem dX40_init_66 : decode cX40_init 66 = .ok (.bipush 16, 2) := by decide +kernel
theorem dX40_init_68 : decode cX40_init 68 = .ok (.anewarray 33, 3) := by decide +kernel
theorem dX40_init_71 : decode cX40_init 71 = .ok (.putfield 39, 3) := by decide +kernel
theorem dX40_init_74 : decode cX40_init 74 = .ok (.aload_n 0, 1) := by decide +kernel
theorem dX40_init_75 : decode cX40_init 75 = .ok (.bipush 6, 2) := by decide +kernel
theorem dX40_init_77 : decode cX40_init 77 = .ok (.newarray .int, 2) := by decide +kernel
theorem dX40_init_79 : decode cX40_init 79 = .ok (.putfield 42, 3) := by decide +kernel
theorem dX40_init_82 : decode cX40_init 82 = .ok (.return_, 1) := by decide +kernel
abbrev cX40_axiom : ByteArray := prog_45_method_4_code
def yX40_axiom : MethodName := ⟨RX40, "axiom", "(III)I"⟩
theorem dX40_axiom_0 : decode cX40_axiom 0 = .ok (.iload_n 1, 1) := by decide +kernel
theorem dX40_axiom_1 : decode cX40_axiom 1 = .ok (.iconst 4, 1) := by decide +kernel
theorem dX40_axiom_2 : decode cX40_axiom 2 = .ok (.invokestatic 45, 3) := by decide +kernel
theorem dX40_axiom_5 : decode cX40_axiom 5 = .ok (.ifCond .ne 5, 3) := by decide +kernel
theorem dX40_axiom_8 : decode cX40_axiom 8 = .ok (.iconst (-1), 1) := by decide +kernel
theorem dX40_axiom_9 : decode cX40_axiom 9 = .ok (.ireturn, 1) := by decide +kernel
theorem dX40_axiom_10 : decode cX40_axiom 10 = .ok (.iload_n 1, 1) := by decide +kernel
theorem dX40_axiom_11 : decode cX40_axiom 11 = .ok (.iconst 2, 1) := by decide +kernel
theorem dX40_axiom_12 : decode cX40_axiom 12 = .ok (.irem, 1) := by decide +kernel
theorem dX40_axiom_13 : decode cX40_axiom 13 = .ok (.ifCond .ne 25, 3) := by decide +kernel
theorem dX40_axiom_16 : decode cX40_axiom 16 = .ok (.iload_n 2, 1) := by decide +kernel
theorem dX40_axiom_17 : decode cX40_axiom 17 = .ok (.invokestatic 49, 3) := by decide +kernel
theorem dX40_axiom_20 : decode cX40_axiom 20 = .ok (.ifCond .eq 14, 3) := by decide +kernel
theorem dX40_axiom_23 : decode cX40_axiom 23 = .ok (.iload_n 3, 1) := by decide +kernel
theorem dX40_axiom_24 : decode cX40_axiom 24 = .ok (.invokestatic 49, 3) := by decide +kernel
theorem dX40_axiom_27 : decode cX40_axiom 27 = .ok (.ifCond .eq 7, 3) := by decide +kernel
theorem dX40_axiom_30 : decode cX40_axiom 30 = .ok (.iconst 1, 1) := by decide +kernel
theorem dX40_axiom_31 : decode cX40_axiom 31 = .ok (.goto 30, 3) := by decide +kernel
theorem dX40_axiom_34 : decode cX40_axiom 34 = .ok (.iconst 0, 1) := by decide +kernel
theorem dX40_axiom_35 : decode cX40_axiom 35 = .ok (.goto 26, 3) := by decide +kernel
theorem dX40_axiom_38 : decode cX40_axiom 38 = .ok (.iload_n 2, 1) := by decide +kernel
theorem dX40_axiom_39 : decode cX40_axiom 39 = .ok (.bipush 16, 2) := by decide +kernel
theorem dX40_axiom_41 : decode cX40_axiom 41 = .ok (.invokestatic 45, 3) := by decide +kernel
theorem dX40_axiom_44 : decode cX40_axiom 44 = .ok (.ifCond .eq 16, 3) := by decide +kernel
theorem dX40_axiom_47 : decode cX40_axiom 47 = .ok (.iload_n 3, 1) := by decide +kernel
theorem dX40_axiom_48 : decode cX40_axiom 48 = .ok (.bipush 16, 2) := by decide +kernel
theorem dX40_axiom_50 : decode cX40_axiom 50 = .ok (.invokestatic 45, 3) := by decide +kernel
theorem dX40_axiom_53 : decode cX40_axiom 53 = .ok (.ifCond .eq 7, 3) := by decide +kernel
theorem dX40_axiom_56 : decode cX40_axiom 56 = .ok (.iconst 1, 1) := by decide +kernel
theorem dX40_axiom_57 : decode cX40_axiom 57 = .ok (.goto 4, 3) := by decide +kernel
theorem dX40_axiom_60 : decode cX40_axiom 60 = .ok (.iconst 0, 1) := by decide +kernel
theorem dX40_axiom_61 : decode cX40_axiom 61 = .ok (.istore 4, 2) := by decide +kernel
theorem dX40_axiom_63 : decode cX40_axiom 63 = .ok (.iload 4, 2) := by decide +kernel
theorem dX40_axiom_65 : decode cX40_axiom 65 = .ok (.ifCond .ne 5, 3) := by decide +kernel
theorem dX40_axiom_68 : decode cX40_axiom 68 = .ok (.iconst (-1), 1) := by decide +kernel
theorem dX40_axiom_69 : decode cX40_axiom 69 = .ok (.ireturn, 1) := by decide +kernel
theorem dX40_axiom_70 : decode cX40_axiom 70 = .ok (.aload_n 0, 1) := by decide +kernel
theorem dX40_axiom_71 : decode cX40_axiom 71 = .ok (.getfield 53, 3) := by decide +kernel
theorem dX40_axiom_74 : decode cX40_axiom 74 = .ok (.bipush 16, 2) := by decide +kernel
theorem dX40_axiom_76 : decode cX40_axiom 76 = .ok (.if_icmp .ne 6, 3) := by decide +kernel
theorem dX40_axiom_79 : decode cX40_axiom 79 = .ok (.bipush (-2), 2) := by decide +kernel
theorem dX40_axiom_81 : decode cX40_axiom 81 = .ok (.ireturn, 1) := by decide +kernel
theorem dX40_axiom_82 : decode cX40_axiom 82 = .ok (.aload_n 0, 1) := by decide +kernel
theorem dX40_axiom_83 : decode cX40_axiom 83 = .ok (.getfield 9, 3) := by decide +kernel
theorem dX40_axiom_86 : decode cX40_axiom 86 = .ok (.aload_n 0, 1) := by decide +kernel
theorem dX40_axiom_87 : decode cX40_axiom 87 = .ok (.getfield 53, 3) := by decide +kernel
theorem dX40_axiom_90 : decode cX40_axiom 90 = .ok (.iload_n 1, 1) := by decide +kernel
theorem dX40_axiom_91 : decode cX40_axiom 91 = .ok (.iastore, 1) := by decide +kernel
theorem dX40_axiom_92 : decode cX40_axiom 92 = .ok (.aload_n 0, 1) := by decide +kernel
theorem dX40_axiom_93 : decode cX40_axiom 93 = .ok (.getfield 13, 3) := by decide +kernel
theorem dX40_axiom_96 : decode cX40_axiom 96 = .ok (.aload_n 0, 1) := by decide +kernel
theorem dX40_axiom_97 : decode cX40_axiom 97 = .ok (.getfield 53, 3) := by decide +kernel
theorem dX40_axiom_100 : decode cX40_axiom 100 = .ok (.iload_n 2, 1) := by decide +kernel
theorem dX40_axiom_101 : decode cX40_axiom 101 = .ok (.iastore, 1) := by decide +kernel
theorem dX40_axiom_102 : decode cX40_axiom 102 = .ok (.aload_n 0, 1) := by decide +kernel
theorem dX40_axiom_103 : decode cX40_axiom 103 = .ok (.getfield 16, 3) := by decide +kernel
theorem dX40_axiom_106 : decode cX40_axiom 106 = .ok (.aload_n 0, 1) := by decide +kernel
theorem dX40_axiom_107 : decode cX40_axiom 107 = .ok (.getfield 53, 3) := by decide +kernel
theorem dX40_axiom_110 : decode cX40_axiom 110 = .ok (.iload_n 3, 1) := by decide +kernel
theorem dX40_axiom_111 : decode cX40_axiom 111 = .ok (.iastore, 1) := by decide +kernel
theorem dX40_axiom_112 : decode cX40_axiom 112 = .ok (.aload_n 0, 1) := by decide +kernel
theorem dX40_axiom_113 : decode cX40_axiom 113 = .ok (.getfield 39, 3) := by decide +kernel
theorem dX40_axiom_116 : decode cX40_axiom 116 = .ok (.aload_n 0, 1) := by decide +kernel
theorem dX40_axiom_117 : decode cX40_axiom 117 = .ok (.getfield 53, 3) := by decide +kernel
theorem dX40_axiom_120 : decode cX40_axiom 120 = .ok (.iload_n 1, 1) := by decide +kernel
theorem dX40_axiom_121 : decode cX40_axiom 121 = .ok (.iconst 2, 1) := by decide +kernel
theorem dX40_axiom_122 : decode cX40_axiom 122 = .ok (.if_icmp .ge 7, 3) := by decide +kernel
theorem dX40_axiom_125 : decode cX40_axiom 125 = .ok (.aconst_null, 1) := by decide +kernel
theorem dX40_axiom_126 : decode cX40_axiom 126 = .ok (.goto 18, 3) := by decide +kernel
theorem dX40_axiom_129 : decode cX40_axiom 129 = .ok (.iload_n 1, 1) := by decide +kernel
theorem dX40_axiom_130 : decode cX40_axiom 130 = .ok (.iconst 2, 1) := by decide +kernel
theorem dX40_axiom_131 : decode cX40_axiom 131 = .ok (.if_icmp .ne 7, 3) := by decide +kernel
theorem dX40_axiom_134 : decode cX40_axiom 134 = .ok (.iconst 1, 1) := by decide +kernel
theorem dX40_axiom_135 : decode cX40_axiom 135 = .ok (.goto 4, 3) := by decide +kernel
theorem dX40_axiom_138 : decode cX40_axiom 138 = .ok (.iconst 0, 1) := by decide +kernel
theorem dX40_axiom_139 : decode cX40_axiom 139 = .ok (.iload_n 2, 1) := by decide +kernel
theorem dX40_axiom_140 : decode cX40_axiom 140 = .ok (.iload_n 3, 1) := by decide +kernel
theorem dX40_axiom_141 : decode cX40_axiom 141 = .ok (.invokestatic 57, 3) := by decide +kernel
theorem dX40_axiom_144 : decode cX40_axiom 144 = .ok (.aastore, 1) := by decide +kernel
theorem dX40_axiom_145 : decode cX40_axiom 145 = .ok (.aload_n 0, 1) := by decide +kernel
theorem dX40_axiom_146 : decode cX40_axiom 146 = .ok (.dup, 1) := by decide +kernel
theorem dX40_axiom_147 : decode cX40_axiom 147 = .ok (.getfield 53, 3) := by decide +kernel
theorem dX40_axiom_150 : decode cX40_axiom 150 = .ok (.iconst 1, 1) := by decide +kernel
theorem dX40_axiom_151 : decode cX40_axiom 151 = .ok (.iadd, 1) := by decide +kernel
theorem dX40_axiom_152 : decode cX40_axiom 152 = .ok (.putfield 53, 3) := by decide +kernel
theorem dX40_axiom_155 : decode cX40_axiom 155 = .ok (.aload_n 0, 1) := by decide +kernel
theorem dX40_axiom_156 : decode cX40_axiom 156 = .ok (.getfield 53, 3) := by decide +kernel
theorem dX40_axiom_159 : decode cX40_axiom 159 = .ok (.iconst 1, 1) := by decide +kernel
theorem dX40_axiom_160 : decode cX40_axiom 160 = .ok (.isub, 1) := by decide +kernel
theorem dX40_axiom_161 : decode cX40_axiom 161 = .ok (.ireturn, 1) := by decide +kernel
abbrev cX40_isIn : ByteArray := prog_45_method_2_code
def yX40_isIn : MethodName := ⟨RX40, "isIn", "(II)Z"⟩
theorem dX40_isIn_0 : decode cX40_isIn 0 = .ok (.iload_n 0, 1) := by decide +kernel
theorem dX40_isIn_1 : decode cX40_isIn 1 = .ok (.ifCond .lt 12, 3) := by decide +kernel
theorem dX40_isIn_4 : decode cX40_isIn 4 = .ok (.iload_n 0, 1) := by decide +kernel
theorem dX40_isIn_5 : decode cX40_isIn 5 = .ok (.iload_n 1, 1) := by decide +kernel
theorem dX40_isIn_6 : decode cX40_isIn 6 = .ok (.if_icmp .ge 7, 3) := by decide +kernel
theorem dX40_isIn_9 : decode cX40_isIn 9 = .ok (.iconst 1, 1) := by decide +kernel
theorem dX40_isIn_10 : decode cX40_isIn 10 = .ok (.goto 4, 3) := by decide +kernel
theorem dX40_isIn_13 : decode cX40_isIn 13 = .ok (.iconst 0, 1) := by decide +kernel
theorem dX40_isIn_14 : decode cX40_isIn 14 = .ok (.ireturn, 1) := by decide +kernel
abbrev cX40_isSort : ByteArray := prog_45_method_3_code
def yX40_isSort : MethodName := ⟨RX40, "isSort", "(I)Z"⟩
theorem dX40_isSort_0 : decode cX40_isSort 0 = .ok (.iload_n 0, 1) := by decide +kernel
theorem dX40_isSort_1 : decode cX40_isSort 1 = .ok (.bipush 10, 2) := by decide +kernel
theorem dX40_isSort_3 : decode cX40_isSort 3 = .ok (.invokestatic 45, 3) := by decide +kernel
theorem dX40_isSort_6 : decode cX40_isSort 6 = .ok (.ifCond .ne 15, 3) := by decide +kernel
theorem dX40_isSort_9 : decode cX40_isSort 9 = .ok (.iload_n 0, 1) := by decide +kernel
theorem dX40_isSort_10 : decode cX40_isSort 10 = .ok (.bipush 20, 2) := by decide +kernel
theorem dX40_isSort_12 : decode cX40_isSort 12 = .ok (.isub, 1) := by decide +kernel
theorem dX40_isSort_13 : decode cX40_isSort 13 = .ok (.bipush 16, 2) := by decide +kernel
theorem dX40_isSort_15 : decode cX40_isSort 15 = .ok (.invokestatic 45, 3) := by decide +kernel
theorem dX40_isSort_18 : decode cX40_isSort 18 = .ok (.ifCond .eq 7, 3) := by decide +kernel
theorem dX40_isSort_21 : decode cX40_isSort 21 = .ok (.iconst 1, 1) := by decide +kernel
theorem dX40_isSort_22 : decode cX40_isSort 22 = .ok (.goto 4, 3) := by decide +kernel
theorem dX40_isSort_25 : decode cX40_isSort 25 = .ok (.iconst 0, 1) := by decide +kernel
theorem dX40_isSort_26 : decode cX40_isSort 26 = .ok (.ireturn, 1) := by decide +kernel
abbrev cX40_clash : ByteArray := prog_45_method_10_code
def yX40_clash : MethodName := ⟨RX40, "clash", "(ZII)LKnowHouse$QlRewrite$Question;"⟩
theorem dX40_clash_0 : decode cX40_clash 0 = .ok (.new 33, 3) := by decide +kernel
theorem dX40_clash_3 : decode cX40_clash 3 = .ok (.dup, 1) := by decide +kernel
theorem dX40_clash_4 : decode cX40_clash 4 = .ok (.iconst 0, 1) := by decide +kernel
theorem dX40_clash_5 : decode cX40_clash 5 = .ok (.invokespecial 75, 3) := by decide +kernel
theorem dX40_clash_8 : decode cX40_clash 8 = .ok (.astore_n 3, 1) := by decide +kernel
theorem dX40_clash_9 : decode cX40_clash 9 = .ok (.iconst 0, 1) := by decide +kernel
theorem dX40_clash_10 : decode cX40_clash 10 = .ok (.istore 4, 2) := by decide +kernel
theorem dX40_clash_12 : decode cX40_clash 12 = .ok (.iload 4, 2) := by decide +kernel
theorem dX40_clash_14 : decode cX40_clash 14 = .ok (.iconst 2, 1) := by decide +kernel
theorem dX40_clash_15 : decode cX40_clash 15 = .ok (.if_icmp .ge 155, 3) := by decide +kernel
theorem dX40_clash_18 : decode cX40_clash 18 = .ok (.iload 4, 2) := by decide +kernel
theorem dX40_clash_20 : decode cX40_clash 20 = .ok (.ifCond .ne 7, 3) := by decide +kernel
theorem dX40_clash_23 : decode cX40_clash 23 = .ok (.iload_n 1, 1) := by decide +kernel
theorem dX40_clash_24 : decode cX40_clash 24 = .ok (.goto 4, 3) := by decide +kernel
theorem dX40_clash_27 : decode cX40_clash 27 = .ok (.iload_n 2, 1) := by decide +kernel
theorem dX40_clash_28 : decode cX40_clash 28 = .ok (.istore 5, 2) := by decide +kernel
theorem dX40_clash_30 : decode cX40_clash 30 = .ok (.iload_n 0, 1) := by decide +kernel
theorem dX40_clash_31 : decode cX40_clash 31 = .ok (.ifCond .eq 22, 3) := by decide +kernel
theorem dX40_clash_34 : decode cX40_clash 34 = .ok (.iload 5, 2) := by decide +kernel
theorem dX40_clash_36 : decode cX40_clash 36 = .ok (.bipush 20, 2) := by decide +kernel
theorem dX40_clash_38 : decode cX40_clash 38 = .ok (.if_icmp .ge 15, 3) := by decide +kernel
theorem dX40_clash_41 : decode cX40_clash 41 = .ok (.aload_n 3, 1) := by decide +kernel
theorem dX40_clash_42 : decode cX40_clash 42 = .ok (.iload 5, 2) := by decide +kernel
theorem dX40_clash_44 : decode cX40_clash 44 = .ok (.iconst 0, 1) := by decide +kernel
theorem dX40_clash_45 : decode cX40_clash 45 = .ok (.bipush 7, 2) := by decide +kernel
theorem dX40_clash_47 : decode cX40_clash 47 = .ok (.invokevirtual 78, 3) := by decide +kernel
theorem dX40_clash_50 : decode cX40_clash 50 = .ok (.goto 114, 3) := by decide +kernel
theorem dX40_clash_53 : decode cX40_clash 53 = .ok (.iload 5, 2) := by decide +kernel
theorem dX40_clash_55 : decode cX40_clash 55 = .ok (.iconst 1, 1) := by decide +kernel
theorem dX40_clash_56 : decode cX40_clash 56 = .ok (.iand, 1) := by decide +kernel
theorem dX40_clash_57 : decode cX40_clash 57 = .ok (.iconst 1, 1) := by decide +kernel
theorem dX40_clash_58 : decode cX40_clash 58 = .ok (.if_icmp .ne 7, 3) := by decide +kernel
theorem dX40_clash_61 : decode cX40_clash 61 = .ok (.iconst 1, 1) := by decide +kernel
theorem dX40_clash_62 : decode cX40_clash 62 = .ok (.goto 4, 3) := by decide +kernel
theorem dX40_clash_65 : decode cX40_clash 65 = .ok (.iconst 0, 1) := by decide +kernel
theorem dX40_clash_66 : decode cX40_clash 66 = .ok (.istore 6, 2) := by decide +kernel
theorem dX40_clash_68 : decode cX40_clash 68 = .ok (.iload_n 0, 1) := by decide +kernel
theorem dX40_clash_69 : decode cX40_clash 69 = .ok (.ifCond .eq 10, 3) := by decide +kernel
theorem dX40_clash_72 : decode cX40_clash 72 = .ok (.iconst 1, 1) := by decide +kernel
theorem dX40_clash_73 : decode cX40_clash 73 = .ok (.iload 4, 2) := by decide +kernel
theorem dX40_clash_75 : decode cX40_clash 75 = .ok (.iadd, 1) := by decide +kernel
theorem dX40_clash_76 : decode cX40_clash 76 = .ok (.goto 4, 3) := by decide +kernel
theorem dX40_clash_79 : decode cX40_clash 79 = .ok (.iconst 1, 1) := by decide +kernel
theorem dX40_clash_80 : decode cX40_clash 80 = .ok (.istore 7, 2) := by decide +kernel
theorem dX40_clash_82 : decode cX40_clash 82 = .ok (.bipush 32, 2) := by decide +kernel
theorem dX40_clash_84 : decode cX40_clash 84 = .ok (.iload_n 0, 1) := by decide +kernel
theorem dX40_clash_85 : decode cX40_clash 85 = .ok (.ifCond .eq 13, 3) := by decide +kernel
theorem dX40_clash_88 : decode cX40_clash 88 = .ok (.iload 5, 2) := by decide +kernel
theorem dX40_clash_90 : decode cX40_clash 90 = .ok (.bipush 20, 2) := by decide +kernel
theorem dX40_clash_92 : decode cX40_clash 92 = .ok (.isub, 1) := by decide +kernel
theorem dX40_clash_93 : decode cX40_clash 93 = .ok (.iconst 1, 1) := by decide +kernel
theorem dX40_clash_94 : decode cX40_clash 94 = .ok (.ishr, 1) := by decide +kernel
theorem dX40_clash_95 : decode cX40_clash 95 = .ok (.goto 7, 3) := by decide +kernel
theorem dX40_clash_98 : decode cX40_clash 98 = .ok (.iload 5, 2) := by decide +kernel
theorem dX40_clash_100 : decode cX40_clash 100 = .ok (.iconst 1, 1) := by decide +kernel
theorem dX40_clash_101 : decode cX40_clash 101 = .ok (.ishr, 1) := by decide +kernel
theorem dX40_clash_102 : decode cX40_clash 102 = .ok (.iadd, 1) := by decide +kernel
theorem dX40_clash_103 : decode cX40_clash 103 = .ok (.istore 8, 2) := by decide +kernel
theorem dX40_clash_105 : decode cX40_clash 105 = .ok (.aload_n 3, 1) := by decide +kernel
theorem dX40_clash_106 : decode cX40_clash 106 = .ok (.iload 8, 2) := by decide +kernel
theorem dX40_clash_108 : decode cX40_clash 108 = .ok (.iload 6, 2) := by decide +kernel
theorem dX40_clash_110 : decode cX40_clash 110 = .ok (.ifCond .eq 8, 3) := by decide +kernel
theorem dX40_clash_113 : decode cX40_clash 113 = .ok (.iload 7, 2) := by decide +kernel
theorem dX40_clash_115 : decode cX40_clash 115 = .ok (.goto 4, 3) := by decide +kernel
theorem dX40_clash_118 : decode cX40_clash 118 = .ok (.iconst 0, 1) := by decide +kernel
theorem dX40_clash_119 : decode cX40_clash 119 = .ok (.iload 6, 2) := by decide +kernel
theorem dX40_clash_121 : decode cX40_clash 121 = .ok (.ifCond .eq 7, 3) := by decide +kernel
theorem dX40_clash_124 : decode cX40_clash 124 = .ok (.iconst 0, 1) := by decide +kernel
theorem dX40_clash_125 : decode cX40_clash 125 = .ok (.goto 5, 3) := by decide +kernel
theorem dX40_clash_128 : decode cX40_clash 128 = .ok (.iload 7, 2) := by decide +kernel
theorem dX40_clash_130 : decode cX40_clash 130 = .ok (.invokevirtual 82, 3) := by decide +kernel
theorem dX40_clash_133 : decode cX40_clash 133 = .ok (.ifCond .ne 31, 3) := by decide +kernel
theorem dX40_clash_136 : decode cX40_clash 136 = .ok (.aload_n 3, 1) := by decide +kernel
theorem dX40_clash_137 : decode cX40_clash 137 = .ok (.iload 8, 2) := by decide +kernel
theorem dX40_clash_139 : decode cX40_clash 139 = .ok (.iload 6, 2) := by decide +kernel
theorem dX40_clash_141 : decode cX40_clash 141 = .ok (.ifCond .eq 8, 3) := by decide +kernel
theorem dX40_clash_144 : decode cX40_clash 144 = .ok (.iload 7, 2) := by decide +kernel
theorem dX40_clash_146 : decode cX40_clash 146 = .ok (.goto 4, 3) := by decide +kernel
theorem dX40_clash_149 : decode cX40_clash 149 = .ok (.iconst 0, 1) := by decide +kernel
theorem dX40_clash_150 : decode cX40_clash 150 = .ok (.iload 6, 2) := by decide +kernel
theorem dX40_clash_152 : decode cX40_clash 152 = .ok (.ifCond .eq 7, 3) := by decide +kernel
theorem dX40_clash_155 : decode cX40_clash 155 = .ok (.iconst 0, 1) := by decide +kernel
theorem dX40_clash_156 : decode cX40_clash 156 = .ok (.goto 5, 3) := by decide +kernel
theorem dX40_clash_159 : decode cX40_clash 159 = .ok (.iload 7, 2) := by decide +kernel
theorem dX40_clash_161 : decode cX40_clash 161 = .ok (.invokevirtual 78, 3) := by decide +kernel
theorem dX40_clash_164 : decode cX40_clash 164 = .ok (.iinc 4 1, 3) := by decide +kernel
theorem dX40_clash_167 : decode cX40_clash 167 = .ok (.goto (-155), 3) := by decide +kernel
theorem dX40_clash_170 : decode cX40_clash 170 = .ok (.aload_n 3, 1) := by decide +kernel
theorem dX40_clash_171 : decode cX40_clash 171 = .ok (.areturn, 1) := by decide +kernel
abbrev cX40_fact : ByteArray := prog_45_method_8_code
def yX40_fact : MethodName := ⟨RX40, "fact", "(ZIII)I"⟩
theorem dX40_fact_0 : decode cX40_fact 0 = .ok (.iload_n 1, 1) := by decide +kernel
theorem dX40_fact_1 : decode cX40_fact 1 = .ok (.iload_n 2, 1) := by decide +kernel
theorem dX40_fact_2 : decode cX40_fact 2 = .ok (.iload_n 3, 1) := by decide +kernel
theorem dX40_fact_3 : decode cX40_fact 3 = .ok (.iload 4, 2) := by decide +kernel
theorem dX40_fact_5 : decode cX40_fact 5 = .ok (.invokestatic 64, 3) := by decide +kernel
theorem dX40_fact_8 : decode cX40_fact 8 = .ok (.ifCond .ne 5, 3) := by decide +kernel
theorem dX40_fact_11 : decode cX40_fact 11 = .ok (.iconst (-1), 1) := by decide +kernel
theorem dX40_fact_12 : decode cX40_fact 12 = .ok (.ireturn, 1) := by decide +kernel
theorem dX40_fact_13 : decode cX40_fact 13 = .ok (.aload_n 0, 1) := by decide +kernel
theorem dX40_fact_14 : decode cX40_fact 14 = .ok (.iload_n 1, 1) := by decide +kernel
theorem dX40_fact_15 : decode cX40_fact 15 = .ok (.iload_n 2, 1) := by decide +kernel
theorem dX40_fact_16 : decode cX40_fact 16 = .ok (.iload_n 3, 1) := by decide +kernel
theorem dX40_fact_17 : decode cX40_fact 17 = .ok (.iload 4, 2) := by decide +kernel
theorem dX40_fact_19 : decode cX40_fact 19 = .ok (.invokevirtual 68, 3) := by decide +kernel
theorem dX40_fact_22 : decode cX40_fact 22 = .ok (.ifCond .eq 5, 3) := by decide +kernel
theorem dX40_fact_25 : decode cX40_fact 25 = .ok (.iconst 0, 1) := by decide +kernel
theorem dX40_fact_26 : decode cX40_fact 26 = .ok (.ireturn, 1) := by decide +kernel
theorem dX40_fact_27 : decode cX40_fact 27 = .ok (.aload_n 0, 1) := by decide +kernel
theorem dX40_fact_28 : decode cX40_fact 28 = .ok (.getfield 61, 3) := by decide +kernel
theorem dX40_fact_31 : decode cX40_fact 31 = .ok (.bipush 60, 2) := by decide +kernel
theorem dX40_fact_33 : decode cX40_fact 33 = .ok (.if_icmp .ne 6, 3) := by decide +kernel
theorem dX40_fact_36 : decode cX40_fact 36 = .ok (.bipush (-2), 2) := by decide +kernel
theorem dX40_fact_38 : decode cX40_fact 38 = .ok (.ireturn, 1) := by decide +kernel
theorem dX40_fact_39 : decode cX40_fact 39 = .ok (.aload_n 0, 1) := by decide +kernel
theorem dX40_fact_40 : decode cX40_fact 40 = .ok (.iload_n 1, 1) := by decide +kernel
theorem dX40_fact_41 : decode cX40_fact 41 = .ok (.iload_n 2, 1) := by decide +kernel
theorem dX40_fact_42 : decode cX40_fact 42 = .ok (.iload_n 3, 1) := by decide +kernel
theorem dX40_fact_43 : decode cX40_fact 43 = .ok (.iload 4, 2) := by decide +kernel
theorem dX40_fact_45 : decode cX40_fact 45 = .ok (.iconst 1, 1) := by decide +kernel
theorem dX40_fact_46 : decode cX40_fact 46 = .ok (.invokevirtual 71, 3) := by decide +kernel
theorem dX40_fact_49 : decode cX40_fact 49 = .ok (.iconst 1, 1) := by decide +kernel
theorem dX40_fact_50 : decode cX40_fact 50 = .ok (.ireturn, 1) := by decide +kernel
abbrev cX40_isFact : ByteArray := prog_45_method_5_code
def yX40_isFact : MethodName := ⟨RX40, "isFact", "(ZIII)Z"⟩
theorem dX40_isFact_0 : decode cX40_isFact 0 = .ok (.iload_n 2, 1) := by decide +kernel
theorem dX40_isFact_1 : decode cX40_isFact 1 = .ok (.bipush 12, 2) := by decide +kernel
theorem dX40_isFact_3 : decode cX40_isFact 3 = .ok (.invokestatic 45, 3) := by decide +kernel
theorem dX40_isFact_6 : decode cX40_isFact 6 = .ok (.ifCond .eq 41, 3) := by decide +kernel
theorem dX40_isFact_9 : decode cX40_isFact 9 = .ok (.iload_n 0, 1) := by decide +kernel
theorem dX40_isFact_10 : decode cX40_isFact 10 = .ok (.ifCond .eq 24, 3) := by decide +kernel
theorem dX40_isFact_13 : decode cX40_isFact 13 = .ok (.iload_n 1, 1) := by decide +kernel
theorem dX40_isFact_14 : decode cX40_isFact 14 = .ok (.bipush 8, 2) := by decide +kernel
theorem dX40_isFact_16 : decode cX40_isFact 16 = .ok (.invokestatic 45, 3) := by decide +kernel
theorem dX40_isFact_19 : decode cX40_isFact 19 = .ok (.ifCond .eq 28, 3) := by decide +kernel
theorem dX40_isFact_22 : decode cX40_isFact 22 = .ok (.iload_n 3, 1) := by decide +kernel
theorem dX40_isFact_23 : decode cX40_isFact 23 = .ok (.bipush 12, 2) := by decide +kernel
theorem dX40_isFact_25 : decode cX40_isFact 25 = .ok (.invokestatic 45, 3) := by decide +kernel
theorem dX40_isFact_28 : decode cX40_isFact 28 = .ok (.ifCond .eq 19, 3) := by decide +kernel
theorem dX40_isFact_31 : decode cX40_isFact 31 = .ok (.goto 12, 3) := by decide +kernel
theorem dX40_isFact_34 : decode cX40_isFact 34 = .ok (.iload_n 1, 1) := by decide +kernel
theorem dX40_isFact_35 : decode cX40_isFact 35 = .ok (.bipush 10, 2) := by decide +kernel
theorem dX40_isFact_37 : decode cX40_isFact 37 = .ok (.invokestatic 45, 3) := by decide +kernel
theorem dX40_isFact_40 : decode cX40_isFact 40 = .ok (.ifCond .eq 7, 3) := by decide +kernel
theorem dX40_isFact_43 : decode cX40_isFact 43 = .ok (.iconst 1, 1) := by decide +kernel
theorem dX40_isFact_44 : decode cX40_isFact 44 = .ok (.goto 4, 3) := by decide +kernel
theorem dX40_isFact_47 : decode cX40_isFact 47 = .ok (.iconst 0, 1) := by decide +kernel
theorem dX40_isFact_48 : decode cX40_isFact 48 = .ok (.ireturn, 1) := by decide +kernel
abbrev cX40_has : ByteArray := prog_45_method_6_code
def yX40_has : MethodName := ⟨RX40, "has", "(ZIII)Z"⟩
theorem dX40_has_0 : decode cX40_has 0 = .ok (.iload_n 1, 1) := by decide +kernel
theorem dX40_has_1 : decode cX40_has 1 = .ok (.ifCond .eq 23, 3) := by decide +kernel
theorem dX40_has_4 : decode cX40_has 4 = .ok (.aload_n 0, 1) := by decide +kernel
theorem dX40_has_5 : decode cX40_has 5 = .ok (.getfield 23, 3) := by decide +kernel
theorem dX40_has_8 : decode cX40_has 8 = .ok (.bipush 12, 2) := by decide +kernel
theorem dX40_has_10 : decode cX40_has 10 = .ok (.bipush 12, 2) := by decide +kernel
theorem dX40_has_12 : decode cX40_has 12 = .ok (.iload_n 2, 1) := by decide +kernel
theorem dX40_has_13 : decode cX40_has 13 = .ok (.imul, 1) := by decide +kernel
theorem dX40_has_14 : decode cX40_has 14 = .ok (.iload_n 3, 1) := by decide +kernel
theorem dX40_has_15 : decode cX40_has 15 = .ok (.iadd, 1) := by decide +kernel
theorem dX40_has_16 : decode cX40_has 16 = .ok (.imul, 1) := by decide +kernel
theorem dX40_has_17 : decode cX40_has 17 = .ok (.iload 4, 2) := by decide +kernel
theorem dX40_has_19 : decode cX40_has 19 = .ok (.iadd, 1) := by decide +kernel
theorem dX40_has_20 : decode cX40_has 20 = .ok (.baload, 1) := by decide +kernel
theorem dX40_has_21 : decode cX40_has 21 = .ok (.goto 14, 3) := by decide +kernel
theorem dX40_has_24 : decode cX40_has 24 = .ok (.aload_n 0, 1) := by decide +kernel
theorem dX40_has_25 : decode cX40_has 25 = .ok (.getfield 19, 3) := by decide +kernel
theorem dX40_has_28 : decode cX40_has 28 = .ok (.bipush 12, 2) := by decide +kernel
theorem dX40_has_30 : decode cX40_has 30 = .ok (.iload_n 2, 1) := by decide +kernel
theorem dX40_has_31 : decode cX40_has 31 = .ok (.imul, 1) := by decide +kernel
theorem dX40_has_32 : decode cX40_has 32 = .ok (.iload_n 3, 1) := by decide +kernel
theorem dX40_has_33 : decode cX40_has 33 = .ok (.iadd, 1) := by decide +kernel
theorem dX40_has_34 : decode cX40_has 34 = .ok (.baload, 1) := by decide +kernel
theorem dX40_has_35 : decode cX40_has 35 = .ok (.ireturn, 1) := by decide +kernel
abbrev cX40_set : ByteArray := prog_45_method_7_code
def yX40_set : MethodName := ⟨RX40, "set", "(ZIIIZ)V"⟩
theorem dX40_set_0 : decode cX40_set 0 = .ok (.iload_n 1, 1) := by decide +kernel
theorem dX40_set_1 : decode cX40_set 1 = .ok (.ifCond .eq 25, 3) := by decide +kernel
theorem dX40_set_4 : decode cX40_set 4 = .ok (.aload_n 0, 1) := by decide +kernel
theorem dX40_set_5 : decode cX40_set 5 = .ok (.getfield 23, 3) := by decide +kernel
theorem dX40_set_8 : decode cX40_set 8 = .ok (.bipush 12, 2) := by decide +kernel
theorem dX40_set_10 : decode cX40_set 10 = .ok (.bipush 12, 2) := by decide +kernel
theorem dX40_set_12 : decode cX40_set 12 = .ok (.iload_n 2, 1) := by decide +kernel
theorem dX40_set_13 : decode cX40_set 13 = .ok (.imul, 1) := by decide +kernel
theorem dX40_set_14 : decode cX40_set 14 = .ok (.iload_n 3, 1) := by decide +kernel
theorem dX40_set_15 : decode cX40_set 15 = .ok (.iadd, 1) := by decide +kernel
theorem dX40_set_16 : decode cX40_set 16 = .ok (.imul, 1) := by decide +kernel
theorem dX40_set_17 : decode cX40_set 17 = .ok (.iload 4, 2) := by decide +kernel
theorem dX40_set_19 : decode cX40_set 19 = .ok (.iadd, 1) := by decide +kernel
theorem dX40_set_20 : decode cX40_set 20 = .ok (.iload 5, 2) := by decide +kernel
theorem dX40_set_22 : decode cX40_set 22 = .ok (.bastore, 1) := by decide +kernel
theorem dX40_set_23 : decode cX40_set 23 = .ok (.goto 16, 3) := by decide +kernel
theorem dX40_set_26 : decode cX40_set 26 = .ok (.aload_n 0, 1) := by decide +kernel
theorem dX40_set_27 : decode cX40_set 27 = .ok (.getfield 19, 3) := by decide +kernel
theorem dX40_set_30 : decode cX40_set 30 = .ok (.bipush 12, 2) := by decide +kernel
theorem dX40_set_32 : decode cX40_set 32 = .ok (.iload_n 2, 1) := by decide +kernel
theorem dX40_set_33 : decode cX40_set 33 = .ok (.imul, 1) := by decide +kernel
theorem dX40_set_34 : decode cX40_set 34 = .ok (.iload_n 3, 1) := by decide +kernel
theorem dX40_set_35 : decode cX40_set 35 = .ok (.iadd, 1) := by decide +kernel
theorem dX40_set_36 : decode cX40_set 36 = .ok (.iload 5, 2) := by decide +kernel
theorem dX40_set_38 : decode cX40_set 38 = .ok (.bastore, 1) := by decide +kernel
theorem dX40_set_39 : decode cX40_set 39 = .ok (.aload_n 0, 1) := by decide +kernel
theorem dX40_set_40 : decode cX40_set 40 = .ok (.dup, 1) := by decide +kernel
theorem dX40_set_41 : decode cX40_set 41 = .ok (.getfield 61, 3) := by decide +kernel
theorem dX40_set_44 : decode cX40_set 44 = .ok (.iload 5, 2) := by decide +kernel
theorem dX40_set_46 : decode cX40_set 46 = .ok (.ifCond .eq 7, 3) := by decide +kernel
theorem dX40_set_49 : decode cX40_set 49 = .ok (.iconst 1, 1) := by decide +kernel
theorem dX40_set_50 : decode cX40_set 50 = .ok (.goto 4, 3) := by decide +kernel
theorem dX40_set_53 : decode cX40_set 53 = .ok (.iconst (-1), 1) := by decide +kernel
theorem dX40_set_54 : decode cX40_set 54 = .ok (.iadd, 1) := by decide +kernel
theorem dX40_set_55 : decode cX40_set 55 = .ok (.putfield 61, 3) := by decide +kernel
theorem dX40_set_58 : decode cX40_set 58 = .ok (.return_, 1) := by decide +kernel
abbrev cX40_forget : ByteArray := prog_45_method_9_code
def yX40_forget : MethodName := ⟨RX40, "forget", "(ZIII)I"⟩
theorem dX40_forget_0 : decode cX40_forget 0 = .ok (.iload_n 1, 1) := by decide +kernel
theorem dX40_forget_1 : decode cX40_forget 1 = .ok (.iload_n 2, 1) := by decide +kernel
theorem dX40_forget_2 : decode cX40_forget 2 = .ok (.iload_n 3, 1) := by decide +kernel
theorem dX40_forget_3 : decode cX40_forget 3 = .ok (.iload 4, 2) := by decide +kernel
theorem dX40_forget_5 : decode cX40_forget 5 = .ok (.invokestatic 64, 3) := by decide +kernel
theorem dX40_forget_8 : decode cX40_forget 8 = .ok (.ifCond .ne 5, 3) := by decide +kernel
theorem dX40_forget_11 : decode cX40_forget 11 = .ok (.iconst (-1), 1) := by decide +kernel
theorem dX40_forget_12 : decode cX40_forget 12 = .ok (.ireturn, 1) := by decide +kernel
theorem dX40_forget_13 : decode cX40_forget 13 = .ok (.aload_n 0, 1) := by decide +kernel
theorem dX40_forget_14 : decode cX40_forget 14 = .ok (.iload_n 1, 1) := by decide +kernel
theorem dX40_forget_15 : decode cX40_forget 15 = .ok (.iload_n 2, 1) := by decide +kernel
theorem dX40_forget_16 : decode cX40_forget 16 = .ok (.iload_n 3, 1) := by decide +kernel
theorem dX40_forget_17 : decode cX40_forget 17 = .ok (.iload 4, 2) := by decide +kernel
theorem dX40_forget_19 : decode cX40_forget 19 = .ok (.invokevirtual 68, 3) := by decide +kernel
theorem dX40_forget_22 : decode cX40_forget 22 = .ok (.ifCond .ne 5, 3) := by decide +kernel
theorem dX40_forget_25 : decode cX40_forget 25 = .ok (.iconst 0, 1) := by decide +kernel
theorem dX40_forget_26 : decode cX40_forget 26 = .ok (.ireturn, 1) := by decide +kernel
theorem dX40_forget_27 : decode cX40_forget 27 = .ok (.aload_n 0, 1) := by decide +kernel
theorem dX40_forget_28 : decode cX40_forget 28 = .ok (.iload_n 1, 1) := by decide +kernel
theorem dX40_forget_29 : decode cX40_forget 29 = .ok (.iload_n 2, 1) := by decide +kernel
theorem dX40_forget_30 : decode cX40_forget 30 = .ok (.iload_n 3, 1) := by decide +kernel
theorem dX40_forget_31 : decode cX40_forget 31 = .ok (.iload 4, 2) := by decide +kernel
theorem dX40_forget_33 : decode cX40_forget 33 = .ok (.iconst 0, 1) := by decide +kernel
theorem dX40_forget_34 : decode cX40_forget 34 = .ok (.invokevirtual 71, 3) := by decide +kernel
theorem dX40_forget_37 : decode cX40_forget 37 = .ok (.iconst 1, 1) := by decide +kernel
theorem dX40_forget_38 : decode cX40_forget 38 = .ok (.ireturn, 1) := by decide +kernel
abbrev cX40_question : ByteArray := prog_45_method_12_code
def yX40_question : MethodName := ⟨RX40, "question", "(I)I"⟩
theorem dX40_question_0 : decode cX40_question 0 = .ok (.iload_n 1, 1) := by decide +kernel
theorem dX40_question_1 : decode cX40_question 1 = .ok (.iconst 3, 1) := by decide +kernel
theorem dX40_question_2 : decode cX40_question 2 = .ok (.invokestatic 45, 3) := by decide +kernel
theorem dX40_question_5 : decode cX40_question 5 = .ok (.ifCond .ne 5, 3) := by decide +kernel
theorem dX40_question_8 : decode cX40_question 8 = .ok (.iconst (-1), 1) := by decide +kernel
theorem dX40_question_9 : decode cX40_question 9 = .ok (.ireturn, 1) := by decide +kernel
theorem dX40_question_10 : decode cX40_question 10 = .ok (.aload_n 0, 1) := by decide +kernel
theorem dX40_question_11 : decode cX40_question 11 = .ok (.getfield 85, 3) := by decide +kernel
theorem dX40_question_14 : decode cX40_question 14 = .ok (.bipush 6, 2) := by decide +kernel
theorem dX40_question_16 : decode cX40_question 16 = .ok (.if_icmp .ne 6, 3) := by decide +kernel
theorem dX40_question_19 : decode cX40_question 19 = .ok (.bipush (-2), 2) := by decide +kernel
theorem dX40_question_21 : decode cX40_question 21 = .ok (.ireturn, 1) := by decide +kernel
theorem dX40_question_22 : decode cX40_question 22 = .ok (.aload_n 0, 1) := by decide +kernel
theorem dX40_question_23 : decode cX40_question 23 = .ok (.getfield 35, 3) := by decide +kernel
theorem dX40_question_26 : decode cX40_question 26 = .ok (.aload_n 0, 1) := by decide +kernel
theorem dX40_question_27 : decode cX40_question 27 = .ok (.getfield 85, 3) := by decide +kernel
theorem dX40_question_30 : decode cX40_question 30 = .ok (.new 33, 3) := by decide +kernel
theorem dX40_question_33 : decode cX40_question 33 = .ok (.dup, 1) := by decide +kernel
theorem dX40_question_34 : decode cX40_question 34 = .ok (.iload_n 1, 1) := by decide +kernel
theorem dX40_question_35 : decode cX40_question 35 = .ok (.invokespecial 75, 3) := by decide +kernel
theorem dX40_question_38 : decode cX40_question 38 = .ok (.aastore, 1) := by decide +kernel
theorem dX40_question_39 : decode cX40_question 39 = .ok (.aload_n 0, 1) := by decide +kernel
theorem dX40_question_40 : decode cX40_question 40 = .ok (.dup, 1) := by decide +kernel
theorem dX40_question_41 : decode cX40_question 41 = .ok (.getfield 85, 3) := by decide +kernel
theorem dX40_question_44 : decode cX40_question 44 = .ok (.iconst 1, 1) := by decide +kernel
theorem dX40_question_45 : decode cX40_question 45 = .ok (.iadd, 1) := by decide +kernel
theorem dX40_question_46 : decode cX40_question 46 = .ok (.putfield 85, 3) := by decide +kernel
theorem dX40_question_49 : decode cX40_question 49 = .ok (.aload_n 0, 1) := by decide +kernel
theorem dX40_question_50 : decode cX40_question 50 = .ok (.getfield 85, 3) := by decide +kernel
theorem dX40_question_53 : decode cX40_question 53 = .ok (.iconst 1, 1) := by decide +kernel
theorem dX40_question_54 : decode cX40_question 54 = .ok (.isub, 1) := by decide +kernel
theorem dX40_question_55 : decode cX40_question 55 = .ok (.ireturn, 1) := by decide +kernel
abbrev cX40_atom : ByteArray := prog_45_method_13_code
def yX40_atom : MethodName := ⟨RX40, "atom", "(IZIII)I"⟩
theorem dX40_atom_0 : decode cX40_atom 0 = .ok (.aload_n 0, 1) := by decide +kernel
theorem dX40_atom_1 : decode cX40_atom 1 = .ok (.iload_n 1, 1) := by decide +kernel
theorem dX40_atom_2 : decode cX40_atom 2 = .ok (.invokevirtual 88, 3) := by decide +kernel
theorem dX40_atom_5 : decode cX40_atom 5 = .ok (.ifCond .eq 52, 3) := by decide +kernel
theorem dX40_atom_8 : decode cX40_atom 8 = .ok (.iload 4, 2) := by decide +kernel
theorem dX40_atom_10 : decode cX40_atom 10 = .ok (.bipush 8, 2) := by decide +kernel
theorem dX40_atom_12 : decode cX40_atom 12 = .ok (.invokestatic 45, 3) := by decide +kernel
theorem dX40_atom_15 : decode cX40_atom 15 = .ok (.ifCond .eq 42, 3) := by decide +kernel
theorem dX40_atom_18 : decode cX40_atom 18 = .ok (.iload_n 2, 1) := by decide +kernel
theorem dX40_atom_19 : decode cX40_atom 19 = .ok (.ifCond .eq 25, 3) := by decide +kernel
theorem dX40_atom_22 : decode cX40_atom 22 = .ok (.iload_n 3, 1) := by decide +kernel
theorem dX40_atom_23 : decode cX40_atom 23 = .ok (.bipush 8, 2) := by decide +kernel
theorem dX40_atom_25 : decode cX40_atom 25 = .ok (.invokestatic 45, 3) := by decide +kernel
theorem dX40_atom_28 : decode cX40_atom 28 = .ok (.ifCond .eq 29, 3) := by decide +kernel
theorem dX40_atom_31 : decode cX40_atom 31 = .ok (.iload 5, 2) := by decide +kernel
theorem dX40_atom_33 : decode cX40_atom 33 = .ok (.bipush 8, 2) := by decide +kernel
theorem dX40_atom_35 : decode cX40_atom 35 = .ok (.invokestatic 45, 3) := by decide +kernel
theorem dX40_atom_38 : decode cX40_atom 38 = .ok (.ifCond .eq 19, 3) := by decide +kernel
theorem dX40_atom_41 : decode cX40_atom 41 = .ok (.goto 12, 3) := by decide +kernel
theorem dX40_atom_44 : decode cX40_atom 44 = .ok (.iload_n 3, 1) := by decide +kernel
theorem dX40_atom_45 : decode cX40_atom 45 = .ok (.bipush 10, 2) := by decide +kernel
theorem dX40_atom_47 : decode cX40_atom 47 = .ok (.invokestatic 45, 3) := by decide +kernel
theorem dX40_atom_50 : decode cX40_atom 50 = .ok (.ifCond .eq 7, 3) := by decide +kernel
theorem dX40_atom_53 : decode cX40_atom 53 = .ok (.iconst 1, 1) := by decide +kernel
theorem dX40_atom_54 : decode cX40_atom 54 = .ok (.goto 4, 3) := by decide +kernel
theorem dX40_atom_57 : decode cX40_atom 57 = .ok (.iconst 0, 1) := by decide +kernel
theorem dX40_atom_58 : decode cX40_atom 58 = .ok (.istore 6, 2) := by decide +kernel
theorem dX40_atom_60 : decode cX40_atom 60 = .ok (.iload 6, 2) := by decide +kernel
theorem dX40_atom_62 : decode cX40_atom 62 = .ok (.ifCond .ne 5, 3) := by decide +kernel
theorem dX40_atom_65 : decode cX40_atom 65 = .ok (.iconst (-1), 1) := by decide +kernel
theorem dX40_atom_66 : decode cX40_atom 66 = .ok (.ireturn, 1) := by decide +kernel
theorem dX40_atom_67 : decode cX40_atom 67 = .ok (.aload_n 0, 1) := by decide +kernel
theorem dX40_atom_68 : decode cX40_atom 68 = .ok (.getfield 35, 3) := by decide +kernel
theorem dX40_atom_71 : decode cX40_atom 71 = .ok (.iload_n 1, 1) := by decide +kernel
theorem dX40_atom_72 : decode cX40_atom 72 = .ok (.aaload, 1) := by decide +kernel
theorem dX40_atom_73 : decode cX40_atom 73 = .ok (.astore 7, 2) := by decide +kernel
theorem dX40_atom_75 : decode cX40_atom 75 = .ok (.bipush 8, 2) := by decide +kernel
theorem dX40_atom_77 : decode cX40_atom 77 = .ok (.iload 4, 2) := by decide +kernel
theorem dX40_atom_79 : decode cX40_atom 79 = .ok (.iadd, 1) := by decide +kernel
theorem dX40_atom_80 : decode cX40_atom 80 = .ok (.istore 8, 2) := by decide +kernel
theorem dX40_atom_82 : decode cX40_atom 82 = .ok (.iload_n 2, 1) := by decide +kernel
theorem dX40_atom_83 : decode cX40_atom 83 = .ok (.ifCond .eq 11, 3) := by decide +kernel
theorem dX40_atom_86 : decode cX40_atom 86 = .ok (.bipush 8, 2) := by decide +kernel
theorem dX40_atom_88 : decode cX40_atom 88 = .ok (.iload 5, 2) := by decide +kernel
theorem dX40_atom_90 : decode cX40_atom 90 = .ok (.iadd, 1) := by decide +kernel
theorem dX40_atom_91 : decode cX40_atom 91 = .ok (.goto 5, 3) := by decide +kernel
theorem dX40_atom_94 : decode cX40_atom 94 = .ok (.bipush 7, 2) := by decide +kernel
theorem dX40_atom_96 : decode cX40_atom 96 = .ok (.istore 9, 2) := by decide +kernel
theorem dX40_atom_98 : decode cX40_atom 98 = .ok (.iload_n 2, 1) := by decide +kernel
theorem dX40_atom_99 : decode cX40_atom 99 = .ok (.ifCond .eq 10, 3) := by decide +kernel
theorem dX40_atom_102 : decode cX40_atom 102 = .ok (.bipush 32, 2) := by decide +kernel
theorem dX40_atom_104 : decode cX40_atom 104 = .ok (.iload_n 3, 1) := by decide +kernel
theorem dX40_atom_105 : decode cX40_atom 105 = .ok (.iadd, 1) := by decide +kernel
theorem dX40_atom_106 : decode cX40_atom 106 = .ok (.goto 4, 3) := by decide +kernel
theorem dX40_atom_109 : decode cX40_atom 109 = .ok (.iload_n 3, 1) := by decide +kernel
theorem dX40_atom_110 : decode cX40_atom 110 = .ok (.istore 10, 2) := by decide +kernel
theorem dX40_atom_112 : decode cX40_atom 112 = .ok (.aload 7, 2) := by decide +kernel
theorem dX40_atom_114 : decode cX40_atom 114 = .ok (.iload 10, 2) := by decide +kernel
theorem dX40_atom_116 : decode cX40_atom 116 = .ok (.iload 8, 2) := by decide +kernel
theorem dX40_atom_118 : decode cX40_atom 118 = .ok (.iload 9, 2) := by decide +kernel
theorem dX40_atom_120 : decode cX40_atom 120 = .ok (.invokevirtual 82, 3) := by decide +kernel
theorem dX40_atom_123 : decode cX40_atom 123 = .ok (.ifCond .eq 9, 3) := by decide +kernel
theorem dX40_atom_126 : decode cX40_atom 126 = .ok (.aload 7, 2) := by decide +kernel
theorem dX40_atom_128 : decode cX40_atom 128 = .ok (.getfield 91, 3) := by decide +kernel
theorem dX40_atom_131 : decode cX40_atom 131 = .ok (.ireturn, 1) := by decide +kernel
theorem dX40_atom_132 : decode cX40_atom 132 = .ok (.aload 7, 2) := by decide +kernel
theorem dX40_atom_134 : decode cX40_atom 134 = .ok (.getfield 91, 3) := by decide +kernel
theorem dX40_atom_137 : decode cX40_atom 137 = .ok (.iconst 4, 1) := by decide +kernel
theorem dX40_atom_138 : decode cX40_atom 138 = .ok (.if_icmp .ne 6, 3) := by decide +kernel
theorem dX40_atom_141 : decode cX40_atom 141 = .ok (.bipush (-2), 2) := by decide +kernel
theorem dX40_atom_143 : decode cX40_atom 143 = .ok (.ireturn, 1) := by decide +kernel
theorem dX40_atom_144 : decode cX40_atom 144 = .ok (.aload 7, 2) := by decide +kernel
theorem dX40_atom_146 : decode cX40_atom 146 = .ok (.iload 10, 2) := by decide +kernel
theorem dX40_atom_148 : decode cX40_atom 148 = .ok (.iload 8, 2) := by decide +kernel
theorem dX40_atom_150 : decode cX40_atom 150 = .ok (.iload 9, 2) := by decide +kernel
theorem dX40_atom_152 : decode cX40_atom 152 = .ok (.invokevirtual 78, 3) := by decide +kernel
theorem dX40_atom_155 : decode cX40_atom 155 = .ok (.aload 7, 2) := by decide +kernel
theorem dX40_atom_157 : decode cX40_atom 157 = .ok (.getfield 91, 3) := by decide +kernel
theorem dX40_atom_160 : decode cX40_atom 160 = .ok (.ireturn, 1) := by decide +kernel
abbrev cX40_isQuestion : ByteArray := prog_45_method_11_code
def yX40_isQuestion : MethodName := ⟨RX40, "isQuestion", "(I)Z"⟩
theorem dX40_isQuestion_0 : decode cX40_isQuestion 0 = .ok (.iload_n 1, 1) := by decide +kernel
theorem dX40_isQuestion_1 : decode cX40_isQuestion 1 = .ok (.aload_n 0, 1) := by decide +kernel
theorem dX40_isQuestion_2 : decode cX40_isQuestion 2 = .ok (.getfield 85, 3) := by decide +kernel
theorem dX40_isQuestion_5 : decode cX40_isQuestion 5 = .ok (.invokestatic 45, 3) := by decide +kernel
theorem dX40_isQuestion_8 : decode cX40_isQuestion 8 = .ok (.ireturn, 1) := by decide +kernel
abbrev cX40_forms : ByteArray := prog_45_method_26_code
def yX40_forms : MethodName := ⟨RX40, "forms", "(I)I"⟩
theorem dX40_forms_0 : decode cX40_forms 0 = .ok (.aload_n 0, 1) := by decide +kernel
theorem dX40_forms_1 : decode cX40_forms 1 = .ok (.iload_n 1, 1) := by decide +kernel
theorem dX40_forms_2 : decode cX40_forms 2 = .ok (.invokevirtual 200, 3) := by decide +kernel
theorem dX40_forms_5 : decode cX40_forms 5 = .ok (.istore_n 2, 1) := by decide +kernel
theorem dX40_forms_6 : decode cX40_forms 6 = .ok (.iload_n 2, 1) := by decide +kernel
theorem dX40_forms_7 : decode cX40_forms 7 = .ok (.ifCond .ge 7, 3) := by decide +kernel
theorem dX40_forms_10 : decode cX40_forms 10 = .ok (.iload_n 2, 1) := by decide +kernel
theorem dX40_forms_11 : decode cX40_forms 11 = .ok (.goto 12, 3) := by decide +kernel
theorem dX40_forms_14 : decode cX40_forms 14 = .ok (.aload_n 0, 1) := by decide +kernel
theorem dX40_forms_15 : decode cX40_forms 15 = .ok (.getfield 35, 3) := by decide +kernel
theorem dX40_forms_18 : decode cX40_forms 18 = .ok (.iload_n 1, 1) := by decide +kernel
theorem dX40_forms_19 : decode cX40_forms 19 = .ok (.aaload, 1) := by decide +kernel
theorem dX40_forms_20 : decode cX40_forms 20 = .ok (.getfield 101, 3) := by decide +kernel
theorem dX40_forms_23 : decode cX40_forms 23 = .ok (.ireturn, 1) := by decide +kernel
abbrev cX40_ready : ByteArray := prog_45_method_25_code
def yX40_ready : MethodName := ⟨RX40, "ready", "(I)I"⟩
theorem dX40_ready_0 : decode cX40_ready 0 = .ok (.aload_n 0, 1) := by decide +kernel
theorem dX40_ready_1 : decode cX40_ready 1 = .ok (.iload_n 1, 1) := by decide +kernel
theorem dX40_ready_2 : decode cX40_ready 2 = .ok (.invokevirtual 88, 3) := by decide +kernel
theorem dX40_ready_5 : decode cX40_ready 5 = .ok (.ifCond .eq 15, 3) := by decide +kernel
theorem dX40_ready_8 : decode cX40_ready 8 = .ok (.aload_n 0, 1) := by decide +kernel
theorem dX40_ready_9 : decode cX40_ready 9 = .ok (.getfield 35, 3) := by decide +kernel
theorem dX40_ready_12 : decode cX40_ready 12 = .ok (.iload_n 1, 1) := by decide +kernel
theorem dX40_ready_13 : decode cX40_ready 13 = .ok (.aaload, 1) := by decide +kernel
theorem dX40_ready_14 : decode cX40_ready 14 = .ok (.getfield 91, 3) := by decide +kernel
theorem dX40_ready_17 : decode cX40_ready 17 = .ok (.ifCond .ne 5, 3) := by decide +kernel
theorem dX40_ready_20 : decode cX40_ready 20 = .ok (.iconst (-1), 1) := by decide +kernel
theorem dX40_ready_21 : decode cX40_ready 21 = .ok (.ireturn, 1) := by decide +kernel
theorem dX40_ready_22 : decode cX40_ready 22 = .ok (.aload_n 0, 1) := by decide +kernel
theorem dX40_ready_23 : decode cX40_ready 23 = .ok (.aload_n 0, 1) := by decide +kernel
theorem dX40_ready_24 : decode cX40_ready 24 = .ok (.getfield 35, 3) := by decide +kernel
theorem dX40_ready_27 : decode cX40_ready 27 = .ok (.iload_n 1, 1) := by decide +kernel
theorem dX40_ready_28 : decode cX40_ready 28 = .ok (.aaload, 1) := by decide +kernel
theorem dX40_ready_29 : decode cX40_ready 29 = .ok (.invokevirtual 197, 3) := by decide +kernel
theorem dX40_ready_32 : decode cX40_ready 32 = .ok (.aload_n 0, 1) := by decide +kernel
theorem dX40_ready_33 : decode cX40_ready 33 = .ok (.getfield 35, 3) := by decide +kernel
theorem dX40_ready_36 : decode cX40_ready 36 = .ok (.iload_n 1, 1) := by decide +kernel
theorem dX40_ready_37 : decode cX40_ready 37 = .ok (.aaload, 1) := by decide +kernel
theorem dX40_ready_38 : decode cX40_ready 38 = .ok (.getfield 97, 3) := by decide +kernel
theorem dX40_ready_41 : decode cX40_ready 41 = .ok (.ifCond .eq 8, 3) := by decide +kernel
theorem dX40_ready_44 : decode cX40_ready 44 = .ok (.bipush (-3), 2) := by decide +kernel
theorem dX40_ready_46 : decode cX40_ready 46 = .ok (.goto 4, 3) := by decide +kernel
theorem dX40_ready_49 : decode cX40_ready 49 = .ok (.iconst 0, 1) := by decide +kernel
theorem dX40_ready_50 : decode cX40_ready 50 = .ok (.ireturn, 1) := by decide +kernel
abbrev cX40_make : ByteArray := prog_45_method_15_code
def yX40_make : MethodName := ⟨RX40, "make", "(LKnowHouse$QlRewrite$Question;)V"⟩
theorem dX40_make_0 : decode cX40_make 0 = .ok (.aload_n 1, 1) := by decide +kernel
theorem dX40_make_1 : decode cX40_make 1 = .ok (.getfield 127, 3) := by decide +kernel
theorem dX40_make_4 : decode cX40_make 4 = .ok (.aload_n 0, 1) := by decide +kernel
theorem dX40_make_5 : decode cX40_make 5 = .ok (.getfield 53, 3) := by decide +kernel
theorem dX40_make_8 : decode cX40_make 8 = .ok (.if_icmp .ne 4, 3) := by decide +kernel
theorem dX40_make_11 : decode cX40_make 11 = .ok (.return_, 1) := by decide +kernel
theorem dX40_make_12 : decode cX40_make 12 = .ok (.aload_n 1, 1) := by decide +kernel
theorem dX40_make_13 : decode cX40_make 13 = .ok (.aload_n 0, 1) := by decide +kernel
theorem dX40_make_14 : decode cX40_make 14 = .ok (.getfield 53, 3) := by decide +kernel
theorem dX40_make_17 : decode cX40_make 17 = .ok (.putfield 127, 3) := by decide +kernel
theorem dX40_make_20 : decode cX40_make 20 = .ok (.aload_n 1, 1) := by decide +kernel
theorem dX40_make_21 : decode cX40_make 21 = .ok (.iconst 0, 1) := by decide +kernel
theorem dX40_make_22 : decode cX40_make 22 = .ok (.putfield 101, 3) := by decide +kernel
theorem dX40_make_25 : decode cX40_make 25 = .ok (.aload_n 1, 1) := by decide +kernel
theorem dX40_make_26 : decode cX40_make 26 = .ok (.iconst 0, 1) := by decide +kernel
theorem dX40_make_27 : decode cX40_make 27 = .ok (.putfield 97, 3) := by decide +kernel
theorem dX40_make_30 : decode cX40_make 30 = .ok (.aload_n 0, 1) := by decide +kernel
theorem dX40_make_31 : decode cX40_make 31 = .ok (.getfield 29, 3) := by decide +kernel
theorem dX40_make_34 : decode cX40_make 34 = .ok (.aload_n 1, 1) := by decide +kernel
theorem dX40_make_35 : decode cX40_make 35 = .ok (.getfield 130, 3) := by decide +kernel
theorem dX40_make_38 : decode cX40_make 38 = .ok (.ifCond .le 8, 3) := by decide +kernel
theorem dX40_make_41 : decode cX40_make 41 = .ok (.bipush 8, 2) := by decide +kernel
theorem dX40_make_43 : decode cX40_make 43 = .ok (.goto 4, 3) := by decide +kernel
theorem dX40_make_46 : decode cX40_make 46 = .ok (.iconst (-1), 1) := by decide +kernel
theorem dX40_make_47 : decode cX40_make 47 = .ok (.aload_n 1, 1) := by decide +kernel
theorem dX40_make_48 : decode cX40_make 48 = .ok (.getfield 130, 3) := by decide +kernel
theorem dX40_make_51 : decode cX40_make 51 = .ok (.iconst 1, 1) := by decide +kernel
theorem dX40_make_52 : decode cX40_make 52 = .ok (.if_icmp .le 8, 3) := by decide +kernel
theorem dX40_make_55 : decode cX40_make 55 = .ok (.bipush 9, 2) := by decide +kernel
theorem dX40_make_57 : decode cX40_make 57 = .ok (.goto 4, 3) := by decide +kernel
theorem dX40_make_60 : decode cX40_make 60 = .ok (.iconst (-1), 1) := by decide +kernel
theorem dX40_make_61 : decode cX40_make 61 = .ok (.invokevirtual 133, 3) := by decide +kernel
theorem dX40_make_64 : decode cX40_make 64 = .ok (.iconst 0, 1) := by decide +kernel
theorem dX40_make_65 : decode cX40_make 65 = .ok (.istore_n 2, 1) := by decide +kernel
theorem dX40_make_66 : decode cX40_make 66 = .ok (.iload_n 2, 1) := by decide +kernel
theorem dX40_make_67 : decode cX40_make 67 = .ok (.aload_n 1, 1) := by decide +kernel
theorem dX40_make_68 : decode cX40_make 68 = .ok (.getfield 91, 3) := by decide +kernel
theorem dX40_make_71 : decode cX40_make 71 = .ok (.if_icmp .ge 34, 3) := by decide +kernel
theorem dX40_make_74 : decode cX40_make 74 = .ok (.aload_n 0, 1) := by decide +kernel
theorem dX40_make_75 : decode cX40_make 75 = .ok (.getfield 29, 3) := by decide +kernel
theorem dX40_make_78 : decode cX40_make 78 = .ok (.aload_n 1, 1) := by decide +kernel
theorem dX40_make_79 : decode cX40_make 79 = .ok (.getfield 137, 3) := by decide +kernel
theorem dX40_make_82 : decode cX40_make 82 = .ok (.iload_n 2, 1) := by decide +kernel
theorem dX40_make_83 : decode cX40_make 83 = .ok (.iaload, 1) := by decide +kernel
theorem dX40_make_84 : decode cX40_make 84 = .ok (.aload_n 1, 1) := by decide +kernel
theorem dX40_make_85 : decode cX40_make 85 = .ok (.getfield 140, 3) := by decide +kernel
theorem dX40_make_88 : decode cX40_make 88 = .ok (.iload_n 2, 1) := by decide +kernel
theorem dX40_make_89 : decode cX40_make 89 = .ok (.iaload, 1) := by decide +kernel
theorem dX40_make_90 : decode cX40_make 90 = .ok (.aload_n 1, 1) := by decide +kernel
theorem dX40_make_91 : decode cX40_make 91 = .ok (.getfield 143, 3) := by decide +kernel
theorem dX40_make_94 : decode cX40_make 94 = .ok (.iload_n 2, 1) := by decide +kernel
theorem dX40_make_95 : decode cX40_make 95 = .ok (.iaload, 1) := by decide +kernel
theorem dX40_make_96 : decode cX40_make 96 = .ok (.invokevirtual 146, 3) := by decide +kernel
theorem dX40_make_99 : decode cX40_make 99 = .ok (.iinc 2 1, 3) := by decide +kernel
theorem dX40_make_102 : decode cX40_make 102 = .ok (.goto (-36), 3) := by decide +kernel
theorem dX40_make_105 : decode cX40_make 105 = .ok (.aload_n 0, 1) := by decide +kernel
theorem dX40_make_106 : decode cX40_make 106 = .ok (.aload_n 1, 1) := by decide +kernel
theorem dX40_make_107 : decode cX40_make 107 = .ok (.invokevirtual 147, 3) := by decide +kernel
theorem dX40_make_110 : decode cX40_make 110 = .ok (.iconst 0, 1) := by decide +kernel
theorem dX40_make_111 : decode cX40_make 111 = .ok (.istore_n 2, 1) := by decide +kernel
theorem dX40_make_112 : decode cX40_make 112 = .ok (.iload_n 2, 1) := by decide +kernel
theorem dX40_make_113 : decode cX40_make 113 = .ok (.aload_n 1, 1) := by decide +kernel
theorem dX40_make_114 : decode cX40_make 114 = .ok (.getfield 101, 3) := by decide +kernel
theorem dX40_make_117 : decode cX40_make 117 = .ok (.if_icmp .ge 121, 3) := by decide +kernel
theorem dX40_make_120 : decode cX40_make 120 = .ok (.aload_n 1, 1) := by decide +kernel
theorem dX40_make_121 : decode cX40_make 121 = .ok (.getfield 97, 3) := by decide +kernel
theorem dX40_make_124 : decode cX40_make 124 = .ok (.ifCond .ne 114, 3) := by decide +kernel
theorem dX40_make_127 : decode cX40_make 127 = .ok (.aload_n 1, 1) := by decide +kernel
theorem dX40_make_128 : decode cX40_make 128 = .ok (.getfield 104, 3) := by decide +kernel
theorem dX40_make_131 : decode cX40_make 131 = .ok (.iload_n 2, 1) := by decide +kernel
theorem dX40_make_132 : decode cX40_make 132 = .ok (.aaload, 1) := by decide +kernel
theorem dX40_make_133 : decode cX40_make 133 = .ok (.astore_n 3, 1) := by decide +kernel
theorem dX40_make_134 : decode cX40_make 134 = .ok (.iconst 0, 1) := by decide +kernel
theorem dX40_make_135 : decode cX40_make 135 = .ok (.istore 4, 2) := by decide +kernel
theorem dX40_make_137 : decode cX40_make 137 = .ok (.iload 4, 2) := by decide +kernel
theorem dX40_make_139 : decode cX40_make 139 = .ok (.aload_n 3, 1) := by decide +kernel
theorem dX40_make_140 : decode cX40_make 140 = .ok (.getfield 151, 3) := by decide +kernel
theorem dX40_make_143 : decode cX40_make 143 = .ok (.arraylength, 1) := by decide +kernel
theorem dX40_make_144 : decode cX40_make 144 = .ok (.if_icmp .ge 37, 3) := by decide +kernel
theorem dX40_make_147 : decode cX40_make 147 = .ok (.iconst 0, 1) := by decide +kernel
theorem dX40_make_148 : decode cX40_make 148 = .ok (.istore 5, 2) := by decide +kernel
theorem dX40_make_150 : decode cX40_make 150 = .ok (.iload 5, 2) := by decide +kernel
theorem dX40_make_152 : decode cX40_make 152 = .ok (.aload_n 0, 1) := by decide +kernel
theorem dX40_make_153 : decode cX40_make 153 = .ok (.getfield 53, 3) := by decide +kernel
theorem dX40_make_156 : decode cX40_make 156 = .ok (.if_icmp .ge 19, 3) := by decide +kernel
theorem dX40_make_159 : decode cX40_make 159 = .ok (.aload_n 0, 1) := by decide +kernel
theorem dX40_make_160 : decode cX40_make 160 = .ok (.aload_n 1, 1) := by decide +kernel
theorem dX40_make_161 : decode cX40_make 161 = .ok (.aload_n 3, 1) := by decide +kernel
theorem dX40_make_162 : decode cX40_make 162 = .ok (.iload 4, 2) := by decide +kernel
theorem dX40_make_164 : decode cX40_make 164 = .ok (.iload 5, 2) := by decide +kernel
theorem dX40_make_166 : decode cX40_make 166 = .ok (.invokevirtual 154, 3) := by decide +kernel
theorem dX40_make_169 : decode cX40_make 169 = .ok (.iinc 5 1, 3) := by decide +kernel
theorem dX40_make_172 : decode cX40_make 172 = .ok (.goto (-22), 3) := by decide +kernel
theorem dX40_make_175 : decode cX40_make 175 = .ok (.iinc 4 1, 3) := by decide +kernel
theorem dX40_make_178 : decode cX40_make 178 = .ok (.goto (-41), 3) := by decide +kernel
theorem dX40_make_181 : decode cX40_make 181 = .ok (.iconst 0, 1) := by decide +kernel
theorem dX40_make_182 : decode cX40_make 182 = .ok (.istore 4, 2) := by decide +kernel
theorem dX40_make_184 : decode cX40_make 184 = .ok (.iload 4, 2) := by decide +kernel
theorem dX40_make_186 : decode cX40_make 186 = .ok (.aload_n 3, 1) := by decide +kernel
theorem dX40_make_187 : decode cX40_make 187 = .ok (.getfield 151, 3) := by decide +kernel
theorem dX40_make_190 : decode cX40_make 190 = .ok (.arraylength, 1) := by decide +kernel
theorem dX40_make_191 : decode cX40_make 191 = .ok (.if_icmp .ge 41, 3) := by decide +kernel
theorem dX40_make_194 : decode cX40_make 194 = .ok (.iload 4, 2) := by decide +kernel
theorem dX40_make_196 : decode cX40_make 196 = .ok (.iconst 1, 1) := by decide +kernel
theorem dX40_make_197 : decode cX40_make 197 = .ok (.iadd, 1) := by decide +kernel
theorem dX40_make_198 : decode cX40_make 198 = .ok (.istore 5, 2) := by decide +kernel
theorem dX40_make_200 : decode cX40_make 200 = .ok (.iload 5, 2) := by decide +kernel
theorem dX40_make_202 : decode cX40_make 202 = .ok (.aload_n 3, 1) := by decide +kernel
theorem dX40_make_203 : decode cX40_make 203 = .ok (.getfield 151, 3) := by decide +kernel
theorem dX40_make_206 : decode cX40_make 206 = .ok (.arraylength, 1) := by decide +kernel
theorem dX40_make_207 : decode cX40_make 207 = .ok (.if_icmp .ge 19, 3) := by decide +kernel
theorem dX40_make_210 : decode cX40_make 210 = .ok (.aload_n 0, 1) := by decide +kernel
theorem dX40_make_211 : decode cX40_make 211 = .ok (.aload_n 1, 1) := by decide +kernel
theorem dX40_make_212 : decode cX40_make 212 = .ok (.aload_n 3, 1) := by decide +kernel
theorem dX40_make_213 : decode cX40_make 213 = .ok (.iload 4, 2) := by decide +kernel
theorem dX40_make_215 : decode cX40_make 215 = .ok (.iload 5, 2) := by decide +kernel
theorem dX40_make_217 : decode cX40_make 217 = .ok (.invokevirtual 158, 3) := by decide +kernel
theorem dX40_make_220 : decode cX40_make 220 = .ok (.iinc 5 1, 3) := by decide +kernel
theorem dX40_make_223 : decode cX40_make 223 = .ok (.goto (-23), 3) := by decide +kernel
theorem dX40_make_226 : decode cX40_make 226 = .ok (.iinc 4 1, 3) := by decide +kernel
theorem dX40_make_229 : decode cX40_make 229 = .ok (.goto (-45), 3) := by decide +kernel
theorem dX40_make_232 : decode cX40_make 232 = .ok (.iinc 2 1, 3) := by decide +kernel
theorem dX40_make_235 : decode cX40_make 235 = .ok (.goto (-123), 3) := by decide +kernel
theorem dX40_make_238 : decode cX40_make 238 = .ok (.return_, 1) := by decide +kernel
abbrev cX40_keep : ByteArray := prog_45_method_14_code
def yX40_keep : MethodName := ⟨RX40, "keep", "(LKnowHouse$QlRewrite$Question;)V"⟩
theorem dX40_keep_0 : decode cX40_keep 0 = .ok (.aload_n 0, 1) := by decide +kernel
theorem dX40_keep_1 : decode cX40_keep 1 = .ok (.getfield 29, 3) := by decide +kernel
theorem dX40_keep_4 : decode cX40_keep 4 = .ok (.invokevirtual 94, 3) := by decide +kernel
theorem dX40_keep_7 : decode cX40_keep 7 = .ok (.aload_n 1, 1) := by decide +kernel
theorem dX40_keep_8 : decode cX40_keep 8 = .ok (.getfield 97, 3) := by decide +kernel
theorem dX40_keep_11 : decode cX40_keep 11 = .ok (.istore_n 2, 1) := by decide +kernel
theorem dX40_keep_12 : decode cX40_keep 12 = .ok (.iconst 0, 1) := by decide +kernel
theorem dX40_keep_13 : decode cX40_keep 13 = .ok (.istore_n 3, 1) := by decide +kernel
theorem dX40_keep_14 : decode cX40_keep 14 = .ok (.iload_n 3, 1) := by decide +kernel
theorem dX40_keep_15 : decode cX40_keep 15 = .ok (.aload_n 1, 1) := by decide +kernel
theorem dX40_keep_16 : decode cX40_keep 16 = .ok (.getfield 101, 3) := by decide +kernel
theorem dX40_keep_19 : decode cX40_keep 19 = .ok (.if_icmp .ge 51, 3) := by decide +kernel
theorem dX40_keep_22 : decode cX40_keep 22 = .ok (.iload_n 2, 1) := by decide +kernel
theorem dX40_keep_23 : decode cX40_keep 23 = .ok (.ifCond .ne 47, 3) := by decide +kernel
theorem dX40_keep_26 : decode cX40_keep 26 = .ok (.aload_n 1, 1) := by decide +kernel
theorem dX40_keep_27 : decode cX40_keep 27 = .ok (.getfield 104, 3) := by decide +kernel
theorem dX40_keep_30 : decode cX40_keep 30 = .ok (.iload_n 3, 1) := by decide +kernel
theorem dX40_keep_31 : decode cX40_keep 31 = .ok (.aaload, 1) := by decide +kernel
theorem dX40_keep_32 : decode cX40_keep 32 = .ok (.aload_n 0, 1) := by decide +kernel
theorem dX40_keep_33 : decode cX40_keep 33 = .ok (.getfield 29, 3) := by decide +kernel
theorem dX40_keep_36 : decode cX40_keep 36 = .ok (.getfield 108, 3) := by decide +kernel
theorem dX40_keep_39 : decode cX40_keep 39 = .ok (.aload_n 0, 1) := by decide +kernel
theorem dX40_keep_40 : decode cX40_keep 40 = .ok (.getfield 29, 3) := by decide +kernel
theorem dX40_keep_43 : decode cX40_keep 43 = .ok (.getfield 111, 3) := by decide +kernel
theorem dX40_keep_46 : decode cX40_keep 46 = .ok (.aload_n 0, 1) := by decide +kernel
theorem dX40_keep_47 : decode cX40_keep 47 = .ok (.getfield 29, 3) := by decide +kernel
theorem dX40_keep_50 : decode cX40_keep 50 = .ok (.getfield 114, 3) := by decide +kernel
theorem dX40_keep_53 : decode cX40_keep 53 = .ok (.aload_n 0, 1) := by decide +kernel
theorem dX40_keep_54 : decode cX40_keep 54 = .ok (.getfield 29, 3) := by decide +kernel
theorem dX40_keep_57 : decode cX40_keep 57 = .ok (.getfield 117, 3) := by decide +kernel
theorem dX40_keep_60 : decode cX40_keep 60 = .ok (.invokevirtual 118, 3) := by decide +kernel
theorem dX40_keep_63 : decode cX40_keep 63 = .ok (.istore_n 2, 1) := by decide +kernel
theorem dX40_keep_64 : decode cX40_keep 64 = .ok (.iinc 3 1, 3) := by decide +kernel
theorem dX40_keep_67 : decode cX40_keep 67 = .ok (.goto (-53), 3) := by decide +kernel
theorem dX40_keep_70 : decode cX40_keep 70 = .ok (.iload_n 2, 1) := by decide +kernel
theorem dX40_keep_71 : decode cX40_keep 71 = .ok (.ifCond .eq 4, 3) := by decide +kernel
theorem dX40_keep_74 : decode cX40_keep 74 = .ok (.return_, 1) := by decide +kernel
theorem dX40_keep_75 : decode cX40_keep 75 = .ok (.aload_n 1, 1) := by decide +kernel
theorem dX40_keep_76 : decode cX40_keep 76 = .ok (.getfield 101, 3) := by decide +kernel
theorem dX40_keep_79 : decode cX40_keep 79 = .ok (.bipush 90, 2) := by decide +kernel
theorem dX40_keep_81 : decode cX40_keep 81 = .ok (.if_icmp .ne 9, 3) := by decide +kernel
theorem dX40_keep_84 : decode cX40_keep 84 = .ok (.aload_n 1, 1) := by decide +kernel
theorem dX40_keep_85 : decode cX40_keep 85 = .ok (.iconst 1, 1) := by decide +kernel
theorem dX40_keep_86 : decode cX40_keep 86 = .ok (.putfield 97, 3) := by decide +kernel
theorem dX40_keep_89 : decode cX40_keep 89 = .ok (.return_, 1) := by decide +kernel
theorem dX40_keep_90 : decode cX40_keep 90 = .ok (.aload_n 0, 1) := by decide +kernel
theorem dX40_keep_91 : decode cX40_keep 91 = .ok (.getfield 29, 3) := by decide +kernel
theorem dX40_keep_94 : decode cX40_keep 94 = .ok (.getfield 117, 3) := by decide +kernel
theorem dX40_keep_97 : decode cX40_keep 97 = .ok (.newarray .int, 2) := by decide +kernel
theorem dX40_keep_99 : decode cX40_keep 99 = .ok (.astore_n 3, 1) := by decide +kernel
theorem dX40_keep_100 : decode cX40_keep 100 = .ok (.iconst 0, 1) := by decide +kernel
theorem dX40_keep_101 : decode cX40_keep 101 = .ok (.istore 4, 2) := by decide +kernel
theorem dX40_keep_103 : decode cX40_keep 103 = .ok (.iload 4, 2) := by decide +kernel
theorem dX40_keep_105 : decode cX40_keep 105 = .ok (.aload_n 0, 1) := by decide +kernel
theorem dX40_keep_106 : decode cX40_keep 106 = .ok (.getfield 29, 3) := by decide +kernel
theorem dX40_keep_109 : decode cX40_keep 109 = .ok (.getfield 117, 3) := by decide +kernel
theorem dX40_keep_112 : decode cX40_keep 112 = .ok (.if_icmp .ge 23, 3) := by decide +kernel
theorem dX40_keep_115 : decode cX40_keep 115 = .ok (.aload_n 3, 1) := by decide +kernel
theorem dX40_keep_116 : decode cX40_keep 116 = .ok (.iload 4, 2) := by decide +kernel
theorem dX40_keep_118 : decode cX40_keep 118 = .ok (.aload_n 0, 1) := by decide +kernel
theorem dX40_keep_119 : decode cX40_keep 119 = .ok (.getfield 29, 3) := by decide +kernel
theorem dX40_keep_122 : decode cX40_keep 122 = .ok (.getfield 114, 3) := by decide +kernel
theorem dX40_keep_125 : decode cX40_keep 125 = .ok (.iload 4, 2) := by decide +kernel
theorem dX40_keep_127 : decode cX40_keep 127 = .ok (.iaload, 1) := by decide +kernel
theorem dX40_keep_128 : decode cX40_keep 128 = .ok (.iastore, 1) := by decide +kernel
theorem dX40_keep_129 : decode cX40_keep 129 = .ok (.iinc 4 1, 3) := by decide +kernel
theorem dX40_keep_132 : decode cX40_keep 132 = .ok (.goto (-29), 3) := by decide +kernel
theorem dX40_keep_135 : decode cX40_keep 135 = .ok (.aload_n 1, 1) := by decide +kernel
theorem dX40_keep_136 : decode cX40_keep 136 = .ok (.getfield 104, 3) := by decide +kernel
theorem dX40_keep_139 : decode cX40_keep 139 = .ok (.aload_n 1, 1) := by decide +kernel
theorem dX40_keep_140 : decode cX40_keep 140 = .ok (.getfield 101, 3) := by decide +kernel
theorem dX40_keep_143 : decode cX40_keep 143 = .ok (.new 119, 3) := by decide +kernel
theorem dX40_keep_146 : decode cX40_keep 146 = .ok (.dup, 1) := by decide +kernel
theorem dX40_keep_147 : decode cX40_keep 147 = .ok (.aload_n 0, 1) := by decide +kernel
theorem dX40_keep_148 : decode cX40_keep 148 = .ok (.getfield 29, 3) := by decide +kernel
theorem dX40_keep_151 : decode cX40_keep 151 = .ok (.getfield 108, 3) := by decide +kernel
theorem dX40_keep_154 : decode cX40_keep 154 = .ok (.aload_n 0, 1) := by decide +kernel
theorem dX40_keep_155 : decode cX40_keep 155 = .ok (.getfield 29, 3) := by decide +kernel
theorem dX40_keep_158 : decode cX40_keep 158 = .ok (.getfield 111, 3) := by decide +kernel
theorem dX40_keep_161 : decode cX40_keep 161 = .ok (.aload_n 3, 1) := by decide +kernel
theorem dX40_keep_162 : decode cX40_keep 162 = .ok (.invokespecial 124, 3) := by decide +kernel
theorem dX40_keep_165 : decode cX40_keep 165 = .ok (.aastore, 1) := by decide +kernel
theorem dX40_keep_166 : decode cX40_keep 166 = .ok (.aload_n 1, 1) := by decide +kernel
theorem dX40_keep_167 : decode cX40_keep 167 = .ok (.dup, 1) := by decide +kernel
theorem dX40_keep_168 : decode cX40_keep 168 = .ok (.getfield 101, 3) := by decide +kernel
theorem dX40_keep_171 : decode cX40_keep 171 = .ok (.iconst 1, 1) := by decide +kernel
theorem dX40_keep_172 : decode cX40_keep 172 = .ok (.iadd, 1) := by decide +kernel
theorem dX40_keep_173 : decode cX40_keep 173 = .ok (.putfield 101, 3) := by decide +kernel
theorem dX40_keep_176 : decode cX40_keep 176 = .ok (.return_, 1) := by decide +kernel
abbrev cX40_apply : ByteArray := prog_45_method_16_code
def yX40_apply : MethodName := ⟨RX40, "apply", "(LKnowHouse$QlRewrite$Question;LKnowHouse$QlRewrite$Form;II)V"⟩
theorem dX40_apply_0 : decode cX40_apply 0 = .ok (.aload_n 0, 1) := by decide +kernel
theorem dX40_apply_1 : decode cX40_apply 1 = .ok (.getfield 9, 3) := by decide +kernel
theorem dX40_apply_4 : decode cX40_apply 4 = .ok (.iload 4, 2) := by decide +kernel
theorem dX40_apply_6 : decode cX40_apply 6 = .ok (.iaload, 1) := by decide +kernel
theorem dX40_apply_7 : decode cX40_apply 7 = .ok (.iconst 1, 1) := by decide +kernel
theorem dX40_apply_8 : decode cX40_apply 8 = .ok (.if_icmp .le 4, 3) := by decide +kernel
theorem dX40_apply_11 : decode cX40_apply 11 = .ok (.return_, 1) := by decide +kernel
theorem dX40_apply_12 : decode cX40_apply 12 = .ok (.aload_n 0, 1) := by decide +kernel
theorem dX40_apply_13 : decode cX40_apply 13 = .ok (.getfield 29, 3) := by decide +kernel
theorem dX40_apply_16 : decode cX40_apply 16 = .ok (.aload_n 2, 1) := by decide +kernel
theorem dX40_apply_17 : decode cX40_apply 17 = .ok (.invokevirtual 161, 3) := by decide +kernel
theorem dX40_apply_20 : decode cX40_apply 20 = .ok (.aload_n 0, 1) := by decide +kernel
theorem dX40_apply_21 : decode cX40_apply 21 = .ok (.getfield 29, 3) := by decide +kernel
theorem dX40_apply_24 : decode cX40_apply 24 = .ok (.getfield 165, 3) := by decide +kernel
theorem dX40_apply_27 : decode cX40_apply 27 = .ok (.iload_n 3, 1) := by decide +kernel
theorem dX40_apply_28 : decode cX40_apply 28 = .ok (.iaload, 1) := by decide +kernel
theorem dX40_apply_29 : decode cX40_apply 29 = .ok (.istore 5, 2) := by decide +kernel
theorem dX40_apply_31 : decode cX40_apply 31 = .ok (.aload_n 0, 1) := by decide +kernel
theorem dX40_apply_32 : decode cX40_apply 32 = .ok (.getfield 16, 3) := by decide +kernel
theorem dX40_apply_35 : decode cX40_apply 35 = .ok (.iload 4, 2) := by decide +kernel
theorem dX40_apply_37 : decode cX40_apply 37 = .ok (.iaload, 1) := by decide +kernel
theorem dX40_apply_38 : decode cX40_apply 38 = .ok (.istore 6, 2) := by decide +kernel
theorem dX40_apply_40 : decode cX40_apply 40 = .ok (.aload_n 0, 1) := by decide +kernel
theorem dX40_apply_41 : decode cX40_apply 41 = .ok (.getfield 9, 3) := by decide +kernel
theorem dX40_apply_44 : decode cX40_apply 44 = .ok (.iload 4, 2) := by decide +kernel
theorem dX40_apply_46 : decode cX40_apply 46 = .ok (.iaload, 1) := by decide +kernel
theorem dX40_apply_47 : decode cX40_apply 47 = .ok (.iconst 1, 1) := by decide +kernel
theorem dX40_apply_48 : decode cX40_apply 48 = .ok (.if_icmp .ne 96, 3) := by decide +kernel
theorem dX40_apply_51 : decode cX40_apply 51 = .ok (.iload 5, 2) := by decide +kernel
theorem dX40_apply_53 : decode cX40_apply 53 = .ok (.bipush 32, 2) := by decide +kernel
theorem dX40_apply_55 : decode cX40_apply 55 = .ok (.iload 6, 2) := by decide +kernel
theorem dX40_apply_57 : decode cX40_apply 57 = .ok (.iconst 1, 1) := by decide +kernel
theorem dX40_apply_58 : decode cX40_apply 58 = .ok (.ishr, 1) := by decide +kernel
theorem dX40_apply_59 : decode cX40_apply 59 = .ok (.iadd, 1) := by decide +kernel
theorem dX40_apply_60 : decode cX40_apply 60 = .ok (.if_icmp .eq 4, 3) := by decide +kernel
theorem dX40_apply_63 : decode cX40_apply 63 = .ok (.return_, 1) := by decide +kernel
theorem dX40_apply_64 : decode cX40_apply 64 = .ok (.aload_n 0, 1) := by decide +kernel
theorem dX40_apply_65 : decode cX40_apply 65 = .ok (.getfield 29, 3) := by decide +kernel
theorem dX40_apply_68 : decode cX40_apply 68 = .ok (.getfield 166, 3) := by decide +kernel
theorem dX40_apply_71 : decode cX40_apply 71 = .ok (.iload_n 3, 1) := by decide +kernel
theorem dX40_apply_72 : decode cX40_apply 72 = .ok (.iaload, 1) := by decide +kernel
theorem dX40_apply_73 : decode cX40_apply 73 = .ok (.istore 7, 2) := by decide +kernel
theorem dX40_apply_75 : decode cX40_apply 75 = .ok (.aload_n 0, 1) := by decide +kernel
theorem dX40_apply_76 : decode cX40_apply 76 = .ok (.getfield 29, 3) := by decide +kernel
theorem dX40_apply_79 : decode cX40_apply 79 = .ok (.getfield 165, 3) := by decide +kernel
theorem dX40_apply_82 : decode cX40_apply 82 = .ok (.iload_n 3, 1) := by decide +kernel
theorem dX40_apply_83 : decode cX40_apply 83 = .ok (.bipush 32, 2) := by decide +kernel
theorem dX40_apply_85 : decode cX40_apply 85 = .ok (.aload_n 0, 1) := by decide +kernel
theorem dX40_apply_86 : decode cX40_apply 86 = .ok (.getfield 13, 3) := by decide +kernel
theorem dX40_apply_89 : decode cX40_apply 89 = .ok (.iload 4, 2) := by decide +kernel
theorem dX40_apply_91 : decode cX40_apply 91 = .ok (.iaload, 1) := by decide +kernel
theorem dX40_apply_92 : decode cX40_apply 92 = .ok (.iconst 1, 1) := by decide +kernel
theorem dX40_apply_93 : decode cX40_apply 93 = .ok (.ishr, 1) := by decide +kernel
theorem dX40_apply_94 : decode cX40_apply 94 = .ok (.iadd, 1) := by decide +kernel
theorem dX40_apply_95 : decode cX40_apply 95 = .ok (.iastore, 1) := by decide +kernel
theorem dX40_apply_96 : decode cX40_apply 96 = .ok (.aload_n 0, 1) := by decide +kernel
theorem dX40_apply_97 : decode cX40_apply 97 = .ok (.getfield 13, 3) := by decide +kernel
theorem dX40_apply_100 : decode cX40_apply 100 = .ok (.iload 4, 2) := by decide +kernel
theorem dX40_apply_102 : decode cX40_apply 102 = .ok (.iaload, 1) := by decide +kernel
theorem dX40_apply_103 : decode cX40_apply 103 = .ok (.iload 6, 2) := by decide +kernel
theorem dX40_apply_105 : decode cX40_apply 105 = .ok (.ixor, 1) := by decide +kernel
theorem dX40_apply_106 : decode cX40_apply 106 = .ok (.iconst 1, 1) := by decide +kernel
theorem dX40_apply_107 : decode cX40_apply 107 = .ok (.iand, 1) := by decide +kernel
theorem dX40_apply_108 : decode cX40_apply 108 = .ok (.iconst 1, 1) := by decide +kernel
theorem dX40_apply_109 : decode cX40_apply 109 = .ok (.if_icmp .ne 32, 3) := by decide +kernel
theorem dX40_apply_112 : decode cX40_apply 112 = .ok (.aload_n 0, 1) := by decide +kernel
theorem dX40_apply_113 : decode cX40_apply 113 = .ok (.getfield 29, 3) := by decide +kernel
theorem dX40_apply_116 : decode cX40_apply 116 = .ok (.getfield 166, 3) := by decide +kernel
theorem dX40_apply_119 : decode cX40_apply 119 = .ok (.iload_n 3, 1) := by decide +kernel
theorem dX40_apply_120 : decode cX40_apply 120 = .ok (.aload_n 0, 1) := by decide +kernel
theorem dX40_apply_121 : decode cX40_apply 121 = .ok (.getfield 29, 3) := by decide +kernel
theorem dX40_apply_124 : decode cX40_apply 124 = .ok (.getfield 167, 3) := by decide +kernel
theorem dX40_apply_127 : decode cX40_apply 127 = .ok (.iload_n 3, 1) := by decide +kernel
theorem dX40_apply_128 : decode cX40_apply 128 = .ok (.iaload, 1) := by decide +kernel
theorem dX40_apply_129 : decode cX40_apply 129 = .ok (.iastore, 1) := by decide +kernel
theorem dX40_apply_130 : decode cX40_apply 130 = .ok (.aload_n 0, 1) := by decide +kernel
theorem dX40_apply_131 : decode cX40_apply 131 = .ok (.getfield 29, 3) := by decide +kernel
theorem dX40_apply_134 : decode cX40_apply 134 = .ok (.getfield 167, 3) := by decide +kernel
theorem dX40_apply_137 : decode cX40_apply 137 = .ok (.iload_n 3, 1) := by decide +kernel
theorem dX40_apply_138 : decode cX40_apply 138 = .ok (.iload 7, 2) := by decide +kernel
theorem dX40_apply_140 : decode cX40_apply 140 = .ok (.iastore, 1) := by decide +kernel
theorem dX40_apply_141 : decode cX40_apply 141 = .ok (.goto 146, 3) := by decide +kernel
theorem dX40_apply_144 : decode cX40_apply 144 = .ok (.iload 6, 2) := by decide +kernel
theorem dX40_apply_146 : decode cX40_apply 146 = .ok (.bipush 20, 2) := by decide +kernel
theorem dX40_apply_148 : decode cX40_apply 148 = .ok (.if_icmp .ge 7, 3) := by decide +kernel
theorem dX40_apply_151 : decode cX40_apply 151 = .ok (.iconst 1, 1) := by decide +kernel
theorem dX40_apply_152 : decode cX40_apply 152 = .ok (.goto 4, 3) := by decide +kernel
theorem dX40_apply_155 : decode cX40_apply 155 = .ok (.iconst 0, 1) := by decide +kernel
theorem dX40_apply_156 : decode cX40_apply 156 = .ok (.istore 7, 2) := by decide +kernel
theorem dX40_apply_158 : decode cX40_apply 158 = .ok (.iload 7, 2) := by decide +kernel
theorem dX40_apply_160 : decode cX40_apply 160 = .ok (.ifCond .eq 18, 3) := by decide +kernel
theorem dX40_apply_163 : decode cX40_apply 163 = .ok (.iload 5, 2) := by decide +kernel
theorem dX40_apply_165 : decode cX40_apply 165 = .ok (.iload 6, 2) := by decide +kernel
theorem dX40_apply_167 : decode cX40_apply 167 = .ok (.if_icmp .ne 7, 3) := by decide +kernel
theorem dX40_apply_170 : decode cX40_apply 170 = .ok (.iconst 1, 1) := by decide +kernel
theorem dX40_apply_171 : decode cX40_apply 171 = .ok (.goto 60, 3) := by decide +kernel
theorem dX40_apply_174 : decode cX40_apply 174 = .ok (.iconst 0, 1) := by decide +kernel
theorem dX40_apply_175 : decode cX40_apply 175 = .ok (.goto 56, 3) := by decide +kernel
theorem dX40_apply_178 : decode cX40_apply 178 = .ok (.iload 5, 2) := by decide +kernel
theorem dX40_apply_180 : decode cX40_apply 180 = .ok (.bipush 32, 2) := by decide +kernel
theorem dX40_apply_182 : decode cX40_apply 182 = .ok (.iload 6, 2) := by decide +kernel
theorem dX40_apply_184 : decode cX40_apply 184 = .ok (.bipush 20, 2) := by decide +kernel
theorem dX40_apply_186 : decode cX40_apply 186 = .ok (.isub, 1) := by decide +kernel
theorem dX40_apply_187 : decode cX40_apply 187 = .ok (.iconst 1, 1) := by decide +kernel
theorem dX40_apply_188 : decode cX40_apply 188 = .ok (.ishr, 1) := by decide +kernel
theorem dX40_apply_189 : decode cX40_apply 189 = .ok (.iadd, 1) := by decide +kernel
theorem dX40_apply_190 : decode cX40_apply 190 = .ok (.if_icmp .ne 40, 3) := by decide +kernel
theorem dX40_apply_193 : decode cX40_apply 193 = .ok (.iload 6, 2) := by decide +kernel
theorem dX40_apply_195 : decode cX40_apply 195 = .ok (.iconst 1, 1) := by decide +kernel
theorem dX40_apply_196 : decode cX40_apply 196 = .ok (.iand, 1) := by decide +kernel
theorem dX40_apply_197 : decode cX40_apply 197 = .ok (.ifCond .ne 15, 3) := by decide +kernel
theorem dX40_apply_200 : decode cX40_apply 200 = .ok (.aload_n 0, 1) := by decide +kernel
theorem dX40_apply_201 : decode cX40_apply 201 = .ok (.getfield 29, 3) := by decide +kernel
theorem dX40_apply_204 : decode cX40_apply 204 = .ok (.getfield 167, 3) := by decide +kernel
theorem dX40_apply_207 : decode cX40_apply 207 = .ok (.iload_n 3, 1) := by decide +kernel
theorem dX40_apply_208 : decode cX40_apply 208 = .ok (.iaload, 1) := by decide +kernel
theorem dX40_apply_209 : decode cX40_apply 209 = .ok (.goto 12, 3) := by decide +kernel
theorem dX40_apply_212 : decode cX40_apply 212 = .ok (.aload_n 0, 1) := by decide +kernel
theorem dX40_apply_213 : decode cX40_apply 213 = .ok (.getfield 29, 3) := by decide +kernel
theorem dX40_apply_216 : decode cX40_apply 216 = .ok (.getfield 166, 3) := by decide +kernel
theorem dX40_apply_219 : decode cX40_apply 219 = .ok (.iload_n 3, 1) := by decide +kernel
theorem dX40_apply_220 : decode cX40_apply 220 = .ok (.iaload, 1) := by decide +kernel
theorem dX40_apply_221 : decode cX40_apply 221 = .ok (.bipush 6, 2) := by decide +kernel
theorem dX40_apply_223 : decode cX40_apply 223 = .ok (.if_icmp .ne 7, 3) := by decide +kernel
theorem dX40_apply_226 : decode cX40_apply 226 = .ok (.iconst 1, 1) := by decide +kernel
theorem dX40_apply_227 : decode cX40_apply 227 = .ok (.goto 4, 3) := by decide +kernel
theorem dX40_apply_230 : decode cX40_apply 230 = .ok (.iconst 0, 1) := by decide +kernel
theorem dX40_apply_231 : decode cX40_apply 231 = .ok (.istore 8, 2) := by decide +kernel
theorem dX40_apply_233 : decode cX40_apply 233 = .ok (.iload 8, 2) := by decide +kernel
theorem dX40_apply_235 : decode cX40_apply 235 = .ok (.ifCond .ne 4, 3) := by decide +kernel
theorem dX40_apply_238 : decode cX40_apply 238 = .ok (.return_, 1) := by decide +kernel
theorem dX40_apply_239 : decode cX40_apply 239 = .ok (.aload_n 0, 1) := by decide +kernel
theorem dX40_apply_240 : decode cX40_apply 240 = .ok (.getfield 29, 3) := by decide +kernel
theorem dX40_apply_243 : decode cX40_apply 243 = .ok (.iload_n 3, 1) := by decide +kernel
theorem dX40_apply_244 : decode cX40_apply 244 = .ok (.aload_n 0, 1) := by decide +kernel
theorem dX40_apply_245 : decode cX40_apply 245 = .ok (.getfield 13, 3) := by decide +kernel
theorem dX40_apply_248 : decode cX40_apply 248 = .ok (.iload 4, 2) := by decide +kernel
theorem dX40_apply_250 : decode cX40_apply 250 = .ok (.iaload, 1) := by decide +kernel
theorem dX40_apply_251 : decode cX40_apply 251 = .ok (.iload 7, 2) := by decide +kernel
theorem dX40_apply_253 : decode cX40_apply 253 = .ok (.ifCond .ne 10, 3) := by decide +kernel
theorem dX40_apply_256 : decode cX40_apply 256 = .ok (.iload 6, 2) := by decide +kernel
theorem dX40_apply_258 : decode cX40_apply 258 = .ok (.iconst 1, 1) := by decide +kernel
theorem dX40_apply_259 : decode cX40_apply 259 = .ok (.iand, 1) := by decide +kernel
theorem dX40_apply_260 : decode cX40_apply 260 = .ok (.ifCond .ne 15, 3) := by decide +kernel
theorem dX40_apply_263 : decode cX40_apply 263 = .ok (.aload_n 0, 1) := by decide +kernel
theorem dX40_apply_264 : decode cX40_apply 264 = .ok (.getfield 29, 3) := by decide +kernel
theorem dX40_apply_267 : decode cX40_apply 267 = .ok (.getfield 166, 3) := by decide +kernel
theorem dX40_apply_270 : decode cX40_apply 270 = .ok (.iload_n 3, 1) := by decide +kernel
theorem dX40_apply_271 : decode cX40_apply 271 = .ok (.iaload, 1) := by decide +kernel
theorem dX40_apply_272 : decode cX40_apply 272 = .ok (.goto 12, 3) := by decide +kernel
theorem dX40_apply_275 : decode cX40_apply 275 = .ok (.aload_n 0, 1) := by decide +kernel
theorem dX40_apply_276 : decode cX40_apply 276 = .ok (.getfield 29, 3) := by decide +kernel
theorem dX40_apply_279 : decode cX40_apply 279 = .ok (.getfield 167, 3) := by decide +kernel
theorem dX40_apply_282 : decode cX40_apply 282 = .ok (.iload_n 3, 1) := by decide +kernel
theorem dX40_apply_283 : decode cX40_apply 283 = .ok (.iaload, 1) := by decide +kernel
theorem dX40_apply_284 : decode cX40_apply 284 = .ok (.invokevirtual 168, 3) := by decide +kernel
theorem dX40_apply_287 : decode cX40_apply 287 = .ok (.aload_n 0, 1) := by decide +kernel
theorem dX40_apply_288 : decode cX40_apply 288 = .ok (.aload_n 1, 1) := by decide +kernel
theorem dX40_apply_289 : decode cX40_apply 289 = .ok (.invokevirtual 147, 3) := by decide +kernel
theorem dX40_apply_292 : decode cX40_apply 292 = .ok (.return_, 1) := by decide +kernel
abbrev cX40_join : ByteArray := prog_45_method_17_code
def yX40_join : MethodName := ⟨RX40, "join", "(LKnowHouse$QlRewrite$Question;LKnowHouse$QlRewrite$Form;II)V"⟩
theorem dX40_join_0 : decode cX40_join 0 = .ok (.aload_n 0, 1) := by decide +kernel
theorem dX40_join_1 : decode cX40_join 1 = .ok (.getfield 29, 3) := by decide +kernel
theorem dX40_join_4 : decode cX40_join 4 = .ok (.aload_n 2, 1) := by decide +kernel
theorem dX40_join_5 : decode cX40_join 5 = .ok (.invokevirtual 161, 3) := by decide +kernel
theorem dX40_join_8 : decode cX40_join 8 = .ok (.aload_n 0, 1) := by decide +kernel
theorem dX40_join_9 : decode cX40_join 9 = .ok (.getfield 29, 3) := by decide +kernel
theorem dX40_join_12 : decode cX40_join 12 = .ok (.getfield 165, 3) := by decide +kernel
theorem dX40_join_15 : decode cX40_join 15 = .ok (.iload_n 3, 1) := by decide +kernel
theorem dX40_join_16 : decode cX40_join 16 = .ok (.iaload, 1) := by decide +kernel
theorem dX40_join_17 : decode cX40_join 17 = .ok (.aload_n 0, 1) := by decide +kernel
theorem dX40_join_18 : decode cX40_join 18 = .ok (.getfield 29, 3) := by decide +kernel
theorem dX40_join_21 : decode cX40_join 21 = .ok (.getfield 165, 3) := by decide +kernel
theorem dX40_join_24 : decode cX40_join 24 = .ok (.iload 4, 2) := by decide +kernel
theorem dX40_join_26 : decode cX40_join 26 = .ok (.iaload, 1) := by decide +kernel
theorem dX40_join_27 : decode cX40_join 27 = .ok (.if_icmp .eq 4, 3) := by decide +kernel
theorem dX40_join_30 : decode cX40_join 30 = .ok (.return_, 1) := by decide +kernel
theorem dX40_join_31 : decode cX40_join 31 = .ok (.aload_n 0, 1) := by decide +kernel
theorem dX40_join_32 : decode cX40_join 32 = .ok (.getfield 29, 3) := by decide +kernel
theorem dX40_join_35 : decode cX40_join 35 = .ok (.aload_n 0, 1) := by decide +kernel
theorem dX40_join_36 : decode cX40_join 36 = .ok (.getfield 29, 3) := by decide +kernel
theorem dX40_join_39 : decode cX40_join 39 = .ok (.getfield 166, 3) := by decide +kernel
theorem dX40_join_42 : decode cX40_join 42 = .ok (.iload_n 3, 1) := by decide +kernel
theorem dX40_join_43 : decode cX40_join 43 = .ok (.iload 4, 2) := by decide +kernel
theorem dX40_join_45 : decode cX40_join 45 = .ok (.invokevirtual 171, 3) := by decide +kernel
theorem dX40_join_48 : decode cX40_join 48 = .ok (.aload_n 0, 1) := by decide +kernel
theorem dX40_join_49 : decode cX40_join 49 = .ok (.getfield 29, 3) := by decide +kernel
theorem dX40_join_52 : decode cX40_join 52 = .ok (.aload_n 0, 1) := by decide +kernel
theorem dX40_join_53 : decode cX40_join 53 = .ok (.getfield 29, 3) := by decide +kernel
theorem dX40_join_56 : decode cX40_join 56 = .ok (.getfield 167, 3) := by decide +kernel
theorem dX40_join_59 : decode cX40_join 59 = .ok (.iload_n 3, 1) := by decide +kernel
theorem dX40_join_60 : decode cX40_join 60 = .ok (.iload 4, 2) := by decide +kernel
theorem dX40_join_62 : decode cX40_join 62 = .ok (.invokevirtual 171, 3) := by decide +kernel
theorem dX40_join_65 : decode cX40_join 65 = .ok (.aload_n 0, 1) := by decide +kernel
theorem dX40_join_66 : decode cX40_join 66 = .ok (.aload_n 1, 1) := by decide +kernel
theorem dX40_join_67 : decode cX40_join 67 = .ok (.invokevirtual 147, 3) := by decide +kernel
theorem dX40_join_70 : decode cX40_join 70 = .ok (.return_, 1) := by decide +kernel
abbrev cX40_form : ByteArray := prog_45_method_27_code
def yX40_form : MethodName := ⟨RX40, "form", "(III)I"⟩
theorem dX40_form_0 : decode cX40_form 0 = .ok (.aload_n 0, 1) := by decide +kernel
theorem dX40_form_1 : decode cX40_form 1 = .ok (.iload_n 1, 1) := by decide +kernel
theorem dX40_form_2 : decode cX40_form 2 = .ok (.invokevirtual 200, 3) := by decide +kernel
theorem dX40_form_5 : decode cX40_form 5 = .ok (.istore 4, 2) := by decide +kernel
theorem dX40_form_7 : decode cX40_form 7 = .ok (.iload 4, 2) := by decide +kernel
theorem dX40_form_9 : decode cX40_form 9 = .ok (.ifCond .ge 6, 3) := by decide +kernel
theorem dX40_form_12 : decode cX40_form 12 = .ok (.iload 4, 2) := by decide +kernel
theorem dX40_form_14 : decode cX40_form 14 = .ok (.ireturn, 1) := by decide +kernel
theorem dX40_form_15 : decode cX40_form 15 = .ok (.aload_n 0, 1) := by decide +kernel
theorem dX40_form_16 : decode cX40_form 16 = .ok (.getfield 35, 3) := by decide +kernel
theorem dX40_form_19 : decode cX40_form 19 = .ok (.iload_n 1, 1) := by decide +kernel
theorem dX40_form_20 : decode cX40_form 20 = .ok (.aaload, 1) := by decide +kernel
theorem dX40_form_21 : decode cX40_form 21 = .ok (.astore 5, 2) := by decide +kernel
theorem dX40_form_23 : decode cX40_form 23 = .ok (.iload_n 2, 1) := by decide +kernel
theorem dX40_form_24 : decode cX40_form 24 = .ok (.aload 5, 2) := by decide +kernel
theorem dX40_form_26 : decode cX40_form 26 = .ok (.getfield 101, 3) := by decide +kernel
theorem dX40_form_29 : decode cX40_form 29 = .ok (.invokestatic 45, 3) := by decide +kernel
theorem dX40_form_32 : decode cX40_form 32 = .ok (.ifCond .eq 12, 3) := by decide +kernel
theorem dX40_form_35 : decode cX40_form 35 = .ok (.iload_n 3, 1) := by decide +kernel
theorem dX40_form_36 : decode cX40_form 36 = .ok (.bipush 7, 2) := by decide +kernel
theorem dX40_form_38 : decode cX40_form 38 = .ok (.invokestatic 45, 3) := by decide +kernel
theorem dX40_form_41 : decode cX40_form 41 = .ok (.ifCond .ne 5, 3) := by decide +kernel
theorem dX40_form_44 : decode cX40_form 44 = .ok (.iconst (-1), 1) := by decide +kernel
theorem dX40_form_45 : decode cX40_form 45 = .ok (.ireturn, 1) := by decide +kernel
theorem dX40_form_46 : decode cX40_form 46 = .ok (.aload 5, 2) := by decide +kernel
theorem dX40_form_48 : decode cX40_form 48 = .ok (.getfield 104, 3) := by decide +kernel
theorem dX40_form_51 : decode cX40_form 51 = .ok (.iload_n 2, 1) := by decide +kernel
theorem dX40_form_52 : decode cX40_form 52 = .ok (.aaload, 1) := by decide +kernel
theorem dX40_form_53 : decode cX40_form 53 = .ok (.astore 6, 2) := by decide +kernel
theorem dX40_form_55 : decode cX40_form 55 = .ok (.iload_n 3, 1) := by decide +kernel
theorem dX40_form_56 : decode cX40_form 56 = .ok (.iconst 3, 1) := by decide +kernel
theorem dX40_form_57 : decode cX40_form 57 = .ok (.if_icmp .ge 35, 3) := by decide +kernel
theorem dX40_form_60 : decode cX40_form 60 = .ok (.iload_n 3, 1) := by decide +kernel
theorem dX40_form_61 : decode cX40_form 61 = .ok (.ifCond .ne 12, 3) := by decide +kernel
theorem dX40_form_64 : decode cX40_form 64 = .ok (.aload 6, 2) := by decide +kernel
theorem dX40_form_66 : decode cX40_form 66 = .ok (.getfield 151, 3) := by decide +kernel
theorem dX40_form_69 : decode cX40_form 69 = .ok (.arraylength, 1) := by decide +kernel
theorem dX40_form_70 : decode cX40_form 70 = .ok (.goto 21, 3) := by decide +kernel
theorem dX40_form_73 : decode cX40_form 73 = .ok (.iload_n 3, 1) := by decide +kernel
theorem dX40_form_74 : decode cX40_form 74 = .ok (.iconst 1, 1) := by decide +kernel
theorem dX40_form_75 : decode cX40_form 75 = .ok (.if_icmp .ne 11, 3) := by decide +kernel
theorem dX40_form_78 : decode cX40_form 78 = .ok (.aload 6, 2) := by decide +kernel
theorem dX40_form_80 : decode cX40_form 80 = .ok (.getfield 185, 3) := by decide +kernel
theorem dX40_form_83 : decode cX40_form 83 = .ok (.goto 8, 3) := by decide +kernel
theorem dX40_form_86 : decode cX40_form 86 = .ok (.aload 6, 2) := by decide +kernel
theorem dX40_form_88 : decode cX40_form 88 = .ok (.getfield 186, 3) := by decide +kernel
theorem dX40_form_91 : decode cX40_form 91 = .ok (.ireturn, 1) := by decide +kernel
theorem dX40_form_92 : decode cX40_form 92 = .ok (.iload_n 3, 1) := by decide +kernel
theorem dX40_form_93 : decode cX40_form 93 = .ok (.iconst 3, 1) := by decide +kernel
theorem dX40_form_94 : decode cX40_form 94 = .ok (.isub, 1) := by decide +kernel
theorem dX40_form_95 : decode cX40_form 95 = .ok (.aload 6, 2) := by decide +kernel
theorem dX40_form_97 : decode cX40_form 97 = .ok (.getfield 151, 3) := by decide +kernel
theorem dX40_form_100 : decode cX40_form 100 = .ok (.arraylength, 1) := by decide +kernel
theorem dX40_form_101 : decode cX40_form 101 = .ok (.if_icmp .ge 15, 3) := by decide +kernel
theorem dX40_form_104 : decode cX40_form 104 = .ok (.aload 6, 2) := by decide +kernel
theorem dX40_form_106 : decode cX40_form 106 = .ok (.getfield 151, 3) := by decide +kernel
theorem dX40_form_109 : decode cX40_form 109 = .ok (.iload_n 3, 1) := by decide +kernel
theorem dX40_form_110 : decode cX40_form 110 = .ok (.iconst 3, 1) := by decide +kernel
theorem dX40_form_111 : decode cX40_form 111 = .ok (.isub, 1) := by decide +kernel
theorem dX40_form_112 : decode cX40_form 112 = .ok (.iaload, 1) := by decide +kernel
theorem dX40_form_113 : decode cX40_form 113 = .ok (.goto 4, 3) := by decide +kernel
theorem dX40_form_116 : decode cX40_form 116 = .ok (.iconst (-1), 1) := by decide +kernel
theorem dX40_form_117 : decode cX40_form 117 = .ok (.ireturn, 1) := by decide +kernel
abbrev cX40_run : ByteArray := prog_45_method_30_code
def yX40_run : MethodName := ⟨RX40, "run", "(I)I"⟩
theorem dX40_run_0 : decode cX40_run 0 = .ok (.aload_n 0, 1) := by decide +kernel
theorem dX40_run_1 : decode cX40_run 1 = .ok (.iload_n 1, 1) := by decide +kernel
theorem dX40_run_2 : decode cX40_run 2 = .ok (.invokevirtual 200, 3) := by decide +kernel
theorem dX40_run_5 : decode cX40_run 5 = .ok (.istore_n 2, 1) := by decide +kernel
theorem dX40_run_6 : decode cX40_run 6 = .ok (.iload_n 2, 1) := by decide +kernel
theorem dX40_run_7 : decode cX40_run 7 = .ok (.ifCond .ge 7, 3) := by decide +kernel
theorem dX40_run_10 : decode cX40_run 10 = .ok (.iload_n 2, 1) := by decide +kernel
theorem dX40_run_11 : decode cX40_run 11 = .ok (.goto 18, 3) := by decide +kernel
theorem dX40_run_14 : decode cX40_run 14 = .ok (.iconst (-1), 1) := by decide +kernel
theorem dX40_run_15 : decode cX40_run 15 = .ok (.aload_n 0, 1) := by decide +kernel
theorem dX40_run_16 : decode cX40_run 16 = .ok (.aload_n 0, 1) := by decide +kernel
theorem dX40_run_17 : decode cX40_run 17 = .ok (.getfield 35, 3) := by decide +kernel
theorem dX40_run_20 : decode cX40_run 20 = .ok (.iload_n 1, 1) := by decide +kernel
theorem dX40_run_21 : decode cX40_run 21 = .ok (.aaload, 1) := by decide +kernel
theorem dX40_run_22 : decode cX40_run 22 = .ok (.sipush 192, 3) := by decide +kernel
theorem dX40_run_25 : decode cX40_run 25 = .ok (.invokevirtual 212, 3) := by decide +kernel
theorem dX40_run_28 : decode cX40_run 28 = .ok (.isub, 1) := by decide +kernel
theorem dX40_run_29 : decode cX40_run 29 = .ok (.ireturn, 1) := by decide +kernel
abbrev cX40_answerAt : ByteArray := prog_45_method_29_code
def yX40_answerAt : MethodName := ⟨RX40, "answerAt", "(LKnowHouse$QlRewrite$Question;I)I"⟩
theorem dX40_answerAt_0 : decode cX40_answerAt 0 = .ok (.iload_n 2, 1) := by decide +kernel
theorem dX40_answerAt_1 : decode cX40_answerAt 1 = .ok (.istore_n 3, 1) := by decide +kernel
theorem dX40_answerAt_2 : decode cX40_answerAt 2 = .ok (.iconst 0, 1) := by decide +kernel
theorem dX40_answerAt_3 : decode cX40_answerAt 3 = .ok (.istore 4, 2) := by decide +kernel
theorem dX40_answerAt_5 : decode cX40_answerAt 5 = .ok (.iconst 0, 1) := by decide +kernel
theorem dX40_answerAt_6 : decode cX40_answerAt 6 = .ok (.istore 5, 2) := by decide +kernel
theorem dX40_answerAt_8 : decode cX40_answerAt 8 = .ok (.iload 5, 2) := by decide +kernel
theorem dX40_answerAt_10 : decode cX40_answerAt 10 = .ok (.sipush 192, 3) := by decide +kernel
theorem dX40_answerAt_13 : decode cX40_answerAt 13 = .ok (.if_icmp .ge 44, 3) := by decide +kernel
theorem dX40_answerAt_16 : decode cX40_answerAt 16 = .ok (.aload_n 1, 1) := by decide +kernel
theorem dX40_answerAt_17 : decode cX40_answerAt 17 = .ok (.iload 5, 2) := by decide +kernel
theorem dX40_answerAt_19 : decode cX40_answerAt 19 = .ok (.invokestatic 204, 3) := by decide +kernel
theorem dX40_answerAt_22 : decode cX40_answerAt 22 = .ok (.ifCond .eq 29, 3) := by decide +kernel
theorem dX40_answerAt_25 : decode cX40_answerAt 25 = .ok (.aload_n 0, 1) := by decide +kernel
theorem dX40_answerAt_26 : decode cX40_answerAt 26 = .ok (.aload_n 1, 1) := by decide +kernel
theorem dX40_answerAt_27 : decode cX40_answerAt 27 = .ok (.iload 5, 2) := by decide +kernel
theorem dX40_answerAt_29 : decode cX40_answerAt 29 = .ok (.invokevirtual 208, 3) := by decide +kernel
theorem dX40_answerAt_32 : decode cX40_answerAt 32 = .ok (.ifCond .ge 6, 3) := by decide +kernel
theorem dX40_answerAt_35 : decode cX40_answerAt 35 = .ok (.goto 16, 3) := by decide +kernel
theorem dX40_answerAt_38 : decode cX40_answerAt 38 = .ok (.iload_n 3, 1) := by decide +kernel
theorem dX40_answerAt_39 : decode cX40_answerAt 39 = .ok (.ifCond .ne 6, 3) := by decide +kernel
theorem dX40_answerAt_42 : decode cX40_answerAt 42 = .ok (.iload 5, 2) := by decide +kernel
theorem dX40_answerAt_44 : decode cX40_answerAt 44 = .ok (.ireturn, 1) := by decide +kernel
theorem dX40_answerAt_45 : decode cX40_answerAt 45 = .ok (.iinc 3 (-1), 3) := by decide +kernel
theorem dX40_answerAt_48 : decode cX40_answerAt 48 = .ok (.iinc 4 1, 3) := by decide +kernel
theorem dX40_answerAt_51 : decode cX40_answerAt 51 = .ok (.iinc 5 1, 3) := by decide +kernel
theorem dX40_answerAt_54 : decode cX40_answerAt 54 = .ok (.goto (-46), 3) := by decide +kernel
theorem dX40_answerAt_57 : decode cX40_answerAt 57 = .ok (.iconst (-1), 1) := by decide +kernel
theorem dX40_answerAt_58 : decode cX40_answerAt 58 = .ok (.iload 4, 2) := by decide +kernel
theorem dX40_answerAt_60 : decode cX40_answerAt 60 = .ok (.isub, 1) := by decide +kernel
theorem dX40_answerAt_61 : decode cX40_answerAt 61 = .ok (.ireturn, 1) := by decide +kernel
abbrev cX40_isAnswer : ByteArray := prog_45_method_28_code
def yX40_isAnswer : MethodName := ⟨RX40, "isAnswer", "(LKnowHouse$QlRewrite$Question;I)Z"⟩
theorem dX40_isAnswer_0 : decode cX40_isAnswer 0 = .ok (.iload_n 1, 1) := by decide +kernel
theorem dX40_isAnswer_1 : decode cX40_isAnswer 1 = .ok (.ifCond .lt 47, 3) := by decide +kernel
theorem dX40_isAnswer_4 : decode cX40_isAnswer 4 = .ok (.iload_n 1, 1) := by decide +kernel
theorem dX40_isAnswer_5 : decode cX40_isAnswer 5 = .ok (.iconst 4, 1) := by decide +kernel
theorem dX40_isAnswer_6 : decode cX40_isAnswer 6 = .ok (.ishr, 1) := by decide +kernel
theorem dX40_isAnswer_7 : decode cX40_isAnswer 7 = .ok (.aload_n 0, 1) := by decide +kernel
theorem dX40_isAnswer_8 : decode cX40_isAnswer 8 = .ok (.getfield 130, 3) := by decide +kernel
theorem dX40_isAnswer_11 : decode cX40_isAnswer 11 = .ok (.ifCond .le 8, 3) := by decide +kernel
theorem dX40_isAnswer_14 : decode cX40_isAnswer 14 = .ok (.bipush 12, 2) := by decide +kernel
theorem dX40_isAnswer_16 : decode cX40_isAnswer 16 = .ok (.goto 4, 3) := by decide +kernel
theorem dX40_isAnswer_19 : decode cX40_isAnswer 19 = .ok (.iconst 1, 1) := by decide +kernel
theorem dX40_isAnswer_20 : decode cX40_isAnswer 20 = .ok (.if_icmp .ge 28, 3) := by decide +kernel
theorem dX40_isAnswer_23 : decode cX40_isAnswer 23 = .ok (.iload_n 1, 1) := by decide +kernel
theorem dX40_isAnswer_24 : decode cX40_isAnswer 24 = .ok (.bipush 15, 2) := by decide +kernel
theorem dX40_isAnswer_26 : decode cX40_isAnswer 26 = .ok (.iand, 1) := by decide +kernel
theorem dX40_isAnswer_27 : decode cX40_isAnswer 27 = .ok (.aload_n 0, 1) := by decide +kernel
theorem dX40_isAnswer_28 : decode cX40_isAnswer 28 = .ok (.getfield 130, 3) := by decide +kernel
theorem dX40_isAnswer_31 : decode cX40_isAnswer 31 = .ok (.iconst 1, 1) := by decide +kernel
theorem dX40_isAnswer_32 : decode cX40_isAnswer 32 = .ok (.if_icmp .le 8, 3) := by decide +kernel
theorem dX40_isAnswer_35 : decode cX40_isAnswer 35 = .ok (.bipush 12, 2) := by decide +kernel
theorem dX40_isAnswer_37 : decode cX40_isAnswer 37 = .ok (.goto 4, 3) := by decide +kernel
theorem dX40_isAnswer_40 : decode cX40_isAnswer 40 = .ok (.iconst 1, 1) := by decide +kernel
theorem dX40_isAnswer_41 : decode cX40_isAnswer 41 = .ok (.if_icmp .ge 7, 3) := by decide +kernel
theorem dX40_isAnswer_44 : decode cX40_isAnswer 44 = .ok (.iconst 1, 1) := by decide +kernel
theorem dX40_isAnswer_45 : decode cX40_isAnswer 45 = .ok (.goto 4, 3) := by decide +kernel
theorem dX40_isAnswer_48 : decode cX40_isAnswer 48 = .ok (.iconst 0, 1) := by decide +kernel
theorem dX40_isAnswer_49 : decode cX40_isAnswer 49 = .ok (.ireturn, 1) := by decide +kernel
abbrev cX40_firstWith : ByteArray := prog_45_method_24_code
def yX40_firstWith : MethodName := ⟨RX40, "firstWith", "(LKnowHouse$QlRewrite$Question;I)I"⟩
theorem dX40_firstWith_0 : decode cX40_firstWith 0 = .ok (.iconst 0, 1) := by decide +kernel
theorem dX40_firstWith_1 : decode cX40_firstWith 1 = .ok (.istore_n 3, 1) := by decide +kernel
theorem dX40_firstWith_2 : decode cX40_firstWith 2 = .ok (.iload_n 3, 1) := by decide +kernel
theorem dX40_firstWith_3 : decode cX40_firstWith 3 = .ok (.aload_n 1, 1) := by decide +kernel
theorem dX40_firstWith_4 : decode cX40_firstWith 4 = .ok (.getfield 101, 3) := by decide +kernel
theorem dX40_firstWith_7 : decode cX40_firstWith 7 = .ok (.if_icmp .ge 23, 3) := by decide +kernel
theorem dX40_firstWith_10 : decode cX40_firstWith 10 = .ok (.aload_n 0, 1) := by decide +kernel
theorem dX40_firstWith_11 : decode cX40_firstWith 11 = .ok (.aload_n 1, 1) := by decide +kernel
theorem dX40_firstWith_12 : decode cX40_firstWith 12 = .ok (.getfield 104, 3) := by decide +kernel
theorem dX40_firstWith_15 : decode cX40_firstWith 15 = .ok (.iload_n 3, 1) := by decide +kernel
theorem dX40_firstWith_16 : decode cX40_firstWith 16 = .ok (.aaload, 1) := by decide +kernel
theorem dX40_firstWith_17 : decode cX40_firstWith 17 = .ok (.iload_n 2, 1) := by decide +kernel
theorem dX40_firstWith_18 : decode cX40_firstWith 18 = .ok (.invokevirtual 194, 3) := by decide +kernel
theorem dX40_firstWith_21 : decode cX40_firstWith 21 = .ok (.ifCond .ne 9, 3) := by decide +kernel
theorem dX40_firstWith_24 : decode cX40_firstWith 24 = .ok (.iinc 3 1, 3) := by decide +kernel
theorem dX40_firstWith_27 : decode cX40_firstWith 27 = .ok (.goto (-25), 3) := by decide +kernel
theorem dX40_firstWith_30 : decode cX40_firstWith 30 = .ok (.iload_n 3, 1) := by decide +kernel
theorem dX40_firstWith_31 : decode cX40_firstWith 31 = .ok (.aload_n 1, 1) := by decide +kernel
theorem dX40_firstWith_32 : decode cX40_firstWith 32 = .ok (.getfield 101, 3) := by decide +kernel
theorem dX40_firstWith_35 : decode cX40_firstWith 35 = .ok (.if_icmp .ge 7, 3) := by decide +kernel
theorem dX40_firstWith_38 : decode cX40_firstWith 38 = .ok (.iload_n 3, 1) := by decide +kernel
theorem dX40_firstWith_39 : decode cX40_firstWith 39 = .ok (.goto 4, 3) := by decide +kernel
theorem dX40_firstWith_42 : decode cX40_firstWith 42 = .ok (.iconst (-1), 1) := by decide +kernel
theorem dX40_firstWith_43 : decode cX40_firstWith 43 = .ok (.ireturn, 1) := by decide +kernel
abbrev cX40_hasAnswer : ByteArray := prog_45_method_22_code
def yX40_hasAnswer : MethodName := ⟨RX40, "hasAnswer", "(LKnowHouse$QlRewrite$Form;I)Z"⟩
theorem dX40_hasAnswer_0 : decode cX40_hasAnswer 0 = .ok (.iconst 0, 1) := by decide +kernel
theorem dX40_hasAnswer_1 : decode cX40_hasAnswer 1 = .ok (.istore_n 3, 1) := by decide +kernel
theorem dX40_hasAnswer_2 : decode cX40_hasAnswer 2 = .ok (.iload_n 3, 1) := by decide +kernel
theorem dX40_hasAnswer_3 : decode cX40_hasAnswer 3 = .ok (.bipush 6, 2) := by decide +kernel
theorem dX40_hasAnswer_5 : decode cX40_hasAnswer 5 = .ok (.if_icmp .ge 16, 3) := by decide +kernel
theorem dX40_hasAnswer_8 : decode cX40_hasAnswer 8 = .ok (.aload_n 0, 1) := by decide +kernel
theorem dX40_hasAnswer_9 : decode cX40_hasAnswer 9 = .ok (.getfield 42, 3) := by decide +kernel
theorem dX40_hasAnswer_12 : decode cX40_hasAnswer 12 = .ok (.iload_n 3, 1) := by decide +kernel
theorem dX40_hasAnswer_13 : decode cX40_hasAnswer 13 = .ok (.iconst (-1), 1) := by decide +kernel
theorem dX40_hasAnswer_14 : decode cX40_hasAnswer 14 = .ok (.iastore, 1) := by decide +kernel
theorem dX40_hasAnswer_15 : decode cX40_hasAnswer 15 = .ok (.iinc 3 1, 3) := by decide +kernel
theorem dX40_hasAnswer_18 : decode cX40_hasAnswer 18 = .ok (.goto (-16), 3) := by decide +kernel
theorem dX40_hasAnswer_21 : decode cX40_hasAnswer 21 = .ok (.aload_n 1, 1) := by decide +kernel
theorem dX40_hasAnswer_22 : decode cX40_hasAnswer 22 = .ok (.getfield 185, 3) := by decide +kernel
theorem dX40_hasAnswer_25 : decode cX40_hasAnswer 25 = .ok (.ifCond .lt 15, 3) := by decide +kernel
theorem dX40_hasAnswer_28 : decode cX40_hasAnswer 28 = .ok (.aload_n 0, 1) := by decide +kernel
theorem dX40_hasAnswer_29 : decode cX40_hasAnswer 29 = .ok (.getfield 42, 3) := by decide +kernel
theorem dX40_hasAnswer_32 : decode cX40_hasAnswer 32 = .ok (.aload_n 1, 1) := by decide +kernel
theorem dX40_hasAnswer_33 : decode cX40_hasAnswer 33 = .ok (.getfield 185, 3) := by decide +kernel
theorem dX40_hasAnswer_36 : decode cX40_hasAnswer 36 = .ok (.iload_n 2, 1) := by decide +kernel
theorem dX40_hasAnswer_37 : decode cX40_hasAnswer 37 = .ok (.iconst 4, 1) := by decide +kernel
theorem dX40_hasAnswer_38 : decode cX40_hasAnswer 38 = .ok (.ishr, 1) := by decide +kernel
theorem dX40_hasAnswer_39 : decode cX40_hasAnswer 39 = .ok (.iastore, 1) := by decide +kernel
theorem dX40_hasAnswer_40 : decode cX40_hasAnswer 40 = .ok (.aload_n 1, 1) := by decide +kernel
theorem dX40_hasAnswer_41 : decode cX40_hasAnswer 41 = .ok (.getfield 186, 3) := by decide +kernel
theorem dX40_hasAnswer_44 : decode cX40_hasAnswer 44 = .ok (.ifCond .lt 39, 3) := by decide +kernel
theorem dX40_hasAnswer_47 : decode cX40_hasAnswer 47 = .ok (.aload_n 1, 1) := by decide +kernel
theorem dX40_hasAnswer_48 : decode cX40_hasAnswer 48 = .ok (.getfield 186, 3) := by decide +kernel
theorem dX40_hasAnswer_51 : decode cX40_hasAnswer 51 = .ok (.aload_n 1, 1) := by decide +kernel
theorem dX40_hasAnswer_52 : decode cX40_hasAnswer 52 = .ok (.getfield 185, 3) := by decide +kernel
theorem dX40_hasAnswer_55 : decode cX40_hasAnswer 55 = .ok (.if_icmp .ne 15, 3) := by decide +kernel
theorem dX40_hasAnswer_58 : decode cX40_hasAnswer 58 = .ok (.iload_n 2, 1) := by decide +kernel
theorem dX40_hasAnswer_59 : decode cX40_hasAnswer 59 = .ok (.iconst 4, 1) := by decide +kernel
theorem dX40_hasAnswer_60 : decode cX40_hasAnswer 60 = .ok (.ishr, 1) := by decide +kernel
theorem dX40_hasAnswer_61 : decode cX40_hasAnswer 61 = .ok (.iload_n 2, 1) := by decide +kernel
theorem dX40_hasAnswer_62 : decode cX40_hasAnswer 62 = .ok (.bipush 15, 2) := by decide +kernel
theorem dX40_hasAnswer_64 : decode cX40_hasAnswer 64 = .ok (.iand, 1) := by decide +kernel
theorem dX40_hasAnswer_65 : decode cX40_hasAnswer 65 = .ok (.if_icmp .eq 5, 3) := by decide +kernel
theorem dX40_hasAnswer_68 : decode cX40_hasAnswer 68 = .ok (.iconst 0, 1) := by decide +kernel
theorem dX40_hasAnswer_69 : decode cX40_hasAnswer 69 = .ok (.ireturn, 1) := by decide +kernel
theorem dX40_hasAnswer_70 : decode cX40_hasAnswer 70 = .ok (.aload_n 0, 1) := by decide +kernel
theorem dX40_hasAnswer_71 : decode cX40_hasAnswer 71 = .ok (.getfield 42, 3) := by decide +kernel
theorem dX40_hasAnswer_74 : decode cX40_hasAnswer 74 = .ok (.aload_n 1, 1) := by decide +kernel
theorem dX40_hasAnswer_75 : decode cX40_hasAnswer 75 = .ok (.getfield 186, 3) := by decide +kernel
theorem dX40_hasAnswer_78 : decode cX40_hasAnswer 78 = .ok (.iload_n 2, 1) := by decide +kernel
theorem dX40_hasAnswer_79 : decode cX40_hasAnswer 79 = .ok (.bipush 15, 2) := by decide +kernel
theorem dX40_hasAnswer_81 : decode cX40_hasAnswer 81 = .ok (.iand, 1) := by decide +kernel
theorem dX40_hasAnswer_82 : decode cX40_hasAnswer 82 = .ok (.iastore, 1) := by decide +kernel
theorem dX40_hasAnswer_83 : decode cX40_hasAnswer 83 = .ok (.iconst 1, 1) := by decide +kernel
theorem dX40_hasAnswer_84 : decode cX40_hasAnswer 84 = .ok (.istore_n 3, 1) := by decide +kernel
theorem dX40_hasAnswer_85 : decode cX40_hasAnswer 85 = .ok (.iconst 0, 1) := by decide +kernel
theorem dX40_hasAnswer_86 : decode cX40_hasAnswer 86 = .ok (.istore 4, 2) := by decide +kernel
theorem dX40_hasAnswer_88 : decode cX40_hasAnswer 88 = .ok (.iload 4, 2) := by decide +kernel
theorem dX40_hasAnswer_90 : decode cX40_hasAnswer 90 = .ok (.aload_n 1, 1) := by decide +kernel
theorem dX40_hasAnswer_91 : decode cX40_hasAnswer 91 = .ok (.getfield 151, 3) := by decide +kernel
theorem dX40_hasAnswer_94 : decode cX40_hasAnswer 94 = .ok (.arraylength, 1) := by decide +kernel
theorem dX40_hasAnswer_95 : decode cX40_hasAnswer 95 = .ok (.if_icmp .ge 25, 3) := by decide +kernel
theorem dX40_hasAnswer_98 : decode cX40_hasAnswer 98 = .ok (.iload_n 3, 1) := by decide +kernel
theorem dX40_hasAnswer_99 : decode cX40_hasAnswer 99 = .ok (.ifCond .eq 21, 3) := by decide +kernel
theorem dX40_hasAnswer_102 : decode cX40_hasAnswer 102 = .ok (.aload_n 0, 1) := by decide +kernel
theorem dX40_hasAnswer_103 : decode cX40_hasAnswer 103 = .ok (.aload_n 1, 1) := by decide +kernel
theorem dX40_hasAnswer_104 : decode cX40_hasAnswer 104 = .ok (.getfield 151, 3) := by decide +kernel
theorem dX40_hasAnswer_107 : decode cX40_hasAnswer 107 = .ok (.iload 4, 2) := by decide +kernel
theorem dX40_hasAnswer_109 : decode cX40_hasAnswer 109 = .ok (.iaload, 1) := by decide +kernel
theorem dX40_hasAnswer_110 : decode cX40_hasAnswer 110 = .ok (.invokevirtual 187, 3) := by decide +kernel
theorem dX40_hasAnswer_113 : decode cX40_hasAnswer 113 = .ok (.istore_n 3, 1) := by decide +kernel
theorem dX40_hasAnswer_114 : decode cX40_hasAnswer 114 = .ok (.iinc 4 1, 3) := by decide +kernel
theorem dX40_hasAnswer_117 : decode cX40_hasAnswer 117 = .ok (.goto (-29), 3) := by decide +kernel
theorem dX40_hasAnswer_120 : decode cX40_hasAnswer 120 = .ok (.iload_n 3, 1) := by decide +kernel
theorem dX40_hasAnswer_121 : decode cX40_hasAnswer 121 = .ok (.ifCond .eq 38, 3) := by decide +kernel
theorem dX40_hasAnswer_124 : decode cX40_hasAnswer 124 = .ok (.aload_n 1, 1) := by decide +kernel
theorem dX40_hasAnswer_125 : decode cX40_hasAnswer 125 = .ok (.aload_n 1, 1) := by decide +kernel
theorem dX40_hasAnswer_126 : decode cX40_hasAnswer 126 = .ok (.getfield 185, 3) := by decide +kernel
theorem dX40_hasAnswer_129 : decode cX40_hasAnswer 129 = .ok (.invokestatic 190, 3) := by decide +kernel
theorem dX40_hasAnswer_132 : decode cX40_hasAnswer 132 = .ok (.ifCond .eq 27, 3) := by decide +kernel
theorem dX40_hasAnswer_135 : decode cX40_hasAnswer 135 = .ok (.aload_n 1, 1) := by decide +kernel
theorem dX40_hasAnswer_136 : decode cX40_hasAnswer 136 = .ok (.aload_n 1, 1) := by decide +kernel
theorem dX40_hasAnswer_137 : decode cX40_hasAnswer 137 = .ok (.getfield 186, 3) := by decide +kernel
theorem dX40_hasAnswer_140 : decode cX40_hasAnswer 140 = .ok (.invokestatic 190, 3) := by decide +kernel
theorem dX40_hasAnswer_143 : decode cX40_hasAnswer 143 = .ok (.ifCond .eq 16, 3) := by decide +kernel
theorem dX40_hasAnswer_146 : decode cX40_hasAnswer 146 = .ok (.aload_n 0, 1) := by decide +kernel
theorem dX40_hasAnswer_147 : decode cX40_hasAnswer 147 = .ok (.aload_n 1, 1) := by decide +kernel
theorem dX40_hasAnswer_148 : decode cX40_hasAnswer 148 = .ok (.iconst 0, 1) := by decide +kernel
theorem dX40_hasAnswer_149 : decode cX40_hasAnswer 149 = .ok (.invokestatic 181, 3) := by decide +kernel
theorem dX40_hasAnswer_152 : decode cX40_hasAnswer 152 = .ok (.ifCond .eq 7, 3) := by decide +kernel
theorem dX40_hasAnswer_155 : decode cX40_hasAnswer 155 = .ok (.iconst 1, 1) := by decide +kernel
theorem dX40_hasAnswer_156 : decode cX40_hasAnswer 156 = .ok (.goto 4, 3) := by decide +kernel
theorem dX40_hasAnswer_159 : decode cX40_hasAnswer 159 = .ok (.iconst 0, 1) := by decide +kernel
theorem dX40_hasAnswer_160 : decode cX40_hasAnswer 160 = .ok (.ireturn, 1) := by decide +kernel
abbrev cX40_fitsSome : ByteArray := prog_45_method_19_code
def yX40_fitsSome : MethodName := ⟨RX40, "fitsSome", "(I)Z"⟩
theorem dX40_fitsSome_0 : decode cX40_fitsSome 0 = .ok (.iload_n 1, 1) := by decide +kernel
theorem dX40_fitsSome_1 : decode cX40_fitsSome 1 = .ok (.iconst 3, 1) := by decide +kernel
theorem dX40_fitsSome_2 : decode cX40_fitsSome 2 = .ok (.ishr, 1) := by decide +kernel
theorem dX40_fitsSome_3 : decode cX40_fitsSome 3 = .ok (.bipush 7, 2) := by decide +kernel
theorem dX40_fitsSome_5 : decode cX40_fitsSome 5 = .ok (.iand, 1) := by decide +kernel
theorem dX40_fitsSome_6 : decode cX40_fitsSome 6 = .ok (.istore_n 2, 1) := by decide +kernel
theorem dX40_fitsSome_7 : decode cX40_fitsSome 7 = .ok (.iload_n 1, 1) := by decide +kernel
theorem dX40_fitsSome_8 : decode cX40_fitsSome 8 = .ok (.bipush 7, 2) := by decide +kernel
theorem dX40_fitsSome_10 : decode cX40_fitsSome 10 = .ok (.iand, 1) := by decide +kernel
theorem dX40_fitsSome_11 : decode cX40_fitsSome 11 = .ok (.istore_n 3, 1) := by decide +kernel
theorem dX40_fitsSome_12 : decode cX40_fitsSome 12 = .ok (.iconst 0, 1) := by decide +kernel
theorem dX40_fitsSome_13 : decode cX40_fitsSome 13 = .ok (.istore 4, 2) := by decide +kernel
theorem dX40_fitsSome_15 : decode cX40_fitsSome 15 = .ok (.iconst 0, 1) := by decide +kernel
theorem dX40_fitsSome_16 : decode cX40_fitsSome 16 = .ok (.istore 5, 2) := by decide +kernel
theorem dX40_fitsSome_18 : decode cX40_fitsSome 18 = .ok (.iload 5, 2) := by decide +kernel
theorem dX40_fitsSome_20 : decode cX40_fitsSome 20 = .ok (.bipush 12, 2) := by decide +kernel
theorem dX40_fitsSome_22 : decode cX40_fitsSome 22 = .ok (.if_icmp .ge 135, 3) := by decide +kernel
theorem dX40_fitsSome_25 : decode cX40_fitsSome 25 = .ok (.iload 4, 2) := by decide +kernel
theorem dX40_fitsSome_27 : decode cX40_fitsSome 27 = .ok (.ifCond .ne 130, 3) := by decide +kernel
theorem dX40_fitsSome_30 : decode cX40_fitsSome 30 = .ok (.aload_n 0, 1) := by decide +kernel
theorem dX40_fitsSome_31 : decode cX40_fitsSome 31 = .ok (.iload_n 2, 1) := by decide +kernel
theorem dX40_fitsSome_32 : decode cX40_fitsSome 32 = .ok (.iload 5, 2) := by decide +kernel
theorem dX40_fitsSome_34 : decode cX40_fitsSome 34 = .ok (.invokevirtual 175, 3) := by decide +kernel
theorem dX40_fitsSome_37 : decode cX40_fitsSome 37 = .ok (.ifCond .ne 6, 3) := by decide +kernel
theorem dX40_fitsSome_40 : decode cX40_fitsSome 40 = .ok (.goto 111, 3) := by decide +kernel
theorem dX40_fitsSome_43 : decode cX40_fitsSome 43 = .ok (.iconst 0, 1) := by decide +kernel
theorem dX40_fitsSome_44 : decode cX40_fitsSome 44 = .ok (.istore 6, 2) := by decide +kernel
theorem dX40_fitsSome_46 : decode cX40_fitsSome 46 = .ok (.iload 6, 2) := by decide +kernel
theorem dX40_fitsSome_48 : decode cX40_fitsSome 48 = .ok (.iload_n 3, 1) := by decide +kernel
theorem dX40_fitsSome_49 : decode cX40_fitsSome 49 = .ok (.bipush 7, 2) := by decide +kernel
theorem dX40_fitsSome_51 : decode cX40_fitsSome 51 = .ok (.if_icmp .ne 7, 3) := by decide +kernel
theorem dX40_fitsSome_54 : decode cX40_fitsSome 54 = .ok (.iconst 1, 1) := by decide +kernel
theorem dX40_fitsSome_55 : decode cX40_fitsSome 55 = .ok (.goto 5, 3) := by decide +kernel
theorem dX40_fitsSome_58 : decode cX40_fitsSome 58 = .ok (.bipush 12, 2) := by decide +kernel
theorem dX40_fitsSome_60 : decode cX40_fitsSome 60 = .ok (.if_icmp .ge 91, 3) := by decide +kernel
theorem dX40_fitsSome_63 : decode cX40_fitsSome 63 = .ok (.iload 4, 2) := by decide +kernel
theorem dX40_fitsSome_65 : decode cX40_fitsSome 65 = .ok (.ifCond .ne 86, 3) := by decide +kernel
theorem dX40_fitsSome_68 : decode cX40_fitsSome 68 = .ok (.aload_n 0, 1) := by decide +kernel
theorem dX40_fitsSome_69 : decode cX40_fitsSome 69 = .ok (.iload_n 3, 1) := by decide +kernel
theorem dX40_fitsSome_70 : decode cX40_fitsSome 70 = .ok (.iload 6, 2) := by decide +kernel
theorem dX40_fitsSome_72 : decode cX40_fitsSome 72 = .ok (.invokevirtual 175, 3) := by decide +kernel
theorem dX40_fitsSome_75 : decode cX40_fitsSome 75 = .ok (.ifCond .eq 67, 3) := by decide +kernel
theorem dX40_fitsSome_78 : decode cX40_fitsSome 78 = .ok (.iload_n 2, 1) := by decide +kernel
theorem dX40_fitsSome_79 : decode cX40_fitsSome 79 = .ok (.iload_n 3, 1) := by decide +kernel
theorem dX40_fitsSome_80 : decode cX40_fitsSome 80 = .ok (.if_icmp .ne 16, 3) := by decide +kernel
theorem dX40_fitsSome_83 : decode cX40_fitsSome 83 = .ok (.iload_n 2, 1) := by decide +kernel
theorem dX40_fitsSome_84 : decode cX40_fitsSome 84 = .ok (.bipush 6, 2) := by decide +kernel
theorem dX40_fitsSome_86 : decode cX40_fitsSome 86 = .ok (.if_icmp .eq 10, 3) := by decide +kernel
theorem dX40_fitsSome_89 : decode cX40_fitsSome 89 = .ok (.iload 5, 2) := by decide +kernel
theorem dX40_fitsSome_91 : decode cX40_fitsSome 91 = .ok (.iload 6, 2) := by decide +kernel
theorem dX40_fitsSome_93 : decode cX40_fitsSome 93 = .ok (.if_icmp .ne 49, 3) := by decide +kernel
theorem dX40_fitsSome_96 : decode cX40_fitsSome 96 = .ok (.aload_n 0, 1) := by decide +kernel
theorem dX40_fitsSome_97 : decode cX40_fitsSome 97 = .ok (.iload_n 3, 1) := by decide +kernel
theorem dX40_fitsSome_98 : decode cX40_fitsSome 98 = .ok (.bipush 7, 2) := by decide +kernel
theorem dX40_fitsSome_100 : decode cX40_fitsSome 100 = .ok (.if_icmp .eq 7, 3) := by decide +kernel
theorem dX40_fitsSome_103 : decode cX40_fitsSome 103 = .ok (.iconst 1, 1) := by decide +kernel
theorem dX40_fitsSome_104 : decode cX40_fitsSome 104 = .ok (.goto 4, 3) := by decide +kernel
theorem dX40_fitsSome_107 : decode cX40_fitsSome 107 = .ok (.iconst 0, 1) := by decide +kernel
theorem dX40_fitsSome_108 : decode cX40_fitsSome 108 = .ok (.iload_n 3, 1) := by decide +kernel
theorem dX40_fitsSome_109 : decode cX40_fitsSome 109 = .ok (.bipush 7, 2) := by decide +kernel
theorem dX40_fitsSome_111 : decode cX40_fitsSome 111 = .ok (.if_icmp .ne 10, 3) := by decide +kernel
theorem dX40_fitsSome_114 : decode cX40_fitsSome 114 = .ok (.iload_n 1, 1) := by decide +kernel
theorem dX40_fitsSome_115 : decode cX40_fitsSome 115 = .ok (.bipush 6, 2) := by decide +kernel
theorem dX40_fitsSome_117 : decode cX40_fitsSome 117 = .ok (.ishr, 1) := by decide +kernel
theorem dX40_fitsSome_118 : decode cX40_fitsSome 118 = .ok (.goto 10, 3) := by decide +kernel
theorem dX40_fitsSome_121 : decode cX40_fitsSome 121 = .ok (.iload_n 1, 1) := by decide +kernel
theorem dX40_fitsSome_122 : decode cX40_fitsSome 122 = .ok (.bipush 6, 2) := by decide +kernel
theorem dX40_fitsSome_124 : decode cX40_fitsSome 124 = .ok (.ishr, 1) := by decide +kernel
theorem dX40_fitsSome_125 : decode cX40_fitsSome 125 = .ok (.bipush 32, 2) := by decide +kernel
theorem dX40_fitsSome_127 : decode cX40_fitsSome 127 = .ok (.isub, 1) := by decide +kernel
theorem dX40_fitsSome_128 : decode cX40_fitsSome 128 = .ok (.iload 5, 2) := by decide +kernel
theorem dX40_fitsSome_130 : decode cX40_fitsSome 130 = .ok (.iload 6, 2) := by decide +kernel
theorem dX40_fitsSome_132 : decode cX40_fitsSome 132 = .ok (.invokevirtual 68, 3) := by decide +kernel
theorem dX40_fitsSome_135 : decode cX40_fitsSome 135 = .ok (.ifCond .eq 7, 3) := by decide +kernel
theorem dX40_fitsSome_138 : decode cX40_fitsSome 138 = .ok (.iconst 1, 1) := by decide +kernel
theorem dX40_fitsSome_139 : decode cX40_fitsSome 139 = .ok (.goto 4, 3) := by decide +kernel
theorem dX40_fitsSome_142 : decode cX40_fitsSome 142 = .ok (.iconst 0, 1) := by decide +kernel
theorem dX40_fitsSome_143 : decode cX40_fitsSome 143 = .ok (.istore 4, 2) := by decide +kernel
theorem dX40_fitsSome_145 : decode cX40_fitsSome 145 = .ok (.iinc 6 1, 3) := by decide +kernel
theorem dX40_fitsSome_148 : decode cX40_fitsSome 148 = .ok (.goto (-102), 3) := by decide +kernel
theorem dX40_fitsSome_151 : decode cX40_fitsSome 151 = .ok (.iinc 5 1, 3) := by decide +kernel
theorem dX40_fitsSome_154 : decode cX40_fitsSome 154 = .ok (.goto (-136), 3) := by decide +kernel
theorem dX40_fitsSome_157 : decode cX40_fitsSome 157 = .ok (.iload 4, 2) := by decide +kernel
theorem dX40_fitsSome_159 : decode cX40_fitsSome 159 = .ok (.ireturn, 1) := by decide +kernel
abbrev cX40_fitsAt : ByteArray := prog_45_method_18_code
def yX40_fitsAt : MethodName := ⟨RX40, "fitsAt", "(II)Z"⟩
theorem dX40_fitsAt_0 : decode cX40_fitsAt 0 = .ok (.iload_n 1, 1) := by decide +kernel
theorem dX40_fitsAt_1 : decode cX40_fitsAt 1 = .ok (.bipush 6, 2) := by decide +kernel
theorem dX40_fitsAt_3 : decode cX40_fitsAt 3 = .ok (.if_icmp .eq 28, 3) := by decide +kernel
theorem dX40_fitsAt_6 : decode cX40_fitsAt 6 = .ok (.iload_n 1, 1) := by decide +kernel
theorem dX40_fitsAt_7 : decode cX40_fitsAt 7 = .ok (.bipush 7, 2) := by decide +kernel
theorem dX40_fitsAt_9 : decode cX40_fitsAt 9 = .ok (.if_icmp .eq 22, 3) := by decide +kernel
theorem dX40_fitsAt_12 : decode cX40_fitsAt 12 = .ok (.aload_n 0, 1) := by decide +kernel
theorem dX40_fitsAt_13 : decode cX40_fitsAt 13 = .ok (.getfield 42, 3) := by decide +kernel
theorem dX40_fitsAt_16 : decode cX40_fitsAt 16 = .ok (.iload_n 1, 1) := by decide +kernel
theorem dX40_fitsAt_17 : decode cX40_fitsAt 17 = .ok (.iaload, 1) := by decide +kernel
theorem dX40_fitsAt_18 : decode cX40_fitsAt 18 = .ok (.ifCond .lt 13, 3) := by decide +kernel
theorem dX40_fitsAt_21 : decode cX40_fitsAt 21 = .ok (.aload_n 0, 1) := by decide +kernel
theorem dX40_fitsAt_22 : decode cX40_fitsAt 22 = .ok (.getfield 42, 3) := by decide +kernel
theorem dX40_fitsAt_25 : decode cX40_fitsAt 25 = .ok (.iload_n 1, 1) := by decide +kernel
theorem dX40_fitsAt_26 : decode cX40_fitsAt 26 = .ok (.iaload, 1) := by decide +kernel
theorem dX40_fitsAt_27 : decode cX40_fitsAt 27 = .ok (.iload_n 2, 1) := by decide +kernel
theorem dX40_fitsAt_28 : decode cX40_fitsAt 28 = .ok (.if_icmp .ne 7, 3) := by decide +kernel
theorem dX40_fitsAt_31 : decode cX40_fitsAt 31 = .ok (.iconst 1, 1) := by decide +kernel
theorem dX40_fitsAt_32 : decode cX40_fitsAt 32 = .ok (.goto 4, 3) := by decide +kernel
theorem dX40_fitsAt_35 : decode cX40_fitsAt 35 = .ok (.iconst 0, 1) := by decide +kernel
theorem dX40_fitsAt_36 : decode cX40_fitsAt 36 = .ok (.ireturn, 1) := by decide +kernel
abbrev cX40_stands : ByteArray := prog_45_method_23_code
def yX40_stands : MethodName := ⟨RX40, "stands", "(LKnowHouse$QlRewrite$Form;I)Z"⟩
theorem dX40_stands_0 : decode cX40_stands 0 = .ok (.iload_n 1, 1) := by decide +kernel
theorem dX40_stands_1 : decode cX40_stands 1 = .ok (.ifCond .ge 7, 3) := by decide +kernel
theorem dX40_stands_4 : decode cX40_stands 4 = .ok (.iconst 1, 1) := by decide +kernel
theorem dX40_stands_5 : decode cX40_stands 5 = .ok (.goto 4, 3) := by decide +kernel
theorem dX40_stands_8 : decode cX40_stands 8 = .ok (.iconst 0, 1) := by decide +kernel
theorem dX40_stands_9 : decode cX40_stands 9 = .ok (.istore_n 2, 1) := by decide +kernel
theorem dX40_stands_10 : decode cX40_stands 10 = .ok (.aload_n 0, 1) := by decide +kernel
theorem dX40_stands_11 : decode cX40_stands 11 = .ok (.getfield 151, 3) := by decide +kernel
theorem dX40_stands_14 : decode cX40_stands 14 = .ok (.astore_n 3, 1) := by decide +kernel
theorem dX40_stands_15 : decode cX40_stands 15 = .ok (.aload_n 3, 1) := by decide +kernel
theorem dX40_stands_16 : decode cX40_stands 16 = .ok (.arraylength, 1) := by decide +kernel
theorem dX40_stands_17 : decode cX40_stands 17 = .ok (.istore 4, 2) := by decide +kernel
theorem dX40_stands_19 : decode cX40_stands 19 = .ok (.iconst 0, 1) := by decide +kernel
theorem dX40_stands_20 : decode cX40_stands 20 = .ok (.istore 5, 2) := by decide +kernel
theorem dX40_stands_22 : decode cX40_stands 22 = .ok (.iload 5, 2) := by decide +kernel
theorem dX40_stands_24 : decode cX40_stands 24 = .ok (.iload 4, 2) := by decide +kernel
theorem dX40_stands_26 : decode cX40_stands 26 = .ok (.if_icmp .ge 45, 3) := by decide +kernel
theorem dX40_stands_29 : decode cX40_stands 29 = .ok (.aload_n 3, 1) := by decide +kernel
theorem dX40_stands_30 : decode cX40_stands 30 = .ok (.iload 5, 2) := by decide +kernel
theorem dX40_stands_32 : decode cX40_stands 32 = .ok (.iaload, 1) := by decide +kernel
theorem dX40_stands_33 : decode cX40_stands 33 = .ok (.istore 6, 2) := by decide +kernel
theorem dX40_stands_35 : decode cX40_stands 35 = .ok (.iload_n 2, 1) := by decide +kernel
theorem dX40_stands_36 : decode cX40_stands 36 = .ok (.ifCond .ne 23, 3) := by decide +kernel
theorem dX40_stands_39 : decode cX40_stands 39 = .ok (.iload 6, 2) := by decide +kernel
theorem dX40_stands_41 : decode cX40_stands 41 = .ok (.iconst 3, 1) := by decide +kernel
theorem dX40_stands_42 : decode cX40_stands 42 = .ok (.ishr, 1) := by decide +kernel
theorem dX40_stands_43 : decode cX40_stands 43 = .ok (.bipush 7, 2) := by decide +kernel
theorem dX40_stands_45 : decode cX40_stands 45 = .ok (.iand, 1) := by decide +kernel
theorem dX40_stands_46 : decode cX40_stands 46 = .ok (.iload_n 1, 1) := by decide +kernel
theorem dX40_stands_47 : decode cX40_stands 47 = .ok (.if_icmp .eq 12, 3) := by decide +kernel
theorem dX40_stands_50 : decode cX40_stands 50 = .ok (.iload 6, 2) := by decide +kernel
theorem dX40_stands_52 : decode cX40_stands 52 = .ok (.bipush 7, 2) := by decide +kernel
theorem dX40_stands_54 : decode cX40_stands 54 = .ok (.iand, 1) := by decide +kernel
theorem dX40_stands_55 : decode cX40_stands 55 = .ok (.iload_n 1, 1) := by decide +kernel
theorem dX40_stands_56 : decode cX40_stands 56 = .ok (.if_icmp .ne 7, 3) := by decide +kernel
theorem dX40_stands_59 : decode cX40_stands 59 = .ok (.iconst 1, 1) := by decide +kernel
theorem dX40_stands_60 : decode cX40_stands 60 = .ok (.goto 4, 3) := by decide +kernel
theorem dX40_stands_63 : decode cX40_stands 63 = .ok (.iconst 0, 1) := by decide +kernel
theorem dX40_stands_64 : decode cX40_stands 64 = .ok (.istore_n 2, 1) := by decide +kernel
theorem dX40_stands_65 : decode cX40_stands 65 = .ok (.iinc 5 1, 3) := by decide +kernel
theorem dX40_stands_68 : decode cX40_stands 68 = .ok (.goto (-46), 3) := by decide +kernel
theorem dX40_stands_71 : decode cX40_stands 71 = .ok (.iload_n 2, 1) := by decide +kernel
theorem dX40_stands_72 : decode cX40_stands 72 = .ok (.ireturn, 1) := by decide +kernel
abbrev cX40_finds : ByteArray := prog_45_method_21_code
def yX40_finds : MethodName := ⟨RX40, "finds", "(LKnowHouse$QlRewrite;LKnowHouse$QlRewrite$Form;I)Z"⟩
theorem dX40_finds_0 : decode cX40_finds 0 = .ok (.iload_n 2, 1) := by decide +kernel
theorem dX40_finds_1 : decode cX40_finds 1 = .ok (.aload_n 1, 1) := by decide +kernel
theorem dX40_finds_2 : decode cX40_finds 2 = .ok (.getfield 151, 3) := by decide +kernel
theorem dX40_finds_5 : decode cX40_finds 5 = .ok (.arraylength, 1) := by decide +kernel
theorem dX40_finds_6 : decode cX40_finds 6 = .ok (.if_icmp .ne 5, 3) := by decide +kernel
theorem dX40_finds_9 : decode cX40_finds 9 = .ok (.iconst 1, 1) := by decide +kernel
theorem dX40_finds_10 : decode cX40_finds 10 = .ok (.ireturn, 1) := by decide +kernel
theorem dX40_finds_11 : decode cX40_finds 11 = .ok (.aload_n 1, 1) := by decide +kernel
theorem dX40_finds_12 : decode cX40_finds 12 = .ok (.getfield 151, 3) := by decide +kernel
theorem dX40_finds_15 : decode cX40_finds 15 = .ok (.iload_n 2, 1) := by decide +kernel
theorem dX40_finds_16 : decode cX40_finds 16 = .ok (.iaload, 1) := by decide +kernel
theorem dX40_finds_17 : decode cX40_finds 17 = .ok (.istore_n 3, 1) := by decide +kernel
theorem dX40_finds_18 : decode cX40_finds 18 = .ok (.iload_n 3, 1) := by decide +kernel
theorem dX40_finds_19 : decode cX40_finds 19 = .ok (.iconst 3, 1) := by decide +kernel
theorem dX40_finds_20 : decode cX40_finds 20 = .ok (.ishr, 1) := by decide +kernel
theorem dX40_finds_21 : decode cX40_finds 21 = .ok (.bipush 7, 2) := by decide +kernel
theorem dX40_finds_23 : decode cX40_finds 23 = .ok (.iand, 1) := by decide +kernel
theorem dX40_finds_24 : decode cX40_finds 24 = .ok (.istore 4, 2) := by decide +kernel
theorem dX40_finds_26 : decode cX40_finds 26 = .ok (.iload_n 3, 1) := by decide +kernel
theorem dX40_finds_27 : decode cX40_finds 27 = .ok (.bipush 7, 2) := by decide +kernel
theorem dX40_finds_29 : decode cX40_finds 29 = .ok (.iand, 1) := by decide +kernel
theorem dX40_finds_30 : decode cX40_finds 30 = .ok (.istore 5, 2) := by decide +kernel
theorem dX40_finds_32 : decode cX40_finds 32 = .ok (.iconst 0, 1) := by decide +kernel
theorem dX40_finds_33 : decode cX40_finds 33 = .ok (.istore 6, 2) := by decide +kernel
theorem dX40_finds_35 : decode cX40_finds 35 = .ok (.iconst 0, 1) := by decide +kernel
theorem dX40_finds_36 : decode cX40_finds 36 = .ok (.istore 7, 2) := by decide +kernel
theorem dX40_finds_38 : decode cX40_finds 38 = .ok (.iload 7, 2) := by decide +kernel
theorem dX40_finds_40 : decode cX40_finds 40 = .ok (.bipush 12, 2) := by decide +kernel
theorem dX40_finds_42 : decode cX40_finds 42 = .ok (.if_icmp .ge 180, 3) := by decide +kernel
theorem dX40_finds_45 : decode cX40_finds 45 = .ok (.iload 6, 2) := by decide +kernel
theorem dX40_finds_47 : decode cX40_finds 47 = .ok (.ifCond .ne 175, 3) := by decide +kernel
theorem dX40_finds_50 : decode cX40_finds 50 = .ok (.aload_n 0, 1) := by decide +kernel
theorem dX40_finds_51 : decode cX40_finds 51 = .ok (.iload 4, 2) := by decide +kernel
theorem dX40_finds_53 : decode cX40_finds 53 = .ok (.iload 7, 2) := by decide +kernel
theorem dX40_finds_55 : decode cX40_finds 55 = .ok (.invokevirtual 175, 3) := by decide +kernel
theorem dX40_finds_58 : decode cX40_finds 58 = .ok (.ifCond .ne 6, 3) := by decide +kernel
theorem dX40_finds_61 : decode cX40_finds 61 = .ok (.goto 155, 3) := by decide +kernel
theorem dX40_finds_64 : decode cX40_finds 64 = .ok (.aload_n 0, 1) := by decide +kernel
theorem dX40_finds_65 : decode cX40_finds 65 = .ok (.iload 4, 2) := by decide +kernel
theorem dX40_finds_67 : decode cX40_finds 67 = .ok (.iload 7, 2) := by decide +kernel
theorem dX40_finds_69 : decode cX40_finds 69 = .ok (.invokevirtual 178, 3) := by decide +kernel
theorem dX40_finds_72 : decode cX40_finds 72 = .ok (.istore 8, 2) := by decide +kernel
theorem dX40_finds_74 : decode cX40_finds 74 = .ok (.iconst 0, 1) := by decide +kernel
theorem dX40_finds_75 : decode cX40_finds 75 = .ok (.istore 9, 2) := by decide +kernel
theorem dX40_finds_77 : decode cX40_finds 77 = .ok (.iload 9, 2) := by decide +kernel
theorem dX40_finds_79 : decode cX40_finds 79 = .ok (.iload 5, 2) := by decide +kernel
theorem dX40_finds_81 : decode cX40_finds 81 = .ok (.bipush 7, 2) := by decide +kernel
theorem dX40_finds_83 : decode cX40_finds 83 = .ok (.if_icmp .ne 7, 3) := by decide +kernel
theorem dX40_finds_86 : decode cX40_finds 86 = .ok (.iconst 1, 1) := by decide +kernel
theorem dX40_finds_87 : decode cX40_finds 87 = .ok (.goto 5, 3) := by decide +kernel
theorem dX40_finds_90 : decode cX40_finds 90 = .ok (.bipush 12, 2) := by decide +kernel
theorem dX40_finds_92 : decode cX40_finds 92 = .ok (.if_icmp .ge 108, 3) := by decide +kernel
theorem dX40_finds_95 : decode cX40_finds 95 = .ok (.iload 6, 2) := by decide +kernel
theorem dX40_finds_97 : decode cX40_finds 97 = .ok (.ifCond .ne 103, 3) := by decide +kernel
theorem dX40_finds_100 : decode cX40_finds 100 = .ok (.aload_n 0, 1) := by decide +kernel
theorem dX40_finds_101 : decode cX40_finds 101 = .ok (.iload 5, 2) := by decide +kernel
theorem dX40_finds_103 : decode cX40_finds 103 = .ok (.iload 9, 2) := by decide +kernel
theorem dX40_finds_105 : decode cX40_finds 105 = .ok (.invokevirtual 175, 3) := by decide +kernel
theorem dX40_finds_108 : decode cX40_finds 108 = .ok (.ifCond .eq 86, 3) := by decide +kernel
theorem dX40_finds_111 : decode cX40_finds 111 = .ok (.aload_n 0, 1) := by decide +kernel
theorem dX40_finds_112 : decode cX40_finds 112 = .ok (.iload 5, 2) := by decide +kernel
theorem dX40_finds_114 : decode cX40_finds 114 = .ok (.bipush 7, 2) := by decide +kernel
theorem dX40_finds_116 : decode cX40_finds 116 = .ok (.if_icmp .eq 7, 3) := by decide +kernel
theorem dX40_finds_119 : decode cX40_finds 119 = .ok (.iconst 1, 1) := by decide +kernel
theorem dX40_finds_120 : decode cX40_finds 120 = .ok (.goto 4, 3) := by decide +kernel
theorem dX40_finds_123 : decode cX40_finds 123 = .ok (.iconst 0, 1) := by decide +kernel
theorem dX40_finds_124 : decode cX40_finds 124 = .ok (.iload 5, 2) := by decide +kernel
theorem dX40_finds_126 : decode cX40_finds 126 = .ok (.bipush 7, 2) := by decide +kernel
theorem dX40_finds_128 : decode cX40_finds 128 = .ok (.if_icmp .ne 10, 3) := by decide +kernel
theorem dX40_finds_131 : decode cX40_finds 131 = .ok (.iload_n 3, 1) := by decide +kernel
theorem dX40_finds_132 : decode cX40_finds 132 = .ok (.bipush 6, 2) := by decide +kernel
theorem dX40_finds_134 : decode cX40_finds 134 = .ok (.ishr, 1) := by decide +kernel
theorem dX40_finds_135 : decode cX40_finds 135 = .ok (.goto 10, 3) := by decide +kernel
theorem dX40_finds_138 : decode cX40_finds 138 = .ok (.iload_n 3, 1) := by decide +kernel
theorem dX40_finds_139 : decode cX40_finds 139 = .ok (.bipush 6, 2) := by decide +kernel
theorem dX40_finds_141 : decode cX40_finds 141 = .ok (.ishr, 1) := by decide +kernel
theorem dX40_finds_142 : decode cX40_finds 142 = .ok (.bipush 32, 2) := by decide +kernel
theorem dX40_finds_144 : decode cX40_finds 144 = .ok (.isub, 1) := by decide +kernel
theorem dX40_finds_145 : decode cX40_finds 145 = .ok (.iload 7, 2) := by decide +kernel
theorem dX40_finds_147 : decode cX40_finds 147 = .ok (.iload 9, 2) := by decide +kernel
theorem dX40_finds_149 : decode cX40_finds 149 = .ok (.invokevirtual 68, 3) := by decide +kernel
theorem dX40_finds_152 : decode cX40_finds 152 = .ok (.ifCond .ne 6, 3) := by decide +kernel
theorem dX40_finds_155 : decode cX40_finds 155 = .ok (.goto 39, 3) := by decide +kernel
theorem dX40_finds_158 : decode cX40_finds 158 = .ok (.aload_n 0, 1) := by decide +kernel
theorem dX40_finds_159 : decode cX40_finds 159 = .ok (.iload 5, 2) := by decide +kernel
theorem dX40_finds_161 : decode cX40_finds 161 = .ok (.iload 9, 2) := by decide +kernel
theorem dX40_finds_163 : decode cX40_finds 163 = .ok (.invokevirtual 178, 3) := by decide +kernel
theorem dX40_finds_166 : decode cX40_finds 166 = .ok (.istore 10, 2) := by decide +kernel
theorem dX40_finds_168 : decode cX40_finds 168 = .ok (.aload_n 0, 1) := by decide +kernel
theorem dX40_finds_169 : decode cX40_finds 169 = .ok (.aload_n 1, 1) := by decide +kernel
theorem dX40_finds_170 : decode cX40_finds 170 = .ok (.iload_n 2, 1) := by decide +kernel
theorem dX40_finds_171 : decode cX40_finds 171 = .ok (.iconst 1, 1) := by decide +kernel
theorem dX40_finds_172 : decode cX40_finds 172 = .ok (.iadd, 1) := by decide +kernel
theorem dX40_finds_173 : decode cX40_finds 173 = .ok (.invokestatic 181, 3) := by decide +kernel
theorem dX40_finds_176 : decode cX40_finds 176 = .ok (.istore 6, 2) := by decide +kernel
theorem dX40_finds_178 : decode cX40_finds 178 = .ok (.iload 5, 2) := by decide +kernel
theorem dX40_finds_180 : decode cX40_finds 180 = .ok (.bipush 6, 2) := by decide +kernel
theorem dX40_finds_182 : decode cX40_finds 182 = .ok (.if_icmp .ge 12, 3) := by decide +kernel
theorem dX40_finds_185 : decode cX40_finds 185 = .ok (.aload_n 0, 1) := by decide +kernel
theorem dX40_finds_186 : decode cX40_finds 186 = .ok (.getfield 42, 3) := by decide +kernel
theorem dX40_finds_189 : decode cX40_finds 189 = .ok (.iload 5, 2) := by decide +kernel
theorem dX40_finds_191 : decode cX40_finds 191 = .ok (.iload 10, 2) := by decide +kernel
theorem dX40_finds_193 : decode cX40_finds 193 = .ok (.iastore, 1) := by decide +kernel
theorem dX40_finds_194 : decode cX40_finds 194 = .ok (.iinc 9 1, 3) := by decide +kernel
theorem dX40_finds_197 : decode cX40_finds 197 = .ok (.goto (-120), 3) := by decide +kernel
theorem dX40_finds_200 : decode cX40_finds 200 = .ok (.iload 4, 2) := by decide +kernel
theorem dX40_finds_202 : decode cX40_finds 202 = .ok (.bipush 6, 2) := by decide +kernel
theorem dX40_finds_204 : decode cX40_finds 204 = .ok (.if_icmp .ge 12, 3) := by decide +kernel
theorem dX40_finds_207 : decode cX40_finds 207 = .ok (.aload_n 0, 1) := by decide +kernel
theorem dX40_finds_208 : decode cX40_finds 208 = .ok (.getfield 42, 3) := by decide +kernel
theorem dX40_finds_211 : decode cX40_finds 211 = .ok (.iload 4, 2) := by decide +kernel
theorem dX40_finds_213 : decode cX40_finds 213 = .ok (.iload 8, 2) := by decide +kernel
theorem dX40_finds_215 : decode cX40_finds 215 = .ok (.iastore, 1) := by decide +kernel
theorem dX40_finds_216 : decode cX40_finds 216 = .ok (.iinc 7 1, 3) := by decide +kernel
theorem dX40_finds_219 : decode cX40_finds 219 = .ok (.goto (-181), 3) := by decide +kernel
theorem dX40_finds_222 : decode cX40_finds 222 = .ok (.iload 6, 2) := by decide +kernel
theorem dX40_finds_224 : decode cX40_finds 224 = .ok (.ireturn, 1) := by decide +kernel
abbrev cX40_given : ByteArray := prog_45_method_20_code
def yX40_given : MethodName := ⟨RX40, "given", "(II)I"⟩
theorem dX40_given_0 : decode cX40_given 0 = .ok (.iload_n 1, 1) := by decide +kernel
theorem dX40_given_1 : decode cX40_given 1 = .ok (.bipush 6, 2) := by decide +kernel
theorem dX40_given_3 : decode cX40_given 3 = .ok (.if_icmp .eq 9, 3) := by decide +kernel
theorem dX40_given_6 : decode cX40_given 6 = .ok (.iload_n 1, 1) := by decide +kernel
theorem dX40_given_7 : decode cX40_given 7 = .ok (.bipush 7, 2) := by decide +kernel
theorem dX40_given_9 : decode cX40_given 9 = .ok (.if_icmp .ne 5, 3) := by decide +kernel
theorem dX40_given_12 : decode cX40_given 12 = .ok (.iload_n 2, 1) := by decide +kernel
theorem dX40_given_13 : decode cX40_given 13 = .ok (.ireturn, 1) := by decide +kernel
theorem dX40_given_14 : decode cX40_given 14 = .ok (.aload_n 0, 1) := by decide +kernel
theorem dX40_given_15 : decode cX40_given 15 = .ok (.getfield 42, 3) := by decide +kernel
theorem dX40_given_18 : decode cX40_given 18 = .ok (.iload_n 1, 1) := by decide +kernel
theorem dX40_given_19 : decode cX40_given 19 = .ok (.iaload, 1) := by decide +kernel
theorem dX40_given_20 : decode cX40_given 20 = .ok (.istore_n 3, 1) := by decide +kernel
theorem dX40_given_21 : decode cX40_given 21 = .ok (.aload_n 0, 1) := by decide +kernel
theorem dX40_given_22 : decode cX40_given 22 = .ok (.getfield 42, 3) := by decide +kernel
theorem dX40_given_25 : decode cX40_given 25 = .ok (.iload_n 1, 1) := by decide +kernel
theorem dX40_given_26 : decode cX40_given 26 = .ok (.iload_n 2, 1) := by decide +kernel
theorem dX40_given_27 : decode cX40_given 27 = .ok (.iastore, 1) := by decide +kernel
theorem dX40_given_28 : decode cX40_given 28 = .ok (.iload_n 3, 1) := by decide +kernel
theorem dX40_given_29 : decode cX40_given 29 = .ok (.ireturn, 1) := by decide +kernel
abbrev cX40_answer : ByteArray := prog_45_method_31_code
def yX40_answer : MethodName := ⟨RX40, "answer", "(II)I"⟩
theorem dX40_answer_0 : decode cX40_answer 0 = .ok (.aload_n 0, 1) := by decide +kernel
theorem dX40_answer_1 : decode cX40_answer 1 = .ok (.iload_n 1, 1) := by decide +kernel
theorem dX40_answer_2 : decode cX40_answer 2 = .ok (.invokevirtual 200, 3) := by decide +kernel
theorem dX40_answer_5 : decode cX40_answer 5 = .ok (.istore_n 3, 1) := by decide +kernel
theorem dX40_answer_6 : decode cX40_answer 6 = .ok (.iload_n 3, 1) := by decide +kernel
theorem dX40_answer_7 : decode cX40_answer 7 = .ok (.ifCond .ge 5, 3) := by decide +kernel
theorem dX40_answer_10 : decode cX40_answer 10 = .ok (.iload_n 3, 1) := by decide +kernel
theorem dX40_answer_11 : decode cX40_answer 11 = .ok (.ireturn, 1) := by decide +kernel
theorem dX40_answer_12 : decode cX40_answer 12 = .ok (.iload_n 2, 1) := by decide +kernel
theorem dX40_answer_13 : decode cX40_answer 13 = .ok (.ifCond .lt 10, 3) := by decide +kernel
theorem dX40_answer_16 : decode cX40_answer 16 = .ok (.iload_n 2, 1) := by decide +kernel
theorem dX40_answer_17 : decode cX40_answer 17 = .ok (.sipush 192, 3) := by decide +kernel
theorem dX40_answer_20 : decode cX40_answer 20 = .ok (.if_icmp .lt 7, 3) := by decide +kernel
theorem dX40_answer_23 : decode cX40_answer 23 = .ok (.iconst (-1), 1) := by decide +kernel
theorem dX40_answer_24 : decode cX40_answer 24 = .ok (.goto 14, 3) := by decide +kernel
theorem dX40_answer_27 : decode cX40_answer 27 = .ok (.aload_n 0, 1) := by decide +kernel
theorem dX40_answer_28 : decode cX40_answer 28 = .ok (.aload_n 0, 1) := by decide +kernel
theorem dX40_answer_29 : decode cX40_answer 29 = .ok (.getfield 35, 3) := by decide +kernel
theorem dX40_answer_32 : decode cX40_answer 32 = .ok (.iload_n 1, 1) := by decide +kernel
theorem dX40_answer_33 : decode cX40_answer 33 = .ok (.aaload, 1) := by decide +kernel
theorem dX40_answer_34 : decode cX40_answer 34 = .ok (.iload_n 2, 1) := by decide +kernel
theorem dX40_answer_35 : decode cX40_answer 35 = .ok (.invokevirtual 212, 3) := by decide +kernel
theorem dX40_answer_38 : decode cX40_answer 38 = .ok (.istore 4, 2) := by decide +kernel
theorem dX40_answer_40 : decode cX40_answer 40 = .ok (.iload 4, 2) := by decide +kernel
theorem dX40_answer_42 : decode cX40_answer 42 = .ok (.ifCond .ge 7, 3) := by decide +kernel
theorem dX40_answer_45 : decode cX40_answer 45 = .ok (.iconst (-1), 1) := by decide +kernel
theorem dX40_answer_46 : decode cX40_answer 46 = .ok (.goto 5, 3) := by decide +kernel
theorem dX40_answer_49 : decode cX40_answer 49 = .ok (.iload 4, 2) := by decide +kernel
theorem dX40_answer_51 : decode cX40_answer 51 = .ok (.ireturn, 1) := by decide +kernel
abbrev cX40_why : ByteArray := prog_45_method_32_code
def yX40_why : MethodName := ⟨RX40, "why", "(II)I"⟩
theorem dX40_why_0 : decode cX40_why 0 = .ok (.aload_n 0, 1) := by decide +kernel
theorem dX40_why_1 : decode cX40_why 1 = .ok (.iload_n 1, 1) := by decide +kernel
theorem dX40_why_2 : decode cX40_why 2 = .ok (.invokevirtual 200, 3) := by decide +kernel
theorem dX40_why_5 : decode cX40_why 5 = .ok (.istore_n 3, 1) := by decide +kernel
theorem dX40_why_6 : decode cX40_why 6 = .ok (.iload_n 3, 1) := by decide +kernel
theorem dX40_why_7 : decode cX40_why 7 = .ok (.ifCond .ge 5, 3) := by decide +kernel
theorem dX40_why_10 : decode cX40_why 10 = .ok (.iload_n 3, 1) := by decide +kernel
theorem dX40_why_11 : decode cX40_why 11 = .ok (.ireturn, 1) := by decide +kernel
theorem dX40_why_12 : decode cX40_why 12 = .ok (.aload_n 0, 1) := by decide +kernel
theorem dX40_why_13 : decode cX40_why 13 = .ok (.getfield 35, 3) := by decide +kernel
theorem dX40_why_16 : decode cX40_why 16 = .ok (.iload_n 1, 1) := by decide +kernel
theorem dX40_why_17 : decode cX40_why 17 = .ok (.aaload, 1) := by decide +kernel
theorem dX40_why_18 : decode cX40_why 18 = .ok (.astore 4, 2) := by decide +kernel
theorem dX40_why_20 : decode cX40_why 20 = .ok (.aload 4, 2) := by decide +kernel
theorem dX40_why_22 : decode cX40_why 22 = .ok (.iload_n 2, 1) := by decide +kernel
theorem dX40_why_23 : decode cX40_why 23 = .ok (.invokestatic 204, 3) := by decide +kernel
theorem dX40_why_26 : decode cX40_why 26 = .ok (.ifCond .eq 13, 3) := by decide +kernel
theorem dX40_why_29 : decode cX40_why 29 = .ok (.aload_n 0, 1) := by decide +kernel
theorem dX40_why_30 : decode cX40_why 30 = .ok (.aload 4, 2) := by decide +kernel
theorem dX40_why_32 : decode cX40_why 32 = .ok (.iload_n 2, 1) := by decide +kernel
theorem dX40_why_33 : decode cX40_why 33 = .ok (.invokevirtual 208, 3) := by decide +kernel
theorem dX40_why_36 : decode cX40_why 36 = .ok (.goto 4, 3) := by decide +kernel
theorem dX40_why_39 : decode cX40_why 39 = .ok (.iconst (-1), 1) := by decide +kernel
theorem dX40_why_40 : decode cX40_why 40 = .ok (.ireturn, 1) := by decide +kernel
abbrev cX40_broken : ByteArray := prog_45_method_33_code
def yX40_broken : MethodName := ⟨RX40, "broken", "()I"⟩
theorem dX40_broken_0 : decode cX40_broken 0 = .ok (.iconst 0, 1) := by decide +kernel
theorem dX40_broken_1 : decode cX40_broken 1 = .ok (.istore_n 1, 1) := by decide +kernel
theorem dX40_broken_2 : decode cX40_broken 2 = .ok (.iload_n 1, 1) := by decide +kernel
theorem dX40_broken_3 : decode cX40_broken 3 = .ok (.aload_n 0, 1) := by decide +kernel
theorem dX40_broken_4 : decode cX40_broken 4 = .ok (.getfield 53, 3) := by decide +kernel
theorem dX40_broken_7 : decode cX40_broken 7 = .ok (.if_icmp .ge 62, 3) := by decide +kernel
theorem dX40_broken_10 : decode cX40_broken 10 = .ok (.aload_n 0, 1) := by decide +kernel
theorem dX40_broken_11 : decode cX40_broken 11 = .ok (.getfield 39, 3) := by decide +kernel
theorem dX40_broken_14 : decode cX40_broken 14 = .ok (.iload_n 1, 1) := by decide +kernel
theorem dX40_broken_15 : decode cX40_broken 15 = .ok (.aaload, 1) := by decide +kernel
theorem dX40_broken_16 : decode cX40_broken 16 = .ok (.ifnonnull 6, 3) := by decide +kernel
theorem dX40_broken_19 : decode cX40_broken 19 = .ok (.goto 44, 3) := by decide +kernel
theorem dX40_broken_22 : decode cX40_broken 22 = .ok (.aload_n 0, 1) := by decide +kernel
theorem dX40_broken_23 : decode cX40_broken 23 = .ok (.aload_n 0, 1) := by decide +kernel
theorem dX40_broken_24 : decode cX40_broken 24 = .ok (.getfield 39, 3) := by decide +kernel
theorem dX40_broken_27 : decode cX40_broken 27 = .ok (.iload_n 1, 1) := by decide +kernel
theorem dX40_broken_28 : decode cX40_broken 28 = .ok (.aaload, 1) := by decide +kernel
theorem dX40_broken_29 : decode cX40_broken 29 = .ok (.invokevirtual 197, 3) := by decide +kernel
theorem dX40_broken_32 : decode cX40_broken 32 = .ok (.aload_n 0, 1) := by decide +kernel
theorem dX40_broken_33 : decode cX40_broken 33 = .ok (.getfield 39, 3) := by decide +kernel
theorem dX40_broken_36 : decode cX40_broken 36 = .ok (.iload_n 1, 1) := by decide +kernel
theorem dX40_broken_37 : decode cX40_broken 37 = .ok (.aaload, 1) := by decide +kernel
theorem dX40_broken_38 : decode cX40_broken 38 = .ok (.getfield 97, 3) := by decide +kernel
theorem dX40_broken_41 : decode cX40_broken 41 = .ok (.ifCond .eq 6, 3) := by decide +kernel
theorem dX40_broken_44 : decode cX40_broken 44 = .ok (.bipush (-3), 2) := by decide +kernel
theorem dX40_broken_46 : decode cX40_broken 46 = .ok (.ireturn, 1) := by decide +kernel
theorem dX40_broken_47 : decode cX40_broken 47 = .ok (.aload_n 0, 1) := by decide +kernel
theorem dX40_broken_48 : decode cX40_broken 48 = .ok (.aload_n 0, 1) := by decide +kernel
theorem dX40_broken_49 : decode cX40_broken 49 = .ok (.getfield 39, 3) := by decide +kernel
theorem dX40_broken_52 : decode cX40_broken 52 = .ok (.iload_n 1, 1) := by decide +kernel
theorem dX40_broken_53 : decode cX40_broken 53 = .ok (.aaload, 1) := by decide +kernel
theorem dX40_broken_54 : decode cX40_broken 54 = .ok (.iconst 0, 1) := by decide +kernel
theorem dX40_broken_55 : decode cX40_broken 55 = .ok (.invokevirtual 208, 3) := by decide +kernel
theorem dX40_broken_58 : decode cX40_broken 58 = .ok (.ifCond .lt 5, 3) := by decide +kernel
theorem dX40_broken_61 : decode cX40_broken 61 = .ok (.iload_n 1, 1) := by decide +kernel
theorem dX40_broken_62 : decode cX40_broken 62 = .ok (.ireturn, 1) := by decide +kernel
theorem dX40_broken_63 : decode cX40_broken 63 = .ok (.iinc 1 1, 3) := by decide +kernel
theorem dX40_broken_66 : decode cX40_broken 66 = .ok (.goto (-64), 3) := by decide +kernel
theorem dX40_broken_69 : decode cX40_broken 69 = .ok (.iconst (-1), 1) := by decide +kernel
theorem dX40_broken_70 : decode cX40_broken 70 = .ok (.ireturn, 1) := by decide +kernel
abbrev cX40_count : ByteArray := prog_45_method_34_code
def yX40_count : MethodName := ⟨RX40, "count", "(I)I"⟩
theorem dX40_count_0 : decode cX40_count 0 = .ok (.iload_n 1, 1) := by decide +kernel
theorem dX40_count_1 : decode cX40_count 1 = .ok (.ifCond .ne 10, 3) := by decide +kernel
theorem dX40_count_4 : decode cX40_count 4 = .ok (.aload_n 0, 1) := by decide +kernel
theorem dX40_count_5 : decode cX40_count 5 = .ok (.getfield 53, 3) := by decide +kernel
theorem dX40_count_8 : decode cX40_count 8 = .ok (.goto 28, 3) := by decide +kernel
theorem dX40_count_11 : decode cX40_count 11 = .ok (.iload_n 1, 1) := by decide +kernel
theorem dX40_count_12 : decode cX40_count 12 = .ok (.iconst 1, 1) := by decide +kernel
theorem dX40_count_13 : decode cX40_count 13 = .ok (.if_icmp .ne 10, 3) := by decide +kernel
theorem dX40_count_16 : decode cX40_count 16 = .ok (.aload_n 0, 1) := by decide +kernel
theorem dX40_count_17 : decode cX40_count 17 = .ok (.getfield 61, 3) := by decide +kernel
theorem dX40_count_20 : decode cX40_count 20 = .ok (.goto 16, 3) := by decide +kernel
theorem dX40_count_23 : decode cX40_count 23 = .ok (.iload_n 1, 1) := by decide +kernel
theorem dX40_count_24 : decode cX40_count 24 = .ok (.iconst 2, 1) := by decide +kernel
theorem dX40_count_25 : decode cX40_count 25 = .ok (.if_icmp .ne 10, 3) := by decide +kernel
theorem dX40_count_28 : decode cX40_count 28 = .ok (.aload_n 0, 1) := by decide +kernel
theorem dX40_count_29 : decode cX40_count 29 = .ok (.getfield 85, 3) := by decide +kernel
theorem dX40_count_32 : decode cX40_count 32 = .ok (.goto 4, 3) := by decide +kernel
theorem dX40_count_35 : decode cX40_count 35 = .ok (.iconst (-1), 1) := by decide +kernel
theorem dX40_count_36 : decode cX40_count 36 = .ok (.ireturn, 1) := by decide +kernel
abbrev cX40_clear : ByteArray := prog_45_method_35_code
def yX40_clear : MethodName := ⟨RX40, "clear", "()I"⟩
theorem dX40_clear_0 : decode cX40_clear 0 = .ok (.aload_n 0, 1) := by decide +kernel
theorem dX40_clear_1 : decode cX40_clear 1 = .ok (.getfield 85, 3) := by decide +kernel
theorem dX40_clear_4 : decode cX40_clear 4 = .ok (.istore_n 1, 1) := by decide +kernel
theorem dX40_clear_5 : decode cX40_clear 5 = .ok (.aload_n 0, 1) := by decide +kernel
theorem dX40_clear_6 : decode cX40_clear 6 = .ok (.iconst 0, 1) := by decide +kernel
theorem dX40_clear_7 : decode cX40_clear 7 = .ok (.putfield 85, 3) := by decide +kernel
theorem dX40_clear_10 : decode cX40_clear 10 = .ok (.iload_n 1, 1) := by decide +kernel
theorem dX40_clear_11 : decode cX40_clear 11 = .ok (.ireturn, 1) := by decide +kernel
theorem in_X40 : ∀ w ∈ wsX400, w ∈ lw_all := lw_in wsX400 [1744, 1746, 1748, 1750, 1752, 1754, 1756, 1758, 1760, 1762, 1764, 1766] (by decide +kernel) (by decide +kernel)
def RX41 : String := "KnowHouse$QlRewrite$Draft"
def TX41 : u_T := fun k => match k with
  | 0 => ("KnowHouse$QlRewrite$Draft", "first", "I", false)
  | 1 => ("KnowHouse$QlRewrite$Draft", "second", "I", false)
  | 2 => ("KnowHouse$QlRewrite$Draft", "names", "[I", true)
  | 3 => ("KnowHouse$QlRewrite$Draft", "from", "[I", true)
  | 4 => ("KnowHouse$QlRewrite$Draft", "to", "[I", true)
  | 5 => ("KnowHouse$QlRewrite$Draft", "n", "I", false)
  | 6 => ("KnowHouse$QlRewrite$Draft", "codes", "[I", true)
  | 7 => ("KnowHouse$QlRewrite$Draft", "least", "[I", true)
  | 8 => ("KnowHouse$QlRewrite$Draft", "hasLeast", "Z", false)
  | 9 => ("KnowHouse$QlRewrite$Draft", "others", "[I", true)
  | 10 => ("KnowHouse$QlRewrite$Draft", "otherCount", "I", false)
  | _ => ("KnowHouse$QlRewrite$Draft", "named", "[I", true)
def tyX41 : Nat → FieldType := fun k => match k with
  | 0 => .int
  | 1 => .int
  | 2 => .array .int
  | 3 => .array .int
  | 4 => .array .int
  | 5 => .int
  | 6 => .array .int
  | 7 => .array .int
  | 8 => .boolean
  | 9 => .array .int
  | 10 => .int
  | _ => .array .int
abbrev wsX410 : List Cond := u_ws RX41 TX41 12
theorem nmX41 : ∀ a, a < 12 → ∀ b, b < 12 → a ≠ b → (TX41 a).2.1 ≠ (TX41 b).2.1 := by decide +kernel
theorem tyX41_ok : ∀ k, k < 12 → parseFieldDescriptor (TX41 k).2.2.1 = some (tyX41 k) := by decide +kernel
abbrev cX41_init : ByteArray := prog_46_method_1_code
def yX41_init : MethodName := ⟨RX41, "<init>", "()V"⟩
theorem dX41_init_0 : decode cX41_init 0 = .ok (.aload_n 0, 1) := by decide +kernel
theorem dX41_init_1 : decode cX41_init 1 = .ok (.invokespecial 3, 3) := by decide +kernel
theorem dX41_init_4 : decode cX41_init 4 = .ok (.aload_n 0, 1) := by decide +kernel
theorem dX41_init_5 : decode cX41_init 5 = .ok (.iconst 4, 1) := by decide +kernel
theorem dX41_init_6 : decode cX41_init 6 = .ok (.newarray .int, 2) := by decide +kernel
theorem dX41_init_8 : decode cX41_init 8 = .ok (.putfield 9, 3) := by decide +kernel
theorem dX41_init_11 : decode cX41_init 11 = .ok (.aload_n 0, 1) := by decide +kernel
theorem dX41_init_12 : decode cX41_init 12 = .ok (.iconst 4, 1) := by decide +kernel
theorem dX41_init_13 : decode cX41_init 13 = .ok (.newarray .int, 2) := by decide +kernel
theorem dX41_init_15 : decode cX41_init 15 = .ok (.putfield 15, 3) := by decide +kernel
theorem dX41_init_18 : decode cX41_init 18 = .ok (.aload_n 0, 1) := by decide +kernel
theorem dX41_init_19 : decode cX41_init 19 = .ok (.iconst 4, 1) := by decide +kernel
theorem dX41_init_20 : decode cX41_init 20 = .ok (.newarray .int, 2) := by decide +kernel
theorem dX41_init_22 : decode cX41_init 22 = .ok (.putfield 18, 3) := by decide +kernel
theorem dX41_init_25 : decode cX41_init 25 = .ok (.aload_n 0, 1) := by decide +kernel
theorem dX41_init_26 : decode cX41_init 26 = .ok (.iconst 4, 1) := by decide +kernel
theorem dX41_init_27 : decode cX41_init 27 = .ok (.newarray .int, 2) := by decide +kernel
theorem dX41_init_29 : decode cX41_init 29 = .ok (.putfield 21, 3) := by decide +kernel
theorem dX41_init_32 : decode cX41_init 32 = .ok (.aload_n 0, 1) := by decide +kernel
theorem dX41_init_33 : decode cX41_init 33 = .ok (.iconst 4, 1) := by decide +kernel
theorem dX41_init_34 : decode cX41_init 34 = .ok (.newarray .int, 2) := by decide +kernel
theorem dX41_init_36 : decode cX41_init 36 = .ok (.putfield 24, 3) := by decide +kernel
theorem dX41_init_39 : decode cX41_init 39 = .ok (.aload_n 0, 1) := by decide +kernel
theorem dX41_init_40 : decode cX41_init 40 = .ok (.bipush 8, 2) := by decide +kernel
theorem dX41_init_42 : decode cX41_init 42 = .ok (.newarray .int, 2) := by decide +kernel
theorem dX41_init_44 : decode cX41_init 44 = .ok (.putfield 27, 3) := by decide +kernel
theorem dX41_init_47 : decode cX41_init 47 = .ok (.aload_n 0, 1) := by decide +kernel
theorem dX41_init_48 : decode cX41_init 48 = .ok (.bipush 8, 2) := by decide +kernel
theorem dX41_init_50 : decode cX41_init 50 = .ok (.newarray .int, 2) := by decide +kernel
theorem dX41_init_52 : decode cX41_init 52 = .ok (.putfield 30, 3) := by decide +kernel
theorem dX41_init_55 : decode cX41_init 55 = .ok (.return_, 1) := by decide +kernel
abbrev cX41_begin : ByteArray := prog_46_method_2_code
def yX41_begin : MethodName := ⟨RX41, "begin", "(II)V"⟩
theorem dX41_begin_0 : decode cX41_begin 0 = .ok (.aload_n 0, 1) := by decide +kernel
theorem dX41_begin_1 : decode cX41_begin 1 = .ok (.iload_n 1, 1) := by decide +kernel
theorem dX41_begin_2 : decode cX41_begin 2 = .ok (.putfield 33, 3) := by decide +kernel
theorem dX41_begin_5 : decode cX41_begin 5 = .ok (.aload_n 0, 1) := by decide +kernel
theorem dX41_begin_6 : decode cX41_begin 6 = .ok (.iload_n 2, 1) := by decide +kernel
theorem dX41_begin_7 : decode cX41_begin 7 = .ok (.putfield 37, 3) := by decide +kernel
theorem dX41_begin_10 : decode cX41_begin 10 = .ok (.aload_n 0, 1) := by decide +kernel
theorem dX41_begin_11 : decode cX41_begin 11 = .ok (.iconst 0, 1) := by decide +kernel
theorem dX41_begin_12 : decode cX41_begin 12 = .ok (.putfield 40, 3) := by decide +kernel
theorem dX41_begin_15 : decode cX41_begin 15 = .ok (.return_, 1) := by decide +kernel
abbrev cX41_add : ByteArray := prog_46_method_3_code
def yX41_add : MethodName := ⟨RX41, "add", "(III)V"⟩
theorem dX41_add_0 : decode cX41_add 0 = .ok (.aload_n 0, 1) := by decide +kernel
theorem dX41_add_1 : decode cX41_add 1 = .ok (.getfield 9, 3) := by decide +kernel
theorem dX41_add_4 : decode cX41_add 4 = .ok (.aload_n 0, 1) := by decide +kernel
theorem dX41_add_5 : decode cX41_add 5 = .ok (.getfield 40, 3) := by decide +kernel
theorem dX41_add_8 : decode cX41_add 8 = .ok (.iload_n 1, 1) := by decide +kernel
theorem dX41_add_9 : decode cX41_add 9 = .ok (.iastore, 1) := by decide +kernel
theorem dX41_add_10 : decode cX41_add 10 = .ok (.aload_n 0, 1) := by decide +kernel
theorem dX41_add_11 : decode cX41_add 11 = .ok (.getfield 15, 3) := by decide +kernel
theorem dX41_add_14 : decode cX41_add 14 = .ok (.aload_n 0, 1) := by decide +kernel
theorem dX41_add_15 : decode cX41_add 15 = .ok (.getfield 40, 3) := by decide +kernel
theorem dX41_add_18 : decode cX41_add 18 = .ok (.iload_n 2, 1) := by decide +kernel
theorem dX41_add_19 : decode cX41_add 19 = .ok (.iastore, 1) := by decide +kernel
theorem dX41_add_20 : decode cX41_add 20 = .ok (.aload_n 0, 1) := by decide +kernel
theorem dX41_add_21 : decode cX41_add 21 = .ok (.getfield 18, 3) := by decide +kernel
theorem dX41_add_24 : decode cX41_add 24 = .ok (.aload_n 0, 1) := by decide +kernel
theorem dX41_add_25 : decode cX41_add 25 = .ok (.getfield 40, 3) := by decide +kernel
theorem dX41_add_28 : decode cX41_add 28 = .ok (.iload_n 3, 1) := by decide +kernel
theorem dX41_add_29 : decode cX41_add 29 = .ok (.iastore, 1) := by decide +kernel
theorem dX41_add_30 : decode cX41_add 30 = .ok (.aload_n 0, 1) := by decide +kernel
theorem dX41_add_31 : decode cX41_add 31 = .ok (.dup, 1) := by decide +kernel
theorem dX41_add_32 : decode cX41_add 32 = .ok (.getfield 40, 3) := by decide +kernel
theorem dX41_add_35 : decode cX41_add 35 = .ok (.iconst 1, 1) := by decide +kernel
theorem dX41_add_36 : decode cX41_add 36 = .ok (.iadd, 1) := by decide +kernel
theorem dX41_add_37 : decode cX41_add 37 = .ok (.putfield 40, 3) := by decide +kernel
theorem dX41_add_40 : decode cX41_add 40 = .ok (.return_, 1) := by decide +kernel
abbrev cX41_settle : ByteArray := prog_46_method_18_code
def yX41_settle : MethodName := ⟨RX41, "settle", "()V"⟩
theorem dX41_settle_0 : decode cX41_settle 0 = .ok (.iconst 1, 1) := by decide +kernel
theorem dX41_settle_1 : decode cX41_settle 1 = .ok (.istore_n 1, 1) := by decide +kernel
theorem dX41_settle_2 : decode cX41_settle 2 = .ok (.iload_n 1, 1) := by decide +kernel
theorem dX41_settle_3 : decode cX41_settle 3 = .ok (.ifCond .eq 26, 3) := by decide +kernel
theorem dX41_settle_6 : decode cX41_settle 6 = .ok (.aload_n 0, 1) := by decide +kernel
theorem dX41_settle_7 : decode cX41_settle 7 = .ok (.invokevirtual 100, 3) := by decide +kernel
theorem dX41_settle_10 : decode cX41_settle 10 = .ok (.ifCond .ne 10, 3) := by decide +kernel
theorem dX41_settle_13 : decode cX41_settle 13 = .ok (.aload_n 0, 1) := by decide +kernel
theorem dX41_settle_14 : decode cX41_settle 14 = .ok (.invokevirtual 104, 3) := by decide +kernel
theorem dX41_settle_17 : decode cX41_settle 17 = .ok (.ifCond .eq 7, 3) := by decide +kernel
theorem dX41_settle_20 : decode cX41_settle 20 = .ok (.iconst 1, 1) := by decide +kernel
theorem dX41_settle_21 : decode cX41_settle 21 = .ok (.goto 4, 3) := by decide +kernel
theorem dX41_settle_24 : decode cX41_settle 24 = .ok (.iconst 0, 1) := by decide +kernel
theorem dX41_settle_25 : decode cX41_settle 25 = .ok (.istore_n 1, 1) := by decide +kernel
theorem dX41_settle_26 : decode cX41_settle 26 = .ok (.goto (-24), 3) := by decide +kernel
theorem dX41_settle_29 : decode cX41_settle 29 = .ok (.aload_n 0, 1) := by decide +kernel
theorem dX41_settle_30 : decode cX41_settle 30 = .ok (.iconst 0, 1) := by decide +kernel
theorem dX41_settle_31 : decode cX41_settle 31 = .ok (.putfield 83, 3) := by decide +kernel
theorem dX41_settle_34 : decode cX41_settle 34 = .ok (.iconst 0, 1) := by decide +kernel
theorem dX41_settle_35 : decode cX41_settle 35 = .ok (.istore_n 2, 1) := by decide +kernel
theorem dX41_settle_36 : decode cX41_settle 36 = .ok (.iload_n 2, 1) := by decide +kernel
theorem dX41_settle_37 : decode cX41_settle 37 = .ok (.aload_n 0, 1) := by decide +kernel
theorem dX41_settle_38 : decode cX41_settle 38 = .ok (.getfield 40, 3) := by decide +kernel
theorem dX41_settle_41 : decode cX41_settle 41 = .ok (.if_icmp .ge 29, 3) := by decide +kernel
theorem dX41_settle_44 : decode cX41_settle 44 = .ok (.aload_n 0, 1) := by decide +kernel
theorem dX41_settle_45 : decode cX41_settle 45 = .ok (.aload_n 0, 1) := by decide +kernel
theorem dX41_settle_46 : decode cX41_settle 46 = .ok (.getfield 15, 3) := by decide +kernel
theorem dX41_settle_49 : decode cX41_settle 49 = .ok (.iload_n 2, 1) := by decide +kernel
theorem dX41_settle_50 : decode cX41_settle 50 = .ok (.iaload, 1) := by decide +kernel
theorem dX41_settle_51 : decode cX41_settle 51 = .ok (.invokevirtual 107, 3) := by decide +kernel
theorem dX41_settle_54 : decode cX41_settle 54 = .ok (.aload_n 0, 1) := by decide +kernel
theorem dX41_settle_55 : decode cX41_settle 55 = .ok (.aload_n 0, 1) := by decide +kernel
theorem dX41_settle_56 : decode cX41_settle 56 = .ok (.getfield 18, 3) := by decide +kernel
theorem dX41_settle_59 : decode cX41_settle 59 = .ok (.iload_n 2, 1) := by decide +kernel
theorem dX41_settle_60 : decode cX41_settle 60 = .ok (.iaload, 1) := by decide +kernel
theorem dX41_settle_61 : decode cX41_settle 61 = .ok (.invokevirtual 107, 3) := by decide +kernel
theorem dX41_settle_64 : decode cX41_settle 64 = .ok (.iinc 2 1, 3) := by decide +kernel
theorem dX41_settle_67 : decode cX41_settle 67 = .ok (.goto (-31), 3) := by decide +kernel
theorem dX41_settle_70 : decode cX41_settle 70 = .ok (.aload_n 0, 1) := by decide +kernel
theorem dX41_settle_71 : decode cX41_settle 71 = .ok (.iconst 0, 1) := by decide +kernel
theorem dX41_settle_72 : decode cX41_settle 72 = .ok (.putfield 89, 3) := by decide +kernel
theorem dX41_settle_75 : decode cX41_settle 75 = .ok (.aload_n 0, 1) := by decide +kernel
theorem dX41_settle_76 : decode cX41_settle 76 = .ok (.iconst 0, 1) := by decide +kernel
theorem dX41_settle_77 : decode cX41_settle 77 = .ok (.iconst 0, 1) := by decide +kernel
theorem dX41_settle_78 : decode cX41_settle 78 = .ok (.invokestatic 96, 3) := by decide +kernel
theorem dX41_settle_81 : decode cX41_settle 81 = .ok (.aload_n 0, 1) := by decide +kernel
theorem dX41_settle_82 : decode cX41_settle 82 = .ok (.aload_n 0, 1) := by decide +kernel
theorem dX41_settle_83 : decode cX41_settle 83 = .ok (.getfield 37, 3) := by decide +kernel
theorem dX41_settle_86 : decode cX41_settle 86 = .ok (.ifCond .ge 7, 3) := by decide +kernel
theorem dX41_settle_89 : decode cX41_settle 89 = .ok (.iconst (-1), 1) := by decide +kernel
theorem dX41_settle_90 : decode cX41_settle 90 = .ok (.goto 19, 3) := by decide +kernel
theorem dX41_settle_93 : decode cX41_settle 93 = .ok (.aload_n 0, 1) := by decide +kernel
theorem dX41_settle_94 : decode cX41_settle 94 = .ok (.getfield 37, 3) := by decide +kernel
theorem dX41_settle_97 : decode cX41_settle 97 = .ok (.aload_n 0, 1) := by decide +kernel
theorem dX41_settle_98 : decode cX41_settle 98 = .ok (.getfield 33, 3) := by decide +kernel
theorem dX41_settle_101 : decode cX41_settle 101 = .ok (.if_icmp .ne 7, 3) := by decide +kernel
theorem dX41_settle_104 : decode cX41_settle 104 = .ok (.iconst 0, 1) := by decide +kernel
theorem dX41_settle_105 : decode cX41_settle 105 = .ok (.goto 4, 3) := by decide +kernel
theorem dX41_settle_108 : decode cX41_settle 108 = .ok (.iconst 1, 1) := by decide +kernel
theorem dX41_settle_109 : decode cX41_settle 109 = .ok (.putfield 37, 3) := by decide +kernel
theorem dX41_settle_112 : decode cX41_settle 112 = .ok (.aload_n 0, 1) := by decide +kernel
theorem dX41_settle_113 : decode cX41_settle 113 = .ok (.aload_n 0, 1) := by decide +kernel
theorem dX41_settle_114 : decode cX41_settle 114 = .ok (.getfield 33, 3) := by decide +kernel
theorem dX41_settle_117 : decode cX41_settle 117 = .ok (.ifCond .ge 7, 3) := by decide +kernel
theorem dX41_settle_120 : decode cX41_settle 120 = .ok (.iconst (-1), 1) := by decide +kernel
theorem dX41_settle_121 : decode cX41_settle 121 = .ok (.goto 4, 3) := by decide +kernel
theorem dX41_settle_124 : decode cX41_settle 124 = .ok (.iconst 0, 1) := by decide +kernel
theorem dX41_settle_125 : decode cX41_settle 125 = .ok (.putfield 33, 3) := by decide +kernel
theorem dX41_settle_128 : decode cX41_settle 128 = .ok (.return_, 1) := by decide +kernel
abbrev cX41_dropsEqual : ByteArray := prog_46_method_9_code
def yX41_dropsEqual : MethodName := ⟨RX41, "dropsEqual", "()Z"⟩
theorem dX41_dropsEqual_0 : decode cX41_dropsEqual 0 = .ok (.iconst 0, 1) := by decide +kernel
theorem dX41_dropsEqual_1 : decode cX41_dropsEqual 1 = .ok (.istore_n 1, 1) := by decide +kernel
theorem dX41_dropsEqual_2 : decode cX41_dropsEqual 2 = .ok (.iload_n 1, 1) := by decide +kernel
theorem dX41_dropsEqual_3 : decode cX41_dropsEqual 3 = .ok (.aload_n 0, 1) := by decide +kernel
theorem dX41_dropsEqual_4 : decode cX41_dropsEqual 4 = .ok (.getfield 40, 3) := by decide +kernel
theorem dX41_dropsEqual_7 : decode cX41_dropsEqual 7 = .ok (.if_icmp .ge 77, 3) := by decide +kernel
theorem dX41_dropsEqual_10 : decode cX41_dropsEqual 10 = .ok (.iconst 0, 1) := by decide +kernel
theorem dX41_dropsEqual_11 : decode cX41_dropsEqual 11 = .ok (.istore_n 2, 1) := by decide +kernel
theorem dX41_dropsEqual_12 : decode cX41_dropsEqual 12 = .ok (.iload_n 2, 1) := by decide +kernel
theorem dX41_dropsEqual_13 : decode cX41_dropsEqual 13 = .ok (.iload_n 1, 1) := by decide +kernel
theorem dX41_dropsEqual_14 : decode cX41_dropsEqual 14 = .ok (.if_icmp .ge 64, 3) := by decide +kernel
theorem dX41_dropsEqual_17 : decode cX41_dropsEqual 17 = .ok (.aload_n 0, 1) := by decide +kernel
theorem dX41_dropsEqual_18 : decode cX41_dropsEqual 18 = .ok (.getfield 9, 3) := by decide +kernel
theorem dX41_dropsEqual_21 : decode cX41_dropsEqual 21 = .ok (.iload_n 1, 1) := by decide +kernel
theorem dX41_dropsEqual_22 : decode cX41_dropsEqual 22 = .ok (.iaload, 1) := by decide +kernel
theorem dX41_dropsEqual_23 : decode cX41_dropsEqual 23 = .ok (.aload_n 0, 1) := by decide +kernel
theorem dX41_dropsEqual_24 : decode cX41_dropsEqual 24 = .ok (.getfield 9, 3) := by decide +kernel
theorem dX41_dropsEqual_27 : decode cX41_dropsEqual 27 = .ok (.iload_n 2, 1) := by decide +kernel
theorem dX41_dropsEqual_28 : decode cX41_dropsEqual 28 = .ok (.iaload, 1) := by decide +kernel
theorem dX41_dropsEqual_29 : decode cX41_dropsEqual 29 = .ok (.if_icmp .ne 43, 3) := by decide +kernel
theorem dX41_dropsEqual_32 : decode cX41_dropsEqual 32 = .ok (.aload_n 0, 1) := by decide +kernel
theorem dX41_dropsEqual_33 : decode cX41_dropsEqual 33 = .ok (.getfield 15, 3) := by decide +kernel
theorem dX41_dropsEqual_36 : decode cX41_dropsEqual 36 = .ok (.iload_n 1, 1) := by decide +kernel
theorem dX41_dropsEqual_37 : decode cX41_dropsEqual 37 = .ok (.iaload, 1) := by decide +kernel
theorem dX41_dropsEqual_38 : decode cX41_dropsEqual 38 = .ok (.aload_n 0, 1) := by decide +kernel
theorem dX41_dropsEqual_39 : decode cX41_dropsEqual 39 = .ok (.getfield 15, 3) := by decide +kernel
theorem dX41_dropsEqual_42 : decode cX41_dropsEqual 42 = .ok (.iload_n 2, 1) := by decide +kernel
theorem dX41_dropsEqual_43 : decode cX41_dropsEqual 43 = .ok (.iaload, 1) := by decide +kernel
theorem dX41_dropsEqual_44 : decode cX41_dropsEqual 44 = .ok (.if_icmp .ne 28, 3) := by decide +kernel
theorem dX41_dropsEqual_47 : decode cX41_dropsEqual 47 = .ok (.aload_n 0, 1) := by decide +kernel
theorem dX41_dropsEqual_48 : decode cX41_dropsEqual 48 = .ok (.getfield 18, 3) := by decide +kernel
theorem dX41_dropsEqual_51 : decode cX41_dropsEqual 51 = .ok (.iload_n 1, 1) := by decide +kernel
theorem dX41_dropsEqual_52 : decode cX41_dropsEqual 52 = .ok (.iaload, 1) := by decide +kernel
theorem dX41_dropsEqual_53 : decode cX41_dropsEqual 53 = .ok (.aload_n 0, 1) := by decide +kernel
theorem dX41_dropsEqual_54 : decode cX41_dropsEqual 54 = .ok (.getfield 18, 3) := by decide +kernel
theorem dX41_dropsEqual_57 : decode cX41_dropsEqual 57 = .ok (.iload_n 2, 1) := by decide +kernel
theorem dX41_dropsEqual_58 : decode cX41_dropsEqual 58 = .ok (.iaload, 1) := by decide +kernel
theorem dX41_dropsEqual_59 : decode cX41_dropsEqual 59 = .ok (.if_icmp .eq 6, 3) := by decide +kernel
theorem dX41_dropsEqual_62 : decode cX41_dropsEqual 62 = .ok (.goto 10, 3) := by decide +kernel
theorem dX41_dropsEqual_65 : decode cX41_dropsEqual 65 = .ok (.aload_n 0, 1) := by decide +kernel
theorem dX41_dropsEqual_66 : decode cX41_dropsEqual 66 = .ok (.iload_n 1, 1) := by decide +kernel
theorem dX41_dropsEqual_67 : decode cX41_dropsEqual 67 = .ok (.invokevirtual 68, 3) := by decide +kernel
theorem dX41_dropsEqual_70 : decode cX41_dropsEqual 70 = .ok (.iconst 1, 1) := by decide +kernel
theorem dX41_dropsEqual_71 : decode cX41_dropsEqual 71 = .ok (.ireturn, 1) := by decide +kernel
theorem dX41_dropsEqual_72 : decode cX41_dropsEqual 72 = .ok (.iinc 2 1, 3) := by decide +kernel
theorem dX41_dropsEqual_75 : decode cX41_dropsEqual 75 = .ok (.goto (-63), 3) := by decide +kernel
theorem dX41_dropsEqual_78 : decode cX41_dropsEqual 78 = .ok (.iinc 1 1, 3) := by decide +kernel
theorem dX41_dropsEqual_81 : decode cX41_dropsEqual 81 = .ok (.goto (-79), 3) := by decide +kernel
theorem dX41_dropsEqual_84 : decode cX41_dropsEqual 84 = .ok (.iconst 0, 1) := by decide +kernel
theorem dX41_dropsEqual_85 : decode cX41_dropsEqual 85 = .ok (.ireturn, 1) := by decide +kernel
abbrev cX41_drop : ByteArray := prog_46_method_8_code
def yX41_drop : MethodName := ⟨RX41, "drop", "(I)V"⟩
theorem dX41_drop_0 : decode cX41_drop 0 = .ok (.aload_n 0, 1) := by decide +kernel
theorem dX41_drop_1 : decode cX41_drop 1 = .ok (.dup, 1) := by decide +kernel
theorem dX41_drop_2 : decode cX41_drop 2 = .ok (.getfield 40, 3) := by decide +kernel
theorem dX41_drop_5 : decode cX41_drop 5 = .ok (.iconst 1, 1) := by decide +kernel
theorem dX41_drop_6 : decode cX41_drop 6 = .ok (.isub, 1) := by decide +kernel
theorem dX41_drop_7 : decode cX41_drop 7 = .ok (.putfield 40, 3) := by decide +kernel
theorem dX41_drop_10 : decode cX41_drop 10 = .ok (.iload_n 1, 1) := by decide +kernel
theorem dX41_drop_11 : decode cX41_drop 11 = .ok (.istore_n 2, 1) := by decide +kernel
theorem dX41_drop_12 : decode cX41_drop 12 = .ok (.iload_n 2, 1) := by decide +kernel
theorem dX41_drop_13 : decode cX41_drop 13 = .ok (.aload_n 0, 1) := by decide +kernel
theorem dX41_drop_14 : decode cX41_drop 14 = .ok (.getfield 40, 3) := by decide +kernel
theorem dX41_drop_17 : decode cX41_drop 17 = .ok (.if_icmp .ge 51, 3) := by decide +kernel
theorem dX41_drop_20 : decode cX41_drop 20 = .ok (.aload_n 0, 1) := by decide +kernel
theorem dX41_drop_21 : decode cX41_drop 21 = .ok (.getfield 9, 3) := by decide +kernel
theorem dX41_drop_24 : decode cX41_drop 24 = .ok (.iload_n 2, 1) := by decide +kernel
theorem dX41_drop_25 : decode cX41_drop 25 = .ok (.aload_n 0, 1) := by decide +kernel
theorem dX41_drop_26 : decode cX41_drop 26 = .ok (.getfield 9, 3) := by decide +kernel
theorem dX41_drop_29 : decode cX41_drop 29 = .ok (.iload_n 2, 1) := by decide +kernel
theorem dX41_drop_30 : decode cX41_drop 30 = .ok (.iconst 1, 1) := by decide +kernel
theorem dX41_drop_31 : decode cX41_drop 31 = .ok (.iadd, 1) := by decide +kernel
theorem dX41_drop_32 : decode cX41_drop 32 = .ok (.iaload, 1) := by decide +kernel
theorem dX41_drop_33 : decode cX41_drop 33 = .ok (.iastore, 1) := by decide +kernel
theorem dX41_drop_34 : decode cX41_drop 34 = .ok (.aload_n 0, 1) := by decide +kernel
theorem dX41_drop_35 : decode cX41_drop 35 = .ok (.getfield 15, 3) := by decide +kernel
theorem dX41_drop_38 : decode cX41_drop 38 = .ok (.iload_n 2, 1) := by decide +kernel
theorem dX41_drop_39 : decode cX41_drop 39 = .ok (.aload_n 0, 1) := by decide +kernel
theorem dX41_drop_40 : decode cX41_drop 40 = .ok (.getfield 15, 3) := by decide +kernel
theorem dX41_drop_43 : decode cX41_drop 43 = .ok (.iload_n 2, 1) := by decide +kernel
theorem dX41_drop_44 : decode cX41_drop 44 = .ok (.iconst 1, 1) := by decide +kernel
theorem dX41_drop_45 : decode cX41_drop 45 = .ok (.iadd, 1) := by decide +kernel
theorem dX41_drop_46 : decode cX41_drop 46 = .ok (.iaload, 1) := by decide +kernel
theorem dX41_drop_47 : decode cX41_drop 47 = .ok (.iastore, 1) := by decide +kernel
theorem dX41_drop_48 : decode cX41_drop 48 = .ok (.aload_n 0, 1) := by decide +kernel
theorem dX41_drop_49 : decode cX41_drop 49 = .ok (.getfield 18, 3) := by decide +kernel
theorem dX41_drop_52 : decode cX41_drop 52 = .ok (.iload_n 2, 1) := by decide +kernel
theorem dX41_drop_53 : decode cX41_drop 53 = .ok (.aload_n 0, 1) := by decide +kernel
theorem dX41_drop_54 : decode cX41_drop 54 = .ok (.getfield 18, 3) := by decide +kernel
theorem dX41_drop_57 : decode cX41_drop 57 = .ok (.iload_n 2, 1) := by decide +kernel
theorem dX41_drop_58 : decode cX41_drop 58 = .ok (.iconst 1, 1) := by decide +kernel
theorem dX41_drop_59 : decode cX41_drop 59 = .ok (.iadd, 1) := by decide +kernel
theorem dX41_drop_60 : decode cX41_drop 60 = .ok (.iaload, 1) := by decide +kernel
theorem dX41_drop_61 : decode cX41_drop 61 = .ok (.iastore, 1) := by decide +kernel
theorem dX41_drop_62 : decode cX41_drop 62 = .ok (.iinc 2 1, 3) := by decide +kernel
theorem dX41_drop_65 : decode cX41_drop 65 = .ok (.goto (-53), 3) := by decide +kernel
theorem dX41_drop_68 : decode cX41_drop 68 = .ok (.return_, 1) := by decide +kernel
abbrev cX41_freesOne : ByteArray := prog_46_method_13_code
def yX41_freesOne : MethodName := ⟨RX41, "freesOne", "()Z"⟩
theorem dX41_freesOne_0 : decode cX41_freesOne 0 = .ok (.iconst 0, 1) := by decide +kernel
theorem dX41_freesOne_1 : decode cX41_freesOne 1 = .ok (.istore_n 1, 1) := by decide +kernel
theorem dX41_freesOne_2 : decode cX41_freesOne 2 = .ok (.iload_n 1, 1) := by decide +kernel
theorem dX41_freesOne_3 : decode cX41_freesOne 3 = .ok (.aload_n 0, 1) := by decide +kernel
theorem dX41_freesOne_4 : decode cX41_freesOne 4 = .ok (.getfield 40, 3) := by decide +kernel
theorem dX41_freesOne_7 : decode cX41_freesOne 7 = .ok (.if_icmp .ge 55, 3) := by decide +kernel
theorem dX41_freesOne_10 : decode cX41_freesOne 10 = .ok (.aload_n 0, 1) := by decide +kernel
theorem dX41_freesOne_11 : decode cX41_freesOne 11 = .ok (.aload_n 0, 1) := by decide +kernel
theorem dX41_freesOne_12 : decode cX41_freesOne 12 = .ok (.getfield 15, 3) := by decide +kernel
theorem dX41_freesOne_15 : decode cX41_freesOne 15 = .ok (.iload_n 1, 1) := by decide +kernel
theorem dX41_freesOne_16 : decode cX41_freesOne 16 = .ok (.iaload, 1) := by decide +kernel
theorem dX41_freesOne_17 : decode cX41_freesOne 17 = .ok (.invokevirtual 80, 3) := by decide +kernel
theorem dX41_freesOne_20 : decode cX41_freesOne 20 = .ok (.ifCond .eq 13, 3) := by decide +kernel
theorem dX41_freesOne_23 : decode cX41_freesOne 23 = .ok (.aload_n 0, 1) := by decide +kernel
theorem dX41_freesOne_24 : decode cX41_freesOne 24 = .ok (.getfield 15, 3) := by decide +kernel
theorem dX41_freesOne_27 : decode cX41_freesOne 27 = .ok (.iload_n 1, 1) := by decide +kernel
theorem dX41_freesOne_28 : decode cX41_freesOne 28 = .ok (.bipush 6, 2) := by decide +kernel
theorem dX41_freesOne_30 : decode cX41_freesOne 30 = .ok (.iastore, 1) := by decide +kernel
theorem dX41_freesOne_31 : decode cX41_freesOne 31 = .ok (.iconst 1, 1) := by decide +kernel
theorem dX41_freesOne_32 : decode cX41_freesOne 32 = .ok (.ireturn, 1) := by decide +kernel
theorem dX41_freesOne_33 : decode cX41_freesOne 33 = .ok (.aload_n 0, 1) := by decide +kernel
theorem dX41_freesOne_34 : decode cX41_freesOne 34 = .ok (.aload_n 0, 1) := by decide +kernel
theorem dX41_freesOne_35 : decode cX41_freesOne 35 = .ok (.getfield 18, 3) := by decide +kernel
theorem dX41_freesOne_38 : decode cX41_freesOne 38 = .ok (.iload_n 1, 1) := by decide +kernel
theorem dX41_freesOne_39 : decode cX41_freesOne 39 = .ok (.iaload, 1) := by decide +kernel
theorem dX41_freesOne_40 : decode cX41_freesOne 40 = .ok (.invokevirtual 80, 3) := by decide +kernel
theorem dX41_freesOne_43 : decode cX41_freesOne 43 = .ok (.ifCond .eq 13, 3) := by decide +kernel
theorem dX41_freesOne_46 : decode cX41_freesOne 46 = .ok (.aload_n 0, 1) := by decide +kernel
theorem dX41_freesOne_47 : decode cX41_freesOne 47 = .ok (.getfield 18, 3) := by decide +kernel
theorem dX41_freesOne_50 : decode cX41_freesOne 50 = .ok (.iload_n 1, 1) := by decide +kernel
theorem dX41_freesOne_51 : decode cX41_freesOne 51 = .ok (.bipush 6, 2) := by decide +kernel
theorem dX41_freesOne_53 : decode cX41_freesOne 53 = .ok (.iastore, 1) := by decide +kernel
theorem dX41_freesOne_54 : decode cX41_freesOne 54 = .ok (.iconst 1, 1) := by decide +kernel
theorem dX41_freesOne_55 : decode cX41_freesOne 55 = .ok (.ireturn, 1) := by decide +kernel
theorem dX41_freesOne_56 : decode cX41_freesOne 56 = .ok (.iinc 1 1, 3) := by decide +kernel
theorem dX41_freesOne_59 : decode cX41_freesOne 59 = .ok (.goto (-57), 3) := by decide +kernel
theorem dX41_freesOne_62 : decode cX41_freesOne 62 = .ok (.iconst 0, 1) := by decide +kernel
theorem dX41_freesOne_63 : decode cX41_freesOne 63 = .ok (.ireturn, 1) := by decide +kernel
abbrev cX41_isLonely : ByteArray := prog_46_method_12_code
def yX41_isLonely : MethodName := ⟨RX41, "isLonely", "(I)Z"⟩
theorem dX41_isLonely_0 : decode cX41_isLonely 0 = .ok (.iload_n 1, 1) := by decide +kernel
theorem dX41_isLonely_1 : decode cX41_isLonely 1 = .ok (.invokestatic 72, 3) := by decide +kernel
theorem dX41_isLonely_4 : decode cX41_isLonely 4 = .ok (.ifCond .eq 32, 3) := by decide +kernel
theorem dX41_isLonely_7 : decode cX41_isLonely 7 = .ok (.iload_n 1, 1) := by decide +kernel
theorem dX41_isLonely_8 : decode cX41_isLonely 8 = .ok (.aload_n 0, 1) := by decide +kernel
theorem dX41_isLonely_9 : decode cX41_isLonely 9 = .ok (.getfield 33, 3) := by decide +kernel
theorem dX41_isLonely_12 : decode cX41_isLonely 12 = .ok (.if_icmp .eq 24, 3) := by decide +kernel
theorem dX41_isLonely_15 : decode cX41_isLonely 15 = .ok (.iload_n 1, 1) := by decide +kernel
theorem dX41_isLonely_16 : decode cX41_isLonely 16 = .ok (.aload_n 0, 1) := by decide +kernel
theorem dX41_isLonely_17 : decode cX41_isLonely 17 = .ok (.getfield 37, 3) := by decide +kernel
theorem dX41_isLonely_20 : decode cX41_isLonely 20 = .ok (.if_icmp .eq 16, 3) := by decide +kernel
theorem dX41_isLonely_23 : decode cX41_isLonely 23 = .ok (.aload_n 0, 1) := by decide +kernel
theorem dX41_isLonely_24 : decode cX41_isLonely 24 = .ok (.iload_n 1, 1) := by decide +kernel
theorem dX41_isLonely_25 : decode cX41_isLonely 25 = .ok (.invokevirtual 76, 3) := by decide +kernel
theorem dX41_isLonely_28 : decode cX41_isLonely 28 = .ok (.iconst 1, 1) := by decide +kernel
theorem dX41_isLonely_29 : decode cX41_isLonely 29 = .ok (.if_icmp .ne 7, 3) := by decide +kernel
theorem dX41_isLonely_32 : decode cX41_isLonely 32 = .ok (.iconst 1, 1) := by decide +kernel
theorem dX41_isLonely_33 : decode cX41_isLonely 33 = .ok (.goto 4, 3) := by decide +kernel
theorem dX41_isLonely_36 : decode cX41_isLonely 36 = .ok (.iconst 0, 1) := by decide +kernel
theorem dX41_isLonely_37 : decode cX41_isLonely 37 = .ok (.ireturn, 1) := by decide +kernel
abbrev cX41_isVariable : ByteArray := prog_46_method_10_code
def yX41_isVariable : MethodName := ⟨RX41, "isVariable", "(I)Z"⟩
theorem dX41_isVariable_0 : decode cX41_isVariable 0 = .ok (.iload_n 0, 1) := by decide +kernel
theorem dX41_isVariable_1 : decode cX41_isVariable 1 = .ok (.bipush 6, 2) := by decide +kernel
theorem dX41_isVariable_3 : decode cX41_isVariable 3 = .ok (.if_icmp .eq 13, 3) := by decide +kernel
theorem dX41_isVariable_6 : decode cX41_isVariable 6 = .ok (.iload_n 0, 1) := by decide +kernel
theorem dX41_isVariable_7 : decode cX41_isVariable 7 = .ok (.bipush 7, 2) := by decide +kernel
theorem dX41_isVariable_9 : decode cX41_isVariable 9 = .ok (.if_icmp .eq 7, 3) := by decide +kernel
theorem dX41_isVariable_12 : decode cX41_isVariable 12 = .ok (.iconst 1, 1) := by decide +kernel
theorem dX41_isVariable_13 : decode cX41_isVariable 13 = .ok (.goto 4, 3) := by decide +kernel
theorem dX41_isVariable_16 : decode cX41_isVariable 16 = .ok (.iconst 0, 1) := by decide +kernel
theorem dX41_isVariable_17 : decode cX41_isVariable 17 = .ok (.ireturn, 1) := by decide +kernel
abbrev cX41_many : ByteArray := prog_46_method_11_code
def yX41_many : MethodName := ⟨RX41, "many", "(I)I"⟩
theorem dX41_many_0 : decode cX41_many 0 = .ok (.iconst 0, 1) := by decide +kernel
theorem dX41_many_1 : decode cX41_many 1 = .ok (.istore_n 2, 1) := by decide +kernel
theorem dX41_many_2 : decode cX41_many 2 = .ok (.iconst 0, 1) := by decide +kernel
theorem dX41_many_3 : decode cX41_many 3 = .ok (.istore_n 3, 1) := by decide +kernel
theorem dX41_many_4 : decode cX41_many 4 = .ok (.iload_n 3, 1) := by decide +kernel
theorem dX41_many_5 : decode cX41_many 5 = .ok (.aload_n 0, 1) := by decide +kernel
theorem dX41_many_6 : decode cX41_many 6 = .ok (.getfield 40, 3) := by decide +kernel
theorem dX41_many_9 : decode cX41_many 9 = .ok (.if_icmp .ge 43, 3) := by decide +kernel
theorem dX41_many_12 : decode cX41_many 12 = .ok (.iload_n 2, 1) := by decide +kernel
theorem dX41_many_13 : decode cX41_many 13 = .ok (.aload_n 0, 1) := by decide +kernel
theorem dX41_many_14 : decode cX41_many 14 = .ok (.getfield 15, 3) := by decide +kernel
theorem dX41_many_17 : decode cX41_many 17 = .ok (.iload_n 3, 1) := by decide +kernel
theorem dX41_many_18 : decode cX41_many 18 = .ok (.iaload, 1) := by decide +kernel
theorem dX41_many_19 : decode cX41_many 19 = .ok (.iload_n 1, 1) := by decide +kernel
theorem dX41_many_20 : decode cX41_many 20 = .ok (.if_icmp .ne 7, 3) := by decide +kernel
theorem dX41_many_23 : decode cX41_many 23 = .ok (.iconst 1, 1) := by decide +kernel
theorem dX41_many_24 : decode cX41_many 24 = .ok (.goto 4, 3) := by decide +kernel
theorem dX41_many_27 : decode cX41_many 27 = .ok (.iconst 0, 1) := by decide +kernel
theorem dX41_many_28 : decode cX41_many 28 = .ok (.aload_n 0, 1) := by decide +kernel
theorem dX41_many_29 : decode cX41_many 29 = .ok (.getfield 18, 3) := by decide +kernel
theorem dX41_many_32 : decode cX41_many 32 = .ok (.iload_n 3, 1) := by decide +kernel
theorem dX41_many_33 : decode cX41_many 33 = .ok (.iaload, 1) := by decide +kernel
theorem dX41_many_34 : decode cX41_many 34 = .ok (.iload_n 1, 1) := by decide +kernel
theorem dX41_many_35 : decode cX41_many 35 = .ok (.if_icmp .ne 7, 3) := by decide +kernel
theorem dX41_many_38 : decode cX41_many 38 = .ok (.iconst 1, 1) := by decide +kernel
theorem dX41_many_39 : decode cX41_many 39 = .ok (.goto 4, 3) := by decide +kernel
theorem dX41_many_42 : decode cX41_many 42 = .ok (.iconst 0, 1) := by decide +kernel
theorem dX41_many_43 : decode cX41_many 43 = .ok (.iadd, 1) := by decide +kernel
theorem dX41_many_44 : decode cX41_many 44 = .ok (.iadd, 1) := by decide +kernel
theorem dX41_many_45 : decode cX41_many 45 = .ok (.istore_n 2, 1) := by decide +kernel
theorem dX41_many_46 : decode cX41_many 46 = .ok (.iinc 3 1, 3) := by decide +kernel
theorem dX41_many_49 : decode cX41_many 49 = .ok (.goto (-45), 3) := by decide +kernel
theorem dX41_many_52 : decode cX41_many 52 = .ok (.iload_n 2, 1) := by decide +kernel
theorem dX41_many_53 : decode cX41_many 53 = .ok (.ireturn, 1) := by decide +kernel
abbrev cX41_note : ByteArray := prog_46_method_14_code
def yX41_note : MethodName := ⟨RX41, "note", "(I)V"⟩
theorem dX41_note_0 : decode cX41_note 0 = .ok (.iload_n 1, 1) := by decide +kernel
theorem dX41_note_1 : decode cX41_note 1 = .ok (.invokestatic 72, 3) := by decide +kernel
theorem dX41_note_4 : decode cX41_note 4 = .ok (.ifCond .eq 19, 3) := by decide +kernel
theorem dX41_note_7 : decode cX41_note 7 = .ok (.iload_n 1, 1) := by decide +kernel
theorem dX41_note_8 : decode cX41_note 8 = .ok (.aload_n 0, 1) := by decide +kernel
theorem dX41_note_9 : decode cX41_note 9 = .ok (.getfield 33, 3) := by decide +kernel
theorem dX41_note_12 : decode cX41_note 12 = .ok (.if_icmp .eq 11, 3) := by decide +kernel
theorem dX41_note_15 : decode cX41_note 15 = .ok (.iload_n 1, 1) := by decide +kernel
theorem dX41_note_16 : decode cX41_note 16 = .ok (.aload_n 0, 1) := by decide +kernel
theorem dX41_note_17 : decode cX41_note 17 = .ok (.getfield 37, 3) := by decide +kernel
theorem dX41_note_20 : decode cX41_note 20 = .ok (.if_icmp .ne 4, 3) := by decide +kernel
theorem dX41_note_23 : decode cX41_note 23 = .ok (.return_, 1) := by decide +kernel
theorem dX41_note_24 : decode cX41_note 24 = .ok (.iconst 0, 1) := by decide +kernel
theorem dX41_note_25 : decode cX41_note 25 = .ok (.istore_n 2, 1) := by decide +kernel
theorem dX41_note_26 : decode cX41_note 26 = .ok (.iconst 0, 1) := by decide +kernel
theorem dX41_note_27 : decode cX41_note 27 = .ok (.istore_n 3, 1) := by decide +kernel
theorem dX41_note_28 : decode cX41_note 28 = .ok (.iload_n 3, 1) := by decide +kernel
theorem dX41_note_29 : decode cX41_note 29 = .ok (.aload_n 0, 1) := by decide +kernel
theorem dX41_note_30 : decode cX41_note 30 = .ok (.getfield 83, 3) := by decide +kernel
theorem dX41_note_33 : decode cX41_note 33 = .ok (.if_icmp .ge 29, 3) := by decide +kernel
theorem dX41_note_36 : decode cX41_note 36 = .ok (.iload_n 2, 1) := by decide +kernel
theorem dX41_note_37 : decode cX41_note 37 = .ok (.ifCond .ne 13, 3) := by decide +kernel
theorem dX41_note_40 : decode cX41_note 40 = .ok (.aload_n 0, 1) := by decide +kernel
theorem dX41_note_41 : decode cX41_note 41 = .ok (.getfield 27, 3) := by decide +kernel
theorem dX41_note_44 : decode cX41_note 44 = .ok (.iload_n 3, 1) := by decide +kernel
theorem dX41_note_45 : decode cX41_note 45 = .ok (.iaload, 1) := by decide +kernel
theorem dX41_note_46 : decode cX41_note 46 = .ok (.iload_n 1, 1) := by decide +kernel
theorem dX41_note_47 : decode cX41_note 47 = .ok (.if_icmp .ne 7, 3) := by decide +kernel
theorem dX41_note_50 : decode cX41_note 50 = .ok (.iconst 1, 1) := by decide +kernel
theorem dX41_note_51 : decode cX41_note 51 = .ok (.goto 4, 3) := by decide +kernel
theorem dX41_note_54 : decode cX41_note 54 = .ok (.iconst 0, 1) := by decide +kernel
theorem dX41_note_55 : decode cX41_note 55 = .ok (.istore_n 2, 1) := by decide +kernel
theorem dX41_note_56 : decode cX41_note 56 = .ok (.iinc 3 1, 3) := by decide +kernel
theorem dX41_note_59 : decode cX41_note 59 = .ok (.goto (-31), 3) := by decide +kernel
theorem dX41_note_62 : decode cX41_note 62 = .ok (.iload_n 2, 1) := by decide +kernel
theorem dX41_note_63 : decode cX41_note 63 = .ok (.ifCond .eq 4, 3) := by decide +kernel
theorem dX41_note_66 : decode cX41_note 66 = .ok (.return_, 1) := by decide +kernel
theorem dX41_note_67 : decode cX41_note 67 = .ok (.aload_n 0, 1) := by decide +kernel
theorem dX41_note_68 : decode cX41_note 68 = .ok (.getfield 27, 3) := by decide +kernel
theorem dX41_note_71 : decode cX41_note 71 = .ok (.aload_n 0, 1) := by decide +kernel
theorem dX41_note_72 : decode cX41_note 72 = .ok (.getfield 83, 3) := by decide +kernel
theorem dX41_note_75 : decode cX41_note 75 = .ok (.iload_n 1, 1) := by decide +kernel
theorem dX41_note_76 : decode cX41_note 76 = .ok (.iastore, 1) := by decide +kernel
theorem dX41_note_77 : decode cX41_note 77 = .ok (.aload_n 0, 1) := by decide +kernel
theorem dX41_note_78 : decode cX41_note 78 = .ok (.dup, 1) := by decide +kernel
theorem dX41_note_79 : decode cX41_note 79 = .ok (.getfield 83, 3) := by decide +kernel
theorem dX41_note_82 : decode cX41_note 82 = .ok (.iconst 1, 1) := by decide +kernel
theorem dX41_note_83 : decode cX41_note 83 = .ok (.iadd, 1) := by decide +kernel
theorem dX41_note_84 : decode cX41_note 84 = .ok (.putfield 83, 3) := by decide +kernel
theorem dX41_note_87 : decode cX41_note 87 = .ok (.return_, 1) := by decide +kernel
abbrev cX41_name : ByteArray := prog_46_method_17_code
def yX41_name : MethodName := ⟨RX41, "name", "(LKnowHouse$QlRewrite$Draft;II)V"⟩
theorem dX41_name_0 : decode cX41_name 0 = .ok (.iload_n 1, 1) := by decide +kernel
theorem dX41_name_1 : decode cX41_name 1 = .ok (.aload_n 0, 1) := by decide +kernel
theorem dX41_name_2 : decode cX41_name 2 = .ok (.getfield 83, 3) := by decide +kernel
theorem dX41_name_5 : decode cX41_name 5 = .ok (.if_icmp .ne 8, 3) := by decide +kernel
theorem dX41_name_8 : decode cX41_name 8 = .ok (.aload_n 0, 1) := by decide +kernel
theorem dX41_name_9 : decode cX41_name 9 = .ok (.invokevirtual 93, 3) := by decide +kernel
theorem dX41_name_12 : decode cX41_name 12 = .ok (.return_, 1) := by decide +kernel
theorem dX41_name_13 : decode cX41_name 13 = .ok (.iconst 0, 1) := by decide +kernel
theorem dX41_name_14 : decode cX41_name 14 = .ok (.istore_n 3, 1) := by decide +kernel
theorem dX41_name_15 : decode cX41_name 15 = .ok (.iload_n 3, 1) := by decide +kernel
theorem dX41_name_16 : decode cX41_name 16 = .ok (.aload_n 0, 1) := by decide +kernel
theorem dX41_name_17 : decode cX41_name 17 = .ok (.getfield 83, 3) := by decide +kernel
theorem dX41_name_20 : decode cX41_name 20 = .ok (.if_icmp .ge 42, 3) := by decide +kernel
theorem dX41_name_23 : decode cX41_name 23 = .ok (.iload_n 2, 1) := by decide +kernel
theorem dX41_name_24 : decode cX41_name 24 = .ok (.iload_n 3, 1) := by decide +kernel
theorem dX41_name_25 : decode cX41_name 25 = .ok (.ishr, 1) := by decide +kernel
theorem dX41_name_26 : decode cX41_name 26 = .ok (.iconst 1, 1) := by decide +kernel
theorem dX41_name_27 : decode cX41_name 27 = .ok (.iand, 1) := by decide +kernel
theorem dX41_name_28 : decode cX41_name 28 = .ok (.iconst 1, 1) := by decide +kernel
theorem dX41_name_29 : decode cX41_name 29 = .ok (.if_icmp .ne 6, 3) := by decide +kernel
theorem dX41_name_32 : decode cX41_name 32 = .ok (.goto 24, 3) := by decide +kernel
theorem dX41_name_35 : decode cX41_name 35 = .ok (.aload_n 0, 1) := by decide +kernel
theorem dX41_name_36 : decode cX41_name 36 = .ok (.getfield 30, 3) := by decide +kernel
theorem dX41_name_39 : decode cX41_name 39 = .ok (.iload_n 1, 1) := by decide +kernel
theorem dX41_name_40 : decode cX41_name 40 = .ok (.iconst 2, 1) := by decide +kernel
theorem dX41_name_41 : decode cX41_name 41 = .ok (.iload_n 3, 1) := by decide +kernel
theorem dX41_name_42 : decode cX41_name 42 = .ok (.iadd, 1) := by decide +kernel
theorem dX41_name_43 : decode cX41_name 43 = .ok (.iastore, 1) := by decide +kernel
theorem dX41_name_44 : decode cX41_name 44 = .ok (.aload_n 0, 1) := by decide +kernel
theorem dX41_name_45 : decode cX41_name 45 = .ok (.iload_n 1, 1) := by decide +kernel
theorem dX41_name_46 : decode cX41_name 46 = .ok (.iconst 1, 1) := by decide +kernel
theorem dX41_name_47 : decode cX41_name 47 = .ok (.iadd, 1) := by decide +kernel
theorem dX41_name_48 : decode cX41_name 48 = .ok (.iload_n 2, 1) := by decide +kernel
theorem dX41_name_49 : decode cX41_name 49 = .ok (.iconst 1, 1) := by decide +kernel
theorem dX41_name_50 : decode cX41_name 50 = .ok (.iload_n 3, 1) := by decide +kernel
theorem dX41_name_51 : decode cX41_name 51 = .ok (.ishl, 1) := by decide +kernel
theorem dX41_name_52 : decode cX41_name 52 = .ok (.ior, 1) := by decide +kernel
theorem dX41_name_53 : decode cX41_name 53 = .ok (.invokestatic 96, 3) := by decide +kernel
theorem dX41_name_56 : decode cX41_name 56 = .ok (.iinc 3 1, 3) := by decide +kernel
theorem dX41_name_59 : decode cX41_name 59 = .ok (.goto (-44), 3) := by decide +kernel
theorem dX41_name_62 : decode cX41_name 62 = .ok (.return_, 1) := by decide +kernel
abbrev cX41_compare : ByteArray := prog_46_method_16_code
def yX41_compare : MethodName := ⟨RX41, "compare", "()V"⟩
theorem dX41_compare_0 : decode cX41_compare 0 = .ok (.iconst 0, 1) := by decide +kernel
theorem dX41_compare_1 : decode cX41_compare 1 = .ok (.istore_n 1, 1) := by decide +kernel
theorem dX41_compare_2 : decode cX41_compare 2 = .ok (.iload_n 1, 1) := by decide +kernel
theorem dX41_compare_3 : decode cX41_compare 3 = .ok (.aload_n 0, 1) := by decide +kernel
theorem dX41_compare_4 : decode cX41_compare 4 = .ok (.getfield 40, 3) := by decide +kernel
theorem dX41_compare_7 : decode cX41_compare 7 = .ok (.if_icmp .ge 89, 3) := by decide +kernel
theorem dX41_compare_10 : decode cX41_compare 10 = .ok (.bipush 64, 2) := by decide +kernel
theorem dX41_compare_12 : decode cX41_compare 12 = .ok (.aload_n 0, 1) := by decide +kernel
theorem dX41_compare_13 : decode cX41_compare 13 = .ok (.getfield 9, 3) := by decide +kernel
theorem dX41_compare_16 : decode cX41_compare 16 = .ok (.iload_n 1, 1) := by decide +kernel
theorem dX41_compare_17 : decode cX41_compare 17 = .ok (.iaload, 1) := by decide +kernel
theorem dX41_compare_18 : decode cX41_compare 18 = .ok (.imul, 1) := by decide +kernel
theorem dX41_compare_19 : decode cX41_compare 19 = .ok (.bipush 8, 2) := by decide +kernel
theorem dX41_compare_21 : decode cX41_compare 21 = .ok (.aload_n 0, 1) := by decide +kernel
theorem dX41_compare_22 : decode cX41_compare 22 = .ok (.aload_n 0, 1) := by decide +kernel
theorem dX41_compare_23 : decode cX41_compare 23 = .ok (.getfield 15, 3) := by decide +kernel
theorem dX41_compare_26 : decode cX41_compare 26 = .ok (.iload_n 1, 1) := by decide +kernel
theorem dX41_compare_27 : decode cX41_compare 27 = .ok (.iaload, 1) := by decide +kernel
theorem dX41_compare_28 : decode cX41_compare 28 = .ok (.invokevirtual 86, 3) := by decide +kernel
theorem dX41_compare_31 : decode cX41_compare 31 = .ok (.imul, 1) := by decide +kernel
theorem dX41_compare_32 : decode cX41_compare 32 = .ok (.iadd, 1) := by decide +kernel
theorem dX41_compare_33 : decode cX41_compare 33 = .ok (.aload_n 0, 1) := by decide +kernel
theorem dX41_compare_34 : decode cX41_compare 34 = .ok (.aload_n 0, 1) := by decide +kernel
theorem dX41_compare_35 : decode cX41_compare 35 = .ok (.getfield 18, 3) := by decide +kernel
theorem dX41_compare_38 : decode cX41_compare 38 = .ok (.iload_n 1, 1) := by decide +kernel
theorem dX41_compare_39 : decode cX41_compare 39 = .ok (.iaload, 1) := by decide +kernel
theorem dX41_compare_40 : decode cX41_compare 40 = .ok (.invokevirtual 86, 3) := by decide +kernel
theorem dX41_compare_43 : decode cX41_compare 43 = .ok (.iadd, 1) := by decide +kernel
theorem dX41_compare_44 : decode cX41_compare 44 = .ok (.istore_n 2, 1) := by decide +kernel
theorem dX41_compare_45 : decode cX41_compare 45 = .ok (.iload_n 1, 1) := by decide +kernel
theorem dX41_compare_46 : decode cX41_compare 46 = .ok (.istore_n 3, 1) := by decide +kernel
theorem dX41_compare_47 : decode cX41_compare 47 = .ok (.iload_n 3, 1) := by decide +kernel
theorem dX41_compare_48 : decode cX41_compare 48 = .ok (.ifCond .le 35, 3) := by decide +kernel
theorem dX41_compare_51 : decode cX41_compare 51 = .ok (.aload_n 0, 1) := by decide +kernel
theorem dX41_compare_52 : decode cX41_compare 52 = .ok (.getfield 21, 3) := by decide +kernel
theorem dX41_compare_55 : decode cX41_compare 55 = .ok (.iload_n 3, 1) := by decide +kernel
theorem dX41_compare_56 : decode cX41_compare 56 = .ok (.iconst 1, 1) := by decide +kernel
theorem dX41_compare_57 : decode cX41_compare 57 = .ok (.isub, 1) := by decide +kernel
theorem dX41_compare_58 : decode cX41_compare 58 = .ok (.iaload, 1) := by decide +kernel
theorem dX41_compare_59 : decode cX41_compare 59 = .ok (.iload_n 2, 1) := by decide +kernel
theorem dX41_compare_60 : decode cX41_compare 60 = .ok (.if_icmp .le 23, 3) := by decide +kernel
theorem dX41_compare_63 : decode cX41_compare 63 = .ok (.aload_n 0, 1) := by decide +kernel
theorem dX41_compare_64 : decode cX41_compare 64 = .ok (.getfield 21, 3) := by decide +kernel
theorem dX41_compare_67 : decode cX41_compare 67 = .ok (.iload_n 3, 1) := by decide +kernel
theorem dX41_compare_68 : decode cX41_compare 68 = .ok (.aload_n 0, 1) := by decide +kernel
theorem dX41_compare_69 : decode cX41_compare 69 = .ok (.getfield 21, 3) := by decide +kernel
theorem dX41_compare_72 : decode cX41_compare 72 = .ok (.iload_n 3, 1) := by decide +kernel
theorem dX41_compare_73 : decode cX41_compare 73 = .ok (.iconst 1, 1) := by decide +kernel
theorem dX41_compare_74 : decode cX41_compare 74 = .ok (.isub, 1) := by decide +kernel
theorem dX41_compare_75 : decode cX41_compare 75 = .ok (.iaload, 1) := by decide +kernel
theorem dX41_compare_76 : decode cX41_compare 76 = .ok (.iastore, 1) := by decide +kernel
theorem dX41_compare_77 : decode cX41_compare 77 = .ok (.iinc 3 (-1), 3) := by decide +kernel
theorem dX41_compare_80 : decode cX41_compare 80 = .ok (.goto (-33), 3) := by decide +kernel
theorem dX41_compare_83 : decode cX41_compare 83 = .ok (.aload_n 0, 1) := by decide +kernel
theorem dX41_compare_84 : decode cX41_compare 84 = .ok (.getfield 21, 3) := by decide +kernel
theorem dX41_compare_87 : decode cX41_compare 87 = .ok (.iload_n 3, 1) := by decide +kernel
theorem dX41_compare_88 : decode cX41_compare 88 = .ok (.iload_n 2, 1) := by decide +kernel
theorem dX41_compare_89 : decode cX41_compare 89 = .ok (.iastore, 1) := by decide +kernel
theorem dX41_compare_90 : decode cX41_compare 90 = .ok (.iinc 1 1, 3) := by decide +kernel
theorem dX41_compare_93 : decode cX41_compare 93 = .ok (.goto (-91), 3) := by decide +kernel
theorem dX41_compare_96 : decode cX41_compare 96 = .ok (.iconst 0, 1) := by decide +kernel
theorem dX41_compare_97 : decode cX41_compare 97 = .ok (.istore_n 1, 1) := by decide +kernel
theorem dX41_compare_98 : decode cX41_compare 98 = .ok (.aload_n 0, 1) := by decide +kernel
theorem dX41_compare_99 : decode cX41_compare 99 = .ok (.getfield 89, 3) := by decide +kernel
theorem dX41_compare_102 : decode cX41_compare 102 = .ok (.ifCond .eq 32, 3) := by decide +kernel
theorem dX41_compare_105 : decode cX41_compare 105 = .ok (.iload_n 1, 1) := by decide +kernel
theorem dX41_compare_106 : decode cX41_compare 106 = .ok (.aload_n 0, 1) := by decide +kernel
theorem dX41_compare_107 : decode cX41_compare 107 = .ok (.getfield 40, 3) := by decide +kernel
theorem dX41_compare_110 : decode cX41_compare 110 = .ok (.if_icmp .ge 24, 3) := by decide +kernel
theorem dX41_compare_113 : decode cX41_compare 113 = .ok (.aload_n 0, 1) := by decide +kernel
theorem dX41_compare_114 : decode cX41_compare 114 = .ok (.getfield 21, 3) := by decide +kernel
theorem dX41_compare_117 : decode cX41_compare 117 = .ok (.iload_n 1, 1) := by decide +kernel
theorem dX41_compare_118 : decode cX41_compare 118 = .ok (.iaload, 1) := by decide +kernel
theorem dX41_compare_119 : decode cX41_compare 119 = .ok (.aload_n 0, 1) := by decide +kernel
theorem dX41_compare_120 : decode cX41_compare 120 = .ok (.getfield 24, 3) := by decide +kernel
theorem dX41_compare_123 : decode cX41_compare 123 = .ok (.iload_n 1, 1) := by decide +kernel
theorem dX41_compare_124 : decode cX41_compare 124 = .ok (.iaload, 1) := by decide +kernel
theorem dX41_compare_125 : decode cX41_compare 125 = .ok (.if_icmp .ne 9, 3) := by decide +kernel
theorem dX41_compare_128 : decode cX41_compare 128 = .ok (.iinc 1 1, 3) := by decide +kernel
theorem dX41_compare_131 : decode cX41_compare 131 = .ok (.goto (-33), 3) := by decide +kernel
theorem dX41_compare_134 : decode cX41_compare 134 = .ok (.aload_n 0, 1) := by decide +kernel
theorem dX41_compare_135 : decode cX41_compare 135 = .ok (.getfield 89, 3) := by decide +kernel
theorem dX41_compare_138 : decode cX41_compare 138 = .ok (.ifCond .eq 27, 3) := by decide +kernel
theorem dX41_compare_141 : decode cX41_compare 141 = .ok (.iload_n 1, 1) := by decide +kernel
theorem dX41_compare_142 : decode cX41_compare 142 = .ok (.aload_n 0, 1) := by decide +kernel
theorem dX41_compare_143 : decode cX41_compare 143 = .ok (.getfield 40, 3) := by decide +kernel
theorem dX41_compare_146 : decode cX41_compare 146 = .ok (.if_icmp .eq 18, 3) := by decide +kernel
theorem dX41_compare_149 : decode cX41_compare 149 = .ok (.aload_n 0, 1) := by decide +kernel
theorem dX41_compare_150 : decode cX41_compare 150 = .ok (.getfield 21, 3) := by decide +kernel
theorem dX41_compare_153 : decode cX41_compare 153 = .ok (.iload_n 1, 1) := by decide +kernel
theorem dX41_compare_154 : decode cX41_compare 154 = .ok (.iaload, 1) := by decide +kernel
theorem dX41_compare_155 : decode cX41_compare 155 = .ok (.aload_n 0, 1) := by decide +kernel
theorem dX41_compare_156 : decode cX41_compare 156 = .ok (.getfield 24, 3) := by decide +kernel
theorem dX41_compare_159 : decode cX41_compare 159 = .ok (.iload_n 1, 1) := by decide +kernel
theorem dX41_compare_160 : decode cX41_compare 160 = .ok (.iaload, 1) := by decide +kernel
theorem dX41_compare_161 : decode cX41_compare 161 = .ok (.if_icmp .le 4, 3) := by decide +kernel
theorem dX41_compare_164 : decode cX41_compare 164 = .ok (.return_, 1) := by decide +kernel
theorem dX41_compare_165 : decode cX41_compare 165 = .ok (.aload_n 0, 1) := by decide +kernel
theorem dX41_compare_166 : decode cX41_compare 166 = .ok (.iconst 1, 1) := by decide +kernel
theorem dX41_compare_167 : decode cX41_compare 167 = .ok (.putfield 89, 3) := by decide +kernel
theorem dX41_compare_170 : decode cX41_compare 170 = .ok (.iconst 0, 1) := by decide +kernel
theorem dX41_compare_171 : decode cX41_compare 171 = .ok (.istore_n 2, 1) := by decide +kernel
theorem dX41_compare_172 : decode cX41_compare 172 = .ok (.iload_n 2, 1) := by decide +kernel
theorem dX41_compare_173 : decode cX41_compare 173 = .ok (.aload_n 0, 1) := by decide +kernel
theorem dX41_compare_174 : decode cX41_compare 174 = .ok (.getfield 40, 3) := by decide +kernel
theorem dX41_compare_177 : decode cX41_compare 177 = .ok (.if_icmp .ge 21, 3) := by decide +kernel
theorem dX41_compare_180 : decode cX41_compare 180 = .ok (.aload_n 0, 1) := by decide +kernel
theorem dX41_compare_181 : decode cX41_compare 181 = .ok (.getfield 24, 3) := by decide +kernel
theorem dX41_compare_184 : decode cX41_compare 184 = .ok (.iload_n 2, 1) := by decide +kernel
theorem dX41_compare_185 : decode cX41_compare 185 = .ok (.aload_n 0, 1) := by decide +kernel
theorem dX41_compare_186 : decode cX41_compare 186 = .ok (.getfield 21, 3) := by decide +kernel
theorem dX41_compare_189 : decode cX41_compare 189 = .ok (.iload_n 2, 1) := by decide +kernel
theorem dX41_compare_190 : decode cX41_compare 190 = .ok (.iaload, 1) := by decide +kernel
theorem dX41_compare_191 : decode cX41_compare 191 = .ok (.iastore, 1) := by decide +kernel
theorem dX41_compare_192 : decode cX41_compare 192 = .ok (.iinc 2 1, 3) := by decide +kernel
theorem dX41_compare_195 : decode cX41_compare 195 = .ok (.goto (-23), 3) := by decide +kernel
theorem dX41_compare_198 : decode cX41_compare 198 = .ok (.return_, 1) := by decide +kernel
abbrev cX41_nameOf : ByteArray := prog_46_method_15_code
def yX41_nameOf : MethodName := ⟨RX41, "nameOf", "(I)I"⟩
theorem dX41_nameOf_0 : decode cX41_nameOf 0 = .ok (.iload_n 1, 1) := by decide +kernel
theorem dX41_nameOf_1 : decode cX41_nameOf 1 = .ok (.invokestatic 72, 3) := by decide +kernel
theorem dX41_nameOf_4 : decode cX41_nameOf 4 = .ok (.ifCond .ne 5, 3) := by decide +kernel
theorem dX41_nameOf_7 : decode cX41_nameOf 7 = .ok (.iload_n 1, 1) := by decide +kernel
theorem dX41_nameOf_8 : decode cX41_nameOf 8 = .ok (.ireturn, 1) := by decide +kernel
theorem dX41_nameOf_9 : decode cX41_nameOf 9 = .ok (.iload_n 1, 1) := by decide +kernel
theorem dX41_nameOf_10 : decode cX41_nameOf 10 = .ok (.aload_n 0, 1) := by decide +kernel
theorem dX41_nameOf_11 : decode cX41_nameOf 11 = .ok (.getfield 33, 3) := by decide +kernel
theorem dX41_nameOf_14 : decode cX41_nameOf 14 = .ok (.if_icmp .ne 5, 3) := by decide +kernel
theorem dX41_nameOf_17 : decode cX41_nameOf 17 = .ok (.iconst 0, 1) := by decide +kernel
theorem dX41_nameOf_18 : decode cX41_nameOf 18 = .ok (.ireturn, 1) := by decide +kernel
theorem dX41_nameOf_19 : decode cX41_nameOf 19 = .ok (.iload_n 1, 1) := by decide +kernel
theorem dX41_nameOf_20 : decode cX41_nameOf 20 = .ok (.aload_n 0, 1) := by decide +kernel
theorem dX41_nameOf_21 : decode cX41_nameOf 21 = .ok (.getfield 37, 3) := by decide +kernel
theorem dX41_nameOf_24 : decode cX41_nameOf 24 = .ok (.if_icmp .ne 5, 3) := by decide +kernel
theorem dX41_nameOf_27 : decode cX41_nameOf 27 = .ok (.iconst 1, 1) := by decide +kernel
theorem dX41_nameOf_28 : decode cX41_nameOf 28 = .ok (.ireturn, 1) := by decide +kernel
theorem dX41_nameOf_29 : decode cX41_nameOf 29 = .ok (.iconst 0, 1) := by decide +kernel
theorem dX41_nameOf_30 : decode cX41_nameOf 30 = .ok (.istore_n 2, 1) := by decide +kernel
theorem dX41_nameOf_31 : decode cX41_nameOf 31 = .ok (.aload_n 0, 1) := by decide +kernel
theorem dX41_nameOf_32 : decode cX41_nameOf 32 = .ok (.getfield 27, 3) := by decide +kernel
theorem dX41_nameOf_35 : decode cX41_nameOf 35 = .ok (.iload_n 2, 1) := by decide +kernel
theorem dX41_nameOf_36 : decode cX41_nameOf 36 = .ok (.iaload, 1) := by decide +kernel
theorem dX41_nameOf_37 : decode cX41_nameOf 37 = .ok (.iload_n 1, 1) := by decide +kernel
theorem dX41_nameOf_38 : decode cX41_nameOf 38 = .ok (.if_icmp .eq 9, 3) := by decide +kernel
theorem dX41_nameOf_41 : decode cX41_nameOf 41 = .ok (.iinc 2 1, 3) := by decide +kernel
theorem dX41_nameOf_44 : decode cX41_nameOf 44 = .ok (.goto (-13), 3) := by decide +kernel
theorem dX41_nameOf_47 : decode cX41_nameOf 47 = .ok (.aload_n 0, 1) := by decide +kernel
theorem dX41_nameOf_48 : decode cX41_nameOf 48 = .ok (.getfield 30, 3) := by decide +kernel
theorem dX41_nameOf_51 : decode cX41_nameOf 51 = .ok (.iload_n 2, 1) := by decide +kernel
theorem dX41_nameOf_52 : decode cX41_nameOf 52 = .ok (.iaload, 1) := by decide +kernel
theorem dX41_nameOf_53 : decode cX41_nameOf 53 = .ok (.ireturn, 1) := by decide +kernel
abbrev cX41_take : ByteArray := prog_46_method_4_code
def yX41_take : MethodName := ⟨RX41, "take", "(LKnowHouse$QlRewrite$Form;)V"⟩
theorem dX41_take_0 : decode cX41_take 0 = .ok (.aload_n 0, 1) := by decide +kernel
theorem dX41_take_1 : decode cX41_take 1 = .ok (.aload_n 1, 1) := by decide +kernel
theorem dX41_take_2 : decode cX41_take 2 = .ok (.getfield 43, 3) := by decide +kernel
theorem dX41_take_5 : decode cX41_take 5 = .ok (.aload_n 1, 1) := by decide +kernel
theorem dX41_take_6 : decode cX41_take 6 = .ok (.getfield 46, 3) := by decide +kernel
theorem dX41_take_9 : decode cX41_take 9 = .ok (.invokevirtual 47, 3) := by decide +kernel
theorem dX41_take_12 : decode cX41_take 12 = .ok (.aload_n 1, 1) := by decide +kernel
theorem dX41_take_13 : decode cX41_take 13 = .ok (.getfield 51, 3) := by decide +kernel
theorem dX41_take_16 : decode cX41_take 16 = .ok (.astore_n 2, 1) := by decide +kernel
theorem dX41_take_17 : decode cX41_take 17 = .ok (.aload_n 2, 1) := by decide +kernel
theorem dX41_take_18 : decode cX41_take 18 = .ok (.arraylength, 1) := by decide +kernel
theorem dX41_take_19 : decode cX41_take 19 = .ok (.istore_n 3, 1) := by decide +kernel
theorem dX41_take_20 : decode cX41_take 20 = .ok (.iconst 0, 1) := by decide +kernel
theorem dX41_take_21 : decode cX41_take 21 = .ok (.istore 4, 2) := by decide +kernel
theorem dX41_take_23 : decode cX41_take 23 = .ok (.iload 4, 2) := by decide +kernel
theorem dX41_take_25 : decode cX41_take 25 = .ok (.iload_n 3, 1) := by decide +kernel
theorem dX41_take_26 : decode cX41_take 26 = .ok (.if_icmp .ge 36, 3) := by decide +kernel
theorem dX41_take_29 : decode cX41_take 29 = .ok (.aload_n 2, 1) := by decide +kernel
theorem dX41_take_30 : decode cX41_take 30 = .ok (.iload 4, 2) := by decide +kernel
theorem dX41_take_32 : decode cX41_take 32 = .ok (.iaload, 1) := by decide +kernel
theorem dX41_take_33 : decode cX41_take 33 = .ok (.istore 5, 2) := by decide +kernel
theorem dX41_take_35 : decode cX41_take 35 = .ok (.aload_n 0, 1) := by decide +kernel
theorem dX41_take_36 : decode cX41_take 36 = .ok (.iload 5, 2) := by decide +kernel
theorem dX41_take_38 : decode cX41_take 38 = .ok (.bipush 6, 2) := by decide +kernel
theorem dX41_take_40 : decode cX41_take 40 = .ok (.ishr, 1) := by decide +kernel
theorem dX41_take_41 : decode cX41_take 41 = .ok (.iload 5, 2) := by decide +kernel
theorem dX41_take_43 : decode cX41_take 43 = .ok (.iconst 3, 1) := by decide +kernel
theorem dX41_take_44 : decode cX41_take 44 = .ok (.ishr, 1) := by decide +kernel
theorem dX41_take_45 : decode cX41_take 45 = .ok (.bipush 7, 2) := by decide +kernel
theorem dX41_take_47 : decode cX41_take 47 = .ok (.iand, 1) := by decide +kernel
theorem dX41_take_48 : decode cX41_take 48 = .ok (.iload 5, 2) := by decide +kernel
theorem dX41_take_50 : decode cX41_take 50 = .ok (.bipush 7, 2) := by decide +kernel
theorem dX41_take_52 : decode cX41_take 52 = .ok (.iand, 1) := by decide +kernel
theorem dX41_take_53 : decode cX41_take 53 = .ok (.invokevirtual 52, 3) := by decide +kernel
theorem dX41_take_56 : decode cX41_take 56 = .ok (.iinc 4 1, 3) := by decide +kernel
theorem dX41_take_59 : decode cX41_take 59 = .ok (.goto (-36), 3) := by decide +kernel
theorem dX41_take_62 : decode cX41_take 62 = .ok (.return_, 1) := by decide +kernel
abbrev cX41_sort : ByteArray := prog_46_method_5_code
def yX41_sort : MethodName := ⟨RX41, "sort", "(III)V"⟩
theorem dX41_sort_0 : decode cX41_sort 0 = .ok (.iload_n 2, 1) := by decide +kernel
theorem dX41_sort_1 : decode cX41_sort 1 = .ok (.bipush 20, 2) := by decide +kernel
theorem dX41_sort_3 : decode cX41_sort 3 = .ok (.if_icmp .ge 7, 3) := by decide +kernel
theorem dX41_sort_6 : decode cX41_sort 6 = .ok (.iconst 1, 1) := by decide +kernel
theorem dX41_sort_7 : decode cX41_sort 7 = .ok (.goto 4, 3) := by decide +kernel
theorem dX41_sort_10 : decode cX41_sort 10 = .ok (.iconst 0, 1) := by decide +kernel
theorem dX41_sort_11 : decode cX41_sort 11 = .ok (.istore 4, 2) := by decide +kernel
theorem dX41_sort_13 : decode cX41_sort 13 = .ok (.aload_n 0, 1) := by decide +kernel
theorem dX41_sort_14 : decode cX41_sort 14 = .ok (.getfield 9, 3) := by decide +kernel
theorem dX41_sort_17 : decode cX41_sort 17 = .ok (.iload_n 1, 1) := by decide +kernel
theorem dX41_sort_18 : decode cX41_sort 18 = .ok (.iload 4, 2) := by decide +kernel
theorem dX41_sort_20 : decode cX41_sort 20 = .ok (.ifCond .eq 7, 3) := by decide +kernel
theorem dX41_sort_23 : decode cX41_sort 23 = .ok (.iload_n 2, 1) := by decide +kernel
theorem dX41_sort_24 : decode cX41_sort 24 = .ok (.goto 12, 3) := by decide +kernel
theorem dX41_sort_27 : decode cX41_sort 27 = .ok (.bipush 32, 2) := by decide +kernel
theorem dX41_sort_29 : decode cX41_sort 29 = .ok (.iload_n 2, 1) := by decide +kernel
theorem dX41_sort_30 : decode cX41_sort 30 = .ok (.bipush 20, 2) := by decide +kernel
theorem dX41_sort_32 : decode cX41_sort 32 = .ok (.isub, 1) := by decide +kernel
theorem dX41_sort_33 : decode cX41_sort 33 = .ok (.iconst 1, 1) := by decide +kernel
theorem dX41_sort_34 : decode cX41_sort 34 = .ok (.ishr, 1) := by decide +kernel
theorem dX41_sort_35 : decode cX41_sort 35 = .ok (.iadd, 1) := by decide +kernel
theorem dX41_sort_36 : decode cX41_sort 36 = .ok (.iastore, 1) := by decide +kernel
theorem dX41_sort_37 : decode cX41_sort 37 = .ok (.aload_n 0, 1) := by decide +kernel
theorem dX41_sort_38 : decode cX41_sort 38 = .ok (.getfield 15, 3) := by decide +kernel
theorem dX41_sort_41 : decode cX41_sort 41 = .ok (.iload_n 1, 1) := by decide +kernel
theorem dX41_sort_42 : decode cX41_sort 42 = .ok (.iload 4, 2) := by decide +kernel
theorem dX41_sort_44 : decode cX41_sort 44 = .ok (.ifCond .ne 9, 3) := by decide +kernel
theorem dX41_sort_47 : decode cX41_sort 47 = .ok (.iload_n 2, 1) := by decide +kernel
theorem dX41_sort_48 : decode cX41_sort 48 = .ok (.iconst 1, 1) := by decide +kernel
theorem dX41_sort_49 : decode cX41_sort 49 = .ok (.iand, 1) := by decide +kernel
theorem dX41_sort_50 : decode cX41_sort 50 = .ok (.ifCond .ne 7, 3) := by decide +kernel
theorem dX41_sort_53 : decode cX41_sort 53 = .ok (.iload_n 3, 1) := by decide +kernel
theorem dX41_sort_54 : decode cX41_sort 54 = .ok (.goto 5, 3) := by decide +kernel
theorem dX41_sort_57 : decode cX41_sort 57 = .ok (.bipush 6, 2) := by decide +kernel
theorem dX41_sort_59 : decode cX41_sort 59 = .ok (.iastore, 1) := by decide +kernel
theorem dX41_sort_60 : decode cX41_sort 60 = .ok (.aload_n 0, 1) := by decide +kernel
theorem dX41_sort_61 : decode cX41_sort 61 = .ok (.getfield 18, 3) := by decide +kernel
theorem dX41_sort_64 : decode cX41_sort 64 = .ok (.iload_n 1, 1) := by decide +kernel
theorem dX41_sort_65 : decode cX41_sort 65 = .ok (.iload 4, 2) := by decide +kernel
theorem dX41_sort_67 : decode cX41_sort 67 = .ok (.ifCond .eq 8, 3) := by decide +kernel
theorem dX41_sort_70 : decode cX41_sort 70 = .ok (.bipush 7, 2) := by decide +kernel
theorem dX41_sort_72 : decode cX41_sort 72 = .ok (.goto 15, 3) := by decide +kernel
theorem dX41_sort_75 : decode cX41_sort 75 = .ok (.iload_n 2, 1) := by decide +kernel
theorem dX41_sort_76 : decode cX41_sort 76 = .ok (.iconst 1, 1) := by decide +kernel
theorem dX41_sort_77 : decode cX41_sort 77 = .ok (.iand, 1) := by decide +kernel
theorem dX41_sort_78 : decode cX41_sort 78 = .ok (.ifCond .ne 8, 3) := by decide +kernel
theorem dX41_sort_81 : decode cX41_sort 81 = .ok (.bipush 6, 2) := by decide +kernel
theorem dX41_sort_83 : decode cX41_sort 83 = .ok (.goto 4, 3) := by decide +kernel
theorem dX41_sort_86 : decode cX41_sort 86 = .ok (.iload_n 3, 1) := by decide +kernel
theorem dX41_sort_87 : decode cX41_sort 87 = .ok (.iastore, 1) := by decide +kernel
theorem dX41_sort_88 : decode cX41_sort 88 = .ok (.return_, 1) := by decide +kernel
abbrev cX41_meet : ByteArray := prog_46_method_7_code
def yX41_meet : MethodName := ⟨RX41, "meet", "([III)V"⟩
theorem dX41_meet_0 : decode cX41_meet 0 = .ok (.aload_n 1, 1) := by decide +kernel
theorem dX41_meet_1 : decode cX41_meet 1 = .ok (.iload_n 2, 1) := by decide +kernel
theorem dX41_meet_2 : decode cX41_meet 2 = .ok (.iaload, 1) := by decide +kernel
theorem dX41_meet_3 : decode cX41_meet 3 = .ok (.istore 4, 2) := by decide +kernel
theorem dX41_meet_5 : decode cX41_meet 5 = .ok (.aload_n 1, 1) := by decide +kernel
theorem dX41_meet_6 : decode cX41_meet 6 = .ok (.iload_n 3, 1) := by decide +kernel
theorem dX41_meet_7 : decode cX41_meet 7 = .ok (.iaload, 1) := by decide +kernel
theorem dX41_meet_8 : decode cX41_meet 8 = .ok (.istore 5, 2) := by decide +kernel
theorem dX41_meet_10 : decode cX41_meet 10 = .ok (.iload 4, 2) := by decide +kernel
theorem dX41_meet_12 : decode cX41_meet 12 = .ok (.bipush 6, 2) := by decide +kernel
theorem dX41_meet_14 : decode cX41_meet 14 = .ok (.if_icmp .ne 11, 3) := by decide +kernel
theorem dX41_meet_17 : decode cX41_meet 17 = .ok (.aload_n 1, 1) := by decide +kernel
theorem dX41_meet_18 : decode cX41_meet 18 = .ok (.iload_n 2, 1) := by decide +kernel
theorem dX41_meet_19 : decode cX41_meet 19 = .ok (.iload 5, 2) := by decide +kernel
theorem dX41_meet_21 : decode cX41_meet 21 = .ok (.iastore, 1) := by decide +kernel
theorem dX41_meet_22 : decode cX41_meet 22 = .ok (.goto 43, 3) := by decide +kernel
theorem dX41_meet_25 : decode cX41_meet 25 = .ok (.iload 5, 2) := by decide +kernel
theorem dX41_meet_27 : decode cX41_meet 27 = .ok (.bipush 6, 2) := by decide +kernel
theorem dX41_meet_29 : decode cX41_meet 29 = .ok (.if_icmp .ne 11, 3) := by decide +kernel
theorem dX41_meet_32 : decode cX41_meet 32 = .ok (.aload_n 1, 1) := by decide +kernel
theorem dX41_meet_33 : decode cX41_meet 33 = .ok (.iload_n 3, 1) := by decide +kernel
theorem dX41_meet_34 : decode cX41_meet 34 = .ok (.iload 4, 2) := by decide +kernel
theorem dX41_meet_36 : decode cX41_meet 36 = .ok (.iastore, 1) := by decide +kernel
theorem dX41_meet_37 : decode cX41_meet 37 = .ok (.goto 28, 3) := by decide +kernel
theorem dX41_meet_40 : decode cX41_meet 40 = .ok (.iload 4, 2) := by decide +kernel
theorem dX41_meet_42 : decode cX41_meet 42 = .ok (.iload 5, 2) := by decide +kernel
theorem dX41_meet_44 : decode cX41_meet 44 = .ok (.if_icmp .eq 21, 3) := by decide +kernel
theorem dX41_meet_47 : decode cX41_meet 47 = .ok (.aload_n 0, 1) := by decide +kernel
theorem dX41_meet_48 : decode cX41_meet 48 = .ok (.iload 4, 2) := by decide +kernel
theorem dX41_meet_50 : decode cX41_meet 50 = .ok (.iload 5, 2) := by decide +kernel
theorem dX41_meet_52 : decode cX41_meet 52 = .ok (.invokestatic 56, 3) := by decide +kernel
theorem dX41_meet_55 : decode cX41_meet 55 = .ok (.iload 4, 2) := by decide +kernel
theorem dX41_meet_57 : decode cX41_meet 57 = .ok (.iload 5, 2) := by decide +kernel
theorem dX41_meet_59 : decode cX41_meet 59 = .ok (.invokestatic 62, 3) := by decide +kernel
theorem dX41_meet_62 : decode cX41_meet 62 = .ok (.invokevirtual 65, 3) := by decide +kernel
theorem dX41_meet_65 : decode cX41_meet 65 = .ok (.return_, 1) := by decide +kernel
abbrev cX41_replace : ByteArray := prog_46_method_6_code
def yX41_replace : MethodName := ⟨RX41, "replace", "(II)V"⟩
theorem dX41_replace_0 : decode cX41_replace 0 = .ok (.iconst 0, 1) := by decide +kernel
theorem dX41_replace_1 : decode cX41_replace 1 = .ok (.istore_n 3, 1) := by decide +kernel
theorem dX41_replace_2 : decode cX41_replace 2 = .ok (.iload_n 3, 1) := by decide +kernel
theorem dX41_replace_3 : decode cX41_replace 3 = .ok (.aload_n 0, 1) := by decide +kernel
theorem dX41_replace_4 : decode cX41_replace 4 = .ok (.getfield 40, 3) := by decide +kernel
theorem dX41_replace_7 : decode cX41_replace 7 = .ok (.if_icmp .ge 43, 3) := by decide +kernel
theorem dX41_replace_10 : decode cX41_replace 10 = .ok (.aload_n 0, 1) := by decide +kernel
theorem dX41_replace_11 : decode cX41_replace 11 = .ok (.getfield 15, 3) := by decide +kernel
theorem dX41_replace_14 : decode cX41_replace 14 = .ok (.iload_n 3, 1) := by decide +kernel
theorem dX41_replace_15 : decode cX41_replace 15 = .ok (.iaload, 1) := by decide +kernel
theorem dX41_replace_16 : decode cX41_replace 16 = .ok (.iload_n 1, 1) := by decide +kernel
theorem dX41_replace_17 : decode cX41_replace 17 = .ok (.if_icmp .ne 10, 3) := by decide +kernel
theorem dX41_replace_20 : decode cX41_replace 20 = .ok (.aload_n 0, 1) := by decide +kernel
theorem dX41_replace_21 : decode cX41_replace 21 = .ok (.getfield 15, 3) := by decide +kernel
theorem dX41_replace_24 : decode cX41_replace 24 = .ok (.iload_n 3, 1) := by decide +kernel
theorem dX41_replace_25 : decode cX41_replace 25 = .ok (.iload_n 2, 1) := by decide +kernel
theorem dX41_replace_26 : decode cX41_replace 26 = .ok (.iastore, 1) := by decide +kernel
theorem dX41_replace_27 : decode cX41_replace 27 = .ok (.aload_n 0, 1) := by decide +kernel
theorem dX41_replace_28 : decode cX41_replace 28 = .ok (.getfield 18, 3) := by decide +kernel
theorem dX41_replace_31 : decode cX41_replace 31 = .ok (.iload_n 3, 1) := by decide +kernel
theorem dX41_replace_32 : decode cX41_replace 32 = .ok (.iaload, 1) := by decide +kernel
theorem dX41_replace_33 : decode cX41_replace 33 = .ok (.iload_n 1, 1) := by decide +kernel
theorem dX41_replace_34 : decode cX41_replace 34 = .ok (.if_icmp .ne 10, 3) := by decide +kernel
theorem dX41_replace_37 : decode cX41_replace 37 = .ok (.aload_n 0, 1) := by decide +kernel
theorem dX41_replace_38 : decode cX41_replace 38 = .ok (.getfield 18, 3) := by decide +kernel
theorem dX41_replace_41 : decode cX41_replace 41 = .ok (.iload_n 3, 1) := by decide +kernel
theorem dX41_replace_42 : decode cX41_replace 42 = .ok (.iload_n 2, 1) := by decide +kernel
theorem dX41_replace_43 : decode cX41_replace 43 = .ok (.iastore, 1) := by decide +kernel
theorem dX41_replace_44 : decode cX41_replace 44 = .ok (.iinc 3 1, 3) := by decide +kernel
theorem dX41_replace_47 : decode cX41_replace 47 = .ok (.goto (-45), 3) := by decide +kernel
theorem dX41_replace_50 : decode cX41_replace 50 = .ok (.aload_n 0, 1) := by decide +kernel
theorem dX41_replace_51 : decode cX41_replace 51 = .ok (.getfield 33, 3) := by decide +kernel
theorem dX41_replace_54 : decode cX41_replace 54 = .ok (.iload_n 1, 1) := by decide +kernel
theorem dX41_replace_55 : decode cX41_replace 55 = .ok (.if_icmp .ne 8, 3) := by decide +kernel
theorem dX41_replace_58 : decode cX41_replace 58 = .ok (.aload_n 0, 1) := by decide +kernel
theorem dX41_replace_59 : decode cX41_replace 59 = .ok (.iload_n 2, 1) := by decide +kernel
theorem dX41_replace_60 : decode cX41_replace 60 = .ok (.putfield 33, 3) := by decide +kernel
theorem dX41_replace_63 : decode cX41_replace 63 = .ok (.aload_n 0, 1) := by decide +kernel
theorem dX41_replace_64 : decode cX41_replace 64 = .ok (.getfield 37, 3) := by decide +kernel
theorem dX41_replace_67 : decode cX41_replace 67 = .ok (.iload_n 1, 1) := by decide +kernel
theorem dX41_replace_68 : decode cX41_replace 68 = .ok (.if_icmp .ne 8, 3) := by decide +kernel
theorem dX41_replace_71 : decode cX41_replace 71 = .ok (.aload_n 0, 1) := by decide +kernel
theorem dX41_replace_72 : decode cX41_replace 72 = .ok (.iload_n 2, 1) := by decide +kernel
theorem dX41_replace_73 : decode cX41_replace 73 = .ok (.putfield 37, 3) := by decide +kernel
theorem dX41_replace_76 : decode cX41_replace 76 = .ok (.return_, 1) := by decide +kernel
theorem in_X41 : ∀ w ∈ wsX410, w ∈ lw_all := lw_in wsX410 [1705, 1707, 1709, 1711, 1713, 1715, 1717, 1719, 1721, 1723, 1725, 1727] (by decide +kernel) (by decide +kernel)
def RX62 : String := "KnowHouse$QlRewrite$Question"
def TX62 : u_T := fun k => match k with
  | 0 => ("KnowHouse$QlRewrite$Question", "answers", "I", true)
  | 1 => ("KnowHouse$QlRewrite$Question", "names", "[I", true)
  | 2 => ("KnowHouse$QlRewrite$Question", "from", "[I", true)
  | 3 => ("KnowHouse$QlRewrite$Question", "to", "[I", true)
  | 4 => ("KnowHouse$QlRewrite$Question", "n", "I", false)
  | 5 => ("KnowHouse$QlRewrite$Question", "forms", "[LKnowHouse$QlRewrite$Form;", true)
  | 6 => ("KnowHouse$QlRewrite$Question", "count", "I", false)
  | 7 => ("KnowHouse$QlRewrite$Question", "large", "Z", false)
  | _ => ("KnowHouse$QlRewrite$Question", "known", "I", false)
def tyX62 : Nat → FieldType := fun k => match k with
  | 0 => .int
  | 1 => .array .int
  | 2 => .array .int
  | 3 => .array .int
  | 4 => .int
  | 5 => .array (.object "KnowHouse$QlRewrite$Form")
  | 6 => .int
  | 7 => .boolean
  | _ => .int
abbrev wsX620 : List Cond := u_ws RX62 TX62 9
theorem nmX62 : ∀ a, a < 9 → ∀ b, b < 9 → a ≠ b → (TX62 a).2.1 ≠ (TX62 b).2.1 := by decide +kernel
theorem tyX62_ok : ∀ k, k < 9 → parseFieldDescriptor (TX62 k).2.2.1 = some (tyX62 k) := by decide +kernel
abbrev cX62_init : ByteArray := prog_48_method_1_code
def yX62_init : MethodName := ⟨RX62, "<init>", "(I)V"⟩
theorem dX62_init_0 : decode cX62_init 0 = .ok (.aload_n 0, 1) := by decide +kernel
theorem dX62_init_1 : decode cX62_init 1 = .ok (.invokespecial 3, 3) := by decide +kernel
theorem dX62_init_4 : decode cX62_init 4 = .ok (.aload_n 0, 1) := by decide +kernel
theorem dX62_init_5 : decode cX62_init 5 = .ok (.iconst 4, 1) := by decide +kernel
theorem dX62_init_6 : decode cX62_init 6 = .ok (.newarray .int, 2) := by decide +kernel
theorem dX62_init_8 : decode cX62_init 8 = .ok (.putfield 9, 3) := by decide +kernel
theorem dX62_init_11 : decode cX62_init 11 = .ok (.aload_n 0, 1) := by decide +kernel
theorem dX62_init_12 : decode cX62_init 12 = .ok (.iconst 4, 1) := by decide +kernel
theorem dX62_init_13 : decode cX62_init 13 = .ok (.newarray .int, 2) := by decide +kernel
theorem dX62_init_15 : decode cX62_init 15 = .ok (.putfield 15, 3) := by decide +kernel
theorem dX62_init_18 : decode cX62_init 18 = .ok (.aload_n 0, 1) := by decide +kernel
theorem dX62_init_19 : decode cX62_init 19 = .ok (.iconst 4, 1) := by decide +kernel
theorem dX62_init_20 : decode cX62_init 20 = .ok (.newarray .int, 2) := by decide +kernel
theorem dX62_init_22 : decode cX62_init 22 = .ok (.putfield 18, 3) := by decide +kernel
theorem dX62_init_25 : decode cX62_init 25 = .ok (.aload_n 0, 1) := by decide +kernel
theorem dX62_init_26 : decode cX62_init 26 = .ok (.bipush 90, 2) := by decide +kernel
theorem dX62_init_28 : decode cX62_init 28 = .ok (.anewarray 21, 3) := by decide +kernel
theorem dX62_init_31 : decode cX62_init 31 = .ok (.putfield 23, 3) := by decide +kernel
theorem dX62_init_34 : decode cX62_init 34 = .ok (.aload_n 0, 1) := by decide +kernel
theorem dX62_init_35 : decode cX62_init 35 = .ok (.iconst (-1), 1) := by decide +kernel
theorem dX62_init_36 : decode cX62_init 36 = .ok (.putfield 27, 3) := by decide +kernel
theorem dX62_init_39 : decode cX62_init 39 = .ok (.aload_n 0, 1) := by decide +kernel
theorem dX62_init_40 : decode cX62_init 40 = .ok (.iload_n 1, 1) := by decide +kernel
theorem dX62_init_41 : decode cX62_init 41 = .ok (.putfield 31, 3) := by decide +kernel
theorem dX62_init_44 : decode cX62_init 44 = .ok (.return_, 1) := by decide +kernel
abbrev cX62_add : ByteArray := prog_48_method_3_code
def yX62_add : MethodName := ⟨RX62, "add", "(III)V"⟩
theorem dX62_add_0 : decode cX62_add 0 = .ok (.aload_n 0, 1) := by decide +kernel
theorem dX62_add_1 : decode cX62_add 1 = .ok (.getfield 9, 3) := by decide +kernel
theorem dX62_add_4 : decode cX62_add 4 = .ok (.aload_n 0, 1) := by decide +kernel
theorem dX62_add_5 : decode cX62_add 5 = .ok (.getfield 34, 3) := by decide +kernel
theorem dX62_add_8 : decode cX62_add 8 = .ok (.iload_n 1, 1) := by decide +kernel
theorem dX62_add_9 : decode cX62_add 9 = .ok (.iastore, 1) := by decide +kernel
theorem dX62_add_10 : decode cX62_add 10 = .ok (.aload_n 0, 1) := by decide +kernel
theorem dX62_add_11 : decode cX62_add 11 = .ok (.getfield 15, 3) := by decide +kernel
theorem dX62_add_14 : decode cX62_add 14 = .ok (.aload_n 0, 1) := by decide +kernel
theorem dX62_add_15 : decode cX62_add 15 = .ok (.getfield 34, 3) := by decide +kernel
theorem dX62_add_18 : decode cX62_add 18 = .ok (.iload_n 2, 1) := by decide +kernel
theorem dX62_add_19 : decode cX62_add 19 = .ok (.iastore, 1) := by decide +kernel
theorem dX62_add_20 : decode cX62_add 20 = .ok (.aload_n 0, 1) := by decide +kernel
theorem dX62_add_21 : decode cX62_add 21 = .ok (.getfield 18, 3) := by decide +kernel
theorem dX62_add_24 : decode cX62_add 24 = .ok (.aload_n 0, 1) := by decide +kernel
theorem dX62_add_25 : decode cX62_add 25 = .ok (.getfield 34, 3) := by decide +kernel
theorem dX62_add_28 : decode cX62_add 28 = .ok (.iload_n 3, 1) := by decide +kernel
theorem dX62_add_29 : decode cX62_add 29 = .ok (.iastore, 1) := by decide +kernel
theorem dX62_add_30 : decode cX62_add 30 = .ok (.aload_n 0, 1) := by decide +kernel
theorem dX62_add_31 : decode cX62_add 31 = .ok (.dup, 1) := by decide +kernel
theorem dX62_add_32 : decode cX62_add 32 = .ok (.getfield 34, 3) := by decide +kernel
theorem dX62_add_35 : decode cX62_add 35 = .ok (.iconst 1, 1) := by decide +kernel
theorem dX62_add_36 : decode cX62_add 36 = .ok (.iadd, 1) := by decide +kernel
theorem dX62_add_37 : decode cX62_add 37 = .ok (.putfield 34, 3) := by decide +kernel
theorem dX62_add_40 : decode cX62_add 40 = .ok (.aload_n 0, 1) := by decide +kernel
theorem dX62_add_41 : decode cX62_add 41 = .ok (.iconst (-1), 1) := by decide +kernel
theorem dX62_add_42 : decode cX62_add 42 = .ok (.putfield 27, 3) := by decide +kernel
theorem dX62_add_45 : decode cX62_add 45 = .ok (.return_, 1) := by decide +kernel
abbrev cX62_has : ByteArray := prog_48_method_2_code
def yX62_has : MethodName := ⟨RX62, "has", "(III)Z"⟩
theorem dX62_has_0 : decode cX62_has 0 = .ok (.iconst 0, 1) := by decide +kernel
theorem dX62_has_1 : decode cX62_has 1 = .ok (.istore 4, 2) := by decide +kernel
theorem dX62_has_3 : decode cX62_has 3 = .ok (.iconst 0, 1) := by decide +kernel
theorem dX62_has_4 : decode cX62_has 4 = .ok (.istore 5, 2) := by decide +kernel
theorem dX62_has_6 : decode cX62_has 6 = .ok (.iload 5, 2) := by decide +kernel
theorem dX62_has_8 : decode cX62_has 8 = .ok (.aload_n 0, 1) := by decide +kernel
theorem dX62_has_9 : decode cX62_has 9 = .ok (.getfield 34, 3) := by decide +kernel
theorem dX62_has_12 : decode cX62_has 12 = .ok (.if_icmp .ge 54, 3) := by decide +kernel
theorem dX62_has_15 : decode cX62_has 15 = .ok (.iload 4, 2) := by decide +kernel
theorem dX62_has_17 : decode cX62_has 17 = .ok (.ifCond .ne 36, 3) := by decide +kernel
theorem dX62_has_20 : decode cX62_has 20 = .ok (.aload_n 0, 1) := by decide +kernel
theorem dX62_has_21 : decode cX62_has 21 = .ok (.getfield 9, 3) := by decide +kernel
theorem dX62_has_24 : decode cX62_has 24 = .ok (.iload 5, 2) := by decide +kernel
theorem dX62_has_26 : decode cX62_has 26 = .ok (.iaload, 1) := by decide +kernel
theorem dX62_has_27 : decode cX62_has 27 = .ok (.iload_n 1, 1) := by decide +kernel
theorem dX62_has_28 : decode cX62_has 28 = .ok (.if_icmp .ne 29, 3) := by decide +kernel
theorem dX62_has_31 : decode cX62_has 31 = .ok (.aload_n 0, 1) := by decide +kernel
theorem dX62_has_32 : decode cX62_has 32 = .ok (.getfield 15, 3) := by decide +kernel
theorem dX62_has_35 : decode cX62_has 35 = .ok (.iload 5, 2) := by decide +kernel
theorem dX62_has_37 : decode cX62_has 37 = .ok (.iaload, 1) := by decide +kernel
theorem dX62_has_38 : decode cX62_has 38 = .ok (.iload_n 2, 1) := by decide +kernel
theorem dX62_has_39 : decode cX62_has 39 = .ok (.if_icmp .ne 18, 3) := by decide +kernel
theorem dX62_has_42 : decode cX62_has 42 = .ok (.aload_n 0, 1) := by decide +kernel
theorem dX62_has_43 : decode cX62_has 43 = .ok (.getfield 18, 3) := by decide +kernel
theorem dX62_has_46 : decode cX62_has 46 = .ok (.iload 5, 2) := by decide +kernel
theorem dX62_has_48 : decode cX62_has 48 = .ok (.iaload, 1) := by decide +kernel
theorem dX62_has_49 : decode cX62_has 49 = .ok (.iload_n 3, 1) := by decide +kernel
theorem dX62_has_50 : decode cX62_has 50 = .ok (.if_icmp .ne 7, 3) := by decide +kernel
theorem dX62_has_53 : decode cX62_has 53 = .ok (.iconst 1, 1) := by decide +kernel
theorem dX62_has_54 : decode cX62_has 54 = .ok (.goto 4, 3) := by decide +kernel
theorem dX62_has_57 : decode cX62_has 57 = .ok (.iconst 0, 1) := by decide +kernel
theorem dX62_has_58 : decode cX62_has 58 = .ok (.istore 4, 2) := by decide +kernel
theorem dX62_has_60 : decode cX62_has 60 = .ok (.iinc 5 1, 3) := by decide +kernel
theorem dX62_has_63 : decode cX62_has 63 = .ok (.goto (-57), 3) := by decide +kernel
theorem dX62_has_66 : decode cX62_has 66 = .ok (.iload 4, 2) := by decide +kernel
theorem dX62_has_68 : decode cX62_has 68 = .ok (.ireturn, 1) := by decide +kernel
theorem in_X62 : ∀ w ∈ wsX620, w ∈ lw_all := lw_in wsX620 [3200, 3202, 3204, 3206, 3208, 3210, 3212, 3214, 3216] (by decide +kernel) (by decide +kernel)
def RX85 : String := "KnowHouse$QlRewrite$Form"
def TX85 : u_T := fun k => match k with
  | 0 => ("KnowHouse$QlRewrite$Form", "first", "I", true)
  | 1 => ("KnowHouse$QlRewrite$Form", "second", "I", true)
  | _ => ("KnowHouse$QlRewrite$Form", "codes", "[I", true)
def tyX85 : Nat → FieldType := fun k => match k with
  | 0 => .int
  | 1 => .int
  | _ => .array .int
abbrev wsX850 : List Cond := u_ws RX85 TX85 3
theorem nmX85 : ∀ a, a < 3 → ∀ b, b < 3 → a ≠ b → (TX85 a).2.1 ≠ (TX85 b).2.1 := by decide +kernel
theorem tyX85_ok : ∀ k, k < 3 → parseFieldDescriptor (TX85 k).2.2.1 = some (tyX85 k) := by decide +kernel
abbrev cX85_isSame : ByteArray := prog_47_method_2_code
def yX85_isSame : MethodName := ⟨RX85, "isSame", "(II[II)Z"⟩
theorem dX85_isSame_0 : decode cX85_isSame 0 = .ok (.iload_n 1, 1) := by decide +kernel
theorem dX85_isSame_1 : decode cX85_isSame 1 = .ok (.aload_n 0, 1) := by decide +kernel
theorem dX85_isSame_2 : decode cX85_isSame 2 = .ok (.getfield 7, 3) := by decide +kernel
theorem dX85_isSame_5 : decode cX85_isSame 5 = .ok (.if_icmp .ne 25, 3) := by decide +kernel
theorem dX85_isSame_8 : decode cX85_isSame 8 = .ok (.iload_n 2, 1) := by decide +kernel
theorem dX85_isSame_9 : decode cX85_isSame 9 = .ok (.aload_n 0, 1) := by decide +kernel
theorem dX85_isSame_10 : decode cX85_isSame 10 = .ok (.getfield 13, 3) := by decide +kernel
theorem dX85_isSame_13 : decode cX85_isSame 13 = .ok (.if_icmp .ne 17, 3) := by decide +kernel
theorem dX85_isSame_16 : decode cX85_isSame 16 = .ok (.iload 4, 2) := by decide +kernel
theorem dX85_isSame_18 : decode cX85_isSame 18 = .ok (.aload_n 0, 1) := by decide +kernel
theorem dX85_isSame_19 : decode cX85_isSame 19 = .ok (.getfield 16, 3) := by decide +kernel
theorem dX85_isSame_22 : decode cX85_isSame 22 = .ok (.arraylength, 1) := by decide +kernel
theorem dX85_isSame_23 : decode cX85_isSame 23 = .ok (.if_icmp .ne 7, 3) := by decide +kernel
theorem dX85_isSame_26 : decode cX85_isSame 26 = .ok (.iconst 1, 1) := by decide +kernel
theorem dX85_isSame_27 : decode cX85_isSame 27 = .ok (.goto 4, 3) := by decide +kernel
theorem dX85_isSame_30 : decode cX85_isSame 30 = .ok (.iconst 0, 1) := by decide +kernel
theorem dX85_isSame_31 : decode cX85_isSame 31 = .ok (.istore 5, 2) := by decide +kernel
theorem dX85_isSame_33 : decode cX85_isSame 33 = .ok (.iconst 0, 1) := by decide +kernel
theorem dX85_isSame_34 : decode cX85_isSame 34 = .ok (.istore 6, 2) := by decide +kernel
theorem dX85_isSame_36 : decode cX85_isSame 36 = .ok (.iload 6, 2) := by decide +kernel
theorem dX85_isSame_38 : decode cX85_isSame 38 = .ok (.iload 4, 2) := by decide +kernel
theorem dX85_isSame_40 : decode cX85_isSame 40 = .ok (.if_icmp .ge 35, 3) := by decide +kernel
theorem dX85_isSame_43 : decode cX85_isSame 43 = .ok (.iload 5, 2) := by decide +kernel
theorem dX85_isSame_45 : decode cX85_isSame 45 = .ok (.ifCond .eq 30, 3) := by decide +kernel
theorem dX85_isSame_48 : decode cX85_isSame 48 = .ok (.aload_n 3, 1) := by decide +kernel
theorem dX85_isSame_49 : decode cX85_isSame 49 = .ok (.iload 6, 2) := by decide +kernel
theorem dX85_isSame_51 : decode cX85_isSame 51 = .ok (.iaload, 1) := by decide +kernel
theorem dX85_isSame_52 : decode cX85_isSame 52 = .ok (.aload_n 0, 1) := by decide +kernel
theorem dX85_isSame_53 : decode cX85_isSame 53 = .ok (.getfield 16, 3) := by decide +kernel
theorem dX85_isSame_56 : decode cX85_isSame 56 = .ok (.iload 6, 2) := by decide +kernel
theorem dX85_isSame_58 : decode cX85_isSame 58 = .ok (.iaload, 1) := by decide +kernel
theorem dX85_isSame_59 : decode cX85_isSame 59 = .ok (.if_icmp .ne 7, 3) := by decide +kernel
theorem dX85_isSame_62 : decode cX85_isSame 62 = .ok (.iconst 1, 1) := by decide +kernel
theorem dX85_isSame_63 : decode cX85_isSame 63 = .ok (.goto 4, 3) := by decide +kernel
theorem dX85_isSame_66 : decode cX85_isSame 66 = .ok (.iconst 0, 1) := by decide +kernel
theorem dX85_isSame_67 : decode cX85_isSame 67 = .ok (.istore 5, 2) := by decide +kernel
theorem dX85_isSame_69 : decode cX85_isSame 69 = .ok (.iinc 6 1, 3) := by decide +kernel
theorem dX85_isSame_72 : decode cX85_isSame 72 = .ok (.goto (-36), 3) := by decide +kernel
theorem dX85_isSame_75 : decode cX85_isSame 75 = .ok (.iload 5, 2) := by decide +kernel
theorem dX85_isSame_77 : decode cX85_isSame 77 = .ok (.ireturn, 1) := by decide +kernel
abbrev cX85_init : ByteArray := prog_47_method_1_code
def yX85_init : MethodName := ⟨RX85, "<init>", "(II[I)V"⟩
theorem dX85_init_0 : decode cX85_init 0 = .ok (.aload_n 0, 1) := by decide +kernel
theorem dX85_init_1 : decode cX85_init 1 = .ok (.invokespecial 1, 3) := by decide +kernel
theorem dX85_init_4 : decode cX85_init 4 = .ok (.aload_n 0, 1) := by decide +kernel
theorem dX85_init_5 : decode cX85_init 5 = .ok (.iload_n 1, 1) := by decide +kernel
theorem dX85_init_6 : decode cX85_init 6 = .ok (.putfield 7, 3) := by decide +kernel
theorem dX85_init_9 : decode cX85_init 9 = .ok (.aload_n 0, 1) := by decide +kernel
theorem dX85_init_10 : decode cX85_init 10 = .ok (.iload_n 2, 1) := by decide +kernel
theorem dX85_init_11 : decode cX85_init 11 = .ok (.putfield 13, 3) := by decide +kernel
theorem dX85_init_14 : decode cX85_init 14 = .ok (.aload_n 0, 1) := by decide +kernel
theorem dX85_init_15 : decode cX85_init 15 = .ok (.aload_n 3, 1) := by decide +kernel
theorem dX85_init_16 : decode cX85_init 16 = .ok (.putfield 16, 3) := by decide +kernel
theorem dX85_init_19 : decode cX85_init 19 = .ok (.return_, 1) := by decide +kernel
theorem in_X85 : ∀ w ∈ wsX850, w ∈ lw_all := lw_in wsX850 [5524, 5526, 5528] (by decide +kernel) (by decide +kernel)
theorem q526 : (Jvm.Cond.initialized "KnowHouse$QlRewrite") ∈ lw_all := lw_g (lw_at lw_m1 48 rfl) rfl
theorem q527 : (Jvm.Cond.initialized "KnowHouse$QlRewrite$Draft") ∈ lw_all := lw_g (lw_at lw_m1 49 rfl) rfl
theorem q566 : (Jvm.Cond.initialized "KnowHouse$QlRewrite$Question") ∈ lw_all := lw_g (lw_at lw_m1 88 rfl) rfl
theorem q593 : (Jvm.Cond.initialized "KnowHouse$QlRewrite$Form") ∈ lw_all := lw_g (lw_at lw_m1 115 rfl) rfl
theorem q1679 : (Jvm.Cond.methodLink "KnowHouse$QlRewrite" (1 : Nat) ({ cls := "java/lang/Object", name := "<init>", desc := "()V" } : Jvm.MethodName)) ∈ lw_all := lw_g (lw_at lw_m6 1 rfl) rfl
theorem q1680 : (Jvm.Cond.classLink "KnowHouse$QlRewrite" (26 : Nat) "KnowHouse$QlRewrite$Draft") ∈ lw_all := lw_g (lw_at lw_m6 2 rfl) rfl
theorem q1681 : (Jvm.Cond.instantiable "KnowHouse$QlRewrite$Draft" (12 : Nat)) ∈ lw_all := lw_g (lw_at lw_m6 3 rfl) rfl
theorem q1682 : (Jvm.Cond.methodLinkNest "KnowHouse$QlRewrite" (28 : Nat) ({ cls := "KnowHouse$QlRewrite$Draft", name := "<init>", desc := "()V" } : Jvm.MethodName) "KnowHouse") ∈ lw_tbl := lw_at lw_m6 4 rfl
theorem q1683 : (Jvm.Cond.instanceMethod ({ cls := "KnowHouse$QlRewrite$Draft", name := "<init>", desc := "()V" } : Jvm.MethodName)) ∈ lw_all := lw_g (lw_at lw_m6 5 rfl) rfl
theorem q1684 : (Jvm.Cond.code ({ cls := "KnowHouse$QlRewrite$Draft", name := "<init>", desc := "()V" } : Jvm.MethodName) prog_46_method_1_code (1 : Nat) (Option.none : Option Jvm.ClassFile.FieldType)) ∈ lw_all := lw_g (lw_at lw_m6 6 rfl) rfl
theorem q1685 : (Jvm.Cond.methodLink "KnowHouse$QlRewrite$Draft" (3 : Nat) ({ cls := "java/lang/Object", name := "<init>", desc := "()V" } : Jvm.MethodName)) ∈ lw_all := lw_g (lw_at lw_m6 7 rfl) rfl
theorem q1686 : (Jvm.Cond.fieldLink "KnowHouse$QlRewrite$Draft" (33 : Nat) "KnowHouse$QlRewrite$Draft" "first" "I") ∈ lw_all := lw_g (lw_at lw_m6 8 rfl) rfl
theorem q1687 : (Jvm.Cond.fieldLinkNest "KnowHouse$QlRewrite" (108 : Nat) "KnowHouse$QlRewrite$Draft" "first" "I" "KnowHouse") ∈ lw_tbl := lw_at lw_m6 9 rfl
theorem q1688 : (Jvm.Cond.fieldLink "KnowHouse$QlRewrite$Draft" (37 : Nat) "KnowHouse$QlRewrite$Draft" "second" "I") ∈ lw_all := lw_g (lw_at lw_m6 10 rfl) rfl
theorem q1689 : (Jvm.Cond.fieldLinkNest "KnowHouse$QlRewrite" (111 : Nat) "KnowHouse$QlRewrite$Draft" "second" "I" "KnowHouse") ∈ lw_tbl := lw_at lw_m6 11 rfl
theorem q1690 : (Jvm.Cond.fieldLink "KnowHouse$QlRewrite$Draft" (9 : Nat) "KnowHouse$QlRewrite$Draft" "names" "[I") ∈ lw_all := lw_g (lw_at lw_m6 12 rfl) rfl
theorem q1691 : (Jvm.Cond.fieldLinkNest "KnowHouse$QlRewrite" (165 : Nat) "KnowHouse$QlRewrite$Draft" "names" "[I" "KnowHouse") ∈ lw_tbl := lw_at lw_m6 13 rfl
theorem q1692 : (Jvm.Cond.fieldLink "KnowHouse$QlRewrite$Draft" (15 : Nat) "KnowHouse$QlRewrite$Draft" "from" "[I") ∈ lw_all := lw_g (lw_at lw_m6 14 rfl) rfl
theorem q1693 : (Jvm.Cond.fieldLinkNest "KnowHouse$QlRewrite" (166 : Nat) "KnowHouse$QlRewrite$Draft" "from" "[I" "KnowHouse") ∈ lw_tbl := lw_at lw_m6 15 rfl
theorem q1694 : (Jvm.Cond.fieldLink "KnowHouse$QlRewrite$Draft" (18 : Nat) "KnowHouse$QlRewrite$Draft" "to" "[I") ∈ lw_all := lw_g (lw_at lw_m6 16 rfl) rfl
theorem q1695 : (Jvm.Cond.fieldLinkNest "KnowHouse$QlRewrite" (167 : Nat) "KnowHouse$QlRewrite$Draft" "to" "[I" "KnowHouse") ∈ lw_tbl := lw_at lw_m6 17 rfl
theorem q1696 : (Jvm.Cond.fieldLink "KnowHouse$QlRewrite$Draft" (40 : Nat) "KnowHouse$QlRewrite$Draft" "n" "I") ∈ lw_all := lw_g (lw_at lw_m6 18 rfl) rfl
theorem q1697 : (Jvm.Cond.fieldLinkNest "KnowHouse$QlRewrite" (117 : Nat) "KnowHouse$QlRewrite$Draft" "n" "I" "KnowHouse") ∈ lw_tbl := lw_at lw_m6 19 rfl
theorem q1698 : (Jvm.Cond.fieldLink "KnowHouse$QlRewrite$Draft" (21 : Nat) "KnowHouse$QlRewrite$Draft" "codes" "[I") ∈ lw_all := lw_g (lw_at lw_m6 20 rfl) rfl
theorem q1699 : (Jvm.Cond.fieldLink "KnowHouse$QlRewrite$Draft" (24 : Nat) "KnowHouse$QlRewrite$Draft" "least" "[I") ∈ lw_all := lw_g (lw_at lw_m6 21 rfl) rfl
theorem q1700 : (Jvm.Cond.fieldLinkNest "KnowHouse$QlRewrite" (114 : Nat) "KnowHouse$QlRewrite$Draft" "least" "[I" "KnowHouse") ∈ lw_tbl := lw_at lw_m6 22 rfl
theorem q1701 : (Jvm.Cond.fieldLink "KnowHouse$QlRewrite$Draft" (89 : Nat) "KnowHouse$QlRewrite$Draft" "hasLeast" "Z") ∈ lw_all := lw_g (lw_at lw_m6 23 rfl) rfl
theorem q1702 : (Jvm.Cond.fieldLink "KnowHouse$QlRewrite$Draft" (27 : Nat) "KnowHouse$QlRewrite$Draft" "others" "[I") ∈ lw_all := lw_g (lw_at lw_m6 24 rfl) rfl
theorem q1703 : (Jvm.Cond.fieldLink "KnowHouse$QlRewrite$Draft" (83 : Nat) "KnowHouse$QlRewrite$Draft" "otherCount" "I") ∈ lw_all := lw_g (lw_at lw_m6 25 rfl) rfl
theorem q1704 : (Jvm.Cond.fieldLink "KnowHouse$QlRewrite$Draft" (30 : Nat) "KnowHouse$QlRewrite$Draft" "named" "[I") ∈ lw_all := lw_g (lw_at lw_m6 26 rfl) rfl
theorem q1730 : (Jvm.Cond.classLink "KnowHouse$QlRewrite" (33 : Nat) "KnowHouse$QlRewrite$Question") ∈ lw_all := lw_g (lw_at lw_m6 52 rfl) rfl
theorem q1731 : (Jvm.Cond.arrayOver (Jvm.ClassFile.FieldType.object "KnowHouse$QlRewrite$Question")) ∈ lw_tbl := lw_at lw_m6 53 rfl
theorem q1732 : (Jvm.Cond.fieldLink "KnowHouse$QlRewrite" (9 : Nat) "KnowHouse$QlRewrite" "kinds" "[I") ∈ lw_all := lw_g (lw_at lw_m6 54 rfl) rfl
theorem q1733 : (Jvm.Cond.fieldLink "KnowHouse$QlRewrite" (13 : Nat) "KnowHouse$QlRewrite" "lefts" "[I") ∈ lw_all := lw_g (lw_at lw_m6 55 rfl) rfl
theorem q1734 : (Jvm.Cond.fieldLink "KnowHouse$QlRewrite" (16 : Nat) "KnowHouse$QlRewrite" "rights" "[I") ∈ lw_all := lw_g (lw_at lw_m6 56 rfl) rfl
theorem q1735 : (Jvm.Cond.fieldLink "KnowHouse$QlRewrite" (53 : Nat) "KnowHouse$QlRewrite" "axioms" "I") ∈ lw_all := lw_g (lw_at lw_m6 57 rfl) rfl
theorem q1736 : (Jvm.Cond.fieldLink "KnowHouse$QlRewrite" (19 : Nat) "KnowHouse$QlRewrite" "classFacts" "[Z") ∈ lw_all := lw_g (lw_at lw_m6 58 rfl) rfl
theorem q1737 : (Jvm.Cond.fieldLink "KnowHouse$QlRewrite" (23 : Nat) "KnowHouse$QlRewrite" "roleFacts" "[Z") ∈ lw_all := lw_g (lw_at lw_m6 59 rfl) rfl
theorem q1738 : (Jvm.Cond.fieldLink "KnowHouse$QlRewrite" (61 : Nat) "KnowHouse$QlRewrite" "facts" "I") ∈ lw_all := lw_g (lw_at lw_m6 60 rfl) rfl
theorem q1739 : (Jvm.Cond.fieldLink "KnowHouse$QlRewrite" (29 : Nat) "KnowHouse$QlRewrite" "draft" "LKnowHouse$QlRewrite$Draft;") ∈ lw_all := lw_g (lw_at lw_m6 61 rfl) rfl
theorem q1740 : (Jvm.Cond.fieldLink "KnowHouse$QlRewrite" (35 : Nat) "KnowHouse$QlRewrite" "questions" "[LKnowHouse$QlRewrite$Question;") ∈ lw_all := lw_g (lw_at lw_m6 62 rfl) rfl
theorem q1741 : (Jvm.Cond.fieldLink "KnowHouse$QlRewrite" (85 : Nat) "KnowHouse$QlRewrite" "questionCount" "I") ∈ lw_all := lw_g (lw_at lw_m6 63 rfl) rfl
theorem q1742 : (Jvm.Cond.fieldLink "KnowHouse$QlRewrite" (39 : Nat) "KnowHouse$QlRewrite" "forbidden" "[LKnowHouse$QlRewrite$Question;") ∈ lw_all := lw_g (lw_at lw_m6 64 rfl) rfl
theorem q1743 : (Jvm.Cond.fieldLink "KnowHouse$QlRewrite" (42 : Nat) "KnowHouse$QlRewrite" "given" "[I") ∈ lw_all := lw_g (lw_at lw_m6 65 rfl) rfl
theorem q3168 : (Jvm.Cond.methodLink "KnowHouse$QlRewrite" (45 : Nat) ({ cls := "KnowHouse$QlRewrite", name := "isIn", desc := "(II)Z" } : Jvm.MethodName)) ∈ lw_all := lw_g (lw_at lw_m12 50 rfl) rfl
theorem q3169 : (Jvm.Cond.static ({ cls := "KnowHouse$QlRewrite", name := "isIn", desc := "(II)Z" } : Jvm.MethodName)) ∈ lw_all := lw_g (lw_at lw_m12 51 rfl) rfl
theorem q3170 : (Jvm.Cond.code ({ cls := "KnowHouse$QlRewrite", name := "isIn", desc := "(II)Z" } : Jvm.MethodName) prog_45_method_2_code (2 : Nat) (Option.some Jvm.ClassFile.FieldType.boolean)) ∈ lw_all := lw_g (lw_at lw_m12 52 rfl) rfl
theorem q3171 : (Jvm.Cond.methodLink "KnowHouse$QlRewrite" (49 : Nat) ({ cls := "KnowHouse$QlRewrite", name := "isSort", desc := "(I)Z" } : Jvm.MethodName)) ∈ lw_all := lw_g (lw_at lw_m12 53 rfl) rfl
theorem q3172 : (Jvm.Cond.static ({ cls := "KnowHouse$QlRewrite", name := "isSort", desc := "(I)Z" } : Jvm.MethodName)) ∈ lw_all := lw_g (lw_at lw_m12 54 rfl) rfl
theorem q3173 : (Jvm.Cond.code ({ cls := "KnowHouse$QlRewrite", name := "isSort", desc := "(I)Z" } : Jvm.MethodName) prog_45_method_3_code (1 : Nat) (Option.some Jvm.ClassFile.FieldType.boolean)) ∈ lw_all := lw_g (lw_at lw_m12 55 rfl) rfl
theorem q3174 : (Jvm.Cond.methodLink "KnowHouse$QlRewrite" (57 : Nat) ({ cls := "KnowHouse$QlRewrite", name := "clash", desc := "(ZII)LKnowHouse$QlRewrite$Question;" } : Jvm.MethodName)) ∈ lw_all := lw_g (lw_at lw_m12 56 rfl) rfl
theorem q3175 : (Jvm.Cond.static ({ cls := "KnowHouse$QlRewrite", name := "clash", desc := "(ZII)LKnowHouse$QlRewrite$Question;" } : Jvm.MethodName)) ∈ lw_all := lw_g (lw_at lw_m12 57 rfl) rfl
theorem q3176 : (Jvm.Cond.code ({ cls := "KnowHouse$QlRewrite", name := "clash", desc := "(ZII)LKnowHouse$QlRewrite$Question;" } : Jvm.MethodName) prog_45_method_10_code (9 : Nat) (Option.some (Jvm.ClassFile.FieldType.object "KnowHouse$QlRewrite$Question"))) ∈ lw_all := lw_g (lw_at lw_m12 58 rfl) rfl
theorem q3177 : (Jvm.Cond.instantiable "KnowHouse$QlRewrite$Question" (9 : Nat)) ∈ lw_all := lw_g (lw_at lw_m12 59 rfl) rfl
theorem q3178 : (Jvm.Cond.methodLink "KnowHouse$QlRewrite" (75 : Nat) ({ cls := "KnowHouse$QlRewrite$Question", name := "<init>", desc := "(I)V" } : Jvm.MethodName)) ∈ lw_all := lw_g (lw_at lw_m12 60 rfl) rfl
theorem q3179 : (Jvm.Cond.instanceMethod ({ cls := "KnowHouse$QlRewrite$Question", name := "<init>", desc := "(I)V" } : Jvm.MethodName)) ∈ lw_all := lw_g (lw_at lw_m12 61 rfl) rfl
theorem q3180 : (Jvm.Cond.code ({ cls := "KnowHouse$QlRewrite$Question", name := "<init>", desc := "(I)V" } : Jvm.MethodName) prog_48_method_1_code (2 : Nat) (Option.none : Option Jvm.ClassFile.FieldType)) ∈ lw_all := lw_g (lw_at lw_m12 62 rfl) rfl
theorem q3181 : (Jvm.Cond.methodLink "KnowHouse$QlRewrite$Question" (3 : Nat) ({ cls := "java/lang/Object", name := "<init>", desc := "()V" } : Jvm.MethodName)) ∈ lw_all := lw_g (lw_at lw_m12 63 rfl) rfl
theorem q3182 : (Jvm.Cond.classLink "KnowHouse$QlRewrite$Question" (21 : Nat) "KnowHouse$QlRewrite$Form") ∈ lw_all := lw_g (lw_at lw_m12 64 rfl) rfl
theorem q3183 : (Jvm.Cond.arrayOver (Jvm.ClassFile.FieldType.object "KnowHouse$QlRewrite$Form")) ∈ lw_tbl := lw_at lw_m12 65 rfl
theorem q3184 : (Jvm.Cond.fieldLink "KnowHouse$QlRewrite$Question" (31 : Nat) "KnowHouse$QlRewrite$Question" "answers" "I") ∈ lw_all := lw_g (lw_at lw_m12 66 rfl) rfl
theorem q3185 : (Jvm.Cond.fieldLinkNest "KnowHouse$QlRewrite" (130 : Nat) "KnowHouse$QlRewrite$Question" "answers" "I" "KnowHouse") ∈ lw_tbl := lw_at lw_m12 67 rfl
theorem q3186 : (Jvm.Cond.fieldLink "KnowHouse$QlRewrite$Question" (9 : Nat) "KnowHouse$QlRewrite$Question" "names" "[I") ∈ lw_all := lw_g (lw_at lw_m12 68 rfl) rfl
theorem q3187 : (Jvm.Cond.fieldLinkNest "KnowHouse$QlRewrite" (137 : Nat) "KnowHouse$QlRewrite$Question" "names" "[I" "KnowHouse") ∈ lw_tbl := lw_at lw_m12 69 rfl
theorem q3188 : (Jvm.Cond.fieldLink "KnowHouse$QlRewrite$Question" (15 : Nat) "KnowHouse$QlRewrite$Question" "from" "[I") ∈ lw_all := lw_g (lw_at lw_m12 70 rfl) rfl
theorem q3189 : (Jvm.Cond.fieldLinkNest "KnowHouse$QlRewrite" (140 : Nat) "KnowHouse$QlRewrite$Question" "from" "[I" "KnowHouse") ∈ lw_tbl := lw_at lw_m12 71 rfl
theorem q3190 : (Jvm.Cond.fieldLink "KnowHouse$QlRewrite$Question" (18 : Nat) "KnowHouse$QlRewrite$Question" "to" "[I") ∈ lw_all := lw_g (lw_at lw_m12 72 rfl) rfl
theorem q3191 : (Jvm.Cond.fieldLinkNest "KnowHouse$QlRewrite" (143 : Nat) "KnowHouse$QlRewrite$Question" "to" "[I" "KnowHouse") ∈ lw_tbl := lw_at lw_m12 73 rfl
theorem q3192 : (Jvm.Cond.fieldLink "KnowHouse$QlRewrite$Question" (34 : Nat) "KnowHouse$QlRewrite$Question" "n" "I") ∈ lw_all := lw_g (lw_at lw_m12 74 rfl) rfl
theorem q3193 : (Jvm.Cond.fieldLinkNest "KnowHouse$QlRewrite" (91 : Nat) "KnowHouse$QlRewrite$Question" "n" "I" "KnowHouse") ∈ lw_tbl := lw_at lw_m12 75 rfl
theorem q3194 : (Jvm.Cond.fieldLink "KnowHouse$QlRewrite$Question" (23 : Nat) "KnowHouse$QlRewrite$Question" "forms" "[LKnowHouse$QlRewrite$Form;") ∈ lw_all := lw_g (lw_at lw_m12 76 rfl) rfl
theorem q3195 : (Jvm.Cond.fieldLinkNest "KnowHouse$QlRewrite" (104 : Nat) "KnowHouse$QlRewrite$Question" "forms" "[LKnowHouse$QlRewrite$Form;" "KnowHouse") ∈ lw_tbl := lw_at lw_m12 77 rfl
theorem q3196 : (Jvm.Cond.fieldLinkNest "KnowHouse$QlRewrite" (101 : Nat) "KnowHouse$QlRewrite$Question" "count" "I" "KnowHouse") ∈ lw_tbl := lw_at lw_m12 78 rfl
theorem q3197 : (Jvm.Cond.fieldLinkNest "KnowHouse$QlRewrite" (97 : Nat) "KnowHouse$QlRewrite$Question" "large" "Z" "KnowHouse") ∈ lw_tbl := lw_at lw_m12 79 rfl
theorem q3198 : (Jvm.Cond.fieldLink "KnowHouse$QlRewrite$Question" (27 : Nat) "KnowHouse$QlRewrite$Question" "known" "I") ∈ lw_all := lw_g (lw_at lw_m12 80 rfl) rfl
theorem q3199 : (Jvm.Cond.fieldLinkNest "KnowHouse$QlRewrite" (127 : Nat) "KnowHouse$QlRewrite$Question" "known" "I" "KnowHouse") ∈ lw_tbl := lw_at lw_m12 81 rfl
theorem q3219 : (Jvm.Cond.methodLink "KnowHouse$QlRewrite" (78 : Nat) ({ cls := "KnowHouse$QlRewrite$Question", name := "add", desc := "(III)V" } : Jvm.MethodName)) ∈ lw_all := lw_g (lw_at lw_m12 101 rfl) rfl
theorem q3220 : (Jvm.Cond.instanceMethod ({ cls := "KnowHouse$QlRewrite$Question", name := "add", desc := "(III)V" } : Jvm.MethodName)) ∈ lw_all := lw_g (lw_at lw_m12 102 rfl) rfl
theorem q3221 : (Jvm.Cond.selects "KnowHouse$QlRewrite$Question" ({ cls := "KnowHouse$QlRewrite$Question", name := "add", desc := "(III)V" } : Jvm.MethodName) ({ cls := "KnowHouse$QlRewrite$Question", name := "add", desc := "(III)V" } : Jvm.MethodName)) ∈ lw_all := lw_g (lw_at lw_m12 103 rfl) rfl
theorem q3222 : (Jvm.Cond.code ({ cls := "KnowHouse$QlRewrite$Question", name := "add", desc := "(III)V" } : Jvm.MethodName) prog_48_method_3_code (4 : Nat) (Option.none : Option Jvm.ClassFile.FieldType)) ∈ lw_all := lw_g (lw_at lw_m12 104 rfl) rfl
theorem q3223 : (Jvm.Cond.methodLink "KnowHouse$QlRewrite" (82 : Nat) ({ cls := "KnowHouse$QlRewrite$Question", name := "has", desc := "(III)Z" } : Jvm.MethodName)) ∈ lw_all := lw_g (lw_at lw_m12 105 rfl) rfl
theorem q3224 : (Jvm.Cond.instanceMethod ({ cls := "KnowHouse$QlRewrite$Question", name := "has", desc := "(III)Z" } : Jvm.MethodName)) ∈ lw_all := lw_g (lw_at lw_m12 106 rfl) rfl
theorem q3225 : (Jvm.Cond.selects "KnowHouse$QlRewrite$Question" ({ cls := "KnowHouse$QlRewrite$Question", name := "has", desc := "(III)Z" } : Jvm.MethodName) ({ cls := "KnowHouse$QlRewrite$Question", name := "has", desc := "(III)Z" } : Jvm.MethodName)) ∈ lw_all := lw_g (lw_at lw_m12 107 rfl) rfl
theorem q3226 : (Jvm.Cond.code ({ cls := "KnowHouse$QlRewrite$Question", name := "has", desc := "(III)Z" } : Jvm.MethodName) prog_48_method_2_code (6 : Nat) (Option.some Jvm.ClassFile.FieldType.boolean)) ∈ lw_all := lw_g (lw_at lw_m12 108 rfl) rfl
theorem q3243 : (Jvm.Cond.methodLink "KnowHouse$QlRewrite" (64 : Nat) ({ cls := "KnowHouse$QlRewrite", name := "isFact", desc := "(ZIII)Z" } : Jvm.MethodName)) ∈ lw_all := lw_g (lw_at lw_m12 125 rfl) rfl
theorem q3244 : (Jvm.Cond.static ({ cls := "KnowHouse$QlRewrite", name := "isFact", desc := "(ZIII)Z" } : Jvm.MethodName)) ∈ lw_all := lw_g (lw_at lw_m12 126 rfl) rfl
theorem q3245 : (Jvm.Cond.code ({ cls := "KnowHouse$QlRewrite", name := "isFact", desc := "(ZIII)Z" } : Jvm.MethodName) prog_45_method_5_code (4 : Nat) (Option.some Jvm.ClassFile.FieldType.boolean)) ∈ lw_all := lw_g (lw_at lw_m12 127 rfl) rfl
theorem q3246 : (Jvm.Cond.methodLink "KnowHouse$QlRewrite" (68 : Nat) ({ cls := "KnowHouse$QlRewrite", name := "has", desc := "(ZIII)Z" } : Jvm.MethodName)) ∈ lw_all := lw_g (lw_at lw_m12 128 rfl) rfl
theorem q3248 : (Jvm.Cond.instanceMethod ({ cls := "KnowHouse$QlRewrite", name := "has", desc := "(ZIII)Z" } : Jvm.MethodName)) ∈ lw_all := lw_g (lw_at lw_m12 130 rfl) rfl
theorem q3249 : (Jvm.Cond.code ({ cls := "KnowHouse$QlRewrite", name := "has", desc := "(ZIII)Z" } : Jvm.MethodName) prog_45_method_6_code (5 : Nat) (Option.some Jvm.ClassFile.FieldType.boolean)) ∈ lw_all := lw_g (lw_at lw_m12 131 rfl) rfl
theorem q3250 : (Jvm.Cond.methodLink "KnowHouse$QlRewrite" (71 : Nat) ({ cls := "KnowHouse$QlRewrite", name := "set", desc := "(ZIIIZ)V" } : Jvm.MethodName)) ∈ lw_all := lw_g (lw_at lw_m12 132 rfl) rfl
theorem q3252 : (Jvm.Cond.instanceMethod ({ cls := "KnowHouse$QlRewrite", name := "set", desc := "(ZIIIZ)V" } : Jvm.MethodName)) ∈ lw_all := lw_g (lw_at lw_m12 134 rfl) rfl
theorem q3253 : (Jvm.Cond.code ({ cls := "KnowHouse$QlRewrite", name := "set", desc := "(ZIIIZ)V" } : Jvm.MethodName) prog_45_method_7_code (6 : Nat) (Option.none : Option Jvm.ClassFile.FieldType)) ∈ lw_all := lw_g (lw_at lw_m12 135 rfl) rfl
theorem q5435 : (Jvm.Cond.methodLink "KnowHouse$QlRewrite" (88 : Nat) ({ cls := "KnowHouse$QlRewrite", name := "isQuestion", desc := "(I)Z" } : Jvm.MethodName)) ∈ lw_all := lw_g (lw_at lw_m21 157 rfl) rfl
theorem q5437 : (Jvm.Cond.instanceMethod ({ cls := "KnowHouse$QlRewrite", name := "isQuestion", desc := "(I)Z" } : Jvm.MethodName)) ∈ lw_all := lw_g (lw_at lw_m21 159 rfl) rfl
theorem q5438 : (Jvm.Cond.code ({ cls := "KnowHouse$QlRewrite", name := "isQuestion", desc := "(I)Z" } : Jvm.MethodName) prog_45_method_11_code (2 : Nat) (Option.some Jvm.ClassFile.FieldType.boolean)) ∈ lw_all := lw_g (lw_at lw_m21 160 rfl) rfl
theorem q5443 : (Jvm.Cond.methodLink "KnowHouse$QlRewrite" (200 : Nat) ({ cls := "KnowHouse$QlRewrite", name := "ready", desc := "(I)I" } : Jvm.MethodName)) ∈ lw_all := lw_g (lw_at lw_m21 165 rfl) rfl
theorem q5445 : (Jvm.Cond.instanceMethod ({ cls := "KnowHouse$QlRewrite", name := "ready", desc := "(I)I" } : Jvm.MethodName)) ∈ lw_all := lw_g (lw_at lw_m21 167 rfl) rfl
theorem q5446 : (Jvm.Cond.code ({ cls := "KnowHouse$QlRewrite", name := "ready", desc := "(I)I" } : Jvm.MethodName) prog_45_method_25_code (2 : Nat) (Option.some Jvm.ClassFile.FieldType.int)) ∈ lw_all := lw_g (lw_at lw_m21 168 rfl) rfl
theorem q5447 : (Jvm.Cond.methodLink "KnowHouse$QlRewrite" (197 : Nat) ({ cls := "KnowHouse$QlRewrite", name := "make", desc := "(LKnowHouse$QlRewrite$Question;)V" } : Jvm.MethodName)) ∈ lw_all := lw_g (lw_at lw_m21 169 rfl) rfl
theorem q5449 : (Jvm.Cond.instanceMethod ({ cls := "KnowHouse$QlRewrite", name := "make", desc := "(LKnowHouse$QlRewrite$Question;)V" } : Jvm.MethodName)) ∈ lw_all := lw_g (lw_at lw_m21 171 rfl) rfl
theorem q5450 : (Jvm.Cond.code ({ cls := "KnowHouse$QlRewrite", name := "make", desc := "(LKnowHouse$QlRewrite$Question;)V" } : Jvm.MethodName) prog_45_method_15_code (6 : Nat) (Option.none : Option Jvm.ClassFile.FieldType)) ∈ lw_all := lw_g (lw_at lw_m21 172 rfl) rfl
theorem q5451 : (Jvm.Cond.methodLink "KnowHouse$QlRewrite" (133 : Nat) ({ cls := "KnowHouse$QlRewrite$Draft", name := "begin", desc := "(II)V" } : Jvm.MethodName)) ∈ lw_all := lw_g (lw_at lw_m21 173 rfl) rfl
theorem q5452 : (Jvm.Cond.instanceMethod ({ cls := "KnowHouse$QlRewrite$Draft", name := "begin", desc := "(II)V" } : Jvm.MethodName)) ∈ lw_all := lw_g (lw_at lw_m21 174 rfl) rfl
theorem q5453 : (Jvm.Cond.selects "KnowHouse$QlRewrite$Draft" ({ cls := "KnowHouse$QlRewrite$Draft", name := "begin", desc := "(II)V" } : Jvm.MethodName) ({ cls := "KnowHouse$QlRewrite$Draft", name := "begin", desc := "(II)V" } : Jvm.MethodName)) ∈ lw_all := lw_g (lw_at lw_m21 175 rfl) rfl
theorem q5454 : (Jvm.Cond.code ({ cls := "KnowHouse$QlRewrite$Draft", name := "begin", desc := "(II)V" } : Jvm.MethodName) prog_46_method_2_code (3 : Nat) (Option.none : Option Jvm.ClassFile.FieldType)) ∈ lw_all := lw_g (lw_at lw_m21 176 rfl) rfl
theorem q5455 : (Jvm.Cond.methodLink "KnowHouse$QlRewrite" (146 : Nat) ({ cls := "KnowHouse$QlRewrite$Draft", name := "add", desc := "(III)V" } : Jvm.MethodName)) ∈ lw_all := lw_g (lw_at lw_m21 177 rfl) rfl
theorem q5456 : (Jvm.Cond.instanceMethod ({ cls := "KnowHouse$QlRewrite$Draft", name := "add", desc := "(III)V" } : Jvm.MethodName)) ∈ lw_all := lw_g (lw_at lw_m21 178 rfl) rfl
theorem q5457 : (Jvm.Cond.selects "KnowHouse$QlRewrite$Draft" ({ cls := "KnowHouse$QlRewrite$Draft", name := "add", desc := "(III)V" } : Jvm.MethodName) ({ cls := "KnowHouse$QlRewrite$Draft", name := "add", desc := "(III)V" } : Jvm.MethodName)) ∈ lw_all := lw_g (lw_at lw_m21 179 rfl) rfl
theorem q5458 : (Jvm.Cond.code ({ cls := "KnowHouse$QlRewrite$Draft", name := "add", desc := "(III)V" } : Jvm.MethodName) prog_46_method_3_code (4 : Nat) (Option.none : Option Jvm.ClassFile.FieldType)) ∈ lw_all := lw_g (lw_at lw_m21 180 rfl) rfl
theorem q5459 : (Jvm.Cond.methodLink "KnowHouse$QlRewrite" (147 : Nat) ({ cls := "KnowHouse$QlRewrite", name := "keep", desc := "(LKnowHouse$QlRewrite$Question;)V" } : Jvm.MethodName)) ∈ lw_all := lw_g (lw_at lw_m21 181 rfl) rfl
theorem q5461 : (Jvm.Cond.instanceMethod ({ cls := "KnowHouse$QlRewrite", name := "keep", desc := "(LKnowHouse$QlRewrite$Question;)V" } : Jvm.MethodName)) ∈ lw_all := lw_g (lw_at lw_m21 183 rfl) rfl
theorem q5462 : (Jvm.Cond.code ({ cls := "KnowHouse$QlRewrite", name := "keep", desc := "(LKnowHouse$QlRewrite$Question;)V" } : Jvm.MethodName) prog_45_method_14_code (5 : Nat) (Option.none : Option Jvm.ClassFile.FieldType)) ∈ lw_all := lw_g (lw_at lw_m21 184 rfl) rfl
theorem q5463 : (Jvm.Cond.methodLink "KnowHouse$QlRewrite" (94 : Nat) ({ cls := "KnowHouse$QlRewrite$Draft", name := "settle", desc := "()V" } : Jvm.MethodName)) ∈ lw_all := lw_g (lw_at lw_m21 185 rfl) rfl
theorem q5464 : (Jvm.Cond.instanceMethod ({ cls := "KnowHouse$QlRewrite$Draft", name := "settle", desc := "()V" } : Jvm.MethodName)) ∈ lw_all := lw_g (lw_at lw_m21 186 rfl) rfl
theorem q5465 : (Jvm.Cond.selects "KnowHouse$QlRewrite$Draft" ({ cls := "KnowHouse$QlRewrite$Draft", name := "settle", desc := "()V" } : Jvm.MethodName) ({ cls := "KnowHouse$QlRewrite$Draft", name := "settle", desc := "()V" } : Jvm.MethodName)) ∈ lw_all := lw_g (lw_at lw_m21 187 rfl) rfl
theorem q5466 : (Jvm.Cond.code ({ cls := "KnowHouse$QlRewrite$Draft", name := "settle", desc := "()V" } : Jvm.MethodName) prog_46_method_18_code (3 : Nat) (Option.none : Option Jvm.ClassFile.FieldType)) ∈ lw_all := lw_g (lw_at lw_m21 188 rfl) rfl
theorem q5467 : (Jvm.Cond.methodLink "KnowHouse$QlRewrite$Draft" (100 : Nat) ({ cls := "KnowHouse$QlRewrite$Draft", name := "dropsEqual", desc := "()Z" } : Jvm.MethodName)) ∈ lw_all := lw_g (lw_at lw_m21 189 rfl) rfl
theorem q5469 : (Jvm.Cond.instanceMethod ({ cls := "KnowHouse$QlRewrite$Draft", name := "dropsEqual", desc := "()Z" } : Jvm.MethodName)) ∈ lw_all := lw_g (lw_at lw_m21 191 rfl) rfl
theorem q5470 : (Jvm.Cond.code ({ cls := "KnowHouse$QlRewrite$Draft", name := "dropsEqual", desc := "()Z" } : Jvm.MethodName) prog_46_method_9_code (3 : Nat) (Option.some Jvm.ClassFile.FieldType.boolean)) ∈ lw_all := lw_g (lw_at lw_m21 192 rfl) rfl
theorem q5471 : (Jvm.Cond.methodLink "KnowHouse$QlRewrite$Draft" (68 : Nat) ({ cls := "KnowHouse$QlRewrite$Draft", name := "drop", desc := "(I)V" } : Jvm.MethodName)) ∈ lw_all := lw_g (lw_at lw_m21 193 rfl) rfl
theorem q5473 : (Jvm.Cond.instanceMethod ({ cls := "KnowHouse$QlRewrite$Draft", name := "drop", desc := "(I)V" } : Jvm.MethodName)) ∈ lw_all := lw_g (lw_at lw_m21 195 rfl) rfl
theorem q5474 : (Jvm.Cond.code ({ cls := "KnowHouse$QlRewrite$Draft", name := "drop", desc := "(I)V" } : Jvm.MethodName) prog_46_method_8_code (3 : Nat) (Option.none : Option Jvm.ClassFile.FieldType)) ∈ lw_all := lw_g (lw_at lw_m21 196 rfl) rfl
theorem q5475 : (Jvm.Cond.methodLink "KnowHouse$QlRewrite$Draft" (104 : Nat) ({ cls := "KnowHouse$QlRewrite$Draft", name := "freesOne", desc := "()Z" } : Jvm.MethodName)) ∈ lw_all := lw_g (lw_at lw_m21 197 rfl) rfl
theorem q5477 : (Jvm.Cond.instanceMethod ({ cls := "KnowHouse$QlRewrite$Draft", name := "freesOne", desc := "()Z" } : Jvm.MethodName)) ∈ lw_all := lw_g (lw_at lw_m21 199 rfl) rfl
theorem q5478 : (Jvm.Cond.code ({ cls := "KnowHouse$QlRewrite$Draft", name := "freesOne", desc := "()Z" } : Jvm.MethodName) prog_46_method_13_code (2 : Nat) (Option.some Jvm.ClassFile.FieldType.boolean)) ∈ lw_all := lw_g (lw_at lw_m21 200 rfl) rfl
theorem q5479 : (Jvm.Cond.methodLink "KnowHouse$QlRewrite$Draft" (80 : Nat) ({ cls := "KnowHouse$QlRewrite$Draft", name := "isLonely", desc := "(I)Z" } : Jvm.MethodName)) ∈ lw_all := lw_g (lw_at lw_m21 201 rfl) rfl
theorem q5481 : (Jvm.Cond.instanceMethod ({ cls := "KnowHouse$QlRewrite$Draft", name := "isLonely", desc := "(I)Z" } : Jvm.MethodName)) ∈ lw_all := lw_g (lw_at lw_m21 203 rfl) rfl
theorem q5482 : (Jvm.Cond.code ({ cls := "KnowHouse$QlRewrite$Draft", name := "isLonely", desc := "(I)Z" } : Jvm.MethodName) prog_46_method_12_code (2 : Nat) (Option.some Jvm.ClassFile.FieldType.boolean)) ∈ lw_all := lw_g (lw_at lw_m21 204 rfl) rfl
theorem q5483 : (Jvm.Cond.methodLink "KnowHouse$QlRewrite$Draft" (72 : Nat) ({ cls := "KnowHouse$QlRewrite$Draft", name := "isVariable", desc := "(I)Z" } : Jvm.MethodName)) ∈ lw_all := lw_g (lw_at lw_m21 205 rfl) rfl
theorem q5484 : (Jvm.Cond.static ({ cls := "KnowHouse$QlRewrite$Draft", name := "isVariable", desc := "(I)Z" } : Jvm.MethodName)) ∈ lw_all := lw_g (lw_at lw_m21 206 rfl) rfl
theorem q5485 : (Jvm.Cond.code ({ cls := "KnowHouse$QlRewrite$Draft", name := "isVariable", desc := "(I)Z" } : Jvm.MethodName) prog_46_method_10_code (1 : Nat) (Option.some Jvm.ClassFile.FieldType.boolean)) ∈ lw_all := lw_g (lw_at lw_m21 207 rfl) rfl
theorem q5486 : (Jvm.Cond.methodLink "KnowHouse$QlRewrite$Draft" (76 : Nat) ({ cls := "KnowHouse$QlRewrite$Draft", name := "many", desc := "(I)I" } : Jvm.MethodName)) ∈ lw_all := lw_g (lw_at lw_m21 208 rfl) rfl
theorem q5488 : (Jvm.Cond.instanceMethod ({ cls := "KnowHouse$QlRewrite$Draft", name := "many", desc := "(I)I" } : Jvm.MethodName)) ∈ lw_all := lw_g (lw_at lw_m21 210 rfl) rfl
theorem q5489 : (Jvm.Cond.code ({ cls := "KnowHouse$QlRewrite$Draft", name := "many", desc := "(I)I" } : Jvm.MethodName) prog_46_method_11_code (4 : Nat) (Option.some Jvm.ClassFile.FieldType.int)) ∈ lw_all := lw_g (lw_at lw_m21 211 rfl) rfl
theorem q5490 : (Jvm.Cond.methodLink "KnowHouse$QlRewrite$Draft" (107 : Nat) ({ cls := "KnowHouse$QlRewrite$Draft", name := "note", desc := "(I)V" } : Jvm.MethodName)) ∈ lw_all := lw_g (lw_at lw_m21 212 rfl) rfl
theorem q5492 : (Jvm.Cond.instanceMethod ({ cls := "KnowHouse$QlRewrite$Draft", name := "note", desc := "(I)V" } : Jvm.MethodName)) ∈ lw_all := lw_g (lw_at lw_m21 214 rfl) rfl
theorem q5493 : (Jvm.Cond.code ({ cls := "KnowHouse$QlRewrite$Draft", name := "note", desc := "(I)V" } : Jvm.MethodName) prog_46_method_14_code (4 : Nat) (Option.none : Option Jvm.ClassFile.FieldType)) ∈ lw_all := lw_g (lw_at lw_m21 215 rfl) rfl
theorem q5494 : (Jvm.Cond.methodLink "KnowHouse$QlRewrite$Draft" (96 : Nat) ({ cls := "KnowHouse$QlRewrite$Draft", name := "name", desc := "(LKnowHouse$QlRewrite$Draft;II)V" } : Jvm.MethodName)) ∈ lw_all := lw_g (lw_at lw_m21 216 rfl) rfl
theorem q5495 : (Jvm.Cond.static ({ cls := "KnowHouse$QlRewrite$Draft", name := "name", desc := "(LKnowHouse$QlRewrite$Draft;II)V" } : Jvm.MethodName)) ∈ lw_all := lw_g (lw_at lw_m21 217 rfl) rfl
theorem q5496 : (Jvm.Cond.code ({ cls := "KnowHouse$QlRewrite$Draft", name := "name", desc := "(LKnowHouse$QlRewrite$Draft;II)V" } : Jvm.MethodName) prog_46_method_17_code (4 : Nat) (Option.none : Option Jvm.ClassFile.FieldType)) ∈ lw_all := lw_g (lw_at lw_m21 218 rfl) rfl
theorem q5497 : (Jvm.Cond.methodLink "KnowHouse$QlRewrite$Draft" (93 : Nat) ({ cls := "KnowHouse$QlRewrite$Draft", name := "compare", desc := "()V" } : Jvm.MethodName)) ∈ lw_all := lw_g (lw_at lw_m21 219 rfl) rfl
theorem q5499 : (Jvm.Cond.instanceMethod ({ cls := "KnowHouse$QlRewrite$Draft", name := "compare", desc := "()V" } : Jvm.MethodName)) ∈ lw_all := lw_g (lw_at lw_m21 221 rfl) rfl
theorem q5500 : (Jvm.Cond.code ({ cls := "KnowHouse$QlRewrite$Draft", name := "compare", desc := "()V" } : Jvm.MethodName) prog_46_method_16_code (4 : Nat) (Option.none : Option Jvm.ClassFile.FieldType)) ∈ lw_all := lw_g (lw_at lw_m21 222 rfl) rfl
theorem q5501 : (Jvm.Cond.methodLink "KnowHouse$QlRewrite$Draft" (86 : Nat) ({ cls := "KnowHouse$QlRewrite$Draft", name := "nameOf", desc := "(I)I" } : Jvm.MethodName)) ∈ lw_all := lw_g (lw_at lw_m21 223 rfl) rfl
theorem q5503 : (Jvm.Cond.instanceMethod ({ cls := "KnowHouse$QlRewrite$Draft", name := "nameOf", desc := "(I)I" } : Jvm.MethodName)) ∈ lw_all := lw_g (lw_at lw_m21 225 rfl) rfl
theorem q5504 : (Jvm.Cond.code ({ cls := "KnowHouse$QlRewrite$Draft", name := "nameOf", desc := "(I)I" } : Jvm.MethodName) prog_46_method_15_code (3 : Nat) (Option.some Jvm.ClassFile.FieldType.int)) ∈ lw_all := lw_g (lw_at lw_m21 226 rfl) rfl
theorem q5505 : (Jvm.Cond.methodLink "KnowHouse$QlRewrite" (118 : Nat) ({ cls := "KnowHouse$QlRewrite$Form", name := "isSame", desc := "(II[II)Z" } : Jvm.MethodName)) ∈ lw_all := lw_g (lw_at lw_m21 227 rfl) rfl
theorem q5506 : (Jvm.Cond.instanceMethod ({ cls := "KnowHouse$QlRewrite$Form", name := "isSame", desc := "(II[II)Z" } : Jvm.MethodName)) ∈ lw_all := lw_g (lw_at lw_m21 228 rfl) rfl
theorem q5507 : (Jvm.Cond.selects "KnowHouse$QlRewrite$Form" ({ cls := "KnowHouse$QlRewrite$Form", name := "isSame", desc := "(II[II)Z" } : Jvm.MethodName) ({ cls := "KnowHouse$QlRewrite$Form", name := "isSame", desc := "(II[II)Z" } : Jvm.MethodName)) ∈ lw_all := lw_g (lw_at lw_m21 229 rfl) rfl
theorem q5508 : (Jvm.Cond.code ({ cls := "KnowHouse$QlRewrite$Form", name := "isSame", desc := "(II[II)Z" } : Jvm.MethodName) prog_47_method_2_code (7 : Nat) (Option.some Jvm.ClassFile.FieldType.boolean)) ∈ lw_all := lw_g (lw_at lw_m21 230 rfl) rfl
theorem q5509 : (Jvm.Cond.classLink "KnowHouse$QlRewrite" (119 : Nat) "KnowHouse$QlRewrite$Form") ∈ lw_all := lw_g (lw_at lw_m21 231 rfl) rfl
theorem q5510 : (Jvm.Cond.instantiable "KnowHouse$QlRewrite$Form" (3 : Nat)) ∈ lw_all := lw_g (lw_at lw_m21 232 rfl) rfl
theorem q5511 : (Jvm.Cond.methodLink "KnowHouse$QlRewrite" (124 : Nat) ({ cls := "KnowHouse$QlRewrite$Form", name := "<init>", desc := "(II[I)V" } : Jvm.MethodName)) ∈ lw_all := lw_g (lw_at lw_m21 233 rfl) rfl
theorem q5512 : (Jvm.Cond.instanceMethod ({ cls := "KnowHouse$QlRewrite$Form", name := "<init>", desc := "(II[I)V" } : Jvm.MethodName)) ∈ lw_all := lw_g (lw_at lw_m21 234 rfl) rfl
theorem q5513 : (Jvm.Cond.code ({ cls := "KnowHouse$QlRewrite$Form", name := "<init>", desc := "(II[I)V" } : Jvm.MethodName) prog_47_method_1_code (4 : Nat) (Option.none : Option Jvm.ClassFile.FieldType)) ∈ lw_all := lw_g (lw_at lw_m21 235 rfl) rfl
theorem q5514 : (Jvm.Cond.methodLink "KnowHouse$QlRewrite$Form" (1 : Nat) ({ cls := "java/lang/Object", name := "<init>", desc := "()V" } : Jvm.MethodName)) ∈ lw_all := lw_g (lw_at lw_m21 236 rfl) rfl
theorem q5515 : (Jvm.Cond.fieldLink "KnowHouse$QlRewrite$Form" (7 : Nat) "KnowHouse$QlRewrite$Form" "first" "I") ∈ lw_all := lw_g (lw_at lw_m21 237 rfl) rfl
theorem q5516 : (Jvm.Cond.fieldLinkNest "KnowHouse$QlRewrite$Draft" (43 : Nat) "KnowHouse$QlRewrite$Form" "first" "I" "KnowHouse") ∈ lw_tbl := lw_at lw_m21 238 rfl
theorem q5517 : (Jvm.Cond.fieldLinkNest "KnowHouse$QlRewrite" (185 : Nat) "KnowHouse$QlRewrite$Form" "first" "I" "KnowHouse") ∈ lw_tbl := lw_at lw_m21 239 rfl
theorem q5518 : (Jvm.Cond.fieldLink "KnowHouse$QlRewrite$Form" (13 : Nat) "KnowHouse$QlRewrite$Form" "second" "I") ∈ lw_all := lw_g (lw_at lw_m22 0 rfl) rfl
theorem q5519 : (Jvm.Cond.fieldLinkNest "KnowHouse$QlRewrite$Draft" (46 : Nat) "KnowHouse$QlRewrite$Form" "second" "I" "KnowHouse") ∈ lw_tbl := lw_at lw_m22 1 rfl
theorem q5520 : (Jvm.Cond.fieldLinkNest "KnowHouse$QlRewrite" (186 : Nat) "KnowHouse$QlRewrite$Form" "second" "I" "KnowHouse") ∈ lw_tbl := lw_at lw_m22 2 rfl
theorem q5521 : (Jvm.Cond.fieldLink "KnowHouse$QlRewrite$Form" (16 : Nat) "KnowHouse$QlRewrite$Form" "codes" "[I") ∈ lw_all := lw_g (lw_at lw_m22 3 rfl) rfl
theorem q5522 : (Jvm.Cond.fieldLinkNest "KnowHouse$QlRewrite$Draft" (51 : Nat) "KnowHouse$QlRewrite$Form" "codes" "[I" "KnowHouse") ∈ lw_tbl := lw_at lw_m22 4 rfl
theorem q5523 : (Jvm.Cond.fieldLinkNest "KnowHouse$QlRewrite" (151 : Nat) "KnowHouse$QlRewrite$Form" "codes" "[I" "KnowHouse") ∈ lw_tbl := lw_at lw_m22 5 rfl
theorem q5531 : (Jvm.Cond.methodLink "KnowHouse$QlRewrite" (154 : Nat) ({ cls := "KnowHouse$QlRewrite", name := "apply", desc := "(LKnowHouse$QlRewrite$Question;LKnowHouse$QlRewrite$Form;II)V" } : Jvm.MethodName)) ∈ lw_all := lw_g (lw_at lw_m22 13 rfl) rfl
theorem q5533 : (Jvm.Cond.instanceMethod ({ cls := "KnowHouse$QlRewrite", name := "apply", desc := "(LKnowHouse$QlRewrite$Question;LKnowHouse$QlRewrite$Form;II)V" } : Jvm.MethodName)) ∈ lw_all := lw_g (lw_at lw_m22 15 rfl) rfl
theorem q5534 : (Jvm.Cond.code ({ cls := "KnowHouse$QlRewrite", name := "apply", desc := "(LKnowHouse$QlRewrite$Question;LKnowHouse$QlRewrite$Form;II)V" } : Jvm.MethodName) prog_45_method_16_code (9 : Nat) (Option.none : Option Jvm.ClassFile.FieldType)) ∈ lw_all := lw_g (lw_at lw_m22 16 rfl) rfl
theorem q5535 : (Jvm.Cond.methodLink "KnowHouse$QlRewrite" (161 : Nat) ({ cls := "KnowHouse$QlRewrite$Draft", name := "take", desc := "(LKnowHouse$QlRewrite$Form;)V" } : Jvm.MethodName)) ∈ lw_all := lw_g (lw_at lw_m22 17 rfl) rfl
theorem q5536 : (Jvm.Cond.instanceMethod ({ cls := "KnowHouse$QlRewrite$Draft", name := "take", desc := "(LKnowHouse$QlRewrite$Form;)V" } : Jvm.MethodName)) ∈ lw_all := lw_g (lw_at lw_m22 18 rfl) rfl
theorem q5537 : (Jvm.Cond.selects "KnowHouse$QlRewrite$Draft" ({ cls := "KnowHouse$QlRewrite$Draft", name := "take", desc := "(LKnowHouse$QlRewrite$Form;)V" } : Jvm.MethodName) ({ cls := "KnowHouse$QlRewrite$Draft", name := "take", desc := "(LKnowHouse$QlRewrite$Form;)V" } : Jvm.MethodName)) ∈ lw_all := lw_g (lw_at lw_m22 19 rfl) rfl
theorem q5538 : (Jvm.Cond.code ({ cls := "KnowHouse$QlRewrite$Draft", name := "take", desc := "(LKnowHouse$QlRewrite$Form;)V" } : Jvm.MethodName) prog_46_method_4_code (6 : Nat) (Option.none : Option Jvm.ClassFile.FieldType)) ∈ lw_all := lw_g (lw_at lw_m22 20 rfl) rfl
theorem q5539 : (Jvm.Cond.methodLink "KnowHouse$QlRewrite$Draft" (47 : Nat) ({ cls := "KnowHouse$QlRewrite$Draft", name := "begin", desc := "(II)V" } : Jvm.MethodName)) ∈ lw_all := lw_g (lw_at lw_m22 21 rfl) rfl
theorem q5540 : (Jvm.Cond.methodLink "KnowHouse$QlRewrite$Draft" (52 : Nat) ({ cls := "KnowHouse$QlRewrite$Draft", name := "add", desc := "(III)V" } : Jvm.MethodName)) ∈ lw_all := lw_g (lw_at lw_m22 22 rfl) rfl
theorem q5541 : (Jvm.Cond.methodLink "KnowHouse$QlRewrite" (168 : Nat) ({ cls := "KnowHouse$QlRewrite$Draft", name := "sort", desc := "(III)V" } : Jvm.MethodName)) ∈ lw_all := lw_g (lw_at lw_m22 23 rfl) rfl
theorem q5542 : (Jvm.Cond.instanceMethod ({ cls := "KnowHouse$QlRewrite$Draft", name := "sort", desc := "(III)V" } : Jvm.MethodName)) ∈ lw_all := lw_g (lw_at lw_m22 24 rfl) rfl
theorem q5543 : (Jvm.Cond.selects "KnowHouse$QlRewrite$Draft" ({ cls := "KnowHouse$QlRewrite$Draft", name := "sort", desc := "(III)V" } : Jvm.MethodName) ({ cls := "KnowHouse$QlRewrite$Draft", name := "sort", desc := "(III)V" } : Jvm.MethodName)) ∈ lw_all := lw_g (lw_at lw_m22 25 rfl) rfl
theorem q5544 : (Jvm.Cond.code ({ cls := "KnowHouse$QlRewrite$Draft", name := "sort", desc := "(III)V" } : Jvm.MethodName) prog_46_method_5_code (5 : Nat) (Option.none : Option Jvm.ClassFile.FieldType)) ∈ lw_all := lw_g (lw_at lw_m22 26 rfl) rfl
theorem q5545 : (Jvm.Cond.methodLink "KnowHouse$QlRewrite" (158 : Nat) ({ cls := "KnowHouse$QlRewrite", name := "join", desc := "(LKnowHouse$QlRewrite$Question;LKnowHouse$QlRewrite$Form;II)V" } : Jvm.MethodName)) ∈ lw_all := lw_g (lw_at lw_m22 27 rfl) rfl
theorem q5547 : (Jvm.Cond.instanceMethod ({ cls := "KnowHouse$QlRewrite", name := "join", desc := "(LKnowHouse$QlRewrite$Question;LKnowHouse$QlRewrite$Form;II)V" } : Jvm.MethodName)) ∈ lw_all := lw_g (lw_at lw_m22 29 rfl) rfl
theorem q5548 : (Jvm.Cond.code ({ cls := "KnowHouse$QlRewrite", name := "join", desc := "(LKnowHouse$QlRewrite$Question;LKnowHouse$QlRewrite$Form;II)V" } : Jvm.MethodName) prog_45_method_17_code (5 : Nat) (Option.none : Option Jvm.ClassFile.FieldType)) ∈ lw_all := lw_g (lw_at lw_m22 30 rfl) rfl
theorem q5549 : (Jvm.Cond.methodLink "KnowHouse$QlRewrite" (171 : Nat) ({ cls := "KnowHouse$QlRewrite$Draft", name := "meet", desc := "([III)V" } : Jvm.MethodName)) ∈ lw_all := lw_g (lw_at lw_m22 31 rfl) rfl
theorem q5550 : (Jvm.Cond.instanceMethod ({ cls := "KnowHouse$QlRewrite$Draft", name := "meet", desc := "([III)V" } : Jvm.MethodName)) ∈ lw_all := lw_g (lw_at lw_m22 32 rfl) rfl
theorem q5551 : (Jvm.Cond.selects "KnowHouse$QlRewrite$Draft" ({ cls := "KnowHouse$QlRewrite$Draft", name := "meet", desc := "([III)V" } : Jvm.MethodName) ({ cls := "KnowHouse$QlRewrite$Draft", name := "meet", desc := "([III)V" } : Jvm.MethodName)) ∈ lw_all := lw_g (lw_at lw_m22 33 rfl) rfl
theorem q5552 : (Jvm.Cond.code ({ cls := "KnowHouse$QlRewrite$Draft", name := "meet", desc := "([III)V" } : Jvm.MethodName) prog_46_method_7_code (6 : Nat) (Option.none : Option Jvm.ClassFile.FieldType)) ∈ lw_all := lw_g (lw_at lw_m22 34 rfl) rfl
theorem q5553 : (Jvm.Cond.methodLink "KnowHouse$QlRewrite$Draft" (56 : Nat) ({ cls := "java/lang/Math", name := "max", desc := "(II)I" } : Jvm.MethodName)) ∈ lw_all := lw_g (lw_at lw_m22 35 rfl) rfl
theorem q5554 : (Jvm.Cond.methodLink "KnowHouse$QlRewrite$Draft" (62 : Nat) ({ cls := "java/lang/Math", name := "min", desc := "(II)I" } : Jvm.MethodName)) ∈ lw_all := lw_g (lw_at lw_m22 36 rfl) rfl
theorem q5555 : (Jvm.Cond.methodLink "KnowHouse$QlRewrite$Draft" (65 : Nat) ({ cls := "KnowHouse$QlRewrite$Draft", name := "replace", desc := "(II)V" } : Jvm.MethodName)) ∈ lw_all := lw_g (lw_at lw_m22 37 rfl) rfl
theorem q5556 : (Jvm.Cond.instanceMethod ({ cls := "KnowHouse$QlRewrite$Draft", name := "replace", desc := "(II)V" } : Jvm.MethodName)) ∈ lw_all := lw_g (lw_at lw_m22 38 rfl) rfl
theorem q5557 : (Jvm.Cond.selects "KnowHouse$QlRewrite$Draft" ({ cls := "KnowHouse$QlRewrite$Draft", name := "replace", desc := "(II)V" } : Jvm.MethodName) ({ cls := "KnowHouse$QlRewrite$Draft", name := "replace", desc := "(II)V" } : Jvm.MethodName)) ∈ lw_all := lw_g (lw_at lw_m22 39 rfl) rfl
theorem q5558 : (Jvm.Cond.code ({ cls := "KnowHouse$QlRewrite$Draft", name := "replace", desc := "(II)V" } : Jvm.MethodName) prog_46_method_6_code (4 : Nat) (Option.none : Option Jvm.ClassFile.FieldType)) ∈ lw_all := lw_g (lw_at lw_m22 40 rfl) rfl
theorem q5567 : (Jvm.Cond.methodLink "KnowHouse$QlRewrite" (212 : Nat) ({ cls := "KnowHouse$QlRewrite", name := "answerAt", desc := "(LKnowHouse$QlRewrite$Question;I)I" } : Jvm.MethodName)) ∈ lw_all := lw_g (lw_at lw_m22 49 rfl) rfl
theorem q5569 : (Jvm.Cond.instanceMethod ({ cls := "KnowHouse$QlRewrite", name := "answerAt", desc := "(LKnowHouse$QlRewrite$Question;I)I" } : Jvm.MethodName)) ∈ lw_all := lw_g (lw_at lw_m22 51 rfl) rfl
theorem q5570 : (Jvm.Cond.code ({ cls := "KnowHouse$QlRewrite", name := "answerAt", desc := "(LKnowHouse$QlRewrite$Question;I)I" } : Jvm.MethodName) prog_45_method_29_code (6 : Nat) (Option.some Jvm.ClassFile.FieldType.int)) ∈ lw_all := lw_g (lw_at lw_m22 52 rfl) rfl
theorem q5571 : (Jvm.Cond.methodLink "KnowHouse$QlRewrite" (204 : Nat) ({ cls := "KnowHouse$QlRewrite", name := "isAnswer", desc := "(LKnowHouse$QlRewrite$Question;I)Z" } : Jvm.MethodName)) ∈ lw_all := lw_g (lw_at lw_m22 53 rfl) rfl
theorem q5572 : (Jvm.Cond.static ({ cls := "KnowHouse$QlRewrite", name := "isAnswer", desc := "(LKnowHouse$QlRewrite$Question;I)Z" } : Jvm.MethodName)) ∈ lw_all := lw_g (lw_at lw_m22 54 rfl) rfl
theorem q5573 : (Jvm.Cond.code ({ cls := "KnowHouse$QlRewrite", name := "isAnswer", desc := "(LKnowHouse$QlRewrite$Question;I)Z" } : Jvm.MethodName) prog_45_method_28_code (2 : Nat) (Option.some Jvm.ClassFile.FieldType.boolean)) ∈ lw_all := lw_g (lw_at lw_m22 55 rfl) rfl
theorem q5574 : (Jvm.Cond.methodLink "KnowHouse$QlRewrite" (208 : Nat) ({ cls := "KnowHouse$QlRewrite", name := "firstWith", desc := "(LKnowHouse$QlRewrite$Question;I)I" } : Jvm.MethodName)) ∈ lw_all := lw_g (lw_at lw_m22 56 rfl) rfl
theorem q5576 : (Jvm.Cond.instanceMethod ({ cls := "KnowHouse$QlRewrite", name := "firstWith", desc := "(LKnowHouse$QlRewrite$Question;I)I" } : Jvm.MethodName)) ∈ lw_all := lw_g (lw_at lw_m22 58 rfl) rfl
theorem q5577 : (Jvm.Cond.code ({ cls := "KnowHouse$QlRewrite", name := "firstWith", desc := "(LKnowHouse$QlRewrite$Question;I)I" } : Jvm.MethodName) prog_45_method_24_code (4 : Nat) (Option.some Jvm.ClassFile.FieldType.int)) ∈ lw_all := lw_g (lw_at lw_m22 59 rfl) rfl
theorem q5578 : (Jvm.Cond.methodLink "KnowHouse$QlRewrite" (194 : Nat) ({ cls := "KnowHouse$QlRewrite", name := "hasAnswer", desc := "(LKnowHouse$QlRewrite$Form;I)Z" } : Jvm.MethodName)) ∈ lw_all := lw_g (lw_at lw_m22 60 rfl) rfl
theorem q5580 : (Jvm.Cond.instanceMethod ({ cls := "KnowHouse$QlRewrite", name := "hasAnswer", desc := "(LKnowHouse$QlRewrite$Form;I)Z" } : Jvm.MethodName)) ∈ lw_all := lw_g (lw_at lw_m22 62 rfl) rfl
theorem q5581 : (Jvm.Cond.code ({ cls := "KnowHouse$QlRewrite", name := "hasAnswer", desc := "(LKnowHouse$QlRewrite$Form;I)Z" } : Jvm.MethodName) prog_45_method_22_code (5 : Nat) (Option.some Jvm.ClassFile.FieldType.boolean)) ∈ lw_all := lw_g (lw_at lw_m22 63 rfl) rfl
theorem q5582 : (Jvm.Cond.methodLink "KnowHouse$QlRewrite" (187 : Nat) ({ cls := "KnowHouse$QlRewrite", name := "fitsSome", desc := "(I)Z" } : Jvm.MethodName)) ∈ lw_all := lw_g (lw_at lw_m22 64 rfl) rfl
theorem q5584 : (Jvm.Cond.instanceMethod ({ cls := "KnowHouse$QlRewrite", name := "fitsSome", desc := "(I)Z" } : Jvm.MethodName)) ∈ lw_all := lw_g (lw_at lw_m22 66 rfl) rfl
theorem q5585 : (Jvm.Cond.code ({ cls := "KnowHouse$QlRewrite", name := "fitsSome", desc := "(I)Z" } : Jvm.MethodName) prog_45_method_19_code (7 : Nat) (Option.some Jvm.ClassFile.FieldType.boolean)) ∈ lw_all := lw_g (lw_at lw_m22 67 rfl) rfl
theorem q5586 : (Jvm.Cond.methodLink "KnowHouse$QlRewrite" (175 : Nat) ({ cls := "KnowHouse$QlRewrite", name := "fitsAt", desc := "(II)Z" } : Jvm.MethodName)) ∈ lw_all := lw_g (lw_at lw_m22 68 rfl) rfl
theorem q5588 : (Jvm.Cond.instanceMethod ({ cls := "KnowHouse$QlRewrite", name := "fitsAt", desc := "(II)Z" } : Jvm.MethodName)) ∈ lw_all := lw_g (lw_at lw_m22 70 rfl) rfl
theorem q5589 : (Jvm.Cond.code ({ cls := "KnowHouse$QlRewrite", name := "fitsAt", desc := "(II)Z" } : Jvm.MethodName) prog_45_method_18_code (3 : Nat) (Option.some Jvm.ClassFile.FieldType.boolean)) ∈ lw_all := lw_g (lw_at lw_m22 71 rfl) rfl
theorem q5590 : (Jvm.Cond.methodLink "KnowHouse$QlRewrite" (190 : Nat) ({ cls := "KnowHouse$QlRewrite", name := "stands", desc := "(LKnowHouse$QlRewrite$Form;I)Z" } : Jvm.MethodName)) ∈ lw_all := lw_g (lw_at lw_m22 72 rfl) rfl
theorem q5591 : (Jvm.Cond.static ({ cls := "KnowHouse$QlRewrite", name := "stands", desc := "(LKnowHouse$QlRewrite$Form;I)Z" } : Jvm.MethodName)) ∈ lw_all := lw_g (lw_at lw_m22 73 rfl) rfl
theorem q5592 : (Jvm.Cond.code ({ cls := "KnowHouse$QlRewrite", name := "stands", desc := "(LKnowHouse$QlRewrite$Form;I)Z" } : Jvm.MethodName) prog_45_method_23_code (7 : Nat) (Option.some Jvm.ClassFile.FieldType.boolean)) ∈ lw_all := lw_g (lw_at lw_m22 74 rfl) rfl
theorem q5593 : (Jvm.Cond.methodLink "KnowHouse$QlRewrite" (181 : Nat) ({ cls := "KnowHouse$QlRewrite", name := "finds", desc := "(LKnowHouse$QlRewrite;LKnowHouse$QlRewrite$Form;I)Z" } : Jvm.MethodName)) ∈ lw_all := lw_g (lw_at lw_m22 75 rfl) rfl
theorem q5594 : (Jvm.Cond.static ({ cls := "KnowHouse$QlRewrite", name := "finds", desc := "(LKnowHouse$QlRewrite;LKnowHouse$QlRewrite$Form;I)Z" } : Jvm.MethodName)) ∈ lw_all := lw_g (lw_at lw_m22 76 rfl) rfl
theorem q5595 : (Jvm.Cond.code ({ cls := "KnowHouse$QlRewrite", name := "finds", desc := "(LKnowHouse$QlRewrite;LKnowHouse$QlRewrite$Form;I)Z" } : Jvm.MethodName) prog_45_method_21_code (11 : Nat) (Option.some Jvm.ClassFile.FieldType.boolean)) ∈ lw_all := lw_g (lw_at lw_m22 77 rfl) rfl
theorem q5596 : (Jvm.Cond.methodLink "KnowHouse$QlRewrite" (178 : Nat) ({ cls := "KnowHouse$QlRewrite", name := "given", desc := "(II)I" } : Jvm.MethodName)) ∈ lw_all := lw_g (lw_at lw_m22 78 rfl) rfl
theorem q5598 : (Jvm.Cond.instanceMethod ({ cls := "KnowHouse$QlRewrite", name := "given", desc := "(II)I" } : Jvm.MethodName)) ∈ lw_all := lw_g (lw_at lw_m22 80 rfl) rfl
theorem q5599 : (Jvm.Cond.code ({ cls := "KnowHouse$QlRewrite", name := "given", desc := "(II)I" } : Jvm.MethodName) prog_45_method_20_code (4 : Nat) (Option.some Jvm.ClassFile.FieldType.int)) ∈ lw_all := lw_g (lw_at lw_m22 81 rfl) rfl
theorem hQRX41_init : yX41_init.cls ≠ "java/lang/invoke/MethodHandle" ∧ yX41_init.cls ≠ "java/lang/invoke/VarHandle" ∧ (parseMethodDescriptor yX41_init.desc).map (fun d => d.parameters.length) = some 0 := by decide +kernel
theorem hQRX40_isIn : yX40_isIn.cls ≠ "java/lang/invoke/MethodHandle" ∧ yX40_isIn.cls ≠ "java/lang/invoke/VarHandle" ∧ (parseMethodDescriptor yX40_isIn.desc).map (fun d => d.parameters.length) = some 2 := by decide +kernel
theorem hQRX62_init : yX62_init.cls ≠ "java/lang/invoke/MethodHandle" ∧ yX62_init.cls ≠ "java/lang/invoke/VarHandle" ∧ (parseMethodDescriptor yX62_init.desc).map (fun d => d.parameters.length) = some 1 := by decide +kernel
theorem hQRX62_add : yX62_add.cls ≠ "java/lang/invoke/MethodHandle" ∧ yX62_add.cls ≠ "java/lang/invoke/VarHandle" ∧ (parseMethodDescriptor yX62_add.desc).map (fun d => d.parameters.length) = some 3 := by decide +kernel
theorem hQRX62_has : yX62_has.cls ≠ "java/lang/invoke/MethodHandle" ∧ yX62_has.cls ≠ "java/lang/invoke/VarHandle" ∧ (parseMethodDescriptor yX62_has.desc).map (fun d => d.parameters.length) = some 3 := by decide +kernel
theorem hQRX40_isSort : yX40_isSort.cls ≠ "java/lang/invoke/MethodHandle" ∧ yX40_isSort.cls ≠ "java/lang/invoke/VarHandle" ∧ (parseMethodDescriptor yX40_isSort.desc).map (fun d => d.parameters.length) = some 1 := by decide +kernel
theorem hQRX40_clash : yX40_clash.cls ≠ "java/lang/invoke/MethodHandle" ∧ yX40_clash.cls ≠ "java/lang/invoke/VarHandle" ∧ (parseMethodDescriptor yX40_clash.desc).map (fun d => d.parameters.length) = some 3 := by decide +kernel
theorem hQRX40_isFact : yX40_isFact.cls ≠ "java/lang/invoke/MethodHandle" ∧ yX40_isFact.cls ≠ "java/lang/invoke/VarHandle" ∧ (parseMethodDescriptor yX40_isFact.desc).map (fun d => d.parameters.length) = some 4 := by decide +kernel
theorem hQRX40_has : yX40_has.cls ≠ "java/lang/invoke/MethodHandle" ∧ yX40_has.cls ≠ "java/lang/invoke/VarHandle" ∧ (parseMethodDescriptor yX40_has.desc).map (fun d => d.parameters.length) = some 4 := by decide +kernel
theorem hQRX40_set : yX40_set.cls ≠ "java/lang/invoke/MethodHandle" ∧ yX40_set.cls ≠ "java/lang/invoke/VarHandle" ∧ (parseMethodDescriptor yX40_set.desc).map (fun d => d.parameters.length) = some 5 := by decide +kernel
theorem hQRX40_isQuestion : yX40_isQuestion.cls ≠ "java/lang/invoke/MethodHandle" ∧ yX40_isQuestion.cls ≠ "java/lang/invoke/VarHandle" ∧ (parseMethodDescriptor yX40_isQuestion.desc).map (fun d => d.parameters.length) = some 1 := by decide +kernel
theorem hQRX41_drop : yX41_drop.cls ≠ "java/lang/invoke/MethodHandle" ∧ yX41_drop.cls ≠ "java/lang/invoke/VarHandle" ∧ (parseMethodDescriptor yX41_drop.desc).map (fun d => d.parameters.length) = some 1 := by decide +kernel
theorem hQRX41_isVariable : yX41_isVariable.cls ≠ "java/lang/invoke/MethodHandle" ∧ yX41_isVariable.cls ≠ "java/lang/invoke/VarHandle" ∧ (parseMethodDescriptor yX41_isVariable.desc).map (fun d => d.parameters.length) = some 1 := by decide +kernel
theorem hQRX41_many : yX41_many.cls ≠ "java/lang/invoke/MethodHandle" ∧ yX41_many.cls ≠ "java/lang/invoke/VarHandle" ∧ (parseMethodDescriptor yX41_many.desc).map (fun d => d.parameters.length) = some 1 := by decide +kernel
theorem hQRX41_isLonely : yX41_isLonely.cls ≠ "java/lang/invoke/MethodHandle" ∧ yX41_isLonely.cls ≠ "java/lang/invoke/VarHandle" ∧ (parseMethodDescriptor yX41_isLonely.desc).map (fun d => d.parameters.length) = some 1 := by decide +kernel
theorem hQRX41_nameOf : yX41_nameOf.cls ≠ "java/lang/invoke/MethodHandle" ∧ yX41_nameOf.cls ≠ "java/lang/invoke/VarHandle" ∧ (parseMethodDescriptor yX41_nameOf.desc).map (fun d => d.parameters.length) = some 1 := by decide +kernel
theorem hQRX41_compare : yX41_compare.cls ≠ "java/lang/invoke/MethodHandle" ∧ yX41_compare.cls ≠ "java/lang/invoke/VarHandle" ∧ (parseMethodDescriptor yX41_compare.desc).map (fun d => d.parameters.length) = some 0 := by decide +kernel
theorem hQRX41_name : yX41_name.cls ≠ "java/lang/invoke/MethodHandle" ∧ yX41_name.cls ≠ "java/lang/invoke/VarHandle" ∧ (parseMethodDescriptor yX41_name.desc).map (fun d => d.parameters.length) = some 3 := by decide +kernel
theorem hQRX41_dropsEqual : yX41_dropsEqual.cls ≠ "java/lang/invoke/MethodHandle" ∧ yX41_dropsEqual.cls ≠ "java/lang/invoke/VarHandle" ∧ (parseMethodDescriptor yX41_dropsEqual.desc).map (fun d => d.parameters.length) = some 0 := by decide +kernel
theorem hQRX41_freesOne : yX41_freesOne.cls ≠ "java/lang/invoke/MethodHandle" ∧ yX41_freesOne.cls ≠ "java/lang/invoke/VarHandle" ∧ (parseMethodDescriptor yX41_freesOne.desc).map (fun d => d.parameters.length) = some 0 := by decide +kernel
theorem hQRX41_note : yX41_note.cls ≠ "java/lang/invoke/MethodHandle" ∧ yX41_note.cls ≠ "java/lang/invoke/VarHandle" ∧ (parseMethodDescriptor yX41_note.desc).map (fun d => d.parameters.length) = some 1 := by decide +kernel
theorem hQRX41_settle : yX41_settle.cls ≠ "java/lang/invoke/MethodHandle" ∧ yX41_settle.cls ≠ "java/lang/invoke/VarHandle" ∧ (parseMethodDescriptor yX41_settle.desc).map (fun d => d.parameters.length) = some 0 := by decide +kernel
theorem hQRX85_isSame : yX85_isSame.cls ≠ "java/lang/invoke/MethodHandle" ∧ yX85_isSame.cls ≠ "java/lang/invoke/VarHandle" ∧ (parseMethodDescriptor yX85_isSame.desc).map (fun d => d.parameters.length) = some 4 := by decide +kernel
theorem hQRX85_init : yX85_init.cls ≠ "java/lang/invoke/MethodHandle" ∧ yX85_init.cls ≠ "java/lang/invoke/VarHandle" ∧ (parseMethodDescriptor yX85_init.desc).map (fun d => d.parameters.length) = some 3 := by decide +kernel
theorem hQRX41_begin : yX41_begin.cls ≠ "java/lang/invoke/MethodHandle" ∧ yX41_begin.cls ≠ "java/lang/invoke/VarHandle" ∧ (parseMethodDescriptor yX41_begin.desc).map (fun d => d.parameters.length) = some 2 := by decide +kernel
theorem hQRX41_add : yX41_add.cls ≠ "java/lang/invoke/MethodHandle" ∧ yX41_add.cls ≠ "java/lang/invoke/VarHandle" ∧ (parseMethodDescriptor yX41_add.desc).map (fun d => d.parameters.length) = some 3 := by decide +kernel
theorem hQRX41_take : yX41_take.cls ≠ "java/lang/invoke/MethodHandle" ∧ yX41_take.cls ≠ "java/lang/invoke/VarHandle" ∧ (parseMethodDescriptor yX41_take.desc).map (fun d => d.parameters.length) = some 1 := by decide +kernel
theorem hQRX41_sort : yX41_sort.cls ≠ "java/lang/invoke/MethodHandle" ∧ yX41_sort.cls ≠ "java/lang/invoke/VarHandle" ∧ (parseMethodDescriptor yX41_sort.desc).map (fun d => d.parameters.length) = some 3 := by decide +kernel
theorem hQRX40_keep : yX40_keep.cls ≠ "java/lang/invoke/MethodHandle" ∧ yX40_keep.cls ≠ "java/lang/invoke/VarHandle" ∧ (parseMethodDescriptor yX40_keep.desc).map (fun d => d.parameters.length) = some 1 := by decide +kernel
theorem hQRX41_replace : yX41_replace.cls ≠ "java/lang/invoke/MethodHandle" ∧ yX41_replace.cls ≠ "java/lang/invoke/VarHandle" ∧ (parseMethodDescriptor yX41_replace.desc).map (fun d => d.parameters.length) = some 2 := by decide +kernel
theorem hQRX41_meet : yX41_meet.cls ≠ "java/lang/invoke/MethodHandle" ∧ yX41_meet.cls ≠ "java/lang/invoke/VarHandle" ∧ (parseMethodDescriptor yX41_meet.desc).map (fun d => d.parameters.length) = some 3 := by decide +kernel
theorem hQRX40_apply : yX40_apply.cls ≠ "java/lang/invoke/MethodHandle" ∧ yX40_apply.cls ≠ "java/lang/invoke/VarHandle" ∧ (parseMethodDescriptor yX40_apply.desc).map (fun d => d.parameters.length) = some 4 := by decide +kernel
theorem hQRX40_join : yX40_join.cls ≠ "java/lang/invoke/MethodHandle" ∧ yX40_join.cls ≠ "java/lang/invoke/VarHandle" ∧ (parseMethodDescriptor yX40_join.desc).map (fun d => d.parameters.length) = some 4 := by decide +kernel
theorem hQRX40_make : yX40_make.cls ≠ "java/lang/invoke/MethodHandle" ∧ yX40_make.cls ≠ "java/lang/invoke/VarHandle" ∧ (parseMethodDescriptor yX40_make.desc).map (fun d => d.parameters.length) = some 1 := by decide +kernel
theorem hQRX40_ready : yX40_ready.cls ≠ "java/lang/invoke/MethodHandle" ∧ yX40_ready.cls ≠ "java/lang/invoke/VarHandle" ∧ (parseMethodDescriptor yX40_ready.desc).map (fun d => d.parameters.length) = some 1 := by decide +kernel
theorem hQRX40_fitsAt : yX40_fitsAt.cls ≠ "java/lang/invoke/MethodHandle" ∧ yX40_fitsAt.cls ≠ "java/lang/invoke/VarHandle" ∧ (parseMethodDescriptor yX40_fitsAt.desc).map (fun d => d.parameters.length) = some 2 := by decide +kernel
theorem hQRX40_given : yX40_given.cls ≠ "java/lang/invoke/MethodHandle" ∧ yX40_given.cls ≠ "java/lang/invoke/VarHandle" ∧ (parseMethodDescriptor yX40_given.desc).map (fun d => d.parameters.length) = some 2 := by decide +kernel
theorem hQRX40_finds : yX40_finds.cls ≠ "java/lang/invoke/MethodHandle" ∧ yX40_finds.cls ≠ "java/lang/invoke/VarHandle" ∧ (parseMethodDescriptor yX40_finds.desc).map (fun d => d.parameters.length) = some 3 := by decide +kernel
theorem hQRX40_fitsSome : yX40_fitsSome.cls ≠ "java/lang/invoke/MethodHandle" ∧ yX40_fitsSome.cls ≠ "java/lang/invoke/VarHandle" ∧ (parseMethodDescriptor yX40_fitsSome.desc).map (fun d => d.parameters.length) = some 1 := by decide +kernel
theorem hQRX40_stands : yX40_stands.cls ≠ "java/lang/invoke/MethodHandle" ∧ yX40_stands.cls ≠ "java/lang/invoke/VarHandle" ∧ (parseMethodDescriptor yX40_stands.desc).map (fun d => d.parameters.length) = some 2 := by decide +kernel
theorem hQRX40_hasAnswer : yX40_hasAnswer.cls ≠ "java/lang/invoke/MethodHandle" ∧ yX40_hasAnswer.cls ≠ "java/lang/invoke/VarHandle" ∧ (parseMethodDescriptor yX40_hasAnswer.desc).map (fun d => d.parameters.length) = some 2 := by decide +kernel
theorem hQRX40_isAnswer : yX40_isAnswer.cls ≠ "java/lang/invoke/MethodHandle" ∧ yX40_isAnswer.cls ≠ "java/lang/invoke/VarHandle" ∧ (parseMethodDescriptor yX40_isAnswer.desc).map (fun d => d.parameters.length) = some 2 := by decide +kernel
theorem hQRX40_firstWith : yX40_firstWith.cls ≠ "java/lang/invoke/MethodHandle" ∧ yX40_firstWith.cls ≠ "java/lang/invoke/VarHandle" ∧ (parseMethodDescriptor yX40_firstWith.desc).map (fun d => d.parameters.length) = some 2 := by decide +kernel
theorem hQRX40_answerAt : yX40_answerAt.cls ≠ "java/lang/invoke/MethodHandle" ∧ yX40_answerAt.cls ≠ "java/lang/invoke/VarHandle" ∧ (parseMethodDescriptor yX40_answerAt.desc).map (fun d => d.parameters.length) = some 2 := by decide +kernel
def cQR (ci : Nat → Nat) (d : Nat → ClassId) (kd : Nat → Nat) (an : Nat → Nat) (ai : Nat → Nat → Int32) (al : Nat → Nat → Int64) (ar : Nat → Nat → Option Nat) (mX40_kinds : Nat → Option Nat) (mX40_lefts : Nat → Option Nat) (mX40_rights : Nat → Option Nat) (mX40_axioms : Nat → Int32) (mX40_classFacts : Nat → Option Nat) (mX40_roleFacts : Nat → Option Nat) (mX40_facts : Nat → Int32) (mX40_draft : Nat → Option Nat) (mX40_questions : Nat → Option Nat) (mX40_questionCount : Nat → Int32) (mX40_forbidden : Nat → Option Nat) (mX40_given : Nat → Option Nat) (mX41_first : Nat → Int32) (mX41_second : Nat → Int32) (mX41_names : Nat → Option Nat) (mX41_from : Nat → Option Nat) (mX41_to : Nat → Option Nat) (mX41_n : Nat → Int32) (mX41_codes : Nat → Option Nat) (mX41_least : Nat → Option Nat) (mX41_hasLeast : Nat → Int32) (mX41_others : Nat → Option Nat) (mX41_otherCount : Nat → Int32) (mX41_named : Nat → Option Nat) (mX62_answers : Nat → Int32) (mX62_names : Nat → Option Nat) (mX62_from : Nat → Option Nat) (mX62_to : Nat → Option Nat) (mX62_n : Nat → Int32) (mX62_forms : Nat → Option Nat) (mX62_count : Nat → Int32) (mX62_large : Nat → Int32) (mX62_known : Nat → Int32) (mX85_first : Nat → Int32) (mX85_second : Nat → Int32) (mX85_codes : Nat → Option Nat) : Nat → va_E := fun a => match kd a with
  | 1 => .inr (ci 0, [va_rf (mX40_kinds a), va_rf (mX40_lefts a), va_rf (mX40_rights a), .int (mX40_axioms a), va_rf (mX40_classFacts a), va_rf (mX40_roleFacts a), .int (mX40_facts a), va_rf (mX40_draft a), va_rf (mX40_questions a), .int (mX40_questionCount a), va_rf (mX40_forbidden a), va_rf (mX40_given a)])
  | 2 => .inr (ci 1, [.int (mX41_first a), .int (mX41_second a), va_rf (mX41_names a), va_rf (mX41_from a), va_rf (mX41_to a), .int (mX41_n a), va_rf (mX41_codes a), va_rf (mX41_least a), .int (mX41_hasLeast a), va_rf (mX41_others a), .int (mX41_otherCount a), va_rf (mX41_named a)])
  | 3 => .inr (ci 2, [.int (mX62_answers a), va_rf (mX62_names a), va_rf (mX62_from a), va_rf (mX62_to a), .int (mX62_n a), va_rf (mX62_forms a), .int (mX62_count a), .int (mX62_large a), .int (mX62_known a)])
  | 4 => .inr (ci 3, [.int (mX85_first a), .int (mX85_second a), va_rf (mX85_codes a)])
  | 5 => .inl (d 0, an a, .inl (ai a))
  | 6 => .inl (d 1, an a, .inl (ai a))
  | 7 => .inl (d 2, an a, .inr (.inr (.inr (.inr (ar a)))))
  | 8 => .inl (d 3, an a, .inr (.inr (.inr (.inr (ar a)))))
  | _ => .inl (d 0, 0, .inl (fun _ => 0))
abbrev kQR : List vw_C := [(RX40, TX40, 12), (RX41, TX41, 12), (RX62, TX62, 9), (RX85, TX85, 3)]
abbrev tQR (d : Nat → ClassId) : List (ClassId × FieldType) := [(d 0, .int), (d 1, .boolean), (d 2, (.object "KnowHouse$QlRewrite$Question")), (d 3, (.object "KnowHouse$QlRewrite$Form"))]
theorem cQR_1 {ci : Nat → Nat} {d : Nat → ClassId} {kd : Nat → Nat} {an : Nat → Nat} {ai : Nat → Nat → Int32} {al : Nat → Nat → Int64} {ar : Nat → Nat → Option Nat} {mX40_kinds : Nat → Option Nat} {mX40_lefts : Nat → Option Nat} {mX40_rights : Nat → Option Nat} {mX40_axioms : Nat → Int32} {mX40_classFacts : Nat → Option Nat} {mX40_roleFacts : Nat → Option Nat} {mX40_facts : Nat → Int32} {mX40_draft : Nat → Option Nat} {mX40_questions : Nat → Option Nat} {mX40_questionCount : Nat → Int32} {mX40_forbidden : Nat → Option Nat} {mX40_given : Nat → Option Nat} {mX41_first : Nat → Int32} {mX41_second : Nat → Int32} {mX41_names : Nat → Option Nat} {mX41_from : Nat → Option Nat} {mX41_to : Nat → Option Nat} {mX41_n : Nat → Int32} {mX41_codes : Nat → Option Nat} {mX41_least : Nat → Option Nat} {mX41_hasLeast : Nat → Int32} {mX41_others : Nat → Option Nat} {mX41_otherCount : Nat → Int32} {mX41_named : Nat → Option Nat} {mX62_answers : Nat → Int32} {mX62_names : Nat → Option Nat} {mX62_from : Nat → Option Nat} {mX62_to : Nat → Option Nat} {mX62_n : Nat → Int32} {mX62_forms : Nat → Option Nat} {mX62_count : Nat → Int32} {mX62_large : Nat → Int32} {mX62_known : Nat → Int32} {mX85_first : Nat → Int32} {mX85_second : Nat → Int32} {mX85_codes : Nat → Option Nat} {a : Nat} (hk : kd a = 1) : (cQR ci d kd an ai al ar mX40_kinds mX40_lefts mX40_rights mX40_axioms mX40_classFacts mX40_roleFacts mX40_facts mX40_draft mX40_questions mX40_questionCount mX40_forbidden mX40_given mX41_first mX41_second mX41_names mX41_from mX41_to mX41_n mX41_codes mX41_least mX41_hasLeast mX41_others mX41_otherCount mX41_named mX62_answers mX62_names mX62_from mX62_to mX62_n mX62_forms mX62_count mX62_large mX62_known mX85_first mX85_second mX85_codes) a = .inr (ci 0, [va_rf (mX40_kinds a), va_rf (mX40_lefts a), va_rf (mX40_rights a), .int (mX40_axioms a), va_rf (mX40_classFacts a), va_rf (mX40_roleFacts a), .int (mX40_facts a), va_rf (mX40_draft a), va_rf (mX40_questions a), .int (mX40_questionCount a), va_rf (mX40_forbidden a), va_rf (mX40_given a)]) := by unfold cQR; simp only [hk]
theorem cQR_1_0 {ci : Nat → Nat} {d : Nat → ClassId} {kd : Nat → Nat} {an : Nat → Nat} {ai : Nat → Nat → Int32} {al : Nat → Nat → Int64} {ar : Nat → Nat → Option Nat} {mX40_kinds : Nat → Option Nat} {mX40_lefts : Nat → Option Nat} {mX40_rights : Nat → Option Nat} {mX40_axioms : Nat → Int32} {mX40_classFacts : Nat → Option Nat} {mX40_roleFacts : Nat → Option Nat} {mX40_facts : Nat → Int32} {mX40_draft : Nat → Option Nat} {mX40_questions : Nat → Option Nat} {mX40_questionCount : Nat → Int32} {mX40_forbidden : Nat → Option Nat} {mX40_given : Nat → Option Nat} {mX41_first : Nat → Int32} {mX41_second : Nat → Int32} {mX41_names : Nat → Option Nat} {mX41_from : Nat → Option Nat} {mX41_to : Nat → Option Nat} {mX41_n : Nat → Int32} {mX41_codes : Nat → Option Nat} {mX41_least : Nat → Option Nat} {mX41_hasLeast : Nat → Int32} {mX41_others : Nat → Option Nat} {mX41_otherCount : Nat → Int32} {mX41_named : Nat → Option Nat} {mX62_answers : Nat → Int32} {mX62_names : Nat → Option Nat} {mX62_from : Nat → Option Nat} {mX62_to : Nat → Option Nat} {mX62_n : Nat → Int32} {mX62_forms : Nat → Option Nat} {mX62_count : Nat → Int32} {mX62_large : Nat → Int32} {mX62_known : Nat → Int32} {mX85_first : Nat → Int32} {mX85_second : Nat → Int32} {mX85_codes : Nat → Option Nat} {a : Nat} {v : Option Nat} (hk : kd a = 1) : va_up (cQR ci d kd an ai al ar mX40_kinds mX40_lefts mX40_rights mX40_axioms mX40_classFacts mX40_roleFacts mX40_facts mX40_draft mX40_questions mX40_questionCount mX40_forbidden mX40_given mX41_first mX41_second mX41_names mX41_from mX41_to mX41_n mX41_codes mX41_least mX41_hasLeast mX41_others mX41_otherCount mX41_named mX62_answers mX62_names mX62_from mX62_to mX62_n mX62_forms mX62_count mX62_large mX62_known mX85_first mX85_second mX85_codes) a (.inr (ci 0, [va_rf v, va_rf (mX40_lefts a), va_rf (mX40_rights a), .int (mX40_axioms a), va_rf (mX40_classFacts a), va_rf (mX40_roleFacts a), .int (mX40_facts a), va_rf (mX40_draft a), va_rf (mX40_questions a), .int (mX40_questionCount a), va_rf (mX40_forbidden a), va_rf (mX40_given a)])) = (cQR ci d kd an ai al ar (va_up mX40_kinds a v) mX40_lefts mX40_rights mX40_axioms mX40_classFacts mX40_roleFacts mX40_facts mX40_draft mX40_questions mX40_questionCount mX40_forbidden mX40_given mX41_first mX41_second mX41_names mX41_from mX41_to mX41_n mX41_codes mX41_least mX41_hasLeast mX41_others mX41_otherCount mX41_named mX62_answers mX62_names mX62_from mX62_to mX62_n mX62_forms mX62_count mX62_large mX62_known mX85_first mX85_second mX85_codes) := by
  funext b
  by_cases h : b = a
  · subst h
    rw [va_up_self]
    unfold cQR
    rw [hk]
    simp only [va_up_self]
  · rw [va_up_ne _ _ h]
    unfold cQR
    simp only [va_up_ne _ _ h]
theorem cQR_1_1 {ci : Nat → Nat} {d : Nat → ClassId} {kd : Nat → Nat} {an : Nat → Nat} {ai : Nat → Nat → Int32} {al : Nat → Nat → Int64} {ar : Nat → Nat → Option Nat} {mX40_kinds : Nat → Option Nat} {mX40_lefts : Nat → Option Nat} {mX40_rights : Nat → Option Nat} {mX40_axioms : Nat → Int32} {mX40_classFacts : Nat → Option Nat} {mX40_roleFacts : Nat → Option Nat} {mX40_facts : Nat → Int32} {mX40_draft : Nat → Option Nat} {mX40_questions : Nat → Option Nat} {mX40_questionCount : Nat → Int32} {mX40_forbidden : Nat → Option Nat} {mX40_given : Nat → Option Nat} {mX41_first : Nat → Int32} {mX41_second : Nat → Int32} {mX41_names : Nat → Option Nat} {mX41_from : Nat → Option Nat} {mX41_to : Nat → Option Nat} {mX41_n : Nat → Int32} {mX41_codes : Nat → Option Nat} {mX41_least : Nat → Option Nat} {mX41_hasLeast : Nat → Int32} {mX41_others : Nat → Option Nat} {mX41_otherCount : Nat → Int32} {mX41_named : Nat → Option Nat} {mX62_answers : Nat → Int32} {mX62_names : Nat → Option Nat} {mX62_from : Nat → Option Nat} {mX62_to : Nat → Option Nat} {mX62_n : Nat → Int32} {mX62_forms : Nat → Option Nat} {mX62_count : Nat → Int32} {mX62_large : Nat → Int32} {mX62_known : Nat → Int32} {mX85_first : Nat → Int32} {mX85_second : Nat → Int32} {mX85_codes : Nat → Option Nat} {a : Nat} {v : Option Nat} (hk : kd a = 1) : va_up (cQR ci d kd an ai al ar mX40_kinds mX40_lefts mX40_rights mX40_axioms mX40_classFacts mX40_roleFacts mX40_facts mX40_draft mX40_questions mX40_questionCount mX40_forbidden mX40_given mX41_first mX41_second mX41_names mX41_from mX41_to mX41_n mX41_codes mX41_least mX41_hasLeast mX41_others mX41_otherCount mX41_named mX62_answers mX62_names mX62_from mX62_to mX62_n mX62_forms mX62_count mX62_large mX62_known mX85_first mX85_second mX85_codes) a (.inr (ci 0, [va_rf (mX40_kinds a), va_rf v, va_rf (mX40_rights a), .int (mX40_axioms a), va_rf (mX40_classFacts a), va_rf (mX40_roleFacts a), .int (mX40_facts a), va_rf (mX40_draft a), va_rf (mX40_questions a), .int (mX40_questionCount a), va_rf (mX40_forbidden a), va_rf (mX40_given a)])) = (cQR ci d kd an ai al ar mX40_kinds (va_up mX40_lefts a v) mX40_rights mX40_axioms mX40_classFacts mX40_roleFacts mX40_facts mX40_draft mX40_questions mX40_questionCount mX40_forbidden mX40_given mX41_first mX41_second mX41_names mX41_from mX41_to mX41_n mX41_codes mX41_least mX41_hasLeast mX41_others mX41_otherCount mX41_named mX62_answers mX62_names mX62_from mX62_to mX62_n mX62_forms mX62_count mX62_large mX62_known mX85_first mX85_second mX85_codes) := by
  funext b
  by_cases h : b = a
  · subst h
    rw [va_up_self]
    unfold cQR
    rw [hk]
    simp only [va_up_self]
  · rw [va_up_ne _ _ h]
    unfold cQR
    simp only [va_up_ne _ _ h]
theorem cQR_1_2 {ci : Nat → Nat} {d : Nat → ClassId} {kd : Nat → Nat} {an : Nat → Nat} {ai : Nat → Nat → Int32} {al : Nat → Nat → Int64} {ar : Nat → Nat → Option Nat} {mX40_kinds : Nat → Option Nat} {mX40_lefts : Nat → Option Nat} {mX40_rights : Nat → Option Nat} {mX40_axioms : Nat → Int32} {mX40_classFacts : Nat → Option Nat} {mX40_roleFacts : Nat → Option Nat} {mX40_facts : Nat → Int32} {mX40_draft : Nat → Option Nat} {mX40_questions : Nat → Option Nat} {mX40_questionCount : Nat → Int32} {mX40_forbidden : Nat → Option Nat} {mX40_given : Nat → Option Nat} {mX41_first : Nat → Int32} {mX41_second : Nat → Int32} {mX41_names : Nat → Option Nat} {mX41_from : Nat → Option Nat} {mX41_to : Nat → Option Nat} {mX41_n : Nat → Int32} {mX41_codes : Nat → Option Nat} {mX41_least : Nat → Option Nat} {mX41_hasLeast : Nat → Int32} {mX41_others : Nat → Option Nat} {mX41_otherCount : Nat → Int32} {mX41_named : Nat → Option Nat} {mX62_answers : Nat → Int32} {mX62_names : Nat → Option Nat} {mX62_from : Nat → Option Nat} {mX62_to : Nat → Option Nat} {mX62_n : Nat → Int32} {mX62_forms : Nat → Option Nat} {mX62_count : Nat → Int32} {mX62_large : Nat → Int32} {mX62_known : Nat → Int32} {mX85_first : Nat → Int32} {mX85_second : Nat → Int32} {mX85_codes : Nat → Option Nat} {a : Nat} {v : Option Nat} (hk : kd a = 1) : va_up (cQR ci d kd an ai al ar mX40_kinds mX40_lefts mX40_rights mX40_axioms mX40_classFacts mX40_roleFacts mX40_facts mX40_draft mX40_questions mX40_questionCount mX40_forbidden mX40_given mX41_first mX41_second mX41_names mX41_from mX41_to mX41_n mX41_codes mX41_least mX41_hasLeast mX41_others mX41_otherCount mX41_named mX62_answers mX62_names mX62_from mX62_to mX62_n mX62_forms mX62_count mX62_large mX62_known mX85_first mX85_second mX85_codes) a (.inr (ci 0, [va_rf (mX40_kinds a), va_rf (mX40_lefts a), va_rf v, .int (mX40_axioms a), va_rf (mX40_classFacts a), va_rf (mX40_roleFacts a), .int (mX40_facts a), va_rf (mX40_draft a), va_rf (mX40_questions a), .int (mX40_questionCount a), va_rf (mX40_forbidden a), va_rf (mX40_given a)])) = (cQR ci d kd an ai al ar mX40_kinds mX40_lefts (va_up mX40_rights a v) mX40_axioms mX40_classFacts mX40_roleFacts mX40_facts mX40_draft mX40_questions mX40_questionCount mX40_forbidden mX40_given mX41_first mX41_second mX41_names mX41_from mX41_to mX41_n mX41_codes mX41_least mX41_hasLeast mX41_others mX41_otherCount mX41_named mX62_answers mX62_names mX62_from mX62_to mX62_n mX62_forms mX62_count mX62_large mX62_known mX85_first mX85_second mX85_codes) := by
  funext b
  by_cases h : b = a
  · subst h
    rw [va_up_self]
    unfold cQR
    rw [hk]
    simp only [va_up_self]
  · rw [va_up_ne _ _ h]
    unfold cQR
    simp only [va_up_ne _ _ h]
theorem cQR_1_3 {ci : Nat → Nat} {d : Nat → ClassId} {kd : Nat → Nat} {an : Nat → Nat} {ai : Nat → Nat → Int32} {al : Nat → Nat → Int64} {ar : Nat → Nat → Option Nat} {mX40_kinds : Nat → Option Nat} {mX40_lefts : Nat → Option Nat} {mX40_rights : Nat → Option Nat} {mX40_axioms : Nat → Int32} {mX40_classFacts : Nat → Option Nat} {mX40_roleFacts : Nat → Option Nat} {mX40_facts : Nat → Int32} {mX40_draft : Nat → Option Nat} {mX40_questions : Nat → Option Nat} {mX40_questionCount : Nat → Int32} {mX40_forbidden : Nat → Option Nat} {mX40_given : Nat → Option Nat} {mX41_first : Nat → Int32} {mX41_second : Nat → Int32} {mX41_names : Nat → Option Nat} {mX41_from : Nat → Option Nat} {mX41_to : Nat → Option Nat} {mX41_n : Nat → Int32} {mX41_codes : Nat → Option Nat} {mX41_least : Nat → Option Nat} {mX41_hasLeast : Nat → Int32} {mX41_others : Nat → Option Nat} {mX41_otherCount : Nat → Int32} {mX41_named : Nat → Option Nat} {mX62_answers : Nat → Int32} {mX62_names : Nat → Option Nat} {mX62_from : Nat → Option Nat} {mX62_to : Nat → Option Nat} {mX62_n : Nat → Int32} {mX62_forms : Nat → Option Nat} {mX62_count : Nat → Int32} {mX62_large : Nat → Int32} {mX62_known : Nat → Int32} {mX85_first : Nat → Int32} {mX85_second : Nat → Int32} {mX85_codes : Nat → Option Nat} {a : Nat} {v : Int32} (hk : kd a = 1) : va_up (cQR ci d kd an ai al ar mX40_kinds mX40_lefts mX40_rights mX40_axioms mX40_classFacts mX40_roleFacts mX40_facts mX40_draft mX40_questions mX40_questionCount mX40_forbidden mX40_given mX41_first mX41_second mX41_names mX41_from mX41_to mX41_n mX41_codes mX41_least mX41_hasLeast mX41_others mX41_otherCount mX41_named mX62_answers mX62_names mX62_from mX62_to mX62_n mX62_forms mX62_count mX62_large mX62_known mX85_first mX85_second mX85_codes) a (.inr (ci 0, [va_rf (mX40_kinds a), va_rf (mX40_lefts a), va_rf (mX40_rights a), .int v, va_rf (mX40_classFacts a), va_rf (mX40_roleFacts a), .int (mX40_facts a), va_rf (mX40_draft a), va_rf (mX40_questions a), .int (mX40_questionCount a), va_rf (mX40_forbidden a), va_rf (mX40_given a)])) = (cQR ci d kd an ai al ar mX40_kinds mX40_lefts mX40_rights (va_up mX40_axioms a v) mX40_classFacts mX40_roleFacts mX40_facts mX40_draft mX40_questions mX40_questionCount mX40_forbidden mX40_given mX41_first mX41_second mX41_names mX41_from mX41_to mX41_n mX41_codes mX41_least mX41_hasLeast mX41_others mX41_otherCount mX41_named mX62_answers mX62_names mX62_from mX62_to mX62_n mX62_forms mX62_count mX62_large mX62_known mX85_first mX85_second mX85_codes) := by
  funext b
  by_cases h : b = a
  · subst h
    rw [va_up_self]
    unfold cQR
    rw [hk]
    simp only [va_up_self]
  · rw [va_up_ne _ _ h]
    unfold cQR
    simp only [va_up_ne _ _ h]
theorem cQR_1_4 {ci : Nat → Nat} {d : Nat → ClassId} {kd : Nat → Nat} {an : Nat → Nat} {ai : Nat → Nat → Int32} {al : Nat → Nat → Int64} {ar : Nat → Nat → Option Nat} {mX40_kinds : Nat → Option Nat} {mX40_lefts : Nat → Option Nat} {mX40_rights : Nat → Option Nat} {mX40_axioms : Nat → Int32} {mX40_classFacts : Nat → Option Nat} {mX40_roleFacts : Nat → Option Nat} {mX40_facts : Nat → Int32} {mX40_draft : Nat → Option Nat} {mX40_questions : Nat → Option Nat} {mX40_questionCount : Nat → Int32} {mX40_forbidden : Nat → Option Nat} {mX40_given : Nat → Option Nat} {mX41_first : Nat → Int32} {mX41_second : Nat → Int32} {mX41_names : Nat → Option Nat} {mX41_from : Nat → Option Nat} {mX41_to : Nat → Option Nat} {mX41_n : Nat → Int32} {mX41_codes : Nat → Option Nat} {mX41_least : Nat → Option Nat} {mX41_hasLeast : Nat → Int32} {mX41_others : Nat → Option Nat} {mX41_otherCount : Nat → Int32} {mX41_named : Nat → Option Nat} {mX62_answers : Nat → Int32} {mX62_names : Nat → Option Nat} {mX62_from : Nat → Option Nat} {mX62_to : Nat → Option Nat} {mX62_n : Nat → Int32} {mX62_forms : Nat → Option Nat} {mX62_count : Nat → Int32} {mX62_large : Nat → Int32} {mX62_known : Nat → Int32} {mX85_first : Nat → Int32} {mX85_second : Nat → Int32} {mX85_codes : Nat → Option Nat} {a : Nat} {v : Option Nat} (hk : kd a = 1) : va_up (cQR ci d kd an ai al ar mX40_kinds mX40_lefts mX40_rights mX40_axioms mX40_classFacts mX40_roleFacts mX40_facts mX40_draft mX40_questions mX40_questionCount mX40_forbidden mX40_given mX41_first mX41_second mX41_names mX41_from mX41_to mX41_n mX41_codes mX41_least mX41_hasLeast mX41_others mX41_otherCount mX41_named mX62_answers mX62_names mX62_from mX62_to mX62_n mX62_forms mX62_count mX62_large mX62_known mX85_first mX85_second mX85_codes) a (.inr (ci 0, [va_rf (mX40_kinds a), va_rf (mX40_lefts a), va_rf (mX40_rights a), .int (mX40_axioms a), va_rf v, va_rf (mX40_roleFacts a), .int (mX40_facts a), va_rf (mX40_draft a), va_rf (mX40_questions a), .int (mX40_questionCount a), va_rf (mX40_forbidden a), va_rf (mX40_given a)])) = (cQR ci d kd an ai al ar mX40_kinds mX40_lefts mX40_rights mX40_axioms (va_up mX40_classFacts a v) mX40_roleFacts mX40_facts mX40_draft mX40_questions mX40_questionCount mX40_forbidden mX40_given mX41_first mX41_second mX41_names mX41_from mX41_to mX41_n mX41_codes mX41_least mX41_hasLeast mX41_others mX41_otherCount mX41_named mX62_answers mX62_names mX62_from mX62_to mX62_n mX62_forms mX62_count mX62_large mX62_known mX85_first mX85_second mX85_codes) := by
  funext b
  by_cases h : b = a
  · subst h
    rw [va_up_self]
    unfold cQR
    rw [hk]
    simp only [va_up_self]
  · rw [va_up_ne _ _ h]
    unfold cQR
    simp only [va_up_ne _ _ h]
theorem cQR_1_5 {ci : Nat → Nat} {d : Nat → ClassId} {kd : Nat → Nat} {an : Nat → Nat} {ai : Nat → Nat → Int32} {al : Nat → Nat → Int64} {ar : Nat → Nat → Option Nat} {mX40_kinds : Nat → Option Nat} {mX40_lefts : Nat → Option Nat} {mX40_rights : Nat → Option Nat} {mX40_axioms : Nat → Int32} {mX40_classFacts : Nat → Option Nat} {mX40_roleFacts : Nat → Option Nat} {mX40_facts : Nat → Int32} {mX40_draft : Nat → Option Nat} {mX40_questions : Nat → Option Nat} {mX40_questionCount : Nat → Int32} {mX40_forbidden : Nat → Option Nat} {mX40_given : Nat → Option Nat} {mX41_first : Nat → Int32} {mX41_second : Nat → Int32} {mX41_names : Nat → Option Nat} {mX41_from : Nat → Option Nat} {mX41_to : Nat → Option Nat} {mX41_n : Nat → Int32} {mX41_codes : Nat → Option Nat} {mX41_least : Nat → Option Nat} {mX41_hasLeast : Nat → Int32} {mX41_others : Nat → Option Nat} {mX41_otherCount : Nat → Int32} {mX41_named : Nat → Option Nat} {mX62_answers : Nat → Int32} {mX62_names : Nat → Option Nat} {mX62_from : Nat → Option Nat} {mX62_to : Nat → Option Nat} {mX62_n : Nat → Int32} {mX62_forms : Nat → Option Nat} {mX62_count : Nat → Int32} {mX62_large : Nat → Int32} {mX62_known : Nat → Int32} {mX85_first : Nat → Int32} {mX85_second : Nat → Int32} {mX85_codes : Nat → Option Nat} {a : Nat} {v : Option Nat} (hk : kd a = 1) : va_up (cQR ci d kd an ai al ar mX40_kinds mX40_lefts mX40_rights mX40_axioms mX40_classFacts mX40_roleFacts mX40_facts mX40_draft mX40_questions mX40_questionCount mX40_forbidden mX40_given mX41_first mX41_second mX41_names mX41_from mX41_to mX41_n mX41_codes mX41_least mX41_hasLeast mX41_others mX41_otherCount mX41_named mX62_answers mX62_names mX62_from mX62_to mX62_n mX62_forms mX62_count mX62_large mX62_known mX85_first mX85_second mX85_codes) a (.inr (ci 0, [va_rf (mX40_kinds a), va_rf (mX40_lefts a), va_rf (mX40_rights a), .int (mX40_axioms a), va_rf (mX40_classFacts a), va_rf v, .int (mX40_facts a), va_rf (mX40_draft a), va_rf (mX40_questions a), .int (mX40_questionCount a), va_rf (mX40_forbidden a), va_rf (mX40_given a)])) = (cQR ci d kd an ai al ar mX40_kinds mX40_lefts mX40_rights mX40_axioms mX40_classFacts (va_up mX40_roleFacts a v) mX40_facts mX40_draft mX40_questions mX40_questionCount mX40_forbidden mX40_given mX41_first mX41_second mX41_names mX41_from mX41_to mX41_n mX41_codes mX41_least mX41_hasLeast mX41_others mX41_otherCount mX41_named mX62_answers mX62_names mX62_from mX62_to mX62_n mX62_forms mX62_count mX62_large mX62_known mX85_first mX85_second mX85_codes) := by
  funext b
  by_cases h : b = a
  · subst h
    rw [va_up_self]
    unfold cQR
    rw [hk]
    simp only [va_up_self]
  · rw [va_up_ne _ _ h]
    unfold cQR
    simp only [va_up_ne _ _ h]
theorem cQR_1_6 {ci : Nat → Nat} {d : Nat → ClassId} {kd : Nat → Nat} {an : Nat → Nat} {ai : Nat → Nat → Int32} {al : Nat → Nat → Int64} {ar : Nat → Nat → Option Nat} {mX40_kinds : Nat → Option Nat} {mX40_lefts : Nat → Option Nat} {mX40_rights : Nat → Option Nat} {mX40_axioms : Nat → Int32} {mX40_classFacts : Nat → Option Nat} {mX40_roleFacts : Nat → Option Nat} {mX40_facts : Nat → Int32} {mX40_draft : Nat → Option Nat} {mX40_questions : Nat → Option Nat} {mX40_questionCount : Nat → Int32} {mX40_forbidden : Nat → Option Nat} {mX40_given : Nat → Option Nat} {mX41_first : Nat → Int32} {mX41_second : Nat → Int32} {mX41_names : Nat → Option Nat} {mX41_from : Nat → Option Nat} {mX41_to : Nat → Option Nat} {mX41_n : Nat → Int32} {mX41_codes : Nat → Option Nat} {mX41_least : Nat → Option Nat} {mX41_hasLeast : Nat → Int32} {mX41_others : Nat → Option Nat} {mX41_otherCount : Nat → Int32} {mX41_named : Nat → Option Nat} {mX62_answers : Nat → Int32} {mX62_names : Nat → Option Nat} {mX62_from : Nat → Option Nat} {mX62_to : Nat → Option Nat} {mX62_n : Nat → Int32} {mX62_forms : Nat → Option Nat} {mX62_count : Nat → Int32} {mX62_large : Nat → Int32} {mX62_known : Nat → Int32} {mX85_first : Nat → Int32} {mX85_second : Nat → Int32} {mX85_codes : Nat → Option Nat} {a : Nat} {v : Int32} (hk : kd a = 1) : va_up (cQR ci d kd an ai al ar mX40_kinds mX40_lefts mX40_rights mX40_axioms mX40_classFacts mX40_roleFacts mX40_facts mX40_draft mX40_questions mX40_questionCount mX40_forbidden mX40_given mX41_first mX41_second mX41_names mX41_from mX41_to mX41_n mX41_codes mX41_least mX41_hasLeast mX41_others mX41_otherCount mX41_named mX62_answers mX62_names mX62_from mX62_to mX62_n mX62_forms mX62_count mX62_large mX62_known mX85_first mX85_second mX85_codes) a (.inr (ci 0, [va_rf (mX40_kinds a), va_rf (mX40_lefts a), va_rf (mX40_rights a), .int (mX40_axioms a), va_rf (mX40_classFacts a), va_rf (mX40_roleFacts a), .int v, va_rf (mX40_draft a), va_rf (mX40_questions a), .int (mX40_questionCount a), va_rf (mX40_forbidden a), va_rf (mX40_given a)])) = (cQR ci d kd an ai al ar mX40_kinds mX40_lefts mX40_rights mX40_axioms mX40_classFacts mX40_roleFacts (va_up mX40_facts a v) mX40_draft mX40_questions mX40_questionCount mX40_forbidden mX40_given mX41_first mX41_second mX41_names mX41_from mX41_to mX41_n mX41_codes mX41_least mX41_hasLeast mX41_others mX41_otherCount mX41_named mX62_answers mX62_names mX62_from mX62_to mX62_n mX62_forms mX62_count mX62_large mX62_known mX85_first mX85_second mX85_codes) := by
  funext b
  by_cases h : b = a
  · subst h
    rw [va_up_self]
    unfold cQR
    rw [hk]
    simp only [va_up_self]
  · rw [va_up_ne _ _ h]
    unfold cQR
    simp only [va_up_ne _ _ h]
theorem cQR_1_7 {ci : Nat → Nat} {d : Nat → ClassId} {kd : Nat → Nat} {an : Nat → Nat} {ai : Nat → Nat → Int32} {al : Nat → Nat → Int64} {ar : Nat → Nat → Option Nat} {mX40_kinds : Nat → Option Nat} {mX40_lefts : Nat → Option Nat} {mX40_rights : Nat → Option Nat} {mX40_axioms : Nat → Int32} {mX40_classFacts : Nat → Option Nat} {mX40_roleFacts : Nat → Option Nat} {mX40_facts : Nat → Int32} {mX40_draft : Nat → Option Nat} {mX40_questions : Nat → Option Nat} {mX40_questionCount : Nat → Int32} {mX40_forbidden : Nat → Option Nat} {mX40_given : Nat → Option Nat} {mX41_first : Nat → Int32} {mX41_second : Nat → Int32} {mX41_names : Nat → Option Nat} {mX41_from : Nat → Option Nat} {mX41_to : Nat → Option Nat} {mX41_n : Nat → Int32} {mX41_codes : Nat → Option Nat} {mX41_least : Nat → Option Nat} {mX41_hasLeast : Nat → Int32} {mX41_others : Nat → Option Nat} {mX41_otherCount : Nat → Int32} {mX41_named : Nat → Option Nat} {mX62_answers : Nat → Int32} {mX62_names : Nat → Option Nat} {mX62_from : Nat → Option Nat} {mX62_to : Nat → Option Nat} {mX62_n : Nat → Int32} {mX62_forms : Nat → Option Nat} {mX62_count : Nat → Int32} {mX62_large : Nat → Int32} {mX62_known : Nat → Int32} {mX85_first : Nat → Int32} {mX85_second : Nat → Int32} {mX85_codes : Nat → Option Nat} {a : Nat} {v : Option Nat} (hk : kd a = 1) : va_up (cQR ci d kd an ai al ar mX40_kinds mX40_lefts mX40_rights mX40_axioms mX40_classFacts mX40_roleFacts mX40_facts mX40_draft mX40_questions mX40_questionCount mX40_forbidden mX40_given mX41_first mX41_second mX41_names mX41_from mX41_to mX41_n mX41_codes mX41_least mX41_hasLeast mX41_others mX41_otherCount mX41_named mX62_answers mX62_names mX62_from mX62_to mX62_n mX62_forms mX62_count mX62_large mX62_known mX85_first mX85_second mX85_codes) a (.inr (ci 0, [va_rf (mX40_kinds a), va_rf (mX40_lefts a), va_rf (mX40_rights a), .int (mX40_axioms a), va_rf (mX40_classFacts a), va_rf (mX40_roleFacts a), .int (mX40_facts a), va_rf v, va_rf (mX40_questions a), .int (mX40_questionCount a), va_rf (mX40_forbidden a), va_rf (mX40_given a)])) = (cQR ci d kd an ai al ar mX40_kinds mX40_lefts mX40_rights mX40_axioms mX40_classFacts mX40_roleFacts mX40_facts (va_up mX40_draft a v) mX40_questions mX40_questionCount mX40_forbidden mX40_given mX41_first mX41_second mX41_names mX41_from mX41_to mX41_n mX41_codes mX41_least mX41_hasLeast mX41_others mX41_otherCount mX41_named mX62_answers mX62_names mX62_from mX62_to mX62_n mX62_forms mX62_count mX62_large mX62_known mX85_first mX85_second mX85_codes) := by
  funext b
  by_cases h : b = a
  · subst h
    rw [va_up_self]
    unfold cQR
    rw [hk]
    simp only [va_up_self]
  · rw [va_up_ne _ _ h]
    unfold cQR
    simp only [va_up_ne _ _ h]
theorem cQR_1_8 {ci : Nat → Nat} {d : Nat → ClassId} {kd : Nat → Nat} {an : Nat → Nat} {ai : Nat → Nat → Int32} {al : Nat → Nat → Int64} {ar : Nat → Nat → Option Nat} {mX40_kinds : Nat → Option Nat} {mX40_lefts : Nat → Option Nat} {mX40_rights : Nat → Option Nat} {mX40_axioms : Nat → Int32} {mX40_classFacts : Nat → Option Nat} {mX40_roleFacts : Nat → Option Nat} {mX40_facts : Nat → Int32} {mX40_draft : Nat → Option Nat} {mX40_questions : Nat → Option Nat} {mX40_questionCount : Nat → Int32} {mX40_forbidden : Nat → Option Nat} {mX40_given : Nat → Option Nat} {mX41_first : Nat → Int32} {mX41_second : Nat → Int32} {mX41_names : Nat → Option Nat} {mX41_from : Nat → Option Nat} {mX41_to : Nat → Option Nat} {mX41_n : Nat → Int32} {mX41_codes : Nat → Option Nat} {mX41_least : Nat → Option Nat} {mX41_hasLeast : Nat → Int32} {mX41_others : Nat → Option Nat} {mX41_otherCount : Nat → Int32} {mX41_named : Nat → Option Nat} {mX62_answers : Nat → Int32} {mX62_names : Nat → Option Nat} {mX62_from : Nat → Option Nat} {mX62_to : Nat → Option Nat} {mX62_n : Nat → Int32} {mX62_forms : Nat → Option Nat} {mX62_count : Nat → Int32} {mX62_large : Nat → Int32} {mX62_known : Nat → Int32} {mX85_first : Nat → Int32} {mX85_second : Nat → Int32} {mX85_codes : Nat → Option Nat} {a : Nat} {v : Option Nat} (hk : kd a = 1) : va_up (cQR ci d kd an ai al ar mX40_kinds mX40_lefts mX40_rights mX40_axioms mX40_classFacts mX40_roleFacts mX40_facts mX40_draft mX40_questions mX40_questionCount mX40_forbidden mX40_given mX41_first mX41_second mX41_names mX41_from mX41_to mX41_n mX41_codes mX41_least mX41_hasLeast mX41_others mX41_otherCount mX41_named mX62_answers mX62_names mX62_from mX62_to mX62_n mX62_forms mX62_count mX62_large mX62_known mX85_first mX85_second mX85_codes) a (.inr (ci 0, [va_rf (mX40_kinds a), va_rf (mX40_lefts a), va_rf (mX40_rights a), .int (mX40_axioms a), va_rf (mX40_classFacts a), va_rf (mX40_roleFacts a), .int (mX40_facts a), va_rf (mX40_draft a), va_rf v, .int (mX40_questionCount a), va_rf (mX40_forbidden a), va_rf (mX40_given a)])) = (cQR ci d kd an ai al ar mX40_kinds mX40_lefts mX40_rights mX40_axioms mX40_classFacts mX40_roleFacts mX40_facts mX40_draft (va_up mX40_questions a v) mX40_questionCount mX40_forbidden mX40_given mX41_first mX41_second mX41_names mX41_from mX41_to mX41_n mX41_codes mX41_least mX41_hasLeast mX41_others mX41_otherCount mX41_named mX62_answers mX62_names mX62_from mX62_to mX62_n mX62_forms mX62_count mX62_large mX62_known mX85_first mX85_second mX85_codes) := by
  funext b
  by_cases h : b = a
  · subst h
    rw [va_up_self]
    unfold cQR
    rw [hk]
    simp only [va_up_self]
  · rw [va_up_ne _ _ h]
    unfold cQR
    simp only [va_up_ne _ _ h]
theorem cQR_1_9 {ci : Nat → Nat} {d : Nat → ClassId} {kd : Nat → Nat} {an : Nat → Nat} {ai : Nat → Nat → Int32} {al : Nat → Nat → Int64} {ar : Nat → Nat → Option Nat} {mX40_kinds : Nat → Option Nat} {mX40_lefts : Nat → Option Nat} {mX40_rights : Nat → Option Nat} {mX40_axioms : Nat → Int32} {mX40_classFacts : Nat → Option Nat} {mX40_roleFacts : Nat → Option Nat} {mX40_facts : Nat → Int32} {mX40_draft : Nat → Option Nat} {mX40_questions : Nat → Option Nat} {mX40_questionCount : Nat → Int32} {mX40_forbidden : Nat → Option Nat} {mX40_given : Nat → Option Nat} {mX41_first : Nat → Int32} {mX41_second : Nat → Int32} {mX41_names : Nat → Option Nat} {mX41_from : Nat → Option Nat} {mX41_to : Nat → Option Nat} {mX41_n : Nat → Int32} {mX41_codes : Nat → Option Nat} {mX41_least : Nat → Option Nat} {mX41_hasLeast : Nat → Int32} {mX41_others : Nat → Option Nat} {mX41_otherCount : Nat → Int32} {mX41_named : Nat → Option Nat} {mX62_answers : Nat → Int32} {mX62_names : Nat → Option Nat} {mX62_from : Nat → Option Nat} {mX62_to : Nat → Option Nat} {mX62_n : Nat → Int32} {mX62_forms : Nat → Option Nat} {mX62_count : Nat → Int32} {mX62_large : Nat → Int32} {mX62_known : Nat → Int32} {mX85_first : Nat → Int32} {mX85_second : Nat → Int32} {mX85_codes : Nat → Option Nat} {a : Nat} {v : Int32} (hk : kd a = 1) : va_up (cQR ci d kd an ai al ar mX40_kinds mX40_lefts mX40_rights mX40_axioms mX40_classFacts mX40_roleFacts mX40_facts mX40_draft mX40_questions mX40_questionCount mX40_forbidden mX40_given mX41_first mX41_second mX41_names mX41_from mX41_to mX41_n mX41_codes mX41_least mX41_hasLeast mX41_others mX41_otherCount mX41_named mX62_answers mX62_names mX62_from mX62_to mX62_n mX62_forms mX62_count mX62_large mX62_known mX85_first mX85_second mX85_codes) a (.inr (ci 0, [va_rf (mX40_kinds a), va_rf (mX40_lefts a), va_rf (mX40_rights a), .int (mX40_axioms a), va_rf (mX40_classFacts a), va_rf (mX40_roleFacts a), .int (mX40_facts a), va_rf (mX40_draft a), va_rf (mX40_questions a), .int v, va_rf (mX40_forbidden a), va_rf (mX40_given a)])) = (cQR ci d kd an ai al ar mX40_kinds mX40_lefts mX40_rights mX40_axioms mX40_classFacts mX40_roleFacts mX40_facts mX40_draft mX40_questions (va_up mX40_questionCount a v) mX40_forbidden mX40_given mX41_first mX41_second mX41_names mX41_from mX41_to mX41_n mX41_codes mX41_least mX41_hasLeast mX41_others mX41_otherCount mX41_named mX62_answers mX62_names mX62_from mX62_to mX62_n mX62_forms mX62_count mX62_large mX62_known mX85_first mX85_second mX85_codes) := by
  funext b
  by_cases h : b = a
  · subst h
    rw [va_up_self]
    unfold cQR
    rw [hk]
    simp only [va_up_self]
  · rw [va_up_ne _ _ h]
    unfold cQR
    simp only [va_up_ne _ _ h]
theorem cQR_1_10 {ci : Nat → Nat} {d : Nat → ClassId} {kd : Nat → Nat} {an : Nat → Nat} {ai : Nat → Nat → Int32} {al : Nat → Nat → Int64} {ar : Nat → Nat → Option Nat} {mX40_kinds : Nat → Option Nat} {mX40_lefts : Nat → Option Nat} {mX40_rights : Nat → Option Nat} {mX40_axioms : Nat → Int32} {mX40_classFacts : Nat → Option Nat} {mX40_roleFacts : Nat → Option Nat} {mX40_facts : Nat → Int32} {mX40_draft : Nat → Option Nat} {mX40_questions : Nat → Option Nat} {mX40_questionCount : Nat → Int32} {mX40_forbidden : Nat → Option Nat} {mX40_given : Nat → Option Nat} {mX41_first : Nat → Int32} {mX41_second : Nat → Int32} {mX41_names : Nat → Option Nat} {mX41_from : Nat → Option Nat} {mX41_to : Nat → Option Nat} {mX41_n : Nat → Int32} {mX41_codes : Nat → Option Nat} {mX41_least : Nat → Option Nat} {mX41_hasLeast : Nat → Int32} {mX41_others : Nat → Option Nat} {mX41_otherCount : Nat → Int32} {mX41_named : Nat → Option Nat} {mX62_answers : Nat → Int32} {mX62_names : Nat → Option Nat} {mX62_from : Nat → Option Nat} {mX62_to : Nat → Option Nat} {mX62_n : Nat → Int32} {mX62_forms : Nat → Option Nat} {mX62_count : Nat → Int32} {mX62_large : Nat → Int32} {mX62_known : Nat → Int32} {mX85_first : Nat → Int32} {mX85_second : Nat → Int32} {mX85_codes : Nat → Option Nat} {a : Nat} {v : Option Nat} (hk : kd a = 1) : va_up (cQR ci d kd an ai al ar mX40_kinds mX40_lefts mX40_rights mX40_axioms mX40_classFacts mX40_roleFacts mX40_facts mX40_draft mX40_questions mX40_questionCount mX40_forbidden mX40_given mX41_first mX41_second mX41_names mX41_from mX41_to mX41_n mX41_codes mX41_least mX41_hasLeast mX41_others mX41_otherCount mX41_named mX62_answers mX62_names mX62_from mX62_to mX62_n mX62_forms mX62_count mX62_large mX62_known mX85_first mX85_second mX85_codes) a (.inr (ci 0, [va_rf (mX40_kinds a), va_rf (mX40_lefts a), va_rf (mX40_rights a), .int (mX40_axioms a), va_rf (mX40_classFacts a), va_rf (mX40_roleFacts a), .int (mX40_facts a), va_rf (mX40_draft a), va_rf (mX40_questions a), .int (mX40_questionCount a), va_rf v, va_rf (mX40_given a)])) = (cQR ci d kd an ai al ar mX40_kinds mX40_lefts mX40_rights mX40_axioms mX40_classFacts mX40_roleFacts mX40_facts mX40_draft mX40_questions mX40_questionCount (va_up mX40_forbidden a v) mX40_given mX41_first mX41_second mX41_names mX41_from mX41_to mX41_n mX41_codes mX41_least mX41_hasLeast mX41_others mX41_otherCount mX41_named mX62_answers mX62_names mX62_from mX62_to mX62_n mX62_forms mX62_count mX62_large mX62_known mX85_first mX85_second mX85_codes) := by
  funext b
  by_cases h : b = a
  · subst h
    rw [va_up_self]
    unfold cQR
    rw [hk]
    simp only [va_up_self]
  · rw [va_up_ne _ _ h]
    unfold cQR
    simp only [va_up_ne _ _ h]
theorem cQR_1_11 {ci : Nat → Nat} {d : Nat → ClassId} {kd : Nat → Nat} {an : Nat → Nat} {ai : Nat → Nat → Int32} {al : Nat → Nat → Int64} {ar : Nat → Nat → Option Nat} {mX40_kinds : Nat → Option Nat} {mX40_lefts : Nat → Option Nat} {mX40_rights : Nat → Option Nat} {mX40_axioms : Nat → Int32} {mX40_classFacts : Nat → Option Nat} {mX40_roleFacts : Nat → Option Nat} {mX40_facts : Nat → Int32} {mX40_draft : Nat → Option Nat} {mX40_questions : Nat → Option Nat} {mX40_questionCount : Nat → Int32} {mX40_forbidden : Nat → Option Nat} {mX40_given : Nat → Option Nat} {mX41_first : Nat → Int32} {mX41_second : Nat → Int32} {mX41_names : Nat → Option Nat} {mX41_from : Nat → Option Nat} {mX41_to : Nat → Option Nat} {mX41_n : Nat → Int32} {mX41_codes : Nat → Option Nat} {mX41_least : Nat → Option Nat} {mX41_hasLeast : Nat → Int32} {mX41_others : Nat → Option Nat} {mX41_otherCount : Nat → Int32} {mX41_named : Nat → Option Nat} {mX62_answers : Nat → Int32} {mX62_names : Nat → Option Nat} {mX62_from : Nat → Option Nat} {mX62_to : Nat → Option Nat} {mX62_n : Nat → Int32} {mX62_forms : Nat → Option Nat} {mX62_count : Nat → Int32} {mX62_large : Nat → Int32} {mX62_known : Nat → Int32} {mX85_first : Nat → Int32} {mX85_second : Nat → Int32} {mX85_codes : Nat → Option Nat} {a : Nat} {v : Option Nat} (hk : kd a = 1) : va_up (cQR ci d kd an ai al ar mX40_kinds mX40_lefts mX40_rights mX40_axioms mX40_classFacts mX40_roleFacts mX40_facts mX40_draft mX40_questions mX40_questionCount mX40_forbidden mX40_given mX41_first mX41_second mX41_names mX41_from mX41_to mX41_n mX41_codes mX41_least mX41_hasLeast mX41_others mX41_otherCount mX41_named mX62_answers mX62_names mX62_from mX62_to mX62_n mX62_forms mX62_count mX62_large mX62_known mX85_first mX85_second mX85_codes) a (.inr (ci 0, [va_rf (mX40_kinds a), va_rf (mX40_lefts a), va_rf (mX40_rights a), .int (mX40_axioms a), va_rf (mX40_classFacts a), va_rf (mX40_roleFacts a), .int (mX40_facts a), va_rf (mX40_draft a), va_rf (mX40_questions a), .int (mX40_questionCount a), va_rf (mX40_forbidden a), va_rf v])) = (cQR ci d kd an ai al ar mX40_kinds mX40_lefts mX40_rights mX40_axioms mX40_classFacts mX40_roleFacts mX40_facts mX40_draft mX40_questions mX40_questionCount mX40_forbidden (va_up mX40_given a v) mX41_first mX41_second mX41_names mX41_from mX41_to mX41_n mX41_codes mX41_least mX41_hasLeast mX41_others mX41_otherCount mX41_named mX62_answers mX62_names mX62_from mX62_to mX62_n mX62_forms mX62_count mX62_large mX62_known mX85_first mX85_second mX85_codes) := by
  funext b
  by_cases h : b = a
  · subst h
    rw [va_up_self]
    unfold cQR
    rw [hk]
    simp only [va_up_self]
  · rw [va_up_ne _ _ h]
    unfold cQR
    simp only [va_up_ne _ _ h]
theorem cQR_1_n {ci : Nat → Nat} {d : Nat → ClassId} {kd : Nat → Nat} {an : Nat → Nat} {ai : Nat → Nat → Int32} {al : Nat → Nat → Int64} {ar : Nat → Nat → Option Nat} {mX40_kinds : Nat → Option Nat} {mX40_lefts : Nat → Option Nat} {mX40_rights : Nat → Option Nat} {mX40_axioms : Nat → Int32} {mX40_classFacts : Nat → Option Nat} {mX40_roleFacts : Nat → Option Nat} {mX40_facts : Nat → Int32} {mX40_draft : Nat → Option Nat} {mX40_questions : Nat → Option Nat} {mX40_questionCount : Nat → Int32} {mX40_forbidden : Nat → Option Nat} {mX40_given : Nat → Option Nat} {mX41_first : Nat → Int32} {mX41_second : Nat → Int32} {mX41_names : Nat → Option Nat} {mX41_from : Nat → Option Nat} {mX41_to : Nat → Option Nat} {mX41_n : Nat → Int32} {mX41_codes : Nat → Option Nat} {mX41_least : Nat → Option Nat} {mX41_hasLeast : Nat → Int32} {mX41_others : Nat → Option Nat} {mX41_otherCount : Nat → Int32} {mX41_named : Nat → Option Nat} {mX62_answers : Nat → Int32} {mX62_names : Nat → Option Nat} {mX62_from : Nat → Option Nat} {mX62_to : Nat → Option Nat} {mX62_n : Nat → Int32} {mX62_forms : Nat → Option Nat} {mX62_count : Nat → Int32} {mX62_large : Nat → Int32} {mX62_known : Nat → Int32} {mX85_first : Nat → Int32} {mX85_second : Nat → Int32} {mX85_codes : Nat → Option Nat} (q : Nat) : va_up (cQR ci d kd an ai al ar mX40_kinds mX40_lefts mX40_rights mX40_axioms mX40_classFacts mX40_roleFacts mX40_facts mX40_draft mX40_questions mX40_questionCount mX40_forbidden mX40_given mX41_first mX41_second mX41_names mX41_from mX41_to mX41_n mX41_codes mX41_least mX41_hasLeast mX41_others mX41_otherCount mX41_named mX62_answers mX62_names mX62_from mX62_to mX62_n mX62_forms mX62_count mX62_large mX62_known mX85_first mX85_second mX85_codes) q (.inr (ci 0, [va_rf none, va_rf none, va_rf none, .int 0, va_rf none, va_rf none, .int 0, va_rf none, va_rf none, .int 0, va_rf none, va_rf none])) = (cQR ci d (va_up kd q 1) an ai al ar (va_up mX40_kinds q none) (va_up mX40_lefts q none) (va_up mX40_rights q none) (va_up mX40_axioms q 0) (va_up mX40_classFacts q none) (va_up mX40_roleFacts q none) (va_up mX40_facts q 0) (va_up mX40_draft q none) (va_up mX40_questions q none) (va_up mX40_questionCount q 0) (va_up mX40_forbidden q none) (va_up mX40_given q none) mX41_first mX41_second mX41_names mX41_from mX41_to mX41_n mX41_codes mX41_least mX41_hasLeast mX41_others mX41_otherCount mX41_named mX62_answers mX62_names mX62_from mX62_to mX62_n mX62_forms mX62_count mX62_large mX62_known mX85_first mX85_second mX85_codes) := by
  funext b
  by_cases h : b = q
  · subst h
    rw [va_up_self]
    unfold cQR
    simp only [va_up_self]
  · rw [va_up_ne _ _ h]
    unfold cQR
    simp only [va_up_ne _ _ h]
theorem cQR_2 {ci : Nat → Nat} {d : Nat → ClassId} {kd : Nat → Nat} {an : Nat → Nat} {ai : Nat → Nat → Int32} {al : Nat → Nat → Int64} {ar : Nat → Nat → Option Nat} {mX40_kinds : Nat → Option Nat} {mX40_lefts : Nat → Option Nat} {mX40_rights : Nat → Option Nat} {mX40_axioms : Nat → Int32} {mX40_classFacts : Nat → Option Nat} {mX40_roleFacts : Nat → Option Nat} {mX40_facts : Nat → Int32} {mX40_draft : Nat → Option Nat} {mX40_questions : Nat → Option Nat} {mX40_questionCount : Nat → Int32} {mX40_forbidden : Nat → Option Nat} {mX40_given : Nat → Option Nat} {mX41_first : Nat → Int32} {mX41_second : Nat → Int32} {mX41_names : Nat → Option Nat} {mX41_from : Nat → Option Nat} {mX41_to : Nat → Option Nat} {mX41_n : Nat → Int32} {mX41_codes : Nat → Option Nat} {mX41_least : Nat → Option Nat} {mX41_hasLeast : Nat → Int32} {mX41_others : Nat → Option Nat} {mX41_otherCount : Nat → Int32} {mX41_named : Nat → Option Nat} {mX62_answers : Nat → Int32} {mX62_names : Nat → Option Nat} {mX62_from : Nat → Option Nat} {mX62_to : Nat → Option Nat} {mX62_n : Nat → Int32} {mX62_forms : Nat → Option Nat} {mX62_count : Nat → Int32} {mX62_large : Nat → Int32} {mX62_known : Nat → Int32} {mX85_first : Nat → Int32} {mX85_second : Nat → Int32} {mX85_codes : Nat → Option Nat} {a : Nat} (hk : kd a = 2) : (cQR ci d kd an ai al ar mX40_kinds mX40_lefts mX40_rights mX40_axioms mX40_classFacts mX40_roleFacts mX40_facts mX40_draft mX40_questions mX40_questionCount mX40_forbidden mX40_given mX41_first mX41_second mX41_names mX41_from mX41_to mX41_n mX41_codes mX41_least mX41_hasLeast mX41_others mX41_otherCount mX41_named mX62_answers mX62_names mX62_from mX62_to mX62_n mX62_forms mX62_count mX62_large mX62_known mX85_first mX85_second mX85_codes) a = .inr (ci 1, [.int (mX41_first a), .int (mX41_second a), va_rf (mX41_names a), va_rf (mX41_from a), va_rf (mX41_to a), .int (mX41_n a), va_rf (mX41_codes a), va_rf (mX41_least a), .int (mX41_hasLeast a), va_rf (mX41_others a), .int (mX41_otherCount a), va_rf (mX41_named a)]) := by unfold cQR; simp only [hk]
theorem cQR_2_0 {ci : Nat → Nat} {d : Nat → ClassId} {kd : Nat → Nat} {an : Nat → Nat} {ai : Nat → Nat → Int32} {al : Nat → Nat → Int64} {ar : Nat → Nat → Option Nat} {mX40_kinds : Nat → Option Nat} {mX40_lefts : Nat → Option Nat} {mX40_rights : Nat → Option Nat} {mX40_axioms : Nat → Int32} {mX40_classFacts : Nat → Option Nat} {mX40_roleFacts : Nat → Option Nat} {mX40_facts : Nat → Int32} {mX40_draft : Nat → Option Nat} {mX40_questions : Nat → Option Nat} {mX40_questionCount : Nat → Int32} {mX40_forbidden : Nat → Option Nat} {mX40_given : Nat → Option Nat} {mX41_first : Nat → Int32} {mX41_second : Nat → Int32} {mX41_names : Nat → Option Nat} {mX41_from : Nat → Option Nat} {mX41_to : Nat → Option Nat} {mX41_n : Nat → Int32} {mX41_codes : Nat → Option Nat} {mX41_least : Nat → Option Nat} {mX41_hasLeast : Nat → Int32} {mX41_others : Nat → Option Nat} {mX41_otherCount : Nat → Int32} {mX41_named : Nat → Option Nat} {mX62_answers : Nat → Int32} {mX62_names : Nat → Option Nat} {mX62_from : Nat → Option Nat} {mX62_to : Nat → Option Nat} {mX62_n : Nat → Int32} {mX62_forms : Nat → Option Nat} {mX62_count : Nat → Int32} {mX62_large : Nat → Int32} {mX62_known : Nat → Int32} {mX85_first : Nat → Int32} {mX85_second : Nat → Int32} {mX85_codes : Nat → Option Nat} {a : Nat} {v : Int32} (hk : kd a = 2) : va_up (cQR ci d kd an ai al ar mX40_kinds mX40_lefts mX40_rights mX40_axioms mX40_classFacts mX40_roleFacts mX40_facts mX40_draft mX40_questions mX40_questionCount mX40_forbidden mX40_given mX41_first mX41_second mX41_names mX41_from mX41_to mX41_n mX41_codes mX41_least mX41_hasLeast mX41_others mX41_otherCount mX41_named mX62_answers mX62_names mX62_from mX62_to mX62_n mX62_forms mX62_count mX62_large mX62_known mX85_first mX85_second mX85_codes) a (.inr (ci 1, [.int v, .int (mX41_second a), va_rf (mX41_names a), va_rf (mX41_from a), va_rf (mX41_to a), .int (mX41_n a), va_rf (mX41_codes a), va_rf (mX41_least a), .int (mX41_hasLeast a), va_rf (mX41_others a), .int (mX41_otherCount a), va_rf (mX41_named a)])) = (cQR ci d kd an ai al ar mX40_kinds mX40_lefts mX40_rights mX40_axioms mX40_classFacts mX40_roleFacts mX40_facts mX40_draft mX40_questions mX40_questionCount mX40_forbidden mX40_given (va_up mX41_first a v) mX41_second mX41_names mX41_from mX41_to mX41_n mX41_codes mX41_least mX41_hasLeast mX41_others mX41_otherCount mX41_named mX62_answers mX62_names mX62_from mX62_to mX62_n mX62_forms mX62_count mX62_large mX62_known mX85_first mX85_second mX85_codes) := by
  funext b
  by_cases h : b = a
  · subst h
    rw [va_up_self]
    unfold cQR
    rw [hk]
    simp only [va_up_self]
  · rw [va_up_ne _ _ h]
    unfold cQR
    simp only [va_up_ne _ _ h]
theorem cQR_2_1 {ci : Nat → Nat} {d : Nat → ClassId} {kd : Nat → Nat} {an : Nat → Nat} {ai : Nat → Nat → Int32} {al : Nat → Nat → Int64} {ar : Nat → Nat → Option Nat} {mX40_kinds : Nat → Option Nat} {mX40_lefts : Nat → Option Nat} {mX40_rights : Nat → Option Nat} {mX40_axioms : Nat → Int32} {mX40_classFacts : Nat → Option Nat} {mX40_roleFacts : Nat → Option Nat} {mX40_facts : Nat → Int32} {mX40_draft : Nat → Option Nat} {mX40_questions : Nat → Option Nat} {mX40_questionCount : Nat → Int32} {mX40_forbidden : Nat → Option Nat} {mX40_given : Nat → Option Nat} {mX41_first : Nat → Int32} {mX41_second : Nat → Int32} {mX41_names : Nat → Option Nat} {mX41_from : Nat → Option Nat} {mX41_to : Nat → Option Nat} {mX41_n : Nat → Int32} {mX41_codes : Nat → Option Nat} {mX41_least : Nat → Option Nat} {mX41_hasLeast : Nat → Int32} {mX41_others : Nat → Option Nat} {mX41_otherCount : Nat → Int32} {mX41_named : Nat → Option Nat} {mX62_answers : Nat → Int32} {mX62_names : Nat → Option Nat} {mX62_from : Nat → Option Nat} {mX62_to : Nat → Option Nat} {mX62_n : Nat → Int32} {mX62_forms : Nat → Option Nat} {mX62_count : Nat → Int32} {mX62_large : Nat → Int32} {mX62_known : Nat → Int32} {mX85_first : Nat → Int32} {mX85_second : Nat → Int32} {mX85_codes : Nat → Option Nat} {a : Nat} {v : Int32} (hk : kd a = 2) : va_up (cQR ci d kd an ai al ar mX40_kinds mX40_lefts mX40_rights mX40_axioms mX40_classFacts mX40_roleFacts mX40_facts mX40_draft mX40_questions mX40_questionCount mX40_forbidden mX40_given mX41_first mX41_second mX41_names mX41_from mX41_to mX41_n mX41_codes mX41_least mX41_hasLeast mX41_others mX41_otherCount mX41_named mX62_answers mX62_names mX62_from mX62_to mX62_n mX62_forms mX62_count mX62_large mX62_known mX85_first mX85_second mX85_codes) a (.inr (ci 1, [.int (mX41_first a), .int v, va_rf (mX41_names a), va_rf (mX41_from a), va_rf (mX41_to a), .int (mX41_n a), va_rf (mX41_codes a), va_rf (mX41_least a), .int (mX41_hasLeast a), va_rf (mX41_others a), .int (mX41_otherCount a), va_rf (mX41_named a)])) = (cQR ci d kd an ai al ar mX40_kinds mX40_lefts mX40_rights mX40_axioms mX40_classFacts mX40_roleFacts mX40_facts mX40_draft mX40_questions mX40_questionCount mX40_forbidden mX40_given mX41_first (va_up mX41_second a v) mX41_names mX41_from mX41_to mX41_n mX41_codes mX41_least mX41_hasLeast mX41_others mX41_otherCount mX41_named mX62_answers mX62_names mX62_from mX62_to mX62_n mX62_forms mX62_count mX62_large mX62_known mX85_first mX85_second mX85_codes) := by
  funext b
  by_cases h : b = a
  · subst h
    rw [va_up_self]
    unfold cQR
    rw [hk]
    simp only [va_up_self]
  · rw [va_up_ne _ _ h]
    unfold cQR
    simp only [va_up_ne _ _ h]
theorem cQR_2_2 {ci : Nat → Nat} {d : Nat → ClassId} {kd : Nat → Nat} {an : Nat → Nat} {ai : Nat → Nat → Int32} {al : Nat → Nat → Int64} {ar : Nat → Nat → Option Nat} {mX40_kinds : Nat → Option Nat} {mX40_lefts : Nat → Option Nat} {mX40_rights : Nat → Option Nat} {mX40_axioms : Nat → Int32} {mX40_classFacts : Nat → Option Nat} {mX40_roleFacts : Nat → Option Nat} {mX40_facts : Nat → Int32} {mX40_draft : Nat → Option Nat} {mX40_questions : Nat → Option Nat} {mX40_questionCount : Nat → Int32} {mX40_forbidden : Nat → Option Nat} {mX40_given : Nat → Option Nat} {mX41_first : Nat → Int32} {mX41_second : Nat → Int32} {mX41_names : Nat → Option Nat} {mX41_from : Nat → Option Nat} {mX41_to : Nat → Option Nat} {mX41_n : Nat → Int32} {mX41_codes : Nat → Option Nat} {mX41_least : Nat → Option Nat} {mX41_hasLeast : Nat → Int32} {mX41_others : Nat → Option Nat} {mX41_otherCount : Nat → Int32} {mX41_named : Nat → Option Nat} {mX62_answers : Nat → Int32} {mX62_names : Nat → Option Nat} {mX62_from : Nat → Option Nat} {mX62_to : Nat → Option Nat} {mX62_n : Nat → Int32} {mX62_forms : Nat → Option Nat} {mX62_count : Nat → Int32} {mX62_large : Nat → Int32} {mX62_known : Nat → Int32} {mX85_first : Nat → Int32} {mX85_second : Nat → Int32} {mX85_codes : Nat → Option Nat} {a : Nat} {v : Option Nat} (hk : kd a = 2) : va_up (cQR ci d kd an ai al ar mX40_kinds mX40_lefts mX40_rights mX40_axioms mX40_classFacts mX40_roleFacts mX40_facts mX40_draft mX40_questions mX40_questionCount mX40_forbidden mX40_given mX41_first mX41_second mX41_names mX41_from mX41_to mX41_n mX41_codes mX41_least mX41_hasLeast mX41_others mX41_otherCount mX41_named mX62_answers mX62_names mX62_from mX62_to mX62_n mX62_forms mX62_count mX62_large mX62_known mX85_first mX85_second mX85_codes) a (.inr (ci 1, [.int (mX41_first a), .int (mX41_second a), va_rf v, va_rf (mX41_from a), va_rf (mX41_to a), .int (mX41_n a), va_rf (mX41_codes a), va_rf (mX41_least a), .int (mX41_hasLeast a), va_rf (mX41_others a), .int (mX41_otherCount a), va_rf (mX41_named a)])) = (cQR ci d kd an ai al ar mX40_kinds mX40_lefts mX40_rights mX40_axioms mX40_classFacts mX40_roleFacts mX40_facts mX40_draft mX40_questions mX40_questionCount mX40_forbidden mX40_given mX41_first mX41_second (va_up mX41_names a v) mX41_from mX41_to mX41_n mX41_codes mX41_least mX41_hasLeast mX41_others mX41_otherCount mX41_named mX62_answers mX62_names mX62_from mX62_to mX62_n mX62_forms mX62_count mX62_large mX62_known mX85_first mX85_second mX85_codes) := by
  funext b
  by_cases h : b = a
  · subst h
    rw [va_up_self]
    unfold cQR
    rw [hk]
    simp only [va_up_self]
  · rw [va_up_ne _ _ h]
    unfold cQR
    simp only [va_up_ne _ _ h]
theorem cQR_2_3 {ci : Nat → Nat} {d : Nat → ClassId} {kd : Nat → Nat} {an : Nat → Nat} {ai : Nat → Nat → Int32} {al : Nat → Nat → Int64} {ar : Nat → Nat → Option Nat} {mX40_kinds : Nat → Option Nat} {mX40_lefts : Nat → Option Nat} {mX40_rights : Nat → Option Nat} {mX40_axioms : Nat → Int32} {mX40_classFacts : Nat → Option Nat} {mX40_roleFacts : Nat → Option Nat} {mX40_facts : Nat → Int32} {mX40_draft : Nat → Option Nat} {mX40_questions : Nat → Option Nat} {mX40_questionCount : Nat → Int32} {mX40_forbidden : Nat → Option Nat} {mX40_given : Nat → Option Nat} {mX41_first : Nat → Int32} {mX41_second : Nat → Int32} {mX41_names : Nat → Option Nat} {mX41_from : Nat → Option Nat} {mX41_to : Nat → Option Nat} {mX41_n : Nat → Int32} {mX41_codes : Nat → Option Nat} {mX41_least : Nat → Option Nat} {mX41_hasLeast : Nat → Int32} {mX41_others : Nat → Option Nat} {mX41_otherCount : Nat → Int32} {mX41_named : Nat → Option Nat} {mX62_answers : Nat → Int32} {mX62_names : Nat → Option Nat} {mX62_from : Nat → Option Nat} {mX62_to : Nat → Option Nat} {mX62_n : Nat → Int32} {mX62_forms : Nat → Option Nat} {mX62_count : Nat → Int32} {mX62_large : Nat → Int32} {mX62_known : Nat → Int32} {mX85_first : Nat → Int32} {mX85_second : Nat → Int32} {mX85_codes : Nat → Option Nat} {a : Nat} {v : Option Nat} (hk : kd a = 2) : va_up (cQR ci d kd an ai al ar mX40_kinds mX40_lefts mX40_rights mX40_axioms mX40_classFacts mX40_roleFacts mX40_facts mX40_draft mX40_questions mX40_questionCount mX40_forbidden mX40_given mX41_first mX41_second mX41_names mX41_from mX41_to mX41_n mX41_codes mX41_least mX41_hasLeast mX41_others mX41_otherCount mX41_named mX62_answers mX62_names mX62_from mX62_to mX62_n mX62_forms mX62_count mX62_large mX62_known mX85_first mX85_second mX85_codes) a (.inr (ci 1, [.int (mX41_first a), .int (mX41_second a), va_rf (mX41_names a), va_rf v, va_rf (mX41_to a), .int (mX41_n a), va_rf (mX41_codes a), va_rf (mX41_least a), .int (mX41_hasLeast a), va_rf (mX41_others a), .int (mX41_otherCount a), va_rf (mX41_named a)])) = (cQR ci d kd an ai al ar mX40_kinds mX40_lefts mX40_rights mX40_axioms mX40_classFacts mX40_roleFacts mX40_facts mX40_draft mX40_questions mX40_questionCount mX40_forbidden mX40_given mX41_first mX41_second mX41_names (va_up mX41_from a v) mX41_to mX41_n mX41_codes mX41_least mX41_hasLeast mX41_others mX41_otherCount mX41_named mX62_answers mX62_names mX62_from mX62_to mX62_n mX62_forms mX62_count mX62_large mX62_known mX85_first mX85_second mX85_codes) := by
  funext b
  by_cases h : b = a
  · subst h
    rw [va_up_self]
    unfold cQR
    rw [hk]
    simp only [va_up_self]
  · rw [va_up_ne _ _ h]
    unfold cQR
    simp only [va_up_ne _ _ h]
theorem cQR_2_4 {ci : Nat → Nat} {d : Nat → ClassId} {kd : Nat → Nat} {an : Nat → Nat} {ai : Nat → Nat → Int32} {al : Nat → Nat → Int64} {ar : Nat → Nat → Option Nat} {mX40_kinds : Nat → Option Nat} {mX40_lefts : Nat → Option Nat} {mX40_rights : Nat → Option Nat} {mX40_axioms : Nat → Int32} {mX40_classFacts : Nat → Option Nat} {mX40_roleFacts : Nat → Option Nat} {mX40_facts : Nat → Int32} {mX40_draft : Nat → Option Nat} {mX40_questions : Nat → Option Nat} {mX40_questionCount : Nat → Int32} {mX40_forbidden : Nat → Option Nat} {mX40_given : Nat → Option Nat} {mX41_first : Nat → Int32} {mX41_second : Nat → Int32} {mX41_names : Nat → Option Nat} {mX41_from : Nat → Option Nat} {mX41_to : Nat → Option Nat} {mX41_n : Nat → Int32} {mX41_codes : Nat → Option Nat} {mX41_least : Nat → Option Nat} {mX41_hasLeast : Nat → Int32} {mX41_others : Nat → Option Nat} {mX41_otherCount : Nat → Int32} {mX41_named : Nat → Option Nat} {mX62_answers : Nat → Int32} {mX62_names : Nat → Option Nat} {mX62_from : Nat → Option Nat} {mX62_to : Nat → Option Nat} {mX62_n : Nat → Int32} {mX62_forms : Nat → Option Nat} {mX62_count : Nat → Int32} {mX62_large : Nat → Int32} {mX62_known : Nat → Int32} {mX85_first : Nat → Int32} {mX85_second : Nat → Int32} {mX85_codes : Nat → Option Nat} {a : Nat} {v : Option Nat} (hk : kd a = 2) : va_up (cQR ci d kd an ai al ar mX40_kinds mX40_lefts mX40_rights mX40_axioms mX40_classFacts mX40_roleFacts mX40_facts mX40_draft mX40_questions mX40_questionCount mX40_forbidden mX40_given mX41_first mX41_second mX41_names mX41_from mX41_to mX41_n mX41_codes mX41_least mX41_hasLeast mX41_others mX41_otherCount mX41_named mX62_answers mX62_names mX62_from mX62_to mX62_n mX62_forms mX62_count mX62_large mX62_known mX85_first mX85_second mX85_codes) a (.inr (ci 1, [.int (mX41_first a), .int (mX41_second a), va_rf (mX41_names a), va_rf (mX41_from a), va_rf v, .int (mX41_n a), va_rf (mX41_codes a), va_rf (mX41_least a), .int (mX41_hasLeast a), va_rf (mX41_others a), .int (mX41_otherCount a), va_rf (mX41_named a)])) = (cQR ci d kd an ai al ar mX40_kinds mX40_lefts mX40_rights mX40_axioms mX40_classFacts mX40_roleFacts mX40_facts mX40_draft mX40_questions mX40_questionCount mX40_forbidden mX40_given mX41_first mX41_second mX41_names mX41_from (va_up mX41_to a v) mX41_n mX41_codes mX41_least mX41_hasLeast mX41_others mX41_otherCount mX41_named mX62_answers mX62_names mX62_from mX62_to mX62_n mX62_forms mX62_count mX62_large mX62_known mX85_first mX85_second mX85_codes) := by
  funext b
  by_cases h : b = a
  · subst h
    rw [va_up_self]
    unfold cQR
    rw [hk]
    simp only [va_up_self]
  · rw [va_up_ne _ _ h]
    unfold cQR
    simp only [va_up_ne _ _ h]
theorem cQR_2_5 {ci : Nat → Nat} {d : Nat → ClassId} {kd : Nat → Nat} {an : Nat → Nat} {ai : Nat → Nat → Int32} {al : Nat → Nat → Int64} {ar : Nat → Nat → Option Nat} {mX40_kinds : Nat → Option Nat} {mX40_lefts : Nat → Option Nat} {mX40_rights : Nat → Option Nat} {mX40_axioms : Nat → Int32} {mX40_classFacts : Nat → Option Nat} {mX40_roleFacts : Nat → Option Nat} {mX40_facts : Nat → Int32} {mX40_draft : Nat → Option Nat} {mX40_questions : Nat → Option Nat} {mX40_questionCount : Nat → Int32} {mX40_forbidden : Nat → Option Nat} {mX40_given : Nat → Option Nat} {mX41_first : Nat → Int32} {mX41_second : Nat → Int32} {mX41_names : Nat → Option Nat} {mX41_from : Nat → Option Nat} {mX41_to : Nat → Option Nat} {mX41_n : Nat → Int32} {mX41_codes : Nat → Option Nat} {mX41_least : Nat → Option Nat} {mX41_hasLeast : Nat → Int32} {mX41_others : Nat → Option Nat} {mX41_otherCount : Nat → Int32} {mX41_named : Nat → Option Nat} {mX62_answers : Nat → Int32} {mX62_names : Nat → Option Nat} {mX62_from : Nat → Option Nat} {mX62_to : Nat → Option Nat} {mX62_n : Nat → Int32} {mX62_forms : Nat → Option Nat} {mX62_count : Nat → Int32} {mX62_large : Nat → Int32} {mX62_known : Nat → Int32} {mX85_first : Nat → Int32} {mX85_second : Nat → Int32} {mX85_codes : Nat → Option Nat} {a : Nat} {v : Int32} (hk : kd a = 2) : va_up (cQR ci d kd an ai al ar mX40_kinds mX40_lefts mX40_rights mX40_axioms mX40_classFacts mX40_roleFacts mX40_facts mX40_draft mX40_questions mX40_questionCount mX40_forbidden mX40_given mX41_first mX41_second mX41_names mX41_from mX41_to mX41_n mX41_codes mX41_least mX41_hasLeast mX41_others mX41_otherCount mX41_named mX62_answers mX62_names mX62_from mX62_to mX62_n mX62_forms mX62_count mX62_large mX62_known mX85_first mX85_second mX85_codes) a (.inr (ci 1, [.int (mX41_first a), .int (mX41_second a), va_rf (mX41_names a), va_rf (mX41_from a), va_rf (mX41_to a), .int v, va_rf (mX41_codes a), va_rf (mX41_least a), .int (mX41_hasLeast a), va_rf (mX41_others a), .int (mX41_otherCount a), va_rf (mX41_named a)])) = (cQR ci d kd an ai al ar mX40_kinds mX40_lefts mX40_rights mX40_axioms mX40_classFacts mX40_roleFacts mX40_facts mX40_draft mX40_questions mX40_questionCount mX40_forbidden mX40_given mX41_first mX41_second mX41_names mX41_from mX41_to (va_up mX41_n a v) mX41_codes mX41_least mX41_hasLeast mX41_others mX41_otherCount mX41_named mX62_answers mX62_names mX62_from mX62_to mX62_n mX62_forms mX62_count mX62_large mX62_known mX85_first mX85_second mX85_codes) := by
  funext b
  by_cases h : b = a
  · subst h
    rw [va_up_self]
    unfold cQR
    rw [hk]
    simp only [va_up_self]
  · rw [va_up_ne _ _ h]
    unfold cQR
    simp only [va_up_ne _ _ h]
theorem cQR_2_6 {ci : Nat → Nat} {d : Nat → ClassId} {kd : Nat → Nat} {an : Nat → Nat} {ai : Nat → Nat → Int32} {al : Nat → Nat → Int64} {ar : Nat → Nat → Option Nat} {mX40_kinds : Nat → Option Nat} {mX40_lefts : Nat → Option Nat} {mX40_rights : Nat → Option Nat} {mX40_axioms : Nat → Int32} {mX40_classFacts : Nat → Option Nat} {mX40_roleFacts : Nat → Option Nat} {mX40_facts : Nat → Int32} {mX40_draft : Nat → Option Nat} {mX40_questions : Nat → Option Nat} {mX40_questionCount : Nat → Int32} {mX40_forbidden : Nat → Option Nat} {mX40_given : Nat → Option Nat} {mX41_first : Nat → Int32} {mX41_second : Nat → Int32} {mX41_names : Nat → Option Nat} {mX41_from : Nat → Option Nat} {mX41_to : Nat → Option Nat} {mX41_n : Nat → Int32} {mX41_codes : Nat → Option Nat} {mX41_least : Nat → Option Nat} {mX41_hasLeast : Nat → Int32} {mX41_others : Nat → Option Nat} {mX41_otherCount : Nat → Int32} {mX41_named : Nat → Option Nat} {mX62_answers : Nat → Int32} {mX62_names : Nat → Option Nat} {mX62_from : Nat → Option Nat} {mX62_to : Nat → Option Nat} {mX62_n : Nat → Int32} {mX62_forms : Nat → Option Nat} {mX62_count : Nat → Int32} {mX62_large : Nat → Int32} {mX62_known : Nat → Int32} {mX85_first : Nat → Int32} {mX85_second : Nat → Int32} {mX85_codes : Nat → Option Nat} {a : Nat} {v : Option Nat} (hk : kd a = 2) : va_up (cQR ci d kd an ai al ar mX40_kinds mX40_lefts mX40_rights mX40_axioms mX40_classFacts mX40_roleFacts mX40_facts mX40_draft mX40_questions mX40_questionCount mX40_forbidden mX40_given mX41_first mX41_second mX41_names mX41_from mX41_to mX41_n mX41_codes mX41_least mX41_hasLeast mX41_others mX41_otherCount mX41_named mX62_answers mX62_names mX62_from mX62_to mX62_n mX62_forms mX62_count mX62_large mX62_known mX85_first mX85_second mX85_codes) a (.inr (ci 1, [.int (mX41_first a), .int (mX41_second a), va_rf (mX41_names a), va_rf (mX41_from a), va_rf (mX41_to a), .int (mX41_n a), va_rf v, va_rf (mX41_least a), .int (mX41_hasLeast a), va_rf (mX41_others a), .int (mX41_otherCount a), va_rf (mX41_named a)])) = (cQR ci d kd an ai al ar mX40_kinds mX40_lefts mX40_rights mX40_axioms mX40_classFacts mX40_roleFacts mX40_facts mX40_draft mX40_questions mX40_questionCount mX40_forbidden mX40_given mX41_first mX41_second mX41_names mX41_from mX41_to mX41_n (va_up mX41_codes a v) mX41_least mX41_hasLeast mX41_others mX41_otherCount mX41_named mX62_answers mX62_names mX62_from mX62_to mX62_n mX62_forms mX62_count mX62_large mX62_known mX85_first mX85_second mX85_codes) := by
  funext b
  by_cases h : b = a
  · subst h
    rw [va_up_self]
    unfold cQR
    rw [hk]
    simp only [va_up_self]
  · rw [va_up_ne _ _ h]
    unfold cQR
    simp only [va_up_ne _ _ h]
theorem cQR_2_7 {ci : Nat → Nat} {d : Nat → ClassId} {kd : Nat → Nat} {an : Nat → Nat} {ai : Nat → Nat → Int32} {al : Nat → Nat → Int64} {ar : Nat → Nat → Option Nat} {mX40_kinds : Nat → Option Nat} {mX40_lefts : Nat → Option Nat} {mX40_rights : Nat → Option Nat} {mX40_axioms : Nat → Int32} {mX40_classFacts : Nat → Option Nat} {mX40_roleFacts : Nat → Option Nat} {mX40_facts : Nat → Int32} {mX40_draft : Nat → Option Nat} {mX40_questions : Nat → Option Nat} {mX40_questionCount : Nat → Int32} {mX40_forbidden : Nat → Option Nat} {mX40_given : Nat → Option Nat} {mX41_first : Nat → Int32} {mX41_second : Nat → Int32} {mX41_names : Nat → Option Nat} {mX41_from : Nat → Option Nat} {mX41_to : Nat → Option Nat} {mX41_n : Nat → Int32} {mX41_codes : Nat → Option Nat} {mX41_least : Nat → Option Nat} {mX41_hasLeast : Nat → Int32} {mX41_others : Nat → Option Nat} {mX41_otherCount : Nat → Int32} {mX41_named : Nat → Option Nat} {mX62_answers : Nat → Int32} {mX62_names : Nat → Option Nat} {mX62_from : Nat → Option Nat} {mX62_to : Nat → Option Nat} {mX62_n : Nat → Int32} {mX62_forms : Nat → Option Nat} {mX62_count : Nat → Int32} {mX62_large : Nat → Int32} {mX62_known : Nat → Int32} {mX85_first : Nat → Int32} {mX85_second : Nat → Int32} {mX85_codes : Nat → Option Nat} {a : Nat} {v : Option Nat} (hk : kd a = 2) : va_up (cQR ci d kd an ai al ar mX40_kinds mX40_lefts mX40_rights mX40_axioms mX40_classFacts mX40_roleFacts mX40_facts mX40_draft mX40_questions mX40_questionCount mX40_forbidden mX40_given mX41_first mX41_second mX41_names mX41_from mX41_to mX41_n mX41_codes mX41_least mX41_hasLeast mX41_others mX41_otherCount mX41_named mX62_answers mX62_names mX62_from mX62_to mX62_n mX62_forms mX62_count mX62_large mX62_known mX85_first mX85_second mX85_codes) a (.inr (ci 1, [.int (mX41_first a), .int (mX41_second a), va_rf (mX41_names a), va_rf (mX41_from a), va_rf (mX41_to a), .int (mX41_n a), va_rf (mX41_codes a), va_rf v, .int (mX41_hasLeast a), va_rf (mX41_others a), .int (mX41_otherCount a), va_rf (mX41_named a)])) = (cQR ci d kd an ai al ar mX40_kinds mX40_lefts mX40_rights mX40_axioms mX40_classFacts mX40_roleFacts mX40_facts mX40_draft mX40_questions mX40_questionCount mX40_forbidden mX40_given mX41_first mX41_second mX41_names mX41_from mX41_to mX41_n mX41_codes (va_up mX41_least a v) mX41_hasLeast mX41_others mX41_otherCount mX41_named mX62_answers mX62_names mX62_from mX62_to mX62_n mX62_forms mX62_count mX62_large mX62_known mX85_first mX85_second mX85_codes) := by
  funext b
  by_cases h : b = a
  · subst h
    rw [va_up_self]
    unfold cQR
    rw [hk]
    simp only [va_up_self]
  · rw [va_up_ne _ _ h]
    unfold cQR
    simp only [va_up_ne _ _ h]
theorem cQR_2_8 {ci : Nat → Nat} {d : Nat → ClassId} {kd : Nat → Nat} {an : Nat → Nat} {ai : Nat → Nat → Int32} {al : Nat → Nat → Int64} {ar : Nat → Nat → Option Nat} {mX40_kinds : Nat → Option Nat} {mX40_lefts : Nat → Option Nat} {mX40_rights : Nat → Option Nat} {mX40_axioms : Nat → Int32} {mX40_classFacts : Nat → Option Nat} {mX40_roleFacts : Nat → Option Nat} {mX40_facts : Nat → Int32} {mX40_draft : Nat → Option Nat} {mX40_questions : Nat → Option Nat} {mX40_questionCount : Nat → Int32} {mX40_forbidden : Nat → Option Nat} {mX40_given : Nat → Option Nat} {mX41_first : Nat → Int32} {mX41_second : Nat → Int32} {mX41_names : Nat → Option Nat} {mX41_from : Nat → Option Nat} {mX41_to : Nat → Option Nat} {mX41_n : Nat → Int32} {mX41_codes : Nat → Option Nat} {mX41_least : Nat → Option Nat} {mX41_hasLeast : Nat → Int32} {mX41_others : Nat → Option Nat} {mX41_otherCount : Nat → Int32} {mX41_named : Nat → Option Nat} {mX62_answers : Nat → Int32} {mX62_names : Nat → Option Nat} {mX62_from : Nat → Option Nat} {mX62_to : Nat → Option Nat} {mX62_n : Nat → Int32} {mX62_forms : Nat → Option Nat} {mX62_count : Nat → Int32} {mX62_large : Nat → Int32} {mX62_known : Nat → Int32} {mX85_first : Nat → Int32} {mX85_second : Nat → Int32} {mX85_codes : Nat → Option Nat} {a : Nat} {v : Int32} (hk : kd a = 2) : va_up (cQR ci d kd an ai al ar mX40_kinds mX40_lefts mX40_rights mX40_axioms mX40_classFacts mX40_roleFacts mX40_facts mX40_draft mX40_questions mX40_questionCount mX40_forbidden mX40_given mX41_first mX41_second mX41_names mX41_from mX41_to mX41_n mX41_codes mX41_least mX41_hasLeast mX41_others mX41_otherCount mX41_named mX62_answers mX62_names mX62_from mX62_to mX62_n mX62_forms mX62_count mX62_large mX62_known mX85_first mX85_second mX85_codes) a (.inr (ci 1, [.int (mX41_first a), .int (mX41_second a), va_rf (mX41_names a), va_rf (mX41_from a), va_rf (mX41_to a), .int (mX41_n a), va_rf (mX41_codes a), va_rf (mX41_least a), .int v, va_rf (mX41_others a), .int (mX41_otherCount a), va_rf (mX41_named a)])) = (cQR ci d kd an ai al ar mX40_kinds mX40_lefts mX40_rights mX40_axioms mX40_classFacts mX40_roleFacts mX40_facts mX40_draft mX40_questions mX40_questionCount mX40_forbidden mX40_given mX41_first mX41_second mX41_names mX41_from mX41_to mX41_n mX41_codes mX41_least (va_up mX41_hasLeast a v) mX41_others mX41_otherCount mX41_named mX62_answers mX62_names mX62_from mX62_to mX62_n mX62_forms mX62_count mX62_large mX62_known mX85_first mX85_second mX85_codes) := by
  funext b
  by_cases h : b = a
  · subst h
    rw [va_up_self]
    unfold cQR
    rw [hk]
    simp only [va_up_self]
  · rw [va_up_ne _ _ h]
    unfold cQR
    simp only [va_up_ne _ _ h]
theorem cQR_2_9 {ci : Nat → Nat} {d : Nat → ClassId} {kd : Nat → Nat} {an : Nat → Nat} {ai : Nat → Nat → Int32} {al : Nat → Nat → Int64} {ar : Nat → Nat → Option Nat} {mX40_kinds : Nat → Option Nat} {mX40_lefts : Nat → Option Nat} {mX40_rights : Nat → Option Nat} {mX40_axioms : Nat → Int32} {mX40_classFacts : Nat → Option Nat} {mX40_roleFacts : Nat → Option Nat} {mX40_facts : Nat → Int32} {mX40_draft : Nat → Option Nat} {mX40_questions : Nat → Option Nat} {mX40_questionCount : Nat → Int32} {mX40_forbidden : Nat → Option Nat} {mX40_given : Nat → Option Nat} {mX41_first : Nat → Int32} {mX41_second : Nat → Int32} {mX41_names : Nat → Option Nat} {mX41_from : Nat → Option Nat} {mX41_to : Nat → Option Nat} {mX41_n : Nat → Int32} {mX41_codes : Nat → Option Nat} {mX41_least : Nat → Option Nat} {mX41_hasLeast : Nat → Int32} {mX41_others : Nat → Option Nat} {mX41_otherCount : Nat → Int32} {mX41_named : Nat → Option Nat} {mX62_answers : Nat → Int32} {mX62_names : Nat → Option Nat} {mX62_from : Nat → Option Nat} {mX62_to : Nat → Option Nat} {mX62_n : Nat → Int32} {mX62_forms : Nat → Option Nat} {mX62_count : Nat → Int32} {mX62_large : Nat → Int32} {mX62_known : Nat → Int32} {mX85_first : Nat → Int32} {mX85_second : Nat → Int32} {mX85_codes : Nat → Option Nat} {a : Nat} {v : Option Nat} (hk : kd a = 2) : va_up (cQR ci d kd an ai al ar mX40_kinds mX40_lefts mX40_rights mX40_axioms mX40_classFacts mX40_roleFacts mX40_facts mX40_draft mX40_questions mX40_questionCount mX40_forbidden mX40_given mX41_first mX41_second mX41_names mX41_from mX41_to mX41_n mX41_codes mX41_least mX41_hasLeast mX41_others mX41_otherCount mX41_named mX62_answers mX62_names mX62_from mX62_to mX62_n mX62_forms mX62_count mX62_large mX62_known mX85_first mX85_second mX85_codes) a (.inr (ci 1, [.int (mX41_first a), .int (mX41_second a), va_rf (mX41_names a), va_rf (mX41_from a), va_rf (mX41_to a), .int (mX41_n a), va_rf (mX41_codes a), va_rf (mX41_least a), .int (mX41_hasLeast a), va_rf v, .int (mX41_otherCount a), va_rf (mX41_named a)])) = (cQR ci d kd an ai al ar mX40_kinds mX40_lefts mX40_rights mX40_axioms mX40_classFacts mX40_roleFacts mX40_facts mX40_draft mX40_questions mX40_questionCount mX40_forbidden mX40_given mX41_first mX41_second mX41_names mX41_from mX41_to mX41_n mX41_codes mX41_least mX41_hasLeast (va_up mX41_others a v) mX41_otherCount mX41_named mX62_answers mX62_names mX62_from mX62_to mX62_n mX62_forms mX62_count mX62_large mX62_known mX85_first mX85_second mX85_codes) := by
  funext b
  by_cases h : b = a
  · subst h
    rw [va_up_self]
    unfold cQR
    rw [hk]
    simp only [va_up_self]
  · rw [va_up_ne _ _ h]
    unfold cQR
    simp only [va_up_ne _ _ h]
theorem cQR_2_10 {ci : Nat → Nat} {d : Nat → ClassId} {kd : Nat → Nat} {an : Nat → Nat} {ai : Nat → Nat → Int32} {al : Nat → Nat → Int64} {ar : Nat → Nat → Option Nat} {mX40_kinds : Nat → Option Nat} {mX40_lefts : Nat → Option Nat} {mX40_rights : Nat → Option Nat} {mX40_axioms : Nat → Int32} {mX40_classFacts : Nat → Option Nat} {mX40_roleFacts : Nat → Option Nat} {mX40_facts : Nat → Int32} {mX40_draft : Nat → Option Nat} {mX40_questions : Nat → Option Nat} {mX40_questionCount : Nat → Int32} {mX40_forbidden : Nat → Option Nat} {mX40_given : Nat → Option Nat} {mX41_first : Nat → Int32} {mX41_second : Nat → Int32} {mX41_names : Nat → Option Nat} {mX41_from : Nat → Option Nat} {mX41_to : Nat → Option Nat} {mX41_n : Nat → Int32} {mX41_codes : Nat → Option Nat} {mX41_least : Nat → Option Nat} {mX41_hasLeast : Nat → Int32} {mX41_others : Nat → Option Nat} {mX41_otherCount : Nat → Int32} {mX41_named : Nat → Option Nat} {mX62_answers : Nat → Int32} {mX62_names : Nat → Option Nat} {mX62_from : Nat → Option Nat} {mX62_to : Nat → Option Nat} {mX62_n : Nat → Int32} {mX62_forms : Nat → Option Nat} {mX62_count : Nat → Int32} {mX62_large : Nat → Int32} {mX62_known : Nat → Int32} {mX85_first : Nat → Int32} {mX85_second : Nat → Int32} {mX85_codes : Nat → Option Nat} {a : Nat} {v : Int32} (hk : kd a = 2) : va_up (cQR ci d kd an ai al ar mX40_kinds mX40_lefts mX40_rights mX40_axioms mX40_classFacts mX40_roleFacts mX40_facts mX40_draft mX40_questions mX40_questionCount mX40_forbidden mX40_given mX41_first mX41_second mX41_names mX41_from mX41_to mX41_n mX41_codes mX41_least mX41_hasLeast mX41_others mX41_otherCount mX41_named mX62_answers mX62_names mX62_from mX62_to mX62_n mX62_forms mX62_count mX62_large mX62_known mX85_first mX85_second mX85_codes) a (.inr (ci 1, [.int (mX41_first a), .int (mX41_second a), va_rf (mX41_names a), va_rf (mX41_from a), va_rf (mX41_to a), .int (mX41_n a), va_rf (mX41_codes a), va_rf (mX41_least a), .int (mX41_hasLeast a), va_rf (mX41_others a), .int v, va_rf (mX41_named a)])) = (cQR ci d kd an ai al ar mX40_kinds mX40_lefts mX40_rights mX40_axioms mX40_classFacts mX40_roleFacts mX40_facts mX40_draft mX40_questions mX40_questionCount mX40_forbidden mX40_given mX41_first mX41_second mX41_names mX41_from mX41_to mX41_n mX41_codes mX41_least mX41_hasLeast mX41_others (va_up mX41_otherCount a v) mX41_named mX62_answers mX62_names mX62_from mX62_to mX62_n mX62_forms mX62_count mX62_large mX62_known mX85_first mX85_second mX85_codes) := by
  funext b
  by_cases h : b = a
  · subst h
    rw [va_up_self]
    unfold cQR
    rw [hk]
    simp only [va_up_self]
  · rw [va_up_ne _ _ h]
    unfold cQR
    simp only [va_up_ne _ _ h]
theorem cQR_2_11 {ci : Nat → Nat} {d : Nat → ClassId} {kd : Nat → Nat} {an : Nat → Nat} {ai : Nat → Nat → Int32} {al : Nat → Nat → Int64} {ar : Nat → Nat → Option Nat} {mX40_kinds : Nat → Option Nat} {mX40_lefts : Nat → Option Nat} {mX40_rights : Nat → Option Nat} {mX40_axioms : Nat → Int32} {mX40_classFacts : Nat → Option Nat} {mX40_roleFacts : Nat → Option Nat} {mX40_facts : Nat → Int32} {mX40_draft : Nat → Option Nat} {mX40_questions : Nat → Option Nat} {mX40_questionCount : Nat → Int32} {mX40_forbidden : Nat → Option Nat} {mX40_given : Nat → Option Nat} {mX41_first : Nat → Int32} {mX41_second : Nat → Int32} {mX41_names : Nat → Option Nat} {mX41_from : Nat → Option Nat} {mX41_to : Nat → Option Nat} {mX41_n : Nat → Int32} {mX41_codes : Nat → Option Nat} {mX41_least : Nat → Option Nat} {mX41_hasLeast : Nat → Int32} {mX41_others : Nat → Option Nat} {mX41_otherCount : Nat → Int32} {mX41_named : Nat → Option Nat} {mX62_answers : Nat → Int32} {mX62_names : Nat → Option Nat} {mX62_from : Nat → Option Nat} {mX62_to : Nat → Option Nat} {mX62_n : Nat → Int32} {mX62_forms : Nat → Option Nat} {mX62_count : Nat → Int32} {mX62_large : Nat → Int32} {mX62_known : Nat → Int32} {mX85_first : Nat → Int32} {mX85_second : Nat → Int32} {mX85_codes : Nat → Option Nat} {a : Nat} {v : Option Nat} (hk : kd a = 2) : va_up (cQR ci d kd an ai al ar mX40_kinds mX40_lefts mX40_rights mX40_axioms mX40_classFacts mX40_roleFacts mX40_facts mX40_draft mX40_questions mX40_questionCount mX40_forbidden mX40_given mX41_first mX41_second mX41_names mX41_from mX41_to mX41_n mX41_codes mX41_least mX41_hasLeast mX41_others mX41_otherCount mX41_named mX62_answers mX62_names mX62_from mX62_to mX62_n mX62_forms mX62_count mX62_large mX62_known mX85_first mX85_second mX85_codes) a (.inr (ci 1, [.int (mX41_first a), .int (mX41_second a), va_rf (mX41_names a), va_rf (mX41_from a), va_rf (mX41_to a), .int (mX41_n a), va_rf (mX41_codes a), va_rf (mX41_least a), .int (mX41_hasLeast a), va_rf (mX41_others a), .int (mX41_otherCount a), va_rf v])) = (cQR ci d kd an ai al ar mX40_kinds mX40_lefts mX40_rights mX40_axioms mX40_classFacts mX40_roleFacts mX40_facts mX40_draft mX40_questions mX40_questionCount mX40_forbidden mX40_given mX41_first mX41_second mX41_names mX41_from mX41_to mX41_n mX41_codes mX41_least mX41_hasLeast mX41_others mX41_otherCount (va_up mX41_named a v) mX62_answers mX62_names mX62_from mX62_to mX62_n mX62_forms mX62_count mX62_large mX62_known mX85_first mX85_second mX85_codes) := by
  funext b
  by_cases h : b = a
  · subst h
    rw [va_up_self]
    unfold cQR
    rw [hk]
    simp only [va_up_self]
  · rw [va_up_ne _ _ h]
    unfold cQR
    simp only [va_up_ne _ _ h]
theorem cQR_2_n {ci : Nat → Nat} {d : Nat → ClassId} {kd : Nat → Nat} {an : Nat → Nat} {ai : Nat → Nat → Int32} {al : Nat → Nat → Int64} {ar : Nat → Nat → Option Nat} {mX40_kinds : Nat → Option Nat} {mX40_lefts : Nat → Option Nat} {mX40_rights : Nat → Option Nat} {mX40_axioms : Nat → Int32} {mX40_classFacts : Nat → Option Nat} {mX40_roleFacts : Nat → Option Nat} {mX40_facts : Nat → Int32} {mX40_draft : Nat → Option Nat} {mX40_questions : Nat → Option Nat} {mX40_questionCount : Nat → Int32} {mX40_forbidden : Nat → Option Nat} {mX40_given : Nat → Option Nat} {mX41_first : Nat → Int32} {mX41_second : Nat → Int32} {mX41_names : Nat → Option Nat} {mX41_from : Nat → Option Nat} {mX41_to : Nat → Option Nat} {mX41_n : Nat → Int32} {mX41_codes : Nat → Option Nat} {mX41_least : Nat → Option Nat} {mX41_hasLeast : Nat → Int32} {mX41_others : Nat → Option Nat} {mX41_otherCount : Nat → Int32} {mX41_named : Nat → Option Nat} {mX62_answers : Nat → Int32} {mX62_names : Nat → Option Nat} {mX62_from : Nat → Option Nat} {mX62_to : Nat → Option Nat} {mX62_n : Nat → Int32} {mX62_forms : Nat → Option Nat} {mX62_count : Nat → Int32} {mX62_large : Nat → Int32} {mX62_known : Nat → Int32} {mX85_first : Nat → Int32} {mX85_second : Nat → Int32} {mX85_codes : Nat → Option Nat} (q : Nat) : va_up (cQR ci d kd an ai al ar mX40_kinds mX40_lefts mX40_rights mX40_axioms mX40_classFacts mX40_roleFacts mX40_facts mX40_draft mX40_questions mX40_questionCount mX40_forbidden mX40_given mX41_first mX41_second mX41_names mX41_from mX41_to mX41_n mX41_codes mX41_least mX41_hasLeast mX41_others mX41_otherCount mX41_named mX62_answers mX62_names mX62_from mX62_to mX62_n mX62_forms mX62_count mX62_large mX62_known mX85_first mX85_second mX85_codes) q (.inr (ci 1, [.int 0, .int 0, va_rf none, va_rf none, va_rf none, .int 0, va_rf none, va_rf none, .int 0, va_rf none, .int 0, va_rf none])) = (cQR ci d (va_up kd q 2) an ai al ar mX40_kinds mX40_lefts mX40_rights mX40_axioms mX40_classFacts mX40_roleFacts mX40_facts mX40_draft mX40_questions mX40_questionCount mX40_forbidden mX40_given (va_up mX41_first q 0) (va_up mX41_second q 0) (va_up mX41_names q none) (va_up mX41_from q none) (va_up mX41_to q none) (va_up mX41_n q 0) (va_up mX41_codes q none) (va_up mX41_least q none) (va_up mX41_hasLeast q 0) (va_up mX41_others q none) (va_up mX41_otherCount q 0) (va_up mX41_named q none) mX62_answers mX62_names mX62_from mX62_to mX62_n mX62_forms mX62_count mX62_large mX62_known mX85_first mX85_second mX85_codes) := by
  funext b
  by_cases h : b = q
  · subst h
    rw [va_up_self]
    unfold cQR
    simp only [va_up_self]
  · rw [va_up_ne _ _ h]
    unfold cQR
    simp only [va_up_ne _ _ h]
theorem cQR_3 {ci : Nat → Nat} {d : Nat → ClassId} {kd : Nat → Nat} {an : Nat → Nat} {ai : Nat → Nat → Int32} {al : Nat → Nat → Int64} {ar : Nat → Nat → Option Nat} {mX40_kinds : Nat → Option Nat} {mX40_lefts : Nat → Option Nat} {mX40_rights : Nat → Option Nat} {mX40_axioms : Nat → Int32} {mX40_classFacts : Nat → Option Nat} {mX40_roleFacts : Nat → Option Nat} {mX40_facts : Nat → Int32} {mX40_draft : Nat → Option Nat} {mX40_questions : Nat → Option Nat} {mX40_questionCount : Nat → Int32} {mX40_forbidden : Nat → Option Nat} {mX40_given : Nat → Option Nat} {mX41_first : Nat → Int32} {mX41_second : Nat → Int32} {mX41_names : Nat → Option Nat} {mX41_from : Nat → Option Nat} {mX41_to : Nat → Option Nat} {mX41_n : Nat → Int32} {mX41_codes : Nat → Option Nat} {mX41_least : Nat → Option Nat} {mX41_hasLeast : Nat → Int32} {mX41_others : Nat → Option Nat} {mX41_otherCount : Nat → Int32} {mX41_named : Nat → Option Nat} {mX62_answers : Nat → Int32} {mX62_names : Nat → Option Nat} {mX62_from : Nat → Option Nat} {mX62_to : Nat → Option Nat} {mX62_n : Nat → Int32} {mX62_forms : Nat → Option Nat} {mX62_count : Nat → Int32} {mX62_large : Nat → Int32} {mX62_known : Nat → Int32} {mX85_first : Nat → Int32} {mX85_second : Nat → Int32} {mX85_codes : Nat → Option Nat} {a : Nat} (hk : kd a = 3) : (cQR ci d kd an ai al ar mX40_kinds mX40_lefts mX40_rights mX40_axioms mX40_classFacts mX40_roleFacts mX40_facts mX40_draft mX40_questions mX40_questionCount mX40_forbidden mX40_given mX41_first mX41_second mX41_names mX41_from mX41_to mX41_n mX41_codes mX41_least mX41_hasLeast mX41_others mX41_otherCount mX41_named mX62_answers mX62_names mX62_from mX62_to mX62_n mX62_forms mX62_count mX62_large mX62_known mX85_first mX85_second mX85_codes) a = .inr (ci 2, [.int (mX62_answers a), va_rf (mX62_names a), va_rf (mX62_from a), va_rf (mX62_to a), .int (mX62_n a), va_rf (mX62_forms a), .int (mX62_count a), .int (mX62_large a), .int (mX62_known a)]) := by unfold cQR; simp only [hk]
theorem cQR_3_0 {ci : Nat → Nat} {d : Nat → ClassId} {kd : Nat → Nat} {an : Nat → Nat} {ai : Nat → Nat → Int32} {al : Nat → Nat → Int64} {ar : Nat → Nat → Option Nat} {mX40_kinds : Nat → Option Nat} {mX40_lefts : Nat → Option Nat} {mX40_rights : Nat → Option Nat} {mX40_axioms : Nat → Int32} {mX40_classFacts : Nat → Option Nat} {mX40_roleFacts : Nat → Option Nat} {mX40_facts : Nat → Int32} {mX40_draft : Nat → Option Nat} {mX40_questions : Nat → Option Nat} {mX40_questionCount : Nat → Int32} {mX40_forbidden : Nat → Option Nat} {mX40_given : Nat → Option Nat} {mX41_first : Nat → Int32} {mX41_second : Nat → Int32} {mX41_names : Nat → Option Nat} {mX41_from : Nat → Option Nat} {mX41_to : Nat → Option Nat} {mX41_n : Nat → Int32} {mX41_codes : Nat → Option Nat} {mX41_least : Nat → Option Nat} {mX41_hasLeast : Nat → Int32} {mX41_others : Nat → Option Nat} {mX41_otherCount : Nat → Int32} {mX41_named : Nat → Option Nat} {mX62_answers : Nat → Int32} {mX62_names : Nat → Option Nat} {mX62_from : Nat → Option Nat} {mX62_to : Nat → Option Nat} {mX62_n : Nat → Int32} {mX62_forms : Nat → Option Nat} {mX62_count : Nat → Int32} {mX62_large : Nat → Int32} {mX62_known : Nat → Int32} {mX85_first : Nat → Int32} {mX85_second : Nat → Int32} {mX85_codes : Nat → Option Nat} {a : Nat} {v : Int32} (hk : kd a = 3) : va_up (cQR ci d kd an ai al ar mX40_kinds mX40_lefts mX40_rights mX40_axioms mX40_classFacts mX40_roleFacts mX40_facts mX40_draft mX40_questions mX40_questionCount mX40_forbidden mX40_given mX41_first mX41_second mX41_names mX41_from mX41_to mX41_n mX41_codes mX41_least mX41_hasLeast mX41_others mX41_otherCount mX41_named mX62_answers mX62_names mX62_from mX62_to mX62_n mX62_forms mX62_count mX62_large mX62_known mX85_first mX85_second mX85_codes) a (.inr (ci 2, [.int v, va_rf (mX62_names a), va_rf (mX62_from a), va_rf (mX62_to a), .int (mX62_n a), va_rf (mX62_forms a), .int (mX62_count a), .int (mX62_large a), .int (mX62_known a)])) = (cQR ci d kd an ai al ar mX40_kinds mX40_lefts mX40_rights mX40_axioms mX40_classFacts mX40_roleFacts mX40_facts mX40_draft mX40_questions mX40_questionCount mX40_forbidden mX40_given mX41_first mX41_second mX41_names mX41_from mX41_to mX41_n mX41_codes mX41_least mX41_hasLeast mX41_others mX41_otherCount mX41_named (va_up mX62_answers a v) mX62_names mX62_from mX62_to mX62_n mX62_forms mX62_count mX62_large mX62_known mX85_first mX85_second mX85_codes) := by
  funext b
  by_cases h : b = a
  · subst h
    rw [va_up_self]
    unfold cQR
    rw [hk]
    simp only [va_up_self]
  · rw [va_up_ne _ _ h]
    unfold cQR
    simp only [va_up_ne _ _ h]
theorem cQR_3_1 {ci : Nat → Nat} {d : Nat → ClassId} {kd : Nat → Nat} {an : Nat → Nat} {ai : Nat → Nat → Int32} {al : Nat → Nat → Int64} {ar : Nat → Nat → Option Nat} {mX40_kinds : Nat → Option Nat} {mX40_lefts : Nat → Option Nat} {mX40_rights : Nat → Option Nat} {mX40_axioms : Nat → Int32} {mX40_classFacts : Nat → Option Nat} {mX40_roleFacts : Nat → Option Nat} {mX40_facts : Nat → Int32} {mX40_draft : Nat → Option Nat} {mX40_questions : Nat → Option Nat} {mX40_questionCount : Nat → Int32} {mX40_forbidden : Nat → Option Nat} {mX40_given : Nat → Option Nat} {mX41_first : Nat → Int32} {mX41_second : Nat → Int32} {mX41_names : Nat → Option Nat} {mX41_from : Nat → Option Nat} {mX41_to : Nat → Option Nat} {mX41_n : Nat → Int32} {mX41_codes : Nat → Option Nat} {mX41_least : Nat → Option Nat} {mX41_hasLeast : Nat → Int32} {mX41_others : Nat → Option Nat} {mX41_otherCount : Nat → Int32} {mX41_named : Nat → Option Nat} {mX62_answers : Nat → Int32} {mX62_names : Nat → Option Nat} {mX62_from : Nat → Option Nat} {mX62_to : Nat → Option Nat} {mX62_n : Nat → Int32} {mX62_forms : Nat → Option Nat} {mX62_count : Nat → Int32} {mX62_large : Nat → Int32} {mX62_known : Nat → Int32} {mX85_first : Nat → Int32} {mX85_second : Nat → Int32} {mX85_codes : Nat → Option Nat} {a : Nat} {v : Option Nat} (hk : kd a = 3) : va_up (cQR ci d kd an ai al ar mX40_kinds mX40_lefts mX40_rights mX40_axioms mX40_classFacts mX40_roleFacts mX40_facts mX40_draft mX40_questions mX40_questionCount mX40_forbidden mX40_given mX41_first mX41_second mX41_names mX41_from mX41_to mX41_n mX41_codes mX41_least mX41_hasLeast mX41_others mX41_otherCount mX41_named mX62_answers mX62_names mX62_from mX62_to mX62_n mX62_forms mX62_count mX62_large mX62_known mX85_first mX85_second mX85_codes) a (.inr (ci 2, [.int (mX62_answers a), va_rf v, va_rf (mX62_from a), va_rf (mX62_to a), .int (mX62_n a), va_rf (mX62_forms a), .int (mX62_count a), .int (mX62_large a), .int (mX62_known a)])) = (cQR ci d kd an ai al ar mX40_kinds mX40_lefts mX40_rights mX40_axioms mX40_classFacts mX40_roleFacts mX40_facts mX40_draft mX40_questions mX40_questionCount mX40_forbidden mX40_given mX41_first mX41_second mX41_names mX41_from mX41_to mX41_n mX41_codes mX41_least mX41_hasLeast mX41_others mX41_otherCount mX41_named mX62_answers (va_up mX62_names a v) mX62_from mX62_to mX62_n mX62_forms mX62_count mX62_large mX62_known mX85_first mX85_second mX85_codes) := by
  funext b
  by_cases h : b = a
  · subst h
    rw [va_up_self]
    unfold cQR
    rw [hk]
    simp only [va_up_self]
  · rw [va_up_ne _ _ h]
    unfold cQR
    simp only [va_up_ne _ _ h]
theorem cQR_3_2 {ci : Nat → Nat} {d : Nat → ClassId} {kd : Nat → Nat} {an : Nat → Nat} {ai : Nat → Nat → Int32} {al : Nat → Nat → Int64} {ar : Nat → Nat → Option Nat} {mX40_kinds : Nat → Option Nat} {mX40_lefts : Nat → Option Nat} {mX40_rights : Nat → Option Nat} {mX40_axioms : Nat → Int32} {mX40_classFacts : Nat → Option Nat} {mX40_roleFacts : Nat → Option Nat} {mX40_facts : Nat → Int32} {mX40_draft : Nat → Option Nat} {mX40_questions : Nat → Option Nat} {mX40_questionCount : Nat → Int32} {mX40_forbidden : Nat → Option Nat} {mX40_given : Nat → Option Nat} {mX41_first : Nat → Int32} {mX41_second : Nat → Int32} {mX41_names : Nat → Option Nat} {mX41_from : Nat → Option Nat} {mX41_to : Nat → Option Nat} {mX41_n : Nat → Int32} {mX41_codes : Nat → Option Nat} {mX41_least : Nat → Option Nat} {mX41_hasLeast : Nat → Int32} {mX41_others : Nat → Option Nat} {mX41_otherCount : Nat → Int32} {mX41_named : Nat → Option Nat} {mX62_answers : Nat → Int32} {mX62_names : Nat → Option Nat} {mX62_from : Nat → Option Nat} {mX62_to : Nat → Option Nat} {mX62_n : Nat → Int32} {mX62_forms : Nat → Option Nat} {mX62_count : Nat → Int32} {mX62_large : Nat → Int32} {mX62_known : Nat → Int32} {mX85_first : Nat → Int32} {mX85_second : Nat → Int32} {mX85_codes : Nat → Option Nat} {a : Nat} {v : Option Nat} (hk : kd a = 3) : va_up (cQR ci d kd an ai al ar mX40_kinds mX40_lefts mX40_rights mX40_axioms mX40_classFacts mX40_roleFacts mX40_facts mX40_draft mX40_questions mX40_questionCount mX40_forbidden mX40_given mX41_first mX41_second mX41_names mX41_from mX41_to mX41_n mX41_codes mX41_least mX41_hasLeast mX41_others mX41_otherCount mX41_named mX62_answers mX62_names mX62_from mX62_to mX62_n mX62_forms mX62_count mX62_large mX62_known mX85_first mX85_second mX85_codes) a (.inr (ci 2, [.int (mX62_answers a), va_rf (mX62_names a), va_rf v, va_rf (mX62_to a), .int (mX62_n a), va_rf (mX62_forms a), .int (mX62_count a), .int (mX62_large a), .int (mX62_known a)])) = (cQR ci d kd an ai al ar mX40_kinds mX40_lefts mX40_rights mX40_axioms mX40_classFacts mX40_roleFacts mX40_facts mX40_draft mX40_questions mX40_questionCount mX40_forbidden mX40_given mX41_first mX41_second mX41_names mX41_from mX41_to mX41_n mX41_codes mX41_least mX41_hasLeast mX41_others mX41_otherCount mX41_named mX62_answers mX62_names (va_up mX62_from a v) mX62_to mX62_n mX62_forms mX62_count mX62_large mX62_known mX85_first mX85_second mX85_codes) := by
  funext b
  by_cases h : b = a
  · subst h
    rw [va_up_self]
    unfold cQR
    rw [hk]
    simp only [va_up_self]
  · rw [va_up_ne _ _ h]
    unfold cQR
    simp only [va_up_ne _ _ h]
theorem cQR_3_3 {ci : Nat → Nat} {d : Nat → ClassId} {kd : Nat → Nat} {an : Nat → Nat} {ai : Nat → Nat → Int32} {al : Nat → Nat → Int64} {ar : Nat → Nat → Option Nat} {mX40_kinds : Nat → Option Nat} {mX40_lefts : Nat → Option Nat} {mX40_rights : Nat → Option Nat} {mX40_axioms : Nat → Int32} {mX40_classFacts : Nat → Option Nat} {mX40_roleFacts : Nat → Option Nat} {mX40_facts : Nat → Int32} {mX40_draft : Nat → Option Nat} {mX40_questions : Nat → Option Nat} {mX40_questionCount : Nat → Int32} {mX40_forbidden : Nat → Option Nat} {mX40_given : Nat → Option Nat} {mX41_first : Nat → Int32} {mX41_second : Nat → Int32} {mX41_names : Nat → Option Nat} {mX41_from : Nat → Option Nat} {mX41_to : Nat → Option Nat} {mX41_n : Nat → Int32} {mX41_codes : Nat → Option Nat} {mX41_least : Nat → Option Nat} {mX41_hasLeast : Nat → Int32} {mX41_others : Nat → Option Nat} {mX41_otherCount : Nat → Int32} {mX41_named : Nat → Option Nat} {mX62_answers : Nat → Int32} {mX62_names : Nat → Option Nat} {mX62_from : Nat → Option Nat} {mX62_to : Nat → Option Nat} {mX62_n : Nat → Int32} {mX62_forms : Nat → Option Nat} {mX62_count : Nat → Int32} {mX62_large : Nat → Int32} {mX62_known : Nat → Int32} {mX85_first : Nat → Int32} {mX85_second : Nat → Int32} {mX85_codes : Nat → Option Nat} {a : Nat} {v : Option Nat} (hk : kd a = 3) : va_up (cQR ci d kd an ai al ar mX40_kinds mX40_lefts mX40_rights mX40_axioms mX40_classFacts mX40_roleFacts mX40_facts mX40_draft mX40_questions mX40_questionCount mX40_forbidden mX40_given mX41_first mX41_second mX41_names mX41_from mX41_to mX41_n mX41_codes mX41_least mX41_hasLeast mX41_others mX41_otherCount mX41_named mX62_answers mX62_names mX62_from mX62_to mX62_n mX62_forms mX62_count mX62_large mX62_known mX85_first mX85_second mX85_codes) a (.inr (ci 2, [.int (mX62_answers a), va_rf (mX62_names a), va_rf (mX62_from a), va_rf v, .int (mX62_n a), va_rf (mX62_forms a), .int (mX62_count a), .int (mX62_large a), .int (mX62_known a)])) = (cQR ci d kd an ai al ar mX40_kinds mX40_lefts mX40_rights mX40_axioms mX40_classFacts mX40_roleFacts mX40_facts mX40_draft mX40_questions mX40_questionCount mX40_forbidden mX40_given mX41_first mX41_second mX41_names mX41_from mX41_to mX41_n mX41_codes mX41_least mX41_hasLeast mX41_others mX41_otherCount mX41_named mX62_answers mX62_names mX62_from (va_up mX62_to a v) mX62_n mX62_forms mX62_count mX62_large mX62_known mX85_first mX85_second mX85_codes) := by
  funext b
  by_cases h : b = a
  · subst h
    rw [va_up_self]
    unfold cQR
    rw [hk]
    simp only [va_up_self]
  · rw [va_up_ne _ _ h]
    unfold cQR
    simp only [va_up_ne _ _ h]
theorem cQR_3_4 {ci : Nat → Nat} {d : Nat → ClassId} {kd : Nat → Nat} {an : Nat → Nat} {ai : Nat → Nat → Int32} {al : Nat → Nat → Int64} {ar : Nat → Nat → Option Nat} {mX40_kinds : Nat → Option Nat} {mX40_lefts : Nat → Option Nat} {mX40_rights : Nat → Option Nat} {mX40_axioms : Nat → Int32} {mX40_classFacts : Nat → Option Nat} {mX40_roleFacts : Nat → Option Nat} {mX40_facts : Nat → Int32} {mX40_draft : Nat → Option Nat} {mX40_questions : Nat → Option Nat} {mX40_questionCount : Nat → Int32} {mX40_forbidden : Nat → Option Nat} {mX40_given : Nat → Option Nat} {mX41_first : Nat → Int32} {mX41_second : Nat → Int32} {mX41_names : Nat → Option Nat} {mX41_from : Nat → Option Nat} {mX41_to : Nat → Option Nat} {mX41_n : Nat → Int32} {mX41_codes : Nat → Option Nat} {mX41_least : Nat → Option Nat} {mX41_hasLeast : Nat → Int32} {mX41_others : Nat → Option Nat} {mX41_otherCount : Nat → Int32} {mX41_named : Nat → Option Nat} {mX62_answers : Nat → Int32} {mX62_names : Nat → Option Nat} {mX62_from : Nat → Option Nat} {mX62_to : Nat → Option Nat} {mX62_n : Nat → Int32} {mX62_forms : Nat → Option Nat} {mX62_count : Nat → Int32} {mX62_large : Nat → Int32} {mX62_known : Nat → Int32} {mX85_first : Nat → Int32} {mX85_second : Nat → Int32} {mX85_codes : Nat → Option Nat} {a : Nat} {v : Int32} (hk : kd a = 3) : va_up (cQR ci d kd an ai al ar mX40_kinds mX40_lefts mX40_rights mX40_axioms mX40_classFacts mX40_roleFacts mX40_facts mX40_draft mX40_questions mX40_questionCount mX40_forbidden mX40_given mX41_first mX41_second mX41_names mX41_from mX41_to mX41_n mX41_codes mX41_least mX41_hasLeast mX41_others mX41_otherCount mX41_named mX62_answers mX62_names mX62_from mX62_to mX62_n mX62_forms mX62_count mX62_large mX62_known mX85_first mX85_second mX85_codes) a (.inr (ci 2, [.int (mX62_answers a), va_rf (mX62_names a), va_rf (mX62_from a), va_rf (mX62_to a), .int v, va_rf (mX62_forms a), .int (mX62_count a), .int (mX62_large a), .int (mX62_known a)])) = (cQR ci d kd an ai al ar mX40_kinds mX40_lefts mX40_rights mX40_axioms mX40_classFacts mX40_roleFacts mX40_facts mX40_draft mX40_questions mX40_questionCount mX40_forbidden mX40_given mX41_first mX41_second mX41_names mX41_from mX41_to mX41_n mX41_codes mX41_least mX41_hasLeast mX41_others mX41_otherCount mX41_named mX62_answers mX62_names mX62_from mX62_to (va_up mX62_n a v) mX62_forms mX62_count mX62_large mX62_known mX85_first mX85_second mX85_codes) := by
  funext b
  by_cases h : b = a
  · subst h
    rw [va_up_self]
    unfold cQR
    rw [hk]
    simp only [va_up_self]
  · rw [va_up_ne _ _ h]
    unfold cQR
    simp only [va_up_ne _ _ h]
theorem cQR_3_5 {ci : Nat → Nat} {d : Nat → ClassId} {kd : Nat → Nat} {an : Nat → Nat} {ai : Nat → Nat → Int32} {al : Nat → Nat → Int64} {ar : Nat → Nat → Option Nat} {mX40_kinds : Nat → Option Nat} {mX40_lefts : Nat → Option Nat} {mX40_rights : Nat → Option Nat} {mX40_axioms : Nat → Int32} {mX40_classFacts : Nat → Option Nat} {mX40_roleFacts : Nat → Option Nat} {mX40_facts : Nat → Int32} {mX40_draft : Nat → Option Nat} {mX40_questions : Nat → Option Nat} {mX40_questionCount : Nat → Int32} {mX40_forbidden : Nat → Option Nat} {mX40_given : Nat → Option Nat} {mX41_first : Nat → Int32} {mX41_second : Nat → Int32} {mX41_names : Nat → Option Nat} {mX41_from : Nat → Option Nat} {mX41_to : Nat → Option Nat} {mX41_n : Nat → Int32} {mX41_codes : Nat → Option Nat} {mX41_least : Nat → Option Nat} {mX41_hasLeast : Nat → Int32} {mX41_others : Nat → Option Nat} {mX41_otherCount : Nat → Int32} {mX41_named : Nat → Option Nat} {mX62_answers : Nat → Int32} {mX62_names : Nat → Option Nat} {mX62_from : Nat → Option Nat} {mX62_to : Nat → Option Nat} {mX62_n : Nat → Int32} {mX62_forms : Nat → Option Nat} {mX62_count : Nat → Int32} {mX62_large : Nat → Int32} {mX62_known : Nat → Int32} {mX85_first : Nat → Int32} {mX85_second : Nat → Int32} {mX85_codes : Nat → Option Nat} {a : Nat} {v : Option Nat} (hk : kd a = 3) : va_up (cQR ci d kd an ai al ar mX40_kinds mX40_lefts mX40_rights mX40_axioms mX40_classFacts mX40_roleFacts mX40_facts mX40_draft mX40_questions mX40_questionCount mX40_forbidden mX40_given mX41_first mX41_second mX41_names mX41_from mX41_to mX41_n mX41_codes mX41_least mX41_hasLeast mX41_others mX41_otherCount mX41_named mX62_answers mX62_names mX62_from mX62_to mX62_n mX62_forms mX62_count mX62_large mX62_known mX85_first mX85_second mX85_codes) a (.inr (ci 2, [.int (mX62_answers a), va_rf (mX62_names a), va_rf (mX62_from a), va_rf (mX62_to a), .int (mX62_n a), va_rf v, .int (mX62_count a), .int (mX62_large a), .int (mX62_known a)])) = (cQR ci d kd an ai al ar mX40_kinds mX40_lefts mX40_rights mX40_axioms mX40_classFacts mX40_roleFacts mX40_facts mX40_draft mX40_questions mX40_questionCount mX40_forbidden mX40_given mX41_first mX41_second mX41_names mX41_from mX41_to mX41_n mX41_codes mX41_least mX41_hasLeast mX41_others mX41_otherCount mX41_named mX62_answers mX62_names mX62_from mX62_to mX62_n (va_up mX62_forms a v) mX62_count mX62_large mX62_known mX85_first mX85_second mX85_codes) := by
  funext b
  by_cases h : b = a
  · subst h
    rw [va_up_self]
    unfold cQR
    rw [hk]
    simp only [va_up_self]
  · rw [va_up_ne _ _ h]
    unfold cQR
    simp only [va_up_ne _ _ h]
theorem cQR_3_6 {ci : Nat → Nat} {d : Nat → ClassId} {kd : Nat → Nat} {an : Nat → Nat} {ai : Nat → Nat → Int32} {al : Nat → Nat → Int64} {ar : Nat → Nat → Option Nat} {mX40_kinds : Nat → Option Nat} {mX40_lefts : Nat → Option Nat} {mX40_rights : Nat → Option Nat} {mX40_axioms : Nat → Int32} {mX40_classFacts : Nat → Option Nat} {mX40_roleFacts : Nat → Option Nat} {mX40_facts : Nat → Int32} {mX40_draft : Nat → Option Nat} {mX40_questions : Nat → Option Nat} {mX40_questionCount : Nat → Int32} {mX40_forbidden : Nat → Option Nat} {mX40_given : Nat → Option Nat} {mX41_first : Nat → Int32} {mX41_second : Nat → Int32} {mX41_names : Nat → Option Nat} {mX41_from : Nat → Option Nat} {mX41_to : Nat → Option Nat} {mX41_n : Nat → Int32} {mX41_codes : Nat → Option Nat} {mX41_least : Nat → Option Nat} {mX41_hasLeast : Nat → Int32} {mX41_others : Nat → Option Nat} {mX41_otherCount : Nat → Int32} {mX41_named : Nat → Option Nat} {mX62_answers : Nat → Int32} {mX62_names : Nat → Option Nat} {mX62_from : Nat → Option Nat} {mX62_to : Nat → Option Nat} {mX62_n : Nat → Int32} {mX62_forms : Nat → Option Nat} {mX62_count : Nat → Int32} {mX62_large : Nat → Int32} {mX62_known : Nat → Int32} {mX85_first : Nat → Int32} {mX85_second : Nat → Int32} {mX85_codes : Nat → Option Nat} {a : Nat} {v : Int32} (hk : kd a = 3) : va_up (cQR ci d kd an ai al ar mX40_kinds mX40_lefts mX40_rights mX40_axioms mX40_classFacts mX40_roleFacts mX40_facts mX40_draft mX40_questions mX40_questionCount mX40_forbidden mX40_given mX41_first mX41_second mX41_names mX41_from mX41_to mX41_n mX41_codes mX41_least mX41_hasLeast mX41_others mX41_otherCount mX41_named mX62_answers mX62_names mX62_from mX62_to mX62_n mX62_forms mX62_count mX62_large mX62_known mX85_first mX85_second mX85_codes) a (.inr (ci 2, [.int (mX62_answers a), va_rf (mX62_names a), va_rf (mX62_from a), va_rf (mX62_to a), .int (mX62_n a), va_rf (mX62_forms a), .int v, .int (mX62_large a), .int (mX62_known a)])) = (cQR ci d kd an ai al ar mX40_kinds mX40_lefts mX40_rights mX40_axioms mX40_classFacts mX40_roleFacts mX40_facts mX40_draft mX40_questions mX40_questionCount mX40_forbidden mX40_given mX41_first mX41_second mX41_names mX41_from mX41_to mX41_n mX41_codes mX41_least mX41_hasLeast mX41_others mX41_otherCount mX41_named mX62_answers mX62_names mX62_from mX62_to mX62_n mX62_forms (va_up mX62_count a v) mX62_large mX62_known mX85_first mX85_second mX85_codes) := by
  funext b
  by_cases h : b = a
  · subst h
    rw [va_up_self]
    unfold cQR
    rw [hk]
    simp only [va_up_self]
  · rw [va_up_ne _ _ h]
    unfold cQR
    simp only [va_up_ne _ _ h]
theorem cQR_3_7 {ci : Nat → Nat} {d : Nat → ClassId} {kd : Nat → Nat} {an : Nat → Nat} {ai : Nat → Nat → Int32} {al : Nat → Nat → Int64} {ar : Nat → Nat → Option Nat} {mX40_kinds : Nat → Option Nat} {mX40_lefts : Nat → Option Nat} {mX40_rights : Nat → Option Nat} {mX40_axioms : Nat → Int32} {mX40_classFacts : Nat → Option Nat} {mX40_roleFacts : Nat → Option Nat} {mX40_facts : Nat → Int32} {mX40_draft : Nat → Option Nat} {mX40_questions : Nat → Option Nat} {mX40_questionCount : Nat → Int32} {mX40_forbidden : Nat → Option Nat} {mX40_given : Nat → Option Nat} {mX41_first : Nat → Int32} {mX41_second : Nat → Int32} {mX41_names : Nat → Option Nat} {mX41_from : Nat → Option Nat} {mX41_to : Nat → Option Nat} {mX41_n : Nat → Int32} {mX41_codes : Nat → Option Nat} {mX41_least : Nat → Option Nat} {mX41_hasLeast : Nat → Int32} {mX41_others : Nat → Option Nat} {mX41_otherCount : Nat → Int32} {mX41_named : Nat → Option Nat} {mX62_answers : Nat → Int32} {mX62_names : Nat → Option Nat} {mX62_from : Nat → Option Nat} {mX62_to : Nat → Option Nat} {mX62_n : Nat → Int32} {mX62_forms : Nat → Option Nat} {mX62_count : Nat → Int32} {mX62_large : Nat → Int32} {mX62_known : Nat → Int32} {mX85_first : Nat → Int32} {mX85_second : Nat → Int32} {mX85_codes : Nat → Option Nat} {a : Nat} {v : Int32} (hk : kd a = 3) : va_up (cQR ci d kd an ai al ar mX40_kinds mX40_lefts mX40_rights mX40_axioms mX40_classFacts mX40_roleFacts mX40_facts mX40_draft mX40_questions mX40_questionCount mX40_forbidden mX40_given mX41_first mX41_second mX41_names mX41_from mX41_to mX41_n mX41_codes mX41_least mX41_hasLeast mX41_others mX41_otherCount mX41_named mX62_answers mX62_names mX62_from mX62_to mX62_n mX62_forms mX62_count mX62_large mX62_known mX85_first mX85_second mX85_codes) a (.inr (ci 2, [.int (mX62_answers a), va_rf (mX62_names a), va_rf (mX62_from a), va_rf (mX62_to a), .int (mX62_n a), va_rf (mX62_forms a), .int (mX62_count a), .int v, .int (mX62_known a)])) = (cQR ci d kd an ai al ar mX40_kinds mX40_lefts mX40_rights mX40_axioms mX40_classFacts mX40_roleFacts mX40_facts mX40_draft mX40_questions mX40_questionCount mX40_forbidden mX40_given mX41_first mX41_second mX41_names mX41_from mX41_to mX41_n mX41_codes mX41_least mX41_hasLeast mX41_others mX41_otherCount mX41_named mX62_answers mX62_names mX62_from mX62_to mX62_n mX62_forms mX62_count (va_up mX62_large a v) mX62_known mX85_first mX85_second mX85_codes) := by
  funext b
  by_cases h : b = a
  · subst h
    rw [va_up_self]
    unfold cQR
    rw [hk]
    simp only [va_up_self]
  · rw [va_up_ne _ _ h]
    unfold cQR
    simp only [va_up_ne _ _ h]
theorem cQR_3_8 {ci : Nat → Nat} {d : Nat → ClassId} {kd : Nat → Nat} {an : Nat → Nat} {ai : Nat → Nat → Int32} {al : Nat → Nat → Int64} {ar : Nat → Nat → Option Nat} {mX40_kinds : Nat → Option Nat} {mX40_lefts : Nat → Option Nat} {mX40_rights : Nat → Option Nat} {mX40_axioms : Nat → Int32} {mX40_classFacts : Nat → Option Nat} {mX40_roleFacts : Nat → Option Nat} {mX40_facts : Nat → Int32} {mX40_draft : Nat → Option Nat} {mX40_questions : Nat → Option Nat} {mX40_questionCount : Nat → Int32} {mX40_forbidden : Nat → Option Nat} {mX40_given : Nat → Option Nat} {mX41_first : Nat → Int32} {mX41_second : Nat → Int32} {mX41_names : Nat → Option Nat} {mX41_from : Nat → Option Nat} {mX41_to : Nat → Option Nat} {mX41_n : Nat → Int32} {mX41_codes : Nat → Option Nat} {mX41_least : Nat → Option Nat} {mX41_hasLeast : Nat → Int32} {mX41_others : Nat → Option Nat} {mX41_otherCount : Nat → Int32} {mX41_named : Nat → Option Nat} {mX62_answers : Nat → Int32} {mX62_names : Nat → Option Nat} {mX62_from : Nat → Option Nat} {mX62_to : Nat → Option Nat} {mX62_n : Nat → Int32} {mX62_forms : Nat → Option Nat} {mX62_count : Nat → Int32} {mX62_large : Nat → Int32} {mX62_known : Nat → Int32} {mX85_first : Nat → Int32} {mX85_second : Nat → Int32} {mX85_codes : Nat → Option Nat} {a : Nat} {v : Int32} (hk : kd a = 3) : va_up (cQR ci d kd an ai al ar mX40_kinds mX40_lefts mX40_rights mX40_axioms mX40_classFacts mX40_roleFacts mX40_facts mX40_draft mX40_questions mX40_questionCount mX40_forbidden mX40_given mX41_first mX41_second mX41_names mX41_from mX41_to mX41_n mX41_codes mX41_least mX41_hasLeast mX41_others mX41_otherCount mX41_named mX62_answers mX62_names mX62_from mX62_to mX62_n mX62_forms mX62_count mX62_large mX62_known mX85_first mX85_second mX85_codes) a (.inr (ci 2, [.int (mX62_answers a), va_rf (mX62_names a), va_rf (mX62_from a), va_rf (mX62_to a), .int (mX62_n a), va_rf (mX62_forms a), .int (mX62_count a), .int (mX62_large a), .int v])) = (cQR ci d kd an ai al ar mX40_kinds mX40_lefts mX40_rights mX40_axioms mX40_classFacts mX40_roleFacts mX40_facts mX40_draft mX40_questions mX40_questionCount mX40_forbidden mX40_given mX41_first mX41_second mX41_names mX41_from mX41_to mX41_n mX41_codes mX41_least mX41_hasLeast mX41_others mX41_otherCount mX41_named mX62_answers mX62_names mX62_from mX62_to mX62_n mX62_forms mX62_count mX62_large (va_up mX62_known a v) mX85_first mX85_second mX85_codes) := by
  funext b
  by_cases h : b = a
  · subst h
    rw [va_up_self]
    unfold cQR
    rw [hk]
    simp only [va_up_self]
  · rw [va_up_ne _ _ h]
    unfold cQR
    simp only [va_up_ne _ _ h]
theorem cQR_3_n {ci : Nat → Nat} {d : Nat → ClassId} {kd : Nat → Nat} {an : Nat → Nat} {ai : Nat → Nat → Int32} {al : Nat → Nat → Int64} {ar : Nat → Nat → Option Nat} {mX40_kinds : Nat → Option Nat} {mX40_lefts : Nat → Option Nat} {mX40_rights : Nat → Option Nat} {mX40_axioms : Nat → Int32} {mX40_classFacts : Nat → Option Nat} {mX40_roleFacts : Nat → Option Nat} {mX40_facts : Nat → Int32} {mX40_draft : Nat → Option Nat} {mX40_questions : Nat → Option Nat} {mX40_questionCount : Nat → Int32} {mX40_forbidden : Nat → Option Nat} {mX40_given : Nat → Option Nat} {mX41_first : Nat → Int32} {mX41_second : Nat → Int32} {mX41_names : Nat → Option Nat} {mX41_from : Nat → Option Nat} {mX41_to : Nat → Option Nat} {mX41_n : Nat → Int32} {mX41_codes : Nat → Option Nat} {mX41_least : Nat → Option Nat} {mX41_hasLeast : Nat → Int32} {mX41_others : Nat → Option Nat} {mX41_otherCount : Nat → Int32} {mX41_named : Nat → Option Nat} {mX62_answers : Nat → Int32} {mX62_names : Nat → Option Nat} {mX62_from : Nat → Option Nat} {mX62_to : Nat → Option Nat} {mX62_n : Nat → Int32} {mX62_forms : Nat → Option Nat} {mX62_count : Nat → Int32} {mX62_large : Nat → Int32} {mX62_known : Nat → Int32} {mX85_first : Nat → Int32} {mX85_second : Nat → Int32} {mX85_codes : Nat → Option Nat} (q : Nat) : va_up (cQR ci d kd an ai al ar mX40_kinds mX40_lefts mX40_rights mX40_axioms mX40_classFacts mX40_roleFacts mX40_facts mX40_draft mX40_questions mX40_questionCount mX40_forbidden mX40_given mX41_first mX41_second mX41_names mX41_from mX41_to mX41_n mX41_codes mX41_least mX41_hasLeast mX41_others mX41_otherCount mX41_named mX62_answers mX62_names mX62_from mX62_to mX62_n mX62_forms mX62_count mX62_large mX62_known mX85_first mX85_second mX85_codes) q (.inr (ci 2, [.int 0, va_rf none, va_rf none, va_rf none, .int 0, va_rf none, .int 0, .int 0, .int 0])) = (cQR ci d (va_up kd q 3) an ai al ar mX40_kinds mX40_lefts mX40_rights mX40_axioms mX40_classFacts mX40_roleFacts mX40_facts mX40_draft mX40_questions mX40_questionCount mX40_forbidden mX40_given mX41_first mX41_second mX41_names mX41_from mX41_to mX41_n mX41_codes mX41_least mX41_hasLeast mX41_others mX41_otherCount mX41_named (va_up mX62_answers q 0) (va_up mX62_names q none) (va_up mX62_from q none) (va_up mX62_to q none) (va_up mX62_n q 0) (va_up mX62_forms q none) (va_up mX62_count q 0) (va_up mX62_large q 0) (va_up mX62_known q 0) mX85_first mX85_second mX85_codes) := by
  funext b
  by_cases h : b = q
  · subst h
    rw [va_up_self]
    unfold cQR
    simp only [va_up_self]
  · rw [va_up_ne _ _ h]
    unfold cQR
    simp only [va_up_ne _ _ h]
theorem cQR_4 {ci : Nat → Nat} {d : Nat → ClassId} {kd : Nat → Nat} {an : Nat → Nat} {ai : Nat → Nat → Int32} {al : Nat → Nat → Int64} {ar : Nat → Nat → Option Nat} {mX40_kinds : Nat → Option Nat} {mX40_lefts : Nat → Option Nat} {mX40_rights : Nat → Option Nat} {mX40_axioms : Nat → Int32} {mX40_classFacts : Nat → Option Nat} {mX40_roleFacts : Nat → Option Nat} {mX40_facts : Nat → Int32} {mX40_draft : Nat → Option Nat} {mX40_questions : Nat → Option Nat} {mX40_questionCount : Nat → Int32} {mX40_forbidden : Nat → Option Nat} {mX40_given : Nat → Option Nat} {mX41_first : Nat → Int32} {mX41_second : Nat → Int32} {mX41_names : Nat → Option Nat} {mX41_from : Nat → Option Nat} {mX41_to : Nat → Option Nat} {mX41_n : Nat → Int32} {mX41_codes : Nat → Option Nat} {mX41_least : Nat → Option Nat} {mX41_hasLeast : Nat → Int32} {mX41_others : Nat → Option Nat} {mX41_otherCount : Nat → Int32} {mX41_named : Nat → Option Nat} {mX62_answers : Nat → Int32} {mX62_names : Nat → Option Nat} {mX62_from : Nat → Option Nat} {mX62_to : Nat → Option Nat} {mX62_n : Nat → Int32} {mX62_forms : Nat → Option Nat} {mX62_count : Nat → Int32} {mX62_large : Nat → Int32} {mX62_known : Nat → Int32} {mX85_first : Nat → Int32} {mX85_second : Nat → Int32} {mX85_codes : Nat → Option Nat} {a : Nat} (hk : kd a = 4) : (cQR ci d kd an ai al ar mX40_kinds mX40_lefts mX40_rights mX40_axioms mX40_classFacts mX40_roleFacts mX40_facts mX40_draft mX40_questions mX40_questionCount mX40_forbidden mX40_given mX41_first mX41_second mX41_names mX41_from mX41_to mX41_n mX41_codes mX41_least mX41_hasLeast mX41_others mX41_otherCount mX41_named mX62_answers mX62_names mX62_from mX62_to mX62_n mX62_forms mX62_count mX62_large mX62_known mX85_first mX85_second mX85_codes) a = .inr (ci 3, [.int (mX85_first a), .int (mX85_second a), va_rf (mX85_codes a)]) := by unfold cQR; simp only [hk]
theorem cQR_4_0 {ci : Nat → Nat} {d : Nat → ClassId} {kd : Nat → Nat} {an : Nat → Nat} {ai : Nat → Nat → Int32} {al : Nat → Nat → Int64} {ar : Nat → Nat → Option Nat} {mX40_kinds : Nat → Option Nat} {mX40_lefts : Nat → Option Nat} {mX40_rights : Nat → Option Nat} {mX40_axioms : Nat → Int32} {mX40_classFacts : Nat → Option Nat} {mX40_roleFacts : Nat → Option Nat} {mX40_facts : Nat → Int32} {mX40_draft : Nat → Option Nat} {mX40_questions : Nat → Option Nat} {mX40_questionCount : Nat → Int32} {mX40_forbidden : Nat → Option Nat} {mX40_given : Nat → Option Nat} {mX41_first : Nat → Int32} {mX41_second : Nat → Int32} {mX41_names : Nat → Option Nat} {mX41_from : Nat → Option Nat} {mX41_to : Nat → Option Nat} {mX41_n : Nat → Int32} {mX41_codes : Nat → Option Nat} {mX41_least : Nat → Option Nat} {mX41_hasLeast : Nat → Int32} {mX41_others : Nat → Option Nat} {mX41_otherCount : Nat → Int32} {mX41_named : Nat → Option Nat} {mX62_answers : Nat → Int32} {mX62_names : Nat → Option Nat} {mX62_from : Nat → Option Nat} {mX62_to : Nat → Option Nat} {mX62_n : Nat → Int32} {mX62_forms : Nat → Option Nat} {mX62_count : Nat → Int32} {mX62_large : Nat → Int32} {mX62_known : Nat → Int32} {mX85_first : Nat → Int32} {mX85_second : Nat → Int32} {mX85_codes : Nat → Option Nat} {a : Nat} {v : Int32} (hk : kd a = 4) : va_up (cQR ci d kd an ai al ar mX40_kinds mX40_lefts mX40_rights mX40_axioms mX40_classFacts mX40_roleFacts mX40_facts mX40_draft mX40_questions mX40_questionCount mX40_forbidden mX40_given mX41_first mX41_second mX41_names mX41_from mX41_to mX41_n mX41_codes mX41_least mX41_hasLeast mX41_others mX41_otherCount mX41_named mX62_answers mX62_names mX62_from mX62_to mX62_n mX62_forms mX62_count mX62_large mX62_known mX85_first mX85_second mX85_codes) a (.inr (ci 3, [.int v, .int (mX85_second a), va_rf (mX85_codes a)])) = (cQR ci d kd an ai al ar mX40_kinds mX40_lefts mX40_rights mX40_axioms mX40_classFacts mX40_roleFacts mX40_facts mX40_draft mX40_questions mX40_questionCount mX40_forbidden mX40_given mX41_first mX41_second mX41_names mX41_from mX41_to mX41_n mX41_codes mX41_least mX41_hasLeast mX41_others mX41_otherCount mX41_named mX62_answers mX62_names mX62_from mX62_to mX62_n mX62_forms mX62_count mX62_large mX62_known (va_up mX85_first a v) mX85_second mX85_codes) := by
  funext b
  by_cases h : b = a
  · subst h
    rw [va_up_self]
    unfold cQR
    rw [hk]
    simp only [va_up_self]
  · rw [va_up_ne _ _ h]
    unfold cQR
    simp only [va_up_ne _ _ h]
theorem cQR_4_1 {ci : Nat → Nat} {d : Nat → ClassId} {kd : Nat → Nat} {an : Nat → Nat} {ai : Nat → Nat → Int32} {al : Nat → Nat → Int64} {ar : Nat → Nat → Option Nat} {mX40_kinds : Nat → Option Nat} {mX40_lefts : Nat → Option Nat} {mX40_rights : Nat → Option Nat} {mX40_axioms : Nat → Int32} {mX40_classFacts : Nat → Option Nat} {mX40_roleFacts : Nat → Option Nat} {mX40_facts : Nat → Int32} {mX40_draft : Nat → Option Nat} {mX40_questions : Nat → Option Nat} {mX40_questionCount : Nat → Int32} {mX40_forbidden : Nat → Option Nat} {mX40_given : Nat → Option Nat} {mX41_first : Nat → Int32} {mX41_second : Nat → Int32} {mX41_names : Nat → Option Nat} {mX41_from : Nat → Option Nat} {mX41_to : Nat → Option Nat} {mX41_n : Nat → Int32} {mX41_codes : Nat → Option Nat} {mX41_least : Nat → Option Nat} {mX41_hasLeast : Nat → Int32} {mX41_others : Nat → Option Nat} {mX41_otherCount : Nat → Int32} {mX41_named : Nat → Option Nat} {mX62_answers : Nat → Int32} {mX62_names : Nat → Option Nat} {mX62_from : Nat → Option Nat} {mX62_to : Nat → Option Nat} {mX62_n : Nat → Int32} {mX62_forms : Nat → Option Nat} {mX62_count : Nat → Int32} {mX62_large : Nat → Int32} {mX62_known : Nat → Int32} {mX85_first : Nat → Int32} {mX85_second : Nat → Int32} {mX85_codes : Nat → Option Nat} {a : Nat} {v : Int32} (hk : kd a = 4) : va_up (cQR ci d kd an ai al ar mX40_kinds mX40_lefts mX40_rights mX40_axioms mX40_classFacts mX40_roleFacts mX40_facts mX40_draft mX40_questions mX40_questionCount mX40_forbidden mX40_given mX41_first mX41_second mX41_names mX41_from mX41_to mX41_n mX41_codes mX41_least mX41_hasLeast mX41_others mX41_otherCount mX41_named mX62_answers mX62_names mX62_from mX62_to mX62_n mX62_forms mX62_count mX62_large mX62_known mX85_first mX85_second mX85_codes) a (.inr (ci 3, [.int (mX85_first a), .int v, va_rf (mX85_codes a)])) = (cQR ci d kd an ai al ar mX40_kinds mX40_lefts mX40_rights mX40_axioms mX40_classFacts mX40_roleFacts mX40_facts mX40_draft mX40_questions mX40_questionCount mX40_forbidden mX40_given mX41_first mX41_second mX41_names mX41_from mX41_to mX41_n mX41_codes mX41_least mX41_hasLeast mX41_others mX41_otherCount mX41_named mX62_answers mX62_names mX62_from mX62_to mX62_n mX62_forms mX62_count mX62_large mX62_known mX85_first (va_up mX85_second a v) mX85_codes) := by
  funext b
  by_cases h : b = a
  · subst h
    rw [va_up_self]
    unfold cQR
    rw [hk]
    simp only [va_up_self]
  · rw [va_up_ne _ _ h]
    unfold cQR
    simp only [va_up_ne _ _ h]
theorem cQR_4_2 {ci : Nat → Nat} {d : Nat → ClassId} {kd : Nat → Nat} {an : Nat → Nat} {ai : Nat → Nat → Int32} {al : Nat → Nat → Int64} {ar : Nat → Nat → Option Nat} {mX40_kinds : Nat → Option Nat} {mX40_lefts : Nat → Option Nat} {mX40_rights : Nat → Option Nat} {mX40_axioms : Nat → Int32} {mX40_classFacts : Nat → Option Nat} {mX40_roleFacts : Nat → Option Nat} {mX40_facts : Nat → Int32} {mX40_draft : Nat → Option Nat} {mX40_questions : Nat → Option Nat} {mX40_questionCount : Nat → Int32} {mX40_forbidden : Nat → Option Nat} {mX40_given : Nat → Option Nat} {mX41_first : Nat → Int32} {mX41_second : Nat → Int32} {mX41_names : Nat → Option Nat} {mX41_from : Nat → Option Nat} {mX41_to : Nat → Option Nat} {mX41_n : Nat → Int32} {mX41_codes : Nat → Option Nat} {mX41_least : Nat → Option Nat} {mX41_hasLeast : Nat → Int32} {mX41_others : Nat → Option Nat} {mX41_otherCount : Nat → Int32} {mX41_named : Nat → Option Nat} {mX62_answers : Nat → Int32} {mX62_names : Nat → Option Nat} {mX62_from : Nat → Option Nat} {mX62_to : Nat → Option Nat} {mX62_n : Nat → Int32} {mX62_forms : Nat → Option Nat} {mX62_count : Nat → Int32} {mX62_large : Nat → Int32} {mX62_known : Nat → Int32} {mX85_first : Nat → Int32} {mX85_second : Nat → Int32} {mX85_codes : Nat → Option Nat} {a : Nat} {v : Option Nat} (hk : kd a = 4) : va_up (cQR ci d kd an ai al ar mX40_kinds mX40_lefts mX40_rights mX40_axioms mX40_classFacts mX40_roleFacts mX40_facts mX40_draft mX40_questions mX40_questionCount mX40_forbidden mX40_given mX41_first mX41_second mX41_names mX41_from mX41_to mX41_n mX41_codes mX41_least mX41_hasLeast mX41_others mX41_otherCount mX41_named mX62_answers mX62_names mX62_from mX62_to mX62_n mX62_forms mX62_count mX62_large mX62_known mX85_first mX85_second mX85_codes) a (.inr (ci 3, [.int (mX85_first a), .int (mX85_second a), va_rf v])) = (cQR ci d kd an ai al ar mX40_kinds mX40_lefts mX40_rights mX40_axioms mX40_classFacts mX40_roleFacts mX40_facts mX40_draft mX40_questions mX40_questionCount mX40_forbidden mX40_given mX41_first mX41_second mX41_names mX41_from mX41_to mX41_n mX41_codes mX41_least mX41_hasLeast mX41_others mX41_otherCount mX41_named mX62_answers mX62_names mX62_from mX62_to mX62_n mX62_forms mX62_count mX62_large mX62_known mX85_first mX85_second (va_up mX85_codes a v)) := by
  funext b
  by_cases h : b = a
  · subst h
    rw [va_up_self]
    unfold cQR
    rw [hk]
    simp only [va_up_self]
  · rw [va_up_ne _ _ h]
    unfold cQR
    simp only [va_up_ne _ _ h]
theorem cQR_4_n {ci : Nat → Nat} {d : Nat → ClassId} {kd : Nat → Nat} {an : Nat → Nat} {ai : Nat → Nat → Int32} {al : Nat → Nat → Int64} {ar : Nat → Nat → Option Nat} {mX40_kinds : Nat → Option Nat} {mX40_lefts : Nat → Option Nat} {mX40_rights : Nat → Option Nat} {mX40_axioms : Nat → Int32} {mX40_classFacts : Nat → Option Nat} {mX40_roleFacts : Nat → Option Nat} {mX40_facts : Nat → Int32} {mX40_draft : Nat → Option Nat} {mX40_questions : Nat → Option Nat} {mX40_questionCount : Nat → Int32} {mX40_forbidden : Nat → Option Nat} {mX40_given : Nat → Option Nat} {mX41_first : Nat → Int32} {mX41_second : Nat → Int32} {mX41_names : Nat → Option Nat} {mX41_from : Nat → Option Nat} {mX41_to : Nat → Option Nat} {mX41_n : Nat → Int32} {mX41_codes : Nat → Option Nat} {mX41_least : Nat → Option Nat} {mX41_hasLeast : Nat → Int32} {mX41_others : Nat → Option Nat} {mX41_otherCount : Nat → Int32} {mX41_named : Nat → Option Nat} {mX62_answers : Nat → Int32} {mX62_names : Nat → Option Nat} {mX62_from : Nat → Option Nat} {mX62_to : Nat → Option Nat} {mX62_n : Nat → Int32} {mX62_forms : Nat → Option Nat} {mX62_count : Nat → Int32} {mX62_large : Nat → Int32} {mX62_known : Nat → Int32} {mX85_first : Nat → Int32} {mX85_second : Nat → Int32} {mX85_codes : Nat → Option Nat} (q : Nat) : va_up (cQR ci d kd an ai al ar mX40_kinds mX40_lefts mX40_rights mX40_axioms mX40_classFacts mX40_roleFacts mX40_facts mX40_draft mX40_questions mX40_questionCount mX40_forbidden mX40_given mX41_first mX41_second mX41_names mX41_from mX41_to mX41_n mX41_codes mX41_least mX41_hasLeast mX41_others mX41_otherCount mX41_named mX62_answers mX62_names mX62_from mX62_to mX62_n mX62_forms mX62_count mX62_large mX62_known mX85_first mX85_second mX85_codes) q (.inr (ci 3, [.int 0, .int 0, va_rf none])) = (cQR ci d (va_up kd q 4) an ai al ar mX40_kinds mX40_lefts mX40_rights mX40_axioms mX40_classFacts mX40_roleFacts mX40_facts mX40_draft mX40_questions mX40_questionCount mX40_forbidden mX40_given mX41_first mX41_second mX41_names mX41_from mX41_to mX41_n mX41_codes mX41_least mX41_hasLeast mX41_others mX41_otherCount mX41_named mX62_answers mX62_names mX62_from mX62_to mX62_n mX62_forms mX62_count mX62_large mX62_known (va_up mX85_first q 0) (va_up mX85_second q 0) (va_up mX85_codes q none)) := by
  funext b
  by_cases h : b = q
  · subst h
    rw [va_up_self]
    unfold cQR
    simp only [va_up_self]
  · rw [va_up_ne _ _ h]
    unfold cQR
    simp only [va_up_ne _ _ h]
theorem cQR_5 {ci : Nat → Nat} {d : Nat → ClassId} {kd : Nat → Nat} {an : Nat → Nat} {ai : Nat → Nat → Int32} {al : Nat → Nat → Int64} {ar : Nat → Nat → Option Nat} {mX40_kinds : Nat → Option Nat} {mX40_lefts : Nat → Option Nat} {mX40_rights : Nat → Option Nat} {mX40_axioms : Nat → Int32} {mX40_classFacts : Nat → Option Nat} {mX40_roleFacts : Nat → Option Nat} {mX40_facts : Nat → Int32} {mX40_draft : Nat → Option Nat} {mX40_questions : Nat → Option Nat} {mX40_questionCount : Nat → Int32} {mX40_forbidden : Nat → Option Nat} {mX40_given : Nat → Option Nat} {mX41_first : Nat → Int32} {mX41_second : Nat → Int32} {mX41_names : Nat → Option Nat} {mX41_from : Nat → Option Nat} {mX41_to : Nat → Option Nat} {mX41_n : Nat → Int32} {mX41_codes : Nat → Option Nat} {mX41_least : Nat → Option Nat} {mX41_hasLeast : Nat → Int32} {mX41_others : Nat → Option Nat} {mX41_otherCount : Nat → Int32} {mX41_named : Nat → Option Nat} {mX62_answers : Nat → Int32} {mX62_names : Nat → Option Nat} {mX62_from : Nat → Option Nat} {mX62_to : Nat → Option Nat} {mX62_n : Nat → Int32} {mX62_forms : Nat → Option Nat} {mX62_count : Nat → Int32} {mX62_large : Nat → Int32} {mX62_known : Nat → Int32} {mX85_first : Nat → Int32} {mX85_second : Nat → Int32} {mX85_codes : Nat → Option Nat} {a : Nat} (hk : kd a = 5) : (cQR ci d kd an ai al ar mX40_kinds mX40_lefts mX40_rights mX40_axioms mX40_classFacts mX40_roleFacts mX40_facts mX40_draft mX40_questions mX40_questionCount mX40_forbidden mX40_given mX41_first mX41_second mX41_names mX41_from mX41_to mX41_n mX41_codes mX41_least mX41_hasLeast mX41_others mX41_otherCount mX41_named mX62_answers mX62_names mX62_from mX62_to mX62_n mX62_forms mX62_count mX62_large mX62_known mX85_first mX85_second mX85_codes) a = .inl (d 0, an a, .inl (ai a)) := by unfold cQR; simp only [hk]
theorem cQR_5_s {ci : Nat → Nat} {d : Nat → ClassId} {kd : Nat → Nat} {an : Nat → Nat} {ai : Nat → Nat → Int32} {al : Nat → Nat → Int64} {ar : Nat → Nat → Option Nat} {mX40_kinds : Nat → Option Nat} {mX40_lefts : Nat → Option Nat} {mX40_rights : Nat → Option Nat} {mX40_axioms : Nat → Int32} {mX40_classFacts : Nat → Option Nat} {mX40_roleFacts : Nat → Option Nat} {mX40_facts : Nat → Int32} {mX40_draft : Nat → Option Nat} {mX40_questions : Nat → Option Nat} {mX40_questionCount : Nat → Int32} {mX40_forbidden : Nat → Option Nat} {mX40_given : Nat → Option Nat} {mX41_first : Nat → Int32} {mX41_second : Nat → Int32} {mX41_names : Nat → Option Nat} {mX41_from : Nat → Option Nat} {mX41_to : Nat → Option Nat} {mX41_n : Nat → Int32} {mX41_codes : Nat → Option Nat} {mX41_least : Nat → Option Nat} {mX41_hasLeast : Nat → Int32} {mX41_others : Nat → Option Nat} {mX41_otherCount : Nat → Int32} {mX41_named : Nat → Option Nat} {mX62_answers : Nat → Int32} {mX62_names : Nat → Option Nat} {mX62_from : Nat → Option Nat} {mX62_to : Nat → Option Nat} {mX62_n : Nat → Int32} {mX62_forms : Nat → Option Nat} {mX62_count : Nat → Int32} {mX62_large : Nat → Int32} {mX62_known : Nat → Int32} {mX85_first : Nat → Int32} {mX85_second : Nat → Int32} {mX85_codes : Nat → Option Nat} {a : Nat} {g : Nat → Int32} (hk : kd a = 5) : va_up (cQR ci d kd an ai al ar mX40_kinds mX40_lefts mX40_rights mX40_axioms mX40_classFacts mX40_roleFacts mX40_facts mX40_draft mX40_questions mX40_questionCount mX40_forbidden mX40_given mX41_first mX41_second mX41_names mX41_from mX41_to mX41_n mX41_codes mX41_least mX41_hasLeast mX41_others mX41_otherCount mX41_named mX62_answers mX62_names mX62_from mX62_to mX62_n mX62_forms mX62_count mX62_large mX62_known mX85_first mX85_second mX85_codes) a (.inl (d 0, an a, .inl g)) = (cQR ci d kd an (va_up ai a g) al ar mX40_kinds mX40_lefts mX40_rights mX40_axioms mX40_classFacts mX40_roleFacts mX40_facts mX40_draft mX40_questions mX40_questionCount mX40_forbidden mX40_given mX41_first mX41_second mX41_names mX41_from mX41_to mX41_n mX41_codes mX41_least mX41_hasLeast mX41_others mX41_otherCount mX41_named mX62_answers mX62_names mX62_from mX62_to mX62_n mX62_forms mX62_count mX62_large mX62_known mX85_first mX85_second mX85_codes) := by
  funext b
  by_cases h : b = a
  · subst h
    rw [va_up_self]
    unfold cQR
    rw [hk]
    simp only [va_up_self]
  · rw [va_up_ne _ _ h]
    unfold cQR
    simp only [va_up_ne _ _ h]
theorem cQR_5_n {ci : Nat → Nat} {d : Nat → ClassId} {kd : Nat → Nat} {an : Nat → Nat} {ai : Nat → Nat → Int32} {al : Nat → Nat → Int64} {ar : Nat → Nat → Option Nat} {mX40_kinds : Nat → Option Nat} {mX40_lefts : Nat → Option Nat} {mX40_rights : Nat → Option Nat} {mX40_axioms : Nat → Int32} {mX40_classFacts : Nat → Option Nat} {mX40_roleFacts : Nat → Option Nat} {mX40_facts : Nat → Int32} {mX40_draft : Nat → Option Nat} {mX40_questions : Nat → Option Nat} {mX40_questionCount : Nat → Int32} {mX40_forbidden : Nat → Option Nat} {mX40_given : Nat → Option Nat} {mX41_first : Nat → Int32} {mX41_second : Nat → Int32} {mX41_names : Nat → Option Nat} {mX41_from : Nat → Option Nat} {mX41_to : Nat → Option Nat} {mX41_n : Nat → Int32} {mX41_codes : Nat → Option Nat} {mX41_least : Nat → Option Nat} {mX41_hasLeast : Nat → Int32} {mX41_others : Nat → Option Nat} {mX41_otherCount : Nat → Int32} {mX41_named : Nat → Option Nat} {mX62_answers : Nat → Int32} {mX62_names : Nat → Option Nat} {mX62_from : Nat → Option Nat} {mX62_to : Nat → Option Nat} {mX62_n : Nat → Int32} {mX62_forms : Nat → Option Nat} {mX62_count : Nat → Int32} {mX62_large : Nat → Int32} {mX62_known : Nat → Int32} {mX85_first : Nat → Int32} {mX85_second : Nat → Int32} {mX85_codes : Nat → Option Nat} (n q : Nat) : va_up (cQR ci d kd an ai al ar mX40_kinds mX40_lefts mX40_rights mX40_axioms mX40_classFacts mX40_roleFacts mX40_facts mX40_draft mX40_questions mX40_questionCount mX40_forbidden mX40_given mX41_first mX41_second mX41_names mX41_from mX41_to mX41_n mX41_codes mX41_least mX41_hasLeast mX41_others mX41_otherCount mX41_named mX62_answers mX62_names mX62_from mX62_to mX62_n mX62_forms mX62_count mX62_large mX62_known mX85_first mX85_second mX85_codes) q (.inl (d 0, n, .inl (fun _ => 0))) = (cQR ci d (va_up kd q 5) (va_up an q n) (va_up ai q (fun _ => 0)) al ar mX40_kinds mX40_lefts mX40_rights mX40_axioms mX40_classFacts mX40_roleFacts mX40_facts mX40_draft mX40_questions mX40_questionCount mX40_forbidden mX40_given mX41_first mX41_second mX41_names mX41_from mX41_to mX41_n mX41_codes mX41_least mX41_hasLeast mX41_others mX41_otherCount mX41_named mX62_answers mX62_names mX62_from mX62_to mX62_n mX62_forms mX62_count mX62_large mX62_known mX85_first mX85_second mX85_codes) := by
  funext b
  by_cases h : b = q
  · subst h
    rw [va_up_self]
    unfold cQR
    simp only [va_up_self]
  · rw [va_up_ne _ _ h]
    unfold cQR
    simp only [va_up_ne _ _ h]
theorem cQR_6 {ci : Nat → Nat} {d : Nat → ClassId} {kd : Nat → Nat} {an : Nat → Nat} {ai : Nat → Nat → Int32} {al : Nat → Nat → Int64} {ar : Nat → Nat → Option Nat} {mX40_kinds : Nat → Option Nat} {mX40_lefts : Nat → Option Nat} {mX40_rights : Nat → Option Nat} {mX40_axioms : Nat → Int32} {mX40_classFacts : Nat → Option Nat} {mX40_roleFacts : Nat → Option Nat} {mX40_facts : Nat → Int32} {mX40_draft : Nat → Option Nat} {mX40_questions : Nat → Option Nat} {mX40_questionCount : Nat → Int32} {mX40_forbidden : Nat → Option Nat} {mX40_given : Nat → Option Nat} {mX41_first : Nat → Int32} {mX41_second : Nat → Int32} {mX41_names : Nat → Option Nat} {mX41_from : Nat → Option Nat} {mX41_to : Nat → Option Nat} {mX41_n : Nat → Int32} {mX41_codes : Nat → Option Nat} {mX41_least : Nat → Option Nat} {mX41_hasLeast : Nat → Int32} {mX41_others : Nat → Option Nat} {mX41_otherCount : Nat → Int32} {mX41_named : Nat → Option Nat} {mX62_answers : Nat → Int32} {mX62_names : Nat → Option Nat} {mX62_from : Nat → Option Nat} {mX62_to : Nat → Option Nat} {mX62_n : Nat → Int32} {mX62_forms : Nat → Option Nat} {mX62_count : Nat → Int32} {mX62_large : Nat → Int32} {mX62_known : Nat → Int32} {mX85_first : Nat → Int32} {mX85_second : Nat → Int32} {mX85_codes : Nat → Option Nat} {a : Nat} (hk : kd a = 6) : (cQR ci d kd an ai al ar mX40_kinds mX40_lefts mX40_rights mX40_axioms mX40_classFacts mX40_roleFacts mX40_facts mX40_draft mX40_questions mX40_questionCount mX40_forbidden mX40_given mX41_first mX41_second mX41_names mX41_from mX41_to mX41_n mX41_codes mX41_least mX41_hasLeast mX41_others mX41_otherCount mX41_named mX62_answers mX62_names mX62_from mX62_to mX62_n mX62_forms mX62_count mX62_large mX62_known mX85_first mX85_second mX85_codes) a = .inl (d 1, an a, .inl (ai a)) := by unfold cQR; simp only [hk]
theorem cQR_6_s {ci : Nat → Nat} {d : Nat → ClassId} {kd : Nat → Nat} {an : Nat → Nat} {ai : Nat → Nat → Int32} {al : Nat → Nat → Int64} {ar : Nat → Nat → Option Nat} {mX40_kinds : Nat → Option Nat} {mX40_lefts : Nat → Option Nat} {mX40_rights : Nat → Option Nat} {mX40_axioms : Nat → Int32} {mX40_classFacts : Nat → Option Nat} {mX40_roleFacts : Nat → Option Nat} {mX40_facts : Nat → Int32} {mX40_draft : Nat → Option Nat} {mX40_questions : Nat → Option Nat} {mX40_questionCount : Nat → Int32} {mX40_forbidden : Nat → Option Nat} {mX40_given : Nat → Option Nat} {mX41_first : Nat → Int32} {mX41_second : Nat → Int32} {mX41_names : Nat → Option Nat} {mX41_from : Nat → Option Nat} {mX41_to : Nat → Option Nat} {mX41_n : Nat → Int32} {mX41_codes : Nat → Option Nat} {mX41_least : Nat → Option Nat} {mX41_hasLeast : Nat → Int32} {mX41_others : Nat → Option Nat} {mX41_otherCount : Nat → Int32} {mX41_named : Nat → Option Nat} {mX62_answers : Nat → Int32} {mX62_names : Nat → Option Nat} {mX62_from : Nat → Option Nat} {mX62_to : Nat → Option Nat} {mX62_n : Nat → Int32} {mX62_forms : Nat → Option Nat} {mX62_count : Nat → Int32} {mX62_large : Nat → Int32} {mX62_known : Nat → Int32} {mX85_first : Nat → Int32} {mX85_second : Nat → Int32} {mX85_codes : Nat → Option Nat} {a : Nat} {g : Nat → Int32} (hk : kd a = 6) : va_up (cQR ci d kd an ai al ar mX40_kinds mX40_lefts mX40_rights mX40_axioms mX40_classFacts mX40_roleFacts mX40_facts mX40_draft mX40_questions mX40_questionCount mX40_forbidden mX40_given mX41_first mX41_second mX41_names mX41_from mX41_to mX41_n mX41_codes mX41_least mX41_hasLeast mX41_others mX41_otherCount mX41_named mX62_answers mX62_names mX62_from mX62_to mX62_n mX62_forms mX62_count mX62_large mX62_known mX85_first mX85_second mX85_codes) a (.inl (d 1, an a, .inl g)) = (cQR ci d kd an (va_up ai a g) al ar mX40_kinds mX40_lefts mX40_rights mX40_axioms mX40_classFacts mX40_roleFacts mX40_facts mX40_draft mX40_questions mX40_questionCount mX40_forbidden mX40_given mX41_first mX41_second mX41_names mX41_from mX41_to mX41_n mX41_codes mX41_least mX41_hasLeast mX41_others mX41_otherCount mX41_named mX62_answers mX62_names mX62_from mX62_to mX62_n mX62_forms mX62_count mX62_large mX62_known mX85_first mX85_second mX85_codes) := by
  funext b
  by_cases h : b = a
  · subst h
    rw [va_up_self]
    unfold cQR
    rw [hk]
    simp only [va_up_self]
  · rw [va_up_ne _ _ h]
    unfold cQR
    simp only [va_up_ne _ _ h]
theorem cQR_6_n {ci : Nat → Nat} {d : Nat → ClassId} {kd : Nat → Nat} {an : Nat → Nat} {ai : Nat → Nat → Int32} {al : Nat → Nat → Int64} {ar : Nat → Nat → Option Nat} {mX40_kinds : Nat → Option Nat} {mX40_lefts : Nat → Option Nat} {mX40_rights : Nat → Option Nat} {mX40_axioms : Nat → Int32} {mX40_classFacts : Nat → Option Nat} {mX40_roleFacts : Nat → Option Nat} {mX40_facts : Nat → Int32} {mX40_draft : Nat → Option Nat} {mX40_questions : Nat → Option Nat} {mX40_questionCount : Nat → Int32} {mX40_forbidden : Nat → Option Nat} {mX40_given : Nat → Option Nat} {mX41_first : Nat → Int32} {mX41_second : Nat → Int32} {mX41_names : Nat → Option Nat} {mX41_from : Nat → Option Nat} {mX41_to : Nat → Option Nat} {mX41_n : Nat → Int32} {mX41_codes : Nat → Option Nat} {mX41_least : Nat → Option Nat} {mX41_hasLeast : Nat → Int32} {mX41_others : Nat → Option Nat} {mX41_otherCount : Nat → Int32} {mX41_named : Nat → Option Nat} {mX62_answers : Nat → Int32} {mX62_names : Nat → Option Nat} {mX62_from : Nat → Option Nat} {mX62_to : Nat → Option Nat} {mX62_n : Nat → Int32} {mX62_forms : Nat → Option Nat} {mX62_count : Nat → Int32} {mX62_large : Nat → Int32} {mX62_known : Nat → Int32} {mX85_first : Nat → Int32} {mX85_second : Nat → Int32} {mX85_codes : Nat → Option Nat} (n q : Nat) : va_up (cQR ci d kd an ai al ar mX40_kinds mX40_lefts mX40_rights mX40_axioms mX40_classFacts mX40_roleFacts mX40_facts mX40_draft mX40_questions mX40_questionCount mX40_forbidden mX40_given mX41_first mX41_second mX41_names mX41_from mX41_to mX41_n mX41_codes mX41_least mX41_hasLeast mX41_others mX41_otherCount mX41_named mX62_answers mX62_names mX62_from mX62_to mX62_n mX62_forms mX62_count mX62_large mX62_known mX85_first mX85_second mX85_codes) q (.inl (d 1, n, .inl (fun _ => 0))) = (cQR ci d (va_up kd q 6) (va_up an q n) (va_up ai q (fun _ => 0)) al ar mX40_kinds mX40_lefts mX40_rights mX40_axioms mX40_classFacts mX40_roleFacts mX40_facts mX40_draft mX40_questions mX40_questionCount mX40_forbidden mX40_given mX41_first mX41_second mX41_names mX41_from mX41_to mX41_n mX41_codes mX41_least mX41_hasLeast mX41_others mX41_otherCount mX41_named mX62_answers mX62_names mX62_from mX62_to mX62_n mX62_forms mX62_count mX62_large mX62_known mX85_first mX85_second mX85_codes) := by
  funext b
  by_cases h : b = q
  · subst h
    rw [va_up_self]
    unfold cQR
    simp only [va_up_self]
  · rw [va_up_ne _ _ h]
    unfold cQR
    simp only [va_up_ne _ _ h]
theorem cQR_7 {ci : Nat → Nat} {d : Nat → ClassId} {kd : Nat → Nat} {an : Nat → Nat} {ai : Nat → Nat → Int32} {al : Nat → Nat → Int64} {ar : Nat → Nat → Option Nat} {mX40_kinds : Nat → Option Nat} {mX40_lefts : Nat → Option Nat} {mX40_rights : Nat → Option Nat} {mX40_axioms : Nat → Int32} {mX40_classFacts : Nat → Option Nat} {mX40_roleFacts : Nat → Option Nat} {mX40_facts : Nat → Int32} {mX40_draft : Nat → Option Nat} {mX40_questions : Nat → Option Nat} {mX40_questionCount : Nat → Int32} {mX40_forbidden : Nat → Option Nat} {mX40_given : Nat → Option Nat} {mX41_first : Nat → Int32} {mX41_second : Nat → Int32} {mX41_names : Nat → Option Nat} {mX41_from : Nat → Option Nat} {mX41_to : Nat → Option Nat} {mX41_n : Nat → Int32} {mX41_codes : Nat → Option Nat} {mX41_least : Nat → Option Nat} {mX41_hasLeast : Nat → Int32} {mX41_others : Nat → Option Nat} {mX41_otherCount : Nat → Int32} {mX41_named : Nat → Option Nat} {mX62_answers : Nat → Int32} {mX62_names : Nat → Option Nat} {mX62_from : Nat → Option Nat} {mX62_to : Nat → Option Nat} {mX62_n : Nat → Int32} {mX62_forms : Nat → Option Nat} {mX62_count : Nat → Int32} {mX62_large : Nat → Int32} {mX62_known : Nat → Int32} {mX85_first : Nat → Int32} {mX85_second : Nat → Int32} {mX85_codes : Nat → Option Nat} {a : Nat} (hk : kd a = 7) : (cQR ci d kd an ai al ar mX40_kinds mX40_lefts mX40_rights mX40_axioms mX40_classFacts mX40_roleFacts mX40_facts mX40_draft mX40_questions mX40_questionCount mX40_forbidden mX40_given mX41_first mX41_second mX41_names mX41_from mX41_to mX41_n mX41_codes mX41_least mX41_hasLeast mX41_others mX41_otherCount mX41_named mX62_answers mX62_names mX62_from mX62_to mX62_n mX62_forms mX62_count mX62_large mX62_known mX85_first mX85_second mX85_codes) a = .inl (d 2, an a, .inr (.inr (.inr (.inr (ar a))))) := by unfold cQR; simp only [hk]
theorem cQR_7_s {ci : Nat → Nat} {d : Nat → ClassId} {kd : Nat → Nat} {an : Nat → Nat} {ai : Nat → Nat → Int32} {al : Nat → Nat → Int64} {ar : Nat → Nat → Option Nat} {mX40_kinds : Nat → Option Nat} {mX40_lefts : Nat → Option Nat} {mX40_rights : Nat → Option Nat} {mX40_axioms : Nat → Int32} {mX40_classFacts : Nat → Option Nat} {mX40_roleFacts : Nat → Option Nat} {mX40_facts : Nat → Int32} {mX40_draft : Nat → Option Nat} {mX40_questions : Nat → Option Nat} {mX40_questionCount : Nat → Int32} {mX40_forbidden : Nat → Option Nat} {mX40_given : Nat → Option Nat} {mX41_first : Nat → Int32} {mX41_second : Nat → Int32} {mX41_names : Nat → Option Nat} {mX41_from : Nat → Option Nat} {mX41_to : Nat → Option Nat} {mX41_n : Nat → Int32} {mX41_codes : Nat → Option Nat} {mX41_least : Nat → Option Nat} {mX41_hasLeast : Nat → Int32} {mX41_others : Nat → Option Nat} {mX41_otherCount : Nat → Int32} {mX41_named : Nat → Option Nat} {mX62_answers : Nat → Int32} {mX62_names : Nat → Option Nat} {mX62_from : Nat → Option Nat} {mX62_to : Nat → Option Nat} {mX62_n : Nat → Int32} {mX62_forms : Nat → Option Nat} {mX62_count : Nat → Int32} {mX62_large : Nat → Int32} {mX62_known : Nat → Int32} {mX85_first : Nat → Int32} {mX85_second : Nat → Int32} {mX85_codes : Nat → Option Nat} {a : Nat} {g : Nat → Option Nat} (hk : kd a = 7) : va_up (cQR ci d kd an ai al ar mX40_kinds mX40_lefts mX40_rights mX40_axioms mX40_classFacts mX40_roleFacts mX40_facts mX40_draft mX40_questions mX40_questionCount mX40_forbidden mX40_given mX41_first mX41_second mX41_names mX41_from mX41_to mX41_n mX41_codes mX41_least mX41_hasLeast mX41_others mX41_otherCount mX41_named mX62_answers mX62_names mX62_from mX62_to mX62_n mX62_forms mX62_count mX62_large mX62_known mX85_first mX85_second mX85_codes) a (.inl (d 2, an a, .inr (.inr (.inr (.inr g))))) = (cQR ci d kd an ai al (va_up ar a g) mX40_kinds mX40_lefts mX40_rights mX40_axioms mX40_classFacts mX40_roleFacts mX40_facts mX40_draft mX40_questions mX40_questionCount mX40_forbidden mX40_given mX41_first mX41_second mX41_names mX41_from mX41_to mX41_n mX41_codes mX41_least mX41_hasLeast mX41_others mX41_otherCount mX41_named mX62_answers mX62_names mX62_from mX62_to mX62_n mX62_forms mX62_count mX62_large mX62_known mX85_first mX85_second mX85_codes) := by
  funext b
  by_cases h : b = a
  · subst h
    rw [va_up_self]
    unfold cQR
    rw [hk]
    simp only [va_up_self]
  · rw [va_up_ne _ _ h]
    unfold cQR
    simp only [va_up_ne _ _ h]
theorem cQR_7_n {ci : Nat → Nat} {d : Nat → ClassId} {kd : Nat → Nat} {an : Nat → Nat} {ai : Nat → Nat → Int32} {al : Nat → Nat → Int64} {ar : Nat → Nat → Option Nat} {mX40_kinds : Nat → Option Nat} {mX40_lefts : Nat → Option Nat} {mX40_rights : Nat → Option Nat} {mX40_axioms : Nat → Int32} {mX40_classFacts : Nat → Option Nat} {mX40_roleFacts : Nat → Option Nat} {mX40_facts : Nat → Int32} {mX40_draft : Nat → Option Nat} {mX40_questions : Nat → Option Nat} {mX40_questionCount : Nat → Int32} {mX40_forbidden : Nat → Option Nat} {mX40_given : Nat → Option Nat} {mX41_first : Nat → Int32} {mX41_second : Nat → Int32} {mX41_names : Nat → Option Nat} {mX41_from : Nat → Option Nat} {mX41_to : Nat → Option Nat} {mX41_n : Nat → Int32} {mX41_codes : Nat → Option Nat} {mX41_least : Nat → Option Nat} {mX41_hasLeast : Nat → Int32} {mX41_others : Nat → Option Nat} {mX41_otherCount : Nat → Int32} {mX41_named : Nat → Option Nat} {mX62_answers : Nat → Int32} {mX62_names : Nat → Option Nat} {mX62_from : Nat → Option Nat} {mX62_to : Nat → Option Nat} {mX62_n : Nat → Int32} {mX62_forms : Nat → Option Nat} {mX62_count : Nat → Int32} {mX62_large : Nat → Int32} {mX62_known : Nat → Int32} {mX85_first : Nat → Int32} {mX85_second : Nat → Int32} {mX85_codes : Nat → Option Nat} (n q : Nat) : va_up (cQR ci d kd an ai al ar mX40_kinds mX40_lefts mX40_rights mX40_axioms mX40_classFacts mX40_roleFacts mX40_facts mX40_draft mX40_questions mX40_questionCount mX40_forbidden mX40_given mX41_first mX41_second mX41_names mX41_from mX41_to mX41_n mX41_codes mX41_least mX41_hasLeast mX41_others mX41_otherCount mX41_named mX62_answers mX62_names mX62_from mX62_to mX62_n mX62_forms mX62_count mX62_large mX62_known mX85_first mX85_second mX85_codes) q (.inl (d 2, n, .inr (.inr (.inr (.inr (fun _ => none)))))) = (cQR ci d (va_up kd q 7) (va_up an q n) ai al (va_up ar q (fun _ => none)) mX40_kinds mX40_lefts mX40_rights mX40_axioms mX40_classFacts mX40_roleFacts mX40_facts mX40_draft mX40_questions mX40_questionCount mX40_forbidden mX40_given mX41_first mX41_second mX41_names mX41_from mX41_to mX41_n mX41_codes mX41_least mX41_hasLeast mX41_others mX41_otherCount mX41_named mX62_answers mX62_names mX62_from mX62_to mX62_n mX62_forms mX62_count mX62_large mX62_known mX85_first mX85_second mX85_codes) := by
  funext b
  by_cases h : b = q
  · subst h
    rw [va_up_self]
    unfold cQR
    simp only [va_up_self]
  · rw [va_up_ne _ _ h]
    unfold cQR
    simp only [va_up_ne _ _ h]
theorem cQR_8 {ci : Nat → Nat} {d : Nat → ClassId} {kd : Nat → Nat} {an : Nat → Nat} {ai : Nat → Nat → Int32} {al : Nat → Nat → Int64} {ar : Nat → Nat → Option Nat} {mX40_kinds : Nat → Option Nat} {mX40_lefts : Nat → Option Nat} {mX40_rights : Nat → Option Nat} {mX40_axioms : Nat → Int32} {mX40_classFacts : Nat → Option Nat} {mX40_roleFacts : Nat → Option Nat} {mX40_facts : Nat → Int32} {mX40_draft : Nat → Option Nat} {mX40_questions : Nat → Option Nat} {mX40_questionCount : Nat → Int32} {mX40_forbidden : Nat → Option Nat} {mX40_given : Nat → Option Nat} {mX41_first : Nat → Int32} {mX41_second : Nat → Int32} {mX41_names : Nat → Option Nat} {mX41_from : Nat → Option Nat} {mX41_to : Nat → Option Nat} {mX41_n : Nat → Int32} {mX41_codes : Nat → Option Nat} {mX41_least : Nat → Option Nat} {mX41_hasLeast : Nat → Int32} {mX41_others : Nat → Option Nat} {mX41_otherCount : Nat → Int32} {mX41_named : Nat → Option Nat} {mX62_answers : Nat → Int32} {mX62_names : Nat → Option Nat} {mX62_from : Nat → Option Nat} {mX62_to : Nat → Option Nat} {mX62_n : Nat → Int32} {mX62_forms : Nat → Option Nat} {mX62_count : Nat → Int32} {mX62_large : Nat → Int32} {mX62_known : Nat → Int32} {mX85_first : Nat → Int32} {mX85_second : Nat → Int32} {mX85_codes : Nat → Option Nat} {a : Nat} (hk : kd a = 8) : (cQR ci d kd an ai al ar mX40_kinds mX40_lefts mX40_rights mX40_axioms mX40_classFacts mX40_roleFacts mX40_facts mX40_draft mX40_questions mX40_questionCount mX40_forbidden mX40_given mX41_first mX41_second mX41_names mX41_from mX41_to mX41_n mX41_codes mX41_least mX41_hasLeast mX41_others mX41_otherCount mX41_named mX62_answers mX62_names mX62_from mX62_to mX62_n mX62_forms mX62_count mX62_large mX62_known mX85_first mX85_second mX85_codes) a = .inl (d 3, an a, .inr (.inr (.inr (.inr (ar a))))) := by unfold cQR; simp only [hk]
theorem cQR_8_s {ci : Nat → Nat} {d : Nat → ClassId} {kd : Nat → Nat} {an : Nat → Nat} {ai : Nat → Nat → Int32} {al : Nat → Nat → Int64} {ar : Nat → Nat → Option Nat} {mX40_kinds : Nat → Option Nat} {mX40_lefts : Nat → Option Nat} {mX40_rights : Nat → Option Nat} {mX40_axioms : Nat → Int32} {mX40_classFacts : Nat → Option Nat} {mX40_roleFacts : Nat → Option Nat} {mX40_facts : Nat → Int32} {mX40_draft : Nat → Option Nat} {mX40_questions : Nat → Option Nat} {mX40_questionCount : Nat → Int32} {mX40_forbidden : Nat → Option Nat} {mX40_given : Nat → Option Nat} {mX41_first : Nat → Int32} {mX41_second : Nat → Int32} {mX41_names : Nat → Option Nat} {mX41_from : Nat → Option Nat} {mX41_to : Nat → Option Nat} {mX41_n : Nat → Int32} {mX41_codes : Nat → Option Nat} {mX41_least : Nat → Option Nat} {mX41_hasLeast : Nat → Int32} {mX41_others : Nat → Option Nat} {mX41_otherCount : Nat → Int32} {mX41_named : Nat → Option Nat} {mX62_answers : Nat → Int32} {mX62_names : Nat → Option Nat} {mX62_from : Nat → Option Nat} {mX62_to : Nat → Option Nat} {mX62_n : Nat → Int32} {mX62_forms : Nat → Option Nat} {mX62_count : Nat → Int32} {mX62_large : Nat → Int32} {mX62_known : Nat → Int32} {mX85_first : Nat → Int32} {mX85_second : Nat → Int32} {mX85_codes : Nat → Option Nat} {a : Nat} {g : Nat → Option Nat} (hk : kd a = 8) : va_up (cQR ci d kd an ai al ar mX40_kinds mX40_lefts mX40_rights mX40_axioms mX40_classFacts mX40_roleFacts mX40_facts mX40_draft mX40_questions mX40_questionCount mX40_forbidden mX40_given mX41_first mX41_second mX41_names mX41_from mX41_to mX41_n mX41_codes mX41_least mX41_hasLeast mX41_others mX41_otherCount mX41_named mX62_answers mX62_names mX62_from mX62_to mX62_n mX62_forms mX62_count mX62_large mX62_known mX85_first mX85_second mX85_codes) a (.inl (d 3, an a, .inr (.inr (.inr (.inr g))))) = (cQR ci d kd an ai al (va_up ar a g) mX40_kinds mX40_lefts mX40_rights mX40_axioms mX40_classFacts mX40_roleFacts mX40_facts mX40_draft mX40_questions mX40_questionCount mX40_forbidden mX40_given mX41_first mX41_second mX41_names mX41_from mX41_to mX41_n mX41_codes mX41_least mX41_hasLeast mX41_others mX41_otherCount mX41_named mX62_answers mX62_names mX62_from mX62_to mX62_n mX62_forms mX62_count mX62_large mX62_known mX85_first mX85_second mX85_codes) := by
  funext b
  by_cases h : b = a
  · subst h
    rw [va_up_self]
    unfold cQR
    rw [hk]
    simp only [va_up_self]
  · rw [va_up_ne _ _ h]
    unfold cQR
    simp only [va_up_ne _ _ h]
theorem cQR_8_n {ci : Nat → Nat} {d : Nat → ClassId} {kd : Nat → Nat} {an : Nat → Nat} {ai : Nat → Nat → Int32} {al : Nat → Nat → Int64} {ar : Nat → Nat → Option Nat} {mX40_kinds : Nat → Option Nat} {mX40_lefts : Nat → Option Nat} {mX40_rights : Nat → Option Nat} {mX40_axioms : Nat → Int32} {mX40_classFacts : Nat → Option Nat} {mX40_roleFacts : Nat → Option Nat} {mX40_facts : Nat → Int32} {mX40_draft : Nat → Option Nat} {mX40_questions : Nat → Option Nat} {mX40_questionCount : Nat → Int32} {mX40_forbidden : Nat → Option Nat} {mX40_given : Nat → Option Nat} {mX41_first : Nat → Int32} {mX41_second : Nat → Int32} {mX41_names : Nat → Option Nat} {mX41_from : Nat → Option Nat} {mX41_to : Nat → Option Nat} {mX41_n : Nat → Int32} {mX41_codes : Nat → Option Nat} {mX41_least : Nat → Option Nat} {mX41_hasLeast : Nat → Int32} {mX41_others : Nat → Option Nat} {mX41_otherCount : Nat → Int32} {mX41_named : Nat → Option Nat} {mX62_answers : Nat → Int32} {mX62_names : Nat → Option Nat} {mX62_from : Nat → Option Nat} {mX62_to : Nat → Option Nat} {mX62_n : Nat → Int32} {mX62_forms : Nat → Option Nat} {mX62_count : Nat → Int32} {mX62_large : Nat → Int32} {mX62_known : Nat → Int32} {mX85_first : Nat → Int32} {mX85_second : Nat → Int32} {mX85_codes : Nat → Option Nat} (n q : Nat) : va_up (cQR ci d kd an ai al ar mX40_kinds mX40_lefts mX40_rights mX40_axioms mX40_classFacts mX40_roleFacts mX40_facts mX40_draft mX40_questions mX40_questionCount mX40_forbidden mX40_given mX41_first mX41_second mX41_names mX41_from mX41_to mX41_n mX41_codes mX41_least mX41_hasLeast mX41_others mX41_otherCount mX41_named mX62_answers mX62_names mX62_from mX62_to mX62_n mX62_forms mX62_count mX62_large mX62_known mX85_first mX85_second mX85_codes) q (.inl (d 3, n, .inr (.inr (.inr (.inr (fun _ => none)))))) = (cQR ci d (va_up kd q 8) (va_up an q n) ai al (va_up ar q (fun _ => none)) mX40_kinds mX40_lefts mX40_rights mX40_axioms mX40_classFacts mX40_roleFacts mX40_facts mX40_draft mX40_questions mX40_questionCount mX40_forbidden mX40_given mX41_first mX41_second mX41_names mX41_from mX41_to mX41_n mX41_codes mX41_least mX41_hasLeast mX41_others mX41_otherCount mX41_named mX62_answers mX62_names mX62_from mX62_to mX62_n mX62_forms mX62_count mX62_large mX62_known mX85_first mX85_second mX85_codes) := by
  funext b
  by_cases h : b = q
  · subst h
    rw [va_up_self]
    unfold cQR
    simp only [va_up_self]
  · rw [va_up_ne _ _ h]
    unfold cQR
    simp only [va_up_ne _ _ h]
