/-! room CS (printed by tools/zgen2.py) -/
set_option maxRecDepth 100000
def RX29 : String := "KnowHouse$ClassifySort"
def TX29 : u_T := fun k => match k with
  | 0 => ("KnowHouse$ClassifySort", "axioms", "Ljava/util/ArrayList;", true)
  | 1 => ("KnowHouse$ClassifySort", "reasoner", "LKnowHouse$ClassifySort$Reasoner;", true)
  | 2 => ("KnowHouse$ClassifySort", "classes", "I", false)
  | 3 => ("KnowHouse$ClassifySort", "things", "[I", true)
  | 4 => ("KnowHouse$ClassifySort", "thingCount", "I", false)
  | 5 => ("KnowHouse$ClassifySort", "fuel", "I", false)
  | 6 => ("KnowHouse$ClassifySort", "above", "[I", true)
  | 7 => ("KnowHouse$ClassifySort", "not", "[I", true)
  | 8 => ("KnowHouse$ClassifySort", "open", "[I", true)
  | 9 => ("KnowHouse$ClassifySort", "under", "[I", true)
  | 10 => ("KnowHouse$ClassifySort", "sorted", "Z", false)
  | 11 => ("KnowHouse$ClassifySort", "placed", "I", false)
  | 12 => ("KnowHouse$ClassifySort", "empties", "I", false)
  | _ => ("KnowHouse$ClassifySort", "asked", "I", false)
def tyX29 : Nat → FieldType := fun k => match k with
  | 0 => .object "java/util/ArrayList"
  | 1 => .object "KnowHouse$ClassifySort$Reasoner"
  | 2 => .int
  | 3 => .array .int
  | 4 => .int
  | 5 => .int
  | 6 => .array .int
  | 7 => .array .int
  | 8 => .array .int
  | 9 => .array .int
  | 10 => .boolean
  | 11 => .int
  | 12 => .int
  | _ => .int
abbrev wsX290 : List Cond := u_ws RX29 TX29 14
theorem nmX29 : ∀ a, a < 14 → ∀ b, b < 14 → a ≠ b → (TX29 a).2.1 ≠ (TX29 b).2.1 := by decide +kernel
theorem tyX29_ok : ∀ k, k < 14 → parseFieldDescriptor (TX29 k).2.2.1 = some (tyX29 k) := by decide +kernel
abbrev cX29_init : ByteArray := prog_7_method_1_code
def yX29_init : MethodName := ⟨RX29, "<init>", "()V"⟩
theorem dX29_init_0 : decode cX29_init 0 = .ok (.aload_n 0, 1) := by decide +kernel
theorem dX29_init_1 : decode cX29_init 1 = .ok (.invokespecial 1, 3) := by decide +kernel
theorem dX29_init_4 : decode cX29_init 4 = .ok (.aload_n 0, 1) := by decide +kernel
theorem dX29_init_5 : decode cX29_init 5 = .ok (.new 7, 3) := by decide +kernel
theorem dX29_init_8 : decode cX29_init 8 = .ok (.dup, 1) := by decide +kernel
theorem dX29_init_9 : decode cX29_init 9 = .ok (.invokespecial 9, 3) := by decide +kernel
theorem dX29_init_12 : decode cX29_init 12 = .ok (.putfield 10, 3) := by decide +kernel
theorem dX29_init_15 : decode cX29_init 15 = .ok (.aload_n 0, 1) := by decide +kernel
theorem dX29_init_16 : decode cX29_init 16 = .ok (.new 16, 3) := by decide +kernel
theorem dX29_init_19 : decode cX29_init 19 = .ok (.dup, 1) := by decide +kernel
theorem dX29_init_20 : decode cX29_init 20 = .ok (.aload_n 0, 1) := by decide +kernel
theorem dX29_init_21 : decode cX29_init 21 = .ok (.invokespecial 18, 3) := by decide +kernel
theorem dX29_init_24 : decode cX29_init 24 = .ok (.putfield 21, 3) := by decide +kernel
theorem dX29_init_27 : decode cX29_init 27 = .ok (.aload_n 0, 1) := by decide +kernel
theorem dX29_init_28 : decode cX29_init 28 = .ok (.bipush 8, 2) := by decide +kernel
theorem dX29_init_30 : decode cX29_init 30 = .ok (.newarray .int, 2) := by decide +kernel
theorem dX29_init_32 : decode cX29_init 32 = .ok (.putfield 25, 3) := by decide +kernel
theorem dX29_init_35 : decode cX29_init 35 = .ok (.aload_n 0, 1) := by decide +kernel
theorem dX29_init_36 : decode cX29_init 36 = .ok (.bipush 20, 2) := by decide +kernel
theorem dX29_init_38 : decode cX29_init 38 = .ok (.putfield 29, 3) := by decide +kernel
theorem dX29_init_41 : decode cX29_init 41 = .ok (.aload_n 0, 1) := by decide +kernel
theorem dX29_init_42 : decode cX29_init 42 = .ok (.bipush 21, 2) := by decide +kernel
theorem dX29_init_44 : decode cX29_init 44 = .ok (.newarray .int, 2) := by decide +kernel
theorem dX29_init_46 : decode cX29_init 46 = .ok (.putfield 33, 3) := by decide +kernel
theorem dX29_init_49 : decode cX29_init 49 = .ok (.aload_n 0, 1) := by decide +kernel
theorem dX29_init_50 : decode cX29_init 50 = .ok (.bipush 21, 2) := by decide +kernel
theorem dX29_init_52 : decode cX29_init 52 = .ok (.newarray .int, 2) := by decide +kernel
theorem dX29_init_54 : decode cX29_init 54 = .ok (.putfield 36, 3) := by decide +kernel
theorem dX29_init_57 : decode cX29_init 57 = .ok (.aload_n 0, 1) := by decide +kernel
theorem dX29_init_58 : decode cX29_init 58 = .ok (.bipush 21, 2) := by decide +kernel
theorem dX29_init_60 : decode cX29_init 60 = .ok (.newarray .int, 2) := by decide +kernel
theorem dX29_init_62 : decode cX29_init 62 = .ok (.putfield 39, 3) := by decide +kernel
theorem dX29_init_65 : decode cX29_init 65 = .ok (.aload_n 0, 1) := by decide +kernel
theorem dX29_init_66 : decode cX29_init 66 = .ok (.bipush 21, 2) := by decide +kernel
theorem dX29_init_68 : decode cX29_init 68 = .ok (.newarray .int, 2) := by decide +kernel
theorem dX29_init_70 : decode cX29_init 70 = .ok (.putfield 42, 3) := by decide +kernel
theorem dX29_init_73 : decode cX29_init 73 = .ok (.aload_n 0, 1) := by decide +kernel
theorem dX29_init_74 : decode cX29_init 74 = .ok (.getfield 33, 3) := by decide +kernel
theorem dX29_init_77 : decode cX29_init 77 = .ok (.bipush 20, 2) := by decide +kernel
theorem dX29_init_79 : decode cX29_init 79 = .ok (.ldc 45, 2) := by decide +kernel
theorem dX29_init_81 : decode cX29_init 81 = .ok (.iastore, 1) := by decide +kernel
theorem dX29_init_82 : decode cX29_init 82 = .ok (.return_, 1) := by decide +kernel
abbrev cX29_axiom : ByteArray := prog_7_method_10_code
def yX29_axiom : MethodName := ⟨RX29, "axiom", "(III)I"⟩
theorem dX29_axiom_0 : decode cX29_axiom 0 = .ok (.aload_n 0, 1) := by decide +kernel
theorem dX29_axiom_1 : decode cX29_axiom 1 = .ok (.iload_n 1, 1) := by decide +kernel
theorem dX29_axiom_2 : decode cX29_axiom 2 = .ok (.invokevirtual 55, 3) := by decide +kernel
theorem dX29_axiom_5 : decode cX29_axiom 5 = .ok (.ifCond .eq 19, 3) := by decide +kernel
theorem dX29_axiom_8 : decode cX29_axiom 8 = .ok (.aload_n 0, 1) := by decide +kernel
theorem dX29_axiom_9 : decode cX29_axiom 9 = .ok (.iload_n 2, 1) := by decide +kernel
theorem dX29_axiom_10 : decode cX29_axiom 10 = .ok (.invokevirtual 69, 3) := by decide +kernel
theorem dX29_axiom_13 : decode cX29_axiom 13 = .ok (.ifCond .eq 11, 3) := by decide +kernel
theorem dX29_axiom_16 : decode cX29_axiom 16 = .ok (.aload_n 0, 1) := by decide +kernel
theorem dX29_axiom_17 : decode cX29_axiom 17 = .ok (.iload_n 3, 1) := by decide +kernel
theorem dX29_axiom_18 : decode cX29_axiom 18 = .ok (.invokevirtual 69, 3) := by decide +kernel
theorem dX29_axiom_21 : decode cX29_axiom 21 = .ok (.ifCond .ne 5, 3) := by decide +kernel
theorem dX29_axiom_24 : decode cX29_axiom 24 = .ok (.iconst (-1), 1) := by decide +kernel
theorem dX29_axiom_25 : decode cX29_axiom 25 = .ok (.ireturn, 1) := by decide +kernel
theorem dX29_axiom_26 : decode cX29_axiom 26 = .ok (.iload_n 1, 1) := by decide +kernel
theorem dX29_axiom_27 : decode cX29_axiom 27 = .ok (.iload_n 2, 1) := by decide +kernel
theorem dX29_axiom_28 : decode cX29_axiom 28 = .ok (.if_icmp .ne 6, 3) := by decide +kernel
theorem dX29_axiom_31 : decode cX29_axiom 31 = .ok (.bipush (-2), 2) := by decide +kernel
theorem dX29_axiom_33 : decode cX29_axiom 33 = .ok (.ireturn, 1) := by decide +kernel
theorem dX29_axiom_34 : decode cX29_axiom 34 = .ok (.aload_n 0, 1) := by decide +kernel
theorem dX29_axiom_35 : decode cX29_axiom 35 = .ok (.getfield 10, 3) := by decide +kernel
theorem dX29_axiom_38 : decode cX29_axiom 38 = .ok (.invokevirtual 72, 3) := by decide +kernel
theorem dX29_axiom_41 : decode cX29_axiom 41 = .ok (.bipush 40, 2) := by decide +kernel
theorem dX29_axiom_43 : decode cX29_axiom 43 = .ok (.if_icmp .ne 6, 3) := by decide +kernel
theorem dX29_axiom_46 : decode cX29_axiom 46 = .ok (.bipush (-4), 2) := by decide +kernel
theorem dX29_axiom_48 : decode cX29_axiom 48 = .ok (.ireturn, 1) := by decide +kernel
theorem dX29_axiom_49 : decode cX29_axiom 49 = .ok (.new 76, 3) := by decide +kernel
theorem dX29_axiom_52 : decode cX29_axiom 52 = .ok (.dup, 1) := by decide +kernel
theorem dX29_axiom_53 : decode cX29_axiom 53 = .ok (.iconst 1, 1) := by decide +kernel
theorem dX29_axiom_54 : decode cX29_axiom 54 = .ok (.iload_n 1, 1) := by decide +kernel
theorem dX29_axiom_55 : decode cX29_axiom 55 = .ok (.ishl, 1) := by decide +kernel
theorem dX29_axiom_56 : decode cX29_axiom 56 = .ok (.iload_n 2, 1) := by decide +kernel
theorem dX29_axiom_57 : decode cX29_axiom 57 = .ok (.ifCond .ge 7, 3) := by decide +kernel
theorem dX29_axiom_60 : decode cX29_axiom 60 = .ok (.iconst 0, 1) := by decide +kernel
theorem dX29_axiom_61 : decode cX29_axiom 61 = .ok (.goto 6, 3) := by decide +kernel
theorem dX29_axiom_64 : decode cX29_axiom 64 = .ok (.iconst 1, 1) := by decide +kernel
theorem dX29_axiom_65 : decode cX29_axiom 65 = .ok (.iload_n 2, 1) := by decide +kernel
theorem dX29_axiom_66 : decode cX29_axiom 66 = .ok (.ishl, 1) := by decide +kernel
theorem dX29_axiom_67 : decode cX29_axiom 67 = .ok (.ior, 1) := by decide +kernel
theorem dX29_axiom_68 : decode cX29_axiom 68 = .ok (.iload_n 3, 1) := by decide +kernel
theorem dX29_axiom_69 : decode cX29_axiom 69 = .ok (.invokestatic 78, 3) := by decide +kernel
theorem dX29_axiom_72 : decode cX29_axiom 72 = .ok (.invokespecial 81, 3) := by decide +kernel
theorem dX29_axiom_75 : decode cX29_axiom 75 = .ok (.astore 4, 2) := by decide +kernel
theorem dX29_axiom_77 : decode cX29_axiom 77 = .ok (.aload_n 0, 1) := by decide +kernel
theorem dX29_axiom_78 : decode cX29_axiom 78 = .ok (.getfield 10, 3) := by decide +kernel
theorem dX29_axiom_81 : decode cX29_axiom 81 = .ok (.aload 4, 2) := by decide +kernel
theorem dX29_axiom_83 : decode cX29_axiom 83 = .ok (.invokevirtual 84, 3) := by decide +kernel
theorem dX29_axiom_86 : decode cX29_axiom 86 = .ok (.pop, 1) := by decide +kernel
theorem dX29_axiom_87 : decode cX29_axiom 87 = .ok (.aload_n 0, 1) := by decide +kernel
theorem dX29_axiom_88 : decode cX29_axiom 88 = .ok (.aload 4, 2) := by decide +kernel
theorem dX29_axiom_90 : decode cX29_axiom 90 = .ok (.invokevirtual 88, 3) := by decide +kernel
theorem dX29_axiom_93 : decode cX29_axiom 93 = .ok (.istore 5, 2) := by decide +kernel
theorem dX29_axiom_95 : decode cX29_axiom 95 = .ok (.iconst 0, 1) := by decide +kernel
theorem dX29_axiom_96 : decode cX29_axiom 96 = .ok (.istore 6, 2) := by decide +kernel
theorem dX29_axiom_98 : decode cX29_axiom 98 = .ok (.iload 6, 2) := by decide +kernel
theorem dX29_axiom_100 : decode cX29_axiom 100 = .ok (.aload_n 0, 1) := by decide +kernel
theorem dX29_axiom_101 : decode cX29_axiom 101 = .ok (.getfield 52, 3) := by decide +kernel
theorem dX29_axiom_104 : decode cX29_axiom 104 = .ok (.if_icmp .ge 38, 3) := by decide +kernel
theorem dX29_axiom_107 : decode cX29_axiom 107 = .ok (.iload 5, 2) := by decide +kernel
theorem dX29_axiom_109 : decode cX29_axiom 109 = .ok (.iload 6, 2) := by decide +kernel
theorem dX29_axiom_111 : decode cX29_axiom 111 = .ok (.invokestatic 92, 3) := by decide +kernel
theorem dX29_axiom_114 : decode cX29_axiom 114 = .ok (.ifCond .ne 6, 3) := by decide +kernel
theorem dX29_axiom_117 : decode cX29_axiom 117 = .ok (.goto 19, 3) := by decide +kernel
theorem dX29_axiom_120 : decode cX29_axiom 120 = .ok (.aload_n 0, 1) := by decide +kernel
theorem dX29_axiom_121 : decode cX29_axiom 121 = .ok (.getfield 36, 3) := by decide +kernel
theorem dX29_axiom_124 : decode cX29_axiom 124 = .ok (.iload 6, 2) := by decide +kernel
theorem dX29_axiom_126 : decode cX29_axiom 126 = .ok (.iconst 0, 1) := by decide +kernel
theorem dX29_axiom_127 : decode cX29_axiom 127 = .ok (.iastore, 1) := by decide +kernel
theorem dX29_axiom_128 : decode cX29_axiom 128 = .ok (.aload_n 0, 1) := by decide +kernel
theorem dX29_axiom_129 : decode cX29_axiom 129 = .ok (.getfield 39, 3) := by decide +kernel
theorem dX29_axiom_132 : decode cX29_axiom 132 = .ok (.iload 6, 2) := by decide +kernel
theorem dX29_axiom_134 : decode cX29_axiom 134 = .ok (.iconst 0, 1) := by decide +kernel
theorem dX29_axiom_135 : decode cX29_axiom 135 = .ok (.iastore, 1) := by decide +kernel
theorem dX29_axiom_136 : decode cX29_axiom 136 = .ok (.iinc 6 1, 3) := by decide +kernel
theorem dX29_axiom_139 : decode cX29_axiom 139 = .ok (.goto (-41), 3) := by decide +kernel
theorem dX29_axiom_142 : decode cX29_axiom 142 = .ok (.aload_n 0, 1) := by decide +kernel
theorem dX29_axiom_143 : decode cX29_axiom 143 = .ok (.invokevirtual 59, 3) := by decide +kernel
theorem dX29_axiom_146 : decode cX29_axiom 146 = .ok (.aload_n 0, 1) := by decide +kernel
theorem dX29_axiom_147 : decode cX29_axiom 147 = .ok (.iconst 0, 1) := by decide +kernel
theorem dX29_axiom_148 : decode cX29_axiom 148 = .ok (.putfield 62, 3) := by decide +kernel
theorem dX29_axiom_151 : decode cX29_axiom 151 = .ok (.aload_n 0, 1) := by decide +kernel
theorem dX29_axiom_152 : decode cX29_axiom 152 = .ok (.getfield 10, 3) := by decide +kernel
theorem dX29_axiom_155 : decode cX29_axiom 155 = .ok (.invokevirtual 72, 3) := by decide +kernel
theorem dX29_axiom_158 : decode cX29_axiom 158 = .ok (.iconst 1, 1) := by decide +kernel
theorem dX29_axiom_159 : decode cX29_axiom 159 = .ok (.isub, 1) := by decide +kernel
theorem dX29_axiom_160 : decode cX29_axiom 160 = .ok (.ireturn, 1) := by decide +kernel
abbrev cX29_isClass : ByteArray := prog_7_method_4_code
def yX29_isClass : MethodName := ⟨RX29, "isClass", "(I)Z"⟩
theorem dX29_isClass_0 : decode cX29_isClass 0 = .ok (.iload_n 1, 1) := by decide +kernel
theorem dX29_isClass_1 : decode cX29_isClass 1 = .ok (.ifCond .lt 15, 3) := by decide +kernel
theorem dX29_isClass_4 : decode cX29_isClass 4 = .ok (.iload_n 1, 1) := by decide +kernel
theorem dX29_isClass_5 : decode cX29_isClass 5 = .ok (.aload_n 0, 1) := by decide +kernel
theorem dX29_isClass_6 : decode cX29_isClass 6 = .ok (.getfield 52, 3) := by decide +kernel
theorem dX29_isClass_9 : decode cX29_isClass 9 = .ok (.if_icmp .ge 7, 3) := by decide +kernel
theorem dX29_isClass_12 : decode cX29_isClass 12 = .ok (.iconst 1, 1) := by decide +kernel
theorem dX29_isClass_13 : decode cX29_isClass 13 = .ok (.goto 4, 3) := by decide +kernel
theorem dX29_isClass_16 : decode cX29_isClass 16 = .ok (.iconst 0, 1) := by decide +kernel
theorem dX29_isClass_17 : decode cX29_isClass 17 = .ok (.ireturn, 1) := by decide +kernel
abbrev cX29_isGoal : ByteArray := prog_7_method_5_code
def yX29_isGoal : MethodName := ⟨RX29, "isGoal", "(I)Z"⟩
theorem dX29_isGoal_0 : decode cX29_isGoal 0 = .ok (.iload_n 1, 1) := by decide +kernel
theorem dX29_isGoal_1 : decode cX29_isGoal 1 = .ok (.iconst (-1), 1) := by decide +kernel
theorem dX29_isGoal_2 : decode cX29_isGoal 2 = .ok (.if_icmp .eq 11, 3) := by decide +kernel
theorem dX29_isGoal_5 : decode cX29_isGoal 5 = .ok (.aload_n 0, 1) := by decide +kernel
theorem dX29_isGoal_6 : decode cX29_isGoal 6 = .ok (.iload_n 1, 1) := by decide +kernel
theorem dX29_isGoal_7 : decode cX29_isGoal 7 = .ok (.invokevirtual 55, 3) := by decide +kernel
theorem dX29_isGoal_10 : decode cX29_isGoal 10 = .ok (.ifCond .eq 7, 3) := by decide +kernel
theorem dX29_isGoal_13 : decode cX29_isGoal 13 = .ok (.iconst 1, 1) := by decide +kernel
theorem dX29_isGoal_14 : decode cX29_isGoal 14 = .ok (.goto 4, 3) := by decide +kernel
theorem dX29_isGoal_17 : decode cX29_isGoal 17 = .ok (.iconst 0, 1) := by decide +kernel
theorem dX29_isGoal_18 : decode cX29_isGoal 18 = .ok (.ireturn, 1) := by decide +kernel
abbrev cX29_goal : ByteArray := prog_7_method_6_code
def yX29_goal : MethodName := ⟨RX29, "goal", "(I)I"⟩
theorem dX29_goal_0 : decode cX29_goal 0 = .ok (.iload_n 0, 1) := by decide +kernel
theorem dX29_goal_1 : decode cX29_goal 1 = .ok (.ifCond .ge 8, 3) := by decide +kernel
theorem dX29_goal_4 : decode cX29_goal 4 = .ok (.bipush 20, 2) := by decide +kernel
theorem dX29_goal_6 : decode cX29_goal 6 = .ok (.goto 4, 3) := by decide +kernel
theorem dX29_goal_9 : decode cX29_goal 9 = .ok (.iload_n 0, 1) := by decide +kernel
theorem dX29_goal_10 : decode cX29_goal 10 = .ok (.ireturn, 1) := by decide +kernel
abbrev cX29_touched : ByteArray := prog_7_method_14_code
def yX29_touched : MethodName := ⟨RX29, "touched", "(LKnowHouse$ClassifySort$Axiom;)I"⟩
theorem dX29_touched_0 : decode cX29_touched 0 = .ok (.iconst 0, 1) := by decide +kernel
theorem dX29_touched_1 : decode cX29_touched 1 = .ok (.istore_n 2, 1) := by decide +kernel
theorem dX29_touched_2 : decode cX29_touched 2 = .ok (.iconst 0, 1) := by decide +kernel
theorem dX29_touched_3 : decode cX29_touched 3 = .ok (.istore_n 3, 1) := by decide +kernel
theorem dX29_touched_4 : decode cX29_touched 4 = .ok (.iload_n 3, 1) := by decide +kernel
theorem dX29_touched_5 : decode cX29_touched 5 = .ok (.aload_n 0, 1) := by decide +kernel
theorem dX29_touched_6 : decode cX29_touched 6 = .ok (.getfield 52, 3) := by decide +kernel
theorem dX29_touched_9 : decode cX29_touched 9 = .ok (.if_icmp .ge 32, 3) := by decide +kernel
theorem dX29_touched_12 : decode cX29_touched 12 = .ok (.iload_n 2, 1) := by decide +kernel
theorem dX29_touched_13 : decode cX29_touched 13 = .ok (.aload_n 0, 1) := by decide +kernel
theorem dX29_touched_14 : decode cX29_touched 14 = .ok (.iload_n 3, 1) := by decide +kernel
theorem dX29_touched_15 : decode cX29_touched 15 = .ok (.invokevirtual 115, 3) := by decide +kernel
theorem dX29_touched_18 : decode cX29_touched 18 = .ok (.aload_n 1, 1) := by decide +kernel
theorem dX29_touched_19 : decode cX29_touched 19 = .ok (.getfield 109, 3) := by decide +kernel
theorem dX29_touched_22 : decode cX29_touched 22 = .ok (.iand, 1) := by decide +kernel
theorem dX29_touched_23 : decode cX29_touched 23 = .ok (.ifCond .eq 9, 3) := by decide +kernel
theorem dX29_touched_26 : decode cX29_touched 26 = .ok (.iconst 1, 1) := by decide +kernel
theorem dX29_touched_27 : decode cX29_touched 27 = .ok (.iload_n 3, 1) := by decide +kernel
theorem dX29_touched_28 : decode cX29_touched 28 = .ok (.ishl, 1) := by decide +kernel
theorem dX29_touched_29 : decode cX29_touched 29 = .ok (.goto 4, 3) := by decide +kernel
theorem dX29_touched_32 : decode cX29_touched 32 = .ok (.iconst 0, 1) := by decide +kernel
theorem dX29_touched_33 : decode cX29_touched 33 = .ok (.ior, 1) := by decide +kernel
theorem dX29_touched_34 : decode cX29_touched 34 = .ok (.istore_n 2, 1) := by decide +kernel
theorem dX29_touched_35 : decode cX29_touched 35 = .ok (.iinc 3 1, 3) := by decide +kernel
theorem dX29_touched_38 : decode cX29_touched 38 = .ok (.goto (-34), 3) := by decide +kernel
theorem dX29_touched_41 : decode cX29_touched 41 = .ok (.iload_n 2, 1) := by decide +kernel
theorem dX29_touched_42 : decode cX29_touched 42 = .ok (.ireturn, 1) := by decide +kernel
abbrev cX29_module : ByteArray := prog_7_method_13_code
def yX29_module : MethodName := ⟨RX29, "module", "(I)I"⟩
theorem dX29_module_0 : decode cX29_module 0 = .ok (.iconst 1, 1) := by decide +kernel
theorem dX29_module_1 : decode cX29_module 1 = .ok (.iload_n 1, 1) := by decide +kernel
theorem dX29_module_2 : decode cX29_module 2 = .ok (.ishl, 1) := by decide +kernel
theorem dX29_module_3 : decode cX29_module 3 = .ok (.istore_n 2, 1) := by decide +kernel
theorem dX29_module_4 : decode cX29_module 4 = .ok (.iconst 0, 1) := by decide +kernel
theorem dX29_module_5 : decode cX29_module 5 = .ok (.istore_n 3, 1) := by decide +kernel
theorem dX29_module_6 : decode cX29_module 6 = .ok (.iload_n 3, 1) := by decide +kernel
theorem dX29_module_7 : decode cX29_module 7 = .ok (.iload_n 2, 1) := by decide +kernel
theorem dX29_module_8 : decode cX29_module 8 = .ok (.if_icmp .eq 77, 3) := by decide +kernel
theorem dX29_module_11 : decode cX29_module 11 = .ok (.iload_n 2, 1) := by decide +kernel
theorem dX29_module_12 : decode cX29_module 12 = .ok (.istore_n 3, 1) := by decide +kernel
theorem dX29_module_13 : decode cX29_module 13 = .ok (.iconst 0, 1) := by decide +kernel
theorem dX29_module_14 : decode cX29_module 14 = .ok (.istore 4, 2) := by decide +kernel
theorem dX29_module_16 : decode cX29_module 16 = .ok (.iload 4, 2) := by decide +kernel
theorem dX29_module_18 : decode cX29_module 18 = .ok (.aload_n 0, 1) := by decide +kernel
theorem dX29_module_19 : decode cX29_module 19 = .ok (.getfield 10, 3) := by decide +kernel
theorem dX29_module_22 : decode cX29_module 22 = .ok (.invokevirtual 72, 3) := by decide +kernel
theorem dX29_module_25 : decode cX29_module 25 = .ok (.if_icmp .ge 57, 3) := by decide +kernel
theorem dX29_module_28 : decode cX29_module 28 = .ok (.aload_n 0, 1) := by decide +kernel
theorem dX29_module_29 : decode cX29_module 29 = .ok (.getfield 10, 3) := by decide +kernel
theorem dX29_module_32 : decode cX29_module 32 = .ok (.iload 4, 2) := by decide +kernel
theorem dX29_module_34 : decode cX29_module 34 = .ok (.invokevirtual 96, 3) := by decide +kernel
theorem dX29_module_37 : decode cX29_module 37 = .ok (.checkcast 76, 3) := by decide +kernel
theorem dX29_module_40 : decode cX29_module 40 = .ok (.astore 5, 2) := by decide +kernel
theorem dX29_module_42 : decode cX29_module 42 = .ok (.aload 5, 2) := by decide +kernel
theorem dX29_module_44 : decode cX29_module 44 = .ok (.getfield 100, 3) := by decide +kernel
theorem dX29_module_47 : decode cX29_module 47 = .ok (.ifCond .ne 29, 3) := by decide +kernel
theorem dX29_module_50 : decode cX29_module 50 = .ok (.aload 5, 2) := by decide +kernel
theorem dX29_module_52 : decode cX29_module 52 = .ok (.getfield 109, 3) := by decide +kernel
theorem dX29_module_55 : decode cX29_module 55 = .ok (.iload_n 2, 1) := by decide +kernel
theorem dX29_module_56 : decode cX29_module 56 = .ok (.iand, 1) := by decide +kernel
theorem dX29_module_57 : decode cX29_module 57 = .ok (.ifCond .eq 19, 3) := by decide +kernel
theorem dX29_module_60 : decode cX29_module 60 = .ok (.iload_n 2, 1) := by decide +kernel
theorem dX29_module_61 : decode cX29_module 61 = .ok (.aload 5, 2) := by decide +kernel
theorem dX29_module_63 : decode cX29_module 63 = .ok (.getfield 109, 3) := by decide +kernel
theorem dX29_module_66 : decode cX29_module 66 = .ok (.iconst 1, 1) := by decide +kernel
theorem dX29_module_67 : decode cX29_module 67 = .ok (.aload 5, 2) := by decide +kernel
theorem dX29_module_69 : decode cX29_module 69 = .ok (.getfield 112, 3) := by decide +kernel
theorem dX29_module_72 : decode cX29_module 72 = .ok (.ishl, 1) := by decide +kernel
theorem dX29_module_73 : decode cX29_module 73 = .ok (.ior, 1) := by decide +kernel
theorem dX29_module_74 : decode cX29_module 74 = .ok (.ior, 1) := by decide +kernel
theorem dX29_module_75 : decode cX29_module 75 = .ok (.istore_n 2, 1) := by decide +kernel
theorem dX29_module_76 : decode cX29_module 76 = .ok (.iinc 4 1, 3) := by decide +kernel
theorem dX29_module_79 : decode cX29_module 79 = .ok (.goto (-63), 3) := by decide +kernel
theorem dX29_module_82 : decode cX29_module 82 = .ok (.goto (-76), 3) := by decide +kernel
theorem dX29_module_85 : decode cX29_module 85 = .ok (.iload_n 2, 1) := by decide +kernel
theorem dX29_module_86 : decode cX29_module 86 = .ok (.ireturn, 1) := by decide +kernel
abbrev cX29_has : ByteArray := prog_7_method_2_code
def yX29_has : MethodName := ⟨RX29, "has", "(II)Z"⟩
theorem dX29_has_0 : decode cX29_has 0 = .ok (.iload_n 0, 1) := by decide +kernel
theorem dX29_has_1 : decode cX29_has 1 = .ok (.iload_n 1, 1) := by decide +kernel
theorem dX29_has_2 : decode cX29_has 2 = .ok (.ishr, 1) := by decide +kernel
theorem dX29_has_3 : decode cX29_has 3 = .ok (.iconst 1, 1) := by decide +kernel
theorem dX29_has_4 : decode cX29_has 4 = .ok (.iand, 1) := by decide +kernel
theorem dX29_has_5 : decode cX29_has 5 = .ok (.iconst 1, 1) := by decide +kernel
theorem dX29_has_6 : decode cX29_has 6 = .ok (.if_icmp .ne 7, 3) := by decide +kernel
theorem dX29_has_9 : decode cX29_has 9 = .ok (.iconst 1, 1) := by decide +kernel
theorem dX29_has_10 : decode cX29_has 10 = .ok (.goto 4, 3) := by decide +kernel
theorem dX29_has_13 : decode cX29_has 13 = .ok (.iconst 0, 1) := by decide +kernel
theorem dX29_has_14 : decode cX29_has 14 = .ok (.ireturn, 1) := by decide +kernel
abbrev cX29_close : ByteArray := prog_7_method_18_code
def yX29_close : MethodName := ⟨RX29, "close", "()V"⟩
theorem dX29_close_0 : decode cX29_close 0 = .ok (.iconst 0, 1) := by decide +kernel
theorem dX29_close_1 : decode cX29_close 1 = .ok (.istore_n 1, 1) := by decide +kernel
theorem dX29_close_2 : decode cX29_close 2 = .ok (.iload_n 1, 1) := by decide +kernel
theorem dX29_close_3 : decode cX29_close 3 = .ok (.aload_n 0, 1) := by decide +kernel
theorem dX29_close_4 : decode cX29_close 4 = .ok (.getfield 10, 3) := by decide +kernel
theorem dX29_close_7 : decode cX29_close 7 = .ok (.invokevirtual 72, 3) := by decide +kernel
theorem dX29_close_10 : decode cX29_close 10 = .ok (.if_icmp .ge 49, 3) := by decide +kernel
theorem dX29_close_13 : decode cX29_close 13 = .ok (.aload_n 0, 1) := by decide +kernel
theorem dX29_close_14 : decode cX29_close 14 = .ok (.getfield 10, 3) := by decide +kernel
theorem dX29_close_17 : decode cX29_close 17 = .ok (.iload_n 1, 1) := by decide +kernel
theorem dX29_close_18 : decode cX29_close 18 = .ok (.invokevirtual 96, 3) := by decide +kernel
theorem dX29_close_21 : decode cX29_close 21 = .ok (.checkcast 76, 3) := by decide +kernel
theorem dX29_close_24 : decode cX29_close 24 = .ok (.astore_n 2, 1) := by decide +kernel
theorem dX29_close_25 : decode cX29_close 25 = .ok (.aload_n 2, 1) := by decide +kernel
theorem dX29_close_26 : decode cX29_close 26 = .ok (.invokevirtual 121, 3) := by decide +kernel
theorem dX29_close_29 : decode cX29_close 29 = .ok (.ifCond .eq 24, 3) := by decide +kernel
theorem dX29_close_32 : decode cX29_close 32 = .ok (.aload_n 0, 1) := by decide +kernel
theorem dX29_close_33 : decode cX29_close 33 = .ok (.getfield 33, 3) := by decide +kernel
theorem dX29_close_36 : decode cX29_close 36 = .ok (.aload_n 2, 1) := by decide +kernel
theorem dX29_close_37 : decode cX29_close 37 = .ok (.getfield 109, 3) := by decide +kernel
theorem dX29_close_40 : decode cX29_close 40 = .ok (.invokestatic 46, 3) := by decide +kernel
theorem dX29_close_43 : decode cX29_close 43 = .ok (.dup2, 1) := by decide +kernel
theorem dX29_close_44 : decode cX29_close 44 = .ok (.iaload, 1) := by decide +kernel
theorem dX29_close_45 : decode cX29_close 45 = .ok (.iconst 1, 1) := by decide +kernel
theorem dX29_close_46 : decode cX29_close 46 = .ok (.aload_n 2, 1) := by decide +kernel
theorem dX29_close_47 : decode cX29_close 47 = .ok (.getfield 112, 3) := by decide +kernel
theorem dX29_close_50 : decode cX29_close 50 = .ok (.ishl, 1) := by decide +kernel
theorem dX29_close_51 : decode cX29_close 51 = .ok (.ior, 1) := by decide +kernel
theorem dX29_close_52 : decode cX29_close 52 = .ok (.iastore, 1) := by decide +kernel
theorem dX29_close_53 : decode cX29_close 53 = .ok (.iinc 1 1, 3) := by decide +kernel
theorem dX29_close_56 : decode cX29_close 56 = .ok (.goto (-54), 3) := by decide +kernel
theorem dX29_close_59 : decode cX29_close 59 = .ok (.iconst 0, 1) := by decide +kernel
theorem dX29_close_60 : decode cX29_close 60 = .ok (.istore_n 1, 1) := by decide +kernel
theorem dX29_close_61 : decode cX29_close 61 = .ok (.iload_n 1, 1) := by decide +kernel
theorem dX29_close_62 : decode cX29_close 62 = .ok (.bipush 20, 2) := by decide +kernel
theorem dX29_close_64 : decode cX29_close 64 = .ok (.if_icmp .gt 53, 3) := by decide +kernel
theorem dX29_close_67 : decode cX29_close 67 = .ok (.iconst 0, 1) := by decide +kernel
theorem dX29_close_68 : decode cX29_close 68 = .ok (.istore_n 2, 1) := by decide +kernel
theorem dX29_close_69 : decode cX29_close 69 = .ok (.iload_n 2, 1) := by decide +kernel
theorem dX29_close_70 : decode cX29_close 70 = .ok (.aload_n 0, 1) := by decide +kernel
theorem dX29_close_71 : decode cX29_close 71 = .ok (.getfield 52, 3) := by decide +kernel
theorem dX29_close_74 : decode cX29_close 74 = .ok (.if_icmp .ge 37, 3) := by decide +kernel
theorem dX29_close_77 : decode cX29_close 77 = .ok (.aload_n 0, 1) := by decide +kernel
theorem dX29_close_78 : decode cX29_close 78 = .ok (.getfield 33, 3) := by decide +kernel
theorem dX29_close_81 : decode cX29_close 81 = .ok (.iload_n 2, 1) := by decide +kernel
theorem dX29_close_82 : decode cX29_close 82 = .ok (.iaload, 1) := by decide +kernel
theorem dX29_close_83 : decode cX29_close 83 = .ok (.iload_n 1, 1) := by decide +kernel
theorem dX29_close_84 : decode cX29_close 84 = .ok (.invokestatic 92, 3) := by decide +kernel
theorem dX29_close_87 : decode cX29_close 87 = .ok (.ifCond .eq 18, 3) := by decide +kernel
theorem dX29_close_90 : decode cX29_close 90 = .ok (.aload_n 0, 1) := by decide +kernel
theorem dX29_close_91 : decode cX29_close 91 = .ok (.getfield 33, 3) := by decide +kernel
theorem dX29_close_94 : decode cX29_close 94 = .ok (.iload_n 2, 1) := by decide +kernel
theorem dX29_close_95 : decode cX29_close 95 = .ok (.dup2, 1) := by decide +kernel
theorem dX29_close_96 : decode cX29_close 96 = .ok (.iaload, 1) := by decide +kernel
theorem dX29_close_97 : decode cX29_close 97 = .ok (.aload_n 0, 1) := by decide +kernel
theorem dX29_close_98 : decode cX29_close 98 = .ok (.getfield 33, 3) := by decide +kernel
theorem dX29_close_101 : decode cX29_close 101 = .ok (.iload_n 1, 1) := by decide +kernel
theorem dX29_close_102 : decode cX29_close 102 = .ok (.iaload, 1) := by decide +kernel
theorem dX29_close_103 : decode cX29_close 103 = .ok (.ior, 1) := by decide +kernel
theorem dX29_close_104 : decode cX29_close 104 = .ok (.iastore, 1) := by decide +kernel
theorem dX29_close_105 : decode cX29_close 105 = .ok (.iinc 2 1, 3) := by decide +kernel
theorem dX29_close_108 : decode cX29_close 108 = .ok (.goto (-39), 3) := by decide +kernel
theorem dX29_close_111 : decode cX29_close 111 = .ok (.iinc 1 1, 3) := by decide +kernel
theorem dX29_close_114 : decode cX29_close 114 = .ok (.goto (-53), 3) := by decide +kernel
theorem dX29_close_117 : decode cX29_close 117 = .ok (.aload_n 0, 1) := by decide +kernel
theorem dX29_close_118 : decode cX29_close 118 = .ok (.invokevirtual 125, 3) := by decide +kernel
theorem dX29_close_121 : decode cX29_close 121 = .ok (.iconst 0, 1) := by decide +kernel
theorem dX29_close_122 : decode cX29_close 122 = .ok (.istore_n 1, 1) := by decide +kernel
theorem dX29_close_123 : decode cX29_close 123 = .ok (.iload_n 1, 1) := by decide +kernel
theorem dX29_close_124 : decode cX29_close 124 = .ok (.aload_n 0, 1) := by decide +kernel
theorem dX29_close_125 : decode cX29_close 125 = .ok (.getfield 52, 3) := by decide +kernel
theorem dX29_close_128 : decode cX29_close 128 = .ok (.if_icmp .ge 89, 3) := by decide +kernel
theorem dX29_close_131 : decode cX29_close 131 = .ok (.aload_n 0, 1) := by decide +kernel
theorem dX29_close_132 : decode cX29_close 132 = .ok (.getfield 36, 3) := by decide +kernel
theorem dX29_close_135 : decode cX29_close 135 = .ok (.iload_n 1, 1) := by decide +kernel
theorem dX29_close_136 : decode cX29_close 136 = .ok (.iaload, 1) := by decide +kernel
theorem dX29_close_137 : decode cX29_close 137 = .ok (.istore_n 2, 1) := by decide +kernel
theorem dX29_close_138 : decode cX29_close 138 = .ok (.iconst 0, 1) := by decide +kernel
theorem dX29_close_139 : decode cX29_close 139 = .ok (.istore_n 3, 1) := by decide +kernel
theorem dX29_close_140 : decode cX29_close 140 = .ok (.iload_n 3, 1) := by decide +kernel
theorem dX29_close_141 : decode cX29_close 141 = .ok (.bipush 20, 2) := by decide +kernel
theorem dX29_close_143 : decode cX29_close 143 = .ok (.if_icmp .gt 68, 3) := by decide +kernel
theorem dX29_close_146 : decode cX29_close 146 = .ok (.iload_n 2, 1) := by decide +kernel
theorem dX29_close_147 : decode cX29_close 147 = .ok (.iload_n 3, 1) := by decide +kernel
theorem dX29_close_148 : decode cX29_close 148 = .ok (.invokestatic 92, 3) := by decide +kernel
theorem dX29_close_151 : decode cX29_close 151 = .ok (.ifCond .ne 6, 3) := by decide +kernel
theorem dX29_close_154 : decode cX29_close 154 = .ok (.goto 51, 3) := by decide +kernel
theorem dX29_close_157 : decode cX29_close 157 = .ok (.iconst 0, 1) := by decide +kernel
theorem dX29_close_158 : decode cX29_close 158 = .ok (.istore 4, 2) := by decide +kernel
theorem dX29_close_160 : decode cX29_close 160 = .ok (.iload 4, 2) := by decide +kernel
theorem dX29_close_162 : decode cX29_close 162 = .ok (.aload_n 0, 1) := by decide +kernel
theorem dX29_close_163 : decode cX29_close 163 = .ok (.getfield 52, 3) := by decide +kernel
theorem dX29_close_166 : decode cX29_close 166 = .ok (.if_icmp .ge 39, 3) := by decide +kernel
theorem dX29_close_169 : decode cX29_close 169 = .ok (.aload_n 0, 1) := by decide +kernel
theorem dX29_close_170 : decode cX29_close 170 = .ok (.getfield 33, 3) := by decide +kernel
theorem dX29_close_173 : decode cX29_close 173 = .ok (.iload_n 1, 1) := by decide +kernel
theorem dX29_close_174 : decode cX29_close 174 = .ok (.iaload, 1) := by decide +kernel
theorem dX29_close_175 : decode cX29_close 175 = .ok (.iload 4, 2) := by decide +kernel
theorem dX29_close_177 : decode cX29_close 177 = .ok (.invokestatic 92, 3) := by decide +kernel
theorem dX29_close_180 : decode cX29_close 180 = .ok (.ifCond .eq 19, 3) := by decide +kernel
theorem dX29_close_183 : decode cX29_close 183 = .ok (.aload_n 0, 1) := by decide +kernel
theorem dX29_close_184 : decode cX29_close 184 = .ok (.getfield 36, 3) := by decide +kernel
theorem dX29_close_187 : decode cX29_close 187 = .ok (.iload 4, 2) := by decide +kernel
theorem dX29_close_189 : decode cX29_close 189 = .ok (.dup2, 1) := by decide +kernel
theorem dX29_close_190 : decode cX29_close 190 = .ok (.iaload, 1) := by decide +kernel
theorem dX29_close_191 : decode cX29_close 191 = .ok (.aload_n 0, 1) := by decide +kernel
theorem dX29_close_192 : decode cX29_close 192 = .ok (.getfield 42, 3) := by decide +kernel
theorem dX29_close_195 : decode cX29_close 195 = .ok (.iload_n 3, 1) := by decide +kernel
theorem dX29_close_196 : decode cX29_close 196 = .ok (.iaload, 1) := by decide +kernel
theorem dX29_close_197 : decode cX29_close 197 = .ok (.ior, 1) := by decide +kernel
theorem dX29_close_198 : decode cX29_close 198 = .ok (.iastore, 1) := by decide +kernel
theorem dX29_close_199 : decode cX29_close 199 = .ok (.iinc 4 1, 3) := by decide +kernel
theorem dX29_close_202 : decode cX29_close 202 = .ok (.goto (-42), 3) := by decide +kernel
theorem dX29_close_205 : decode cX29_close 205 = .ok (.iinc 3 1, 3) := by decide +kernel
theorem dX29_close_208 : decode cX29_close 208 = .ok (.goto (-68), 3) := by decide +kernel
theorem dX29_close_211 : decode cX29_close 211 = .ok (.iinc 1 1, 3) := by decide +kernel
theorem dX29_close_214 : decode cX29_close 214 = .ok (.goto (-91), 3) := by decide +kernel
theorem dX29_close_217 : decode cX29_close 217 = .ok (.iconst 0, 1) := by decide +kernel
theorem dX29_close_218 : decode cX29_close 218 = .ok (.istore_n 1, 1) := by decide +kernel
theorem dX29_close_219 : decode cX29_close 219 = .ok (.iload_n 1, 1) := by decide +kernel
theorem dX29_close_220 : decode cX29_close 220 = .ok (.aload_n 0, 1) := by decide +kernel
theorem dX29_close_221 : decode cX29_close 221 = .ok (.getfield 52, 3) := by decide +kernel
theorem dX29_close_224 : decode cX29_close 224 = .ok (.if_icmp .ge 33, 3) := by decide +kernel
theorem dX29_close_227 : decode cX29_close 227 = .ok (.aload_n 0, 1) := by decide +kernel
theorem dX29_close_228 : decode cX29_close 228 = .ok (.getfield 39, 3) := by decide +kernel
theorem dX29_close_231 : decode cX29_close 231 = .ok (.iload_n 1, 1) := by decide +kernel
theorem dX29_close_232 : decode cX29_close 232 = .ok (.dup2, 1) := by decide +kernel
theorem dX29_close_233 : decode cX29_close 233 = .ok (.iaload, 1) := by decide +kernel
theorem dX29_close_234 : decode cX29_close 234 = .ok (.aload_n 0, 1) := by decide +kernel
theorem dX29_close_235 : decode cX29_close 235 = .ok (.getfield 33, 3) := by decide +kernel
theorem dX29_close_238 : decode cX29_close 238 = .ok (.iload_n 1, 1) := by decide +kernel
theorem dX29_close_239 : decode cX29_close 239 = .ok (.iaload, 1) := by decide +kernel
theorem dX29_close_240 : decode cX29_close 240 = .ok (.aload_n 0, 1) := by decide +kernel
theorem dX29_close_241 : decode cX29_close 241 = .ok (.getfield 36, 3) := by decide +kernel
theorem dX29_close_244 : decode cX29_close 244 = .ok (.iload_n 1, 1) := by decide +kernel
theorem dX29_close_245 : decode cX29_close 245 = .ok (.iaload, 1) := by decide +kernel
theorem dX29_close_246 : decode cX29_close 246 = .ok (.ior, 1) := by decide +kernel
theorem dX29_close_247 : decode cX29_close 247 = .ok (.iconst (-1), 1) := by decide +kernel
theorem dX29_close_248 : decode cX29_close 248 = .ok (.ixor, 1) := by decide +kernel
theorem dX29_close_249 : decode cX29_close 249 = .ok (.iand, 1) := by decide +kernel
theorem dX29_close_250 : decode cX29_close 250 = .ok (.iastore, 1) := by decide +kernel
theorem dX29_close_251 : decode cX29_close 251 = .ok (.iinc 1 1, 3) := by decide +kernel
theorem dX29_close_254 : decode cX29_close 254 = .ok (.goto (-35), 3) := by decide +kernel
theorem dX29_close_257 : decode cX29_close 257 = .ok (.return_, 1) := by decide +kernel
abbrev cX29_turn : ByteArray := prog_7_method_17_code
def yX29_turn : MethodName := ⟨RX29, "turn", "()V"⟩
theorem dX29_turn_0 : decode cX29_turn 0 = .ok (.iconst 0, 1) := by decide +kernel
theorem dX29_turn_1 : decode cX29_turn 1 = .ok (.istore_n 1, 1) := by decide +kernel
theorem dX29_turn_2 : decode cX29_turn 2 = .ok (.iload_n 1, 1) := by decide +kernel
theorem dX29_turn_3 : decode cX29_turn 3 = .ok (.bipush 20, 2) := by decide +kernel
theorem dX29_turn_5 : decode cX29_turn 5 = .ok (.if_icmp .gt 59, 3) := by decide +kernel
theorem dX29_turn_8 : decode cX29_turn 8 = .ok (.aload_n 0, 1) := by decide +kernel
theorem dX29_turn_9 : decode cX29_turn 9 = .ok (.getfield 42, 3) := by decide +kernel
theorem dX29_turn_12 : decode cX29_turn 12 = .ok (.iload_n 1, 1) := by decide +kernel
theorem dX29_turn_13 : decode cX29_turn 13 = .ok (.iconst 0, 1) := by decide +kernel
theorem dX29_turn_14 : decode cX29_turn 14 = .ok (.iastore, 1) := by decide +kernel
theorem dX29_turn_15 : decode cX29_turn 15 = .ok (.iconst 0, 1) := by decide +kernel
theorem dX29_turn_16 : decode cX29_turn 16 = .ok (.istore_n 2, 1) := by decide +kernel
theorem dX29_turn_17 : decode cX29_turn 17 = .ok (.iload_n 2, 1) := by decide +kernel
theorem dX29_turn_18 : decode cX29_turn 18 = .ok (.bipush 20, 2) := by decide +kernel
theorem dX29_turn_20 : decode cX29_turn 20 = .ok (.if_icmp .gt 38, 3) := by decide +kernel
theorem dX29_turn_23 : decode cX29_turn 23 = .ok (.aload_n 0, 1) := by decide +kernel
theorem dX29_turn_24 : decode cX29_turn 24 = .ok (.getfield 42, 3) := by decide +kernel
theorem dX29_turn_27 : decode cX29_turn 27 = .ok (.iload_n 1, 1) := by decide +kernel
theorem dX29_turn_28 : decode cX29_turn 28 = .ok (.dup2, 1) := by decide +kernel
theorem dX29_turn_29 : decode cX29_turn 29 = .ok (.iaload, 1) := by decide +kernel
theorem dX29_turn_30 : decode cX29_turn 30 = .ok (.aload_n 0, 1) := by decide +kernel
theorem dX29_turn_31 : decode cX29_turn 31 = .ok (.getfield 33, 3) := by decide +kernel
theorem dX29_turn_34 : decode cX29_turn 34 = .ok (.iload_n 2, 1) := by decide +kernel
theorem dX29_turn_35 : decode cX29_turn 35 = .ok (.iaload, 1) := by decide +kernel
theorem dX29_turn_36 : decode cX29_turn 36 = .ok (.iload_n 1, 1) := by decide +kernel
theorem dX29_turn_37 : decode cX29_turn 37 = .ok (.invokestatic 92, 3) := by decide +kernel
theorem dX29_turn_40 : decode cX29_turn 40 = .ok (.ifCond .eq 9, 3) := by decide +kernel
theorem dX29_turn_43 : decode cX29_turn 43 = .ok (.iconst 1, 1) := by decide +kernel
theorem dX29_turn_44 : decode cX29_turn 44 = .ok (.iload_n 2, 1) := by decide +kernel
theorem dX29_turn_45 : decode cX29_turn 45 = .ok (.ishl, 1) := by decide +kernel
theorem dX29_turn_46 : decode cX29_turn 46 = .ok (.goto 4, 3) := by decide +kernel
theorem dX29_turn_49 : decode cX29_turn 49 = .ok (.iconst 0, 1) := by decide +kernel
theorem dX29_turn_50 : decode cX29_turn 50 = .ok (.ior, 1) := by decide +kernel
theorem dX29_turn_51 : decode cX29_turn 51 = .ok (.iastore, 1) := by decide +kernel
theorem dX29_turn_52 : decode cX29_turn 52 = .ok (.iinc 2 1, 3) := by decide +kernel
theorem dX29_turn_55 : decode cX29_turn 55 = .ok (.goto (-38), 3) := by decide +kernel
theorem dX29_turn_58 : decode cX29_turn 58 = .ok (.iinc 1 1, 3) := by decide +kernel
theorem dX29_turn_61 : decode cX29_turn 61 = .ok (.goto (-59), 3) := by decide +kernel
theorem dX29_turn_64 : decode cX29_turn 64 = .ok (.return_, 1) := by decide +kernel
abbrev cX29_put : ByteArray := prog_7_method_39_code
def yX29_put : MethodName := ⟨RX29, "put", "(II)I"⟩
theorem dX29_put_0 : decode cX29_put 0 = .ok (.aload_n 0, 1) := by decide +kernel
theorem dX29_put_1 : decode cX29_put 1 = .ok (.iload_n 1, 1) := by decide +kernel
theorem dX29_put_2 : decode cX29_put 2 = .ok (.invokevirtual 182, 3) := by decide +kernel
theorem dX29_put_5 : decode cX29_put 5 = .ok (.ifCond .eq 11, 3) := by decide +kernel
theorem dX29_put_8 : decode cX29_put 8 = .ok (.aload_n 0, 1) := by decide +kernel
theorem dX29_put_9 : decode cX29_put 9 = .ok (.iload_n 2, 1) := by decide +kernel
theorem dX29_put_10 : decode cX29_put 10 = .ok (.invokevirtual 55, 3) := by decide +kernel
theorem dX29_put_13 : decode cX29_put 13 = .ok (.ifCond .ne 5, 3) := by decide +kernel
theorem dX29_put_16 : decode cX29_put 16 = .ok (.iconst (-1), 1) := by decide +kernel
theorem dX29_put_17 : decode cX29_put 17 = .ok (.ireturn, 1) := by decide +kernel
theorem dX29_put_18 : decode cX29_put 18 = .ok (.aload_n 0, 1) := by decide +kernel
theorem dX29_put_19 : decode cX29_put 19 = .ok (.getfield 25, 3) := by decide +kernel
theorem dX29_put_22 : decode cX29_put 22 = .ok (.iload_n 1, 1) := by decide +kernel
theorem dX29_put_23 : decode cX29_put 23 = .ok (.iaload, 1) := by decide +kernel
theorem dX29_put_24 : decode cX29_put 24 = .ok (.iload_n 2, 1) := by decide +kernel
theorem dX29_put_25 : decode cX29_put 25 = .ok (.invokestatic 92, 3) := by decide +kernel
theorem dX29_put_28 : decode cX29_put 28 = .ok (.ifCond .eq 5, 3) := by decide +kernel
theorem dX29_put_31 : decode cX29_put 31 = .ok (.iconst 0, 1) := by decide +kernel
theorem dX29_put_32 : decode cX29_put 32 = .ok (.ireturn, 1) := by decide +kernel
theorem dX29_put_33 : decode cX29_put 33 = .ok (.aload_n 0, 1) := by decide +kernel
theorem dX29_put_34 : decode cX29_put 34 = .ok (.getfield 25, 3) := by decide +kernel
theorem dX29_put_37 : decode cX29_put 37 = .ok (.iload_n 1, 1) := by decide +kernel
theorem dX29_put_38 : decode cX29_put 38 = .ok (.dup2, 1) := by decide +kernel
theorem dX29_put_39 : decode cX29_put 39 = .ok (.iaload, 1) := by decide +kernel
theorem dX29_put_40 : decode cX29_put 40 = .ok (.iconst 1, 1) := by decide +kernel
theorem dX29_put_41 : decode cX29_put 41 = .ok (.iload_n 2, 1) := by decide +kernel
theorem dX29_put_42 : decode cX29_put 42 = .ok (.ishl, 1) := by decide +kernel
theorem dX29_put_43 : decode cX29_put 43 = .ok (.ior, 1) := by decide +kernel
theorem dX29_put_44 : decode cX29_put 44 = .ok (.iastore, 1) := by decide +kernel
theorem dX29_put_45 : decode cX29_put 45 = .ok (.iconst 1, 1) := by decide +kernel
theorem dX29_put_46 : decode cX29_put 46 = .ok (.ireturn, 1) := by decide +kernel
abbrev cX29_isThing : ByteArray := prog_7_method_38_code
def yX29_isThing : MethodName := ⟨RX29, "isThing", "(I)Z"⟩
theorem dX29_isThing_0 : decode cX29_isThing 0 = .ok (.iload_n 1, 1) := by decide +kernel
theorem dX29_isThing_1 : decode cX29_isThing 1 = .ok (.ifCond .lt 15, 3) := by decide +kernel
theorem dX29_isThing_4 : decode cX29_isThing 4 = .ok (.iload_n 1, 1) := by decide +kernel
theorem dX29_isThing_5 : decode cX29_isThing 5 = .ok (.aload_n 0, 1) := by decide +kernel
theorem dX29_isThing_6 : decode cX29_isThing 6 = .ok (.getfield 66, 3) := by decide +kernel
theorem dX29_isThing_9 : decode cX29_isThing 9 = .ok (.if_icmp .ge 7, 3) := by decide +kernel
theorem dX29_isThing_12 : decode cX29_isThing 12 = .ok (.iconst 1, 1) := by decide +kernel
theorem dX29_isThing_13 : decode cX29_isThing 13 = .ok (.goto 4, 3) := by decide +kernel
theorem dX29_isThing_16 : decode cX29_isThing 16 = .ok (.iconst 0, 1) := by decide +kernel
theorem dX29_isThing_17 : decode cX29_isThing 17 = .ok (.ireturn, 1) := by decide +kernel
abbrev cX29_run : ByteArray := prog_7_method_30_code
def yX29_run : MethodName := ⟨RX29, "run", "()I"⟩
theorem dX29_run_0 : decode cX29_run 0 = .ok (.aload_n 0, 1) := by decide +kernel
theorem dX29_run_1 : decode cX29_run 1 = .ok (.getfield 135, 3) := by decide +kernel
theorem dX29_run_4 : decode cX29_run 4 = .ok (.istore_n 1, 1) := by decide +kernel
theorem dX29_run_5 : decode cX29_run 5 = .ok (.aload_n 0, 1) := by decide +kernel
theorem dX29_run_6 : decode cX29_run 6 = .ok (.iconst 0, 1) := by decide +kernel
theorem dX29_run_7 : decode cX29_run 7 = .ok (.putfield 141, 3) := by decide +kernel
theorem dX29_run_10 : decode cX29_run 10 = .ok (.aload_n 0, 1) := by decide +kernel
theorem dX29_run_11 : decode cX29_run 11 = .ok (.iconst 0, 1) := by decide +kernel
theorem dX29_run_12 : decode cX29_run 12 = .ok (.putfield 163, 3) := by decide +kernel
theorem dX29_run_15 : decode cX29_run 15 = .ok (.iconst 0, 1) := by decide +kernel
theorem dX29_run_16 : decode cX29_run 16 = .ok (.istore_n 2, 1) := by decide +kernel
theorem dX29_run_17 : decode cX29_run 17 = .ok (.iload_n 2, 1) := by decide +kernel
theorem dX29_run_18 : decode cX29_run 18 = .ok (.aload_n 0, 1) := by decide +kernel
theorem dX29_run_19 : decode cX29_run 19 = .ok (.getfield 52, 3) := by decide +kernel
theorem dX29_run_22 : decode cX29_run 22 = .ok (.if_icmp .ge 39, 3) := by decide +kernel
theorem dX29_run_25 : decode cX29_run 25 = .ok (.aload_n 0, 1) := by decide +kernel
theorem dX29_run_26 : decode cX29_run 26 = .ok (.iload_n 2, 1) := by decide +kernel
theorem dX29_run_27 : decode cX29_run 27 = .ok (.bipush 20, 2) := by decide +kernel
theorem dX29_run_29 : decode cX29_run 29 = .ok (.invokevirtual 151, 3) := by decide +kernel
theorem dX29_run_32 : decode cX29_run 32 = .ok (.ifCond .eq 18, 3) := by decide +kernel
theorem dX29_run_35 : decode cX29_run 35 = .ok (.aload_n 0, 1) := by decide +kernel
theorem dX29_run_36 : decode cX29_run 36 = .ok (.dup, 1) := by decide +kernel
theorem dX29_run_37 : decode cX29_run 37 = .ok (.getfield 163, 3) := by decide +kernel
theorem dX29_run_40 : decode cX29_run 40 = .ok (.iconst 1, 1) := by decide +kernel
theorem dX29_run_41 : decode cX29_run 41 = .ok (.iload_n 2, 1) := by decide +kernel
theorem dX29_run_42 : decode cX29_run 42 = .ok (.ishl, 1) := by decide +kernel
theorem dX29_run_43 : decode cX29_run 43 = .ok (.ior, 1) := by decide +kernel
theorem dX29_run_44 : decode cX29_run 44 = .ok (.putfield 163, 3) := by decide +kernel
theorem dX29_run_47 : decode cX29_run 47 = .ok (.goto 8, 3) := by decide +kernel
theorem dX29_run_50 : decode cX29_run 50 = .ok (.aload_n 0, 1) := by decide +kernel
theorem dX29_run_51 : decode cX29_run 51 = .ok (.iload_n 2, 1) := by decide +kernel
theorem dX29_run_52 : decode cX29_run 52 = .ok (.invokevirtual 166, 3) := by decide +kernel
theorem dX29_run_55 : decode cX29_run 55 = .ok (.iinc 2 1, 3) := by decide +kernel
theorem dX29_run_58 : decode cX29_run 58 = .ok (.goto (-41), 3) := by decide +kernel
theorem dX29_run_61 : decode cX29_run 61 = .ok (.aload_n 0, 1) := by decide +kernel
theorem dX29_run_62 : decode cX29_run 62 = .ok (.iconst 1, 1) := by decide +kernel
theorem dX29_run_63 : decode cX29_run 63 = .ok (.putfield 62, 3) := by decide +kernel
theorem dX29_run_66 : decode cX29_run 66 = .ok (.aload_n 0, 1) := by decide +kernel
theorem dX29_run_67 : decode cX29_run 67 = .ok (.getfield 135, 3) := by decide +kernel
theorem dX29_run_70 : decode cX29_run 70 = .ok (.iload_n 1, 1) := by decide +kernel
theorem dX29_run_71 : decode cX29_run 71 = .ok (.isub, 1) := by decide +kernel
theorem dX29_run_72 : decode cX29_run 72 = .ok (.ireturn, 1) := by decide +kernel
abbrev cX29_isBelow : ByteArray := prog_7_method_22_code
def yX29_isBelow : MethodName := ⟨RX29, "isBelow", "(II)Z"⟩
theorem dX29_isBelow_0 : decode cX29_isBelow 0 = .ok (.aload_n 0, 1) := by decide +kernel
theorem dX29_isBelow_1 : decode cX29_isBelow 1 = .ok (.iload_n 1, 1) := by decide +kernel
theorem dX29_isBelow_2 : decode cX29_isBelow 2 = .ok (.iload_n 2, 1) := by decide +kernel
theorem dX29_isBelow_3 : decode cX29_isBelow 3 = .ok (.invokevirtual 128, 3) := by decide +kernel
theorem dX29_isBelow_6 : decode cX29_isBelow 6 = .ok (.iconst 3, 1) := by decide +kernel
theorem dX29_isBelow_7 : decode cX29_isBelow 7 = .ok (.if_icmp .ne 80, 3) := by decide +kernel
theorem dX29_isBelow_10 : decode cX29_isBelow 10 = .ok (.aload_n 0, 1) := by decide +kernel
theorem dX29_isBelow_11 : decode cX29_isBelow 11 = .ok (.dup, 1) := by decide +kernel
theorem dX29_isBelow_12 : decode cX29_isBelow 12 = .ok (.getfield 135, 3) := by decide +kernel
theorem dX29_isBelow_15 : decode cX29_isBelow 15 = .ok (.iconst 1, 1) := by decide +kernel
theorem dX29_isBelow_16 : decode cX29_isBelow 16 = .ok (.iadd, 1) := by decide +kernel
theorem dX29_isBelow_17 : decode cX29_isBelow 17 = .ok (.putfield 135, 3) := by decide +kernel
theorem dX29_isBelow_20 : decode cX29_isBelow 20 = .ok (.aload_n 0, 1) := by decide +kernel
theorem dX29_isBelow_21 : decode cX29_isBelow 21 = .ok (.getfield 21, 3) := by decide +kernel
theorem dX29_isBelow_24 : decode cX29_isBelow 24 = .ok (.iconst 1, 1) := by decide +kernel
theorem dX29_isBelow_25 : decode cX29_isBelow 25 = .ok (.iload_n 1, 1) := by decide +kernel
theorem dX29_isBelow_26 : decode cX29_isBelow 26 = .ok (.ishl, 1) := by decide +kernel
theorem dX29_isBelow_27 : decode cX29_isBelow 27 = .ok (.iload_n 2, 1) := by decide +kernel
theorem dX29_isBelow_28 : decode cX29_isBelow 28 = .ok (.invokevirtual 132, 3) := by decide +kernel
theorem dX29_isBelow_31 : decode cX29_isBelow 31 = .ok (.istore_n 3, 1) := by decide +kernel
theorem dX29_isBelow_32 : decode cX29_isBelow 32 = .ok (.iload_n 3, 1) := by decide +kernel
theorem dX29_isBelow_33 : decode cX29_isBelow 33 = .ok (.iconst 1, 1) := by decide +kernel
theorem dX29_isBelow_34 : decode cX29_isBelow 34 = .ok (.if_icmp .ne 18, 3) := by decide +kernel
theorem dX29_isBelow_37 : decode cX29_isBelow 37 = .ok (.aload_n 0, 1) := by decide +kernel
theorem dX29_isBelow_38 : decode cX29_isBelow 38 = .ok (.getfield 33, 3) := by decide +kernel
theorem dX29_isBelow_41 : decode cX29_isBelow 41 = .ok (.iload_n 1, 1) := by decide +kernel
theorem dX29_isBelow_42 : decode cX29_isBelow 42 = .ok (.dup2, 1) := by decide +kernel
theorem dX29_isBelow_43 : decode cX29_isBelow 43 = .ok (.iaload, 1) := by decide +kernel
theorem dX29_isBelow_44 : decode cX29_isBelow 44 = .ok (.iconst 1, 1) := by decide +kernel
theorem dX29_isBelow_45 : decode cX29_isBelow 45 = .ok (.iload_n 2, 1) := by decide +kernel
theorem dX29_isBelow_46 : decode cX29_isBelow 46 = .ok (.ishl, 1) := by decide +kernel
theorem dX29_isBelow_47 : decode cX29_isBelow 47 = .ok (.ior, 1) := by decide +kernel
theorem dX29_isBelow_48 : decode cX29_isBelow 48 = .ok (.iastore, 1) := by decide +kernel
theorem dX29_isBelow_49 : decode cX29_isBelow 49 = .ok (.goto 34, 3) := by decide +kernel
theorem dX29_isBelow_52 : decode cX29_isBelow 52 = .ok (.iload_n 3, 1) := by decide +kernel
theorem dX29_isBelow_53 : decode cX29_isBelow 53 = .ok (.ifCond .ne 18, 3) := by decide +kernel
theorem dX29_isBelow_56 : decode cX29_isBelow 56 = .ok (.aload_n 0, 1) := by decide +kernel
theorem dX29_isBelow_57 : decode cX29_isBelow 57 = .ok (.getfield 36, 3) := by decide +kernel
theorem dX29_isBelow_60 : decode cX29_isBelow 60 = .ok (.iload_n 1, 1) := by decide +kernel
theorem dX29_isBelow_61 : decode cX29_isBelow 61 = .ok (.dup2, 1) := by decide +kernel
theorem dX29_isBelow_62 : decode cX29_isBelow 62 = .ok (.iaload, 1) := by decide +kernel
theorem dX29_isBelow_63 : decode cX29_isBelow 63 = .ok (.iconst 1, 1) := by decide +kernel
theorem dX29_isBelow_64 : decode cX29_isBelow 64 = .ok (.iload_n 2, 1) := by decide +kernel
theorem dX29_isBelow_65 : decode cX29_isBelow 65 = .ok (.ishl, 1) := by decide +kernel
theorem dX29_isBelow_66 : decode cX29_isBelow 66 = .ok (.ior, 1) := by decide +kernel
theorem dX29_isBelow_67 : decode cX29_isBelow 67 = .ok (.iastore, 1) := by decide +kernel
theorem dX29_isBelow_68 : decode cX29_isBelow 68 = .ok (.goto 15, 3) := by decide +kernel
theorem dX29_isBelow_71 : decode cX29_isBelow 71 = .ok (.aload_n 0, 1) := by decide +kernel
theorem dX29_isBelow_72 : decode cX29_isBelow 72 = .ok (.getfield 39, 3) := by decide +kernel
theorem dX29_isBelow_75 : decode cX29_isBelow 75 = .ok (.iload_n 1, 1) := by decide +kernel
theorem dX29_isBelow_76 : decode cX29_isBelow 76 = .ok (.dup2, 1) := by decide +kernel
theorem dX29_isBelow_77 : decode cX29_isBelow 77 = .ok (.iaload, 1) := by decide +kernel
theorem dX29_isBelow_78 : decode cX29_isBelow 78 = .ok (.iconst 1, 1) := by decide +kernel
theorem dX29_isBelow_79 : decode cX29_isBelow 79 = .ok (.iload_n 2, 1) := by decide +kernel
theorem dX29_isBelow_80 : decode cX29_isBelow 80 = .ok (.ishl, 1) := by decide +kernel
theorem dX29_isBelow_81 : decode cX29_isBelow 81 = .ok (.ior, 1) := by decide +kernel
theorem dX29_isBelow_82 : decode cX29_isBelow 82 = .ok (.iastore, 1) := by decide +kernel
theorem dX29_isBelow_83 : decode cX29_isBelow 83 = .ok (.aload_n 0, 1) := by decide +kernel
theorem dX29_isBelow_84 : decode cX29_isBelow 84 = .ok (.invokevirtual 59, 3) := by decide +kernel
theorem dX29_isBelow_87 : decode cX29_isBelow 87 = .ok (.aload_n 0, 1) := by decide +kernel
theorem dX29_isBelow_88 : decode cX29_isBelow 88 = .ok (.getfield 33, 3) := by decide +kernel
theorem dX29_isBelow_91 : decode cX29_isBelow 91 = .ok (.iload_n 1, 1) := by decide +kernel
theorem dX29_isBelow_92 : decode cX29_isBelow 92 = .ok (.iaload, 1) := by decide +kernel
theorem dX29_isBelow_93 : decode cX29_isBelow 93 = .ok (.iload_n 2, 1) := by decide +kernel
theorem dX29_isBelow_94 : decode cX29_isBelow 94 = .ok (.invokestatic 92, 3) := by decide +kernel
theorem dX29_isBelow_97 : decode cX29_isBelow 97 = .ok (.ireturn, 1) := by decide +kernel
abbrev cX29_state : ByteArray := prog_7_method_19_code
def yX29_state : MethodName := ⟨RX29, "state", "(II)I"⟩
theorem dX29_state_0 : decode cX29_state 0 = .ok (.aload_n 0, 1) := by decide +kernel
theorem dX29_state_1 : decode cX29_state 1 = .ok (.getfield 33, 3) := by decide +kernel
theorem dX29_state_4 : decode cX29_state 4 = .ok (.iload_n 1, 1) := by decide +kernel
theorem dX29_state_5 : decode cX29_state 5 = .ok (.iaload, 1) := by decide +kernel
theorem dX29_state_6 : decode cX29_state 6 = .ok (.iload_n 2, 1) := by decide +kernel
theorem dX29_state_7 : decode cX29_state 7 = .ok (.invokestatic 92, 3) := by decide +kernel
theorem dX29_state_10 : decode cX29_state 10 = .ok (.ifCond .eq 7, 3) := by decide +kernel
theorem dX29_state_13 : decode cX29_state 13 = .ok (.iconst 1, 1) := by decide +kernel
theorem dX29_state_14 : decode cX29_state 14 = .ok (.goto 38, 3) := by decide +kernel
theorem dX29_state_17 : decode cX29_state 17 = .ok (.aload_n 0, 1) := by decide +kernel
theorem dX29_state_18 : decode cX29_state 18 = .ok (.getfield 36, 3) := by decide +kernel
theorem dX29_state_21 : decode cX29_state 21 = .ok (.iload_n 1, 1) := by decide +kernel
theorem dX29_state_22 : decode cX29_state 22 = .ok (.iaload, 1) := by decide +kernel
theorem dX29_state_23 : decode cX29_state 23 = .ok (.iload_n 2, 1) := by decide +kernel
theorem dX29_state_24 : decode cX29_state 24 = .ok (.invokestatic 92, 3) := by decide +kernel
theorem dX29_state_27 : decode cX29_state 27 = .ok (.ifCond .eq 7, 3) := by decide +kernel
theorem dX29_state_30 : decode cX29_state 30 = .ok (.iconst 0, 1) := by decide +kernel
theorem dX29_state_31 : decode cX29_state 31 = .ok (.goto 21, 3) := by decide +kernel
theorem dX29_state_34 : decode cX29_state 34 = .ok (.aload_n 0, 1) := by decide +kernel
theorem dX29_state_35 : decode cX29_state 35 = .ok (.getfield 39, 3) := by decide +kernel
theorem dX29_state_38 : decode cX29_state 38 = .ok (.iload_n 1, 1) := by decide +kernel
theorem dX29_state_39 : decode cX29_state 39 = .ok (.iaload, 1) := by decide +kernel
theorem dX29_state_40 : decode cX29_state 40 = .ok (.iload_n 2, 1) := by decide +kernel
theorem dX29_state_41 : decode cX29_state 41 = .ok (.invokestatic 92, 3) := by decide +kernel
theorem dX29_state_44 : decode cX29_state 44 = .ok (.ifCond .eq 7, 3) := by decide +kernel
theorem dX29_state_47 : decode cX29_state 47 = .ok (.iconst 2, 1) := by decide +kernel
theorem dX29_state_48 : decode cX29_state 48 = .ok (.goto 4, 3) := by decide +kernel
theorem dX29_state_51 : decode cX29_state 51 = .ok (.iconst 3, 1) := by decide +kernel
theorem dX29_state_52 : decode cX29_state 52 = .ok (.ireturn, 1) := by decide +kernel
abbrev cX29_place : ByteArray := prog_7_method_27_code
def yX29_place : MethodName := ⟨RX29, "place", "(I)V"⟩
theorem dX29_place_0 : decode cX29_place 0 = .ok (.iconst 0, 1) := by decide +kernel
theorem dX29_place_1 : decode cX29_place 1 = .ok (.istore_n 2, 1) := by decide +kernel
theorem dX29_place_2 : decode cX29_place 2 = .ok (.aload_n 0, 1) := by decide +kernel
theorem dX29_place_3 : decode cX29_place 3 = .ok (.iload_n 1, 1) := by decide +kernel
theorem dX29_place_4 : decode cX29_place 4 = .ok (.iload_n 2, 1) := by decide +kernel
theorem dX29_place_5 : decode cX29_place 5 = .ok (.invokevirtual 148, 3) := by decide +kernel
theorem dX29_place_8 : decode cX29_place 8 = .ok (.istore_n 3, 1) := by decide +kernel
theorem dX29_place_9 : decode cX29_place 9 = .ok (.iload_n 3, 1) := by decide +kernel
theorem dX29_place_10 : decode cX29_place 10 = .ok (.ifCond .lt 26, 3) := by decide +kernel
theorem dX29_place_13 : decode cX29_place 13 = .ok (.iload_n 2, 1) := by decide +kernel
theorem dX29_place_14 : decode cX29_place 14 = .ok (.iconst 1, 1) := by decide +kernel
theorem dX29_place_15 : decode cX29_place 15 = .ok (.iload_n 3, 1) := by decide +kernel
theorem dX29_place_16 : decode cX29_place 16 = .ok (.ishl, 1) := by decide +kernel
theorem dX29_place_17 : decode cX29_place 17 = .ok (.ior, 1) := by decide +kernel
theorem dX29_place_18 : decode cX29_place 18 = .ok (.istore_n 2, 1) := by decide +kernel
theorem dX29_place_19 : decode cX29_place 19 = .ok (.aload_n 0, 1) := by decide +kernel
theorem dX29_place_20 : decode cX29_place 20 = .ok (.iload_n 1, 1) := by decide +kernel
theorem dX29_place_21 : decode cX29_place 21 = .ok (.iload_n 3, 1) := by decide +kernel
theorem dX29_place_22 : decode cX29_place 22 = .ok (.invokevirtual 151, 3) := by decide +kernel
theorem dX29_place_25 : decode cX29_place 25 = .ok (.pop, 1) := by decide +kernel
theorem dX29_place_26 : decode cX29_place 26 = .ok (.aload_n 0, 1) := by decide +kernel
theorem dX29_place_27 : decode cX29_place 27 = .ok (.iload_n 1, 1) := by decide +kernel
theorem dX29_place_28 : decode cX29_place 28 = .ok (.iload_n 2, 1) := by decide +kernel
theorem dX29_place_29 : decode cX29_place 29 = .ok (.invokevirtual 148, 3) := by decide +kernel
theorem dX29_place_32 : decode cX29_place 32 = .ok (.istore_n 3, 1) := by decide +kernel
theorem dX29_place_33 : decode cX29_place 33 = .ok (.goto (-24), 3) := by decide +kernel
theorem dX29_place_36 : decode cX29_place 36 = .ok (.iconst 0, 1) := by decide +kernel
theorem dX29_place_37 : decode cX29_place 37 = .ok (.istore_n 2, 1) := by decide +kernel
theorem dX29_place_38 : decode cX29_place 38 = .ok (.aload_n 0, 1) := by decide +kernel
theorem dX29_place_39 : decode cX29_place 39 = .ok (.iload_n 1, 1) := by decide +kernel
theorem dX29_place_40 : decode cX29_place 40 = .ok (.iload_n 2, 1) := by decide +kernel
theorem dX29_place_41 : decode cX29_place 41 = .ok (.invokevirtual 154, 3) := by decide +kernel
theorem dX29_place_44 : decode cX29_place 44 = .ok (.istore_n 3, 1) := by decide +kernel
theorem dX29_place_45 : decode cX29_place 45 = .ok (.iload_n 3, 1) := by decide +kernel
theorem dX29_place_46 : decode cX29_place 46 = .ok (.ifCond .lt 26, 3) := by decide +kernel
theorem dX29_place_49 : decode cX29_place 49 = .ok (.iload_n 2, 1) := by decide +kernel
theorem dX29_place_50 : decode cX29_place 50 = .ok (.iconst 1, 1) := by decide +kernel
theorem dX29_place_51 : decode cX29_place 51 = .ok (.iload_n 3, 1) := by decide +kernel
theorem dX29_place_52 : decode cX29_place 52 = .ok (.ishl, 1) := by decide +kernel
theorem dX29_place_53 : decode cX29_place 53 = .ok (.ior, 1) := by decide +kernel
theorem dX29_place_54 : decode cX29_place 54 = .ok (.istore_n 2, 1) := by decide +kernel
theorem dX29_place_55 : decode cX29_place 55 = .ok (.aload_n 0, 1) := by decide +kernel
theorem dX29_place_56 : decode cX29_place 56 = .ok (.iload_n 3, 1) := by decide +kernel
theorem dX29_place_57 : decode cX29_place 57 = .ok (.iload_n 1, 1) := by decide +kernel
theorem dX29_place_58 : decode cX29_place 58 = .ok (.invokevirtual 151, 3) := by decide +kernel
theorem dX29_place_61 : decode cX29_place 61 = .ok (.pop, 1) := by decide +kernel
theorem dX29_place_62 : decode cX29_place 62 = .ok (.aload_n 0, 1) := by decide +kernel
theorem dX29_place_63 : decode cX29_place 63 = .ok (.iload_n 1, 1) := by decide +kernel
theorem dX29_place_64 : decode cX29_place 64 = .ok (.iload_n 2, 1) := by decide +kernel
theorem dX29_place_65 : decode cX29_place 65 = .ok (.invokevirtual 154, 3) := by decide +kernel
theorem dX29_place_68 : decode cX29_place 68 = .ok (.istore_n 3, 1) := by decide +kernel
theorem dX29_place_69 : decode cX29_place 69 = .ok (.goto (-24), 3) := by decide +kernel
theorem dX29_place_72 : decode cX29_place 72 = .ok (.aload_n 0, 1) := by decide +kernel
theorem dX29_place_73 : decode cX29_place 73 = .ok (.dup, 1) := by decide +kernel
theorem dX29_place_74 : decode cX29_place 74 = .ok (.getfield 141, 3) := by decide +kernel
theorem dX29_place_77 : decode cX29_place 77 = .ok (.iconst 1, 1) := by decide +kernel
theorem dX29_place_78 : decode cX29_place 78 = .ok (.iload_n 1, 1) := by decide +kernel
theorem dX29_place_79 : decode cX29_place 79 = .ok (.ishl, 1) := by decide +kernel
theorem dX29_place_80 : decode cX29_place 80 = .ok (.ior, 1) := by decide +kernel
theorem dX29_place_81 : decode cX29_place 81 = .ok (.putfield 141, 3) := by decide +kernel
theorem dX29_place_84 : decode cX29_place 84 = .ok (.return_, 1) := by decide +kernel
abbrev cX29_nextDown : ByteArray := prog_7_method_28_code
def yX29_nextDown : MethodName := ⟨RX29, "nextDown", "(II)I"⟩
theorem dX29_nextDown_0 : decode cX29_nextDown 0 = .ok (.iconst 0, 1) := by decide +kernel
theorem dX29_nextDown_1 : decode cX29_nextDown 1 = .ok (.istore_n 3, 1) := by decide +kernel
theorem dX29_nextDown_2 : decode cX29_nextDown 2 = .ok (.iload_n 3, 1) := by decide +kernel
theorem dX29_nextDown_3 : decode cX29_nextDown 3 = .ok (.aload_n 0, 1) := by decide +kernel
theorem dX29_nextDown_4 : decode cX29_nextDown 4 = .ok (.getfield 52, 3) := by decide +kernel
theorem dX29_nextDown_7 : decode cX29_nextDown 7 = .ok (.if_icmp .ge 43, 3) := by decide +kernel
theorem dX29_nextDown_10 : decode cX29_nextDown 10 = .ok (.aload_n 0, 1) := by decide +kernel
theorem dX29_nextDown_11 : decode cX29_nextDown 11 = .ok (.getfield 141, 3) := by decide +kernel
theorem dX29_nextDown_14 : decode cX29_nextDown 14 = .ok (.iload_n 2, 1) := by decide +kernel
theorem dX29_nextDown_15 : decode cX29_nextDown 15 = .ok (.iconst (-1), 1) := by decide +kernel
theorem dX29_nextDown_16 : decode cX29_nextDown 16 = .ok (.ixor, 1) := by decide +kernel
theorem dX29_nextDown_17 : decode cX29_nextDown 17 = .ok (.iand, 1) := by decide +kernel
theorem dX29_nextDown_18 : decode cX29_nextDown 18 = .ok (.iload_n 3, 1) := by decide +kernel
theorem dX29_nextDown_19 : decode cX29_nextDown 19 = .ok (.invokestatic 92, 3) := by decide +kernel
theorem dX29_nextDown_22 : decode cX29_nextDown 22 = .ok (.ifCond .eq 22, 3) := by decide +kernel
theorem dX29_nextDown_25 : decode cX29_nextDown 25 = .ok (.aload_n 0, 1) := by decide +kernel
theorem dX29_nextDown_26 : decode cX29_nextDown 26 = .ok (.iload_n 3, 1) := by decide +kernel
theorem dX29_nextDown_27 : decode cX29_nextDown 27 = .ok (.invokevirtual 157, 3) := by decide +kernel
theorem dX29_nextDown_30 : decode cX29_nextDown 30 = .ok (.aload_n 0, 1) := by decide +kernel
theorem dX29_nextDown_31 : decode cX29_nextDown 31 = .ok (.getfield 33, 3) := by decide +kernel
theorem dX29_nextDown_34 : decode cX29_nextDown 34 = .ok (.iload_n 1, 1) := by decide +kernel
theorem dX29_nextDown_35 : decode cX29_nextDown 35 = .ok (.iaload, 1) := by decide +kernel
theorem dX29_nextDown_36 : decode cX29_nextDown 36 = .ok (.iconst (-1), 1) := by decide +kernel
theorem dX29_nextDown_37 : decode cX29_nextDown 37 = .ok (.ixor, 1) := by decide +kernel
theorem dX29_nextDown_38 : decode cX29_nextDown 38 = .ok (.iand, 1) := by decide +kernel
theorem dX29_nextDown_39 : decode cX29_nextDown 39 = .ok (.ifCond .ne 5, 3) := by decide +kernel
theorem dX29_nextDown_42 : decode cX29_nextDown 42 = .ok (.iload_n 3, 1) := by decide +kernel
theorem dX29_nextDown_43 : decode cX29_nextDown 43 = .ok (.ireturn, 1) := by decide +kernel
theorem dX29_nextDown_44 : decode cX29_nextDown 44 = .ok (.iinc 3 1, 3) := by decide +kernel
theorem dX29_nextDown_47 : decode cX29_nextDown 47 = .ok (.goto (-45), 3) := by decide +kernel
theorem dX29_nextDown_50 : decode cX29_nextDown 50 = .ok (.iconst (-1), 1) := by decide +kernel
theorem dX29_nextDown_51 : decode cX29_nextDown 51 = .ok (.ireturn, 1) := by decide +kernel
abbrev cX29_directlyAbove : ByteArray := prog_7_method_25_code
def yX29_directlyAbove : MethodName := ⟨RX29, "directlyAbove", "(I)I"⟩
theorem dX29_directlyAbove_0 : decode cX29_directlyAbove 0 = .ok (.aload_n 0, 1) := by decide +kernel
theorem dX29_directlyAbove_1 : decode cX29_directlyAbove 1 = .ok (.aload_n 0, 1) := by decide +kernel
theorem dX29_directlyAbove_2 : decode cX29_directlyAbove 2 = .ok (.getfield 33, 3) := by decide +kernel
theorem dX29_directlyAbove_5 : decode cX29_directlyAbove 5 = .ok (.iload_n 1, 1) := by decide +kernel
theorem dX29_directlyAbove_6 : decode cX29_directlyAbove 6 = .ok (.iaload, 1) := by decide +kernel
theorem dX29_directlyAbove_7 : decode cX29_directlyAbove 7 = .ok (.aload_n 0, 1) := by decide +kernel
theorem dX29_directlyAbove_8 : decode cX29_directlyAbove 8 = .ok (.getfield 141, 3) := by decide +kernel
theorem dX29_directlyAbove_11 : decode cX29_directlyAbove 11 = .ok (.iand, 1) := by decide +kernel
theorem dX29_directlyAbove_12 : decode cX29_directlyAbove 12 = .ok (.aload_n 0, 1) := by decide +kernel
theorem dX29_directlyAbove_13 : decode cX29_directlyAbove 13 = .ok (.iload_n 1, 1) := by decide +kernel
theorem dX29_directlyAbove_14 : decode cX29_directlyAbove 14 = .ok (.invokevirtual 138, 3) := by decide +kernel
theorem dX29_directlyAbove_17 : decode cX29_directlyAbove 17 = .ok (.iconst (-1), 1) := by decide +kernel
theorem dX29_directlyAbove_18 : decode cX29_directlyAbove 18 = .ok (.ixor, 1) := by decide +kernel
theorem dX29_directlyAbove_19 : decode cX29_directlyAbove 19 = .ok (.iand, 1) := by decide +kernel
theorem dX29_directlyAbove_20 : decode cX29_directlyAbove 20 = .ok (.iconst 1, 1) := by decide +kernel
theorem dX29_directlyAbove_21 : decode cX29_directlyAbove 21 = .ok (.invokevirtual 144, 3) := by decide +kernel
theorem dX29_directlyAbove_24 : decode cX29_directlyAbove 24 = .ok (.ireturn, 1) := by decide +kernel
abbrev cX29_same : ByteArray := prog_7_method_23_code
def yX29_same : MethodName := ⟨RX29, "same", "(I)I"⟩
theorem dX29_same_0 : decode cX29_same 0 = .ok (.aload_n 0, 1) := by decide +kernel
theorem dX29_same_1 : decode cX29_same 1 = .ok (.getfield 33, 3) := by decide +kernel
theorem dX29_same_4 : decode cX29_same 4 = .ok (.iload_n 1, 1) := by decide +kernel
theorem dX29_same_5 : decode cX29_same 5 = .ok (.iaload, 1) := by decide +kernel
theorem dX29_same_6 : decode cX29_same 6 = .ok (.aload_n 0, 1) := by decide +kernel
theorem dX29_same_7 : decode cX29_same 7 = .ok (.getfield 42, 3) := by decide +kernel
theorem dX29_same_10 : decode cX29_same 10 = .ok (.iload_n 1, 1) := by decide +kernel
theorem dX29_same_11 : decode cX29_same 11 = .ok (.iaload, 1) := by decide +kernel
theorem dX29_same_12 : decode cX29_same 12 = .ok (.iand, 1) := by decide +kernel
theorem dX29_same_13 : decode cX29_same 13 = .ok (.ireturn, 1) := by decide +kernel
abbrev cX29_ends : ByteArray := prog_7_method_24_code
def yX29_ends : MethodName := ⟨RX29, "ends", "(IZ)I"⟩
theorem dX29_ends_0 : decode cX29_ends 0 = .ok (.iconst 0, 1) := by decide +kernel
theorem dX29_ends_1 : decode cX29_ends 1 = .ok (.istore_n 3, 1) := by decide +kernel
theorem dX29_ends_2 : decode cX29_ends 2 = .ok (.iconst 0, 1) := by decide +kernel
theorem dX29_ends_3 : decode cX29_ends 3 = .ok (.istore 4, 2) := by decide +kernel
theorem dX29_ends_5 : decode cX29_ends 5 = .ok (.iload 4, 2) := by decide +kernel
theorem dX29_ends_7 : decode cX29_ends 7 = .ok (.aload_n 0, 1) := by decide +kernel
theorem dX29_ends_8 : decode cX29_ends 8 = .ok (.getfield 52, 3) := by decide +kernel
theorem dX29_ends_11 : decode cX29_ends 11 = .ok (.if_icmp .ge 67, 3) := by decide +kernel
theorem dX29_ends_14 : decode cX29_ends 14 = .ok (.iload_n 1, 1) := by decide +kernel
theorem dX29_ends_15 : decode cX29_ends 15 = .ok (.iload 4, 2) := by decide +kernel
theorem dX29_ends_17 : decode cX29_ends 17 = .ok (.invokestatic 92, 3) := by decide +kernel
theorem dX29_ends_20 : decode cX29_ends 20 = .ok (.ifCond .ne 6, 3) := by decide +kernel
theorem dX29_ends_23 : decode cX29_ends 23 = .ok (.goto 49, 3) := by decide +kernel
theorem dX29_ends_26 : decode cX29_ends 26 = .ok (.iload_n 2, 1) := by decide +kernel
theorem dX29_ends_27 : decode cX29_ends 27 = .ok (.ifCond .eq 13, 3) := by decide +kernel
theorem dX29_ends_30 : decode cX29_ends 30 = .ok (.aload_n 0, 1) := by decide +kernel
theorem dX29_ends_31 : decode cX29_ends 31 = .ok (.getfield 42, 3) := by decide +kernel
theorem dX29_ends_34 : decode cX29_ends 34 = .ok (.iload 4, 2) := by decide +kernel
theorem dX29_ends_36 : decode cX29_ends 36 = .ok (.iaload, 1) := by decide +kernel
theorem dX29_ends_37 : decode cX29_ends 37 = .ok (.goto 10, 3) := by decide +kernel
theorem dX29_ends_40 : decode cX29_ends 40 = .ok (.aload_n 0, 1) := by decide +kernel
theorem dX29_ends_41 : decode cX29_ends 41 = .ok (.getfield 33, 3) := by decide +kernel
theorem dX29_ends_44 : decode cX29_ends 44 = .ok (.iload 4, 2) := by decide +kernel
theorem dX29_ends_46 : decode cX29_ends 46 = .ok (.iaload, 1) := by decide +kernel
theorem dX29_ends_47 : decode cX29_ends 47 = .ok (.iload_n 1, 1) := by decide +kernel
theorem dX29_ends_48 : decode cX29_ends 48 = .ok (.iand, 1) := by decide +kernel
theorem dX29_ends_49 : decode cX29_ends 49 = .ok (.aload_n 0, 1) := by decide +kernel
theorem dX29_ends_50 : decode cX29_ends 50 = .ok (.iload 4, 2) := by decide +kernel
theorem dX29_ends_52 : decode cX29_ends 52 = .ok (.invokevirtual 138, 3) := by decide +kernel
theorem dX29_ends_55 : decode cX29_ends 55 = .ok (.iconst (-1), 1) := by decide +kernel
theorem dX29_ends_56 : decode cX29_ends 56 = .ok (.ixor, 1) := by decide +kernel
theorem dX29_ends_57 : decode cX29_ends 57 = .ok (.iand, 1) := by decide +kernel
theorem dX29_ends_58 : decode cX29_ends 58 = .ok (.istore 5, 2) := by decide +kernel
theorem dX29_ends_60 : decode cX29_ends 60 = .ok (.iload 5, 2) := by decide +kernel
theorem dX29_ends_62 : decode cX29_ends 62 = .ok (.ifCond .ne 10, 3) := by decide +kernel
theorem dX29_ends_65 : decode cX29_ends 65 = .ok (.iload_n 3, 1) := by decide +kernel
theorem dX29_ends_66 : decode cX29_ends 66 = .ok (.iconst 1, 1) := by decide +kernel
theorem dX29_ends_67 : decode cX29_ends 67 = .ok (.iload 4, 2) := by decide +kernel
theorem dX29_ends_69 : decode cX29_ends 69 = .ok (.ishl, 1) := by decide +kernel
theorem dX29_ends_70 : decode cX29_ends 70 = .ok (.ior, 1) := by decide +kernel
theorem dX29_ends_71 : decode cX29_ends 71 = .ok (.istore_n 3, 1) := by decide +kernel
theorem dX29_ends_72 : decode cX29_ends 72 = .ok (.iinc 4 1, 3) := by decide +kernel
theorem dX29_ends_75 : decode cX29_ends 75 = .ok (.goto (-70), 3) := by decide +kernel
theorem dX29_ends_78 : decode cX29_ends 78 = .ok (.iload_n 3, 1) := by decide +kernel
theorem dX29_ends_79 : decode cX29_ends 79 = .ok (.ireturn, 1) := by decide +kernel
abbrev cX29_nextUp : ByteArray := prog_7_method_29_code
def yX29_nextUp : MethodName := ⟨RX29, "nextUp", "(II)I"⟩
theorem dX29_nextUp_0 : decode cX29_nextUp 0 = .ok (.aload_n 0, 1) := by decide +kernel
theorem dX29_nextUp_1 : decode cX29_nextUp 1 = .ok (.getfield 33, 3) := by decide +kernel
theorem dX29_nextUp_4 : decode cX29_nextUp 4 = .ok (.iload_n 1, 1) := by decide +kernel
theorem dX29_nextUp_5 : decode cX29_nextUp 5 = .ok (.iaload, 1) := by decide +kernel
theorem dX29_nextUp_6 : decode cX29_nextUp 6 = .ok (.aload_n 0, 1) := by decide +kernel
theorem dX29_nextUp_7 : decode cX29_nextUp 7 = .ok (.getfield 141, 3) := by decide +kernel
theorem dX29_nextUp_10 : decode cX29_nextUp 10 = .ok (.iand, 1) := by decide +kernel
theorem dX29_nextUp_11 : decode cX29_nextUp 11 = .ok (.istore_n 3, 1) := by decide +kernel
theorem dX29_nextUp_12 : decode cX29_nextUp 12 = .ok (.aload_n 0, 1) := by decide +kernel
theorem dX29_nextUp_13 : decode cX29_nextUp 13 = .ok (.getfield 42, 3) := by decide +kernel
theorem dX29_nextUp_16 : decode cX29_nextUp 16 = .ok (.iload_n 1, 1) := by decide +kernel
theorem dX29_nextUp_17 : decode cX29_nextUp 17 = .ok (.iaload, 1) := by decide +kernel
theorem dX29_nextUp_18 : decode cX29_nextUp 18 = .ok (.istore 4, 2) := by decide +kernel
theorem dX29_nextUp_20 : decode cX29_nextUp 20 = .ok (.iconst 0, 1) := by decide +kernel
theorem dX29_nextUp_21 : decode cX29_nextUp 21 = .ok (.istore 5, 2) := by decide +kernel
theorem dX29_nextUp_23 : decode cX29_nextUp 23 = .ok (.iload 5, 2) := by decide +kernel
theorem dX29_nextUp_25 : decode cX29_nextUp 25 = .ok (.aload_n 0, 1) := by decide +kernel
theorem dX29_nextUp_26 : decode cX29_nextUp 26 = .ok (.getfield 52, 3) := by decide +kernel
theorem dX29_nextUp_29 : decode cX29_nextUp 29 = .ok (.if_icmp .ge 56, 3) := by decide +kernel
theorem dX29_nextUp_32 : decode cX29_nextUp 32 = .ok (.aload_n 0, 1) := by decide +kernel
theorem dX29_nextUp_33 : decode cX29_nextUp 33 = .ok (.getfield 141, 3) := by decide +kernel
theorem dX29_nextUp_36 : decode cX29_nextUp 36 = .ok (.iload_n 2, 1) := by decide +kernel
theorem dX29_nextUp_37 : decode cX29_nextUp 37 = .ok (.iconst (-1), 1) := by decide +kernel
theorem dX29_nextUp_38 : decode cX29_nextUp 38 = .ok (.ixor, 1) := by decide +kernel
theorem dX29_nextUp_39 : decode cX29_nextUp 39 = .ok (.iand, 1) := by decide +kernel
theorem dX29_nextUp_40 : decode cX29_nextUp 40 = .ok (.iload 5, 2) := by decide +kernel
theorem dX29_nextUp_42 : decode cX29_nextUp 42 = .ok (.invokestatic 92, 3) := by decide +kernel
theorem dX29_nextUp_45 : decode cX29_nextUp 45 = .ok (.ifCond .eq 34, 3) := by decide +kernel
theorem dX29_nextUp_48 : decode cX29_nextUp 48 = .ok (.iload_n 3, 1) := by decide +kernel
theorem dX29_nextUp_49 : decode cX29_nextUp 49 = .ok (.aload_n 0, 1) := by decide +kernel
theorem dX29_nextUp_50 : decode cX29_nextUp 50 = .ok (.getfield 33, 3) := by decide +kernel
theorem dX29_nextUp_53 : decode cX29_nextUp 53 = .ok (.iload 5, 2) := by decide +kernel
theorem dX29_nextUp_55 : decode cX29_nextUp 55 = .ok (.iaload, 1) := by decide +kernel
theorem dX29_nextUp_56 : decode cX29_nextUp 56 = .ok (.iconst (-1), 1) := by decide +kernel
theorem dX29_nextUp_57 : decode cX29_nextUp 57 = .ok (.ixor, 1) := by decide +kernel
theorem dX29_nextUp_58 : decode cX29_nextUp 58 = .ok (.iand, 1) := by decide +kernel
theorem dX29_nextUp_59 : decode cX29_nextUp 59 = .ok (.ifCond .ne 20, 3) := by decide +kernel
theorem dX29_nextUp_62 : decode cX29_nextUp 62 = .ok (.aload_n 0, 1) := by decide +kernel
theorem dX29_nextUp_63 : decode cX29_nextUp 63 = .ok (.iload 5, 2) := by decide +kernel
theorem dX29_nextUp_65 : decode cX29_nextUp 65 = .ok (.invokevirtual 160, 3) := by decide +kernel
theorem dX29_nextUp_68 : decode cX29_nextUp 68 = .ok (.iload 4, 2) := by decide +kernel
theorem dX29_nextUp_70 : decode cX29_nextUp 70 = .ok (.iconst (-1), 1) := by decide +kernel
theorem dX29_nextUp_71 : decode cX29_nextUp 71 = .ok (.ixor, 1) := by decide +kernel
theorem dX29_nextUp_72 : decode cX29_nextUp 72 = .ok (.iand, 1) := by decide +kernel
theorem dX29_nextUp_73 : decode cX29_nextUp 73 = .ok (.ifCond .ne 6, 3) := by decide +kernel
theorem dX29_nextUp_76 : decode cX29_nextUp 76 = .ok (.iload 5, 2) := by decide +kernel
theorem dX29_nextUp_78 : decode cX29_nextUp 78 = .ok (.ireturn, 1) := by decide +kernel
theorem dX29_nextUp_79 : decode cX29_nextUp 79 = .ok (.iinc 5 1, 3) := by decide +kernel
theorem dX29_nextUp_82 : decode cX29_nextUp 82 = .ok (.goto (-59), 3) := by decide +kernel
theorem dX29_nextUp_85 : decode cX29_nextUp 85 = .ok (.iconst (-1), 1) := by decide +kernel
theorem dX29_nextUp_86 : decode cX29_nextUp 86 = .ok (.ireturn, 1) := by decide +kernel
abbrev cX29_directlyBelow : ByteArray := prog_7_method_26_code
def yX29_directlyBelow : MethodName := ⟨RX29, "directlyBelow", "(I)I"⟩
theorem dX29_directlyBelow_0 : decode cX29_directlyBelow 0 = .ok (.aload_n 0, 1) := by decide +kernel
theorem dX29_directlyBelow_1 : decode cX29_directlyBelow 1 = .ok (.aload_n 0, 1) := by decide +kernel
theorem dX29_directlyBelow_2 : decode cX29_directlyBelow 2 = .ok (.getfield 42, 3) := by decide +kernel
theorem dX29_directlyBelow_5 : decode cX29_directlyBelow 5 = .ok (.iload_n 1, 1) := by decide +kernel
theorem dX29_directlyBelow_6 : decode cX29_directlyBelow 6 = .ok (.iaload, 1) := by decide +kernel
theorem dX29_directlyBelow_7 : decode cX29_directlyBelow 7 = .ok (.aload_n 0, 1) := by decide +kernel
theorem dX29_directlyBelow_8 : decode cX29_directlyBelow 8 = .ok (.getfield 141, 3) := by decide +kernel
theorem dX29_directlyBelow_11 : decode cX29_directlyBelow 11 = .ok (.iand, 1) := by decide +kernel
theorem dX29_directlyBelow_12 : decode cX29_directlyBelow 12 = .ok (.aload_n 0, 1) := by decide +kernel
theorem dX29_directlyBelow_13 : decode cX29_directlyBelow 13 = .ok (.iload_n 1, 1) := by decide +kernel
theorem dX29_directlyBelow_14 : decode cX29_directlyBelow 14 = .ok (.invokevirtual 138, 3) := by decide +kernel
theorem dX29_directlyBelow_17 : decode cX29_directlyBelow 17 = .ok (.iconst (-1), 1) := by decide +kernel
theorem dX29_directlyBelow_18 : decode cX29_directlyBelow 18 = .ok (.ixor, 1) := by decide +kernel
theorem dX29_directlyBelow_19 : decode cX29_directlyBelow 19 = .ok (.iand, 1) := by decide +kernel
theorem dX29_directlyBelow_20 : decode cX29_directlyBelow 20 = .ok (.iconst 0, 1) := by decide +kernel
theorem dX29_directlyBelow_21 : decode cX29_directlyBelow 21 = .ok (.invokevirtual 144, 3) := by decide +kernel
theorem dX29_directlyBelow_24 : decode cX29_directlyBelow 24 = .ok (.ireturn, 1) := by decide +kernel
abbrev cX29_count : ByteArray := prog_7_method_43_code
def yX29_count : MethodName := ⟨RX29, "count", "(I)I"⟩
theorem dX29_count_0 : decode cX29_count 0 = .ok (.iload_n 1, 1) := by decide +kernel
theorem dX29_count_1 : decode cX29_count 1 = .ok (.tableswitch 100 0 6 #[43, 48, 53, 58, 63, 68, 81], 43) := by decide +kernel
theorem dX29_count_44 : decode cX29_count 44 = .ok (.aload_n 0, 1) := by decide +kernel
theorem dX29_count_45 : decode cX29_count 45 = .ok (.getfield 52, 3) := by decide +kernel
theorem dX29_count_48 : decode cX29_count 48 = .ok (.ireturn, 1) := by decide +kernel
theorem dX29_count_49 : decode cX29_count 49 = .ok (.aload_n 0, 1) := by decide +kernel
theorem dX29_count_50 : decode cX29_count 50 = .ok (.invokevirtual 191, 3) := by decide +kernel
theorem dX29_count_53 : decode cX29_count 53 = .ok (.ireturn, 1) := by decide +kernel
theorem dX29_count_54 : decode cX29_count 54 = .ok (.aload_n 0, 1) := by decide +kernel
theorem dX29_count_55 : decode cX29_count 55 = .ok (.getfield 66, 3) := by decide +kernel
theorem dX29_count_58 : decode cX29_count 58 = .ok (.ireturn, 1) := by decide +kernel
theorem dX29_count_59 : decode cX29_count 59 = .ok (.aload_n 0, 1) := by decide +kernel
theorem dX29_count_60 : decode cX29_count 60 = .ok (.getfield 135, 3) := by decide +kernel
theorem dX29_count_63 : decode cX29_count 63 = .ok (.ireturn, 1) := by decide +kernel
theorem dX29_count_64 : decode cX29_count 64 = .ok (.aload_n 0, 1) := by decide +kernel
theorem dX29_count_65 : decode cX29_count 65 = .ok (.invokevirtual 106, 3) := by decide +kernel
theorem dX29_count_68 : decode cX29_count 68 = .ok (.ireturn, 1) := by decide +kernel
theorem dX29_count_69 : decode cX29_count 69 = .ok (.aload_n 0, 1) := by decide +kernel
theorem dX29_count_70 : decode cX29_count 70 = .ok (.getfield 62, 3) := by decide +kernel
theorem dX29_count_73 : decode cX29_count 73 = .ok (.ifCond .eq 7, 3) := by decide +kernel
theorem dX29_count_76 : decode cX29_count 76 = .ok (.iconst 1, 1) := by decide +kernel
theorem dX29_count_77 : decode cX29_count 77 = .ok (.goto 4, 3) := by decide +kernel
theorem dX29_count_80 : decode cX29_count 80 = .ok (.iconst 0, 1) := by decide +kernel
theorem dX29_count_81 : decode cX29_count 81 = .ok (.ireturn, 1) := by decide +kernel
theorem dX29_count_82 : decode cX29_count 82 = .ok (.aload_n 0, 1) := by decide +kernel
theorem dX29_count_83 : decode cX29_count 83 = .ok (.getfield 62, 3) := by decide +kernel
theorem dX29_count_86 : decode cX29_count 86 = .ok (.ifCond .eq 13, 3) := by decide +kernel
theorem dX29_count_89 : decode cX29_count 89 = .ok (.aload_n 0, 1) := by decide +kernel
theorem dX29_count_90 : decode cX29_count 90 = .ok (.getfield 141, 3) := by decide +kernel
theorem dX29_count_93 : decode cX29_count 93 = .ok (.invokestatic 118, 3) := by decide +kernel
theorem dX29_count_96 : decode cX29_count 96 = .ok (.goto 4, 3) := by decide +kernel
theorem dX29_count_99 : decode cX29_count 99 = .ok (.iconst 0, 1) := by decide +kernel
theorem dX29_count_100 : decode cX29_count 100 = .ok (.ireturn, 1) := by decide +kernel
theorem dX29_count_101 : decode cX29_count 101 = .ok (.bipush (-2), 2) := by decide +kernel
theorem dX29_count_103 : decode cX29_count 103 = .ok (.ireturn, 1) := by decide +kernel
abbrev cX29_standing : ByteArray := prog_7_method_42_code
def yX29_standing : MethodName := ⟨RX29, "standing", "()I"⟩
theorem dX29_standing_0 : decode cX29_standing 0 = .ok (.iconst 0, 1) := by decide +kernel
theorem dX29_standing_1 : decode cX29_standing 1 = .ok (.istore_n 1, 1) := by decide +kernel
theorem dX29_standing_2 : decode cX29_standing 2 = .ok (.iconst 0, 1) := by decide +kernel
theorem dX29_standing_3 : decode cX29_standing 3 = .ok (.istore_n 2, 1) := by decide +kernel
theorem dX29_standing_4 : decode cX29_standing 4 = .ok (.iload_n 2, 1) := by decide +kernel
theorem dX29_standing_5 : decode cX29_standing 5 = .ok (.aload_n 0, 1) := by decide +kernel
theorem dX29_standing_6 : decode cX29_standing 6 = .ok (.getfield 10, 3) := by decide +kernel
theorem dX29_standing_9 : decode cX29_standing 9 = .ok (.invokevirtual 72, 3) := by decide +kernel
theorem dX29_standing_12 : decode cX29_standing 12 = .ok (.if_icmp .ge 34, 3) := by decide +kernel
theorem dX29_standing_15 : decode cX29_standing 15 = .ok (.iload_n 1, 1) := by decide +kernel
theorem dX29_standing_16 : decode cX29_standing 16 = .ok (.aload_n 0, 1) := by decide +kernel
theorem dX29_standing_17 : decode cX29_standing 17 = .ok (.getfield 10, 3) := by decide +kernel
theorem dX29_standing_20 : decode cX29_standing 20 = .ok (.iload_n 2, 1) := by decide +kernel
theorem dX29_standing_21 : decode cX29_standing 21 = .ok (.invokevirtual 96, 3) := by decide +kernel
theorem dX29_standing_24 : decode cX29_standing 24 = .ok (.checkcast 76, 3) := by decide +kernel
theorem dX29_standing_27 : decode cX29_standing 27 = .ok (.getfield 100, 3) := by decide +kernel
theorem dX29_standing_30 : decode cX29_standing 30 = .ok (.ifCond .eq 7, 3) := by decide +kernel
theorem dX29_standing_33 : decode cX29_standing 33 = .ok (.iconst 0, 1) := by decide +kernel
theorem dX29_standing_34 : decode cX29_standing 34 = .ok (.goto 4, 3) := by decide +kernel
theorem dX29_standing_37 : decode cX29_standing 37 = .ok (.iconst 1, 1) := by decide +kernel
theorem dX29_standing_38 : decode cX29_standing 38 = .ok (.iadd, 1) := by decide +kernel
theorem dX29_standing_39 : decode cX29_standing 39 = .ok (.istore_n 1, 1) := by decide +kernel
theorem dX29_standing_40 : decode cX29_standing 40 = .ok (.iinc 2 1, 3) := by decide +kernel
theorem dX29_standing_43 : decode cX29_standing 43 = .ok (.goto (-39), 3) := by decide +kernel
theorem dX29_standing_46 : decode cX29_standing 46 = .ok (.iload_n 1, 1) := by decide +kernel
theorem dX29_standing_47 : decode cX29_standing 47 = .ok (.ireturn, 1) := by decide +kernel
abbrev cX29_openPairs : ByteArray := prog_7_method_16_code
def yX29_openPairs : MethodName := ⟨RX29, "openPairs", "()I"⟩
theorem dX29_openPairs_0 : decode cX29_openPairs 0 = .ok (.iconst 0, 1) := by decide +kernel
theorem dX29_openPairs_1 : decode cX29_openPairs 1 = .ok (.istore_n 1, 1) := by decide +kernel
theorem dX29_openPairs_2 : decode cX29_openPairs 2 = .ok (.iconst 0, 1) := by decide +kernel
theorem dX29_openPairs_3 : decode cX29_openPairs 3 = .ok (.istore_n 2, 1) := by decide +kernel
theorem dX29_openPairs_4 : decode cX29_openPairs 4 = .ok (.iload_n 2, 1) := by decide +kernel
theorem dX29_openPairs_5 : decode cX29_openPairs 5 = .ok (.aload_n 0, 1) := by decide +kernel
theorem dX29_openPairs_6 : decode cX29_openPairs 6 = .ok (.getfield 52, 3) := by decide +kernel
theorem dX29_openPairs_9 : decode cX29_openPairs 9 = .ok (.if_icmp .ge 21, 3) := by decide +kernel
theorem dX29_openPairs_12 : decode cX29_openPairs 12 = .ok (.iload_n 1, 1) := by decide +kernel
theorem dX29_openPairs_13 : decode cX29_openPairs 13 = .ok (.aload_n 0, 1) := by decide +kernel
theorem dX29_openPairs_14 : decode cX29_openPairs 14 = .ok (.getfield 39, 3) := by decide +kernel
theorem dX29_openPairs_17 : decode cX29_openPairs 17 = .ok (.iload_n 2, 1) := by decide +kernel
theorem dX29_openPairs_18 : decode cX29_openPairs 18 = .ok (.iaload, 1) := by decide +kernel
theorem dX29_openPairs_19 : decode cX29_openPairs 19 = .ok (.invokestatic 118, 3) := by decide +kernel
theorem dX29_openPairs_22 : decode cX29_openPairs 22 = .ok (.iadd, 1) := by decide +kernel
theorem dX29_openPairs_23 : decode cX29_openPairs 23 = .ok (.istore_n 1, 1) := by decide +kernel
theorem dX29_openPairs_24 : decode cX29_openPairs 24 = .ok (.iinc 2 1, 3) := by decide +kernel
theorem dX29_openPairs_27 : decode cX29_openPairs 27 = .ok (.goto (-23), 3) := by decide +kernel
theorem dX29_openPairs_30 : decode cX29_openPairs 30 = .ok (.iload_n 1, 1) := by decide +kernel
theorem dX29_openPairs_31 : decode cX29_openPairs 31 = .ok (.ireturn, 1) := by decide +kernel
abbrev cX29_parent : ByteArray := prog_7_method_33_code
def yX29_parent : MethodName := ⟨RX29, "parent", "(II)I"⟩
theorem dX29_parent_0 : decode cX29_parent 0 = .ok (.aload_n 0, 1) := by decide +kernel
theorem dX29_parent_1 : decode cX29_parent 1 = .ok (.iload_n 1, 1) := by decide +kernel
theorem dX29_parent_2 : decode cX29_parent 2 = .ok (.invokevirtual 170, 3) := by decide +kernel
theorem dX29_parent_5 : decode cX29_parent 5 = .ok (.istore_n 3, 1) := by decide +kernel
theorem dX29_parent_6 : decode cX29_parent 6 = .ok (.iload_n 3, 1) := by decide +kernel
theorem dX29_parent_7 : decode cX29_parent 7 = .ok (.ifCond .ge 7, 3) := by decide +kernel
theorem dX29_parent_10 : decode cX29_parent 10 = .ok (.iload_n 3, 1) := by decide +kernel
theorem dX29_parent_11 : decode cX29_parent 11 = .ok (.goto 39, 3) := by decide +kernel
theorem dX29_parent_14 : decode cX29_parent 14 = .ok (.aload_n 0, 1) := by decide +kernel
theorem dX29_parent_15 : decode cX29_parent 15 = .ok (.aload_n 0, 1) := by decide +kernel
theorem dX29_parent_16 : decode cX29_parent 16 = .ok (.getfield 163, 3) := by decide +kernel
theorem dX29_parent_19 : decode cX29_parent 19 = .ok (.iload_n 1, 1) := by decide +kernel
theorem dX29_parent_20 : decode cX29_parent 20 = .ok (.invokestatic 92, 3) := by decide +kernel
theorem dX29_parent_23 : decode cX29_parent 23 = .ok (.ifCond .eq 15, 3) := by decide +kernel
theorem dX29_parent_26 : decode cX29_parent 26 = .ok (.aload_n 0, 1) := by decide +kernel
theorem dX29_parent_27 : decode cX29_parent 27 = .ok (.aload_n 0, 1) := by decide +kernel
theorem dX29_parent_28 : decode cX29_parent 28 = .ok (.getfield 141, 3) := by decide +kernel
theorem dX29_parent_31 : decode cX29_parent 31 = .ok (.iconst 1, 1) := by decide +kernel
theorem dX29_parent_32 : decode cX29_parent 32 = .ok (.invokevirtual 144, 3) := by decide +kernel
theorem dX29_parent_35 : decode cX29_parent 35 = .ok (.goto 8, 3) := by decide +kernel
theorem dX29_parent_38 : decode cX29_parent 38 = .ok (.aload_n 0, 1) := by decide +kernel
theorem dX29_parent_39 : decode cX29_parent 39 = .ok (.iload_n 1, 1) := by decide +kernel
theorem dX29_parent_40 : decode cX29_parent 40 = .ok (.invokevirtual 157, 3) := by decide +kernel
theorem dX29_parent_43 : decode cX29_parent 43 = .ok (.invokevirtual 173, 3) := by decide +kernel
theorem dX29_parent_46 : decode cX29_parent 46 = .ok (.iload_n 2, 1) := by decide +kernel
theorem dX29_parent_47 : decode cX29_parent 47 = .ok (.invokestatic 176, 3) := by decide +kernel
theorem dX29_parent_50 : decode cX29_parent 50 = .ok (.ireturn, 1) := by decide +kernel
abbrev cX29_refusal : ByteArray := prog_7_method_32_code
def yX29_refusal : MethodName := ⟨RX29, "refusal", "(I)I"⟩
theorem dX29_refusal_0 : decode cX29_refusal 0 = .ok (.aload_n 0, 1) := by decide +kernel
theorem dX29_refusal_1 : decode cX29_refusal 1 = .ok (.iload_n 1, 1) := by decide +kernel
theorem dX29_refusal_2 : decode cX29_refusal 2 = .ok (.invokevirtual 55, 3) := by decide +kernel
theorem dX29_refusal_5 : decode cX29_refusal 5 = .ok (.ifCond .ne 7, 3) := by decide +kernel
theorem dX29_refusal_8 : decode cX29_refusal 8 = .ok (.iconst (-1), 1) := by decide +kernel
theorem dX29_refusal_9 : decode cX29_refusal 9 = .ok (.goto 16, 3) := by decide +kernel
theorem dX29_refusal_12 : decode cX29_refusal 12 = .ok (.aload_n 0, 1) := by decide +kernel
theorem dX29_refusal_13 : decode cX29_refusal 13 = .ok (.getfield 62, 3) := by decide +kernel
theorem dX29_refusal_16 : decode cX29_refusal 16 = .ok (.ifCond .eq 7, 3) := by decide +kernel
theorem dX29_refusal_19 : decode cX29_refusal 19 = .ok (.iconst 0, 1) := by decide +kernel
theorem dX29_refusal_20 : decode cX29_refusal 20 = .ok (.goto 5, 3) := by decide +kernel
theorem dX29_refusal_23 : decode cX29_refusal 23 = .ok (.bipush (-3), 2) := by decide +kernel
theorem dX29_refusal_25 : decode cX29_refusal 25 = .ok (.ireturn, 1) := by decide +kernel
abbrev cX29_firsts : ByteArray := prog_7_method_31_code
def yX29_firsts : MethodName := ⟨RX29, "firsts", "(I)I"⟩
theorem dX29_firsts_0 : decode cX29_firsts 0 = .ok (.iconst 0, 1) := by decide +kernel
theorem dX29_firsts_1 : decode cX29_firsts 1 = .ok (.istore_n 2, 1) := by decide +kernel
theorem dX29_firsts_2 : decode cX29_firsts 2 = .ok (.iconst 0, 1) := by decide +kernel
theorem dX29_firsts_3 : decode cX29_firsts 3 = .ok (.istore_n 3, 1) := by decide +kernel
theorem dX29_firsts_4 : decode cX29_firsts 4 = .ok (.iload_n 3, 1) := by decide +kernel
theorem dX29_firsts_5 : decode cX29_firsts 5 = .ok (.aload_n 0, 1) := by decide +kernel
theorem dX29_firsts_6 : decode cX29_firsts 6 = .ok (.getfield 52, 3) := by decide +kernel
theorem dX29_firsts_9 : decode cX29_firsts 9 = .ok (.if_icmp .ge 42, 3) := by decide +kernel
theorem dX29_firsts_12 : decode cX29_firsts 12 = .ok (.iload_n 1, 1) := by decide +kernel
theorem dX29_firsts_13 : decode cX29_firsts 13 = .ok (.iload_n 3, 1) := by decide +kernel
theorem dX29_firsts_14 : decode cX29_firsts 14 = .ok (.invokestatic 92, 3) := by decide +kernel
theorem dX29_firsts_17 : decode cX29_firsts 17 = .ok (.ifCond .eq 28, 3) := by decide +kernel
theorem dX29_firsts_20 : decode cX29_firsts 20 = .ok (.aload_n 0, 1) := by decide +kernel
theorem dX29_firsts_21 : decode cX29_firsts 21 = .ok (.iload_n 3, 1) := by decide +kernel
theorem dX29_firsts_22 : decode cX29_firsts 22 = .ok (.invokevirtual 138, 3) := by decide +kernel
theorem dX29_firsts_25 : decode cX29_firsts 25 = .ok (.aload_n 0, 1) := by decide +kernel
theorem dX29_firsts_26 : decode cX29_firsts 26 = .ok (.getfield 141, 3) := by decide +kernel
theorem dX29_firsts_29 : decode cX29_firsts 29 = .ok (.iand, 1) := by decide +kernel
theorem dX29_firsts_30 : decode cX29_firsts 30 = .ok (.iconst 1, 1) := by decide +kernel
theorem dX29_firsts_31 : decode cX29_firsts 31 = .ok (.iload_n 3, 1) := by decide +kernel
theorem dX29_firsts_32 : decode cX29_firsts 32 = .ok (.ishl, 1) := by decide +kernel
theorem dX29_firsts_33 : decode cX29_firsts 33 = .ok (.iconst 1, 1) := by decide +kernel
theorem dX29_firsts_34 : decode cX29_firsts 34 = .ok (.isub, 1) := by decide +kernel
theorem dX29_firsts_35 : decode cX29_firsts 35 = .ok (.iand, 1) := by decide +kernel
theorem dX29_firsts_36 : decode cX29_firsts 36 = .ok (.ifCond .ne 9, 3) := by decide +kernel
theorem dX29_firsts_39 : decode cX29_firsts 39 = .ok (.iload_n 2, 1) := by decide +kernel
theorem dX29_firsts_40 : decode cX29_firsts 40 = .ok (.iconst 1, 1) := by decide +kernel
theorem dX29_firsts_41 : decode cX29_firsts 41 = .ok (.iload_n 3, 1) := by decide +kernel
theorem dX29_firsts_42 : decode cX29_firsts 42 = .ok (.ishl, 1) := by decide +kernel
theorem dX29_firsts_43 : decode cX29_firsts 43 = .ok (.ior, 1) := by decide +kernel
theorem dX29_firsts_44 : decode cX29_firsts 44 = .ok (.istore_n 2, 1) := by decide +kernel
theorem dX29_firsts_45 : decode cX29_firsts 45 = .ok (.iinc 3 1, 3) := by decide +kernel
theorem dX29_firsts_48 : decode cX29_firsts 48 = .ok (.goto (-44), 3) := by decide +kernel
theorem dX29_firsts_51 : decode cX29_firsts 51 = .ok (.iload_n 2, 1) := by decide +kernel
theorem dX29_firsts_52 : decode cX29_firsts 52 = .ok (.ireturn, 1) := by decide +kernel
abbrev cX29_of : ByteArray := prog_7_method_3_code
def yX29_of : MethodName := ⟨RX29, "of", "(II)I"⟩
theorem dX29_of_0 : decode cX29_of 0 = .ok (.iload_n 1, 1) := by decide +kernel
theorem dX29_of_1 : decode cX29_of 1 = .ok (.ifCond .ge 6, 3) := by decide +kernel
theorem dX29_of_4 : decode cX29_of 4 = .ok (.bipush (-6), 2) := by decide +kernel
theorem dX29_of_6 : decode cX29_of 6 = .ok (.ireturn, 1) := by decide +kernel
theorem dX29_of_7 : decode cX29_of 7 = .ok (.iload_n 0, 1) := by decide +kernel
theorem dX29_of_8 : decode cX29_of 8 = .ok (.istore_n 2, 1) := by decide +kernel
theorem dX29_of_9 : decode cX29_of 9 = .ok (.iconst 0, 1) := by decide +kernel
theorem dX29_of_10 : decode cX29_of 10 = .ok (.istore_n 3, 1) := by decide +kernel
theorem dX29_of_11 : decode cX29_of 11 = .ok (.iload_n 3, 1) := by decide +kernel
theorem dX29_of_12 : decode cX29_of 12 = .ok (.iload_n 1, 1) := by decide +kernel
theorem dX29_of_13 : decode cX29_of 13 = .ok (.if_icmp .ge 19, 3) := by decide +kernel
theorem dX29_of_16 : decode cX29_of 16 = .ok (.iload_n 2, 1) := by decide +kernel
theorem dX29_of_17 : decode cX29_of 17 = .ok (.ifCond .eq 15, 3) := by decide +kernel
theorem dX29_of_20 : decode cX29_of 20 = .ok (.iload_n 2, 1) := by decide +kernel
theorem dX29_of_21 : decode cX29_of 21 = .ok (.iload_n 2, 1) := by decide +kernel
theorem dX29_of_22 : decode cX29_of 22 = .ok (.iconst 1, 1) := by decide +kernel
theorem dX29_of_23 : decode cX29_of 23 = .ok (.isub, 1) := by decide +kernel
theorem dX29_of_24 : decode cX29_of 24 = .ok (.iand, 1) := by decide +kernel
theorem dX29_of_25 : decode cX29_of 25 = .ok (.istore_n 2, 1) := by decide +kernel
theorem dX29_of_26 : decode cX29_of 26 = .ok (.iinc 3 1, 3) := by decide +kernel
theorem dX29_of_29 : decode cX29_of 29 = .ok (.goto (-18), 3) := by decide +kernel
theorem dX29_of_32 : decode cX29_of 32 = .ok (.iload_n 2, 1) := by decide +kernel
theorem dX29_of_33 : decode cX29_of 33 = .ok (.ifCond .ne 8, 3) := by decide +kernel
theorem dX29_of_36 : decode cX29_of 36 = .ok (.bipush (-6), 2) := by decide +kernel
theorem dX29_of_38 : decode cX29_of 38 = .ok (.goto 7, 3) := by decide +kernel
theorem dX29_of_41 : decode cX29_of 41 = .ok (.iload_n 2, 1) := by decide +kernel
theorem dX29_of_42 : decode cX29_of 42 = .ok (.invokestatic 46, 3) := by decide +kernel
theorem dX29_of_45 : decode cX29_of 45 = .ok (.ireturn, 1) := by decide +kernel
abbrev cX29_class0 : ByteArray := prog_7_method_8_code
def yX29_class0 : MethodName := ⟨RX29, "class0", "()I"⟩
theorem dX29_class0_0 : decode cX29_class0 0 = .ok (.aload_n 0, 1) := by decide +kernel
theorem dX29_class0_1 : decode cX29_class0 1 = .ok (.getfield 52, 3) := by decide +kernel
theorem dX29_class0_4 : decode cX29_class0 4 = .ok (.bipush 20, 2) := by decide +kernel
theorem dX29_class0_6 : decode cX29_class0 6 = .ok (.if_icmp .ne 6, 3) := by decide +kernel
theorem dX29_class0_9 : decode cX29_class0 9 = .ok (.bipush (-4), 2) := by decide +kernel
theorem dX29_class0_11 : decode cX29_class0 11 = .ok (.ireturn, 1) := by decide +kernel
theorem dX29_class0_12 : decode cX29_class0 12 = .ok (.aload_n 0, 1) := by decide +kernel
theorem dX29_class0_13 : decode cX29_class0 13 = .ok (.getfield 33, 3) := by decide +kernel
theorem dX29_class0_16 : decode cX29_class0 16 = .ok (.aload_n 0, 1) := by decide +kernel
theorem dX29_class0_17 : decode cX29_class0 17 = .ok (.getfield 52, 3) := by decide +kernel
theorem dX29_class0_20 : decode cX29_class0 20 = .ok (.iconst 1, 1) := by decide +kernel
theorem dX29_class0_21 : decode cX29_class0 21 = .ok (.aload_n 0, 1) := by decide +kernel
theorem dX29_class0_22 : decode cX29_class0 22 = .ok (.getfield 52, 3) := by decide +kernel
theorem dX29_class0_25 : decode cX29_class0 25 = .ok (.ishl, 1) := by decide +kernel
theorem dX29_class0_26 : decode cX29_class0 26 = .ok (.iastore, 1) := by decide +kernel
theorem dX29_class0_27 : decode cX29_class0 27 = .ok (.aload_n 0, 1) := by decide +kernel
theorem dX29_class0_28 : decode cX29_class0 28 = .ok (.getfield 33, 3) := by decide +kernel
theorem dX29_class0_31 : decode cX29_class0 31 = .ok (.bipush 20, 2) := by decide +kernel
theorem dX29_class0_33 : decode cX29_class0 33 = .ok (.dup2, 1) := by decide +kernel
theorem dX29_class0_34 : decode cX29_class0 34 = .ok (.iaload, 1) := by decide +kernel
theorem dX29_class0_35 : decode cX29_class0 35 = .ok (.iconst 1, 1) := by decide +kernel
theorem dX29_class0_36 : decode cX29_class0 36 = .ok (.aload_n 0, 1) := by decide +kernel
theorem dX29_class0_37 : decode cX29_class0 37 = .ok (.getfield 52, 3) := by decide +kernel
theorem dX29_class0_40 : decode cX29_class0 40 = .ok (.ishl, 1) := by decide +kernel
theorem dX29_class0_41 : decode cX29_class0 41 = .ok (.ior, 1) := by decide +kernel
theorem dX29_class0_42 : decode cX29_class0 42 = .ok (.iastore, 1) := by decide +kernel
theorem dX29_class0_43 : decode cX29_class0 43 = .ok (.aload_n 0, 1) := by decide +kernel
theorem dX29_class0_44 : decode cX29_class0 44 = .ok (.dup, 1) := by decide +kernel
theorem dX29_class0_45 : decode cX29_class0 45 = .ok (.getfield 52, 3) := by decide +kernel
theorem dX29_class0_48 : decode cX29_class0 48 = .ok (.iconst 1, 1) := by decide +kernel
theorem dX29_class0_49 : decode cX29_class0 49 = .ok (.iadd, 1) := by decide +kernel
theorem dX29_class0_50 : decode cX29_class0 50 = .ok (.putfield 52, 3) := by decide +kernel
theorem dX29_class0_53 : decode cX29_class0 53 = .ok (.aload_n 0, 1) := by decide +kernel
theorem dX29_class0_54 : decode cX29_class0 54 = .ok (.invokevirtual 59, 3) := by decide +kernel
theorem dX29_class0_57 : decode cX29_class0 57 = .ok (.aload_n 0, 1) := by decide +kernel
theorem dX29_class0_58 : decode cX29_class0 58 = .ok (.iconst 0, 1) := by decide +kernel
theorem dX29_class0_59 : decode cX29_class0 59 = .ok (.putfield 62, 3) := by decide +kernel
theorem dX29_class0_62 : decode cX29_class0 62 = .ok (.aload_n 0, 1) := by decide +kernel
theorem dX29_class0_63 : decode cX29_class0 63 = .ok (.getfield 52, 3) := by decide +kernel
theorem dX29_class0_66 : decode cX29_class0 66 = .ok (.iconst 1, 1) := by decide +kernel
theorem dX29_class0_67 : decode cX29_class0 67 = .ok (.isub, 1) := by decide +kernel
theorem dX29_class0_68 : decode cX29_class0 68 = .ok (.ireturn, 1) := by decide +kernel
abbrev cX29_thing : ByteArray := prog_7_method_9_code
def yX29_thing : MethodName := ⟨RX29, "thing", "()I"⟩
theorem dX29_thing_0 : decode cX29_thing 0 = .ok (.aload_n 0, 1) := by decide +kernel
theorem dX29_thing_1 : decode cX29_thing 1 = .ok (.getfield 66, 3) := by decide +kernel
theorem dX29_thing_4 : decode cX29_thing 4 = .ok (.bipush 8, 2) := by decide +kernel
theorem dX29_thing_6 : decode cX29_thing 6 = .ok (.if_icmp .ne 6, 3) := by decide +kernel
theorem dX29_thing_9 : decode cX29_thing 9 = .ok (.bipush (-4), 2) := by decide +kernel
theorem dX29_thing_11 : decode cX29_thing 11 = .ok (.ireturn, 1) := by decide +kernel
theorem dX29_thing_12 : decode cX29_thing 12 = .ok (.aload_n 0, 1) := by decide +kernel
theorem dX29_thing_13 : decode cX29_thing 13 = .ok (.dup, 1) := by decide +kernel
theorem dX29_thing_14 : decode cX29_thing 14 = .ok (.getfield 66, 3) := by decide +kernel
theorem dX29_thing_17 : decode cX29_thing 17 = .ok (.iconst 1, 1) := by decide +kernel
theorem dX29_thing_18 : decode cX29_thing 18 = .ok (.iadd, 1) := by decide +kernel
theorem dX29_thing_19 : decode cX29_thing 19 = .ok (.putfield 66, 3) := by decide +kernel
theorem dX29_thing_22 : decode cX29_thing 22 = .ok (.aload_n 0, 1) := by decide +kernel
theorem dX29_thing_23 : decode cX29_thing 23 = .ok (.getfield 66, 3) := by decide +kernel
theorem dX29_thing_26 : decode cX29_thing 26 = .ok (.iconst 1, 1) := by decide +kernel
theorem dX29_thing_27 : decode cX29_thing 27 = .ok (.isub, 1) := by decide +kernel
theorem dX29_thing_28 : decode cX29_thing 28 = .ok (.ireturn, 1) := by decide +kernel
abbrev cX29_remove : ByteArray := prog_7_method_11_code
def yX29_remove : MethodName := ⟨RX29, "remove", "(I)I"⟩
theorem dX29_remove_0 : decode cX29_remove 0 = .ok (.iload_n 1, 1) := by decide +kernel
theorem dX29_remove_1 : decode cX29_remove 1 = .ok (.ifCond .lt 31, 3) := by decide +kernel
theorem dX29_remove_4 : decode cX29_remove 4 = .ok (.iload_n 1, 1) := by decide +kernel
theorem dX29_remove_5 : decode cX29_remove 5 = .ok (.aload_n 0, 1) := by decide +kernel
theorem dX29_remove_6 : decode cX29_remove 6 = .ok (.getfield 10, 3) := by decide +kernel
theorem dX29_remove_9 : decode cX29_remove 9 = .ok (.invokevirtual 72, 3) := by decide +kernel
theorem dX29_remove_12 : decode cX29_remove 12 = .ok (.if_icmp .ge 20, 3) := by decide +kernel
theorem dX29_remove_15 : decode cX29_remove 15 = .ok (.aload_n 0, 1) := by decide +kernel
theorem dX29_remove_16 : decode cX29_remove 16 = .ok (.getfield 10, 3) := by decide +kernel
theorem dX29_remove_19 : decode cX29_remove 19 = .ok (.iload_n 1, 1) := by decide +kernel
theorem dX29_remove_20 : decode cX29_remove 20 = .ok (.invokevirtual 96, 3) := by decide +kernel
theorem dX29_remove_23 : decode cX29_remove 23 = .ok (.checkcast 76, 3) := by decide +kernel
theorem dX29_remove_26 : decode cX29_remove 26 = .ok (.getfield 100, 3) := by decide +kernel
theorem dX29_remove_29 : decode cX29_remove 29 = .ok (.ifCond .eq 5, 3) := by decide +kernel
theorem dX29_remove_32 : decode cX29_remove 32 = .ok (.iconst (-1), 1) := by decide +kernel
theorem dX29_remove_33 : decode cX29_remove 33 = .ok (.ireturn, 1) := by decide +kernel
theorem dX29_remove_34 : decode cX29_remove 34 = .ok (.aload_n 0, 1) := by decide +kernel
theorem dX29_remove_35 : decode cX29_remove 35 = .ok (.invokevirtual 103, 3) := by decide +kernel
theorem dX29_remove_38 : decode cX29_remove 38 = .ok (.istore_n 2, 1) := by decide +kernel
theorem dX29_remove_39 : decode cX29_remove 39 = .ok (.aload_n 0, 1) := by decide +kernel
theorem dX29_remove_40 : decode cX29_remove 40 = .ok (.getfield 10, 3) := by decide +kernel
theorem dX29_remove_43 : decode cX29_remove 43 = .ok (.iload_n 1, 1) := by decide +kernel
theorem dX29_remove_44 : decode cX29_remove 44 = .ok (.invokevirtual 96, 3) := by decide +kernel
theorem dX29_remove_47 : decode cX29_remove 47 = .ok (.checkcast 76, 3) := by decide +kernel
theorem dX29_remove_50 : decode cX29_remove 50 = .ok (.astore_n 3, 1) := by decide +kernel
theorem dX29_remove_51 : decode cX29_remove 51 = .ok (.aload_n 0, 1) := by decide +kernel
theorem dX29_remove_52 : decode cX29_remove 52 = .ok (.aload_n 3, 1) := by decide +kernel
theorem dX29_remove_53 : decode cX29_remove 53 = .ok (.invokevirtual 88, 3) := by decide +kernel
theorem dX29_remove_56 : decode cX29_remove 56 = .ok (.istore 4, 2) := by decide +kernel
theorem dX29_remove_58 : decode cX29_remove 58 = .ok (.aload_n 3, 1) := by decide +kernel
theorem dX29_remove_59 : decode cX29_remove 59 = .ok (.iconst 1, 1) := by decide +kernel
theorem dX29_remove_60 : decode cX29_remove 60 = .ok (.putfield 100, 3) := by decide +kernel
theorem dX29_remove_63 : decode cX29_remove 63 = .ok (.iconst 0, 1) := by decide +kernel
theorem dX29_remove_64 : decode cX29_remove 64 = .ok (.istore 5, 2) := by decide +kernel
theorem dX29_remove_66 : decode cX29_remove 66 = .ok (.iload 5, 2) := by decide +kernel
theorem dX29_remove_68 : decode cX29_remove 68 = .ok (.aload_n 0, 1) := by decide +kernel
theorem dX29_remove_69 : decode cX29_remove 69 = .ok (.getfield 52, 3) := by decide +kernel
theorem dX29_remove_72 : decode cX29_remove 72 = .ok (.if_icmp .ge 41, 3) := by decide +kernel
theorem dX29_remove_75 : decode cX29_remove 75 = .ok (.iload 4, 2) := by decide +kernel
theorem dX29_remove_77 : decode cX29_remove 77 = .ok (.iload 5, 2) := by decide +kernel
theorem dX29_remove_79 : decode cX29_remove 79 = .ok (.invokestatic 92, 3) := by decide +kernel
theorem dX29_remove_82 : decode cX29_remove 82 = .ok (.ifCond .ne 6, 3) := by decide +kernel
theorem dX29_remove_85 : decode cX29_remove 85 = .ok (.goto 22, 3) := by decide +kernel
theorem dX29_remove_88 : decode cX29_remove 88 = .ok (.aload_n 0, 1) := by decide +kernel
theorem dX29_remove_89 : decode cX29_remove 89 = .ok (.getfield 33, 3) := by decide +kernel
theorem dX29_remove_92 : decode cX29_remove 92 = .ok (.iload 5, 2) := by decide +kernel
theorem dX29_remove_94 : decode cX29_remove 94 = .ok (.iconst 1, 1) := by decide +kernel
theorem dX29_remove_95 : decode cX29_remove 95 = .ok (.iload 5, 2) := by decide +kernel
theorem dX29_remove_97 : decode cX29_remove 97 = .ok (.ishl, 1) := by decide +kernel
theorem dX29_remove_98 : decode cX29_remove 98 = .ok (.iastore, 1) := by decide +kernel
theorem dX29_remove_99 : decode cX29_remove 99 = .ok (.aload_n 0, 1) := by decide +kernel
theorem dX29_remove_100 : decode cX29_remove 100 = .ok (.getfield 39, 3) := by decide +kernel
theorem dX29_remove_103 : decode cX29_remove 103 = .ok (.iload 5, 2) := by decide +kernel
theorem dX29_remove_105 : decode cX29_remove 105 = .ok (.iconst 0, 1) := by decide +kernel
theorem dX29_remove_106 : decode cX29_remove 106 = .ok (.iastore, 1) := by decide +kernel
theorem dX29_remove_107 : decode cX29_remove 107 = .ok (.iinc 5 1, 3) := by decide +kernel
theorem dX29_remove_110 : decode cX29_remove 110 = .ok (.goto (-44), 3) := by decide +kernel
theorem dX29_remove_113 : decode cX29_remove 113 = .ok (.aload_n 0, 1) := by decide +kernel
theorem dX29_remove_114 : decode cX29_remove 114 = .ok (.invokevirtual 59, 3) := by decide +kernel
theorem dX29_remove_117 : decode cX29_remove 117 = .ok (.aload_n 0, 1) := by decide +kernel
theorem dX29_remove_118 : decode cX29_remove 118 = .ok (.iconst 0, 1) := by decide +kernel
theorem dX29_remove_119 : decode cX29_remove 119 = .ok (.putfield 62, 3) := by decide +kernel
theorem dX29_remove_122 : decode cX29_remove 122 = .ok (.iload_n 2, 1) := by decide +kernel
theorem dX29_remove_123 : decode cX29_remove 123 = .ok (.aload_n 0, 1) := by decide +kernel
theorem dX29_remove_124 : decode cX29_remove 124 = .ok (.invokevirtual 103, 3) := by decide +kernel
theorem dX29_remove_127 : decode cX29_remove 127 = .ok (.isub, 1) := by decide +kernel
theorem dX29_remove_128 : decode cX29_remove 128 = .ok (.ireturn, 1) := by decide +kernel
abbrev cX29_said : ByteArray := prog_7_method_15_code
def yX29_said : MethodName := ⟨RX29, "said", "()I"⟩
theorem dX29_said_0 : decode cX29_said 0 = .ok (.iconst 0, 1) := by decide +kernel
theorem dX29_said_1 : decode cX29_said 1 = .ok (.istore_n 1, 1) := by decide +kernel
theorem dX29_said_2 : decode cX29_said 2 = .ok (.iconst 0, 1) := by decide +kernel
theorem dX29_said_3 : decode cX29_said 3 = .ok (.istore_n 2, 1) := by decide +kernel
theorem dX29_said_4 : decode cX29_said 4 = .ok (.iload_n 2, 1) := by decide +kernel
theorem dX29_said_5 : decode cX29_said 5 = .ok (.aload_n 0, 1) := by decide +kernel
theorem dX29_said_6 : decode cX29_said 6 = .ok (.getfield 52, 3) := by decide +kernel
theorem dX29_said_9 : decode cX29_said 9 = .ok (.if_icmp .ge 35, 3) := by decide +kernel
theorem dX29_said_12 : decode cX29_said 12 = .ok (.iload_n 1, 1) := by decide +kernel
theorem dX29_said_13 : decode cX29_said 13 = .ok (.aload_n 0, 1) := by decide +kernel
theorem dX29_said_14 : decode cX29_said 14 = .ok (.getfield 33, 3) := by decide +kernel
theorem dX29_said_17 : decode cX29_said 17 = .ok (.iload_n 2, 1) := by decide +kernel
theorem dX29_said_18 : decode cX29_said 18 = .ok (.iaload, 1) := by decide +kernel
theorem dX29_said_19 : decode cX29_said 19 = .ok (.aload_n 0, 1) := by decide +kernel
theorem dX29_said_20 : decode cX29_said 20 = .ok (.getfield 36, 3) := by decide +kernel
theorem dX29_said_23 : decode cX29_said 23 = .ok (.iload_n 2, 1) := by decide +kernel
theorem dX29_said_24 : decode cX29_said 24 = .ok (.iaload, 1) := by decide +kernel
theorem dX29_said_25 : decode cX29_said 25 = .ok (.ior, 1) := by decide +kernel
theorem dX29_said_26 : decode cX29_said 26 = .ok (.aload_n 0, 1) := by decide +kernel
theorem dX29_said_27 : decode cX29_said 27 = .ok (.getfield 39, 3) := by decide +kernel
theorem dX29_said_30 : decode cX29_said 30 = .ok (.iload_n 2, 1) := by decide +kernel
theorem dX29_said_31 : decode cX29_said 31 = .ok (.iaload, 1) := by decide +kernel
theorem dX29_said_32 : decode cX29_said 32 = .ok (.ior, 1) := by decide +kernel
theorem dX29_said_33 : decode cX29_said 33 = .ok (.invokestatic 118, 3) := by decide +kernel
theorem dX29_said_36 : decode cX29_said 36 = .ok (.iadd, 1) := by decide +kernel
theorem dX29_said_37 : decode cX29_said 37 = .ok (.istore_n 1, 1) := by decide +kernel
theorem dX29_said_38 : decode cX29_said 38 = .ok (.iinc 2 1, 3) := by decide +kernel
theorem dX29_said_41 : decode cX29_said 41 = .ok (.goto (-37), 3) := by decide +kernel
theorem dX29_said_44 : decode cX29_said 44 = .ok (.iload_n 1, 1) := by decide +kernel
theorem dX29_said_45 : decode cX29_said 45 = .ok (.ireturn, 1) := by decide +kernel
abbrev cX29_fuel : ByteArray := prog_7_method_12_code
def yX29_fuel : MethodName := ⟨RX29, "fuel", "(I)I"⟩
theorem dX29_fuel_0 : decode cX29_fuel 0 = .ok (.iload_n 1, 1) := by decide +kernel
theorem dX29_fuel_1 : decode cX29_fuel 1 = .ok (.ifCond .lt 9, 3) := by decide +kernel
theorem dX29_fuel_4 : decode cX29_fuel 4 = .ok (.iload_n 1, 1) := by decide +kernel
theorem dX29_fuel_5 : decode cX29_fuel 5 = .ok (.bipush 20, 2) := by decide +kernel
theorem dX29_fuel_7 : decode cX29_fuel 7 = .ok (.if_icmp .le 6, 3) := by decide +kernel
theorem dX29_fuel_10 : decode cX29_fuel 10 = .ok (.bipush (-2), 2) := by decide +kernel
theorem dX29_fuel_12 : decode cX29_fuel 12 = .ok (.ireturn, 1) := by decide +kernel
theorem dX29_fuel_13 : decode cX29_fuel 13 = .ok (.aload_n 0, 1) := by decide +kernel
theorem dX29_fuel_14 : decode cX29_fuel 14 = .ok (.invokevirtual 106, 3) := by decide +kernel
theorem dX29_fuel_17 : decode cX29_fuel 17 = .ok (.istore_n 2, 1) := by decide +kernel
theorem dX29_fuel_18 : decode cX29_fuel 18 = .ok (.iconst 0, 1) := by decide +kernel
theorem dX29_fuel_19 : decode cX29_fuel 19 = .ok (.istore_n 3, 1) := by decide +kernel
theorem dX29_fuel_20 : decode cX29_fuel 20 = .ok (.iload_n 3, 1) := by decide +kernel
theorem dX29_fuel_21 : decode cX29_fuel 21 = .ok (.aload_n 0, 1) := by decide +kernel
theorem dX29_fuel_22 : decode cX29_fuel 22 = .ok (.getfield 52, 3) := by decide +kernel
theorem dX29_fuel_25 : decode cX29_fuel 25 = .ok (.if_icmp .ge 16, 3) := by decide +kernel
theorem dX29_fuel_28 : decode cX29_fuel 28 = .ok (.aload_n 0, 1) := by decide +kernel
theorem dX29_fuel_29 : decode cX29_fuel 29 = .ok (.getfield 39, 3) := by decide +kernel
theorem dX29_fuel_32 : decode cX29_fuel 32 = .ok (.iload_n 3, 1) := by decide +kernel
theorem dX29_fuel_33 : decode cX29_fuel 33 = .ok (.iconst 0, 1) := by decide +kernel
theorem dX29_fuel_34 : decode cX29_fuel 34 = .ok (.iastore, 1) := by decide +kernel
theorem dX29_fuel_35 : decode cX29_fuel 35 = .ok (.iinc 3 1, 3) := by decide +kernel
theorem dX29_fuel_38 : decode cX29_fuel 38 = .ok (.goto (-18), 3) := by decide +kernel
theorem dX29_fuel_41 : decode cX29_fuel 41 = .ok (.aload_n 0, 1) := by decide +kernel
theorem dX29_fuel_42 : decode cX29_fuel 42 = .ok (.iload_n 1, 1) := by decide +kernel
theorem dX29_fuel_43 : decode cX29_fuel 43 = .ok (.putfield 29, 3) := by decide +kernel
theorem dX29_fuel_46 : decode cX29_fuel 46 = .ok (.aload_n 0, 1) := by decide +kernel
theorem dX29_fuel_47 : decode cX29_fuel 47 = .ok (.iconst 0, 1) := by decide +kernel
theorem dX29_fuel_48 : decode cX29_fuel 48 = .ok (.putfield 62, 3) := by decide +kernel
theorem dX29_fuel_51 : decode cX29_fuel 51 = .ok (.iload_n 2, 1) := by decide +kernel
theorem dX29_fuel_52 : decode cX29_fuel 52 = .ok (.ireturn, 1) := by decide +kernel
abbrev cX29_known : ByteArray := prog_7_method_20_code
def yX29_known : MethodName := ⟨RX29, "known", "(II)I"⟩
theorem dX29_known_0 : decode cX29_known 0 = .ok (.aload_n 0, 1) := by decide +kernel
theorem dX29_known_1 : decode cX29_known 1 = .ok (.iload_n 1, 1) := by decide +kernel
theorem dX29_known_2 : decode cX29_known 2 = .ok (.invokevirtual 55, 3) := by decide +kernel
theorem dX29_known_5 : decode cX29_known 5 = .ok (.ifCond .eq 11, 3) := by decide +kernel
theorem dX29_known_8 : decode cX29_known 8 = .ok (.aload_n 0, 1) := by decide +kernel
theorem dX29_known_9 : decode cX29_known 9 = .ok (.iload_n 2, 1) := by decide +kernel
theorem dX29_known_10 : decode cX29_known 10 = .ok (.invokevirtual 69, 3) := by decide +kernel
theorem dX29_known_13 : decode cX29_known 13 = .ok (.ifCond .ne 7, 3) := by decide +kernel
theorem dX29_known_16 : decode cX29_known 16 = .ok (.iconst (-1), 1) := by decide +kernel
theorem dX29_known_17 : decode cX29_known 17 = .ok (.goto 12, 3) := by decide +kernel
theorem dX29_known_20 : decode cX29_known 20 = .ok (.aload_n 0, 1) := by decide +kernel
theorem dX29_known_21 : decode cX29_known 21 = .ok (.iload_n 1, 1) := by decide +kernel
theorem dX29_known_22 : decode cX29_known 22 = .ok (.iload_n 2, 1) := by decide +kernel
theorem dX29_known_23 : decode cX29_known 23 = .ok (.invokestatic 78, 3) := by decide +kernel
theorem dX29_known_26 : decode cX29_known 26 = .ok (.invokevirtual 128, 3) := by decide +kernel
theorem dX29_known_29 : decode cX29_known 29 = .ok (.ireturn, 1) := by decide +kernel
abbrev cX29_ask : ByteArray := prog_7_method_21_code
def yX29_ask : MethodName := ⟨RX29, "ask", "(II)I"⟩
theorem dX29_ask_0 : decode cX29_ask 0 = .ok (.aload_n 0, 1) := by decide +kernel
theorem dX29_ask_1 : decode cX29_ask 1 = .ok (.iload_n 1, 1) := by decide +kernel
theorem dX29_ask_2 : decode cX29_ask 2 = .ok (.invokevirtual 55, 3) := by decide +kernel
theorem dX29_ask_5 : decode cX29_ask 5 = .ok (.ifCond .eq 11, 3) := by decide +kernel
theorem dX29_ask_8 : decode cX29_ask 8 = .ok (.aload_n 0, 1) := by decide +kernel
theorem dX29_ask_9 : decode cX29_ask 9 = .ok (.iload_n 2, 1) := by decide +kernel
theorem dX29_ask_10 : decode cX29_ask 10 = .ok (.invokevirtual 69, 3) := by decide +kernel
theorem dX29_ask_13 : decode cX29_ask 13 = .ok (.ifCond .ne 7, 3) := by decide +kernel
theorem dX29_ask_16 : decode cX29_ask 16 = .ok (.iconst (-1), 1) := by decide +kernel
theorem dX29_ask_17 : decode cX29_ask 17 = .ok (.goto 17, 3) := by decide +kernel
theorem dX29_ask_20 : decode cX29_ask 20 = .ok (.aload_n 0, 1) := by decide +kernel
theorem dX29_ask_21 : decode cX29_ask 21 = .ok (.getfield 21, 3) := by decide +kernel
theorem dX29_ask_24 : decode cX29_ask 24 = .ok (.iconst 1, 1) := by decide +kernel
theorem dX29_ask_25 : decode cX29_ask 25 = .ok (.iload_n 1, 1) := by decide +kernel
theorem dX29_ask_26 : decode cX29_ask 26 = .ok (.ishl, 1) := by decide +kernel
theorem dX29_ask_27 : decode cX29_ask 27 = .ok (.iload_n 2, 1) := by decide +kernel
theorem dX29_ask_28 : decode cX29_ask 28 = .ok (.invokestatic 78, 3) := by decide +kernel
theorem dX29_ask_31 : decode cX29_ask 31 = .ok (.invokevirtual 132, 3) := by decide +kernel
theorem dX29_ask_34 : decode cX29_ask 34 = .ok (.ireturn, 1) := by decide +kernel
abbrev cX29_child : ByteArray := prog_7_method_34_code
def yX29_child : MethodName := ⟨RX29, "child", "(II)I"⟩
theorem dX29_child_0 : decode cX29_child 0 = .ok (.aload_n 0, 1) := by decide +kernel
theorem dX29_child_1 : decode cX29_child 1 = .ok (.iload_n 1, 1) := by decide +kernel
theorem dX29_child_2 : decode cX29_child 2 = .ok (.invokevirtual 170, 3) := by decide +kernel
theorem dX29_child_5 : decode cX29_child 5 = .ok (.istore_n 3, 1) := by decide +kernel
theorem dX29_child_6 : decode cX29_child 6 = .ok (.iload_n 3, 1) := by decide +kernel
theorem dX29_child_7 : decode cX29_child 7 = .ok (.ifCond .ge 7, 3) := by decide +kernel
theorem dX29_child_10 : decode cX29_child 10 = .ok (.iload_n 3, 1) := by decide +kernel
theorem dX29_child_11 : decode cX29_child 11 = .ok (.goto 32, 3) := by decide +kernel
theorem dX29_child_14 : decode cX29_child 14 = .ok (.aload_n 0, 1) := by decide +kernel
theorem dX29_child_15 : decode cX29_child 15 = .ok (.getfield 163, 3) := by decide +kernel
theorem dX29_child_18 : decode cX29_child 18 = .ok (.iload_n 1, 1) := by decide +kernel
theorem dX29_child_19 : decode cX29_child 19 = .ok (.invokestatic 92, 3) := by decide +kernel
theorem dX29_child_22 : decode cX29_child 22 = .ok (.ifCond .eq 8, 3) := by decide +kernel
theorem dX29_child_25 : decode cX29_child 25 = .ok (.bipush (-6), 2) := by decide +kernel
theorem dX29_child_27 : decode cX29_child 27 = .ok (.goto 16, 3) := by decide +kernel
theorem dX29_child_30 : decode cX29_child 30 = .ok (.aload_n 0, 1) := by decide +kernel
theorem dX29_child_31 : decode cX29_child 31 = .ok (.aload_n 0, 1) := by decide +kernel
theorem dX29_child_32 : decode cX29_child 32 = .ok (.iload_n 1, 1) := by decide +kernel
theorem dX29_child_33 : decode cX29_child 33 = .ok (.invokevirtual 160, 3) := by decide +kernel
theorem dX29_child_36 : decode cX29_child 36 = .ok (.invokevirtual 173, 3) := by decide +kernel
theorem dX29_child_39 : decode cX29_child 39 = .ok (.iload_n 2, 1) := by decide +kernel
theorem dX29_child_40 : decode cX29_child 40 = .ok (.invokestatic 176, 3) := by decide +kernel
theorem dX29_child_43 : decode cX29_child 43 = .ok (.ireturn, 1) := by decide +kernel
abbrev cX29_equal : ByteArray := prog_7_method_35_code
def yX29_equal : MethodName := ⟨RX29, "equal", "(II)I"⟩
theorem dX29_equal_0 : decode cX29_equal 0 = .ok (.aload_n 0, 1) := by decide +kernel
theorem dX29_equal_1 : decode cX29_equal 1 = .ok (.iload_n 1, 1) := by decide +kernel
theorem dX29_equal_2 : decode cX29_equal 2 = .ok (.invokevirtual 170, 3) := by decide +kernel
theorem dX29_equal_5 : decode cX29_equal 5 = .ok (.istore_n 3, 1) := by decide +kernel
theorem dX29_equal_6 : decode cX29_equal 6 = .ok (.iload_n 3, 1) := by decide +kernel
theorem dX29_equal_7 : decode cX29_equal 7 = .ok (.ifCond .ge 7, 3) := by decide +kernel
theorem dX29_equal_10 : decode cX29_equal 10 = .ok (.iload_n 3, 1) := by decide +kernel
theorem dX29_equal_11 : decode cX29_equal 11 = .ok (.goto 17, 3) := by decide +kernel
theorem dX29_equal_14 : decode cX29_equal 14 = .ok (.aload_n 0, 1) := by decide +kernel
theorem dX29_equal_15 : decode cX29_equal 15 = .ok (.iload_n 1, 1) := by decide +kernel
theorem dX29_equal_16 : decode cX29_equal 16 = .ok (.invokevirtual 138, 3) := by decide +kernel
theorem dX29_equal_19 : decode cX29_equal 19 = .ok (.aload_n 0, 1) := by decide +kernel
theorem dX29_equal_20 : decode cX29_equal 20 = .ok (.invokevirtual 179, 3) := by decide +kernel
theorem dX29_equal_23 : decode cX29_equal 23 = .ok (.iand, 1) := by decide +kernel
theorem dX29_equal_24 : decode cX29_equal 24 = .ok (.iload_n 2, 1) := by decide +kernel
theorem dX29_equal_25 : decode cX29_equal 25 = .ok (.invokestatic 176, 3) := by decide +kernel
theorem dX29_equal_28 : decode cX29_equal 28 = .ok (.ireturn, 1) := by decide +kernel
abbrev cX29_all : ByteArray := prog_7_method_7_code
def yX29_all : MethodName := ⟨RX29, "all", "()I"⟩
theorem dX29_all_0 : decode cX29_all 0 = .ok (.iconst 1, 1) := by decide +kernel
theorem dX29_all_1 : decode cX29_all 1 = .ok (.aload_n 0, 1) := by decide +kernel
theorem dX29_all_2 : decode cX29_all 2 = .ok (.getfield 52, 3) := by decide +kernel
theorem dX29_all_5 : decode cX29_all 5 = .ok (.ishl, 1) := by decide +kernel
theorem dX29_all_6 : decode cX29_all 6 = .ok (.iconst 1, 1) := by decide +kernel
theorem dX29_all_7 : decode cX29_all 7 = .ok (.isub, 1) := by decide +kernel
theorem dX29_all_8 : decode cX29_all 8 = .ok (.ireturn, 1) := by decide +kernel
abbrev cX29_empty : ByteArray := prog_7_method_36_code
def yX29_empty : MethodName := ⟨RX29, "empty", "(I)I"⟩
theorem dX29_empty_0 : decode cX29_empty 0 = .ok (.aload_n 0, 1) := by decide +kernel
theorem dX29_empty_1 : decode cX29_empty 1 = .ok (.getfield 62, 3) := by decide +kernel
theorem dX29_empty_4 : decode cX29_empty 4 = .ok (.ifCond .eq 14, 3) := by decide +kernel
theorem dX29_empty_7 : decode cX29_empty 7 = .ok (.aload_n 0, 1) := by decide +kernel
theorem dX29_empty_8 : decode cX29_empty 8 = .ok (.getfield 163, 3) := by decide +kernel
theorem dX29_empty_11 : decode cX29_empty 11 = .ok (.iload_n 1, 1) := by decide +kernel
theorem dX29_empty_12 : decode cX29_empty 12 = .ok (.invokestatic 176, 3) := by decide +kernel
theorem dX29_empty_15 : decode cX29_empty 15 = .ok (.goto 5, 3) := by decide +kernel
theorem dX29_empty_18 : decode cX29_empty 18 = .ok (.bipush (-3), 2) := by decide +kernel
theorem dX29_empty_20 : decode cX29_empty 20 = .ok (.ireturn, 1) := by decide +kernel
abbrev cX29_open : ByteArray := prog_7_method_37_code
def yX29_open : MethodName := ⟨RX29, "open", "(I)I"⟩
theorem dX29_open_0 : decode cX29_open 0 = .ok (.iload_n 1, 1) := by decide +kernel
theorem dX29_open_1 : decode cX29_open 1 = .ok (.istore_n 2, 1) := by decide +kernel
theorem dX29_open_2 : decode cX29_open 2 = .ok (.iconst 0, 1) := by decide +kernel
theorem dX29_open_3 : decode cX29_open 3 = .ok (.istore_n 3, 1) := by decide +kernel
theorem dX29_open_4 : decode cX29_open 4 = .ok (.iload_n 3, 1) := by decide +kernel
theorem dX29_open_5 : decode cX29_open 5 = .ok (.aload_n 0, 1) := by decide +kernel
theorem dX29_open_6 : decode cX29_open 6 = .ok (.getfield 52, 3) := by decide +kernel
theorem dX29_open_9 : decode cX29_open 9 = .ok (.if_icmp .ge 67, 3) := by decide +kernel
theorem dX29_open_12 : decode cX29_open 12 = .ok (.iload_n 1, 1) := by decide +kernel
theorem dX29_open_13 : decode cX29_open 13 = .ok (.ifCond .lt 63, 3) := by decide +kernel
theorem dX29_open_16 : decode cX29_open 16 = .ok (.aload_n 0, 1) := by decide +kernel
theorem dX29_open_17 : decode cX29_open 17 = .ok (.getfield 39, 3) := by decide +kernel
theorem dX29_open_20 : decode cX29_open 20 = .ok (.iload_n 3, 1) := by decide +kernel
theorem dX29_open_21 : decode cX29_open 21 = .ok (.iaload, 1) := by decide +kernel
theorem dX29_open_22 : decode cX29_open 22 = .ok (.invokestatic 118, 3) := by decide +kernel
theorem dX29_open_25 : decode cX29_open 25 = .ok (.istore 4, 2) := by decide +kernel
theorem dX29_open_27 : decode cX29_open 27 = .ok (.iload_n 2, 1) := by decide +kernel
theorem dX29_open_28 : decode cX29_open 28 = .ok (.iload 4, 2) := by decide +kernel
theorem dX29_open_30 : decode cX29_open 30 = .ok (.if_icmp .ge 35, 3) := by decide +kernel
theorem dX29_open_33 : decode cX29_open 33 = .ok (.aload_n 0, 1) := by decide +kernel
theorem dX29_open_34 : decode cX29_open 34 = .ok (.getfield 39, 3) := by decide +kernel
theorem dX29_open_37 : decode cX29_open 37 = .ok (.iload_n 3, 1) := by decide +kernel
theorem dX29_open_38 : decode cX29_open 38 = .ok (.iaload, 1) := by decide +kernel
theorem dX29_open_39 : decode cX29_open 39 = .ok (.iload_n 2, 1) := by decide +kernel
theorem dX29_open_40 : decode cX29_open 40 = .ok (.invokestatic 176, 3) := by decide +kernel
theorem dX29_open_43 : decode cX29_open 43 = .ok (.istore 5, 2) := by decide +kernel
theorem dX29_open_45 : decode cX29_open 45 = .ok (.bipush 32, 2) := by decide +kernel
theorem dX29_open_47 : decode cX29_open 47 = .ok (.iload_n 3, 1) := by decide +kernel
theorem dX29_open_48 : decode cX29_open 48 = .ok (.imul, 1) := by decide +kernel
theorem dX29_open_49 : decode cX29_open 49 = .ok (.iload 5, 2) := by decide +kernel
theorem dX29_open_51 : decode cX29_open 51 = .ok (.bipush 20, 2) := by decide +kernel
theorem dX29_open_53 : decode cX29_open 53 = .ok (.if_icmp .ne 8, 3) := by decide +kernel
theorem dX29_open_56 : decode cX29_open 56 = .ok (.bipush 31, 2) := by decide +kernel
theorem dX29_open_58 : decode cX29_open 58 = .ok (.goto 5, 3) := by decide +kernel
theorem dX29_open_61 : decode cX29_open 61 = .ok (.iload 5, 2) := by decide +kernel
theorem dX29_open_63 : decode cX29_open 63 = .ok (.iadd, 1) := by decide +kernel
theorem dX29_open_64 : decode cX29_open 64 = .ok (.ireturn, 1) := by decide +kernel
theorem dX29_open_65 : decode cX29_open 65 = .ok (.iload_n 2, 1) := by decide +kernel
theorem dX29_open_66 : decode cX29_open 66 = .ok (.iload 4, 2) := by decide +kernel
theorem dX29_open_68 : decode cX29_open 68 = .ok (.isub, 1) := by decide +kernel
theorem dX29_open_69 : decode cX29_open 69 = .ok (.istore_n 2, 1) := by decide +kernel
theorem dX29_open_70 : decode cX29_open 70 = .ok (.iinc 3 1, 3) := by decide +kernel
theorem dX29_open_73 : decode cX29_open 73 = .ok (.goto (-69), 3) := by decide +kernel
theorem dX29_open_76 : decode cX29_open 76 = .ok (.bipush (-6), 2) := by decide +kernel
theorem dX29_open_78 : decode cX29_open 78 = .ok (.ireturn, 1) := by decide +kernel
abbrev cX29_type : ByteArray := prog_7_method_40_code
def yX29_type : MethodName := ⟨RX29, "type", "(II)I"⟩
theorem dX29_type_0 : decode cX29_type 0 = .ok (.aload_n 0, 1) := by decide +kernel
theorem dX29_type_1 : decode cX29_type 1 = .ok (.iload_n 1, 1) := by decide +kernel
theorem dX29_type_2 : decode cX29_type 2 = .ok (.invokevirtual 182, 3) := by decide +kernel
theorem dX29_type_5 : decode cX29_type 5 = .ok (.ifCond .ne 5, 3) := by decide +kernel
theorem dX29_type_8 : decode cX29_type 8 = .ok (.iconst (-1), 1) := by decide +kernel
theorem dX29_type_9 : decode cX29_type 9 = .ok (.ireturn, 1) := by decide +kernel
theorem dX29_type_10 : decode cX29_type 10 = .ok (.aload_n 0, 1) := by decide +kernel
theorem dX29_type_11 : decode cX29_type 11 = .ok (.getfield 62, 3) := by decide +kernel
theorem dX29_type_14 : decode cX29_type 14 = .ok (.ifCond .ne 6, 3) := by decide +kernel
theorem dX29_type_17 : decode cX29_type 17 = .ok (.bipush (-3), 2) := by decide +kernel
theorem dX29_type_19 : decode cX29_type 19 = .ok (.ireturn, 1) := by decide +kernel
theorem dX29_type_20 : decode cX29_type 20 = .ok (.aload_n 0, 1) := by decide +kernel
theorem dX29_type_21 : decode cX29_type 21 = .ok (.getfield 25, 3) := by decide +kernel
theorem dX29_type_24 : decode cX29_type 24 = .ok (.iload_n 1, 1) := by decide +kernel
theorem dX29_type_25 : decode cX29_type 25 = .ok (.iaload, 1) := by decide +kernel
theorem dX29_type_26 : decode cX29_type 26 = .ok (.istore_n 3, 1) := by decide +kernel
theorem dX29_type_27 : decode cX29_type 27 = .ok (.aload_n 0, 1) := by decide +kernel
theorem dX29_type_28 : decode cX29_type 28 = .ok (.getfield 21, 3) := by decide +kernel
theorem dX29_type_31 : decode cX29_type 31 = .ok (.iload_n 3, 1) := by decide +kernel
theorem dX29_type_32 : decode cX29_type 32 = .ok (.bipush 20, 2) := by decide +kernel
theorem dX29_type_34 : decode cX29_type 34 = .ok (.invokevirtual 132, 3) := by decide +kernel
theorem dX29_type_37 : decode cX29_type 37 = .ok (.iconst 1, 1) := by decide +kernel
theorem dX29_type_38 : decode cX29_type 38 = .ok (.if_icmp .ne 6, 3) := by decide +kernel
theorem dX29_type_41 : decode cX29_type 41 = .ok (.bipush (-5), 2) := by decide +kernel
theorem dX29_type_43 : decode cX29_type 43 = .ok (.ireturn, 1) := by decide +kernel
theorem dX29_type_44 : decode cX29_type 44 = .ok (.iconst 0, 1) := by decide +kernel
theorem dX29_type_45 : decode cX29_type 45 = .ok (.istore 4, 2) := by decide +kernel
theorem dX29_type_47 : decode cX29_type 47 = .ok (.iconst 0, 1) := by decide +kernel
theorem dX29_type_48 : decode cX29_type 48 = .ok (.istore 5, 2) := by decide +kernel
theorem dX29_type_50 : decode cX29_type 50 = .ok (.iload 5, 2) := by decide +kernel
theorem dX29_type_52 : decode cX29_type 52 = .ok (.aload_n 0, 1) := by decide +kernel
theorem dX29_type_53 : decode cX29_type 53 = .ok (.getfield 52, 3) := by decide +kernel
theorem dX29_type_56 : decode cX29_type 56 = .ok (.if_icmp .ge 48, 3) := by decide +kernel
theorem dX29_type_59 : decode cX29_type 59 = .ok (.aload_n 0, 1) := by decide +kernel
theorem dX29_type_60 : decode cX29_type 60 = .ok (.getfield 141, 3) := by decide +kernel
theorem dX29_type_63 : decode cX29_type 63 = .ok (.iload 5, 2) := by decide +kernel
theorem dX29_type_65 : decode cX29_type 65 = .ok (.invokestatic 92, 3) := by decide +kernel
theorem dX29_type_68 : decode cX29_type 68 = .ok (.ifCond .eq 30, 3) := by decide +kernel
theorem dX29_type_71 : decode cX29_type 71 = .ok (.iload_n 3, 1) := by decide +kernel
theorem dX29_type_72 : decode cX29_type 72 = .ok (.ifCond .eq 26, 3) := by decide +kernel
theorem dX29_type_75 : decode cX29_type 75 = .ok (.aload_n 0, 1) := by decide +kernel
theorem dX29_type_76 : decode cX29_type 76 = .ok (.getfield 21, 3) := by decide +kernel
theorem dX29_type_79 : decode cX29_type 79 = .ok (.iload_n 3, 1) := by decide +kernel
theorem dX29_type_80 : decode cX29_type 80 = .ok (.iload 5, 2) := by decide +kernel
theorem dX29_type_82 : decode cX29_type 82 = .ok (.invokevirtual 132, 3) := by decide +kernel
theorem dX29_type_85 : decode cX29_type 85 = .ok (.iconst 1, 1) := by decide +kernel
theorem dX29_type_86 : decode cX29_type 86 = .ok (.if_icmp .ne 12, 3) := by decide +kernel
theorem dX29_type_89 : decode cX29_type 89 = .ok (.iload 4, 2) := by decide +kernel
theorem dX29_type_91 : decode cX29_type 91 = .ok (.iconst 1, 1) := by decide +kernel
theorem dX29_type_92 : decode cX29_type 92 = .ok (.iload 5, 2) := by decide +kernel
theorem dX29_type_94 : decode cX29_type 94 = .ok (.ishl, 1) := by decide +kernel
theorem dX29_type_95 : decode cX29_type 95 = .ok (.ior, 1) := by decide +kernel
theorem dX29_type_96 : decode cX29_type 96 = .ok (.istore 4, 2) := by decide +kernel
theorem dX29_type_98 : decode cX29_type 98 = .ok (.iinc 5 1, 3) := by decide +kernel
theorem dX29_type_101 : decode cX29_type 101 = .ok (.goto (-51), 3) := by decide +kernel
theorem dX29_type_104 : decode cX29_type 104 = .ok (.iconst 0, 1) := by decide +kernel
theorem dX29_type_105 : decode cX29_type 105 = .ok (.istore 5, 2) := by decide +kernel
theorem dX29_type_107 : decode cX29_type 107 = .ok (.iconst 0, 1) := by decide +kernel
theorem dX29_type_108 : decode cX29_type 108 = .ok (.istore 6, 2) := by decide +kernel
theorem dX29_type_110 : decode cX29_type 110 = .ok (.iload 6, 2) := by decide +kernel
theorem dX29_type_112 : decode cX29_type 112 = .ok (.aload_n 0, 1) := by decide +kernel
theorem dX29_type_113 : decode cX29_type 113 = .ok (.getfield 52, 3) := by decide +kernel
theorem dX29_type_116 : decode cX29_type 116 = .ok (.if_icmp .ge 40, 3) := by decide +kernel
theorem dX29_type_119 : decode cX29_type 119 = .ok (.iload 4, 2) := by decide +kernel
theorem dX29_type_121 : decode cX29_type 121 = .ok (.iload 6, 2) := by decide +kernel
theorem dX29_type_123 : decode cX29_type 123 = .ok (.invokestatic 92, 3) := by decide +kernel
theorem dX29_type_126 : decode cX29_type 126 = .ok (.ifCond .eq 24, 3) := by decide +kernel
theorem dX29_type_129 : decode cX29_type 129 = .ok (.aload_n 0, 1) := by decide +kernel
theorem dX29_type_130 : decode cX29_type 130 = .ok (.iload 6, 2) := by decide +kernel
theorem dX29_type_132 : decode cX29_type 132 = .ok (.invokevirtual 160, 3) := by decide +kernel
theorem dX29_type_135 : decode cX29_type 135 = .ok (.iload 4, 2) := by decide +kernel
theorem dX29_type_137 : decode cX29_type 137 = .ok (.iand, 1) := by decide +kernel
theorem dX29_type_138 : decode cX29_type 138 = .ok (.ifCond .ne 12, 3) := by decide +kernel
theorem dX29_type_141 : decode cX29_type 141 = .ok (.iload 5, 2) := by decide +kernel
theorem dX29_type_143 : decode cX29_type 143 = .ok (.iconst 1, 1) := by decide +kernel
theorem dX29_type_144 : decode cX29_type 144 = .ok (.iload 6, 2) := by decide +kernel
theorem dX29_type_146 : decode cX29_type 146 = .ok (.ishl, 1) := by decide +kernel
theorem dX29_type_147 : decode cX29_type 147 = .ok (.ior, 1) := by decide +kernel
theorem dX29_type_148 : decode cX29_type 148 = .ok (.istore 5, 2) := by decide +kernel
theorem dX29_type_150 : decode cX29_type 150 = .ok (.iinc 6 1, 3) := by decide +kernel
theorem dX29_type_153 : decode cX29_type 153 = .ok (.goto (-43), 3) := by decide +kernel
theorem dX29_type_156 : decode cX29_type 156 = .ok (.aload_n 0, 1) := by decide +kernel
theorem dX29_type_157 : decode cX29_type 157 = .ok (.iload 5, 2) := by decide +kernel
theorem dX29_type_159 : decode cX29_type 159 = .ok (.invokevirtual 173, 3) := by decide +kernel
theorem dX29_type_162 : decode cX29_type 162 = .ok (.iload_n 2, 1) := by decide +kernel
theorem dX29_type_163 : decode cX29_type 163 = .ok (.invokestatic 176, 3) := by decide +kernel
theorem dX29_type_166 : decode cX29_type 166 = .ok (.ireturn, 1) := by decide +kernel
abbrev cX29_trace : ByteArray := prog_7_method_41_code
def yX29_trace : MethodName := ⟨RX29, "trace", "(III)I"⟩
theorem dX29_trace_0 : decode cX29_trace 0 = .ok (.aload_n 0, 1) := by decide +kernel
theorem dX29_trace_1 : decode cX29_trace 1 = .ok (.iload_n 1, 1) := by decide +kernel
theorem dX29_trace_2 : decode cX29_trace 2 = .ok (.invokevirtual 55, 3) := by decide +kernel
theorem dX29_trace_5 : decode cX29_trace 5 = .ok (.ifCond .eq 11, 3) := by decide +kernel
theorem dX29_trace_8 : decode cX29_trace 8 = .ok (.aload_n 0, 1) := by decide +kernel
theorem dX29_trace_9 : decode cX29_trace 9 = .ok (.iload_n 2, 1) := by decide +kernel
theorem dX29_trace_10 : decode cX29_trace 10 = .ok (.invokevirtual 69, 3) := by decide +kernel
theorem dX29_trace_13 : decode cX29_trace 13 = .ok (.ifCond .ne 5, 3) := by decide +kernel
theorem dX29_trace_16 : decode cX29_trace 16 = .ok (.iconst (-1), 1) := by decide +kernel
theorem dX29_trace_17 : decode cX29_trace 17 = .ok (.ireturn, 1) := by decide +kernel
theorem dX29_trace_18 : decode cX29_trace 18 = .ok (.aload_n 0, 1) := by decide +kernel
theorem dX29_trace_19 : decode cX29_trace 19 = .ok (.getfield 21, 3) := by decide +kernel
theorem dX29_trace_22 : decode cX29_trace 22 = .ok (.iconst 1, 1) := by decide +kernel
theorem dX29_trace_23 : decode cX29_trace 23 = .ok (.iload_n 1, 1) := by decide +kernel
theorem dX29_trace_24 : decode cX29_trace 24 = .ok (.ishl, 1) := by decide +kernel
theorem dX29_trace_25 : decode cX29_trace 25 = .ok (.iload_n 2, 1) := by decide +kernel
theorem dX29_trace_26 : decode cX29_trace 26 = .ok (.invokestatic 78, 3) := by decide +kernel
theorem dX29_trace_29 : decode cX29_trace 29 = .ok (.invokevirtual 132, 3) := by decide +kernel
theorem dX29_trace_32 : decode cX29_trace 32 = .ok (.iconst 1, 1) := by decide +kernel
theorem dX29_trace_33 : decode cX29_trace 33 = .ok (.if_icmp .eq 6, 3) := by decide +kernel
theorem dX29_trace_36 : decode cX29_trace 36 = .ok (.bipush (-6), 2) := by decide +kernel
theorem dX29_trace_38 : decode cX29_trace 38 = .ok (.ireturn, 1) := by decide +kernel
theorem dX29_trace_39 : decode cX29_trace 39 = .ok (.aload_n 0, 1) := by decide +kernel
theorem dX29_trace_40 : decode cX29_trace 40 = .ok (.getfield 21, 3) := by decide +kernel
theorem dX29_trace_43 : decode cX29_trace 43 = .ok (.invokevirtual 185, 3) := by decide +kernel
theorem dX29_trace_46 : decode cX29_trace 46 = .ok (.iload_n 3, 1) := by decide +kernel
theorem dX29_trace_47 : decode cX29_trace 47 = .ok (.invokestatic 176, 3) := by decide +kernel
theorem dX29_trace_50 : decode cX29_trace 50 = .ok (.istore 4, 2) := by decide +kernel
theorem dX29_trace_52 : decode cX29_trace 52 = .ok (.iload 4, 2) := by decide +kernel
theorem dX29_trace_54 : decode cX29_trace 54 = .ok (.ifCond .ge 8, 3) := by decide +kernel
theorem dX29_trace_57 : decode cX29_trace 57 = .ok (.bipush (-6), 2) := by decide +kernel
theorem dX29_trace_59 : decode cX29_trace 59 = .ok (.goto 13, 3) := by decide +kernel
theorem dX29_trace_62 : decode cX29_trace 62 = .ok (.aload_n 0, 1) := by decide +kernel
theorem dX29_trace_63 : decode cX29_trace 63 = .ok (.getfield 21, 3) := by decide +kernel
theorem dX29_trace_66 : decode cX29_trace 66 = .ok (.getfield 188, 3) := by decide +kernel
theorem dX29_trace_69 : decode cX29_trace 69 = .ok (.iload 4, 2) := by decide +kernel
theorem dX29_trace_71 : decode cX29_trace 71 = .ok (.iaload, 1) := by decide +kernel
theorem dX29_trace_72 : decode cX29_trace 72 = .ok (.ireturn, 1) := by decide +kernel
theorem in_X29 : ∀ w ∈ wsX290, w ∈ lw_all := lw_in wsX290 [1390, 1392, 1394, 1396, 1398, 1400, 1402, 1404, 1406, 1408, 1410, 1412, 1414, 1416] (by decide +kernel) (by decide +kernel)
def RX30 : String := "KnowHouse$ClassifySort$Reasoner"
def TX30 : u_T := fun k => match k with
  | 0 => ("KnowHouse$ClassifySort$Reasoner", "fired", "[I", true)
  | 1 => ("KnowHouse$ClassifySort$Reasoner", "many", "I", false)
  | 2 => ("KnowHouse$ClassifySort$Reasoner", "facts", "I", false)
  | _ => ("KnowHouse$ClassifySort$Reasoner", "this$0", "LKnowHouse$ClassifySort;", true)
def tyX30 : Nat → FieldType := fun k => match k with
  | 0 => .array .int
  | 1 => .int
  | 2 => .int
  | _ => .object "KnowHouse$ClassifySort"
abbrev wsX300 : List Cond := u_ws RX30 TX30 4
theorem nmX30 : ∀ a, a < 4 → ∀ b, b < 4 → a ≠ b → (TX30 a).2.1 ≠ (TX30 b).2.1 := by decide +kernel
theorem tyX30_ok : ∀ k, k < 4 → parseFieldDescriptor (TX30 k).2.2.1 = some (tyX30 k) := by decide +kernel
abbrev cX30_init : ByteArray := prog_9_method_1_code
def yX30_init : MethodName := ⟨RX30, "<init>", "(LKnowHouse$ClassifySort;)V"⟩
theorem dX30_init_0 : decode cX30_init 0 = .ok (.aload_n 0, 1) := by decide +kernel
theorem dX30_init_1 : decode cX30_init 1 = .ok (.aload_n 1, 1) := by decide +kernel
theorem dX30_init_2 : decode cX30_init 2 = .ok (.putfield 3, 3) := by decide +kernel
theorem dX30_init_5 : decode cX30_init 5 = .ok (.aload_n 0, 1) := by decide +kernel
theorem dX30_init_6 : decode cX30_init 6 = .ok (.invokespecial 9, 3) := by decide +kernel
theorem dX30_init_9 : decode cX30_init 9 = .ok (.aload_n 0, 1) := by decide +kernel
theorem dX30_init_10 : decode cX30_init 10 = .ok (.bipush 20, 2) := by decide +kernel
theorem dX30_init_12 : decode cX30_init 12 = .ok (.newarray .int, 2) := by decide +kernel
theorem dX30_init_14 : decode cX30_init 14 = .ok (.putfield 15, 3) := by decide +kernel
theorem dX30_init_17 : decode cX30_init 17 = .ok (.return_, 1) := by decide +kernel
abbrev cX30_answer : ByteArray := prog_9_method_2_code
def yX30_answer : MethodName := ⟨RX30, "answer", "(II)I"⟩
theorem dX30_answer_0 : decode cX30_answer 0 = .ok (.aload_n 0, 1) := by decide +kernel
theorem dX30_answer_1 : decode cX30_answer 1 = .ok (.iload_n 1, 1) := by decide +kernel
theorem dX30_answer_2 : decode cX30_answer 2 = .ok (.putfield 19, 3) := by decide +kernel
theorem dX30_answer_5 : decode cX30_answer 5 = .ok (.aload_n 0, 1) := by decide +kernel
theorem dX30_answer_6 : decode cX30_answer 6 = .ok (.iconst 0, 1) := by decide +kernel
theorem dX30_answer_7 : decode cX30_answer 7 = .ok (.putfield 23, 3) := by decide +kernel
theorem dX30_answer_10 : decode cX30_answer 10 = .ok (.aload_n 0, 1) := by decide +kernel
theorem dX30_answer_11 : decode cX30_answer 11 = .ok (.getfield 19, 3) := by decide +kernel
theorem dX30_answer_14 : decode cX30_answer 14 = .ok (.iload_n 2, 1) := by decide +kernel
theorem dX30_answer_15 : decode cX30_answer 15 = .ok (.invokestatic 26, 3) := by decide +kernel
theorem dX30_answer_18 : decode cX30_answer 18 = .ok (.ifCond .ne 93, 3) := by decide +kernel
theorem dX30_answer_21 : decode cX30_answer 21 = .ok (.aload_n 0, 1) := by decide +kernel
theorem dX30_answer_22 : decode cX30_answer 22 = .ok (.getfield 19, 3) := by decide +kernel
theorem dX30_answer_25 : decode cX30_answer 25 = .ok (.bipush 20, 2) := by decide +kernel
theorem dX30_answer_27 : decode cX30_answer 27 = .ok (.invokestatic 26, 3) := by decide +kernel
theorem dX30_answer_30 : decode cX30_answer 30 = .ok (.ifCond .ne 81, 3) := by decide +kernel
theorem dX30_answer_33 : decode cX30_answer 33 = .ok (.aload_n 0, 1) := by decide +kernel
theorem dX30_answer_34 : decode cX30_answer 34 = .ok (.invokevirtual 30, 3) := by decide +kernel
theorem dX30_answer_37 : decode cX30_answer 37 = .ok (.istore_n 3, 1) := by decide +kernel
theorem dX30_answer_38 : decode cX30_answer 38 = .ok (.iload_n 3, 1) := by decide +kernel
theorem dX30_answer_39 : decode cX30_answer 39 = .ok (.ifCond .ge 5, 3) := by decide +kernel
theorem dX30_answer_42 : decode cX30_answer 42 = .ok (.iconst 0, 1) := by decide +kernel
theorem dX30_answer_43 : decode cX30_answer 43 = .ok (.ireturn, 1) := by decide +kernel
theorem dX30_answer_44 : decode cX30_answer 44 = .ok (.aload_n 0, 1) := by decide +kernel
theorem dX30_answer_45 : decode cX30_answer 45 = .ok (.getfield 23, 3) := by decide +kernel
theorem dX30_answer_48 : decode cX30_answer 48 = .ok (.aload_n 0, 1) := by decide +kernel
theorem dX30_answer_49 : decode cX30_answer 49 = .ok (.getfield 3, 3) := by decide +kernel
theorem dX30_answer_52 : decode cX30_answer 52 = .ok (.getfield 34, 3) := by decide +kernel
theorem dX30_answer_55 : decode cX30_answer 55 = .ok (.if_icmp .ne 5, 3) := by decide +kernel
theorem dX30_answer_58 : decode cX30_answer 58 = .ok (.iconst 2, 1) := by decide +kernel
theorem dX30_answer_59 : decode cX30_answer 59 = .ok (.ireturn, 1) := by decide +kernel
theorem dX30_answer_60 : decode cX30_answer 60 = .ok (.aload_n 0, 1) := by decide +kernel
theorem dX30_answer_61 : decode cX30_answer 61 = .ok (.getfield 15, 3) := by decide +kernel
theorem dX30_answer_64 : decode cX30_answer 64 = .ok (.aload_n 0, 1) := by decide +kernel
theorem dX30_answer_65 : decode cX30_answer 65 = .ok (.getfield 23, 3) := by decide +kernel
theorem dX30_answer_68 : decode cX30_answer 68 = .ok (.iload_n 3, 1) := by decide +kernel
theorem dX30_answer_69 : decode cX30_answer 69 = .ok (.iastore, 1) := by decide +kernel
theorem dX30_answer_70 : decode cX30_answer 70 = .ok (.aload_n 0, 1) := by decide +kernel
theorem dX30_answer_71 : decode cX30_answer 71 = .ok (.dup, 1) := by decide +kernel
theorem dX30_answer_72 : decode cX30_answer 72 = .ok (.getfield 23, 3) := by decide +kernel
theorem dX30_answer_75 : decode cX30_answer 75 = .ok (.iconst 1, 1) := by decide +kernel
theorem dX30_answer_76 : decode cX30_answer 76 = .ok (.iadd, 1) := by decide +kernel
theorem dX30_answer_77 : decode cX30_answer 77 = .ok (.putfield 23, 3) := by decide +kernel
theorem dX30_answer_80 : decode cX30_answer 80 = .ok (.aload_n 0, 1) := by decide +kernel
theorem dX30_answer_81 : decode cX30_answer 81 = .ok (.dup, 1) := by decide +kernel
theorem dX30_answer_82 : decode cX30_answer 82 = .ok (.getfield 19, 3) := by decide +kernel
theorem dX30_answer_85 : decode cX30_answer 85 = .ok (.iconst 1, 1) := by decide +kernel
theorem dX30_answer_86 : decode cX30_answer 86 = .ok (.aload_n 0, 1) := by decide +kernel
theorem dX30_answer_87 : decode cX30_answer 87 = .ok (.getfield 3, 3) := by decide +kernel
theorem dX30_answer_90 : decode cX30_answer 90 = .ok (.getfield 37, 3) := by decide +kernel
theorem dX30_answer_93 : decode cX30_answer 93 = .ok (.iload_n 3, 1) := by decide +kernel
theorem dX30_answer_94 : decode cX30_answer 94 = .ok (.invokevirtual 41, 3) := by decide +kernel
theorem dX30_answer_97 : decode cX30_answer 97 = .ok (.checkcast 47, 3) := by decide +kernel
theorem dX30_answer_100 : decode cX30_answer 100 = .ok (.getfield 49, 3) := by decide +kernel
theorem dX30_answer_103 : decode cX30_answer 103 = .ok (.ishl, 1) := by decide +kernel
theorem dX30_answer_104 : decode cX30_answer 104 = .ok (.ior, 1) := by decide +kernel
theorem dX30_answer_105 : decode cX30_answer 105 = .ok (.putfield 19, 3) := by decide +kernel
theorem dX30_answer_108 : decode cX30_answer 108 = .ok (.goto (-98), 3) := by decide +kernel
theorem dX30_answer_111 : decode cX30_answer 111 = .ok (.iconst 1, 1) := by decide +kernel
theorem dX30_answer_112 : decode cX30_answer 112 = .ok (.ireturn, 1) := by decide +kernel
abbrev cX30_next : ByteArray := prog_9_method_3_code
def yX30_next : MethodName := ⟨RX30, "next", "()I"⟩
theorem dX30_next_0 : decode cX30_next 0 = .ok (.iconst 0, 1) := by decide +kernel
theorem dX30_next_1 : decode cX30_next 1 = .ok (.istore_n 1, 1) := by decide +kernel
theorem dX30_next_2 : decode cX30_next 2 = .ok (.iload_n 1, 1) := by decide +kernel
theorem dX30_next_3 : decode cX30_next 3 = .ok (.aload_n 0, 1) := by decide +kernel
theorem dX30_next_4 : decode cX30_next 4 = .ok (.getfield 3, 3) := by decide +kernel
theorem dX30_next_7 : decode cX30_next 7 = .ok (.getfield 37, 3) := by decide +kernel
theorem dX30_next_10 : decode cX30_next 10 = .ok (.invokevirtual 52, 3) := by decide +kernel
theorem dX30_next_13 : decode cX30_next 13 = .ok (.if_icmp .ge 35, 3) := by decide +kernel
theorem dX30_next_16 : decode cX30_next 16 = .ok (.aload_n 0, 1) := by decide +kernel
theorem dX30_next_17 : decode cX30_next 17 = .ok (.getfield 3, 3) := by decide +kernel
theorem dX30_next_20 : decode cX30_next 20 = .ok (.getfield 37, 3) := by decide +kernel
theorem dX30_next_23 : decode cX30_next 23 = .ok (.iload_n 1, 1) := by decide +kernel
theorem dX30_next_24 : decode cX30_next 24 = .ok (.invokevirtual 41, 3) := by decide +kernel
theorem dX30_next_27 : decode cX30_next 27 = .ok (.checkcast 47, 3) := by decide +kernel
theorem dX30_next_30 : decode cX30_next 30 = .ok (.aload_n 0, 1) := by decide +kernel
theorem dX30_next_31 : decode cX30_next 31 = .ok (.getfield 19, 3) := by decide +kernel
theorem dX30_next_34 : decode cX30_next 34 = .ok (.invokevirtual 55, 3) := by decide +kernel
theorem dX30_next_37 : decode cX30_next 37 = .ok (.ifCond .eq 5, 3) := by decide +kernel
theorem dX30_next_40 : decode cX30_next 40 = .ok (.iload_n 1, 1) := by decide +kernel
theorem dX30_next_41 : decode cX30_next 41 = .ok (.ireturn, 1) := by decide +kernel
theorem dX30_next_42 : decode cX30_next 42 = .ok (.iinc 1 1, 3) := by decide +kernel
theorem dX30_next_45 : decode cX30_next 45 = .ok (.goto (-43), 3) := by decide +kernel
theorem dX30_next_48 : decode cX30_next 48 = .ok (.iconst (-1), 1) := by decide +kernel
theorem dX30_next_49 : decode cX30_next 49 = .ok (.ireturn, 1) := by decide +kernel
abbrev cX30_needed : ByteArray := prog_9_method_4_code
def yX30_needed : MethodName := ⟨RX30, "needed", "()I"⟩
theorem dX30_needed_0 : decode cX30_needed 0 = .ok (.iconst 0, 1) := by decide +kernel
theorem dX30_needed_1 : decode cX30_needed 1 = .ok (.istore_n 1, 1) := by decide +kernel
theorem dX30_needed_2 : decode cX30_needed 2 = .ok (.aload_n 0, 1) := by decide +kernel
theorem dX30_needed_3 : decode cX30_needed 3 = .ok (.getfield 23, 3) := by decide +kernel
theorem dX30_needed_6 : decode cX30_needed 6 = .ok (.ifCond .ne 7, 3) := by decide +kernel
theorem dX30_needed_9 : decode cX30_needed 9 = .ok (.iconst 0, 1) := by decide +kernel
theorem dX30_needed_10 : decode cX30_needed 10 = .ok (.goto 32, 3) := by decide +kernel
theorem dX30_needed_13 : decode cX30_needed 13 = .ok (.iconst 1, 1) := by decide +kernel
theorem dX30_needed_14 : decode cX30_needed 14 = .ok (.aload_n 0, 1) := by decide +kernel
theorem dX30_needed_15 : decode cX30_needed 15 = .ok (.getfield 3, 3) := by decide +kernel
theorem dX30_needed_18 : decode cX30_needed 18 = .ok (.getfield 37, 3) := by decide +kernel
theorem dX30_needed_21 : decode cX30_needed 21 = .ok (.aload_n 0, 1) := by decide +kernel
theorem dX30_needed_22 : decode cX30_needed 22 = .ok (.getfield 15, 3) := by decide +kernel
theorem dX30_needed_25 : decode cX30_needed 25 = .ok (.aload_n 0, 1) := by decide +kernel
theorem dX30_needed_26 : decode cX30_needed 26 = .ok (.getfield 23, 3) := by decide +kernel
theorem dX30_needed_29 : decode cX30_needed 29 = .ok (.iconst 1, 1) := by decide +kernel
theorem dX30_needed_30 : decode cX30_needed 30 = .ok (.isub, 1) := by decide +kernel
theorem dX30_needed_31 : decode cX30_needed 31 = .ok (.iaload, 1) := by decide +kernel
theorem dX30_needed_32 : decode cX30_needed 32 = .ok (.invokevirtual 41, 3) := by decide +kernel
theorem dX30_needed_35 : decode cX30_needed 35 = .ok (.checkcast 47, 3) := by decide +kernel
theorem dX30_needed_38 : decode cX30_needed 38 = .ok (.getfield 49, 3) := by decide +kernel
theorem dX30_needed_41 : decode cX30_needed 41 = .ok (.ishl, 1) := by decide +kernel
theorem dX30_needed_42 : decode cX30_needed 42 = .ok (.istore_n 2, 1) := by decide +kernel
theorem dX30_needed_43 : decode cX30_needed 43 = .ok (.aload_n 0, 1) := by decide +kernel
theorem dX30_needed_44 : decode cX30_needed 44 = .ok (.getfield 23, 3) := by decide +kernel
theorem dX30_needed_47 : decode cX30_needed 47 = .ok (.iconst 1, 1) := by decide +kernel
theorem dX30_needed_48 : decode cX30_needed 48 = .ok (.isub, 1) := by decide +kernel
theorem dX30_needed_49 : decode cX30_needed 49 = .ok (.istore_n 3, 1) := by decide +kernel
theorem dX30_needed_50 : decode cX30_needed 50 = .ok (.iload_n 3, 1) := by decide +kernel
theorem dX30_needed_51 : decode cX30_needed 51 = .ok (.ifCond .lt 59, 3) := by decide +kernel
theorem dX30_needed_54 : decode cX30_needed 54 = .ok (.aload_n 0, 1) := by decide +kernel
theorem dX30_needed_55 : decode cX30_needed 55 = .ok (.getfield 3, 3) := by decide +kernel
theorem dX30_needed_58 : decode cX30_needed 58 = .ok (.getfield 37, 3) := by decide +kernel
theorem dX30_needed_61 : decode cX30_needed 61 = .ok (.aload_n 0, 1) := by decide +kernel
theorem dX30_needed_62 : decode cX30_needed 62 = .ok (.getfield 15, 3) := by decide +kernel
theorem dX30_needed_65 : decode cX30_needed 65 = .ok (.iload_n 3, 1) := by decide +kernel
theorem dX30_needed_66 : decode cX30_needed 66 = .ok (.iaload, 1) := by decide +kernel
theorem dX30_needed_67 : decode cX30_needed 67 = .ok (.invokevirtual 41, 3) := by decide +kernel
theorem dX30_needed_70 : decode cX30_needed 70 = .ok (.checkcast 47, 3) := by decide +kernel
theorem dX30_needed_73 : decode cX30_needed 73 = .ok (.astore 4, 2) := by decide +kernel
theorem dX30_needed_75 : decode cX30_needed 75 = .ok (.iload_n 2, 1) := by decide +kernel
theorem dX30_needed_76 : decode cX30_needed 76 = .ok (.aload 4, 2) := by decide +kernel
theorem dX30_needed_78 : decode cX30_needed 78 = .ok (.getfield 49, 3) := by decide +kernel
theorem dX30_needed_81 : decode cX30_needed 81 = .ok (.invokestatic 26, 3) := by decide +kernel
theorem dX30_needed_84 : decode cX30_needed 84 = .ok (.ifCond .ne 6, 3) := by decide +kernel
theorem dX30_needed_87 : decode cX30_needed 87 = .ok (.goto 17, 3) := by decide +kernel
theorem dX30_needed_90 : decode cX30_needed 90 = .ok (.iload_n 1, 1) := by decide +kernel
theorem dX30_needed_91 : decode cX30_needed 91 = .ok (.iconst 1, 1) := by decide +kernel
theorem dX30_needed_92 : decode cX30_needed 92 = .ok (.iload_n 3, 1) := by decide +kernel
theorem dX30_needed_93 : decode cX30_needed 93 = .ok (.ishl, 1) := by decide +kernel
theorem dX30_needed_94 : decode cX30_needed 94 = .ok (.ior, 1) := by decide +kernel
theorem dX30_needed_95 : decode cX30_needed 95 = .ok (.istore_n 1, 1) := by decide +kernel
theorem dX30_needed_96 : decode cX30_needed 96 = .ok (.iload_n 2, 1) := by decide +kernel
theorem dX30_needed_97 : decode cX30_needed 97 = .ok (.aload 4, 2) := by decide +kernel
theorem dX30_needed_99 : decode cX30_needed 99 = .ok (.getfield 59, 3) := by decide +kernel
theorem dX30_needed_102 : decode cX30_needed 102 = .ok (.ior, 1) := by decide +kernel
theorem dX30_needed_103 : decode cX30_needed 103 = .ok (.istore_n 2, 1) := by decide +kernel
theorem dX30_needed_104 : decode cX30_needed 104 = .ok (.iinc 3 (-1), 3) := by decide +kernel
theorem dX30_needed_107 : decode cX30_needed 107 = .ok (.goto (-57), 3) := by decide +kernel
theorem dX30_needed_110 : decode cX30_needed 110 = .ok (.iload_n 1, 1) := by decide +kernel
theorem dX30_needed_111 : decode cX30_needed 111 = .ok (.ireturn, 1) := by decide +kernel
theorem in_X30 : ∀ w ∈ wsX300, w ∈ lw_all := lw_in wsX300 [1364, 1366, 1368, 1370] (by decide +kernel) (by decide +kernel)
def RX61 : String := "KnowHouse$ClassifySort$Axiom"
def TX61 : u_T := fun k => match k with
  | 0 => ("KnowHouse$ClassifySort$Axiom", "left", "I", true)
  | 1 => ("KnowHouse$ClassifySort$Axiom", "right", "I", true)
  | _ => ("KnowHouse$ClassifySort$Axiom", "gone", "Z", false)
def tyX61 : Nat → FieldType := fun k => match k with
  | 0 => .int
  | 1 => .int
  | _ => .boolean
abbrev wsX610 : List Cond := u_ws RX61 TX61 3
theorem nmX61 : ∀ a, a < 3 → ∀ b, b < 3 → a ≠ b → (TX61 a).2.1 ≠ (TX61 b).2.1 := by decide +kernel
theorem tyX61_ok : ∀ k, k < 3 → parseFieldDescriptor (TX61 k).2.2.1 = some (tyX61 k) := by decide +kernel
abbrev cX61_init : ByteArray := prog_8_method_1_code
def yX61_init : MethodName := ⟨RX61, "<init>", "(II)V"⟩
theorem dX61_init_0 : decode cX61_init 0 = .ok (.aload_n 0, 1) := by decide +kernel
theorem dX61_init_1 : decode cX61_init 1 = .ok (.invokespecial 1, 3) := by decide +kernel
theorem dX61_init_4 : decode cX61_init 4 = .ok (.aload_n 0, 1) := by decide +kernel
theorem dX61_init_5 : decode cX61_init 5 = .ok (.iload_n 1, 1) := by decide +kernel
theorem dX61_init_6 : decode cX61_init 6 = .ok (.putfield 7, 3) := by decide +kernel
theorem dX61_init_9 : decode cX61_init 9 = .ok (.aload_n 0, 1) := by decide +kernel
theorem dX61_init_10 : decode cX61_init 10 = .ok (.iload_n 2, 1) := by decide +kernel
theorem dX61_init_11 : decode cX61_init 11 = .ok (.putfield 13, 3) := by decide +kernel
theorem dX61_init_14 : decode cX61_init 14 = .ok (.return_, 1) := by decide +kernel
abbrev cX61_isTold : ByteArray := prog_8_method_3_code
def yX61_isTold : MethodName := ⟨RX61, "isTold", "()Z"⟩
theorem dX61_isTold_0 : decode cX61_isTold 0 = .ok (.aload_n 0, 1) := by decide +kernel
theorem dX61_isTold_1 : decode cX61_isTold 1 = .ok (.getfield 16, 3) := by decide +kernel
theorem dX61_isTold_4 : decode cX61_isTold 4 = .ok (.ifCond .ne 18, 3) := by decide +kernel
theorem dX61_isTold_7 : decode cX61_isTold 7 = .ok (.aload_n 0, 1) := by decide +kernel
theorem dX61_isTold_8 : decode cX61_isTold 8 = .ok (.getfield 7, 3) := by decide +kernel
theorem dX61_isTold_11 : decode cX61_isTold 11 = .ok (.invokestatic 26, 3) := by decide +kernel
theorem dX61_isTold_14 : decode cX61_isTold 14 = .ok (.iconst 1, 1) := by decide +kernel
theorem dX61_isTold_15 : decode cX61_isTold 15 = .ok (.if_icmp .ne 7, 3) := by decide +kernel
theorem dX61_isTold_18 : decode cX61_isTold 18 = .ok (.iconst 1, 1) := by decide +kernel
theorem dX61_isTold_19 : decode cX61_isTold 19 = .ok (.goto 4, 3) := by decide +kernel
theorem dX61_isTold_22 : decode cX61_isTold 22 = .ok (.iconst 0, 1) := by decide +kernel
theorem dX61_isTold_23 : decode cX61_isTold 23 = .ok (.ireturn, 1) := by decide +kernel
abbrev cX61_canFire : ByteArray := prog_8_method_2_code
def yX61_canFire : MethodName := ⟨RX61, "canFire", "(I)Z"⟩
theorem dX61_canFire_0 : decode cX61_canFire 0 = .ok (.aload_n 0, 1) := by decide +kernel
theorem dX61_canFire_1 : decode cX61_canFire 1 = .ok (.getfield 16, 3) := by decide +kernel
theorem dX61_canFire_4 : decode cX61_canFire 4 = .ok (.ifCond .ne 29, 3) := by decide +kernel
theorem dX61_canFire_7 : decode cX61_canFire 7 = .ok (.aload_n 0, 1) := by decide +kernel
theorem dX61_canFire_8 : decode cX61_canFire 8 = .ok (.getfield 7, 3) := by decide +kernel
theorem dX61_canFire_11 : decode cX61_canFire 11 = .ok (.iload_n 1, 1) := by decide +kernel
theorem dX61_canFire_12 : decode cX61_canFire 12 = .ok (.iconst (-1), 1) := by decide +kernel
theorem dX61_canFire_13 : decode cX61_canFire 13 = .ok (.ixor, 1) := by decide +kernel
theorem dX61_canFire_14 : decode cX61_canFire 14 = .ok (.iand, 1) := by decide +kernel
theorem dX61_canFire_15 : decode cX61_canFire 15 = .ok (.ifCond .ne 18, 3) := by decide +kernel
theorem dX61_canFire_18 : decode cX61_canFire 18 = .ok (.iload_n 1, 1) := by decide +kernel
theorem dX61_canFire_19 : decode cX61_canFire 19 = .ok (.aload_n 0, 1) := by decide +kernel
theorem dX61_canFire_20 : decode cX61_canFire 20 = .ok (.getfield 13, 3) := by decide +kernel
theorem dX61_canFire_23 : decode cX61_canFire 23 = .ok (.invokestatic 20, 3) := by decide +kernel
theorem dX61_canFire_26 : decode cX61_canFire 26 = .ok (.ifCond .ne 7, 3) := by decide +kernel
theorem dX61_canFire_29 : decode cX61_canFire 29 = .ok (.iconst 1, 1) := by decide +kernel
theorem dX61_canFire_30 : decode cX61_canFire 30 = .ok (.goto 4, 3) := by decide +kernel
theorem dX61_canFire_33 : decode cX61_canFire 33 = .ok (.iconst 0, 1) := by decide +kernel
theorem dX61_canFire_34 : decode cX61_canFire 34 = .ok (.ireturn, 1) := by decide +kernel
theorem in_X61 : ∀ w ∈ wsX610, w ∈ lw_all := lw_in wsX610 [3114, 3116, 3118] (by decide +kernel) (by decide +kernel)
theorem dJ3_bitCount_0 : decode cJ3_bitCount 0 = .ok (.iload_n 0, 1) := by decide +kernel
theorem dJ3_bitCount_1 : decode cJ3_bitCount 1 = .ok (.iload_n 0, 1) := by decide +kernel
theorem dJ3_bitCount_2 : decode cJ3_bitCount 2 = .ok (.iconst 1, 1) := by decide +kernel
theorem dJ3_bitCount_3 : decode cJ3_bitCount 3 = .ok (.iushr, 1) := by decide +kernel
theorem dJ3_bitCount_4 : decode cJ3_bitCount 4 = .ok (.ldc_w 265, 3) := by decide +kernel
theorem dJ3_bitCount_7 : decode cJ3_bitCount 7 = .ok (.iand, 1) := by decide +kernel
theorem dJ3_bitCount_8 : decode cJ3_bitCount 8 = .ok (.isub, 1) := by decide +kernel
theorem dJ3_bitCount_9 : decode cJ3_bitCount 9 = .ok (.istore_n 0, 1) := by decide +kernel
theorem dJ3_bitCount_10 : decode cJ3_bitCount 10 = .ok (.iload_n 0, 1) := by decide +kernel
theorem dJ3_bitCount_11 : decode cJ3_bitCount 11 = .ok (.ldc_w 266, 3) := by decide +kernel
theorem dJ3_bitCount_14 : decode cJ3_bitCount 14 = .ok (.iand, 1) := by decide +kernel
theorem dJ3_bitCount_15 : decode cJ3_bitCount 15 = .ok (.iload_n 0, 1) := by decide +kernel
theorem dJ3_bitCount_16 : decode cJ3_bitCount 16 = .ok (.iconst 2, 1) := by decide +kernel
theorem dJ3_bitCount_17 : decode cJ3_bitCount 17 = .ok (.iushr, 1) := by decide +kernel
theorem dJ3_bitCount_18 : decode cJ3_bitCount 18 = .ok (.ldc_w 266, 3) := by decide +kernel
theorem dJ3_bitCount_21 : decode cJ3_bitCount 21 = .ok (.iand, 1) := by decide +kernel
theorem dJ3_bitCount_22 : decode cJ3_bitCount 22 = .ok (.iadd, 1) := by decide +kernel
theorem dJ3_bitCount_23 : decode cJ3_bitCount 23 = .ok (.istore_n 0, 1) := by decide +kernel
theorem dJ3_bitCount_24 : decode cJ3_bitCount 24 = .ok (.iload_n 0, 1) := by decide +kernel
theorem dJ3_bitCount_25 : decode cJ3_bitCount 25 = .ok (.iload_n 0, 1) := by decide +kernel
theorem dJ3_bitCount_26 : decode cJ3_bitCount 26 = .ok (.iconst 4, 1) := by decide +kernel
theorem dJ3_bitCount_27 : decode cJ3_bitCount 27 = .ok (.iushr, 1) := by decide +kernel
theorem dJ3_bitCount_28 : decode cJ3_bitCount 28 = .ok (.iadd, 1) := by decide +kernel
theorem dJ3_bitCount_29 : decode cJ3_bitCount 29 = .ok (.ldc_w 267, 3) := by decide +kernel
theorem dJ3_bitCount_32 : decode cJ3_bitCount 32 = .ok (.iand, 1) := by decide +kernel
theorem dJ3_bitCount_33 : decode cJ3_bitCount 33 = .ok (.istore_n 0, 1) := by decide +kernel
theorem dJ3_bitCount_34 : decode cJ3_bitCount 34 = .ok (.iload_n 0, 1) := by decide +kernel
theorem dJ3_bitCount_35 : decode cJ3_bitCount 35 = .ok (.iload_n 0, 1) := by decide +kernel
theorem dJ3_bitCount_36 : decode cJ3_bitCount 36 = .ok (.bipush 8, 2) := by decide +kernel
theorem dJ3_bitCount_38 : decode cJ3_bitCount 38 = .ok (.iushr, 1) := by decide +kernel
theorem dJ3_bitCount_39 : decode cJ3_bitCount 39 = .ok (.iadd, 1) := by decide +kernel
theorem dJ3_bitCount_40 : decode cJ3_bitCount 40 = .ok (.istore_n 0, 1) := by decide +kernel
theorem dJ3_bitCount_41 : decode cJ3_bitCount 41 = .ok (.iload_n 0, 1) := by decide +kernel
theorem dJ3_bitCount_42 : decode cJ3_bitCount 42 = .ok (.iload_n 0, 1) := by decide +kernel
theorem dJ3_bitCount_43 : decode cJ3_bitCount 43 = .ok (.bipush 16, 2) := by decide +kernel
theorem dJ3_bitCount_45 : decode cJ3_bitCount 45 = .ok (.iushr, 1) := by decide +kernel
theorem dJ3_bitCount_46 : decode cJ3_bitCount 46 = .ok (.iadd, 1) := by decide +kernel
theorem dJ3_bitCount_47 : decode cJ3_bitCount 47 = .ok (.istore_n 0, 1) := by decide +kernel
theorem dJ3_bitCount_48 : decode cJ3_bitCount 48 = .ok (.iload_n 0, 1) := by decide +kernel
theorem dJ3_bitCount_49 : decode cJ3_bitCount 49 = .ok (.bipush 63, 2) := by decide +kernel
theorem dJ3_bitCount_51 : decode cJ3_bitCount 51 = .ok (.iand, 1) := by decide +kernel
theorem dJ3_bitCount_52 : decode cJ3_bitCount 52 = .ok (.ireturn, 1) := by decide +kernel
theorem q515 : (Jvm.Cond.initialized "KnowHouse$ClassifySort") ∈ lw_all := lw_g (lw_at lw_m1 37 rfl) rfl
theorem q516 : (Jvm.Cond.initialized "KnowHouse$ClassifySort$Reasoner") ∈ lw_all := lw_g (lw_at lw_m1 38 rfl) rfl
theorem q565 : (Jvm.Cond.initialized "KnowHouse$ClassifySort$Axiom") ∈ lw_all := lw_g (lw_at lw_m1 87 rfl) rfl
theorem q1350 : (Jvm.Cond.methodLink "KnowHouse$ClassifySort" (1 : Nat) ({ cls := "java/lang/Object", name := "<init>", desc := "()V" } : Jvm.MethodName)) ∈ lw_all := lw_g (lw_at lw_m4 152 rfl) rfl
theorem q1351 : (Jvm.Cond.classLink "KnowHouse$ClassifySort" (7 : Nat) "java/util/ArrayList") ∈ lw_all := lw_g (lw_at lw_m4 153 rfl) rfl
theorem q1352 : (Jvm.Cond.methodLink "KnowHouse$ClassifySort" (9 : Nat) ({ cls := "java/util/ArrayList", name := "<init>", desc := "()V" } : Jvm.MethodName)) ∈ lw_all := lw_g (lw_at lw_m4 154 rfl) rfl
theorem q1353 : (Jvm.Cond.classLink "KnowHouse$ClassifySort" (16 : Nat) "KnowHouse$ClassifySort$Reasoner") ∈ lw_all := lw_g (lw_at lw_m4 155 rfl) rfl
theorem q1354 : (Jvm.Cond.instantiable "KnowHouse$ClassifySort$Reasoner" (4 : Nat)) ∈ lw_all := lw_g (lw_at lw_m4 156 rfl) rfl
theorem q1355 : (Jvm.Cond.methodLinkNest "KnowHouse$ClassifySort" (18 : Nat) ({ cls := "KnowHouse$ClassifySort$Reasoner", name := "<init>", desc := "(LKnowHouse$ClassifySort;)V" } : Jvm.MethodName) "KnowHouse") ∈ lw_tbl := lw_at lw_m4 157 rfl
theorem q1356 : (Jvm.Cond.instanceMethod ({ cls := "KnowHouse$ClassifySort$Reasoner", name := "<init>", desc := "(LKnowHouse$ClassifySort;)V" } : Jvm.MethodName)) ∈ lw_all := lw_g (lw_at lw_m4 158 rfl) rfl
theorem q1357 : (Jvm.Cond.code ({ cls := "KnowHouse$ClassifySort$Reasoner", name := "<init>", desc := "(LKnowHouse$ClassifySort;)V" } : Jvm.MethodName) prog_9_method_1_code (2 : Nat) (Option.none : Option Jvm.ClassFile.FieldType)) ∈ lw_all := lw_g (lw_at lw_m4 159 rfl) rfl
theorem q1358 : (Jvm.Cond.methodLink "KnowHouse$ClassifySort$Reasoner" (9 : Nat) ({ cls := "java/lang/Object", name := "<init>", desc := "()V" } : Jvm.MethodName)) ∈ lw_all := lw_g (lw_at lw_m4 160 rfl) rfl
theorem q1359 : (Jvm.Cond.fieldLink "KnowHouse$ClassifySort$Reasoner" (15 : Nat) "KnowHouse$ClassifySort$Reasoner" "fired" "[I") ∈ lw_all := lw_g (lw_at lw_m4 161 rfl) rfl
theorem q1360 : (Jvm.Cond.fieldLinkNest "KnowHouse$ClassifySort" (188 : Nat) "KnowHouse$ClassifySort$Reasoner" "fired" "[I" "KnowHouse") ∈ lw_tbl := lw_at lw_m4 162 rfl
theorem q1361 : (Jvm.Cond.fieldLink "KnowHouse$ClassifySort$Reasoner" (23 : Nat) "KnowHouse$ClassifySort$Reasoner" "many" "I") ∈ lw_all := lw_g (lw_at lw_m4 163 rfl) rfl
theorem q1362 : (Jvm.Cond.fieldLink "KnowHouse$ClassifySort$Reasoner" (19 : Nat) "KnowHouse$ClassifySort$Reasoner" "facts" "I") ∈ lw_all := lw_g (lw_at lw_m4 164 rfl) rfl
theorem q1363 : (Jvm.Cond.fieldLink "KnowHouse$ClassifySort$Reasoner" (3 : Nat) "KnowHouse$ClassifySort$Reasoner" "this$0" "LKnowHouse$ClassifySort;") ∈ lw_all := lw_g (lw_at lw_m4 165 rfl) rfl
theorem q1373 : (Jvm.Cond.constant "KnowHouse$ClassifySort" (45 : Nat) (1048576 : Int32)) ∈ lw_all := lw_g (lw_at lw_m4 175 rfl) rfl
theorem q1374 : (Jvm.Cond.fieldLink "KnowHouse$ClassifySort" (10 : Nat) "KnowHouse$ClassifySort" "axioms" "Ljava/util/ArrayList;") ∈ lw_all := lw_g (lw_at lw_m4 176 rfl) rfl
theorem q1375 : (Jvm.Cond.fieldLinkNest "KnowHouse$ClassifySort$Reasoner" (37 : Nat) "KnowHouse$ClassifySort" "axioms" "Ljava/util/ArrayList;" "KnowHouse") ∈ lw_tbl := lw_at lw_m4 177 rfl
theorem q1376 : (Jvm.Cond.fieldLink "KnowHouse$ClassifySort" (21 : Nat) "KnowHouse$ClassifySort" "reasoner" "LKnowHouse$ClassifySort$Reasoner;") ∈ lw_all := lw_g (lw_at lw_m4 178 rfl) rfl
theorem q1377 : (Jvm.Cond.fieldLink "KnowHouse$ClassifySort" (52 : Nat) "KnowHouse$ClassifySort" "classes" "I") ∈ lw_all := lw_g (lw_at lw_m4 179 rfl) rfl
theorem q1378 : (Jvm.Cond.fieldLink "KnowHouse$ClassifySort" (25 : Nat) "KnowHouse$ClassifySort" "things" "[I") ∈ lw_all := lw_g (lw_at lw_m4 180 rfl) rfl
theorem q1379 : (Jvm.Cond.fieldLink "KnowHouse$ClassifySort" (66 : Nat) "KnowHouse$ClassifySort" "thingCount" "I") ∈ lw_all := lw_g (lw_at lw_m4 181 rfl) rfl
theorem q1380 : (Jvm.Cond.fieldLink "KnowHouse$ClassifySort" (29 : Nat) "KnowHouse$ClassifySort" "fuel" "I") ∈ lw_all := lw_g (lw_at lw_m4 182 rfl) rfl
theorem q1381 : (Jvm.Cond.fieldLinkNest "KnowHouse$ClassifySort$Reasoner" (34 : Nat) "KnowHouse$ClassifySort" "fuel" "I" "KnowHouse") ∈ lw_tbl := lw_at lw_m4 183 rfl
theorem q1382 : (Jvm.Cond.fieldLink "KnowHouse$ClassifySort" (33 : Nat) "KnowHouse$ClassifySort" "above" "[I") ∈ lw_all := lw_g (lw_at lw_m4 184 rfl) rfl
theorem q1383 : (Jvm.Cond.fieldLink "KnowHouse$ClassifySort" (36 : Nat) "KnowHouse$ClassifySort" "not" "[I") ∈ lw_all := lw_g (lw_at lw_m4 185 rfl) rfl
theorem q1384 : (Jvm.Cond.fieldLink "KnowHouse$ClassifySort" (39 : Nat) "KnowHouse$ClassifySort" "open" "[I") ∈ lw_all := lw_g (lw_at lw_m4 186 rfl) rfl
theorem q1385 : (Jvm.Cond.fieldLink "KnowHouse$ClassifySort" (42 : Nat) "KnowHouse$ClassifySort" "under" "[I") ∈ lw_all := lw_g (lw_at lw_m4 187 rfl) rfl
theorem q1386 : (Jvm.Cond.fieldLink "KnowHouse$ClassifySort" (62 : Nat) "KnowHouse$ClassifySort" "sorted" "Z") ∈ lw_all := lw_g (lw_at lw_m4 188 rfl) rfl
theorem q1387 : (Jvm.Cond.fieldLink "KnowHouse$ClassifySort" (141 : Nat) "KnowHouse$ClassifySort" "placed" "I") ∈ lw_all := lw_g (lw_at lw_m4 189 rfl) rfl
theorem q1388 : (Jvm.Cond.fieldLink "KnowHouse$ClassifySort" (163 : Nat) "KnowHouse$ClassifySort" "empties" "I") ∈ lw_all := lw_g (lw_at lw_m4 190 rfl) rfl
theorem q1389 : (Jvm.Cond.fieldLink "KnowHouse$ClassifySort" (135 : Nat) "KnowHouse$ClassifySort" "asked" "I") ∈ lw_all := lw_g (lw_at lw_m4 191 rfl) rfl
theorem q3088 : (Jvm.Cond.methodLink "KnowHouse$ClassifySort" (55 : Nat) ({ cls := "KnowHouse$ClassifySort", name := "isClass", desc := "(I)Z" } : Jvm.MethodName)) ∈ lw_all := lw_g (lw_at lw_m11 210 rfl) rfl
theorem q3090 : (Jvm.Cond.instanceMethod ({ cls := "KnowHouse$ClassifySort", name := "isClass", desc := "(I)Z" } : Jvm.MethodName)) ∈ lw_all := lw_g (lw_at lw_m11 212 rfl) rfl
theorem q3091 : (Jvm.Cond.code ({ cls := "KnowHouse$ClassifySort", name := "isClass", desc := "(I)Z" } : Jvm.MethodName) prog_7_method_4_code (2 : Nat) (Option.some Jvm.ClassFile.FieldType.boolean)) ∈ lw_all := lw_g (lw_at lw_m11 213 rfl) rfl
theorem q3092 : (Jvm.Cond.methodLink "KnowHouse$ClassifySort" (69 : Nat) ({ cls := "KnowHouse$ClassifySort", name := "isGoal", desc := "(I)Z" } : Jvm.MethodName)) ∈ lw_all := lw_g (lw_at lw_m11 214 rfl) rfl
theorem q3094 : (Jvm.Cond.instanceMethod ({ cls := "KnowHouse$ClassifySort", name := "isGoal", desc := "(I)Z" } : Jvm.MethodName)) ∈ lw_all := lw_g (lw_at lw_m11 216 rfl) rfl
theorem q3095 : (Jvm.Cond.code ({ cls := "KnowHouse$ClassifySort", name := "isGoal", desc := "(I)Z" } : Jvm.MethodName) prog_7_method_5_code (2 : Nat) (Option.some Jvm.ClassFile.FieldType.boolean)) ∈ lw_all := lw_g (lw_at lw_m11 217 rfl) rfl
theorem q3096 : (Jvm.Cond.methodLink "KnowHouse$ClassifySort" (72 : Nat) ({ cls := "java/util/ArrayList", name := "size", desc := "()I" } : Jvm.MethodName)) ∈ lw_all := lw_g (lw_at lw_m11 218 rfl) rfl
theorem q3097 : (Jvm.Cond.classLink "KnowHouse$ClassifySort" (76 : Nat) "KnowHouse$ClassifySort$Axiom") ∈ lw_all := lw_g (lw_at lw_m11 219 rfl) rfl
theorem q3098 : (Jvm.Cond.instantiable "KnowHouse$ClassifySort$Axiom" (3 : Nat)) ∈ lw_all := lw_g (lw_at lw_m11 220 rfl) rfl
theorem q3099 : (Jvm.Cond.methodLink "KnowHouse$ClassifySort" (78 : Nat) ({ cls := "KnowHouse$ClassifySort", name := "goal", desc := "(I)I" } : Jvm.MethodName)) ∈ lw_all := lw_g (lw_at lw_m11 221 rfl) rfl
theorem q3100 : (Jvm.Cond.static ({ cls := "KnowHouse$ClassifySort", name := "goal", desc := "(I)I" } : Jvm.MethodName)) ∈ lw_all := lw_g (lw_at lw_m11 222 rfl) rfl
theorem q3101 : (Jvm.Cond.code ({ cls := "KnowHouse$ClassifySort", name := "goal", desc := "(I)I" } : Jvm.MethodName) prog_7_method_6_code (1 : Nat) (Option.some Jvm.ClassFile.FieldType.int)) ∈ lw_all := lw_g (lw_at lw_m11 223 rfl) rfl
theorem q3102 : (Jvm.Cond.methodLink "KnowHouse$ClassifySort" (81 : Nat) ({ cls := "KnowHouse$ClassifySort$Axiom", name := "<init>", desc := "(II)V" } : Jvm.MethodName)) ∈ lw_all := lw_g (lw_at lw_m11 224 rfl) rfl
theorem q3103 : (Jvm.Cond.instanceMethod ({ cls := "KnowHouse$ClassifySort$Axiom", name := "<init>", desc := "(II)V" } : Jvm.MethodName)) ∈ lw_all := lw_g (lw_at lw_m11 225 rfl) rfl
theorem q3104 : (Jvm.Cond.code ({ cls := "KnowHouse$ClassifySort$Axiom", name := "<init>", desc := "(II)V" } : Jvm.MethodName) prog_8_method_1_code (3 : Nat) (Option.none : Option Jvm.ClassFile.FieldType)) ∈ lw_all := lw_g (lw_at lw_m11 226 rfl) rfl
theorem q3105 : (Jvm.Cond.methodLink "KnowHouse$ClassifySort$Axiom" (1 : Nat) ({ cls := "java/lang/Object", name := "<init>", desc := "()V" } : Jvm.MethodName)) ∈ lw_all := lw_g (lw_at lw_m11 227 rfl) rfl
theorem q3106 : (Jvm.Cond.fieldLink "KnowHouse$ClassifySort$Axiom" (7 : Nat) "KnowHouse$ClassifySort$Axiom" "left" "I") ∈ lw_all := lw_g (lw_at lw_m11 228 rfl) rfl
theorem q3107 : (Jvm.Cond.fieldLinkNest "KnowHouse$ClassifySort$Reasoner" (59 : Nat) "KnowHouse$ClassifySort$Axiom" "left" "I" "KnowHouse") ∈ lw_tbl := lw_at lw_m11 229 rfl
theorem q3108 : (Jvm.Cond.fieldLinkNest "KnowHouse$ClassifySort" (109 : Nat) "KnowHouse$ClassifySort$Axiom" "left" "I" "KnowHouse") ∈ lw_tbl := lw_at lw_m11 230 rfl
theorem q3109 : (Jvm.Cond.fieldLink "KnowHouse$ClassifySort$Axiom" (13 : Nat) "KnowHouse$ClassifySort$Axiom" "right" "I") ∈ lw_all := lw_g (lw_at lw_m11 231 rfl) rfl
theorem q3110 : (Jvm.Cond.fieldLinkNest "KnowHouse$ClassifySort$Reasoner" (49 : Nat) "KnowHouse$ClassifySort$Axiom" "right" "I" "KnowHouse") ∈ lw_tbl := lw_at lw_m11 232 rfl
theorem q3111 : (Jvm.Cond.fieldLinkNest "KnowHouse$ClassifySort" (112 : Nat) "KnowHouse$ClassifySort$Axiom" "right" "I" "KnowHouse") ∈ lw_tbl := lw_at lw_m11 233 rfl
theorem q3112 : (Jvm.Cond.fieldLink "KnowHouse$ClassifySort$Axiom" (16 : Nat) "KnowHouse$ClassifySort$Axiom" "gone" "Z") ∈ lw_all := lw_g (lw_at lw_m11 234 rfl) rfl
theorem q3113 : (Jvm.Cond.fieldLinkNest "KnowHouse$ClassifySort" (100 : Nat) "KnowHouse$ClassifySort$Axiom" "gone" "Z" "KnowHouse") ∈ lw_tbl := lw_at lw_m11 235 rfl
theorem q3121 : (Jvm.Cond.methodLink "KnowHouse$ClassifySort" (84 : Nat) ({ cls := "java/util/ArrayList", name := "add", desc := "(Ljava/lang/Object;)Z" } : Jvm.MethodName)) ∈ lw_all := lw_g (lw_at lw_m12 3 rfl) rfl
theorem q3122 : (Jvm.Cond.methodLink "KnowHouse$ClassifySort" (88 : Nat) ({ cls := "KnowHouse$ClassifySort", name := "touched", desc := "(LKnowHouse$ClassifySort$Axiom;)I" } : Jvm.MethodName)) ∈ lw_all := lw_g (lw_at lw_m12 4 rfl) rfl
theorem q3124 : (Jvm.Cond.instanceMethod ({ cls := "KnowHouse$ClassifySort", name := "touched", desc := "(LKnowHouse$ClassifySort$Axiom;)I" } : Jvm.MethodName)) ∈ lw_all := lw_g (lw_at lw_m12 6 rfl) rfl
theorem q3125 : (Jvm.Cond.code ({ cls := "KnowHouse$ClassifySort", name := "touched", desc := "(LKnowHouse$ClassifySort$Axiom;)I" } : Jvm.MethodName) prog_7_method_14_code (4 : Nat) (Option.some Jvm.ClassFile.FieldType.int)) ∈ lw_all := lw_g (lw_at lw_m12 7 rfl) rfl
theorem q3126 : (Jvm.Cond.methodLink "KnowHouse$ClassifySort" (115 : Nat) ({ cls := "KnowHouse$ClassifySort", name := "module", desc := "(I)I" } : Jvm.MethodName)) ∈ lw_all := lw_g (lw_at lw_m12 8 rfl) rfl
theorem q3128 : (Jvm.Cond.instanceMethod ({ cls := "KnowHouse$ClassifySort", name := "module", desc := "(I)I" } : Jvm.MethodName)) ∈ lw_all := lw_g (lw_at lw_m12 10 rfl) rfl
theorem q3129 : (Jvm.Cond.code ({ cls := "KnowHouse$ClassifySort", name := "module", desc := "(I)I" } : Jvm.MethodName) prog_7_method_13_code (6 : Nat) (Option.some Jvm.ClassFile.FieldType.int)) ∈ lw_all := lw_g (lw_at lw_m12 11 rfl) rfl
theorem q3130 : (Jvm.Cond.methodLink "KnowHouse$ClassifySort" (96 : Nat) ({ cls := "java/util/ArrayList", name := "get", desc := "(I)Ljava/lang/Object;" } : Jvm.MethodName)) ∈ lw_all := lw_g (lw_at lw_m12 12 rfl) rfl
theorem q3131 : (Jvm.Cond.methodLink "KnowHouse$ClassifySort" (92 : Nat) ({ cls := "KnowHouse$ClassifySort", name := "has", desc := "(II)Z" } : Jvm.MethodName)) ∈ lw_all := lw_g (lw_at lw_m12 13 rfl) rfl
theorem q3132 : (Jvm.Cond.static ({ cls := "KnowHouse$ClassifySort", name := "has", desc := "(II)Z" } : Jvm.MethodName)) ∈ lw_all := lw_g (lw_at lw_m12 14 rfl) rfl
theorem q3133 : (Jvm.Cond.code ({ cls := "KnowHouse$ClassifySort", name := "has", desc := "(II)Z" } : Jvm.MethodName) prog_7_method_2_code (2 : Nat) (Option.some Jvm.ClassFile.FieldType.boolean)) ∈ lw_all := lw_g (lw_at lw_m12 15 rfl) rfl
theorem q3134 : (Jvm.Cond.methodLink "KnowHouse$ClassifySort" (59 : Nat) ({ cls := "KnowHouse$ClassifySort", name := "close", desc := "()V" } : Jvm.MethodName)) ∈ lw_all := lw_g (lw_at lw_m12 16 rfl) rfl
theorem q3136 : (Jvm.Cond.instanceMethod ({ cls := "KnowHouse$ClassifySort", name := "close", desc := "()V" } : Jvm.MethodName)) ∈ lw_all := lw_g (lw_at lw_m12 18 rfl) rfl
theorem q3137 : (Jvm.Cond.code ({ cls := "KnowHouse$ClassifySort", name := "close", desc := "()V" } : Jvm.MethodName) prog_7_method_18_code (5 : Nat) (Option.none : Option Jvm.ClassFile.FieldType)) ∈ lw_all := lw_g (lw_at lw_m12 19 rfl) rfl
theorem q3138 : (Jvm.Cond.methodLink "KnowHouse$ClassifySort" (121 : Nat) ({ cls := "KnowHouse$ClassifySort$Axiom", name := "isTold", desc := "()Z" } : Jvm.MethodName)) ∈ lw_all := lw_g (lw_at lw_m12 20 rfl) rfl
theorem q3139 : (Jvm.Cond.instanceMethod ({ cls := "KnowHouse$ClassifySort$Axiom", name := "isTold", desc := "()Z" } : Jvm.MethodName)) ∈ lw_all := lw_g (lw_at lw_m12 21 rfl) rfl
theorem q3140 : (Jvm.Cond.selects "KnowHouse$ClassifySort$Axiom" ({ cls := "KnowHouse$ClassifySort$Axiom", name := "isTold", desc := "()Z" } : Jvm.MethodName) ({ cls := "KnowHouse$ClassifySort$Axiom", name := "isTold", desc := "()Z" } : Jvm.MethodName)) ∈ lw_all := lw_g (lw_at lw_m12 22 rfl) rfl
theorem q3141 : (Jvm.Cond.code ({ cls := "KnowHouse$ClassifySort$Axiom", name := "isTold", desc := "()Z" } : Jvm.MethodName) prog_8_method_3_code (1 : Nat) (Option.some Jvm.ClassFile.FieldType.boolean)) ∈ lw_all := lw_g (lw_at lw_m12 23 rfl) rfl
theorem q3142 : (Jvm.Cond.methodLink "KnowHouse$ClassifySort$Axiom" (26 : Nat) ({ cls := "java/lang/Integer", name := "bitCount", desc := "(I)I" } : Jvm.MethodName)) ∈ lw_all := lw_g (lw_at lw_m12 24 rfl) rfl
theorem q3143 : (Jvm.Cond.static ({ cls := "java/lang/Integer", name := "bitCount", desc := "(I)I" } : Jvm.MethodName)) ∈ lw_all := lw_g (lw_at lw_m12 25 rfl) rfl
theorem q3144 : (Jvm.Cond.code ({ cls := "java/lang/Integer", name := "bitCount", desc := "(I)I" } : Jvm.MethodName) prog_103_method_49_code (1 : Nat) (Option.some Jvm.ClassFile.FieldType.int)) ∈ lw_all := lw_g (lw_at lw_m12 26 rfl) rfl
theorem q3145 : (Jvm.Cond.constant "java/lang/Integer" (265 : Nat) (1431655765 : Int32)) ∈ lw_all := lw_g (lw_at lw_m12 27 rfl) rfl
theorem q3146 : (Jvm.Cond.constant "java/lang/Integer" (266 : Nat) (858993459 : Int32)) ∈ lw_all := lw_g (lw_at lw_m12 28 rfl) rfl
theorem q3147 : (Jvm.Cond.constant "java/lang/Integer" (267 : Nat) (252645135 : Int32)) ∈ lw_all := lw_g (lw_at lw_m12 29 rfl) rfl
theorem q3148 : (Jvm.Cond.methodLink "KnowHouse$ClassifySort" (46 : Nat) ({ cls := "java/lang/Integer", name := "numberOfTrailingZeros", desc := "(I)I" } : Jvm.MethodName)) ∈ lw_all := lw_g (lw_at lw_m12 30 rfl) rfl
theorem q3152 : (Jvm.Cond.methodLink "KnowHouse$ClassifySort" (125 : Nat) ({ cls := "KnowHouse$ClassifySort", name := "turn", desc := "()V" } : Jvm.MethodName)) ∈ lw_all := lw_g (lw_at lw_m12 34 rfl) rfl
theorem q3154 : (Jvm.Cond.instanceMethod ({ cls := "KnowHouse$ClassifySort", name := "turn", desc := "()V" } : Jvm.MethodName)) ∈ lw_all := lw_g (lw_at lw_m12 36 rfl) rfl
theorem q3155 : (Jvm.Cond.code ({ cls := "KnowHouse$ClassifySort", name := "turn", desc := "()V" } : Jvm.MethodName) prog_7_method_17_code (3 : Nat) (Option.none : Option Jvm.ClassFile.FieldType)) ∈ lw_all := lw_g (lw_at lw_m12 37 rfl) rfl
theorem q3235 : (Jvm.Cond.methodLink "KnowHouse$ClassifySort" (182 : Nat) ({ cls := "KnowHouse$ClassifySort", name := "isThing", desc := "(I)Z" } : Jvm.MethodName)) ∈ lw_all := lw_g (lw_at lw_m12 117 rfl) rfl
theorem q3237 : (Jvm.Cond.instanceMethod ({ cls := "KnowHouse$ClassifySort", name := "isThing", desc := "(I)Z" } : Jvm.MethodName)) ∈ lw_all := lw_g (lw_at lw_m12 119 rfl) rfl
theorem q3238 : (Jvm.Cond.code ({ cls := "KnowHouse$ClassifySort", name := "isThing", desc := "(I)Z" } : Jvm.MethodName) prog_7_method_38_code (2 : Nat) (Option.some Jvm.ClassFile.FieldType.boolean)) ∈ lw_all := lw_g (lw_at lw_m12 120 rfl) rfl
theorem q3262 : (Jvm.Cond.methodLink "KnowHouse$ClassifySort" (151 : Nat) ({ cls := "KnowHouse$ClassifySort", name := "isBelow", desc := "(II)Z" } : Jvm.MethodName)) ∈ lw_all := lw_g (lw_at lw_m12 144 rfl) rfl
theorem q3264 : (Jvm.Cond.instanceMethod ({ cls := "KnowHouse$ClassifySort", name := "isBelow", desc := "(II)Z" } : Jvm.MethodName)) ∈ lw_all := lw_g (lw_at lw_m12 146 rfl) rfl
theorem q3265 : (Jvm.Cond.code ({ cls := "KnowHouse$ClassifySort", name := "isBelow", desc := "(II)Z" } : Jvm.MethodName) prog_7_method_22_code (4 : Nat) (Option.some Jvm.ClassFile.FieldType.boolean)) ∈ lw_all := lw_g (lw_at lw_m12 147 rfl) rfl
theorem q3266 : (Jvm.Cond.methodLink "KnowHouse$ClassifySort" (128 : Nat) ({ cls := "KnowHouse$ClassifySort", name := "state", desc := "(II)I" } : Jvm.MethodName)) ∈ lw_all := lw_g (lw_at lw_m12 148 rfl) rfl
theorem q3268 : (Jvm.Cond.instanceMethod ({ cls := "KnowHouse$ClassifySort", name := "state", desc := "(II)I" } : Jvm.MethodName)) ∈ lw_all := lw_g (lw_at lw_m12 150 rfl) rfl
theorem q3269 : (Jvm.Cond.code ({ cls := "KnowHouse$ClassifySort", name := "state", desc := "(II)I" } : Jvm.MethodName) prog_7_method_19_code (3 : Nat) (Option.some Jvm.ClassFile.FieldType.int)) ∈ lw_all := lw_g (lw_at lw_m12 151 rfl) rfl
theorem q3270 : (Jvm.Cond.methodLink "KnowHouse$ClassifySort" (132 : Nat) ({ cls := "KnowHouse$ClassifySort$Reasoner", name := "answer", desc := "(II)I" } : Jvm.MethodName)) ∈ lw_all := lw_g (lw_at lw_m12 152 rfl) rfl
theorem q3271 : (Jvm.Cond.instanceMethod ({ cls := "KnowHouse$ClassifySort$Reasoner", name := "answer", desc := "(II)I" } : Jvm.MethodName)) ∈ lw_all := lw_g (lw_at lw_m12 153 rfl) rfl
theorem q3272 : (Jvm.Cond.selects "KnowHouse$ClassifySort$Reasoner" ({ cls := "KnowHouse$ClassifySort$Reasoner", name := "answer", desc := "(II)I" } : Jvm.MethodName) ({ cls := "KnowHouse$ClassifySort$Reasoner", name := "answer", desc := "(II)I" } : Jvm.MethodName)) ∈ lw_all := lw_g (lw_at lw_m12 154 rfl) rfl
theorem q3273 : (Jvm.Cond.code ({ cls := "KnowHouse$ClassifySort$Reasoner", name := "answer", desc := "(II)I" } : Jvm.MethodName) prog_9_method_2_code (4 : Nat) (Option.some Jvm.ClassFile.FieldType.int)) ∈ lw_all := lw_g (lw_at lw_m12 155 rfl) rfl
theorem q3274 : (Jvm.Cond.methodLinkNest "KnowHouse$ClassifySort$Reasoner" (26 : Nat) ({ cls := "KnowHouse$ClassifySort", name := "has", desc := "(II)Z" } : Jvm.MethodName) "KnowHouse") ∈ lw_tbl := lw_at lw_m12 156 rfl
theorem q3275 : (Jvm.Cond.methodLink "KnowHouse$ClassifySort$Reasoner" (30 : Nat) ({ cls := "KnowHouse$ClassifySort$Reasoner", name := "next", desc := "()I" } : Jvm.MethodName)) ∈ lw_all := lw_g (lw_at lw_m12 157 rfl) rfl
theorem q3277 : (Jvm.Cond.instanceMethod ({ cls := "KnowHouse$ClassifySort$Reasoner", name := "next", desc := "()I" } : Jvm.MethodName)) ∈ lw_all := lw_g (lw_at lw_m12 159 rfl) rfl
theorem q3278 : (Jvm.Cond.code ({ cls := "KnowHouse$ClassifySort$Reasoner", name := "next", desc := "()I" } : Jvm.MethodName) prog_9_method_3_code (2 : Nat) (Option.some Jvm.ClassFile.FieldType.int)) ∈ lw_all := lw_g (lw_at lw_m12 160 rfl) rfl
theorem q3279 : (Jvm.Cond.methodLink "KnowHouse$ClassifySort$Reasoner" (52 : Nat) ({ cls := "java/util/ArrayList", name := "size", desc := "()I" } : Jvm.MethodName)) ∈ lw_all := lw_g (lw_at lw_m12 161 rfl) rfl
theorem q3280 : (Jvm.Cond.methodLink "KnowHouse$ClassifySort$Reasoner" (41 : Nat) ({ cls := "java/util/ArrayList", name := "get", desc := "(I)Ljava/lang/Object;" } : Jvm.MethodName)) ∈ lw_all := lw_g (lw_at lw_m12 162 rfl) rfl
theorem q3281 : (Jvm.Cond.classLink "KnowHouse$ClassifySort$Reasoner" (47 : Nat) "KnowHouse$ClassifySort$Axiom") ∈ lw_all := lw_g (lw_at lw_m12 163 rfl) rfl
theorem q3282 : (Jvm.Cond.methodLink "KnowHouse$ClassifySort$Reasoner" (55 : Nat) ({ cls := "KnowHouse$ClassifySort$Axiom", name := "canFire", desc := "(I)Z" } : Jvm.MethodName)) ∈ lw_all := lw_g (lw_at lw_m12 164 rfl) rfl
theorem q3283 : (Jvm.Cond.instanceMethod ({ cls := "KnowHouse$ClassifySort$Axiom", name := "canFire", desc := "(I)Z" } : Jvm.MethodName)) ∈ lw_all := lw_g (lw_at lw_m12 165 rfl) rfl
theorem q3284 : (Jvm.Cond.selects "KnowHouse$ClassifySort$Axiom" ({ cls := "KnowHouse$ClassifySort$Axiom", name := "canFire", desc := "(I)Z" } : Jvm.MethodName) ({ cls := "KnowHouse$ClassifySort$Axiom", name := "canFire", desc := "(I)Z" } : Jvm.MethodName)) ∈ lw_all := lw_g (lw_at lw_m12 166 rfl) rfl
theorem q3285 : (Jvm.Cond.code ({ cls := "KnowHouse$ClassifySort$Axiom", name := "canFire", desc := "(I)Z" } : Jvm.MethodName) prog_8_method_2_code (2 : Nat) (Option.some Jvm.ClassFile.FieldType.boolean)) ∈ lw_all := lw_g (lw_at lw_m12 167 rfl) rfl
theorem q3286 : (Jvm.Cond.methodLinkNest "KnowHouse$ClassifySort$Axiom" (20 : Nat) ({ cls := "KnowHouse$ClassifySort", name := "has", desc := "(II)Z" } : Jvm.MethodName) "KnowHouse") ∈ lw_tbl := lw_at lw_m12 168 rfl
theorem q3287 : (Jvm.Cond.methodLink "KnowHouse$ClassifySort" (166 : Nat) ({ cls := "KnowHouse$ClassifySort", name := "place", desc := "(I)V" } : Jvm.MethodName)) ∈ lw_all := lw_g (lw_at lw_m12 169 rfl) rfl
theorem q3289 : (Jvm.Cond.instanceMethod ({ cls := "KnowHouse$ClassifySort", name := "place", desc := "(I)V" } : Jvm.MethodName)) ∈ lw_all := lw_g (lw_at lw_m12 171 rfl) rfl
theorem q3290 : (Jvm.Cond.code ({ cls := "KnowHouse$ClassifySort", name := "place", desc := "(I)V" } : Jvm.MethodName) prog_7_method_27_code (4 : Nat) (Option.none : Option Jvm.ClassFile.FieldType)) ∈ lw_all := lw_g (lw_at lw_m12 172 rfl) rfl
theorem q3291 : (Jvm.Cond.methodLink "KnowHouse$ClassifySort" (148 : Nat) ({ cls := "KnowHouse$ClassifySort", name := "nextDown", desc := "(II)I" } : Jvm.MethodName)) ∈ lw_all := lw_g (lw_at lw_m12 173 rfl) rfl
theorem q3293 : (Jvm.Cond.instanceMethod ({ cls := "KnowHouse$ClassifySort", name := "nextDown", desc := "(II)I" } : Jvm.MethodName)) ∈ lw_all := lw_g (lw_at lw_m12 175 rfl) rfl
theorem q3294 : (Jvm.Cond.code ({ cls := "KnowHouse$ClassifySort", name := "nextDown", desc := "(II)I" } : Jvm.MethodName) prog_7_method_28_code (4 : Nat) (Option.some Jvm.ClassFile.FieldType.int)) ∈ lw_all := lw_g (lw_at lw_m12 176 rfl) rfl
theorem q3295 : (Jvm.Cond.methodLink "KnowHouse$ClassifySort" (157 : Nat) ({ cls := "KnowHouse$ClassifySort", name := "directlyAbove", desc := "(I)I" } : Jvm.MethodName)) ∈ lw_all := lw_g (lw_at lw_m12 177 rfl) rfl
theorem q3297 : (Jvm.Cond.instanceMethod ({ cls := "KnowHouse$ClassifySort", name := "directlyAbove", desc := "(I)I" } : Jvm.MethodName)) ∈ lw_all := lw_g (lw_at lw_m12 179 rfl) rfl
theorem q3298 : (Jvm.Cond.code ({ cls := "KnowHouse$ClassifySort", name := "directlyAbove", desc := "(I)I" } : Jvm.MethodName) prog_7_method_25_code (2 : Nat) (Option.some Jvm.ClassFile.FieldType.int)) ∈ lw_all := lw_g (lw_at lw_m12 180 rfl) rfl
theorem q3299 : (Jvm.Cond.methodLink "KnowHouse$ClassifySort" (138 : Nat) ({ cls := "KnowHouse$ClassifySort", name := "same", desc := "(I)I" } : Jvm.MethodName)) ∈ lw_all := lw_g (lw_at lw_m12 181 rfl) rfl
theorem q3301 : (Jvm.Cond.instanceMethod ({ cls := "KnowHouse$ClassifySort", name := "same", desc := "(I)I" } : Jvm.MethodName)) ∈ lw_all := lw_g (lw_at lw_m12 183 rfl) rfl
theorem q3302 : (Jvm.Cond.code ({ cls := "KnowHouse$ClassifySort", name := "same", desc := "(I)I" } : Jvm.MethodName) prog_7_method_23_code (2 : Nat) (Option.some Jvm.ClassFile.FieldType.int)) ∈ lw_all := lw_g (lw_at lw_m12 184 rfl) rfl
theorem q3303 : (Jvm.Cond.methodLink "KnowHouse$ClassifySort" (144 : Nat) ({ cls := "KnowHouse$ClassifySort", name := "ends", desc := "(IZ)I" } : Jvm.MethodName)) ∈ lw_all := lw_g (lw_at lw_m12 185 rfl) rfl
theorem q3305 : (Jvm.Cond.instanceMethod ({ cls := "KnowHouse$ClassifySort", name := "ends", desc := "(IZ)I" } : Jvm.MethodName)) ∈ lw_all := lw_g (lw_at lw_m12 187 rfl) rfl
theorem q3306 : (Jvm.Cond.code ({ cls := "KnowHouse$ClassifySort", name := "ends", desc := "(IZ)I" } : Jvm.MethodName) prog_7_method_24_code (6 : Nat) (Option.some Jvm.ClassFile.FieldType.int)) ∈ lw_all := lw_g (lw_at lw_m12 188 rfl) rfl
theorem q3307 : (Jvm.Cond.methodLink "KnowHouse$ClassifySort" (154 : Nat) ({ cls := "KnowHouse$ClassifySort", name := "nextUp", desc := "(II)I" } : Jvm.MethodName)) ∈ lw_all := lw_g (lw_at lw_m12 189 rfl) rfl
theorem q3309 : (Jvm.Cond.instanceMethod ({ cls := "KnowHouse$ClassifySort", name := "nextUp", desc := "(II)I" } : Jvm.MethodName)) ∈ lw_all := lw_g (lw_at lw_m12 191 rfl) rfl
theorem q3310 : (Jvm.Cond.code ({ cls := "KnowHouse$ClassifySort", name := "nextUp", desc := "(II)I" } : Jvm.MethodName) prog_7_method_29_code (6 : Nat) (Option.some Jvm.ClassFile.FieldType.int)) ∈ lw_all := lw_g (lw_at lw_m12 192 rfl) rfl
theorem q3311 : (Jvm.Cond.methodLink "KnowHouse$ClassifySort" (160 : Nat) ({ cls := "KnowHouse$ClassifySort", name := "directlyBelow", desc := "(I)I" } : Jvm.MethodName)) ∈ lw_all := lw_g (lw_at lw_m12 193 rfl) rfl
theorem q3313 : (Jvm.Cond.instanceMethod ({ cls := "KnowHouse$ClassifySort", name := "directlyBelow", desc := "(I)I" } : Jvm.MethodName)) ∈ lw_all := lw_g (lw_at lw_m12 195 rfl) rfl
theorem q3314 : (Jvm.Cond.code ({ cls := "KnowHouse$ClassifySort", name := "directlyBelow", desc := "(I)I" } : Jvm.MethodName) prog_7_method_26_code (2 : Nat) (Option.some Jvm.ClassFile.FieldType.int)) ∈ lw_all := lw_g (lw_at lw_m12 196 rfl) rfl
theorem q3319 : (Jvm.Cond.methodLink "KnowHouse$ClassifySort" (191 : Nat) ({ cls := "KnowHouse$ClassifySort", name := "standing", desc := "()I" } : Jvm.MethodName)) ∈ lw_all := lw_g (lw_at lw_m12 201 rfl) rfl
theorem q3321 : (Jvm.Cond.instanceMethod ({ cls := "KnowHouse$ClassifySort", name := "standing", desc := "()I" } : Jvm.MethodName)) ∈ lw_all := lw_g (lw_at lw_m12 203 rfl) rfl
theorem q3322 : (Jvm.Cond.code ({ cls := "KnowHouse$ClassifySort", name := "standing", desc := "()I" } : Jvm.MethodName) prog_7_method_42_code (3 : Nat) (Option.some Jvm.ClassFile.FieldType.int)) ∈ lw_all := lw_g (lw_at lw_m12 204 rfl) rfl
theorem q3323 : (Jvm.Cond.methodLink "KnowHouse$ClassifySort" (106 : Nat) ({ cls := "KnowHouse$ClassifySort", name := "openPairs", desc := "()I" } : Jvm.MethodName)) ∈ lw_all := lw_g (lw_at lw_m12 205 rfl) rfl
theorem q3325 : (Jvm.Cond.instanceMethod ({ cls := "KnowHouse$ClassifySort", name := "openPairs", desc := "()I" } : Jvm.MethodName)) ∈ lw_all := lw_g (lw_at lw_m12 207 rfl) rfl
theorem q3326 : (Jvm.Cond.code ({ cls := "KnowHouse$ClassifySort", name := "openPairs", desc := "()I" } : Jvm.MethodName) prog_7_method_16_code (3 : Nat) (Option.some Jvm.ClassFile.FieldType.int)) ∈ lw_all := lw_g (lw_at lw_m12 208 rfl) rfl
theorem q3327 : (Jvm.Cond.methodLink "KnowHouse$ClassifySort" (118 : Nat) ({ cls := "java/lang/Integer", name := "bitCount", desc := "(I)I" } : Jvm.MethodName)) ∈ lw_all := lw_g (lw_at lw_m12 209 rfl) rfl
theorem q3332 : (Jvm.Cond.methodLink "KnowHouse$ClassifySort" (170 : Nat) ({ cls := "KnowHouse$ClassifySort", name := "refusal", desc := "(I)I" } : Jvm.MethodName)) ∈ lw_all := lw_g (lw_at lw_m12 214 rfl) rfl
theorem q3334 : (Jvm.Cond.instanceMethod ({ cls := "KnowHouse$ClassifySort", name := "refusal", desc := "(I)I" } : Jvm.MethodName)) ∈ lw_all := lw_g (lw_at lw_m12 216 rfl) rfl
theorem q3335 : (Jvm.Cond.code ({ cls := "KnowHouse$ClassifySort", name := "refusal", desc := "(I)I" } : Jvm.MethodName) prog_7_method_32_code (2 : Nat) (Option.some Jvm.ClassFile.FieldType.int)) ∈ lw_all := lw_g (lw_at lw_m12 217 rfl) rfl
theorem q3336 : (Jvm.Cond.methodLink "KnowHouse$ClassifySort" (173 : Nat) ({ cls := "KnowHouse$ClassifySort", name := "firsts", desc := "(I)I" } : Jvm.MethodName)) ∈ lw_all := lw_g (lw_at lw_m12 218 rfl) rfl
theorem q3338 : (Jvm.Cond.instanceMethod ({ cls := "KnowHouse$ClassifySort", name := "firsts", desc := "(I)I" } : Jvm.MethodName)) ∈ lw_all := lw_g (lw_at lw_m12 220 rfl) rfl
theorem q3339 : (Jvm.Cond.code ({ cls := "KnowHouse$ClassifySort", name := "firsts", desc := "(I)I" } : Jvm.MethodName) prog_7_method_31_code (4 : Nat) (Option.some Jvm.ClassFile.FieldType.int)) ∈ lw_all := lw_g (lw_at lw_m12 221 rfl) rfl
theorem q3340 : (Jvm.Cond.methodLink "KnowHouse$ClassifySort" (176 : Nat) ({ cls := "KnowHouse$ClassifySort", name := "of", desc := "(II)I" } : Jvm.MethodName)) ∈ lw_all := lw_g (lw_at lw_m12 222 rfl) rfl
theorem q3341 : (Jvm.Cond.static ({ cls := "KnowHouse$ClassifySort", name := "of", desc := "(II)I" } : Jvm.MethodName)) ∈ lw_all := lw_g (lw_at lw_m12 223 rfl) rfl
theorem q3342 : (Jvm.Cond.code ({ cls := "KnowHouse$ClassifySort", name := "of", desc := "(II)I" } : Jvm.MethodName) prog_7_method_3_code (4 : Nat) (Option.some Jvm.ClassFile.FieldType.int)) ∈ lw_all := lw_g (lw_at lw_m12 224 rfl) rfl
theorem q5114 : (Jvm.Cond.methodLink "KnowHouse$ClassifySort" (103 : Nat) ({ cls := "KnowHouse$ClassifySort", name := "said", desc := "()I" } : Jvm.MethodName)) ∈ lw_all := lw_g (lw_at lw_m20 76 rfl) rfl
theorem q5116 : (Jvm.Cond.instanceMethod ({ cls := "KnowHouse$ClassifySort", name := "said", desc := "()I" } : Jvm.MethodName)) ∈ lw_all := lw_g (lw_at lw_m20 78 rfl) rfl
theorem q5117 : (Jvm.Cond.code ({ cls := "KnowHouse$ClassifySort", name := "said", desc := "()I" } : Jvm.MethodName) prog_7_method_15_code (3 : Nat) (Option.some Jvm.ClassFile.FieldType.int)) ∈ lw_all := lw_g (lw_at lw_m20 79 rfl) rfl
theorem q5138 : (Jvm.Cond.methodLink "KnowHouse$ClassifySort" (179 : Nat) ({ cls := "KnowHouse$ClassifySort", name := "all", desc := "()I" } : Jvm.MethodName)) ∈ lw_all := lw_g (lw_at lw_m20 100 rfl) rfl
theorem q5140 : (Jvm.Cond.instanceMethod ({ cls := "KnowHouse$ClassifySort", name := "all", desc := "()I" } : Jvm.MethodName)) ∈ lw_all := lw_g (lw_at lw_m20 102 rfl) rfl
theorem q5141 : (Jvm.Cond.code ({ cls := "KnowHouse$ClassifySort", name := "all", desc := "()I" } : Jvm.MethodName) prog_7_method_7_code (1 : Nat) (Option.some Jvm.ClassFile.FieldType.int)) ∈ lw_all := lw_g (lw_at lw_m20 103 rfl) rfl
theorem q5158 : (Jvm.Cond.methodLink "KnowHouse$ClassifySort" (185 : Nat) ({ cls := "KnowHouse$ClassifySort$Reasoner", name := "needed", desc := "()I" } : Jvm.MethodName)) ∈ lw_all := lw_g (lw_at lw_m20 120 rfl) rfl
theorem q5159 : (Jvm.Cond.instanceMethod ({ cls := "KnowHouse$ClassifySort$Reasoner", name := "needed", desc := "()I" } : Jvm.MethodName)) ∈ lw_all := lw_g (lw_at lw_m20 121 rfl) rfl
theorem q5160 : (Jvm.Cond.selects "KnowHouse$ClassifySort$Reasoner" ({ cls := "KnowHouse$ClassifySort$Reasoner", name := "needed", desc := "()I" } : Jvm.MethodName) ({ cls := "KnowHouse$ClassifySort$Reasoner", name := "needed", desc := "()I" } : Jvm.MethodName)) ∈ lw_all := lw_g (lw_at lw_m20 122 rfl) rfl
theorem q5161 : (Jvm.Cond.code ({ cls := "KnowHouse$ClassifySort$Reasoner", name := "needed", desc := "()I" } : Jvm.MethodName) prog_9_method_4_code (5 : Nat) (Option.some Jvm.ClassFile.FieldType.int)) ∈ lw_all := lw_g (lw_at lw_m20 123 rfl) rfl
theorem q9092 : (Jvm.Cond.castable "KnowHouse$ClassifySort$Axiom" "java/lang/Object") ∈ lw_tbl := lw_at lw_m36 214 rfl
theorem hCSJ0_init : yJ0_init.cls ≠ "java/lang/invoke/MethodHandle" ∧ yJ0_init.cls ≠ "java/lang/invoke/VarHandle" ∧ (parseMethodDescriptor yJ0_init.desc).map (fun d => d.parameters.length) = some 0 := by decide +kernel
theorem hCSJ1_init : yJ1_init.cls ≠ "java/lang/invoke/MethodHandle" ∧ yJ1_init.cls ≠ "java/lang/invoke/VarHandle" ∧ (parseMethodDescriptor yJ1_init.desc).map (fun d => d.parameters.length) = some 0 := by decide +kernel
theorem hCSJ2_init : yJ2_init.cls ≠ "java/lang/invoke/MethodHandle" ∧ yJ2_init.cls ≠ "java/lang/invoke/VarHandle" ∧ (parseMethodDescriptor yJ2_init.desc).map (fun d => d.parameters.length) = some 0 := by decide +kernel
theorem hCSX30_init : yX30_init.cls ≠ "java/lang/invoke/MethodHandle" ∧ yX30_init.cls ≠ "java/lang/invoke/VarHandle" ∧ (parseMethodDescriptor yX30_init.desc).map (fun d => d.parameters.length) = some 1 := by decide +kernel
theorem hCSX29_isClass : yX29_isClass.cls ≠ "java/lang/invoke/MethodHandle" ∧ yX29_isClass.cls ≠ "java/lang/invoke/VarHandle" ∧ (parseMethodDescriptor yX29_isClass.desc).map (fun d => d.parameters.length) = some 1 := by decide +kernel
theorem hCSJ13_hugeLength : yJ13_hugeLength.cls ≠ "java/lang/invoke/MethodHandle" ∧ yJ13_hugeLength.cls ≠ "java/lang/invoke/VarHandle" ∧ (parseMethodDescriptor yJ13_hugeLength.desc).map (fun d => d.parameters.length) = some 2 := by decide +kernel
theorem hCSJ12_copyOf_2 : yJ12_copyOf_2.cls ≠ "java/lang/invoke/MethodHandle" ∧ yJ12_copyOf_2.cls ≠ "java/lang/invoke/VarHandle" ∧ (parseMethodDescriptor yJ12_copyOf_2.desc).map (fun d => d.parameters.length) = some 3 := by decide +kernel
theorem hCSJ13_newLength : yJ13_newLength.cls ≠ "java/lang/invoke/MethodHandle" ∧ yJ13_newLength.cls ≠ "java/lang/invoke/VarHandle" ∧ (parseMethodDescriptor yJ13_newLength.desc).map (fun d => d.parameters.length) = some 3 := by decide +kernel
theorem hCSJ12_copyOf : yJ12_copyOf.cls ≠ "java/lang/invoke/MethodHandle" ∧ yJ12_copyOf.cls ≠ "java/lang/invoke/VarHandle" ∧ (parseMethodDescriptor yJ12_copyOf.desc).map (fun d => d.parameters.length) = some 2 := by decide +kernel
theorem hCSJ2_grow_2 : yJ2_grow_2.cls ≠ "java/lang/invoke/MethodHandle" ∧ yJ2_grow_2.cls ≠ "java/lang/invoke/VarHandle" ∧ (parseMethodDescriptor yJ2_grow_2.desc).map (fun d => d.parameters.length) = some 1 := by decide +kernel
theorem hCSJ2_grow : yJ2_grow.cls ≠ "java/lang/invoke/MethodHandle" ∧ yJ2_grow.cls ≠ "java/lang/invoke/VarHandle" ∧ (parseMethodDescriptor yJ2_grow.desc).map (fun d => d.parameters.length) = some 0 := by decide +kernel
theorem hCSJ2_add_2 : yJ2_add_2.cls ≠ "java/lang/invoke/MethodHandle" ∧ yJ2_add_2.cls ≠ "java/lang/invoke/VarHandle" ∧ (parseMethodDescriptor yJ2_add_2.desc).map (fun d => d.parameters.length) = some 3 := by decide +kernel
theorem hCSJ15_checkIndex : yJ15_checkIndex.cls ≠ "java/lang/invoke/MethodHandle" ∧ yJ15_checkIndex.cls ≠ "java/lang/invoke/VarHandle" ∧ (parseMethodDescriptor yJ15_checkIndex.desc).map (fun d => d.parameters.length) = some 3 := by decide +kernel
theorem hCSJ14_checkIndex : yJ14_checkIndex.cls ≠ "java/lang/invoke/MethodHandle" ∧ yJ14_checkIndex.cls ≠ "java/lang/invoke/VarHandle" ∧ (parseMethodDescriptor yJ14_checkIndex.desc).map (fun d => d.parameters.length) = some 2 := by decide +kernel
theorem hCSJ2_elementData : yJ2_elementData.cls ≠ "java/lang/invoke/MethodHandle" ∧ yJ2_elementData.cls ≠ "java/lang/invoke/VarHandle" ∧ (parseMethodDescriptor yJ2_elementData.desc).map (fun d => d.parameters.length) = some 1 := by decide +kernel
theorem hCSJ2_size : yJ2_size.cls ≠ "java/lang/invoke/MethodHandle" ∧ yJ2_size.cls ≠ "java/lang/invoke/VarHandle" ∧ (parseMethodDescriptor yJ2_size.desc).map (fun d => d.parameters.length) = some 0 := by decide +kernel
theorem hCSJ2_get : yJ2_get.cls ≠ "java/lang/invoke/MethodHandle" ∧ yJ2_get.cls ≠ "java/lang/invoke/VarHandle" ∧ (parseMethodDescriptor yJ2_get.desc).map (fun d => d.parameters.length) = some 1 := by decide +kernel
theorem hCSX29_module : yX29_module.cls ≠ "java/lang/invoke/MethodHandle" ∧ yX29_module.cls ≠ "java/lang/invoke/VarHandle" ∧ (parseMethodDescriptor yX29_module.desc).map (fun d => d.parameters.length) = some 1 := by decide +kernel
theorem hCSJ3_bitCount : yJ3_bitCount.cls ≠ "java/lang/invoke/MethodHandle" ∧ yJ3_bitCount.cls ≠ "java/lang/invoke/VarHandle" ∧ (parseMethodDescriptor yJ3_bitCount.desc).map (fun d => d.parameters.length) = some 1 := by decide +kernel
theorem hCSX29_has : yX29_has.cls ≠ "java/lang/invoke/MethodHandle" ∧ yX29_has.cls ≠ "java/lang/invoke/VarHandle" ∧ (parseMethodDescriptor yX29_has.desc).map (fun d => d.parameters.length) = some 2 := by decide +kernel
theorem hCSX61_isTold : yX61_isTold.cls ≠ "java/lang/invoke/MethodHandle" ∧ yX61_isTold.cls ≠ "java/lang/invoke/VarHandle" ∧ (parseMethodDescriptor yX61_isTold.desc).map (fun d => d.parameters.length) = some 0 := by decide +kernel
theorem hCSJ3_numberOfTrailingZeros : yJ3_numberOfTrailingZeros.cls ≠ "java/lang/invoke/MethodHandle" ∧ yJ3_numberOfTrailingZeros.cls ≠ "java/lang/invoke/VarHandle" ∧ (parseMethodDescriptor yJ3_numberOfTrailingZeros.desc).map (fun d => d.parameters.length) = some 1 := by decide +kernel
theorem hCSX29_turn : yX29_turn.cls ≠ "java/lang/invoke/MethodHandle" ∧ yX29_turn.cls ≠ "java/lang/invoke/VarHandle" ∧ (parseMethodDescriptor yX29_turn.desc).map (fun d => d.parameters.length) = some 0 := by decide +kernel
theorem hCSX29_isGoal : yX29_isGoal.cls ≠ "java/lang/invoke/MethodHandle" ∧ yX29_isGoal.cls ≠ "java/lang/invoke/VarHandle" ∧ (parseMethodDescriptor yX29_isGoal.desc).map (fun d => d.parameters.length) = some 1 := by decide +kernel
theorem hCSX29_goal : yX29_goal.cls ≠ "java/lang/invoke/MethodHandle" ∧ yX29_goal.cls ≠ "java/lang/invoke/VarHandle" ∧ (parseMethodDescriptor yX29_goal.desc).map (fun d => d.parameters.length) = some 1 := by decide +kernel
theorem hCSX61_init : yX61_init.cls ≠ "java/lang/invoke/MethodHandle" ∧ yX61_init.cls ≠ "java/lang/invoke/VarHandle" ∧ (parseMethodDescriptor yX61_init.desc).map (fun d => d.parameters.length) = some 2 := by decide +kernel
theorem hCSJ2_add : yJ2_add.cls ≠ "java/lang/invoke/MethodHandle" ∧ yJ2_add.cls ≠ "java/lang/invoke/VarHandle" ∧ (parseMethodDescriptor yJ2_add.desc).map (fun d => d.parameters.length) = some 1 := by decide +kernel
theorem hCSX29_touched : yX29_touched.cls ≠ "java/lang/invoke/MethodHandle" ∧ yX29_touched.cls ≠ "java/lang/invoke/VarHandle" ∧ (parseMethodDescriptor yX29_touched.desc).map (fun d => d.parameters.length) = some 1 := by decide +kernel
theorem hCSX29_close : yX29_close.cls ≠ "java/lang/invoke/MethodHandle" ∧ yX29_close.cls ≠ "java/lang/invoke/VarHandle" ∧ (parseMethodDescriptor yX29_close.desc).map (fun d => d.parameters.length) = some 0 := by decide +kernel
theorem hCSX29_isThing : yX29_isThing.cls ≠ "java/lang/invoke/MethodHandle" ∧ yX29_isThing.cls ≠ "java/lang/invoke/VarHandle" ∧ (parseMethodDescriptor yX29_isThing.desc).map (fun d => d.parameters.length) = some 1 := by decide +kernel
theorem hCSX61_canFire : yX61_canFire.cls ≠ "java/lang/invoke/MethodHandle" ∧ yX61_canFire.cls ≠ "java/lang/invoke/VarHandle" ∧ (parseMethodDescriptor yX61_canFire.desc).map (fun d => d.parameters.length) = some 1 := by decide +kernel
theorem hCSX30_next : yX30_next.cls ≠ "java/lang/invoke/MethodHandle" ∧ yX30_next.cls ≠ "java/lang/invoke/VarHandle" ∧ (parseMethodDescriptor yX30_next.desc).map (fun d => d.parameters.length) = some 0 := by decide +kernel
theorem hCSX29_state : yX29_state.cls ≠ "java/lang/invoke/MethodHandle" ∧ yX29_state.cls ≠ "java/lang/invoke/VarHandle" ∧ (parseMethodDescriptor yX29_state.desc).map (fun d => d.parameters.length) = some 2 := by decide +kernel
theorem hCSX30_answer : yX30_answer.cls ≠ "java/lang/invoke/MethodHandle" ∧ yX30_answer.cls ≠ "java/lang/invoke/VarHandle" ∧ (parseMethodDescriptor yX30_answer.desc).map (fun d => d.parameters.length) = some 2 := by decide +kernel
theorem hCSX29_same : yX29_same.cls ≠ "java/lang/invoke/MethodHandle" ∧ yX29_same.cls ≠ "java/lang/invoke/VarHandle" ∧ (parseMethodDescriptor yX29_same.desc).map (fun d => d.parameters.length) = some 1 := by decide +kernel
theorem hCSX29_ends : yX29_ends.cls ≠ "java/lang/invoke/MethodHandle" ∧ yX29_ends.cls ≠ "java/lang/invoke/VarHandle" ∧ (parseMethodDescriptor yX29_ends.desc).map (fun d => d.parameters.length) = some 2 := by decide +kernel
theorem hCSX29_directlyAbove : yX29_directlyAbove.cls ≠ "java/lang/invoke/MethodHandle" ∧ yX29_directlyAbove.cls ≠ "java/lang/invoke/VarHandle" ∧ (parseMethodDescriptor yX29_directlyAbove.desc).map (fun d => d.parameters.length) = some 1 := by decide +kernel
theorem hCSX29_directlyBelow : yX29_directlyBelow.cls ≠ "java/lang/invoke/MethodHandle" ∧ yX29_directlyBelow.cls ≠ "java/lang/invoke/VarHandle" ∧ (parseMethodDescriptor yX29_directlyBelow.desc).map (fun d => d.parameters.length) = some 1 := by decide +kernel
theorem hCSX29_nextDown : yX29_nextDown.cls ≠ "java/lang/invoke/MethodHandle" ∧ yX29_nextDown.cls ≠ "java/lang/invoke/VarHandle" ∧ (parseMethodDescriptor yX29_nextDown.desc).map (fun d => d.parameters.length) = some 2 := by decide +kernel
theorem hCSX29_isBelow : yX29_isBelow.cls ≠ "java/lang/invoke/MethodHandle" ∧ yX29_isBelow.cls ≠ "java/lang/invoke/VarHandle" ∧ (parseMethodDescriptor yX29_isBelow.desc).map (fun d => d.parameters.length) = some 2 := by decide +kernel
theorem hCSX29_nextUp : yX29_nextUp.cls ≠ "java/lang/invoke/MethodHandle" ∧ yX29_nextUp.cls ≠ "java/lang/invoke/VarHandle" ∧ (parseMethodDescriptor yX29_nextUp.desc).map (fun d => d.parameters.length) = some 2 := by decide +kernel
theorem hCSX29_place : yX29_place.cls ≠ "java/lang/invoke/MethodHandle" ∧ yX29_place.cls ≠ "java/lang/invoke/VarHandle" ∧ (parseMethodDescriptor yX29_place.desc).map (fun d => d.parameters.length) = some 1 := by decide +kernel
theorem hCSX29_standing : yX29_standing.cls ≠ "java/lang/invoke/MethodHandle" ∧ yX29_standing.cls ≠ "java/lang/invoke/VarHandle" ∧ (parseMethodDescriptor yX29_standing.desc).map (fun d => d.parameters.length) = some 0 := by decide +kernel
theorem hCSX29_openPairs : yX29_openPairs.cls ≠ "java/lang/invoke/MethodHandle" ∧ yX29_openPairs.cls ≠ "java/lang/invoke/VarHandle" ∧ (parseMethodDescriptor yX29_openPairs.desc).map (fun d => d.parameters.length) = some 0 := by decide +kernel
theorem hCSX29_refusal : yX29_refusal.cls ≠ "java/lang/invoke/MethodHandle" ∧ yX29_refusal.cls ≠ "java/lang/invoke/VarHandle" ∧ (parseMethodDescriptor yX29_refusal.desc).map (fun d => d.parameters.length) = some 1 := by decide +kernel
theorem hCSX29_firsts : yX29_firsts.cls ≠ "java/lang/invoke/MethodHandle" ∧ yX29_firsts.cls ≠ "java/lang/invoke/VarHandle" ∧ (parseMethodDescriptor yX29_firsts.desc).map (fun d => d.parameters.length) = some 1 := by decide +kernel
theorem hCSX29_of : yX29_of.cls ≠ "java/lang/invoke/MethodHandle" ∧ yX29_of.cls ≠ "java/lang/invoke/VarHandle" ∧ (parseMethodDescriptor yX29_of.desc).map (fun d => d.parameters.length) = some 2 := by decide +kernel
theorem hCSX29_said : yX29_said.cls ≠ "java/lang/invoke/MethodHandle" ∧ yX29_said.cls ≠ "java/lang/invoke/VarHandle" ∧ (parseMethodDescriptor yX29_said.desc).map (fun d => d.parameters.length) = some 0 := by decide +kernel
theorem hCSX29_all : yX29_all.cls ≠ "java/lang/invoke/MethodHandle" ∧ yX29_all.cls ≠ "java/lang/invoke/VarHandle" ∧ (parseMethodDescriptor yX29_all.desc).map (fun d => d.parameters.length) = some 0 := by decide +kernel
theorem hCSX30_needed : yX30_needed.cls ≠ "java/lang/invoke/MethodHandle" ∧ yX30_needed.cls ≠ "java/lang/invoke/VarHandle" ∧ (parseMethodDescriptor yX30_needed.desc).map (fun d => d.parameters.length) = some 0 := by decide +kernel
theorem hCSJ2_fastRemove : yJ2_fastRemove.cls ≠ "java/lang/invoke/MethodHandle" ∧ yJ2_fastRemove.cls ≠ "java/lang/invoke/VarHandle" ∧ (parseMethodDescriptor yJ2_fastRemove.desc).map (fun d => d.parameters.length) = some 2 := by decide +kernel
def kECS (G : kGt) (sa : Nat → Nat) : Prop := ∀ (A : Nat → Prop) (s : State) (H : Heap), G A s H → va_Z "java/util/ArrayList" "DEFAULTCAPACITY_EMPTY_ELEMENTDATA" "[Ljava/lang/Object;" (.ref (sa 0)) A s H ∧ va_Mi "[Ljava/lang/Object;" (sa 10) s ∧ va_T (.object "java/lang/Object") (sa 0) 0 (fun _ => .null) A s H ∧ True
theorem kECS_0 {G : kGt} {sa : Nat → Nat} (h : kECS G sa) {A : Nat → Prop} {s : State} {H : Heap} (g : G A s H) : va_Z "java/util/ArrayList" "DEFAULTCAPACITY_EMPTY_ELEMENTDATA" "[Ljava/lang/Object;" (.ref (sa 0)) A s H := (h A s H g).1
theorem kECS_1 {G : kGt} {sa : Nat → Nat} (h : kECS G sa) {A : Nat → Prop} {s : State} {H : Heap} (g : G A s H) : va_Mi "[Ljava/lang/Object;" (sa 10) s := (h A s H g).2.1
theorem kECS_2 {G : kGt} {sa : Nat → Nat} (h : kECS G sa) {A : Nat → Prop} {s : State} {H : Heap} (g : G A s H) : va_T (.object "java/lang/Object") (sa 0) 0 (fun _ => .null) A s H := (h A s H g).2.2.1
def cCS (ci : Nat → Nat) (d : Nat → ClassId) (kd : Nat → Nat) (an : Nat → Nat) (ai : Nat → Nat → Int32) (al : Nat → Nat → Int64) (ar : Nat → Nat → Option Nat) (mX29_axioms : Nat → Option Nat) (mX29_reasoner : Nat → Option Nat) (mX29_classes : Nat → Int32) (mX29_things : Nat → Option Nat) (mX29_thingCount : Nat → Int32) (mX29_fuel : Nat → Int32) (mX29_above : Nat → Option Nat) (mX29_not : Nat → Option Nat) (mX29_open : Nat → Option Nat) (mX29_under : Nat → Option Nat) (mX29_sorted : Nat → Int32) (mX29_placed : Nat → Int32) (mX29_empties : Nat → Int32) (mX29_asked : Nat → Int32) (mX30_fired : Nat → Option Nat) (mX30_many : Nat → Int32) (mX30_facts : Nat → Int32) (mX30_this_0 : Nat → Option Nat) (mX61_left : Nat → Int32) (mX61_right : Nat → Int32) (mX61_gone : Nat → Int32) (mJ1_modCount : Nat → Int32) (mJ2_elementData : Nat → Option Nat) (mJ2_size : Nat → Int32) : Nat → va_E := fun a => match kd a with
  | 1 => .inr (ci 0, [va_rf (mX29_axioms a), va_rf (mX29_reasoner a), .int (mX29_classes a), va_rf (mX29_things a), .int (mX29_thingCount a), .int (mX29_fuel a), va_rf (mX29_above a), va_rf (mX29_not a), va_rf (mX29_open a), va_rf (mX29_under a), .int (mX29_sorted a), .int (mX29_placed a), .int (mX29_empties a), .int (mX29_asked a)])
  | 2 => .inr (ci 1, [va_rf (mX30_fired a), .int (mX30_many a), .int (mX30_facts a), va_rf (mX30_this_0 a)])
  | 3 => .inr (ci 2, [.int (mX61_left a), .int (mX61_right a), .int (mX61_gone a)])
  | 4 => .inr (ci 3, [.int (mJ1_modCount a), va_rf (mJ2_elementData a), .int (mJ2_size a)])
  | 5 => .inl (d 0, an a, .inl (ai a))
  | 6 => .inl (d 1, an a, .inl (ai a))
  | 7 => .inl (d 2, an a, .inl (ai a))
  | 8 => .inl (d 3, an a, .inr (.inr (.inr (.inr (ar a)))))
  | _ => .inl (d 0, 0, .inl (fun _ => 0))
abbrev kCS : List vw_C := [(RX29, TX29, 14), (RX30, TX30, 4), (RX61, TX61, 3), (RJ2, TJ2, 3)]
abbrev tCS (d : Nat → ClassId) : List (ClassId × FieldType) := [(d 0, .int), (d 1, .boolean), (d 2, .byte), (d 3, (.object "java/lang/Object"))]
theorem cCS_1 {ci : Nat → Nat} {d : Nat → ClassId} {kd : Nat → Nat} {an : Nat → Nat} {ai : Nat → Nat → Int32} {al : Nat → Nat → Int64} {ar : Nat → Nat → Option Nat} {mX29_axioms : Nat → Option Nat} {mX29_reasoner : Nat → Option Nat} {mX29_classes : Nat → Int32} {mX29_things : Nat → Option Nat} {mX29_thingCount : Nat → Int32} {mX29_fuel : Nat → Int32} {mX29_above : Nat → Option Nat} {mX29_not : Nat → Option Nat} {mX29_open : Nat → Option Nat} {mX29_under : Nat → Option Nat} {mX29_sorted : Nat → Int32} {mX29_placed : Nat → Int32} {mX29_empties : Nat → Int32} {mX29_asked : Nat → Int32} {mX30_fired : Nat → Option Nat} {mX30_many : Nat → Int32} {mX30_facts : Nat → Int32} {mX30_this_0 : Nat → Option Nat} {mX61_left : Nat → Int32} {mX61_right : Nat → Int32} {mX61_gone : Nat → Int32} {mJ1_modCount : Nat → Int32} {mJ2_elementData : Nat → Option Nat} {mJ2_size : Nat → Int32} {a : Nat} (hk : kd a = 1) : (cCS ci d kd an ai al ar mX29_axioms mX29_reasoner mX29_classes mX29_things mX29_thingCount mX29_fuel mX29_above mX29_not mX29_open mX29_under mX29_sorted mX29_placed mX29_empties mX29_asked mX30_fired mX30_many mX30_facts mX30_this_0 mX61_left mX61_right mX61_gone mJ1_modCount mJ2_elementData mJ2_size) a = .inr (ci 0, [va_rf (mX29_axioms a), va_rf (mX29_reasoner a), .int (mX29_classes a), va_rf (mX29_things a), .int (mX29_thingCount a), .int (mX29_fuel a), va_rf (mX29_above a), va_rf (mX29_not a), va_rf (mX29_open a), va_rf (mX29_under a), .int (mX29_sorted a), .int (mX29_placed a), .int (mX29_empties a), .int (mX29_asked a)]) := by unfold cCS; simp only [hk]
theorem cCS_1_0 {ci : Nat → Nat} {d : Nat → ClassId} {kd : Nat → Nat} {an : Nat → Nat} {ai : Nat → Nat → Int32} {al : Nat → Nat → Int64} {ar : Nat → Nat → Option Nat} {mX29_axioms : Nat → Option Nat} {mX29_reasoner : Nat → Option Nat} {mX29_classes : Nat → Int32} {mX29_things : Nat → Option Nat} {mX29_thingCount : Nat → Int32} {mX29_fuel : Nat → Int32} {mX29_above : Nat → Option Nat} {mX29_not : Nat → Option Nat} {mX29_open : Nat → Option Nat} {mX29_under : Nat → Option Nat} {mX29_sorted : Nat → Int32} {mX29_placed : Nat → Int32} {mX29_empties : Nat → Int32} {mX29_asked : Nat → Int32} {mX30_fired : Nat → Option Nat} {mX30_many : Nat → Int32} {mX30_facts : Nat → Int32} {mX30_this_0 : Nat → Option Nat} {mX61_left : Nat → Int32} {mX61_right : Nat → Int32} {mX61_gone : Nat → Int32} {mJ1_modCount : Nat → Int32} {mJ2_elementData : Nat → Option Nat} {mJ2_size : Nat → Int32} {a : Nat} {v : Option Nat} (hk : kd a = 1) : va_up (cCS ci d kd an ai al ar mX29_axioms mX29_reasoner mX29_classes mX29_things mX29_thingCount mX29_fuel mX29_above mX29_not mX29_open mX29_under mX29_sorted mX29_placed mX29_empties mX29_asked mX30_fired mX30_many mX30_facts mX30_this_0 mX61_left mX61_right mX61_gone mJ1_modCount mJ2_elementData mJ2_size) a (.inr (ci 0, [va_rf v, va_rf (mX29_reasoner a), .int (mX29_classes a), va_rf (mX29_things a), .int (mX29_thingCount a), .int (mX29_fuel a), va_rf (mX29_above a), va_rf (mX29_not a), va_rf (mX29_open a), va_rf (mX29_under a), .int (mX29_sorted a), .int (mX29_placed a), .int (mX29_empties a), .int (mX29_asked a)])) = (cCS ci d kd an ai al ar (va_up mX29_axioms a v) mX29_reasoner mX29_classes mX29_things mX29_thingCount mX29_fuel mX29_above mX29_not mX29_open mX29_under mX29_sorted mX29_placed mX29_empties mX29_asked mX30_fired mX30_many mX30_facts mX30_this_0 mX61_left mX61_right mX61_gone mJ1_modCount mJ2_elementData mJ2_size) := by
  funext b
  by_cases h : b = a
  · subst h
    rw [va_up_self]
    unfold cCS
    rw [hk]
    simp only [va_up_self]
  · rw [va_up_ne _ _ h]
    unfold cCS
    simp only [va_up_ne _ _ h]
theorem cCS_1_1 {ci : Nat → Nat} {d : Nat → ClassId} {kd : Nat → Nat} {an : Nat → Nat} {ai : Nat → Nat → Int32} {al : Nat → Nat → Int64} {ar : Nat → Nat → Option Nat} {mX29_axioms : Nat → Option Nat} {mX29_reasoner : Nat → Option Nat} {mX29_classes : Nat → Int32} {mX29_things : Nat → Option Nat} {mX29_thingCount : Nat → Int32} {mX29_fuel : Nat → Int32} {mX29_above : Nat → Option Nat} {mX29_not : Nat → Option Nat} {mX29_open : Nat → Option Nat} {mX29_under : Nat → Option Nat} {mX29_sorted : Nat → Int32} {mX29_placed : Nat → Int32} {mX29_empties : Nat → Int32} {mX29_asked : Nat → Int32} {mX30_fired : Nat → Option Nat} {mX30_many : Nat → Int32} {mX30_facts : Nat → Int32} {mX30_this_0 : Nat → Option Nat} {mX61_left : Nat → Int32} {mX61_right : Nat → Int32} {mX61_gone : Nat → Int32} {mJ1_modCount : Nat → Int32} {mJ2_elementData : Nat → Option Nat} {mJ2_size : Nat → Int32} {a : Nat} {v : Option Nat} (hk : kd a = 1) : va_up (cCS ci d kd an ai al ar mX29_axioms mX29_reasoner mX29_classes mX29_things mX29_thingCount mX29_fuel mX29_above mX29_not mX29_open mX29_under mX29_sorted mX29_placed mX29_empties mX29_asked mX30_fired mX30_many mX30_facts mX30_this_0 mX61_left mX61_right mX61_gone mJ1_modCount mJ2_elementData mJ2_size) a (.inr (ci 0, [va_rf (mX29_axioms a), va_rf v, .int (mX29_classes a), va_rf (mX29_things a), .int (mX29_thingCount a), .int (mX29_fuel a), va_rf (mX29_above a), va_rf (mX29_not a), va_rf (mX29_open a), va_rf (mX29_under a), .int (mX29_sorted a), .int (mX29_placed a), .int (mX29_empties a), .int (mX29_asked a)])) = (cCS ci d kd an ai al ar mX29_axioms (va_up mX29_reasoner a v) mX29_classes mX29_things mX29_thingCount mX29_fuel mX29_above mX29_not mX29_open mX29_under mX29_sorted mX29_placed mX29_empties mX29_asked mX30_fired mX30_many mX30_facts mX30_this_0 mX61_left mX61_right mX61_gone mJ1_modCount mJ2_elementData mJ2_size) := by
  funext b
  by_cases h : b = a
  · subst h
    rw [va_up_self]
    unfold cCS
    rw [hk]
    simp only [va_up_self]
  · rw [va_up_ne _ _ h]
    unfold cCS
    simp only [va_up_ne _ _ h]
theorem cCS_1_2 {ci : Nat → Nat} {d : Nat → ClassId} {kd : Nat → Nat} {an : Nat → Nat} {ai : Nat → Nat → Int32} {al : Nat → Nat → Int64} {ar : Nat → Nat → Option Nat} {mX29_axioms : Nat → Option Nat} {mX29_reasoner : Nat → Option Nat} {mX29_classes : Nat → Int32} {mX29_things : Nat → Option Nat} {mX29_thingCount : Nat → Int32} {mX29_fuel : Nat → Int32} {mX29_above : Nat → Option Nat} {mX29_not : Nat → Option Nat} {mX29_open : Nat → Option Nat} {mX29_under : Nat → Option Nat} {mX29_sorted : Nat → Int32} {mX29_placed : Nat → Int32} {mX29_empties : Nat → Int32} {mX29_asked : Nat → Int32} {mX30_fired : Nat → Option Nat} {mX30_many : Nat → Int32} {mX30_facts : Nat → Int32} {mX30_this_0 : Nat → Option Nat} {mX61_left : Nat → Int32} {mX61_right : Nat → Int32} {mX61_gone : Nat → Int32} {mJ1_modCount : Nat → Int32} {mJ2_elementData : Nat → Option Nat} {mJ2_size : Nat → Int32} {a : Nat} {v : Int32} (hk : kd a = 1) : va_up (cCS ci d kd an ai al ar mX29_axioms mX29_reasoner mX29_classes mX29_things mX29_thingCount mX29_fuel mX29_above mX29_not mX29_open mX29_under mX29_sorted mX29_placed mX29_empties mX29_asked mX30_fired mX30_many mX30_facts mX30_this_0 mX61_left mX61_right mX61_gone mJ1_modCount mJ2_elementData mJ2_size) a (.inr (ci 0, [va_rf (mX29_axioms a), va_rf (mX29_reasoner a), .int v, va_rf (mX29_things a), .int (mX29_thingCount a), .int (mX29_fuel a), va_rf (mX29_above a), va_rf (mX29_not a), va_rf (mX29_open a), va_rf (mX29_under a), .int (mX29_sorted a), .int (mX29_placed a), .int (mX29_empties a), .int (mX29_asked a)])) = (cCS ci d kd an ai al ar mX29_axioms mX29_reasoner (va_up mX29_classes a v) mX29_things mX29_thingCount mX29_fuel mX29_above mX29_not mX29_open mX29_under mX29_sorted mX29_placed mX29_empties mX29_asked mX30_fired mX30_many mX30_facts mX30_this_0 mX61_left mX61_right mX61_gone mJ1_modCount mJ2_elementData mJ2_size) := by
  funext b
  by_cases h : b = a
  · subst h
    rw [va_up_self]
    unfold cCS
    rw [hk]
    simp only [va_up_self]
  · rw [va_up_ne _ _ h]
    unfold cCS
    simp only [va_up_ne _ _ h]
theorem cCS_1_3 {ci : Nat → Nat} {d : Nat → ClassId} {kd : Nat → Nat} {an : Nat → Nat} {ai : Nat → Nat → Int32} {al : Nat → Nat → Int64} {ar : Nat → Nat → Option Nat} {mX29_axioms : Nat → Option Nat} {mX29_reasoner : Nat → Option Nat} {mX29_classes : Nat → Int32} {mX29_things : Nat → Option Nat} {mX29_thingCount : Nat → Int32} {mX29_fuel : Nat → Int32} {mX29_above : Nat → Option Nat} {mX29_not : Nat → Option Nat} {mX29_open : Nat → Option Nat} {mX29_under : Nat → Option Nat} {mX29_sorted : Nat → Int32} {mX29_placed : Nat → Int32} {mX29_empties : Nat → Int32} {mX29_asked : Nat → Int32} {mX30_fired : Nat → Option Nat} {mX30_many : Nat → Int32} {mX30_facts : Nat → Int32} {mX30_this_0 : Nat → Option Nat} {mX61_left : Nat → Int32} {mX61_right : Nat → Int32} {mX61_gone : Nat → Int32} {mJ1_modCount : Nat → Int32} {mJ2_elementData : Nat → Option Nat} {mJ2_size : Nat → Int32} {a : Nat} {v : Option Nat} (hk : kd a = 1) : va_up (cCS ci d kd an ai al ar mX29_axioms mX29_reasoner mX29_classes mX29_things mX29_thingCount mX29_fuel mX29_above mX29_not mX29_open mX29_under mX29_sorted mX29_placed mX29_empties mX29_asked mX30_fired mX30_many mX30_facts mX30_this_0 mX61_left mX61_right mX61_gone mJ1_modCount mJ2_elementData mJ2_size) a (.inr (ci 0, [va_rf (mX29_axioms a), va_rf (mX29_reasoner a), .int (mX29_classes a), va_rf v, .int (mX29_thingCount a), .int (mX29_fuel a), va_rf (mX29_above a), va_rf (mX29_not a), va_rf (mX29_open a), va_rf (mX29_under a), .int (mX29_sorted a), .int (mX29_placed a), .int (mX29_empties a), .int (mX29_asked a)])) = (cCS ci d kd an ai al ar mX29_axioms mX29_reasoner mX29_classes (va_up mX29_things a v) mX29_thingCount mX29_fuel mX29_above mX29_not mX29_open mX29_under mX29_sorted mX29_placed mX29_empties mX29_asked mX30_fired mX30_many mX30_facts mX30_this_0 mX61_left mX61_right mX61_gone mJ1_modCount mJ2_elementData mJ2_size) := by
  funext b
  by_cases h : b = a
  · subst h
    rw [va_up_self]
    unfold cCS
    rw [hk]
    simp only [va_up_self]
  · rw [va_up_ne _ _ h]
    unfold cCS
    simp only [va_up_ne _ _ h]
theorem cCS_1_4 {ci : Nat → Nat} {d : Nat → ClassId} {kd : Nat → Nat} {an : Nat → Nat} {ai : Nat → Nat → Int32} {al : Nat → Nat → Int64} {ar : Nat → Nat → Option Nat} {mX29_axioms : Nat → Option Nat} {mX29_reasoner : Nat → Option Nat} {mX29_classes : Nat → Int32} {mX29_things : Nat → Option Nat} {mX29_thingCount : Nat → Int32} {mX29_fuel : Nat → Int32} {mX29_above : Nat → Option Nat} {mX29_not : Nat → Option Nat} {mX29_open : Nat → Option Nat} {mX29_under : Nat → Option Nat} {mX29_sorted : Nat → Int32} {mX29_placed : Nat → Int32} {mX29_empties : Nat → Int32} {mX29_asked : Nat → Int32} {mX30_fired : Nat → Option Nat} {mX30_many : Nat → Int32} {mX30_facts : Nat → Int32} {mX30_this_0 : Nat → Option Nat} {mX61_left : Nat → Int32} {mX61_right : Nat → Int32} {mX61_gone : Nat → Int32} {mJ1_modCount : Nat → Int32} {mJ2_elementData : Nat → Option Nat} {mJ2_size : Nat → Int32} {a : Nat} {v : Int32} (hk : kd a = 1) : va_up (cCS ci d kd an ai al ar mX29_axioms mX29_reasoner mX29_classes mX29_things mX29_thingCount mX29_fuel mX29_above mX29_not mX29_open mX29_under mX29_sorted mX29_placed mX29_empties mX29_asked mX30_fired mX30_many mX30_facts mX30_this_0 mX61_left mX61_right mX61_gone mJ1_modCount mJ2_elementData mJ2_size) a (.inr (ci 0, [va_rf (mX29_axioms a), va_rf (mX29_reasoner a), .int (mX29_classes a), va_rf (mX29_things a), .int v, .int (mX29_fuel a), va_rf (mX29_above a), va_rf (mX29_not a), va_rf (mX29_open a), va_rf (mX29_under a), .int (mX29_sorted a), .int (mX29_placed a), .int (mX29_empties a), .int (mX29_asked a)])) = (cCS ci d kd an ai al ar mX29_axioms mX29_reasoner mX29_classes mX29_things (va_up mX29_thingCount a v) mX29_fuel mX29_above mX29_not mX29_open mX29_under mX29_sorted mX29_placed mX29_empties mX29_asked mX30_fired mX30_many mX30_facts mX30_this_0 mX61_left mX61_right mX61_gone mJ1_modCount mJ2_elementData mJ2_size) := by
  funext b
  by_cases h : b = a
  · subst h
    rw [va_up_self]
    unfold cCS
    rw [hk]
    simp only [va_up_self]
  · rw [va_up_ne _ _ h]
    unfold cCS
    simp only [va_up_ne _ _ h]
theorem cCS_1_5 {ci : Nat → Nat} {d : Nat → ClassId} {kd : Nat → Nat} {an : Nat → Nat} {ai : Nat → Nat → Int32} {al : Nat → Nat → Int64} {ar : Nat → Nat → Option Nat} {mX29_axioms : Nat → Option Nat} {mX29_reasoner : Nat → Option Nat} {mX29_classes : Nat → Int32} {mX29_things : Nat → Option Nat} {mX29_thingCount : Nat → Int32} {mX29_fuel : Nat → Int32} {mX29_above : Nat → Option Nat} {mX29_not : Nat → Option Nat} {mX29_open : Nat → Option Nat} {mX29_under : Nat → Option Nat} {mX29_sorted : Nat → Int32} {mX29_placed : Nat → Int32} {mX29_empties : Nat → Int32} {mX29_asked : Nat → Int32} {mX30_fired : Nat → Option Nat} {mX30_many : Nat → Int32} {mX30_facts : Nat → Int32} {mX30_this_0 : Nat → Option Nat} {mX61_left : Nat → Int32} {mX61_right : Nat → Int32} {mX61_gone : Nat → Int32} {mJ1_modCount : Nat → Int32} {mJ2_elementData : Nat → Option Nat} {mJ2_size : Nat → Int32} {a : Nat} {v : Int32} (hk : kd a = 1) : va_up (cCS ci d kd an ai al ar mX29_axioms mX29_reasoner mX29_classes mX29_things mX29_thingCount mX29_fuel mX29_above mX29_not mX29_open mX29_under mX29_sorted mX29_placed mX29_empties mX29_asked mX30_fired mX30_many mX30_facts mX30_this_0 mX61_left mX61_right mX61_gone mJ1_modCount mJ2_elementData mJ2_size) a (.inr (ci 0, [va_rf (mX29_axioms a), va_rf (mX29_reasoner a), .int (mX29_classes a), va_rf (mX29_things a), .int (mX29_thingCount a), .int v, va_rf (mX29_above a), va_rf (mX29_not a), va_rf (mX29_open a), va_rf (mX29_under a), .int (mX29_sorted a), .int (mX29_placed a), .int (mX29_empties a), .int (mX29_asked a)])) = (cCS ci d kd an ai al ar mX29_axioms mX29_reasoner mX29_classes mX29_things mX29_thingCount (va_up mX29_fuel a v) mX29_above mX29_not mX29_open mX29_under mX29_sorted mX29_placed mX29_empties mX29_asked mX30_fired mX30_many mX30_facts mX30_this_0 mX61_left mX61_right mX61_gone mJ1_modCount mJ2_elementData mJ2_size) := by
  funext b
  by_cases h : b = a
  · subst h
    rw [va_up_self]
    unfold cCS
    rw [hk]
    simp only [va_up_self]
  · rw [va_up_ne _ _ h]
    unfold cCS
    simp only [va_up_ne _ _ h]
theorem cCS_1_6 {ci : Nat → Nat} {d : Nat → ClassId} {kd : Nat → Nat} {an : Nat → Nat} {ai : Nat → Nat → Int32} {al : Nat → Nat → Int64} {ar : Nat → Nat → Option Nat} {mX29_axioms : Nat → Option Nat} {mX29_reasoner : Nat → Option Nat} {mX29_classes : Nat → Int32} {mX29_things : Nat → Option Nat} {mX29_thingCount : Nat → Int32} {mX29_fuel : Nat → Int32} {mX29_above : Nat → Option Nat} {mX29_not : Nat → Option Nat} {mX29_open : Nat → Option Nat} {mX29_under : Nat → Option Nat} {mX29_sorted : Nat → Int32} {mX29_placed : Nat → Int32} {mX29_empties : Nat → Int32} {mX29_asked : Nat → Int32} {mX30_fired : Nat → Option Nat} {mX30_many : Nat → Int32} {mX30_facts : Nat → Int32} {mX30_this_0 : Nat → Option Nat} {mX61_left : Nat → Int32} {mX61_right : Nat → Int32} {mX61_gone : Nat → Int32} {mJ1_modCount : Nat → Int32} {mJ2_elementData : Nat → Option Nat} {mJ2_size : Nat → Int32} {a : Nat} {v : Option Nat} (hk : kd a = 1) : va_up (cCS ci d kd an ai al ar mX29_axioms mX29_reasoner mX29_classes mX29_things mX29_thingCount mX29_fuel mX29_above mX29_not mX29_open mX29_under mX29_sorted mX29_placed mX29_empties mX29_asked mX30_fired mX30_many mX30_facts mX30_this_0 mX61_left mX61_right mX61_gone mJ1_modCount mJ2_elementData mJ2_size) a (.inr (ci 0, [va_rf (mX29_axioms a), va_rf (mX29_reasoner a), .int (mX29_classes a), va_rf (mX29_things a), .int (mX29_thingCount a), .int (mX29_fuel a), va_rf v, va_rf (mX29_not a), va_rf (mX29_open a), va_rf (mX29_under a), .int (mX29_sorted a), .int (mX29_placed a), .int (mX29_empties a), .int (mX29_asked a)])) = (cCS ci d kd an ai al ar mX29_axioms mX29_reasoner mX29_classes mX29_things mX29_thingCount mX29_fuel (va_up mX29_above a v) mX29_not mX29_open mX29_under mX29_sorted mX29_placed mX29_empties mX29_asked mX30_fired mX30_many mX30_facts mX30_this_0 mX61_left mX61_right mX61_gone mJ1_modCount mJ2_elementData mJ2_size) := by
  funext b
  by_cases h : b = a
  · subst h
    rw [va_up_self]
    unfold cCS
    rw [hk]
    simp only [va_up_self]
  · rw [va_up_ne _ _ h]
    unfold cCS
    simp only [va_up_ne _ _ h]
theorem cCS_1_7 {ci : Nat → Nat} {d : Nat → ClassId} {kd : Nat → Nat} {an : Nat → Nat} {ai : Nat → Nat → Int32} {al : Nat → Nat → Int64} {ar : Nat → Nat → Option Nat} {mX29_axioms : Nat → Option Nat} {mX29_reasoner : Nat → Option Nat} {mX29_classes : Nat → Int32} {mX29_things : Nat → Option Nat} {mX29_thingCount : Nat → Int32} {mX29_fuel : Nat → Int32} {mX29_above : Nat → Option Nat} {mX29_not : Nat → Option Nat} {mX29_open : Nat → Option Nat} {mX29_under : Nat → Option Nat} {mX29_sorted : Nat → Int32} {mX29_placed : Nat → Int32} {mX29_empties : Nat → Int32} {mX29_asked : Nat → Int32} {mX30_fired : Nat → Option Nat} {mX30_many : Nat → Int32} {mX30_facts : Nat → Int32} {mX30_this_0 : Nat → Option Nat} {mX61_left : Nat → Int32} {mX61_right : Nat → Int32} {mX61_gone : Nat → Int32} {mJ1_modCount : Nat → Int32} {mJ2_elementData : Nat → Option Nat} {mJ2_size : Nat → Int32} {a : Nat} {v : Option Nat} (hk : kd a = 1) : va_up (cCS ci d kd an ai al ar mX29_axioms mX29_reasoner mX29_classes mX29_things mX29_thingCount mX29_fuel mX29_above mX29_not mX29_open mX29_under mX29_sorted mX29_placed mX29_empties mX29_asked mX30_fired mX30_many mX30_facts mX30_this_0 mX61_left mX61_right mX61_gone mJ1_modCount mJ2_elementData mJ2_size) a (.inr (ci 0, [va_rf (mX29_axioms a), va_rf (mX29_reasoner a), .int (mX29_classes a), va_rf (mX29_things a), .int (mX29_thingCount a), .int (mX29_fuel a), va_rf (mX29_above a), va_rf v, va_rf (mX29_open a), va_rf (mX29_under a), .int (mX29_sorted a), .int (mX29_placed a), .int (mX29_empties a), .int (mX29_asked a)])) = (cCS ci d kd an ai al ar mX29_axioms mX29_reasoner mX29_classes mX29_things mX29_thingCount mX29_fuel mX29_above (va_up mX29_not a v) mX29_open mX29_under mX29_sorted mX29_placed mX29_empties mX29_asked mX30_fired mX30_many mX30_facts mX30_this_0 mX61_left mX61_right mX61_gone mJ1_modCount mJ2_elementData mJ2_size) := by
  funext b
  by_cases h : b = a
  · subst h
    rw [va_up_self]
    unfold cCS
    rw [hk]
    simp only [va_up_self]
  · rw [va_up_ne _ _ h]
    unfold cCS
    simp only [va_up_ne _ _ h]
theorem cCS_1_8 {ci : Nat → Nat} {d : Nat → ClassId} {kd : Nat → Nat} {an : Nat → Nat} {ai : Nat → Nat → Int32} {al : Nat → Nat → Int64} {ar : Nat → Nat → Option Nat} {mX29_axioms : Nat → Option Nat} {mX29_reasoner : Nat → Option Nat} {mX29_classes : Nat → Int32} {mX29_things : Nat → Option Nat} {mX29_thingCount : Nat → Int32} {mX29_fuel : Nat → Int32} {mX29_above : Nat → Option Nat} {mX29_not : Nat → Option Nat} {mX29_open : Nat → Option Nat} {mX29_under : Nat → Option Nat} {mX29_sorted : Nat → Int32} {mX29_placed : Nat → Int32} {mX29_empties : Nat → Int32} {mX29_asked : Nat → Int32} {mX30_fired : Nat → Option Nat} {mX30_many : Nat → Int32} {mX30_facts : Nat → Int32} {mX30_this_0 : Nat → Option Nat} {mX61_left : Nat → Int32} {mX61_right : Nat → Int32} {mX61_gone : Nat → Int32} {mJ1_modCount : Nat → Int32} {mJ2_elementData : Nat → Option Nat} {mJ2_size : Nat → Int32} {a : Nat} {v : Option Nat} (hk : kd a = 1) : va_up (cCS ci d kd an ai al ar mX29_axioms mX29_reasoner mX29_classes mX29_things mX29_thingCount mX29_fuel mX29_above mX29_not mX29_open mX29_under mX29_sorted mX29_placed mX29_empties mX29_asked mX30_fired mX30_many mX30_facts mX30_this_0 mX61_left mX61_right mX61_gone mJ1_modCount mJ2_elementData mJ2_size) a (.inr (ci 0, [va_rf (mX29_axioms a), va_rf (mX29_reasoner a), .int (mX29_classes a), va_rf (mX29_things a), .int (mX29_thingCount a), .int (mX29_fuel a), va_rf (mX29_above a), va_rf (mX29_not a), va_rf v, va_rf (mX29_under a), .int (mX29_sorted a), .int (mX29_placed a), .int (mX29_empties a), .int (mX29_asked a)])) = (cCS ci d kd an ai al ar mX29_axioms mX29_reasoner mX29_classes mX29_things mX29_thingCount mX29_fuel mX29_above mX29_not (va_up mX29_open a v) mX29_under mX29_sorted mX29_placed mX29_empties mX29_asked mX30_fired mX30_many mX30_facts mX30_this_0 mX61_left mX61_right mX61_gone mJ1_modCount mJ2_elementData mJ2_size) := by
  funext b
  by_cases h : b = a
  · subst h
    rw [va_up_self]
    unfold cCS
    rw [hk]
    simp only [va_up_self]
  · rw [va_up_ne _ _ h]
    unfold cCS
    simp only [va_up_ne _ _ h]
theorem cCS_1_9 {ci : Nat → Nat} {d : Nat → ClassId} {kd : Nat → Nat} {an : Nat → Nat} {ai : Nat → Nat → Int32} {al : Nat → Nat → Int64} {ar : Nat → Nat → Option Nat} {mX29_axioms : Nat → Option Nat} {mX29_reasoner : Nat → Option Nat} {mX29_classes : Nat → Int32} {mX29_things : Nat → Option Nat} {mX29_thingCount : Nat → Int32} {mX29_fuel : Nat → Int32} {mX29_above : Nat → Option Nat} {mX29_not : Nat → Option Nat} {mX29_open : Nat → Option Nat} {mX29_under : Nat → Option Nat} {mX29_sorted : Nat → Int32} {mX29_placed : Nat → Int32} {mX29_empties : Nat → Int32} {mX29_asked : Nat → Int32} {mX30_fired : Nat → Option Nat} {mX30_many : Nat → Int32} {mX30_facts : Nat → Int32} {mX30_this_0 : Nat → Option Nat} {mX61_left : Nat → Int32} {mX61_right : Nat → Int32} {mX61_gone : Nat → Int32} {mJ1_modCount : Nat → Int32} {mJ2_elementData : Nat → Option Nat} {mJ2_size : Nat → Int32} {a : Nat} {v : Option Nat} (hk : kd a = 1) : va_up (cCS ci d kd an ai al ar mX29_axioms mX29_reasoner mX29_classes mX29_things mX29_thingCount mX29_fuel mX29_above mX29_not mX29_open mX29_under mX29_sorted mX29_placed mX29_empties mX29_asked mX30_fired mX30_many mX30_facts mX30_this_0 mX61_left mX61_right mX61_gone mJ1_modCount mJ2_elementData mJ2_size) a (.inr (ci 0, [va_rf (mX29_axioms a), va_rf (mX29_reasoner a), .int (mX29_classes a), va_rf (mX29_things a), .int (mX29_thingCount a), .int (mX29_fuel a), va_rf (mX29_above a), va_rf (mX29_not a), va_rf (mX29_open a), va_rf v, .int (mX29_sorted a), .int (mX29_placed a), .int (mX29_empties a), .int (mX29_asked a)])) = (cCS ci d kd an ai al ar mX29_axioms mX29_reasoner mX29_classes mX29_things mX29_thingCount mX29_fuel mX29_above mX29_not mX29_open (va_up mX29_under a v) mX29_sorted mX29_placed mX29_empties mX29_asked mX30_fired mX30_many mX30_facts mX30_this_0 mX61_left mX61_right mX61_gone mJ1_modCount mJ2_elementData mJ2_size) := by
  funext b
  by_cases h : b = a
  · subst h
    rw [va_up_self]
    unfold cCS
    rw [hk]
    simp only [va_up_self]
  · rw [va_up_ne _ _ h]
    unfold cCS
    simp only [va_up_ne _ _ h]
theorem cCS_1_10 {ci : Nat → Nat} {d : Nat → ClassId} {kd : Nat → Nat} {an : Nat → Nat} {ai : Nat → Nat → Int32} {al : Nat → Nat → Int64} {ar : Nat → Nat → Option Nat} {mX29_axioms : Nat → Option Nat} {mX29_reasoner : Nat → Option Nat} {mX29_classes : Nat → Int32} {mX29_things : Nat → Option Nat} {mX29_thingCount : Nat → Int32} {mX29_fuel : Nat → Int32} {mX29_above : Nat → Option Nat} {mX29_not : Nat → Option Nat} {mX29_open : Nat → Option Nat} {mX29_under : Nat → Option Nat} {mX29_sorted : Nat → Int32} {mX29_placed : Nat → Int32} {mX29_empties : Nat → Int32} {mX29_asked : Nat → Int32} {mX30_fired : Nat → Option Nat} {mX30_many : Nat → Int32} {mX30_facts : Nat → Int32} {mX30_this_0 : Nat → Option Nat} {mX61_left : Nat → Int32} {mX61_right : Nat → Int32} {mX61_gone : Nat → Int32} {mJ1_modCount : Nat → Int32} {mJ2_elementData : Nat → Option Nat} {mJ2_size : Nat → Int32} {a : Nat} {v : Int32} (hk : kd a = 1) : va_up (cCS ci d kd an ai al ar mX29_axioms mX29_reasoner mX29_classes mX29_things mX29_thingCount mX29_fuel mX29_above mX29_not mX29_open mX29_under mX29_sorted mX29_placed mX29_empties mX29_asked mX30_fired mX30_many mX30_facts mX30_this_0 mX61_left mX61_right mX61_gone mJ1_modCount mJ2_elementData mJ2_size) a (.inr (ci 0, [va_rf (mX29_axioms a), va_rf (mX29_reasoner a), .int (mX29_classes a), va_rf (mX29_things a), .int (mX29_thingCount a), .int (mX29_fuel a), va_rf (mX29_above a), va_rf (mX29_not a), va_rf (mX29_open a), va_rf (mX29_under a), .int v, .int (mX29_placed a), .int (mX29_empties a), .int (mX29_asked a)])) = (cCS ci d kd an ai al ar mX29_axioms mX29_reasoner mX29_classes mX29_things mX29_thingCount mX29_fuel mX29_above mX29_not mX29_open mX29_under (va_up mX29_sorted a v) mX29_placed mX29_empties mX29_asked mX30_fired mX30_many mX30_facts mX30_this_0 mX61_left mX61_right mX61_gone mJ1_modCount mJ2_elementData mJ2_size) := by
  funext b
  by_cases h : b = a
  · subst h
    rw [va_up_self]
    unfold cCS
    rw [hk]
    simp only [va_up_self]
  · rw [va_up_ne _ _ h]
    unfold cCS
    simp only [va_up_ne _ _ h]
theorem cCS_1_11 {ci : Nat → Nat} {d : Nat → ClassId} {kd : Nat → Nat} {an : Nat → Nat} {ai : Nat → Nat → Int32} {al : Nat → Nat → Int64} {ar : Nat → Nat → Option Nat} {mX29_axioms : Nat → Option Nat} {mX29_reasoner : Nat → Option Nat} {mX29_classes : Nat → Int32} {mX29_things : Nat → Option Nat} {mX29_thingCount : Nat → Int32} {mX29_fuel : Nat → Int32} {mX29_above : Nat → Option Nat} {mX29_not : Nat → Option Nat} {mX29_open : Nat → Option Nat} {mX29_under : Nat → Option Nat} {mX29_sorted : Nat → Int32} {mX29_placed : Nat → Int32} {mX29_empties : Nat → Int32} {mX29_asked : Nat → Int32} {mX30_fired : Nat → Option Nat} {mX30_many : Nat → Int32} {mX30_facts : Nat → Int32} {mX30_this_0 : Nat → Option Nat} {mX61_left : Nat → Int32} {mX61_right : Nat → Int32} {mX61_gone : Nat → Int32} {mJ1_modCount : Nat → Int32} {mJ2_elementData : Nat → Option Nat} {mJ2_size : Nat → Int32} {a : Nat} {v : Int32} (hk : kd a = 1) : va_up (cCS ci d kd an ai al ar mX29_axioms mX29_reasoner mX29_classes mX29_things mX29_thingCount mX29_fuel mX29_above mX29_not mX29_open mX29_under mX29_sorted mX29_placed mX29_empties mX29_asked mX30_fired mX30_many mX30_facts mX30_this_0 mX61_left mX61_right mX61_gone mJ1_modCount mJ2_elementData mJ2_size) a (.inr (ci 0, [va_rf (mX29_axioms a), va_rf (mX29_reasoner a), .int (mX29_classes a), va_rf (mX29_things a), .int (mX29_thingCount a), .int (mX29_fuel a), va_rf (mX29_above a), va_rf (mX29_not a), va_rf (mX29_open a), va_rf (mX29_under a), .int (mX29_sorted a), .int v, .int (mX29_empties a), .int (mX29_asked a)])) = (cCS ci d kd an ai al ar mX29_axioms mX29_reasoner mX29_classes mX29_things mX29_thingCount mX29_fuel mX29_above mX29_not mX29_open mX29_under mX29_sorted (va_up mX29_placed a v) mX29_empties mX29_asked mX30_fired mX30_many mX30_facts mX30_this_0 mX61_left mX61_right mX61_gone mJ1_modCount mJ2_elementData mJ2_size) := by
  funext b
  by_cases h : b = a
  · subst h
    rw [va_up_self]
    unfold cCS
    rw [hk]
    simp only [va_up_self]
  · rw [va_up_ne _ _ h]
    unfold cCS
    simp only [va_up_ne _ _ h]
theorem cCS_1_12 {ci : Nat → Nat} {d : Nat → ClassId} {kd : Nat → Nat} {an : Nat → Nat} {ai : Nat → Nat → Int32} {al : Nat → Nat → Int64} {ar : Nat → Nat → Option Nat} {mX29_axioms : Nat → Option Nat} {mX29_reasoner : Nat → Option Nat} {mX29_classes : Nat → Int32} {mX29_things : Nat → Option Nat} {mX29_thingCount : Nat → Int32} {mX29_fuel : Nat → Int32} {mX29_above : Nat → Option Nat} {mX29_not : Nat → Option Nat} {mX29_open : Nat → Option Nat} {mX29_under : Nat → Option Nat} {mX29_sorted : Nat → Int32} {mX29_placed : Nat → Int32} {mX29_empties : Nat → Int32} {mX29_asked : Nat → Int32} {mX30_fired : Nat → Option Nat} {mX30_many : Nat → Int32} {mX30_facts : Nat → Int32} {mX30_this_0 : Nat → Option Nat} {mX61_left : Nat → Int32} {mX61_right : Nat → Int32} {mX61_gone : Nat → Int32} {mJ1_modCount : Nat → Int32} {mJ2_elementData : Nat → Option Nat} {mJ2_size : Nat → Int32} {a : Nat} {v : Int32} (hk : kd a = 1) : va_up (cCS ci d kd an ai al ar mX29_axioms mX29_reasoner mX29_classes mX29_things mX29_thingCount mX29_fuel mX29_above mX29_not mX29_open mX29_under mX29_sorted mX29_placed mX29_empties mX29_asked mX30_fired mX30_many mX30_facts mX30_this_0 mX61_left mX61_right mX61_gone mJ1_modCount mJ2_elementData mJ2_size) a (.inr (ci 0, [va_rf (mX29_axioms a), va_rf (mX29_reasoner a), .int (mX29_classes a), va_rf (mX29_things a), .int (mX29_thingCount a), .int (mX29_fuel a), va_rf (mX29_above a), va_rf (mX29_not a), va_rf (mX29_open a), va_rf (mX29_under a), .int (mX29_sorted a), .int (mX29_placed a), .int v, .int (mX29_asked a)])) = (cCS ci d kd an ai al ar mX29_axioms mX29_reasoner mX29_classes mX29_things mX29_thingCount mX29_fuel mX29_above mX29_not mX29_open mX29_under mX29_sorted mX29_placed (va_up mX29_empties a v) mX29_asked mX30_fired mX30_many mX30_facts mX30_this_0 mX61_left mX61_right mX61_gone mJ1_modCount mJ2_elementData mJ2_size) := by
  funext b
  by_cases h : b = a
  · subst h
    rw [va_up_self]
    unfold cCS
    rw [hk]
    simp only [va_up_self]
  · rw [va_up_ne _ _ h]
    unfold cCS
    simp only [va_up_ne _ _ h]
theorem cCS_1_13 {ci : Nat → Nat} {d : Nat → ClassId} {kd : Nat → Nat} {an : Nat → Nat} {ai : Nat → Nat → Int32} {al : Nat → Nat → Int64} {ar : Nat → Nat → Option Nat} {mX29_axioms : Nat → Option Nat} {mX29_reasoner : Nat → Option Nat} {mX29_classes : Nat → Int32} {mX29_things : Nat → Option Nat} {mX29_thingCount : Nat → Int32} {mX29_fuel : Nat → Int32} {mX29_above : Nat → Option Nat} {mX29_not : Nat → Option Nat} {mX29_open : Nat → Option Nat} {mX29_under : Nat → Option Nat} {mX29_sorted : Nat → Int32} {mX29_placed : Nat → Int32} {mX29_empties : Nat → Int32} {mX29_asked : Nat → Int32} {mX30_fired : Nat → Option Nat} {mX30_many : Nat → Int32} {mX30_facts : Nat → Int32} {mX30_this_0 : Nat → Option Nat} {mX61_left : Nat → Int32} {mX61_right : Nat → Int32} {mX61_gone : Nat → Int32} {mJ1_modCount : Nat → Int32} {mJ2_elementData : Nat → Option Nat} {mJ2_size : Nat → Int32} {a : Nat} {v : Int32} (hk : kd a = 1) : va_up (cCS ci d kd an ai al ar mX29_axioms mX29_reasoner mX29_classes mX29_things mX29_thingCount mX29_fuel mX29_above mX29_not mX29_open mX29_under mX29_sorted mX29_placed mX29_empties mX29_asked mX30_fired mX30_many mX30_facts mX30_this_0 mX61_left mX61_right mX61_gone mJ1_modCount mJ2_elementData mJ2_size) a (.inr (ci 0, [va_rf (mX29_axioms a), va_rf (mX29_reasoner a), .int (mX29_classes a), va_rf (mX29_things a), .int (mX29_thingCount a), .int (mX29_fuel a), va_rf (mX29_above a), va_rf (mX29_not a), va_rf (mX29_open a), va_rf (mX29_under a), .int (mX29_sorted a), .int (mX29_placed a), .int (mX29_empties a), .int v])) = (cCS ci d kd an ai al ar mX29_axioms mX29_reasoner mX29_classes mX29_things mX29_thingCount mX29_fuel mX29_above mX29_not mX29_open mX29_under mX29_sorted mX29_placed mX29_empties (va_up mX29_asked a v) mX30_fired mX30_many mX30_facts mX30_this_0 mX61_left mX61_right mX61_gone mJ1_modCount mJ2_elementData mJ2_size) := by
  funext b
  by_cases h : b = a
  · subst h
    rw [va_up_self]
    unfold cCS
    rw [hk]
    simp only [va_up_self]
  · rw [va_up_ne _ _ h]
    unfold cCS
    simp only [va_up_ne _ _ h]
theorem cCS_1_n {ci : Nat → Nat} {d : Nat → ClassId} {kd : Nat → Nat} {an : Nat → Nat} {ai : Nat → Nat → Int32} {al : Nat → Nat → Int64} {ar : Nat → Nat → Option Nat} {mX29_axioms : Nat → Option Nat} {mX29_reasoner : Nat → Option Nat} {mX29_classes : Nat → Int32} {mX29_things : Nat → Option Nat} {mX29_thingCount : Nat → Int32} {mX29_fuel : Nat → Int32} {mX29_above : Nat → Option Nat} {mX29_not : Nat → Option Nat} {mX29_open : Nat → Option Nat} {mX29_under : Nat → Option Nat} {mX29_sorted : Nat → Int32} {mX29_placed : Nat → Int32} {mX29_empties : Nat → Int32} {mX29_asked : Nat → Int32} {mX30_fired : Nat → Option Nat} {mX30_many : Nat → Int32} {mX30_facts : Nat → Int32} {mX30_this_0 : Nat → Option Nat} {mX61_left : Nat → Int32} {mX61_right : Nat → Int32} {mX61_gone : Nat → Int32} {mJ1_modCount : Nat → Int32} {mJ2_elementData : Nat → Option Nat} {mJ2_size : Nat → Int32} (q : Nat) : va_up (cCS ci d kd an ai al ar mX29_axioms mX29_reasoner mX29_classes mX29_things mX29_thingCount mX29_fuel mX29_above mX29_not mX29_open mX29_under mX29_sorted mX29_placed mX29_empties mX29_asked mX30_fired mX30_many mX30_facts mX30_this_0 mX61_left mX61_right mX61_gone mJ1_modCount mJ2_elementData mJ2_size) q (.inr (ci 0, [va_rf none, va_rf none, .int 0, va_rf none, .int 0, .int 0, va_rf none, va_rf none, va_rf none, va_rf none, .int 0, .int 0, .int 0, .int 0])) = (cCS ci d (va_up kd q 1) an ai al ar (va_up mX29_axioms q none) (va_up mX29_reasoner q none) (va_up mX29_classes q 0) (va_up mX29_things q none) (va_up mX29_thingCount q 0) (va_up mX29_fuel q 0) (va_up mX29_above q none) (va_up mX29_not q none) (va_up mX29_open q none) (va_up mX29_under q none) (va_up mX29_sorted q 0) (va_up mX29_placed q 0) (va_up mX29_empties q 0) (va_up mX29_asked q 0) mX30_fired mX30_many mX30_facts mX30_this_0 mX61_left mX61_right mX61_gone mJ1_modCount mJ2_elementData mJ2_size) := by
  funext b
  by_cases h : b = q
  · subst h
    rw [va_up_self]
    unfold cCS
    simp only [va_up_self]
  · rw [va_up_ne _ _ h]
    unfold cCS
    simp only [va_up_ne _ _ h]
theorem cCS_2 {ci : Nat → Nat} {d : Nat → ClassId} {kd : Nat → Nat} {an : Nat → Nat} {ai : Nat → Nat → Int32} {al : Nat → Nat → Int64} {ar : Nat → Nat → Option Nat} {mX29_axioms : Nat → Option Nat} {mX29_reasoner : Nat → Option Nat} {mX29_classes : Nat → Int32} {mX29_things : Nat → Option Nat} {mX29_thingCount : Nat → Int32} {mX29_fuel : Nat → Int32} {mX29_above : Nat → Option Nat} {mX29_not : Nat → Option Nat} {mX29_open : Nat → Option Nat} {mX29_under : Nat → Option Nat} {mX29_sorted : Nat → Int32} {mX29_placed : Nat → Int32} {mX29_empties : Nat → Int32} {mX29_asked : Nat → Int32} {mX30_fired : Nat → Option Nat} {mX30_many : Nat → Int32} {mX30_facts : Nat → Int32} {mX30_this_0 : Nat → Option Nat} {mX61_left : Nat → Int32} {mX61_right : Nat → Int32} {mX61_gone : Nat → Int32} {mJ1_modCount : Nat → Int32} {mJ2_elementData : Nat → Option Nat} {mJ2_size : Nat → Int32} {a : Nat} (hk : kd a = 2) : (cCS ci d kd an ai al ar mX29_axioms mX29_reasoner mX29_classes mX29_things mX29_thingCount mX29_fuel mX29_above mX29_not mX29_open mX29_under mX29_sorted mX29_placed mX29_empties mX29_asked mX30_fired mX30_many mX30_facts mX30_this_0 mX61_left mX61_right mX61_gone mJ1_modCount mJ2_elementData mJ2_size) a = .inr (ci 1, [va_rf (mX30_fired a), .int (mX30_many a), .int (mX30_facts a), va_rf (mX30_this_0 a)]) := by unfold cCS; simp only [hk]
theorem cCS_2_0 {ci : Nat → Nat} {d : Nat → ClassId} {kd : Nat → Nat} {an : Nat → Nat} {ai : Nat → Nat → Int32} {al : Nat → Nat → Int64} {ar : Nat → Nat → Option Nat} {mX29_axioms : Nat → Option Nat} {mX29_reasoner : Nat → Option Nat} {mX29_classes : Nat → Int32} {mX29_things : Nat → Option Nat} {mX29_thingCount : Nat → Int32} {mX29_fuel : Nat → Int32} {mX29_above : Nat → Option Nat} {mX29_not : Nat → Option Nat} {mX29_open : Nat → Option Nat} {mX29_under : Nat → Option Nat} {mX29_sorted : Nat → Int32} {mX29_placed : Nat → Int32} {mX29_empties : Nat → Int32} {mX29_asked : Nat → Int32} {mX30_fired : Nat → Option Nat} {mX30_many : Nat → Int32} {mX30_facts : Nat → Int32} {mX30_this_0 : Nat → Option Nat} {mX61_left : Nat → Int32} {mX61_right : Nat → Int32} {mX61_gone : Nat → Int32} {mJ1_modCount : Nat → Int32} {mJ2_elementData : Nat → Option Nat} {mJ2_size : Nat → Int32} {a : Nat} {v : Option Nat} (hk : kd a = 2) : va_up (cCS ci d kd an ai al ar mX29_axioms mX29_reasoner mX29_classes mX29_things mX29_thingCount mX29_fuel mX29_above mX29_not mX29_open mX29_under mX29_sorted mX29_placed mX29_empties mX29_asked mX30_fired mX30_many mX30_facts mX30_this_0 mX61_left mX61_right mX61_gone mJ1_modCount mJ2_elementData mJ2_size) a (.inr (ci 1, [va_rf v, .int (mX30_many a), .int (mX30_facts a), va_rf (mX30_this_0 a)])) = (cCS ci d kd an ai al ar mX29_axioms mX29_reasoner mX29_classes mX29_things mX29_thingCount mX29_fuel mX29_above mX29_not mX29_open mX29_under mX29_sorted mX29_placed mX29_empties mX29_asked (va_up mX30_fired a v) mX30_many mX30_facts mX30_this_0 mX61_left mX61_right mX61_gone mJ1_modCount mJ2_elementData mJ2_size) := by
  funext b
  by_cases h : b = a
  · subst h
    rw [va_up_self]
    unfold cCS
    rw [hk]
    simp only [va_up_self]
  · rw [va_up_ne _ _ h]
    unfold cCS
    simp only [va_up_ne _ _ h]
theorem cCS_2_1 {ci : Nat → Nat} {d : Nat → ClassId} {kd : Nat → Nat} {an : Nat → Nat} {ai : Nat → Nat → Int32} {al : Nat → Nat → Int64} {ar : Nat → Nat → Option Nat} {mX29_axioms : Nat → Option Nat} {mX29_reasoner : Nat → Option Nat} {mX29_classes : Nat → Int32} {mX29_things : Nat → Option Nat} {mX29_thingCount : Nat → Int32} {mX29_fuel : Nat → Int32} {mX29_above : Nat → Option Nat} {mX29_not : Nat → Option Nat} {mX29_open : Nat → Option Nat} {mX29_under : Nat → Option Nat} {mX29_sorted : Nat → Int32} {mX29_placed : Nat → Int32} {mX29_empties : Nat → Int32} {mX29_asked : Nat → Int32} {mX30_fired : Nat → Option Nat} {mX30_many : Nat → Int32} {mX30_facts : Nat → Int32} {mX30_this_0 : Nat → Option Nat} {mX61_left : Nat → Int32} {mX61_right : Nat → Int32} {mX61_gone : Nat → Int32} {mJ1_modCount : Nat → Int32} {mJ2_elementData : Nat → Option Nat} {mJ2_size : Nat → Int32} {a : Nat} {v : Int32} (hk : kd a = 2) : va_up (cCS ci d kd an ai al ar mX29_axioms mX29_reasoner mX29_classes mX29_things mX29_thingCount mX29_fuel mX29_above mX29_not mX29_open mX29_under mX29_sorted mX29_placed mX29_empties mX29_asked mX30_fired mX30_many mX30_facts mX30_this_0 mX61_left mX61_right mX61_gone mJ1_modCount mJ2_elementData mJ2_size) a (.inr (ci 1, [va_rf (mX30_fired a), .int v, .int (mX30_facts a), va_rf (mX30_this_0 a)])) = (cCS ci d kd an ai al ar mX29_axioms mX29_reasoner mX29_classes mX29_things mX29_thingCount mX29_fuel mX29_above mX29_not mX29_open mX29_under mX29_sorted mX29_placed mX29_empties mX29_asked mX30_fired (va_up mX30_many a v) mX30_facts mX30_this_0 mX61_left mX61_right mX61_gone mJ1_modCount mJ2_elementData mJ2_size) := by
  funext b
  by_cases h : b = a
  · subst h
    rw [va_up_self]
    unfold cCS
    rw [hk]
    simp only [va_up_self]
  · rw [va_up_ne _ _ h]
    unfold cCS
    simp only [va_up_ne _ _ h]
theorem cCS_2_2 {ci : Nat → Nat} {d : Nat → ClassId} {kd : Nat → Nat} {an : Nat → Nat} {ai : Nat → Nat → Int32} {al : Nat → Nat → Int64} {ar : Nat → Nat → Option Nat} {mX29_axioms : Nat → Option Nat} {mX29_reasoner : Nat → Option Nat} {mX29_classes : Nat → Int32} {mX29_things : Nat → Option Nat} {mX29_thingCount : Nat → Int32} {mX29_fuel : Nat → Int32} {mX29_above : Nat → Option Nat} {mX29_not : Nat → Option Nat} {mX29_open : Nat → Option Nat} {mX29_under : Nat → Option Nat} {mX29_sorted : Nat → Int32} {mX29_placed : Nat → Int32} {mX29_empties : Nat → Int32} {mX29_asked : Nat → Int32} {mX30_fired : Nat → Option Nat} {mX30_many : Nat → Int32} {mX30_facts : Nat → Int32} {mX30_this_0 : Nat → Option Nat} {mX61_left : Nat → Int32} {mX61_right : Nat → Int32} {mX61_gone : Nat → Int32} {mJ1_modCount : Nat → Int32} {mJ2_elementData : Nat → Option Nat} {mJ2_size : Nat → Int32} {a : Nat} {v : Int32} (hk : kd a = 2) : va_up (cCS ci d kd an ai al ar mX29_axioms mX29_reasoner mX29_classes mX29_things mX29_thingCount mX29_fuel mX29_above mX29_not mX29_open mX29_under mX29_sorted mX29_placed mX29_empties mX29_asked mX30_fired mX30_many mX30_facts mX30_this_0 mX61_left mX61_right mX61_gone mJ1_modCount mJ2_elementData mJ2_size) a (.inr (ci 1, [va_rf (mX30_fired a), .int (mX30_many a), .int v, va_rf (mX30_this_0 a)])) = (cCS ci d kd an ai al ar mX29_axioms mX29_reasoner mX29_classes mX29_things mX29_thingCount mX29_fuel mX29_above mX29_not mX29_open mX29_under mX29_sorted mX29_placed mX29_empties mX29_asked mX30_fired mX30_many (va_up mX30_facts a v) mX30_this_0 mX61_left mX61_right mX61_gone mJ1_modCount mJ2_elementData mJ2_size) := by
  funext b
  by_cases h : b = a
  · subst h
    rw [va_up_self]
    unfold cCS
    rw [hk]
    simp only [va_up_self]
  · rw [va_up_ne _ _ h]
    unfold cCS
    simp only [va_up_ne _ _ h]
theorem cCS_2_3 {ci : Nat → Nat} {d : Nat → ClassId} {kd : Nat → Nat} {an : Nat → Nat} {ai : Nat → Nat → Int32} {al : Nat → Nat → Int64} {ar : Nat → Nat → Option Nat} {mX29_axioms : Nat → Option Nat} {mX29_reasoner : Nat → Option Nat} {mX29_classes : Nat → Int32} {mX29_things : Nat → Option Nat} {mX29_thingCount : Nat → Int32} {mX29_fuel : Nat → Int32} {mX29_above : Nat → Option Nat} {mX29_not : Nat → Option Nat} {mX29_open : Nat → Option Nat} {mX29_under : Nat → Option Nat} {mX29_sorted : Nat → Int32} {mX29_placed : Nat → Int32} {mX29_empties : Nat → Int32} {mX29_asked : Nat → Int32} {mX30_fired : Nat → Option Nat} {mX30_many : Nat → Int32} {mX30_facts : Nat → Int32} {mX30_this_0 : Nat → Option Nat} {mX61_left : Nat → Int32} {mX61_right : Nat → Int32} {mX61_gone : Nat → Int32} {mJ1_modCount : Nat → Int32} {mJ2_elementData : Nat → Option Nat} {mJ2_size : Nat → Int32} {a : Nat} {v : Option Nat} (hk : kd a = 2) : va_up (cCS ci d kd an ai al ar mX29_axioms mX29_reasoner mX29_classes mX29_things mX29_thingCount mX29_fuel mX29_above mX29_not mX29_open mX29_under mX29_sorted mX29_placed mX29_empties mX29_asked mX30_fired mX30_many mX30_facts mX30_this_0 mX61_left mX61_right mX61_gone mJ1_modCount mJ2_elementData mJ2_size) a (.inr (ci 1, [va_rf (mX30_fired a), .int (mX30_many a), .int (mX30_facts a), va_rf v])) = (cCS ci d kd an ai al ar mX29_axioms mX29_reasoner mX29_classes mX29_things mX29_thingCount mX29_fuel mX29_above mX29_not mX29_open mX29_under mX29_sorted mX29_placed mX29_empties mX29_asked mX30_fired mX30_many mX30_facts (va_up mX30_this_0 a v) mX61_left mX61_right mX61_gone mJ1_modCount mJ2_elementData mJ2_size) := by
  funext b
  by_cases h : b = a
  · subst h
    rw [va_up_self]
    unfold cCS
    rw [hk]
    simp only [va_up_self]
  · rw [va_up_ne _ _ h]
    unfold cCS
    simp only [va_up_ne _ _ h]
theorem cCS_2_n {ci : Nat → Nat} {d : Nat → ClassId} {kd : Nat → Nat} {an : Nat → Nat} {ai : Nat → Nat → Int32} {al : Nat → Nat → Int64} {ar : Nat → Nat → Option Nat} {mX29_axioms : Nat → Option Nat} {mX29_reasoner : Nat → Option Nat} {mX29_classes : Nat → Int32} {mX29_things : Nat → Option Nat} {mX29_thingCount : Nat → Int32} {mX29_fuel : Nat → Int32} {mX29_above : Nat → Option Nat} {mX29_not : Nat → Option Nat} {mX29_open : Nat → Option Nat} {mX29_under : Nat → Option Nat} {mX29_sorted : Nat → Int32} {mX29_placed : Nat → Int32} {mX29_empties : Nat → Int32} {mX29_asked : Nat → Int32} {mX30_fired : Nat → Option Nat} {mX30_many : Nat → Int32} {mX30_facts : Nat → Int32} {mX30_this_0 : Nat → Option Nat} {mX61_left : Nat → Int32} {mX61_right : Nat → Int32} {mX61_gone : Nat → Int32} {mJ1_modCount : Nat → Int32} {mJ2_elementData : Nat → Option Nat} {mJ2_size : Nat → Int32} (q : Nat) : va_up (cCS ci d kd an ai al ar mX29_axioms mX29_reasoner mX29_classes mX29_things mX29_thingCount mX29_fuel mX29_above mX29_not mX29_open mX29_under mX29_sorted mX29_placed mX29_empties mX29_asked mX30_fired mX30_many mX30_facts mX30_this_0 mX61_left mX61_right mX61_gone mJ1_modCount mJ2_elementData mJ2_size) q (.inr (ci 1, [va_rf none, .int 0, .int 0, va_rf none])) = (cCS ci d (va_up kd q 2) an ai al ar mX29_axioms mX29_reasoner mX29_classes mX29_things mX29_thingCount mX29_fuel mX29_above mX29_not mX29_open mX29_under mX29_sorted mX29_placed mX29_empties mX29_asked (va_up mX30_fired q none) (va_up mX30_many q 0) (va_up mX30_facts q 0) (va_up mX30_this_0 q none) mX61_left mX61_right mX61_gone mJ1_modCount mJ2_elementData mJ2_size) := by
  funext b
  by_cases h : b = q
  · subst h
    rw [va_up_self]
    unfold cCS
    simp only [va_up_self]
  · rw [va_up_ne _ _ h]
    unfold cCS
    simp only [va_up_ne _ _ h]
theorem cCS_3 {ci : Nat → Nat} {d : Nat → ClassId} {kd : Nat → Nat} {an : Nat → Nat} {ai : Nat → Nat → Int32} {al : Nat → Nat → Int64} {ar : Nat → Nat → Option Nat} {mX29_axioms : Nat → Option Nat} {mX29_reasoner : Nat → Option Nat} {mX29_classes : Nat → Int32} {mX29_things : Nat → Option Nat} {mX29_thingCount : Nat → Int32} {mX29_fuel : Nat → Int32} {mX29_above : Nat → Option Nat} {mX29_not : Nat → Option Nat} {mX29_open : Nat → Option Nat} {mX29_under : Nat → Option Nat} {mX29_sorted : Nat → Int32} {mX29_placed : Nat → Int32} {mX29_empties : Nat → Int32} {mX29_asked : Nat → Int32} {mX30_fired : Nat → Option Nat} {mX30_many : Nat → Int32} {mX30_facts : Nat → Int32} {mX30_this_0 : Nat → Option Nat} {mX61_left : Nat → Int32} {mX61_right : Nat → Int32} {mX61_gone : Nat → Int32} {mJ1_modCount : Nat → Int32} {mJ2_elementData : Nat → Option Nat} {mJ2_size : Nat → Int32} {a : Nat} (hk : kd a = 3) : (cCS ci d kd an ai al ar mX29_axioms mX29_reasoner mX29_classes mX29_things mX29_thingCount mX29_fuel mX29_above mX29_not mX29_open mX29_under mX29_sorted mX29_placed mX29_empties mX29_asked mX30_fired mX30_many mX30_facts mX30_this_0 mX61_left mX61_right mX61_gone mJ1_modCount mJ2_elementData mJ2_size) a = .inr (ci 2, [.int (mX61_left a), .int (mX61_right a), .int (mX61_gone a)]) := by unfold cCS; simp only [hk]
theorem cCS_3_0 {ci : Nat → Nat} {d : Nat → ClassId} {kd : Nat → Nat} {an : Nat → Nat} {ai : Nat → Nat → Int32} {al : Nat → Nat → Int64} {ar : Nat → Nat → Option Nat} {mX29_axioms : Nat → Option Nat} {mX29_reasoner : Nat → Option Nat} {mX29_classes : Nat → Int32} {mX29_things : Nat → Option Nat} {mX29_thingCount : Nat → Int32} {mX29_fuel : Nat → Int32} {mX29_above : Nat → Option Nat} {mX29_not : Nat → Option Nat} {mX29_open : Nat → Option Nat} {mX29_under : Nat → Option Nat} {mX29_sorted : Nat → Int32} {mX29_placed : Nat → Int32} {mX29_empties : Nat → Int32} {mX29_asked : Nat → Int32} {mX30_fired : Nat → Option Nat} {mX30_many : Nat → Int32} {mX30_facts : Nat → Int32} {mX30_this_0 : Nat → Option Nat} {mX61_left : Nat → Int32} {mX61_right : Nat → Int32} {mX61_gone : Nat → Int32} {mJ1_modCount : Nat → Int32} {mJ2_elementData : Nat → Option Nat} {mJ2_size : Nat → Int32} {a : Nat} {v : Int32} (hk : kd a = 3) : va_up (cCS ci d kd an ai al ar mX29_axioms mX29_reasoner mX29_classes mX29_things mX29_thingCount mX29_fuel mX29_above mX29_not mX29_open mX29_under mX29_sorted mX29_placed mX29_empties mX29_asked mX30_fired mX30_many mX30_facts mX30_this_0 mX61_left mX61_right mX61_gone mJ1_modCount mJ2_elementData mJ2_size) a (.inr (ci 2, [.int v, .int (mX61_right a), .int (mX61_gone a)])) = (cCS ci d kd an ai al ar mX29_axioms mX29_reasoner mX29_classes mX29_things mX29_thingCount mX29_fuel mX29_above mX29_not mX29_open mX29_under mX29_sorted mX29_placed mX29_empties mX29_asked mX30_fired mX30_many mX30_facts mX30_this_0 (va_up mX61_left a v) mX61_right mX61_gone mJ1_modCount mJ2_elementData mJ2_size) := by
  funext b
  by_cases h : b = a
  · subst h
    rw [va_up_self]
    unfold cCS
    rw [hk]
    simp only [va_up_self]
  · rw [va_up_ne _ _ h]
    unfold cCS
    simp only [va_up_ne _ _ h]
theorem cCS_3_1 {ci : Nat → Nat} {d : Nat → ClassId} {kd : Nat → Nat} {an : Nat → Nat} {ai : Nat → Nat → Int32} {al : Nat → Nat → Int64} {ar : Nat → Nat → Option Nat} {mX29_axioms : Nat → Option Nat} {mX29_reasoner : Nat → Option Nat} {mX29_classes : Nat → Int32} {mX29_things : Nat → Option Nat} {mX29_thingCount : Nat → Int32} {mX29_fuel : Nat → Int32} {mX29_above : Nat → Option Nat} {mX29_not : Nat → Option Nat} {mX29_open : Nat → Option Nat} {mX29_under : Nat → Option Nat} {mX29_sorted : Nat → Int32} {mX29_placed : Nat → Int32} {mX29_empties : Nat → Int32} {mX29_asked : Nat → Int32} {mX30_fired : Nat → Option Nat} {mX30_many : Nat → Int32} {mX30_facts : Nat → Int32} {mX30_this_0 : Nat → Option Nat} {mX61_left : Nat → Int32} {mX61_right : Nat → Int32} {mX61_gone : Nat → Int32} {mJ1_modCount : Nat → Int32} {mJ2_elementData : Nat → Option Nat} {mJ2_size : Nat → Int32} {a : Nat} {v : Int32} (hk : kd a = 3) : va_up (cCS ci d kd an ai al ar mX29_axioms mX29_reasoner mX29_classes mX29_things mX29_thingCount mX29_fuel mX29_above mX29_not mX29_open mX29_under mX29_sorted mX29_placed mX29_empties mX29_asked mX30_fired mX30_many mX30_facts mX30_this_0 mX61_left mX61_right mX61_gone mJ1_modCount mJ2_elementData mJ2_size) a (.inr (ci 2, [.int (mX61_left a), .int v, .int (mX61_gone a)])) = (cCS ci d kd an ai al ar mX29_axioms mX29_reasoner mX29_classes mX29_things mX29_thingCount mX29_fuel mX29_above mX29_not mX29_open mX29_under mX29_sorted mX29_placed mX29_empties mX29_asked mX30_fired mX30_many mX30_facts mX30_this_0 mX61_left (va_up mX61_right a v) mX61_gone mJ1_modCount mJ2_elementData mJ2_size) := by
  funext b
  by_cases h : b = a
  · subst h
    rw [va_up_self]
    unfold cCS
    rw [hk]
    simp only [va_up_self]
  · rw [va_up_ne _ _ h]
    unfold cCS
    simp only [va_up_ne _ _ h]
theorem cCS_3_2 {ci : Nat → Nat} {d : Nat → ClassId} {kd : Nat → Nat} {an : Nat → Nat} {ai : Nat → Nat → Int32} {al : Nat → Nat → Int64} {ar : Nat → Nat → Option Nat} {mX29_axioms : Nat → Option Nat} {mX29_reasoner : Nat → Option Nat} {mX29_classes : Nat → Int32} {mX29_things : Nat → Option Nat} {mX29_thingCount : Nat → Int32} {mX29_fuel : Nat → Int32} {mX29_above : Nat → Option Nat} {mX29_not : Nat → Option Nat} {mX29_open : Nat → Option Nat} {mX29_under : Nat → Option Nat} {mX29_sorted : Nat → Int32} {mX29_placed : Nat → Int32} {mX29_empties : Nat → Int32} {mX29_asked : Nat → Int32} {mX30_fired : Nat → Option Nat} {mX30_many : Nat → Int32} {mX30_facts : Nat → Int32} {mX30_this_0 : Nat → Option Nat} {mX61_left : Nat → Int32} {mX61_right : Nat → Int32} {mX61_gone : Nat → Int32} {mJ1_modCount : Nat → Int32} {mJ2_elementData : Nat → Option Nat} {mJ2_size : Nat → Int32} {a : Nat} {v : Int32} (hk : kd a = 3) : va_up (cCS ci d kd an ai al ar mX29_axioms mX29_reasoner mX29_classes mX29_things mX29_thingCount mX29_fuel mX29_above mX29_not mX29_open mX29_under mX29_sorted mX29_placed mX29_empties mX29_asked mX30_fired mX30_many mX30_facts mX30_this_0 mX61_left mX61_right mX61_gone mJ1_modCount mJ2_elementData mJ2_size) a (.inr (ci 2, [.int (mX61_left a), .int (mX61_right a), .int v])) = (cCS ci d kd an ai al ar mX29_axioms mX29_reasoner mX29_classes mX29_things mX29_thingCount mX29_fuel mX29_above mX29_not mX29_open mX29_under mX29_sorted mX29_placed mX29_empties mX29_asked mX30_fired mX30_many mX30_facts mX30_this_0 mX61_left mX61_right (va_up mX61_gone a v) mJ1_modCount mJ2_elementData mJ2_size) := by
  funext b
  by_cases h : b = a
  · subst h
    rw [va_up_self]
    unfold cCS
    rw [hk]
    simp only [va_up_self]
  · rw [va_up_ne _ _ h]
    unfold cCS
    simp only [va_up_ne _ _ h]
theorem cCS_3_n {ci : Nat → Nat} {d : Nat → ClassId} {kd : Nat → Nat} {an : Nat → Nat} {ai : Nat → Nat → Int32} {al : Nat → Nat → Int64} {ar : Nat → Nat → Option Nat} {mX29_axioms : Nat → Option Nat} {mX29_reasoner : Nat → Option Nat} {mX29_classes : Nat → Int32} {mX29_things : Nat → Option Nat} {mX29_thingCount : Nat → Int32} {mX29_fuel : Nat → Int32} {mX29_above : Nat → Option Nat} {mX29_not : Nat → Option Nat} {mX29_open : Nat → Option Nat} {mX29_under : Nat → Option Nat} {mX29_sorted : Nat → Int32} {mX29_placed : Nat → Int32} {mX29_empties : Nat → Int32} {mX29_asked : Nat → Int32} {mX30_fired : Nat → Option Nat} {mX30_many : Nat → Int32} {mX30_facts : Nat → Int32} {mX30_this_0 : Nat → Option Nat} {mX61_left : Nat → Int32} {mX61_right : Nat → Int32} {mX61_gone : Nat → Int32} {mJ1_modCount : Nat → Int32} {mJ2_elementData : Nat → Option Nat} {mJ2_size : Nat → Int32} (q : Nat) : va_up (cCS ci d kd an ai al ar mX29_axioms mX29_reasoner mX29_classes mX29_things mX29_thingCount mX29_fuel mX29_above mX29_not mX29_open mX29_under mX29_sorted mX29_placed mX29_empties mX29_asked mX30_fired mX30_many mX30_facts mX30_this_0 mX61_left mX61_right mX61_gone mJ1_modCount mJ2_elementData mJ2_size) q (.inr (ci 2, [.int 0, .int 0, .int 0])) = (cCS ci d (va_up kd q 3) an ai al ar mX29_axioms mX29_reasoner mX29_classes mX29_things mX29_thingCount mX29_fuel mX29_above mX29_not mX29_open mX29_under mX29_sorted mX29_placed mX29_empties mX29_asked mX30_fired mX30_many mX30_facts mX30_this_0 (va_up mX61_left q 0) (va_up mX61_right q 0) (va_up mX61_gone q 0) mJ1_modCount mJ2_elementData mJ2_size) := by
  funext b
  by_cases h : b = q
  · subst h
    rw [va_up_self]
    unfold cCS
    simp only [va_up_self]
  · rw [va_up_ne _ _ h]
    unfold cCS
    simp only [va_up_ne _ _ h]
theorem cCS_4 {ci : Nat → Nat} {d : Nat → ClassId} {kd : Nat → Nat} {an : Nat → Nat} {ai : Nat → Nat → Int32} {al : Nat → Nat → Int64} {ar : Nat → Nat → Option Nat} {mX29_axioms : Nat → Option Nat} {mX29_reasoner : Nat → Option Nat} {mX29_classes : Nat → Int32} {mX29_things : Nat → Option Nat} {mX29_thingCount : Nat → Int32} {mX29_fuel : Nat → Int32} {mX29_above : Nat → Option Nat} {mX29_not : Nat → Option Nat} {mX29_open : Nat → Option Nat} {mX29_under : Nat → Option Nat} {mX29_sorted : Nat → Int32} {mX29_placed : Nat → Int32} {mX29_empties : Nat → Int32} {mX29_asked : Nat → Int32} {mX30_fired : Nat → Option Nat} {mX30_many : Nat → Int32} {mX30_facts : Nat → Int32} {mX30_this_0 : Nat → Option Nat} {mX61_left : Nat → Int32} {mX61_right : Nat → Int32} {mX61_gone : Nat → Int32} {mJ1_modCount : Nat → Int32} {mJ2_elementData : Nat → Option Nat} {mJ2_size : Nat → Int32} {a : Nat} (hk : kd a = 4) : (cCS ci d kd an ai al ar mX29_axioms mX29_reasoner mX29_classes mX29_things mX29_thingCount mX29_fuel mX29_above mX29_not mX29_open mX29_under mX29_sorted mX29_placed mX29_empties mX29_asked mX30_fired mX30_many mX30_facts mX30_this_0 mX61_left mX61_right mX61_gone mJ1_modCount mJ2_elementData mJ2_size) a = .inr (ci 3, [.int (mJ1_modCount a), va_rf (mJ2_elementData a), .int (mJ2_size a)]) := by unfold cCS; simp only [hk]
theorem cCS_4_0 {ci : Nat → Nat} {d : Nat → ClassId} {kd : Nat → Nat} {an : Nat → Nat} {ai : Nat → Nat → Int32} {al : Nat → Nat → Int64} {ar : Nat → Nat → Option Nat} {mX29_axioms : Nat → Option Nat} {mX29_reasoner : Nat → Option Nat} {mX29_classes : Nat → Int32} {mX29_things : Nat → Option Nat} {mX29_thingCount : Nat → Int32} {mX29_fuel : Nat → Int32} {mX29_above : Nat → Option Nat} {mX29_not : Nat → Option Nat} {mX29_open : Nat → Option Nat} {mX29_under : Nat → Option Nat} {mX29_sorted : Nat → Int32} {mX29_placed : Nat → Int32} {mX29_empties : Nat → Int32} {mX29_asked : Nat → Int32} {mX30_fired : Nat → Option Nat} {mX30_many : Nat → Int32} {mX30_facts : Nat → Int32} {mX30_this_0 : Nat → Option Nat} {mX61_left : Nat → Int32} {mX61_right : Nat → Int32} {mX61_gone : Nat → Int32} {mJ1_modCount : Nat → Int32} {mJ2_elementData : Nat → Option Nat} {mJ2_size : Nat → Int32} {a : Nat} {v : Int32} (hk : kd a = 4) : va_up (cCS ci d kd an ai al ar mX29_axioms mX29_reasoner mX29_classes mX29_things mX29_thingCount mX29_fuel mX29_above mX29_not mX29_open mX29_under mX29_sorted mX29_placed mX29_empties mX29_asked mX30_fired mX30_many mX30_facts mX30_this_0 mX61_left mX61_right mX61_gone mJ1_modCount mJ2_elementData mJ2_size) a (.inr (ci 3, [.int v, va_rf (mJ2_elementData a), .int (mJ2_size a)])) = (cCS ci d kd an ai al ar mX29_axioms mX29_reasoner mX29_classes mX29_things mX29_thingCount mX29_fuel mX29_above mX29_not mX29_open mX29_under mX29_sorted mX29_placed mX29_empties mX29_asked mX30_fired mX30_many mX30_facts mX30_this_0 mX61_left mX61_right mX61_gone (va_up mJ1_modCount a v) mJ2_elementData mJ2_size) := by
  funext b
  by_cases h : b = a
  · subst h
    rw [va_up_self]
    unfold cCS
    rw [hk]
    simp only [va_up_self]
  · rw [va_up_ne _ _ h]
    unfold cCS
    simp only [va_up_ne _ _ h]
theorem cCS_4_1 {ci : Nat → Nat} {d : Nat → ClassId} {kd : Nat → Nat} {an : Nat → Nat} {ai : Nat → Nat → Int32} {al : Nat → Nat → Int64} {ar : Nat → Nat → Option Nat} {mX29_axioms : Nat → Option Nat} {mX29_reasoner : Nat → Option Nat} {mX29_classes : Nat → Int32} {mX29_things : Nat → Option Nat} {mX29_thingCount : Nat → Int32} {mX29_fuel : Nat → Int32} {mX29_above : Nat → Option Nat} {mX29_not : Nat → Option Nat} {mX29_open : Nat → Option Nat} {mX29_under : Nat → Option Nat} {mX29_sorted : Nat → Int32} {mX29_placed : Nat → Int32} {mX29_empties : Nat → Int32} {mX29_asked : Nat → Int32} {mX30_fired : Nat → Option Nat} {mX30_many : Nat → Int32} {mX30_facts : Nat → Int32} {mX30_this_0 : Nat → Option Nat} {mX61_left : Nat → Int32} {mX61_right : Nat → Int32} {mX61_gone : Nat → Int32} {mJ1_modCount : Nat → Int32} {mJ2_elementData : Nat → Option Nat} {mJ2_size : Nat → Int32} {a : Nat} {v : Option Nat} (hk : kd a = 4) : va_up (cCS ci d kd an ai al ar mX29_axioms mX29_reasoner mX29_classes mX29_things mX29_thingCount mX29_fuel mX29_above mX29_not mX29_open mX29_under mX29_sorted mX29_placed mX29_empties mX29_asked mX30_fired mX30_many mX30_facts mX30_this_0 mX61_left mX61_right mX61_gone mJ1_modCount mJ2_elementData mJ2_size) a (.inr (ci 3, [.int (mJ1_modCount a), va_rf v, .int (mJ2_size a)])) = (cCS ci d kd an ai al ar mX29_axioms mX29_reasoner mX29_classes mX29_things mX29_thingCount mX29_fuel mX29_above mX29_not mX29_open mX29_under mX29_sorted mX29_placed mX29_empties mX29_asked mX30_fired mX30_many mX30_facts mX30_this_0 mX61_left mX61_right mX61_gone mJ1_modCount (va_up mJ2_elementData a v) mJ2_size) := by
  funext b
  by_cases h : b = a
  · subst h
    rw [va_up_self]
    unfold cCS
    rw [hk]
    simp only [va_up_self]
  · rw [va_up_ne _ _ h]
    unfold cCS
    simp only [va_up_ne _ _ h]
theorem cCS_4_2 {ci : Nat → Nat} {d : Nat → ClassId} {kd : Nat → Nat} {an : Nat → Nat} {ai : Nat → Nat → Int32} {al : Nat → Nat → Int64} {ar : Nat → Nat → Option Nat} {mX29_axioms : Nat → Option Nat} {mX29_reasoner : Nat → Option Nat} {mX29_classes : Nat → Int32} {mX29_things : Nat → Option Nat} {mX29_thingCount : Nat → Int32} {mX29_fuel : Nat → Int32} {mX29_above : Nat → Option Nat} {mX29_not : Nat → Option Nat} {mX29_open : Nat → Option Nat} {mX29_under : Nat → Option Nat} {mX29_sorted : Nat → Int32} {mX29_placed : Nat → Int32} {mX29_empties : Nat → Int32} {mX29_asked : Nat → Int32} {mX30_fired : Nat → Option Nat} {mX30_many : Nat → Int32} {mX30_facts : Nat → Int32} {mX30_this_0 : Nat → Option Nat} {mX61_left : Nat → Int32} {mX61_right : Nat → Int32} {mX61_gone : Nat → Int32} {mJ1_modCount : Nat → Int32} {mJ2_elementData : Nat → Option Nat} {mJ2_size : Nat → Int32} {a : Nat} {v : Int32} (hk : kd a = 4) : va_up (cCS ci d kd an ai al ar mX29_axioms mX29_reasoner mX29_classes mX29_things mX29_thingCount mX29_fuel mX29_above mX29_not mX29_open mX29_under mX29_sorted mX29_placed mX29_empties mX29_asked mX30_fired mX30_many mX30_facts mX30_this_0 mX61_left mX61_right mX61_gone mJ1_modCount mJ2_elementData mJ2_size) a (.inr (ci 3, [.int (mJ1_modCount a), va_rf (mJ2_elementData a), .int v])) = (cCS ci d kd an ai al ar mX29_axioms mX29_reasoner mX29_classes mX29_things mX29_thingCount mX29_fuel mX29_above mX29_not mX29_open mX29_under mX29_sorted mX29_placed mX29_empties mX29_asked mX30_fired mX30_many mX30_facts mX30_this_0 mX61_left mX61_right mX61_gone mJ1_modCount mJ2_elementData (va_up mJ2_size a v)) := by
  funext b
  by_cases h : b = a
  · subst h
    rw [va_up_self]
    unfold cCS
    rw [hk]
    simp only [va_up_self]
  · rw [va_up_ne _ _ h]
    unfold cCS
    simp only [va_up_ne _ _ h]
theorem cCS_4_n {ci : Nat → Nat} {d : Nat → ClassId} {kd : Nat → Nat} {an : Nat → Nat} {ai : Nat → Nat → Int32} {al : Nat → Nat → Int64} {ar : Nat → Nat → Option Nat} {mX29_axioms : Nat → Option Nat} {mX29_reasoner : Nat → Option Nat} {mX29_classes : Nat → Int32} {mX29_things : Nat → Option Nat} {mX29_thingCount : Nat → Int32} {mX29_fuel : Nat → Int32} {mX29_above : Nat → Option Nat} {mX29_not : Nat → Option Nat} {mX29_open : Nat → Option Nat} {mX29_under : Nat → Option Nat} {mX29_sorted : Nat → Int32} {mX29_placed : Nat → Int32} {mX29_empties : Nat → Int32} {mX29_asked : Nat → Int32} {mX30_fired : Nat → Option Nat} {mX30_many : Nat → Int32} {mX30_facts : Nat → Int32} {mX30_this_0 : Nat → Option Nat} {mX61_left : Nat → Int32} {mX61_right : Nat → Int32} {mX61_gone : Nat → Int32} {mJ1_modCount : Nat → Int32} {mJ2_elementData : Nat → Option Nat} {mJ2_size : Nat → Int32} (q : Nat) : va_up (cCS ci d kd an ai al ar mX29_axioms mX29_reasoner mX29_classes mX29_things mX29_thingCount mX29_fuel mX29_above mX29_not mX29_open mX29_under mX29_sorted mX29_placed mX29_empties mX29_asked mX30_fired mX30_many mX30_facts mX30_this_0 mX61_left mX61_right mX61_gone mJ1_modCount mJ2_elementData mJ2_size) q (.inr (ci 3, [.int 0, va_rf none, .int 0])) = (cCS ci d (va_up kd q 4) an ai al ar mX29_axioms mX29_reasoner mX29_classes mX29_things mX29_thingCount mX29_fuel mX29_above mX29_not mX29_open mX29_under mX29_sorted mX29_placed mX29_empties mX29_asked mX30_fired mX30_many mX30_facts mX30_this_0 mX61_left mX61_right mX61_gone (va_up mJ1_modCount q 0) (va_up mJ2_elementData q none) (va_up mJ2_size q 0)) := by
  funext b
  by_cases h : b = q
  · subst h
    rw [va_up_self]
    unfold cCS
    simp only [va_up_self]
  · rw [va_up_ne _ _ h]
    unfold cCS
    simp only [va_up_ne _ _ h]
theorem cCS_5 {ci : Nat → Nat} {d : Nat → ClassId} {kd : Nat → Nat} {an : Nat → Nat} {ai : Nat → Nat → Int32} {al : Nat → Nat → Int64} {ar : Nat → Nat → Option Nat} {mX29_axioms : Nat → Option Nat} {mX29_reasoner : Nat → Option Nat} {mX29_classes : Nat → Int32} {mX29_things : Nat → Option Nat} {mX29_thingCount : Nat → Int32} {mX29_fuel : Nat → Int32} {mX29_above : Nat → Option Nat} {mX29_not : Nat → Option Nat} {mX29_open : Nat → Option Nat} {mX29_under : Nat → Option Nat} {mX29_sorted : Nat → Int32} {mX29_placed : Nat → Int32} {mX29_empties : Nat → Int32} {mX29_asked : Nat → Int32} {mX30_fired : Nat → Option Nat} {mX30_many : Nat → Int32} {mX30_facts : Nat → Int32} {mX30_this_0 : Nat → Option Nat} {mX61_left : Nat → Int32} {mX61_right : Nat → Int32} {mX61_gone : Nat → Int32} {mJ1_modCount : Nat → Int32} {mJ2_elementData : Nat → Option Nat} {mJ2_size : Nat → Int32} {a : Nat} (hk : kd a = 5) : (cCS ci d kd an ai al ar mX29_axioms mX29_reasoner mX29_classes mX29_things mX29_thingCount mX29_fuel mX29_above mX29_not mX29_open mX29_under mX29_sorted mX29_placed mX29_empties mX29_asked mX30_fired mX30_many mX30_facts mX30_this_0 mX61_left mX61_right mX61_gone mJ1_modCount mJ2_elementData mJ2_size) a = .inl (d 0, an a, .inl (ai a)) := by unfold cCS; simp only [hk]
theorem cCS_5_s {ci : Nat → Nat} {d : Nat → ClassId} {kd : Nat → Nat} {an : Nat → Nat} {ai : Nat → Nat → Int32} {al : Nat → Nat → Int64} {ar : Nat → Nat → Option Nat} {mX29_axioms : Nat → Option Nat} {mX29_reasoner : Nat → Option Nat} {mX29_classes : Nat → Int32} {mX29_things : Nat → Option Nat} {mX29_thingCount : Nat → Int32} {mX29_fuel : Nat → Int32} {mX29_above : Nat → Option Nat} {mX29_not : Nat → Option Nat} {mX29_open : Nat → Option Nat} {mX29_under : Nat → Option Nat} {mX29_sorted : Nat → Int32} {mX29_placed : Nat → Int32} {mX29_empties : Nat → Int32} {mX29_asked : Nat → Int32} {mX30_fired : Nat → Option Nat} {mX30_many : Nat → Int32} {mX30_facts : Nat → Int32} {mX30_this_0 : Nat → Option Nat} {mX61_left : Nat → Int32} {mX61_right : Nat → Int32} {mX61_gone : Nat → Int32} {mJ1_modCount : Nat → Int32} {mJ2_elementData : Nat → Option Nat} {mJ2_size : Nat → Int32} {a : Nat} {g : Nat → Int32} (hk : kd a = 5) : va_up (cCS ci d kd an ai al ar mX29_axioms mX29_reasoner mX29_classes mX29_things mX29_thingCount mX29_fuel mX29_above mX29_not mX29_open mX29_under mX29_sorted mX29_placed mX29_empties mX29_asked mX30_fired mX30_many mX30_facts mX30_this_0 mX61_left mX61_right mX61_gone mJ1_modCount mJ2_elementData mJ2_size) a (.inl (d 0, an a, .inl g)) = (cCS ci d kd an (va_up ai a g) al ar mX29_axioms mX29_reasoner mX29_classes mX29_things mX29_thingCount mX29_fuel mX29_above mX29_not mX29_open mX29_under mX29_sorted mX29_placed mX29_empties mX29_asked mX30_fired mX30_many mX30_facts mX30_this_0 mX61_left mX61_right mX61_gone mJ1_modCount mJ2_elementData mJ2_size) := by
  funext b
  by_cases h : b = a
  · subst h
    rw [va_up_self]
    unfold cCS
    rw [hk]
    simp only [va_up_self]
  · rw [va_up_ne _ _ h]
    unfold cCS
    simp only [va_up_ne _ _ h]
theorem cCS_5_n {ci : Nat → Nat} {d : Nat → ClassId} {kd : Nat → Nat} {an : Nat → Nat} {ai : Nat → Nat → Int32} {al : Nat → Nat → Int64} {ar : Nat → Nat → Option Nat} {mX29_axioms : Nat → Option Nat} {mX29_reasoner : Nat → Option Nat} {mX29_classes : Nat → Int32} {mX29_things : Nat → Option Nat} {mX29_thingCount : Nat → Int32} {mX29_fuel : Nat → Int32} {mX29_above : Nat → Option Nat} {mX29_not : Nat → Option Nat} {mX29_open : Nat → Option Nat} {mX29_under : Nat → Option Nat} {mX29_sorted : Nat → Int32} {mX29_placed : Nat → Int32} {mX29_empties : Nat → Int32} {mX29_asked : Nat → Int32} {mX30_fired : Nat → Option Nat} {mX30_many : Nat → Int32} {mX30_facts : Nat → Int32} {mX30_this_0 : Nat → Option Nat} {mX61_left : Nat → Int32} {mX61_right : Nat → Int32} {mX61_gone : Nat → Int32} {mJ1_modCount : Nat → Int32} {mJ2_elementData : Nat → Option Nat} {mJ2_size : Nat → Int32} (n q : Nat) : va_up (cCS ci d kd an ai al ar mX29_axioms mX29_reasoner mX29_classes mX29_things mX29_thingCount mX29_fuel mX29_above mX29_not mX29_open mX29_under mX29_sorted mX29_placed mX29_empties mX29_asked mX30_fired mX30_many mX30_facts mX30_this_0 mX61_left mX61_right mX61_gone mJ1_modCount mJ2_elementData mJ2_size) q (.inl (d 0, n, .inl (fun _ => 0))) = (cCS ci d (va_up kd q 5) (va_up an q n) (va_up ai q (fun _ => 0)) al ar mX29_axioms mX29_reasoner mX29_classes mX29_things mX29_thingCount mX29_fuel mX29_above mX29_not mX29_open mX29_under mX29_sorted mX29_placed mX29_empties mX29_asked mX30_fired mX30_many mX30_facts mX30_this_0 mX61_left mX61_right mX61_gone mJ1_modCount mJ2_elementData mJ2_size) := by
  funext b
  by_cases h : b = q
  · subst h
    rw [va_up_self]
    unfold cCS
    simp only [va_up_self]
  · rw [va_up_ne _ _ h]
    unfold cCS
    simp only [va_up_ne _ _ h]
theorem cCS_6 {ci : Nat → Nat} {d : Nat → ClassId} {kd : Nat → Nat} {an : Nat → Nat} {ai : Nat → Nat → Int32} {al : Nat → Nat → Int64} {ar : Nat → Nat → Option Nat} {mX29_axioms : Nat → Option Nat} {mX29_reasoner : Nat → Option Nat} {mX29_classes : Nat → Int32} {mX29_things : Nat → Option Nat} {mX29_thingCount : Nat → Int32} {mX29_fuel : Nat → Int32} {mX29_above : Nat → Option Nat} {mX29_not : Nat → Option Nat} {mX29_open : Nat → Option Nat} {mX29_under : Nat → Option Nat} {mX29_sorted : Nat → Int32} {mX29_placed : Nat → Int32} {mX29_empties : Nat → Int32} {mX29_asked : Nat → Int32} {mX30_fired : Nat → Option Nat} {mX30_many : Nat → Int32} {mX30_facts : Nat → Int32} {mX30_this_0 : Nat → Option Nat} {mX61_left : Nat → Int32} {mX61_right : Nat → Int32} {mX61_gone : Nat → Int32} {mJ1_modCount : Nat → Int32} {mJ2_elementData : Nat → Option Nat} {mJ2_size : Nat → Int32} {a : Nat} (hk : kd a = 6) : (cCS ci d kd an ai al ar mX29_axioms mX29_reasoner mX29_classes mX29_things mX29_thingCount mX29_fuel mX29_above mX29_not mX29_open mX29_under mX29_sorted mX29_placed mX29_empties mX29_asked mX30_fired mX30_many mX30_facts mX30_this_0 mX61_left mX61_right mX61_gone mJ1_modCount mJ2_elementData mJ2_size) a = .inl (d 1, an a, .inl (ai a)) := by unfold cCS; simp only [hk]
theorem cCS_6_s {ci : Nat → Nat} {d : Nat → ClassId} {kd : Nat → Nat} {an : Nat → Nat} {ai : Nat → Nat → Int32} {al : Nat → Nat → Int64} {ar : Nat → Nat → Option Nat} {mX29_axioms : Nat → Option Nat} {mX29_reasoner : Nat → Option Nat} {mX29_classes : Nat → Int32} {mX29_things : Nat → Option Nat} {mX29_thingCount : Nat → Int32} {mX29_fuel : Nat → Int32} {mX29_above : Nat → Option Nat} {mX29_not : Nat → Option Nat} {mX29_open : Nat → Option Nat} {mX29_under : Nat → Option Nat} {mX29_sorted : Nat → Int32} {mX29_placed : Nat → Int32} {mX29_empties : Nat → Int32} {mX29_asked : Nat → Int32} {mX30_fired : Nat → Option Nat} {mX30_many : Nat → Int32} {mX30_facts : Nat → Int32} {mX30_this_0 : Nat → Option Nat} {mX61_left : Nat → Int32} {mX61_right : Nat → Int32} {mX61_gone : Nat → Int32} {mJ1_modCount : Nat → Int32} {mJ2_elementData : Nat → Option Nat} {mJ2_size : Nat → Int32} {a : Nat} {g : Nat → Int32} (hk : kd a = 6) : va_up (cCS ci d kd an ai al ar mX29_axioms mX29_reasoner mX29_classes mX29_things mX29_thingCount mX29_fuel mX29_above mX29_not mX29_open mX29_under mX29_sorted mX29_placed mX29_empties mX29_asked mX30_fired mX30_many mX30_facts mX30_this_0 mX61_left mX61_right mX61_gone mJ1_modCount mJ2_elementData mJ2_size) a (.inl (d 1, an a, .inl g)) = (cCS ci d kd an (va_up ai a g) al ar mX29_axioms mX29_reasoner mX29_classes mX29_things mX29_thingCount mX29_fuel mX29_above mX29_not mX29_open mX29_under mX29_sorted mX29_placed mX29_empties mX29_asked mX30_fired mX30_many mX30_facts mX30_this_0 mX61_left mX61_right mX61_gone mJ1_modCount mJ2_elementData mJ2_size) := by
  funext b
  by_cases h : b = a
  · subst h
    rw [va_up_self]
    unfold cCS
    rw [hk]
    simp only [va_up_self]
  · rw [va_up_ne _ _ h]
    unfold cCS
    simp only [va_up_ne _ _ h]
theorem cCS_6_n {ci : Nat → Nat} {d : Nat → ClassId} {kd : Nat → Nat} {an : Nat → Nat} {ai : Nat → Nat → Int32} {al : Nat → Nat → Int64} {ar : Nat → Nat → Option Nat} {mX29_axioms : Nat → Option Nat} {mX29_reasoner : Nat → Option Nat} {mX29_classes : Nat → Int32} {mX29_things : Nat → Option Nat} {mX29_thingCount : Nat → Int32} {mX29_fuel : Nat → Int32} {mX29_above : Nat → Option Nat} {mX29_not : Nat → Option Nat} {mX29_open : Nat → Option Nat} {mX29_under : Nat → Option Nat} {mX29_sorted : Nat → Int32} {mX29_placed : Nat → Int32} {mX29_empties : Nat → Int32} {mX29_asked : Nat → Int32} {mX30_fired : Nat → Option Nat} {mX30_many : Nat → Int32} {mX30_facts : Nat → Int32} {mX30_this_0 : Nat → Option Nat} {mX61_left : Nat → Int32} {mX61_right : Nat → Int32} {mX61_gone : Nat → Int32} {mJ1_modCount : Nat → Int32} {mJ2_elementData : Nat → Option Nat} {mJ2_size : Nat → Int32} (n q : Nat) : va_up (cCS ci d kd an ai al ar mX29_axioms mX29_reasoner mX29_classes mX29_things mX29_thingCount mX29_fuel mX29_above mX29_not mX29_open mX29_under mX29_sorted mX29_placed mX29_empties mX29_asked mX30_fired mX30_many mX30_facts mX30_this_0 mX61_left mX61_right mX61_gone mJ1_modCount mJ2_elementData mJ2_size) q (.inl (d 1, n, .inl (fun _ => 0))) = (cCS ci d (va_up kd q 6) (va_up an q n) (va_up ai q (fun _ => 0)) al ar mX29_axioms mX29_reasoner mX29_classes mX29_things mX29_thingCount mX29_fuel mX29_above mX29_not mX29_open mX29_under mX29_sorted mX29_placed mX29_empties mX29_asked mX30_fired mX30_many mX30_facts mX30_this_0 mX61_left mX61_right mX61_gone mJ1_modCount mJ2_elementData mJ2_size) := by
  funext b
  by_cases h : b = q
  · subst h
    rw [va_up_self]
    unfold cCS
    simp only [va_up_self]
  · rw [va_up_ne _ _ h]
    unfold cCS
    simp only [va_up_ne _ _ h]
theorem cCS_7 {ci : Nat → Nat} {d : Nat → ClassId} {kd : Nat → Nat} {an : Nat → Nat} {ai : Nat → Nat → Int32} {al : Nat → Nat → Int64} {ar : Nat → Nat → Option Nat} {mX29_axioms : Nat → Option Nat} {mX29_reasoner : Nat → Option Nat} {mX29_classes : Nat → Int32} {mX29_things : Nat → Option Nat} {mX29_thingCount : Nat → Int32} {mX29_fuel : Nat → Int32} {mX29_above : Nat → Option Nat} {mX29_not : Nat → Option Nat} {mX29_open : Nat → Option Nat} {mX29_under : Nat → Option Nat} {mX29_sorted : Nat → Int32} {mX29_placed : Nat → Int32} {mX29_empties : Nat → Int32} {mX29_asked : Nat → Int32} {mX30_fired : Nat → Option Nat} {mX30_many : Nat → Int32} {mX30_facts : Nat → Int32} {mX30_this_0 : Nat → Option Nat} {mX61_left : Nat → Int32} {mX61_right : Nat → Int32} {mX61_gone : Nat → Int32} {mJ1_modCount : Nat → Int32} {mJ2_elementData : Nat → Option Nat} {mJ2_size : Nat → Int32} {a : Nat} (hk : kd a = 7) : (cCS ci d kd an ai al ar mX29_axioms mX29_reasoner mX29_classes mX29_things mX29_thingCount mX29_fuel mX29_above mX29_not mX29_open mX29_under mX29_sorted mX29_placed mX29_empties mX29_asked mX30_fired mX30_many mX30_facts mX30_this_0 mX61_left mX61_right mX61_gone mJ1_modCount mJ2_elementData mJ2_size) a = .inl (d 2, an a, .inl (ai a)) := by unfold cCS; simp only [hk]
theorem cCS_7_s {ci : Nat → Nat} {d : Nat → ClassId} {kd : Nat → Nat} {an : Nat → Nat} {ai : Nat → Nat → Int32} {al : Nat → Nat → Int64} {ar : Nat → Nat → Option Nat} {mX29_axioms : Nat → Option Nat} {mX29_reasoner : Nat → Option Nat} {mX29_classes : Nat → Int32} {mX29_things : Nat → Option Nat} {mX29_thingCount : Nat → Int32} {mX29_fuel : Nat → Int32} {mX29_above : Nat → Option Nat} {mX29_not : Nat → Option Nat} {mX29_open : Nat → Option Nat} {mX29_under : Nat → Option Nat} {mX29_sorted : Nat → Int32} {mX29_placed : Nat → Int32} {mX29_empties : Nat → Int32} {mX29_asked : Nat → Int32} {mX30_fired : Nat → Option Nat} {mX30_many : Nat → Int32} {mX30_facts : Nat → Int32} {mX30_this_0 : Nat → Option Nat} {mX61_left : Nat → Int32} {mX61_right : Nat → Int32} {mX61_gone : Nat → Int32} {mJ1_modCount : Nat → Int32} {mJ2_elementData : Nat → Option Nat} {mJ2_size : Nat → Int32} {a : Nat} {g : Nat → Int32} (hk : kd a = 7) : va_up (cCS ci d kd an ai al ar mX29_axioms mX29_reasoner mX29_classes mX29_things mX29_thingCount mX29_fuel mX29_above mX29_not mX29_open mX29_under mX29_sorted mX29_placed mX29_empties mX29_asked mX30_fired mX30_many mX30_facts mX30_this_0 mX61_left mX61_right mX61_gone mJ1_modCount mJ2_elementData mJ2_size) a (.inl (d 2, an a, .inl g)) = (cCS ci d kd an (va_up ai a g) al ar mX29_axioms mX29_reasoner mX29_classes mX29_things mX29_thingCount mX29_fuel mX29_above mX29_not mX29_open mX29_under mX29_sorted mX29_placed mX29_empties mX29_asked mX30_fired mX30_many mX30_facts mX30_this_0 mX61_left mX61_right mX61_gone mJ1_modCount mJ2_elementData mJ2_size) := by
  funext b
  by_cases h : b = a
  · subst h
    rw [va_up_self]
    unfold cCS
    rw [hk]
    simp only [va_up_self]
  · rw [va_up_ne _ _ h]
    unfold cCS
    simp only [va_up_ne _ _ h]
theorem cCS_7_n {ci : Nat → Nat} {d : Nat → ClassId} {kd : Nat → Nat} {an : Nat → Nat} {ai : Nat → Nat → Int32} {al : Nat → Nat → Int64} {ar : Nat → Nat → Option Nat} {mX29_axioms : Nat → Option Nat} {mX29_reasoner : Nat → Option Nat} {mX29_classes : Nat → Int32} {mX29_things : Nat → Option Nat} {mX29_thingCount : Nat → Int32} {mX29_fuel : Nat → Int32} {mX29_above : Nat → Option Nat} {mX29_not : Nat → Option Nat} {mX29_open : Nat → Option Nat} {mX29_under : Nat → Option Nat} {mX29_sorted : Nat → Int32} {mX29_placed : Nat → Int32} {mX29_empties : Nat → Int32} {mX29_asked : Nat → Int32} {mX30_fired : Nat → Option Nat} {mX30_many : Nat → Int32} {mX30_facts : Nat → Int32} {mX30_this_0 : Nat → Option Nat} {mX61_left : Nat → Int32} {mX61_right : Nat → Int32} {mX61_gone : Nat → Int32} {mJ1_modCount : Nat → Int32} {mJ2_elementData : Nat → Option Nat} {mJ2_size : Nat → Int32} (n q : Nat) : va_up (cCS ci d kd an ai al ar mX29_axioms mX29_reasoner mX29_classes mX29_things mX29_thingCount mX29_fuel mX29_above mX29_not mX29_open mX29_under mX29_sorted mX29_placed mX29_empties mX29_asked mX30_fired mX30_many mX30_facts mX30_this_0 mX61_left mX61_right mX61_gone mJ1_modCount mJ2_elementData mJ2_size) q (.inl (d 2, n, .inl (fun _ => 0))) = (cCS ci d (va_up kd q 7) (va_up an q n) (va_up ai q (fun _ => 0)) al ar mX29_axioms mX29_reasoner mX29_classes mX29_things mX29_thingCount mX29_fuel mX29_above mX29_not mX29_open mX29_under mX29_sorted mX29_placed mX29_empties mX29_asked mX30_fired mX30_many mX30_facts mX30_this_0 mX61_left mX61_right mX61_gone mJ1_modCount mJ2_elementData mJ2_size) := by
  funext b
  by_cases h : b = q
  · subst h
    rw [va_up_self]
    unfold cCS
    simp only [va_up_self]
  · rw [va_up_ne _ _ h]
    unfold cCS
    simp only [va_up_ne _ _ h]
theorem cCS_8 {ci : Nat → Nat} {d : Nat → ClassId} {kd : Nat → Nat} {an : Nat → Nat} {ai : Nat → Nat → Int32} {al : Nat → Nat → Int64} {ar : Nat → Nat → Option Nat} {mX29_axioms : Nat → Option Nat} {mX29_reasoner : Nat → Option Nat} {mX29_classes : Nat → Int32} {mX29_things : Nat → Option Nat} {mX29_thingCount : Nat → Int32} {mX29_fuel : Nat → Int32} {mX29_above : Nat → Option Nat} {mX29_not : Nat → Option Nat} {mX29_open : Nat → Option Nat} {mX29_under : Nat → Option Nat} {mX29_sorted : Nat → Int32} {mX29_placed : Nat → Int32} {mX29_empties : Nat → Int32} {mX29_asked : Nat → Int32} {mX30_fired : Nat → Option Nat} {mX30_many : Nat → Int32} {mX30_facts : Nat → Int32} {mX30_this_0 : Nat → Option Nat} {mX61_left : Nat → Int32} {mX61_right : Nat → Int32} {mX61_gone : Nat → Int32} {mJ1_modCount : Nat → Int32} {mJ2_elementData : Nat → Option Nat} {mJ2_size : Nat → Int32} {a : Nat} (hk : kd a = 8) : (cCS ci d kd an ai al ar mX29_axioms mX29_reasoner mX29_classes mX29_things mX29_thingCount mX29_fuel mX29_above mX29_not mX29_open mX29_under mX29_sorted mX29_placed mX29_empties mX29_asked mX30_fired mX30_many mX30_facts mX30_this_0 mX61_left mX61_right mX61_gone mJ1_modCount mJ2_elementData mJ2_size) a = .inl (d 3, an a, .inr (.inr (.inr (.inr (ar a))))) := by unfold cCS; simp only [hk]
theorem cCS_8_s {ci : Nat → Nat} {d : Nat → ClassId} {kd : Nat → Nat} {an : Nat → Nat} {ai : Nat → Nat → Int32} {al : Nat → Nat → Int64} {ar : Nat → Nat → Option Nat} {mX29_axioms : Nat → Option Nat} {mX29_reasoner : Nat → Option Nat} {mX29_classes : Nat → Int32} {mX29_things : Nat → Option Nat} {mX29_thingCount : Nat → Int32} {mX29_fuel : Nat → Int32} {mX29_above : Nat → Option Nat} {mX29_not : Nat → Option Nat} {mX29_open : Nat → Option Nat} {mX29_under : Nat → Option Nat} {mX29_sorted : Nat → Int32} {mX29_placed : Nat → Int32} {mX29_empties : Nat → Int32} {mX29_asked : Nat → Int32} {mX30_fired : Nat → Option Nat} {mX30_many : Nat → Int32} {mX30_facts : Nat → Int32} {mX30_this_0 : Nat → Option Nat} {mX61_left : Nat → Int32} {mX61_right : Nat → Int32} {mX61_gone : Nat → Int32} {mJ1_modCount : Nat → Int32} {mJ2_elementData : Nat → Option Nat} {mJ2_size : Nat → Int32} {a : Nat} {g : Nat → Option Nat} (hk : kd a = 8) : va_up (cCS ci d kd an ai al ar mX29_axioms mX29_reasoner mX29_classes mX29_things mX29_thingCount mX29_fuel mX29_above mX29_not mX29_open mX29_under mX29_sorted mX29_placed mX29_empties mX29_asked mX30_fired mX30_many mX30_facts mX30_this_0 mX61_left mX61_right mX61_gone mJ1_modCount mJ2_elementData mJ2_size) a (.inl (d 3, an a, .inr (.inr (.inr (.inr g))))) = (cCS ci d kd an ai al (va_up ar a g) mX29_axioms mX29_reasoner mX29_classes mX29_things mX29_thingCount mX29_fuel mX29_above mX29_not mX29_open mX29_under mX29_sorted mX29_placed mX29_empties mX29_asked mX30_fired mX30_many mX30_facts mX30_this_0 mX61_left mX61_right mX61_gone mJ1_modCount mJ2_elementData mJ2_size) := by
  funext b
  by_cases h : b = a
  · subst h
    rw [va_up_self]
    unfold cCS
    rw [hk]
    simp only [va_up_self]
  · rw [va_up_ne _ _ h]
    unfold cCS
    simp only [va_up_ne _ _ h]
theorem cCS_8_n {ci : Nat → Nat} {d : Nat → ClassId} {kd : Nat → Nat} {an : Nat → Nat} {ai : Nat → Nat → Int32} {al : Nat → Nat → Int64} {ar : Nat → Nat → Option Nat} {mX29_axioms : Nat → Option Nat} {mX29_reasoner : Nat → Option Nat} {mX29_classes : Nat → Int32} {mX29_things : Nat → Option Nat} {mX29_thingCount : Nat → Int32} {mX29_fuel : Nat → Int32} {mX29_above : Nat → Option Nat} {mX29_not : Nat → Option Nat} {mX29_open : Nat → Option Nat} {mX29_under : Nat → Option Nat} {mX29_sorted : Nat → Int32} {mX29_placed : Nat → Int32} {mX29_empties : Nat → Int32} {mX29_asked : Nat → Int32} {mX30_fired : Nat → Option Nat} {mX30_many : Nat → Int32} {mX30_facts : Nat → Int32} {mX30_this_0 : Nat → Option Nat} {mX61_left : Nat → Int32} {mX61_right : Nat → Int32} {mX61_gone : Nat → Int32} {mJ1_modCount : Nat → Int32} {mJ2_elementData : Nat → Option Nat} {mJ2_size : Nat → Int32} (n q : Nat) : va_up (cCS ci d kd an ai al ar mX29_axioms mX29_reasoner mX29_classes mX29_things mX29_thingCount mX29_fuel mX29_above mX29_not mX29_open mX29_under mX29_sorted mX29_placed mX29_empties mX29_asked mX30_fired mX30_many mX30_facts mX30_this_0 mX61_left mX61_right mX61_gone mJ1_modCount mJ2_elementData mJ2_size) q (.inl (d 3, n, .inr (.inr (.inr (.inr (fun _ => none)))))) = (cCS ci d (va_up kd q 8) (va_up an q n) ai al (va_up ar q (fun _ => none)) mX29_axioms mX29_reasoner mX29_classes mX29_things mX29_thingCount mX29_fuel mX29_above mX29_not mX29_open mX29_under mX29_sorted mX29_placed mX29_empties mX29_asked mX30_fired mX30_many mX30_facts mX30_this_0 mX61_left mX61_right mX61_gone mJ1_modCount mJ2_elementData mJ2_size) := by
  funext b
  by_cases h : b = q
  · subst h
    rw [va_up_self]
    unfold cCS
    simp only [va_up_self]
  · rw [va_up_ne _ _ h]
    unfold cCS
    simp only [va_up_ne _ _ h]
