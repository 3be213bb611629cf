/-! room RD (printed by tools/zgen2.py) -/
set_option maxRecDepth 100000
def RX27 : String := "KnowHouse$RightDesk"
def TX27 : u_T := fun k => match k with
  | 0 => ("KnowHouse$RightDesk", "groups", "[I", true)
  | 1 => ("KnowHouse$RightDesk", "conditions", "Ljava/util/ArrayList;", true)
  | 2 => ("KnowHouse$RightDesk", "rules", "Ljava/util/ArrayList;", true)
  | 3 => ("KnowHouse$RightDesk", "sets", "Ljava/util/ArrayList;", true)
  | 4 => ("KnowHouse$RightDesk", "right", "I", false)
  | 5 => ("KnowHouse$RightDesk", "known", "[Z", true)
  | 6 => ("KnowHouse$RightDesk", "asks", "[LKnowHouse$RightDesk$Ask;", true)
  | 7 => ("KnowHouse$RightDesk", "done", "Ljava/util/BitSet;", true)
  | 8 => ("KnowHouse$RightDesk", "more", "Ljava/util/BitSet;", true)
  | 9 => ("KnowHouse$RightDesk", "its", "Ljava/util/BitSet;", true)
  | 10 => ("KnowHouse$RightDesk", "allowed", "Ljava/util/BitSet;", true)
  | 11 => ("KnowHouse$RightDesk", "other", "Ljava/util/BitSet;", true)
  | _ => ("KnowHouse$RightDesk", "order", "[I", true)
def tyX27 : Nat → FieldType := fun k => match k with
  | 0 => .array .int
  | 1 => .object "java/util/ArrayList"
  | 2 => .object "java/util/ArrayList"
  | 3 => .object "java/util/ArrayList"
  | 4 => .int
  | 5 => .array .boolean
  | 6 => .array (.object "KnowHouse$RightDesk$Ask")
  | 7 => .object "java/util/BitSet"
  | 8 => .object "java/util/BitSet"
  | 9 => .object "java/util/BitSet"
  | 10 => .object "java/util/BitSet"
  | 11 => .object "java/util/BitSet"
  | _ => .array .int
abbrev wsX270 : List Cond := u_ws RX27 TX27 13
theorem nmX27 : ∀ a, a < 13 → ∀ b, b < 13 → a ≠ b → (TX27 a).2.1 ≠ (TX27 b).2.1 := by decide +kernel
theorem tyX27_ok : ∀ k, k < 13 → parseFieldDescriptor (TX27 k).2.2.1 = some (tyX27 k) := by decide +kernel
abbrev cX27_init : ByteArray := prog_49_method_3_code
def yX27_init : MethodName := ⟨RX27, "<init>", "()V"⟩
theorem dX27_init_0 : decode cX27_init 0 = .ok (.aload_n 0, 1) := by decide +kernel
theorem dX27_init_1 : decode cX27_init 1 = .ok (.invokespecial 9, 3) := by decide +kernel
theorem dX27_init_4 : decode cX27_init 4 = .ok (.aload_n 0, 1) := by decide +kernel
theorem dX27_init_5 : decode cX27_init 5 = .ok (.bipush 8, 2) := by decide +kernel
theorem dX27_init_7 : decode cX27_init 7 = .ok (.newarray .int, 2) := by decide +kernel
theorem dX27_init_9 : decode cX27_init 9 = .ok (.putfield 15, 3) := by decide +kernel
theorem dX27_init_12 : decode cX27_init 12 = .ok (.aload_n 0, 1) := by decide +kernel
theorem dX27_init_13 : decode cX27_init 13 = .ok (.new 19, 3) := by decide +kernel
theorem dX27_init_16 : decode cX27_init 16 = .ok (.dup, 1) := by decide +kernel
theorem dX27_init_17 : decode cX27_init 17 = .ok (.invokespecial 21, 3) := by decide +kernel
theorem dX27_init_20 : decode cX27_init 20 = .ok (.putfield 22, 3) := by decide +kernel
theorem dX27_init_23 : decode cX27_init 23 = .ok (.aload_n 0, 1) := by decide +kernel
theorem dX27_init_24 : decode cX27_init 24 = .ok (.new 19, 3) := by decide +kernel
theorem dX27_init_27 : decode cX27_init 27 = .ok (.dup, 1) := by decide +kernel
theorem dX27_init_28 : decode cX27_init 28 = .ok (.invokespecial 21, 3) := by decide +kernel
theorem dX27_init_31 : decode cX27_init 31 = .ok (.putfield 26, 3) := by decide +kernel
theorem dX27_init_34 : decode cX27_init 34 = .ok (.aload_n 0, 1) := by decide +kernel
theorem dX27_init_35 : decode cX27_init 35 = .ok (.new 19, 3) := by decide +kernel
theorem dX27_init_38 : decode cX27_init 38 = .ok (.dup, 1) := by decide +kernel
theorem dX27_init_39 : decode cX27_init 39 = .ok (.invokespecial 21, 3) := by decide +kernel
theorem dX27_init_42 : decode cX27_init 42 = .ok (.putfield 29, 3) := by decide +kernel
theorem dX27_init_45 : decode cX27_init 45 = .ok (.aload_n 0, 1) := by decide +kernel
theorem dX27_init_46 : decode cX27_init 46 = .ok (.bipush 60, 2) := by decide +kernel
theorem dX27_init_48 : decode cX27_init 48 = .ok (.newarray .boolean, 2) := by decide +kernel
theorem dX27_init_50 : decode cX27_init 50 = .ok (.putfield 32, 3) := by decide +kernel
theorem dX27_init_53 : decode cX27_init 53 = .ok (.aload_n 0, 1) := by decide +kernel
theorem dX27_init_54 : decode cX27_init 54 = .ok (.invokestatic 36, 3) := by decide +kernel
theorem dX27_init_57 : decode cX27_init 57 = .ok (.putfield 40, 3) := by decide +kernel
theorem dX27_init_60 : decode cX27_init 60 = .ok (.aload_n 0, 1) := by decide +kernel
theorem dX27_init_61 : decode cX27_init 61 = .ok (.new 44, 3) := by decide +kernel
theorem dX27_init_64 : decode cX27_init 64 = .ok (.dup, 1) := by decide +kernel
theorem dX27_init_65 : decode cX27_init 65 = .ok (.sipush 6144, 3) := by decide +kernel
theorem dX27_init_68 : decode cX27_init 68 = .ok (.invokespecial 46, 3) := by decide +kernel
theorem dX27_init_71 : decode cX27_init 71 = .ok (.putfield 49, 3) := by decide +kernel
theorem dX27_init_74 : decode cX27_init 74 = .ok (.aload_n 0, 1) := by decide +kernel
theorem dX27_init_75 : decode cX27_init 75 = .ok (.new 44, 3) := by decide +kernel
theorem dX27_init_78 : decode cX27_init 78 = .ok (.dup, 1) := by decide +kernel
theorem dX27_init_79 : decode cX27_init 79 = .ok (.sipush 6144, 3) := by decide +kernel
theorem dX27_init_82 : decode cX27_init 82 = .ok (.invokespecial 46, 3) := by decide +kernel
theorem dX27_init_85 : decode cX27_init 85 = .ok (.putfield 53, 3) := by decide +kernel
theorem dX27_init_88 : decode cX27_init 88 = .ok (.aload_n 0, 1) := by decide +kernel
theorem dX27_init_89 : decode cX27_init 89 = .ok (.new 44, 3) := by decide +kernel
theorem dX27_init_92 : decode cX27_init 92 = .ok (.dup, 1) := by decide +kernel
theorem dX27_init_93 : decode cX27_init 93 = .ok (.sipush 6144, 3) := by decide +kernel
theorem dX27_init_96 : decode cX27_init 96 = .ok (.invokespecial 46, 3) := by decide +kernel
theorem dX27_init_99 : decode cX27_init 99 = .ok (.putfield 56, 3) := by decide +kernel
theorem dX27_init_102 : decode cX27_init 102 = .ok (.aload_n 0, 1) := by decide +kernel
theorem dX27_init_103 : decode cX27_init 103 = .ok (.new 44, 3) := by decide +kernel
theorem dX27_init_106 : decode cX27_init 106 = .ok (.dup, 1) := by decide +kernel
theorem dX27_init_107 : decode cX27_init 107 = .ok (.sipush 6144, 3) := by decide +kernel
theorem dX27_init_110 : decode cX27_init 110 = .ok (.invokespecial 46, 3) := by decide +kernel
theorem dX27_init_113 : decode cX27_init 113 = .ok (.putfield 59, 3) := by decide +kernel
theorem dX27_init_116 : decode cX27_init 116 = .ok (.aload_n 0, 1) := by decide +kernel
theorem dX27_init_117 : decode cX27_init 117 = .ok (.new 44, 3) := by decide +kernel
theorem dX27_init_120 : decode cX27_init 120 = .ok (.dup, 1) := by decide +kernel
theorem dX27_init_121 : decode cX27_init 121 = .ok (.sipush 6144, 3) := by decide +kernel
theorem dX27_init_124 : decode cX27_init 124 = .ok (.invokespecial 46, 3) := by decide +kernel
theorem dX27_init_127 : decode cX27_init 127 = .ok (.putfield 62, 3) := by decide +kernel
theorem dX27_init_130 : decode cX27_init 130 = .ok (.aload_n 0, 1) := by decide +kernel
theorem dX27_init_131 : decode cX27_init 131 = .ok (.bipush 20, 2) := by decide +kernel
theorem dX27_init_133 : decode cX27_init 133 = .ok (.newarray .int, 2) := by decide +kernel
theorem dX27_init_135 : decode cX27_init 135 = .ok (.putfield 65, 3) := by decide +kernel
theorem dX27_init_138 : decode cX27_init 138 = .ok (.return_, 1) := by decide +kernel
abbrev cX27_makeAsks : ByteArray := prog_49_method_2_code
def yX27_makeAsks : MethodName := ⟨RX27, "makeAsks", "()[LKnowHouse$RightDesk$Ask;"⟩
theorem dX27_makeAsks_0 : decode cX27_makeAsks 0 = .ok (.sipush 6144, 3) := by decide +kernel
theorem dX27_makeAsks_3 : decode cX27_makeAsks 3 = .ok (.anewarray 3, 3) := by decide +kernel
theorem dX27_makeAsks_6 : decode cX27_makeAsks 6 = .ok (.astore_n 0, 1) := by decide +kernel
theorem dX27_makeAsks_7 : decode cX27_makeAsks 7 = .ok (.iconst 0, 1) := by decide +kernel
theorem dX27_makeAsks_8 : decode cX27_makeAsks 8 = .ok (.istore_n 1, 1) := by decide +kernel
theorem dX27_makeAsks_9 : decode cX27_makeAsks 9 = .ok (.iload_n 1, 1) := by decide +kernel
theorem dX27_makeAsks_10 : decode cX27_makeAsks 10 = .ok (.sipush 6144, 3) := by decide +kernel
theorem dX27_makeAsks_13 : decode cX27_makeAsks 13 = .ok (.if_icmp .ge 16, 3) := by decide +kernel
theorem dX27_makeAsks_16 : decode cX27_makeAsks 16 = .ok (.aload_n 0, 1) := by decide +kernel
theorem dX27_makeAsks_17 : decode cX27_makeAsks 17 = .ok (.iload_n 1, 1) := by decide +kernel
theorem dX27_makeAsks_18 : decode cX27_makeAsks 18 = .ok (.iload_n 1, 1) := by decide +kernel
theorem dX27_makeAsks_19 : decode cX27_makeAsks 19 = .ok (.invokestatic 5, 3) := by decide +kernel
theorem dX27_makeAsks_22 : decode cX27_makeAsks 22 = .ok (.aastore, 1) := by decide +kernel
theorem dX27_makeAsks_23 : decode cX27_makeAsks 23 = .ok (.iinc 1 1, 3) := by decide +kernel
theorem dX27_makeAsks_26 : decode cX27_makeAsks 26 = .ok (.goto (-17), 3) := by decide +kernel
theorem dX27_makeAsks_29 : decode cX27_makeAsks 29 = .ok (.aload_n 0, 1) := by decide +kernel
theorem dX27_makeAsks_30 : decode cX27_makeAsks 30 = .ok (.areturn, 1) := by decide +kernel
abbrev cX27_may : ByteArray := prog_49_method_15_code
def yX27_may : MethodName := ⟨RX27, "may", "(IIIIII)I"⟩
theorem dX27_may_0 : decode cX27_may 0 = .ok (.new 3, 3) := by decide +kernel
theorem dX27_may_3 : decode cX27_may 3 = .ok (.dup, 1) := by decide +kernel
theorem dX27_may_4 : decode cX27_may 4 = .ok (.iload_n 1, 1) := by decide +kernel
theorem dX27_may_5 : decode cX27_may 5 = .ok (.iload_n 2, 1) := by decide +kernel
theorem dX27_may_6 : decode cX27_may 6 = .ok (.iload_n 3, 1) := by decide +kernel
theorem dX27_may_7 : decode cX27_may 7 = .ok (.iload 4, 2) := by decide +kernel
theorem dX27_may_9 : decode cX27_may 9 = .ok (.iload 5, 2) := by decide +kernel
theorem dX27_may_11 : decode cX27_may 11 = .ok (.invokespecial 151, 3) := by decide +kernel
theorem dX27_may_14 : decode cX27_may 14 = .ok (.astore 7, 2) := by decide +kernel
theorem dX27_may_16 : decode cX27_may 16 = .ok (.aload 7, 2) := by decide +kernel
theorem dX27_may_18 : decode cX27_may 18 = .ok (.invokevirtual 154, 3) := by decide +kernel
theorem dX27_may_21 : decode cX27_may 21 = .ok (.ifCond .eq 14, 3) := by decide +kernel
theorem dX27_may_24 : decode cX27_may 24 = .ok (.iload 6, 2) := by decide +kernel
theorem dX27_may_26 : decode cX27_may 26 = .ok (.ifCond .lt 9, 3) := by decide +kernel
theorem dX27_may_29 : decode cX27_may 29 = .ok (.iload 6, 2) := by decide +kernel
theorem dX27_may_31 : decode cX27_may 31 = .ok (.iconst 1, 1) := by decide +kernel
theorem dX27_may_32 : decode cX27_may 32 = .ok (.if_icmp .le 5, 3) := by decide +kernel
theorem dX27_may_35 : decode cX27_may 35 = .ok (.iconst (-1), 1) := by decide +kernel
theorem dX27_may_36 : decode cX27_may 36 = .ok (.ireturn, 1) := by decide +kernel
theorem dX27_may_37 : decode cX27_may 37 = .ok (.aload_n 0, 1) := by decide +kernel
theorem dX27_may_38 : decode cX27_may 38 = .ok (.aload_n 0, 1) := by decide +kernel
theorem dX27_may_39 : decode cX27_may 39 = .ok (.getfield 40, 3) := by decide +kernel
theorem dX27_may_42 : decode cX27_may 42 = .ok (.aload 7, 2) := by decide +kernel
theorem dX27_may_44 : decode cX27_may 44 = .ok (.invokevirtual 158, 3) := by decide +kernel
theorem dX27_may_47 : decode cX27_may 47 = .ok (.aaload, 1) := by decide +kernel
theorem dX27_may_48 : decode cX27_may 48 = .ok (.invokevirtual 161, 3) := by decide +kernel
theorem dX27_may_51 : decode cX27_may 51 = .ok (.istore 8, 2) := by decide +kernel
theorem dX27_may_53 : decode cX27_may 53 = .ok (.iload 6, 2) := by decide +kernel
theorem dX27_may_55 : decode cX27_may 55 = .ok (.iconst 1, 1) := by decide +kernel
theorem dX27_may_56 : decode cX27_may 56 = .ok (.if_icmp .ne 8, 3) := by decide +kernel
theorem dX27_may_59 : decode cX27_may 59 = .ok (.iload 8, 2) := by decide +kernel
theorem dX27_may_61 : decode cX27_may 61 = .ok (.goto 31, 3) := by decide +kernel
theorem dX27_may_64 : decode cX27_may 64 = .ok (.iload 8, 2) := by decide +kernel
theorem dX27_may_66 : decode cX27_may 66 = .ok (.ifCond .lt 25, 3) := by decide +kernel
theorem dX27_may_69 : decode cX27_may 69 = .ok (.aload_n 0, 1) := by decide +kernel
theorem dX27_may_70 : decode cX27_may 70 = .ok (.getfield 26, 3) := by decide +kernel
theorem dX27_may_73 : decode cX27_may 73 = .ok (.iload 8, 2) := by decide +kernel
theorem dX27_may_75 : decode cX27_may 75 = .ok (.invokevirtual 125, 3) := by decide +kernel
theorem dX27_may_78 : decode cX27_may 78 = .ok (.checkcast 116, 3) := by decide +kernel
theorem dX27_may_81 : decode cX27_may 81 = .ok (.getfield 147, 3) := by decide +kernel
theorem dX27_may_84 : decode cX27_may 84 = .ok (.ifCond .ne 7, 3) := by decide +kernel
theorem dX27_may_87 : decode cX27_may 87 = .ok (.iconst 1, 1) := by decide +kernel
theorem dX27_may_88 : decode cX27_may 88 = .ok (.goto 4, 3) := by decide +kernel
theorem dX27_may_91 : decode cX27_may 91 = .ok (.iconst 0, 1) := by decide +kernel
theorem dX27_may_92 : decode cX27_may 92 = .ok (.ireturn, 1) := by decide +kernel
abbrev cX27_isIn : ByteArray := prog_49_method_1_code
def yX27_isIn : MethodName := ⟨RX27, "isIn", "(II)Z"⟩
theorem dX27_isIn_0 : decode cX27_isIn 0 = .ok (.iload_n 0, 1) := by decide +kernel
theorem dX27_isIn_1 : decode cX27_isIn 1 = .ok (.ifCond .lt 12, 3) := by decide +kernel
theorem dX27_isIn_4 : decode cX27_isIn 4 = .ok (.iload_n 0, 1) := by decide +kernel
theorem dX27_isIn_5 : decode cX27_isIn 5 = .ok (.iload_n 1, 1) := by decide +kernel
theorem dX27_isIn_6 : decode cX27_isIn 6 = .ok (.if_icmp .ge 7, 3) := by decide +kernel
theorem dX27_isIn_9 : decode cX27_isIn 9 = .ok (.iconst 1, 1) := by decide +kernel
theorem dX27_isIn_10 : decode cX27_isIn 10 = .ok (.goto 4, 3) := by decide +kernel
theorem dX27_isIn_13 : decode cX27_isIn 13 = .ok (.iconst 0, 1) := by decide +kernel
theorem dX27_isIn_14 : decode cX27_isIn 14 = .ok (.ireturn, 1) := by decide +kernel
abbrev cX27_deciding : ByteArray := prog_49_method_13_code
def yX27_deciding : MethodName := ⟨RX27, "deciding", "(LKnowHouse$RightDesk$Ask;)I"⟩
theorem dX27_deciding_0 : decode cX27_deciding 0 = .ok (.aload_n 0, 1) := by decide +kernel
theorem dX27_deciding_1 : decode cX27_deciding 1 = .ok (.aload_n 1, 1) := by decide +kernel
theorem dX27_deciding_2 : decode cX27_deciding 2 = .ok (.invokevirtual 134, 3) := by decide +kernel
theorem dX27_deciding_5 : decode cX27_deciding 5 = .ok (.bipush (-2), 2) := by decide +kernel
theorem dX27_deciding_7 : decode cX27_deciding 7 = .ok (.istore_n 2, 1) := by decide +kernel
theorem dX27_deciding_8 : decode cX27_deciding 8 = .ok (.iconst 0, 1) := by decide +kernel
theorem dX27_deciding_9 : decode cX27_deciding 9 = .ok (.istore_n 3, 1) := by decide +kernel
theorem dX27_deciding_10 : decode cX27_deciding 10 = .ok (.iload_n 3, 1) := by decide +kernel
theorem dX27_deciding_11 : decode cX27_deciding 11 = .ok (.aload_n 0, 1) := by decide +kernel
theorem dX27_deciding_12 : decode cX27_deciding 12 = .ok (.getfield 26, 3) := by decide +kernel
theorem dX27_deciding_15 : decode cX27_deciding 15 = .ok (.invokevirtual 76, 3) := by decide +kernel
theorem dX27_deciding_18 : decode cX27_deciding 18 = .ok (.if_icmp .ge 49, 3) := by decide +kernel
theorem dX27_deciding_21 : decode cX27_deciding 21 = .ok (.aload_n 0, 1) := by decide +kernel
theorem dX27_deciding_22 : decode cX27_deciding 22 = .ok (.getfield 32, 3) := by decide +kernel
theorem dX27_deciding_25 : decode cX27_deciding 25 = .ok (.aload_n 0, 1) := by decide +kernel
theorem dX27_deciding_26 : decode cX27_deciding 26 = .ok (.getfield 26, 3) := by decide +kernel
theorem dX27_deciding_29 : decode cX27_deciding 29 = .ok (.iload_n 3, 1) := by decide +kernel
theorem dX27_deciding_30 : decode cX27_deciding 30 = .ok (.invokevirtual 125, 3) := by decide +kernel
theorem dX27_deciding_33 : decode cX27_deciding 33 = .ok (.checkcast 116, 3) := by decide +kernel
theorem dX27_deciding_36 : decode cX27_deciding 36 = .ok (.getfield 138, 3) := by decide +kernel
theorem dX27_deciding_39 : decode cX27_deciding 39 = .ok (.baload, 1) := by decide +kernel
theorem dX27_deciding_40 : decode cX27_deciding 40 = .ok (.ifCond .ne 6, 3) := by decide +kernel
theorem dX27_deciding_43 : decode cX27_deciding 43 = .ok (.goto 18, 3) := by decide +kernel
theorem dX27_deciding_46 : decode cX27_deciding 46 = .ok (.iload_n 2, 1) := by decide +kernel
theorem dX27_deciding_47 : decode cX27_deciding 47 = .ok (.ifCond .lt 12, 3) := by decide +kernel
theorem dX27_deciding_50 : decode cX27_deciding 50 = .ok (.aload_n 0, 1) := by decide +kernel
theorem dX27_deciding_51 : decode cX27_deciding 51 = .ok (.iload_n 3, 1) := by decide +kernel
theorem dX27_deciding_52 : decode cX27_deciding 52 = .ok (.iload_n 2, 1) := by decide +kernel
theorem dX27_deciding_53 : decode cX27_deciding 53 = .ok (.invokevirtual 141, 3) := by decide +kernel
theorem dX27_deciding_56 : decode cX27_deciding 56 = .ok (.ifCond .eq 5, 3) := by decide +kernel
theorem dX27_deciding_59 : decode cX27_deciding 59 = .ok (.iload_n 3, 1) := by decide +kernel
theorem dX27_deciding_60 : decode cX27_deciding 60 = .ok (.istore_n 2, 1) := by decide +kernel
theorem dX27_deciding_61 : decode cX27_deciding 61 = .ok (.iinc 3 1, 3) := by decide +kernel
theorem dX27_deciding_64 : decode cX27_deciding 64 = .ok (.goto (-54), 3) := by decide +kernel
theorem dX27_deciding_67 : decode cX27_deciding 67 = .ok (.iload_n 2, 1) := by decide +kernel
theorem dX27_deciding_68 : decode cX27_deciding 68 = .ok (.ireturn, 1) := by decide +kernel
abbrev cX27_know : ByteArray := prog_49_method_12_code
def yX27_know : MethodName := ⟨RX27, "know", "(LKnowHouse$RightDesk$Ask;)V"⟩
theorem dX27_know_0 : decode cX27_know 0 = .ok (.iconst 0, 1) := by decide +kernel
theorem dX27_know_1 : decode cX27_know 1 = .ok (.istore_n 2, 1) := by decide +kernel
theorem dX27_know_2 : decode cX27_know 2 = .ok (.iload_n 2, 1) := by decide +kernel
theorem dX27_know_3 : decode cX27_know 3 = .ok (.aload_n 0, 1) := by decide +kernel
theorem dX27_know_4 : decode cX27_know 4 = .ok (.getfield 22, 3) := by decide +kernel
theorem dX27_know_7 : decode cX27_know 7 = .ok (.invokevirtual 76, 3) := by decide +kernel
theorem dX27_know_10 : decode cX27_know 10 = .ok (.if_icmp .ge 36, 3) := by decide +kernel
theorem dX27_know_13 : decode cX27_know 13 = .ok (.aload_n 0, 1) := by decide +kernel
theorem dX27_know_14 : decode cX27_know 14 = .ok (.getfield 32, 3) := by decide +kernel
theorem dX27_know_17 : decode cX27_know 17 = .ok (.iload_n 2, 1) := by decide +kernel
theorem dX27_know_18 : decode cX27_know 18 = .ok (.aload_n 0, 1) := by decide +kernel
theorem dX27_know_19 : decode cX27_know 19 = .ok (.getfield 22, 3) := by decide +kernel
theorem dX27_know_22 : decode cX27_know 22 = .ok (.iload_n 2, 1) := by decide +kernel
theorem dX27_know_23 : decode cX27_know 23 = .ok (.invokevirtual 125, 3) := by decide +kernel
theorem dX27_know_26 : decode cX27_know 26 = .ok (.checkcast 128, 3) := by decide +kernel
theorem dX27_know_29 : decode cX27_know 29 = .ok (.aload_n 1, 1) := by decide +kernel
theorem dX27_know_30 : decode cX27_know 30 = .ok (.aload_n 0, 1) := by decide +kernel
theorem dX27_know_31 : decode cX27_know 31 = .ok (.getfield 32, 3) := by decide +kernel
theorem dX27_know_34 : decode cX27_know 34 = .ok (.invokeinterface 130 3, 5) := by decide +kernel
theorem dX27_know_39 : decode cX27_know 39 = .ok (.bastore, 1) := by decide +kernel
theorem dX27_know_40 : decode cX27_know 40 = .ok (.iinc 2 1, 3) := by decide +kernel
theorem dX27_know_43 : decode cX27_know 43 = .ok (.goto (-41), 3) := by decide +kernel
theorem dX27_know_46 : decode cX27_know 46 = .ok (.return_, 1) := by decide +kernel
abbrev cX27_isBefore : ByteArray := prog_49_method_14_code
def yX27_isBefore : MethodName := ⟨RX27, "isBefore", "(II)Z"⟩
theorem dX27_isBefore_0 : decode cX27_isBefore 0 = .ok (.aload_n 0, 1) := by decide +kernel
theorem dX27_isBefore_1 : decode cX27_isBefore 1 = .ok (.getfield 26, 3) := by decide +kernel
theorem dX27_isBefore_4 : decode cX27_isBefore 4 = .ok (.iload_n 1, 1) := by decide +kernel
theorem dX27_isBefore_5 : decode cX27_isBefore 5 = .ok (.invokevirtual 125, 3) := by decide +kernel
theorem dX27_isBefore_8 : decode cX27_isBefore 8 = .ok (.checkcast 116, 3) := by decide +kernel
theorem dX27_isBefore_11 : decode cX27_isBefore 11 = .ok (.astore_n 3, 1) := by decide +kernel
theorem dX27_isBefore_12 : decode cX27_isBefore 12 = .ok (.aload_n 0, 1) := by decide +kernel
theorem dX27_isBefore_13 : decode cX27_isBefore 13 = .ok (.getfield 26, 3) := by decide +kernel
theorem dX27_isBefore_16 : decode cX27_isBefore 16 = .ok (.iload_n 2, 1) := by decide +kernel
theorem dX27_isBefore_17 : decode cX27_isBefore 17 = .ok (.invokevirtual 125, 3) := by decide +kernel
theorem dX27_isBefore_20 : decode cX27_isBefore 20 = .ok (.checkcast 116, 3) := by decide +kernel
theorem dX27_isBefore_23 : decode cX27_isBefore 23 = .ok (.astore 4, 2) := by decide +kernel
theorem dX27_isBefore_25 : decode cX27_isBefore 25 = .ok (.aload_n 3, 1) := by decide +kernel
theorem dX27_isBefore_26 : decode cX27_isBefore 26 = .ok (.getfield 144, 3) := by decide +kernel
theorem dX27_isBefore_29 : decode cX27_isBefore 29 = .ok (.aload 4, 2) := by decide +kernel
theorem dX27_isBefore_31 : decode cX27_isBefore 31 = .ok (.getfield 144, 3) := by decide +kernel
theorem dX27_isBefore_34 : decode cX27_isBefore 34 = .ok (.if_icmp .eq 21, 3) := by decide +kernel
theorem dX27_isBefore_37 : decode cX27_isBefore 37 = .ok (.aload_n 3, 1) := by decide +kernel
theorem dX27_isBefore_38 : decode cX27_isBefore 38 = .ok (.getfield 144, 3) := by decide +kernel
theorem dX27_isBefore_41 : decode cX27_isBefore 41 = .ok (.aload 4, 2) := by decide +kernel
theorem dX27_isBefore_43 : decode cX27_isBefore 43 = .ok (.getfield 144, 3) := by decide +kernel
theorem dX27_isBefore_46 : decode cX27_isBefore 46 = .ok (.if_icmp .ge 7, 3) := by decide +kernel
theorem dX27_isBefore_49 : decode cX27_isBefore 49 = .ok (.iconst 1, 1) := by decide +kernel
theorem dX27_isBefore_50 : decode cX27_isBefore 50 = .ok (.goto 4, 3) := by decide +kernel
theorem dX27_isBefore_53 : decode cX27_isBefore 53 = .ok (.iconst 0, 1) := by decide +kernel
theorem dX27_isBefore_54 : decode cX27_isBefore 54 = .ok (.ireturn, 1) := by decide +kernel
theorem dX27_isBefore_55 : decode cX27_isBefore 55 = .ok (.aload_n 3, 1) := by decide +kernel
theorem dX27_isBefore_56 : decode cX27_isBefore 56 = .ok (.getfield 147, 3) := by decide +kernel
theorem dX27_isBefore_59 : decode cX27_isBefore 59 = .ok (.aload 4, 2) := by decide +kernel
theorem dX27_isBefore_61 : decode cX27_isBefore 61 = .ok (.getfield 147, 3) := by decide +kernel
theorem dX27_isBefore_64 : decode cX27_isBefore 64 = .ok (.if_icmp .eq 10, 3) := by decide +kernel
theorem dX27_isBefore_67 : decode cX27_isBefore 67 = .ok (.aload_n 3, 1) := by decide +kernel
theorem dX27_isBefore_68 : decode cX27_isBefore 68 = .ok (.getfield 147, 3) := by decide +kernel
theorem dX27_isBefore_71 : decode cX27_isBefore 71 = .ok (.goto 13, 3) := by decide +kernel
theorem dX27_isBefore_74 : decode cX27_isBefore 74 = .ok (.iload_n 1, 1) := by decide +kernel
theorem dX27_isBefore_75 : decode cX27_isBefore 75 = .ok (.iload_n 2, 1) := by decide +kernel
theorem dX27_isBefore_76 : decode cX27_isBefore 76 = .ok (.if_icmp .ge 7, 3) := by decide +kernel
theorem dX27_isBefore_79 : decode cX27_isBefore 79 = .ok (.iconst 1, 1) := by decide +kernel
theorem dX27_isBefore_80 : decode cX27_isBefore 80 = .ok (.goto 4, 3) := by decide +kernel
theorem dX27_isBefore_83 : decode cX27_isBefore 83 = .ok (.iconst 0, 1) := by decide +kernel
theorem dX27_isBefore_84 : decode cX27_isBefore 84 = .ok (.ireturn, 1) := by decide +kernel
abbrev cX27_member : ByteArray := prog_49_method_4_code
def yX27_member : MethodName := ⟨RX27, "member", "(IIZ)I"⟩
theorem dX27_member_0 : decode cX27_member 0 = .ok (.iload_n 1, 1) := by decide +kernel
theorem dX27_member_1 : decode cX27_member 1 = .ok (.bipush 8, 2) := by decide +kernel
theorem dX27_member_3 : decode cX27_member 3 = .ok (.invokestatic 68, 3) := by decide +kernel
theorem dX27_member_6 : decode cX27_member 6 = .ok (.ifCond .eq 12, 3) := by decide +kernel
theorem dX27_member_9 : decode cX27_member 9 = .ok (.iload_n 2, 1) := by decide +kernel
theorem dX27_member_10 : decode cX27_member 10 = .ok (.bipush 8, 2) := by decide +kernel
theorem dX27_member_12 : decode cX27_member 12 = .ok (.invokestatic 68, 3) := by decide +kernel
theorem dX27_member_15 : decode cX27_member 15 = .ok (.ifCond .ne 5, 3) := by decide +kernel
theorem dX27_member_18 : decode cX27_member 18 = .ok (.iconst (-1), 1) := by decide +kernel
theorem dX27_member_19 : decode cX27_member 19 = .ok (.ireturn, 1) := by decide +kernel
theorem dX27_member_20 : decode cX27_member 20 = .ok (.aload_n 0, 1) := by decide +kernel
theorem dX27_member_21 : decode cX27_member 21 = .ok (.getfield 15, 3) := by decide +kernel
theorem dX27_member_24 : decode cX27_member 24 = .ok (.iload_n 1, 1) := by decide +kernel
theorem dX27_member_25 : decode cX27_member 25 = .ok (.iaload, 1) := by decide +kernel
theorem dX27_member_26 : decode cX27_member 26 = .ok (.iload_n 2, 1) := by decide +kernel
theorem dX27_member_27 : decode cX27_member 27 = .ok (.ishr, 1) := by decide +kernel
theorem dX27_member_28 : decode cX27_member 28 = .ok (.iconst 1, 1) := by decide +kernel
theorem dX27_member_29 : decode cX27_member 29 = .ok (.iand, 1) := by decide +kernel
theorem dX27_member_30 : decode cX27_member 30 = .ok (.iconst 1, 1) := by decide +kernel
theorem dX27_member_31 : decode cX27_member 31 = .ok (.if_icmp .ne 7, 3) := by decide +kernel
theorem dX27_member_34 : decode cX27_member 34 = .ok (.iconst 1, 1) := by decide +kernel
theorem dX27_member_35 : decode cX27_member 35 = .ok (.goto 4, 3) := by decide +kernel
theorem dX27_member_38 : decode cX27_member 38 = .ok (.iconst 0, 1) := by decide +kernel
theorem dX27_member_39 : decode cX27_member 39 = .ok (.iload_n 3, 1) := by decide +kernel
theorem dX27_member_40 : decode cX27_member 40 = .ok (.if_icmp .ne 5, 3) := by decide +kernel
theorem dX27_member_43 : decode cX27_member 43 = .ok (.iconst 0, 1) := by decide +kernel
theorem dX27_member_44 : decode cX27_member 44 = .ok (.ireturn, 1) := by decide +kernel
theorem dX27_member_45 : decode cX27_member 45 = .ok (.aload_n 0, 1) := by decide +kernel
theorem dX27_member_46 : decode cX27_member 46 = .ok (.getfield 15, 3) := by decide +kernel
theorem dX27_member_49 : decode cX27_member 49 = .ok (.iload_n 1, 1) := by decide +kernel
theorem dX27_member_50 : decode cX27_member 50 = .ok (.dup2, 1) := by decide +kernel
theorem dX27_member_51 : decode cX27_member 51 = .ok (.iaload, 1) := by decide +kernel
theorem dX27_member_52 : decode cX27_member 52 = .ok (.iconst 1, 1) := by decide +kernel
theorem dX27_member_53 : decode cX27_member 53 = .ok (.iload_n 2, 1) := by decide +kernel
theorem dX27_member_54 : decode cX27_member 54 = .ok (.ishl, 1) := by decide +kernel
theorem dX27_member_55 : decode cX27_member 55 = .ok (.ixor, 1) := by decide +kernel
theorem dX27_member_56 : decode cX27_member 56 = .ok (.iastore, 1) := by decide +kernel
theorem dX27_member_57 : decode cX27_member 57 = .ok (.aload_n 0, 1) := by decide +kernel
theorem dX27_member_58 : decode cX27_member 58 = .ok (.iconst 0, 1) := by decide +kernel
theorem dX27_member_59 : decode cX27_member 59 = .ok (.putfield 72, 3) := by decide +kernel
theorem dX27_member_62 : decode cX27_member 62 = .ok (.iconst 1, 1) := by decide +kernel
theorem dX27_member_63 : decode cX27_member 63 = .ok (.ireturn, 1) := by decide +kernel
abbrev cX27_condition : ByteArray := prog_49_method_7_code
def yX27_condition : MethodName := ⟨RX27, "condition", "(IIII)I"⟩
theorem dX27_condition_0 : decode cX27_condition 0 = .ok (.aload_n 0, 1) := by decide +kernel
theorem dX27_condition_1 : decode cX27_condition 1 = .ok (.iload_n 1, 1) := by decide +kernel
theorem dX27_condition_2 : decode cX27_condition 2 = .ok (.iload_n 2, 1) := by decide +kernel
theorem dX27_condition_3 : decode cX27_condition 3 = .ok (.iload_n 3, 1) := by decide +kernel
theorem dX27_condition_4 : decode cX27_condition 4 = .ok (.iload 4, 2) := by decide +kernel
theorem dX27_condition_6 : decode cX27_condition 6 = .ok (.invokevirtual 108, 3) := by decide +kernel
theorem dX27_condition_9 : decode cX27_condition 9 = .ok (.astore 5, 2) := by decide +kernel
theorem dX27_condition_11 : decode cX27_condition 11 = .ok (.aload 5, 2) := by decide +kernel
theorem dX27_condition_13 : decode cX27_condition 13 = .ok (.ifnonnull 5, 3) := by decide +kernel
theorem dX27_condition_16 : decode cX27_condition 16 = .ok (.iconst (-1), 1) := by decide +kernel
theorem dX27_condition_17 : decode cX27_condition 17 = .ok (.ireturn, 1) := by decide +kernel
theorem dX27_condition_18 : decode cX27_condition 18 = .ok (.aload_n 0, 1) := by decide +kernel
theorem dX27_condition_19 : decode cX27_condition 19 = .ok (.getfield 22, 3) := by decide +kernel
theorem dX27_condition_22 : decode cX27_condition 22 = .ok (.invokevirtual 76, 3) := by decide +kernel
theorem dX27_condition_25 : decode cX27_condition 25 = .ok (.bipush 60, 2) := by decide +kernel
theorem dX27_condition_27 : decode cX27_condition 27 = .ok (.if_icmp .ne 6, 3) := by decide +kernel
theorem dX27_condition_30 : decode cX27_condition 30 = .ok (.bipush (-3), 2) := by decide +kernel
theorem dX27_condition_32 : decode cX27_condition 32 = .ok (.ireturn, 1) := by decide +kernel
theorem dX27_condition_33 : decode cX27_condition 33 = .ok (.aload_n 0, 1) := by decide +kernel
theorem dX27_condition_34 : decode cX27_condition 34 = .ok (.getfield 22, 3) := by decide +kernel
theorem dX27_condition_37 : decode cX27_condition 37 = .ok (.aload 5, 2) := by decide +kernel
theorem dX27_condition_39 : decode cX27_condition 39 = .ok (.invokevirtual 112, 3) := by decide +kernel
theorem dX27_condition_42 : decode cX27_condition 42 = .ok (.pop, 1) := by decide +kernel
theorem dX27_condition_43 : decode cX27_condition 43 = .ok (.aload_n 0, 1) := by decide +kernel
theorem dX27_condition_44 : decode cX27_condition 44 = .ok (.getfield 29, 3) := by decide +kernel
theorem dX27_condition_47 : decode cX27_condition 47 = .ok (.new 44, 3) := by decide +kernel
theorem dX27_condition_50 : decode cX27_condition 50 = .ok (.dup, 1) := by decide +kernel
theorem dX27_condition_51 : decode cX27_condition 51 = .ok (.sipush 6144, 3) := by decide +kernel
theorem dX27_condition_54 : decode cX27_condition 54 = .ok (.invokespecial 46, 3) := by decide +kernel
theorem dX27_condition_57 : decode cX27_condition 57 = .ok (.invokevirtual 112, 3) := by decide +kernel
theorem dX27_condition_60 : decode cX27_condition 60 = .ok (.pop, 1) := by decide +kernel
theorem dX27_condition_61 : decode cX27_condition 61 = .ok (.aload_n 0, 1) := by decide +kernel
theorem dX27_condition_62 : decode cX27_condition 62 = .ok (.getfield 22, 3) := by decide +kernel
theorem dX27_condition_65 : decode cX27_condition 65 = .ok (.invokevirtual 76, 3) := by decide +kernel
theorem dX27_condition_68 : decode cX27_condition 68 = .ok (.iconst 1, 1) := by decide +kernel
theorem dX27_condition_69 : decode cX27_condition 69 = .ok (.isub, 1) := by decide +kernel
theorem dX27_condition_70 : decode cX27_condition 70 = .ok (.ireturn, 1) := by decide +kernel
abbrev cX27_make : ByteArray := prog_49_method_6_code
def yX27_make : MethodName := ⟨RX27, "make", "(IIII)LKnowHouse$RightDesk$Condition;"⟩
theorem dX27_make_0 : decode cX27_make 0 = .ok (.aload_n 0, 1) := by decide +kernel
theorem dX27_make_1 : decode cX27_make 1 = .ok (.iload_n 2, 1) := by decide +kernel
theorem dX27_make_2 : decode cX27_make 2 = .ok (.invokevirtual 80, 3) := by decide +kernel
theorem dX27_make_5 : decode cX27_make 5 = .ok (.ifCond .eq 15, 3) := by decide +kernel
theorem dX27_make_8 : decode cX27_make 8 = .ok (.aload_n 0, 1) := by decide +kernel
theorem dX27_make_9 : decode cX27_make 9 = .ok (.iload_n 3, 1) := by decide +kernel
theorem dX27_make_10 : decode cX27_make 10 = .ok (.invokevirtual 80, 3) := by decide +kernel
theorem dX27_make_13 : decode cX27_make 13 = .ok (.ifCond .eq 7, 3) := by decide +kernel
theorem dX27_make_16 : decode cX27_make 16 = .ok (.iconst 1, 1) := by decide +kernel
theorem dX27_make_17 : decode cX27_make 17 = .ok (.goto 4, 3) := by decide +kernel
theorem dX27_make_20 : decode cX27_make 20 = .ok (.iconst 0, 1) := by decide +kernel
theorem dX27_make_21 : decode cX27_make 21 = .ok (.istore 5, 2) := by decide +kernel
theorem dX27_make_23 : decode cX27_make 23 = .ok (.iload_n 1, 1) := by decide +kernel
theorem dX27_make_24 : decode cX27_make 24 = .ok (.tableswitch 231 0 10 #[60, 60, 60, 60, 60, 90, 127, 148, 148, 180, 188], 60) := by decide +kernel
theorem dX27_make_84 : decode cX27_make 84 = .ok (.iload_n 2, 1) := by decide +kernel
theorem dX27_make_85 : decode cX27_make 85 = .ok (.getstatic 84, 3) := by decide +kernel
theorem dX27_make_88 : decode cX27_make 88 = .ok (.iload_n 1, 1) := by decide +kernel
theorem dX27_make_89 : decode cX27_make 89 = .ok (.iaload, 1) := by decide +kernel
theorem dX27_make_90 : decode cX27_make 90 = .ok (.invokestatic 68, 3) := by decide +kernel
theorem dX27_make_93 : decode cX27_make 93 = .ok (.ifCond .eq 19, 3) := by decide +kernel
theorem dX27_make_96 : decode cX27_make 96 = .ok (.new 87, 3) := by decide +kernel
theorem dX27_make_99 : decode cX27_make 99 = .ok (.dup, 1) := by decide +kernel
theorem dX27_make_100 : decode cX27_make 100 = .ok (.iload_n 1, 1) := by decide +kernel
theorem dX27_make_101 : decode cX27_make 101 = .ok (.iload_n 2, 1) := by decide +kernel
theorem dX27_make_102 : decode cX27_make 102 = .ok (.aload_n 0, 1) := by decide +kernel
theorem dX27_make_103 : decode cX27_make 103 = .ok (.getfield 15, 3) := by decide +kernel
theorem dX27_make_106 : decode cX27_make 106 = .ok (.invokespecial 89, 3) := by decide +kernel
theorem dX27_make_109 : decode cX27_make 109 = .ok (.goto 4, 3) := by decide +kernel
theorem dX27_make_112 : decode cX27_make 112 = .ok (.aconst_null, 1) := by decide +kernel
theorem dX27_make_113 : decode cX27_make 113 = .ok (.areturn, 1) := by decide +kernel
theorem dX27_make_114 : decode cX27_make 114 = .ok (.iload_n 2, 1) := by decide +kernel
theorem dX27_make_115 : decode cX27_make 115 = .ok (.bipush 8, 2) := by decide +kernel
theorem dX27_make_117 : decode cX27_make 117 = .ok (.invokestatic 68, 3) := by decide +kernel
theorem dX27_make_120 : decode cX27_make 120 = .ok (.ifCond .eq 29, 3) := by decide +kernel
theorem dX27_make_123 : decode cX27_make 123 = .ok (.iload_n 3, 1) := by decide +kernel
theorem dX27_make_124 : decode cX27_make 124 = .ok (.bipush 8, 2) := by decide +kernel
theorem dX27_make_126 : decode cX27_make 126 = .ok (.invokestatic 68, 3) := by decide +kernel
theorem dX27_make_129 : decode cX27_make 129 = .ok (.ifCond .eq 20, 3) := by decide +kernel
theorem dX27_make_132 : decode cX27_make 132 = .ok (.iload_n 2, 1) := by decide +kernel
theorem dX27_make_133 : decode cX27_make 133 = .ok (.iload_n 3, 1) := by decide +kernel
theorem dX27_make_134 : decode cX27_make 134 = .ok (.if_icmp .gt 15, 3) := by decide +kernel
theorem dX27_make_137 : decode cX27_make 137 = .ok (.new 92, 3) := by decide +kernel
theorem dX27_make_140 : decode cX27_make 140 = .ok (.dup, 1) := by decide +kernel
theorem dX27_make_141 : decode cX27_make 141 = .ok (.iload_n 2, 1) := by decide +kernel
theorem dX27_make_142 : decode cX27_make 142 = .ok (.iload_n 3, 1) := by decide +kernel
theorem dX27_make_143 : decode cX27_make 143 = .ok (.invokespecial 94, 3) := by decide +kernel
theorem dX27_make_146 : decode cX27_make 146 = .ok (.goto 4, 3) := by decide +kernel
theorem dX27_make_149 : decode cX27_make 149 = .ok (.aconst_null, 1) := by decide +kernel
theorem dX27_make_150 : decode cX27_make 150 = .ok (.areturn, 1) := by decide +kernel
theorem dX27_make_151 : decode cX27_make 151 = .ok (.aload_n 0, 1) := by decide +kernel
theorem dX27_make_152 : decode cX27_make 152 = .ok (.iload_n 2, 1) := by decide +kernel
theorem dX27_make_153 : decode cX27_make 153 = .ok (.invokevirtual 80, 3) := by decide +kernel
theorem dX27_make_156 : decode cX27_make 156 = .ok (.ifCond .eq 14, 3) := by decide +kernel
theorem dX27_make_159 : decode cX27_make 159 = .ok (.new 97, 3) := by decide +kernel
theorem dX27_make_162 : decode cX27_make 162 = .ok (.dup, 1) := by decide +kernel
theorem dX27_make_163 : decode cX27_make 163 = .ok (.iload_n 2, 1) := by decide +kernel
theorem dX27_make_164 : decode cX27_make 164 = .ok (.invokespecial 99, 3) := by decide +kernel
theorem dX27_make_167 : decode cX27_make 167 = .ok (.goto 4, 3) := by decide +kernel
theorem dX27_make_170 : decode cX27_make 170 = .ok (.aconst_null, 1) := by decide +kernel
theorem dX27_make_171 : decode cX27_make 171 = .ok (.areturn, 1) := by decide +kernel
theorem dX27_make_172 : decode cX27_make 172 = .ok (.iload 5, 2) := by decide +kernel
theorem dX27_make_174 : decode cX27_make 174 = .ok (.ifCond .eq 28, 3) := by decide +kernel
theorem dX27_make_177 : decode cX27_make 177 = .ok (.new 100, 3) := by decide +kernel
theorem dX27_make_180 : decode cX27_make 180 = .ok (.dup, 1) := by decide +kernel
theorem dX27_make_181 : decode cX27_make 181 = .ok (.bipush 9, 2) := by decide +kernel
theorem dX27_make_183 : decode cX27_make 183 = .ok (.iload_n 1, 1) := by decide +kernel
theorem dX27_make_184 : decode cX27_make 184 = .ok (.isub, 1) := by decide +kernel
theorem dX27_make_185 : decode cX27_make 185 = .ok (.iconst 2, 1) := by decide +kernel
theorem dX27_make_186 : decode cX27_make 186 = .ok (.newarray .int, 2) := by decide +kernel
theorem dX27_make_188 : decode cX27_make 188 = .ok (.dup, 1) := by decide +kernel
theorem dX27_make_189 : decode cX27_make 189 = .ok (.iconst 0, 1) := by decide +kernel
theorem dX27_make_190 : decode cX27_make 190 = .ok (.iload_n 2, 1) := by decide +kernel
theorem dX27_make_191 : decode cX27_make 191 = .ok (.iastore, 1) := by decide +kernel
theorem dX27_make_192 : decode cX27_make 192 = .ok (.dup, 1) := by decide +kernel
theorem dX27_make_193 : decode cX27_make 193 = .ok (.iconst 1, 1) := by decide +kernel
theorem dX27_make_194 : decode cX27_make 194 = .ok (.iload_n 3, 1) := by decide +kernel
theorem dX27_make_195 : decode cX27_make 195 = .ok (.iastore, 1) := by decide +kernel
theorem dX27_make_196 : decode cX27_make 196 = .ok (.invokespecial 102, 3) := by decide +kernel
theorem dX27_make_199 : decode cX27_make 199 = .ok (.goto 4, 3) := by decide +kernel
theorem dX27_make_202 : decode cX27_make 202 = .ok (.aconst_null, 1) := by decide +kernel
theorem dX27_make_203 : decode cX27_make 203 = .ok (.areturn, 1) := by decide +kernel
theorem dX27_make_204 : decode cX27_make 204 = .ok (.new 105, 3) := by decide +kernel
theorem dX27_make_207 : decode cX27_make 207 = .ok (.dup, 1) := by decide +kernel
theorem dX27_make_208 : decode cX27_make 208 = .ok (.invokespecial 107, 3) := by decide +kernel
theorem dX27_make_211 : decode cX27_make 211 = .ok (.areturn, 1) := by decide +kernel
theorem dX27_make_212 : decode cX27_make 212 = .ok (.iload 5, 2) := by decide +kernel
theorem dX27_make_214 : decode cX27_make 214 = .ok (.ifCond .eq 39, 3) := by decide +kernel
theorem dX27_make_217 : decode cX27_make 217 = .ok (.aload_n 0, 1) := by decide +kernel
theorem dX27_make_218 : decode cX27_make 218 = .ok (.iload 4, 2) := by decide +kernel
theorem dX27_make_220 : decode cX27_make 220 = .ok (.invokevirtual 80, 3) := by decide +kernel
theorem dX27_make_223 : decode cX27_make 223 = .ok (.ifCond .eq 30, 3) := by decide +kernel
theorem dX27_make_226 : decode cX27_make 226 = .ok (.new 100, 3) := by decide +kernel
theorem dX27_make_229 : decode cX27_make 229 = .ok (.dup, 1) := by decide +kernel
theorem dX27_make_230 : decode cX27_make 230 = .ok (.iconst 2, 1) := by decide +kernel
theorem dX27_make_231 : decode cX27_make 231 = .ok (.iconst 3, 1) := by decide +kernel
theorem dX27_make_232 : decode cX27_make 232 = .ok (.newarray .int, 2) := by decide +kernel
theorem dX27_make_234 : decode cX27_make 234 = .ok (.dup, 1) := by decide +kernel
theorem dX27_make_235 : decode cX27_make 235 = .ok (.iconst 0, 1) := by decide +kernel
theorem dX27_make_236 : decode cX27_make 236 = .ok (.iload_n 2, 1) := by decide +kernel
theorem dX27_make_237 : decode cX27_make 237 = .ok (.iastore, 1) := by decide +kernel
theorem dX27_make_238 : decode cX27_make 238 = .ok (.dup, 1) := by decide +kernel
theorem dX27_make_239 : decode cX27_make 239 = .ok (.iconst 1, 1) := by decide +kernel
theorem dX27_make_240 : decode cX27_make 240 = .ok (.iload_n 3, 1) := by decide +kernel
theorem dX27_make_241 : decode cX27_make 241 = .ok (.iastore, 1) := by decide +kernel
theorem dX27_make_242 : decode cX27_make 242 = .ok (.dup, 1) := by decide +kernel
theorem dX27_make_243 : decode cX27_make 243 = .ok (.iconst 2, 1) := by decide +kernel
theorem dX27_make_244 : decode cX27_make 244 = .ok (.iload 4, 2) := by decide +kernel
theorem dX27_make_246 : decode cX27_make 246 = .ok (.iastore, 1) := by decide +kernel
theorem dX27_make_247 : decode cX27_make 247 = .ok (.invokespecial 102, 3) := by decide +kernel
theorem dX27_make_250 : decode cX27_make 250 = .ok (.goto 4, 3) := by decide +kernel
theorem dX27_make_253 : decode cX27_make 253 = .ok (.aconst_null, 1) := by decide +kernel
theorem dX27_make_254 : decode cX27_make 254 = .ok (.areturn, 1) := by decide +kernel
theorem dX27_make_255 : decode cX27_make 255 = .ok (.aconst_null, 1) := by decide +kernel
theorem dX27_make_256 : decode cX27_make 256 = .ok (.areturn, 1) := by decide +kernel
abbrev cX27_isCondition : ByteArray := prog_49_method_5_code
def yX27_isCondition : MethodName := ⟨RX27, "isCondition", "(I)Z"⟩
theorem dX27_isCondition_0 : decode cX27_isCondition 0 = .ok (.iload_n 1, 1) := by decide +kernel
theorem dX27_isCondition_1 : decode cX27_isCondition 1 = .ok (.aload_n 0, 1) := by decide +kernel
theorem dX27_isCondition_2 : decode cX27_isCondition 2 = .ok (.getfield 22, 3) := by decide +kernel
theorem dX27_isCondition_5 : decode cX27_isCondition 5 = .ok (.invokevirtual 76, 3) := by decide +kernel
theorem dX27_isCondition_8 : decode cX27_isCondition 8 = .ok (.invokestatic 68, 3) := by decide +kernel
theorem dX27_isCondition_11 : decode cX27_isCondition 11 = .ok (.ireturn, 1) := by decide +kernel
abbrev cX27_rule : ByteArray := prog_49_method_9_code
def yX27_rule : MethodName := ⟨RX27, "rule", "(IZI)I"⟩
theorem dX27_rule_0 : decode cX27_rule 0 = .ok (.iload_n 1, 1) := by decide +kernel
theorem dX27_rule_1 : decode cX27_rule 1 = .ok (.bipush 10, 2) := by decide +kernel
theorem dX27_rule_3 : decode cX27_rule 3 = .ok (.invokestatic 68, 3) := by decide +kernel
theorem dX27_rule_6 : decode cX27_rule 6 = .ok (.ifCond .eq 11, 3) := by decide +kernel
theorem dX27_rule_9 : decode cX27_rule 9 = .ok (.aload_n 0, 1) := by decide +kernel
theorem dX27_rule_10 : decode cX27_rule 10 = .ok (.iload_n 3, 1) := by decide +kernel
theorem dX27_rule_11 : decode cX27_rule 11 = .ok (.invokevirtual 80, 3) := by decide +kernel
theorem dX27_rule_14 : decode cX27_rule 14 = .ok (.ifCond .ne 5, 3) := by decide +kernel
theorem dX27_rule_17 : decode cX27_rule 17 = .ok (.iconst (-1), 1) := by decide +kernel
theorem dX27_rule_18 : decode cX27_rule 18 = .ok (.ireturn, 1) := by decide +kernel
theorem dX27_rule_19 : decode cX27_rule 19 = .ok (.aload_n 0, 1) := by decide +kernel
theorem dX27_rule_20 : decode cX27_rule 20 = .ok (.getfield 26, 3) := by decide +kernel
theorem dX27_rule_23 : decode cX27_rule 23 = .ok (.invokevirtual 76, 3) := by decide +kernel
theorem dX27_rule_26 : decode cX27_rule 26 = .ok (.bipush 20, 2) := by decide +kernel
theorem dX27_rule_28 : decode cX27_rule 28 = .ok (.if_icmp .ne 6, 3) := by decide +kernel
theorem dX27_rule_31 : decode cX27_rule 31 = .ok (.bipush (-3), 2) := by decide +kernel
theorem dX27_rule_33 : decode cX27_rule 33 = .ok (.ireturn, 1) := by decide +kernel
theorem dX27_rule_34 : decode cX27_rule 34 = .ok (.aload_n 0, 1) := by decide +kernel
theorem dX27_rule_35 : decode cX27_rule 35 = .ok (.getfield 26, 3) := by decide +kernel
theorem dX27_rule_38 : decode cX27_rule 38 = .ok (.new 116, 3) := by decide +kernel
theorem dX27_rule_41 : decode cX27_rule 41 = .ok (.dup, 1) := by decide +kernel
theorem dX27_rule_42 : decode cX27_rule 42 = .ok (.iload_n 1, 1) := by decide +kernel
theorem dX27_rule_43 : decode cX27_rule 43 = .ok (.iload_n 2, 1) := by decide +kernel
theorem dX27_rule_44 : decode cX27_rule 44 = .ok (.iload_n 3, 1) := by decide +kernel
theorem dX27_rule_45 : decode cX27_rule 45 = .ok (.invokespecial 118, 3) := by decide +kernel
theorem dX27_rule_48 : decode cX27_rule 48 = .ok (.invokevirtual 112, 3) := by decide +kernel
theorem dX27_rule_51 : decode cX27_rule 51 = .ok (.pop, 1) := by decide +kernel
theorem dX27_rule_52 : decode cX27_rule 52 = .ok (.aload_n 0, 1) := by decide +kernel
theorem dX27_rule_53 : decode cX27_rule 53 = .ok (.getfield 26, 3) := by decide +kernel
theorem dX27_rule_56 : decode cX27_rule 56 = .ok (.invokevirtual 76, 3) := by decide +kernel
theorem dX27_rule_59 : decode cX27_rule 59 = .ok (.iconst 1, 1) := by decide +kernel
theorem dX27_rule_60 : decode cX27_rule 60 = .ok (.isub, 1) := by decide +kernel
theorem dX27_rule_61 : decode cX27_rule 61 = .ok (.ireturn, 1) := by decide +kernel
abbrev cX27_drop : ByteArray := prog_49_method_10_code
def yX27_drop : MethodName := ⟨RX27, "drop", "(I)I"⟩
theorem dX27_drop_0 : decode cX27_drop 0 = .ok (.iload_n 1, 1) := by decide +kernel
theorem dX27_drop_1 : decode cX27_drop 1 = .ok (.aload_n 0, 1) := by decide +kernel
theorem dX27_drop_2 : decode cX27_drop 2 = .ok (.getfield 26, 3) := by decide +kernel
theorem dX27_drop_5 : decode cX27_drop 5 = .ok (.invokevirtual 76, 3) := by decide +kernel
theorem dX27_drop_8 : decode cX27_drop 8 = .ok (.invokestatic 68, 3) := by decide +kernel
theorem dX27_drop_11 : decode cX27_drop 11 = .ok (.ifCond .ne 5, 3) := by decide +kernel
theorem dX27_drop_14 : decode cX27_drop 14 = .ok (.iconst (-1), 1) := by decide +kernel
theorem dX27_drop_15 : decode cX27_drop 15 = .ok (.ireturn, 1) := by decide +kernel
theorem dX27_drop_16 : decode cX27_drop 16 = .ok (.aload_n 0, 1) := by decide +kernel
theorem dX27_drop_17 : decode cX27_drop 17 = .ok (.getfield 26, 3) := by decide +kernel
theorem dX27_drop_20 : decode cX27_drop 20 = .ok (.iload_n 1, 1) := by decide +kernel
theorem dX27_drop_21 : decode cX27_drop 21 = .ok (.invokevirtual 121, 3) := by decide +kernel
theorem dX27_drop_24 : decode cX27_drop 24 = .ok (.pop, 1) := by decide +kernel
theorem dX27_drop_25 : decode cX27_drop 25 = .ok (.aload_n 0, 1) := by decide +kernel
theorem dX27_drop_26 : decode cX27_drop 26 = .ok (.getfield 26, 3) := by decide +kernel
theorem dX27_drop_29 : decode cX27_drop 29 = .ok (.invokevirtual 76, 3) := by decide +kernel
theorem dX27_drop_32 : decode cX27_drop 32 = .ok (.ireturn, 1) := by decide +kernel
abbrev cX27_asks : ByteArray := prog_49_method_17_code
def yX27_asks : MethodName := ⟨RX27, "asks", "(I)I"⟩
theorem dX27_asks_0 : decode cX27_asks 0 = .ok (.aload_n 0, 1) := by decide +kernel
theorem dX27_asks_1 : decode cX27_asks 1 = .ok (.iload_n 1, 1) := by decide +kernel
theorem dX27_asks_2 : decode cX27_asks 2 = .ok (.invokevirtual 80, 3) := by decide +kernel
theorem dX27_asks_5 : decode cX27_asks 5 = .ok (.ifCond .eq 14, 3) := by decide +kernel
theorem dX27_asks_8 : decode cX27_asks 8 = .ok (.aload_n 0, 1) := by decide +kernel
theorem dX27_asks_9 : decode cX27_asks 9 = .ok (.iload_n 1, 1) := by decide +kernel
theorem dX27_asks_10 : decode cX27_asks 10 = .ok (.invokevirtual 169, 3) := by decide +kernel
theorem dX27_asks_13 : decode cX27_asks 13 = .ok (.invokevirtual 173, 3) := by decide +kernel
theorem dX27_asks_16 : decode cX27_asks 16 = .ok (.goto 4, 3) := by decide +kernel
theorem dX27_asks_19 : decode cX27_asks 19 = .ok (.iconst (-1), 1) := by decide +kernel
theorem dX27_asks_20 : decode cX27_asks 20 = .ok (.ireturn, 1) := by decide +kernel
abbrev cX27_setOf : ByteArray := prog_49_method_16_code
def yX27_setOf : MethodName := ⟨RX27, "setOf", "(I)Ljava/util/BitSet;"⟩
theorem dX27_setOf_0 : decode cX27_setOf 0 = .ok (.iload_n 1, 1) := by decide +kernel
theorem dX27_setOf_1 : decode cX27_setOf 1 = .ok (.aload_n 0, 1) := by decide +kernel
theorem dX27_setOf_2 : decode cX27_setOf 2 = .ok (.getfield 72, 3) := by decide +kernel
theorem dX27_setOf_5 : decode cX27_setOf 5 = .ok (.if_icmp .lt 100, 3) := by decide +kernel
theorem dX27_setOf_8 : decode cX27_setOf 8 = .ok (.aload_n 0, 1) := by decide +kernel
theorem dX27_setOf_9 : decode cX27_setOf 9 = .ok (.getfield 40, 3) := by decide +kernel
theorem dX27_setOf_12 : decode cX27_setOf 12 = .ok (.astore_n 2, 1) := by decide +kernel
theorem dX27_setOf_13 : decode cX27_setOf 13 = .ok (.aload_n 2, 1) := by decide +kernel
theorem dX27_setOf_14 : decode cX27_setOf 14 = .ok (.arraylength, 1) := by decide +kernel
theorem dX27_setOf_15 : decode cX27_setOf 15 = .ok (.istore_n 3, 1) := by decide +kernel
theorem dX27_setOf_16 : decode cX27_setOf 16 = .ok (.iconst 0, 1) := by decide +kernel
theorem dX27_setOf_17 : decode cX27_setOf 17 = .ok (.istore 4, 2) := by decide +kernel
theorem dX27_setOf_19 : decode cX27_setOf 19 = .ok (.iload 4, 2) := by decide +kernel
theorem dX27_setOf_21 : decode cX27_setOf 21 = .ok (.iload_n 3, 1) := by decide +kernel
theorem dX27_setOf_22 : decode cX27_setOf 22 = .ok (.if_icmp .ge 72, 3) := by decide +kernel
theorem dX27_setOf_25 : decode cX27_setOf 25 = .ok (.aload_n 2, 1) := by decide +kernel
theorem dX27_setOf_26 : decode cX27_setOf 26 = .ok (.iload 4, 2) := by decide +kernel
theorem dX27_setOf_28 : decode cX27_setOf 28 = .ok (.aaload, 1) := by decide +kernel
theorem dX27_setOf_29 : decode cX27_setOf 29 = .ok (.astore 5, 2) := by decide +kernel
theorem dX27_setOf_31 : decode cX27_setOf 31 = .ok (.aload_n 0, 1) := by decide +kernel
theorem dX27_setOf_32 : decode cX27_setOf 32 = .ok (.aload 5, 2) := by decide +kernel
theorem dX27_setOf_34 : decode cX27_setOf 34 = .ok (.invokevirtual 134, 3) := by decide +kernel
theorem dX27_setOf_37 : decode cX27_setOf 37 = .ok (.aload_n 0, 1) := by decide +kernel
theorem dX27_setOf_38 : decode cX27_setOf 38 = .ok (.getfield 72, 3) := by decide +kernel
theorem dX27_setOf_41 : decode cX27_setOf 41 = .ok (.istore 6, 2) := by decide +kernel
theorem dX27_setOf_43 : decode cX27_setOf 43 = .ok (.iload 6, 2) := by decide +kernel
theorem dX27_setOf_45 : decode cX27_setOf 45 = .ok (.aload_n 0, 1) := by decide +kernel
theorem dX27_setOf_46 : decode cX27_setOf 46 = .ok (.getfield 22, 3) := by decide +kernel
theorem dX27_setOf_49 : decode cX27_setOf 49 = .ok (.invokevirtual 76, 3) := by decide +kernel
theorem dX27_setOf_52 : decode cX27_setOf 52 = .ok (.if_icmp .ge 36, 3) := by decide +kernel
theorem dX27_setOf_55 : decode cX27_setOf 55 = .ok (.aload_n 0, 1) := by decide +kernel
theorem dX27_setOf_56 : decode cX27_setOf 56 = .ok (.getfield 29, 3) := by decide +kernel
theorem dX27_setOf_59 : decode cX27_setOf 59 = .ok (.iload 6, 2) := by decide +kernel
theorem dX27_setOf_61 : decode cX27_setOf 61 = .ok (.invokevirtual 125, 3) := by decide +kernel
theorem dX27_setOf_64 : decode cX27_setOf 64 = .ok (.checkcast 44, 3) := by decide +kernel
theorem dX27_setOf_67 : decode cX27_setOf 67 = .ok (.aload 5, 2) := by decide +kernel
theorem dX27_setOf_69 : decode cX27_setOf 69 = .ok (.invokevirtual 158, 3) := by decide +kernel
theorem dX27_setOf_72 : decode cX27_setOf 72 = .ok (.aload_n 0, 1) := by decide +kernel
theorem dX27_setOf_73 : decode cX27_setOf 73 = .ok (.getfield 32, 3) := by decide +kernel
theorem dX27_setOf_76 : decode cX27_setOf 76 = .ok (.iload 6, 2) := by decide +kernel
theorem dX27_setOf_78 : decode cX27_setOf 78 = .ok (.baload, 1) := by decide +kernel
theorem dX27_setOf_79 : decode cX27_setOf 79 = .ok (.invokevirtual 165, 3) := by decide +kernel
theorem dX27_setOf_82 : decode cX27_setOf 82 = .ok (.iinc 6 1, 3) := by decide +kernel
theorem dX27_setOf_85 : decode cX27_setOf 85 = .ok (.goto (-42), 3) := by decide +kernel
theorem dX27_setOf_88 : decode cX27_setOf 88 = .ok (.iinc 4 1, 3) := by decide +kernel
theorem dX27_setOf_91 : decode cX27_setOf 91 = .ok (.goto (-72), 3) := by decide +kernel
theorem dX27_setOf_94 : decode cX27_setOf 94 = .ok (.aload_n 0, 1) := by decide +kernel
theorem dX27_setOf_95 : decode cX27_setOf 95 = .ok (.aload_n 0, 1) := by decide +kernel
theorem dX27_setOf_96 : decode cX27_setOf 96 = .ok (.getfield 22, 3) := by decide +kernel
theorem dX27_setOf_99 : decode cX27_setOf 99 = .ok (.invokevirtual 76, 3) := by decide +kernel
theorem dX27_setOf_102 : decode cX27_setOf 102 = .ok (.putfield 72, 3) := by decide +kernel
theorem dX27_setOf_105 : decode cX27_setOf 105 = .ok (.aload_n 0, 1) := by decide +kernel
theorem dX27_setOf_106 : decode cX27_setOf 106 = .ok (.getfield 29, 3) := by decide +kernel
theorem dX27_setOf_109 : decode cX27_setOf 109 = .ok (.iload_n 1, 1) := by decide +kernel
theorem dX27_setOf_110 : decode cX27_setOf 110 = .ok (.invokevirtual 125, 3) := by decide +kernel
theorem dX27_setOf_113 : decode cX27_setOf 113 = .ok (.checkcast 44, 3) := by decide +kernel
theorem dX27_setOf_116 : decode cX27_setOf 116 = .ok (.areturn, 1) := by decide +kernel
abbrev cX27_ask : ByteArray := prog_49_method_18_code
def yX27_ask : MethodName := ⟨RX27, "ask", "(II)I"⟩
theorem dX27_ask_0 : decode cX27_ask 0 = .ok (.aload_n 0, 1) := by decide +kernel
theorem dX27_ask_1 : decode cX27_ask 1 = .ok (.iload_n 1, 1) := by decide +kernel
theorem dX27_ask_2 : decode cX27_ask 2 = .ok (.invokevirtual 80, 3) := by decide +kernel
theorem dX27_ask_5 : decode cX27_ask 5 = .ok (.ifCond .ne 5, 3) := by decide +kernel
theorem dX27_ask_8 : decode cX27_ask 8 = .ok (.iconst (-1), 1) := by decide +kernel
theorem dX27_ask_9 : decode cX27_ask 9 = .ok (.ireturn, 1) := by decide +kernel
theorem dX27_ask_10 : decode cX27_ask 10 = .ok (.iload_n 2, 1) := by decide +kernel
theorem dX27_ask_11 : decode cX27_ask 11 = .ok (.ifCond .ge 8, 3) := by decide +kernel
theorem dX27_ask_14 : decode cX27_ask 14 = .ok (.bipush (-2), 2) := by decide +kernel
theorem dX27_ask_16 : decode cX27_ask 16 = .ok (.goto 12, 3) := by decide +kernel
theorem dX27_ask_19 : decode cX27_ask 19 = .ok (.aload_n 0, 1) := by decide +kernel
theorem dX27_ask_20 : decode cX27_ask 20 = .ok (.iload_n 1, 1) := by decide +kernel
theorem dX27_ask_21 : decode cX27_ask 21 = .ok (.invokevirtual 169, 3) := by decide +kernel
theorem dX27_ask_24 : decode cX27_ask 24 = .ok (.iconst 0, 1) := by decide +kernel
theorem dX27_ask_25 : decode cX27_ask 25 = .ok (.invokevirtual 176, 3) := by decide +kernel
theorem dX27_ask_28 : decode cX27_ask 28 = .ok (.istore_n 3, 1) := by decide +kernel
theorem dX27_ask_29 : decode cX27_ask 29 = .ok (.iload_n 2, 1) := by decide +kernel
theorem dX27_ask_30 : decode cX27_ask 30 = .ok (.istore 4, 2) := by decide +kernel
theorem dX27_ask_32 : decode cX27_ask 32 = .ok (.iload 4, 2) := by decide +kernel
theorem dX27_ask_34 : decode cX27_ask 34 = .ok (.ifCond .le 25, 3) := by decide +kernel
theorem dX27_ask_37 : decode cX27_ask 37 = .ok (.iload_n 3, 1) := by decide +kernel
theorem dX27_ask_38 : decode cX27_ask 38 = .ok (.ifCond .lt 21, 3) := by decide +kernel
theorem dX27_ask_41 : decode cX27_ask 41 = .ok (.aload_n 0, 1) := by decide +kernel
theorem dX27_ask_42 : decode cX27_ask 42 = .ok (.iload_n 1, 1) := by decide +kernel
theorem dX27_ask_43 : decode cX27_ask 43 = .ok (.invokevirtual 169, 3) := by decide +kernel
theorem dX27_ask_46 : decode cX27_ask 46 = .ok (.iload_n 3, 1) := by decide +kernel
theorem dX27_ask_47 : decode cX27_ask 47 = .ok (.iconst 1, 1) := by decide +kernel
theorem dX27_ask_48 : decode cX27_ask 48 = .ok (.iadd, 1) := by decide +kernel
theorem dX27_ask_49 : decode cX27_ask 49 = .ok (.invokevirtual 176, 3) := by decide +kernel
theorem dX27_ask_52 : decode cX27_ask 52 = .ok (.istore_n 3, 1) := by decide +kernel
theorem dX27_ask_53 : decode cX27_ask 53 = .ok (.iinc 4 (-1), 3) := by decide +kernel
theorem dX27_ask_56 : decode cX27_ask 56 = .ok (.goto (-24), 3) := by decide +kernel
theorem dX27_ask_59 : decode cX27_ask 59 = .ok (.iload_n 3, 1) := by decide +kernel
theorem dX27_ask_60 : decode cX27_ask 60 = .ok (.ifCond .ge 8, 3) := by decide +kernel
theorem dX27_ask_63 : decode cX27_ask 63 = .ok (.bipush (-2), 2) := by decide +kernel
theorem dX27_ask_65 : decode cX27_ask 65 = .ok (.goto 4, 3) := by decide +kernel
theorem dX27_ask_68 : decode cX27_ask 68 = .ok (.iload_n 3, 1) := by decide +kernel
theorem dX27_ask_69 : decode cX27_ask 69 = .ok (.ireturn, 1) := by decide +kernel
abbrev cX27_within : ByteArray := prog_49_method_20_code
def yX27_within : MethodName := ⟨RX27, "within", "(II)I"⟩
theorem dX27_within_0 : decode cX27_within 0 = .ok (.aload_n 0, 1) := by decide +kernel
theorem dX27_within_1 : decode cX27_within 1 = .ok (.iload_n 1, 1) := by decide +kernel
theorem dX27_within_2 : decode cX27_within 2 = .ok (.invokevirtual 80, 3) := by decide +kernel
theorem dX27_within_5 : decode cX27_within 5 = .ok (.ifCond .eq 11, 3) := by decide +kernel
theorem dX27_within_8 : decode cX27_within 8 = .ok (.aload_n 0, 1) := by decide +kernel
theorem dX27_within_9 : decode cX27_within 9 = .ok (.iload_n 2, 1) := by decide +kernel
theorem dX27_within_10 : decode cX27_within 10 = .ok (.invokevirtual 80, 3) := by decide +kernel
theorem dX27_within_13 : decode cX27_within 13 = .ok (.ifCond .ne 5, 3) := by decide +kernel
theorem dX27_within_16 : decode cX27_within 16 = .ok (.iconst (-1), 1) := by decide +kernel
theorem dX27_within_17 : decode cX27_within 17 = .ok (.ireturn, 1) := by decide +kernel
theorem dX27_within_18 : decode cX27_within 18 = .ok (.aload_n 0, 1) := by decide +kernel
theorem dX27_within_19 : decode cX27_within 19 = .ok (.iload_n 1, 1) := by decide +kernel
theorem dX27_within_20 : decode cX27_within 20 = .ok (.invokevirtual 169, 3) := by decide +kernel
theorem dX27_within_23 : decode cX27_within 23 = .ok (.aload_n 0, 1) := by decide +kernel
theorem dX27_within_24 : decode cX27_within 24 = .ok (.iload_n 2, 1) := by decide +kernel
theorem dX27_within_25 : decode cX27_within 25 = .ok (.invokevirtual 169, 3) := by decide +kernel
theorem dX27_within_28 : decode cX27_within 28 = .ok (.aload_n 0, 1) := by decide +kernel
theorem dX27_within_29 : decode cX27_within 29 = .ok (.getfield 53, 3) := by decide +kernel
theorem dX27_within_32 : decode cX27_within 32 = .ok (.invokestatic 190, 3) := by decide +kernel
theorem dX27_within_35 : decode cX27_within 35 = .ok (.aload_n 0, 1) := by decide +kernel
theorem dX27_within_36 : decode cX27_within 36 = .ok (.getfield 53, 3) := by decide +kernel
theorem dX27_within_39 : decode cX27_within 39 = .ok (.invokevirtual 194, 3) := by decide +kernel
theorem dX27_within_42 : decode cX27_within 42 = .ok (.ifCond .eq 7, 3) := by decide +kernel
theorem dX27_within_45 : decode cX27_within 45 = .ok (.iconst 1, 1) := by decide +kernel
theorem dX27_within_46 : decode cX27_within 46 = .ok (.goto 4, 3) := by decide +kernel
theorem dX27_within_49 : decode cX27_within 49 = .ok (.iconst 0, 1) := by decide +kernel
theorem dX27_within_50 : decode cX27_within 50 = .ok (.ireturn, 1) := by decide +kernel
abbrev cX27_put : ByteArray := prog_49_method_19_code
def yX27_put : MethodName := ⟨RX27, "put", "(Ljava/util/BitSet;Ljava/util/BitSet;Ljava/util/BitSet;)V"⟩
theorem dX27_put_0 : decode cX27_put 0 = .ok (.aload_n 2, 1) := by decide +kernel
theorem dX27_put_1 : decode cX27_put 1 = .ok (.invokevirtual 180, 3) := by decide +kernel
theorem dX27_put_4 : decode cX27_put 4 = .ok (.aload_n 2, 1) := by decide +kernel
theorem dX27_put_5 : decode cX27_put 5 = .ok (.aload_n 0, 1) := by decide +kernel
theorem dX27_put_6 : decode cX27_put 6 = .ok (.invokevirtual 183, 3) := by decide +kernel
theorem dX27_put_9 : decode cX27_put 9 = .ok (.aload_n 2, 1) := by decide +kernel
theorem dX27_put_10 : decode cX27_put 10 = .ok (.aload_n 1, 1) := by decide +kernel
theorem dX27_put_11 : decode cX27_put 11 = .ok (.invokevirtual 187, 3) := by decide +kernel
theorem dX27_put_14 : decode cX27_put 14 = .ok (.return_, 1) := by decide +kernel
abbrev cX27_decides : ByteArray := prog_49_method_23_code
def yX27_decides : MethodName := ⟨RX27, "decides", "(I)I"⟩
theorem dX27_decides_0 : decode cX27_decides 0 = .ok (.iload_n 1, 1) := by decide +kernel
theorem dX27_decides_1 : decode cX27_decides 1 = .ok (.aload_n 0, 1) := by decide +kernel
theorem dX27_decides_2 : decode cX27_decides 2 = .ok (.getfield 26, 3) := by decide +kernel
theorem dX27_decides_5 : decode cX27_decides 5 = .ok (.invokevirtual 76, 3) := by decide +kernel
theorem dX27_decides_8 : decode cX27_decides 8 = .ok (.invokestatic 68, 3) := by decide +kernel
theorem dX27_decides_11 : decode cX27_decides 11 = .ok (.ifCond .ne 5, 3) := by decide +kernel
theorem dX27_decides_14 : decode cX27_decides 14 = .ok (.iconst (-1), 1) := by decide +kernel
theorem dX27_decides_15 : decode cX27_decides 15 = .ok (.ireturn, 1) := by decide +kernel
theorem dX27_decides_16 : decode cX27_decides 16 = .ok (.aload_n 0, 1) := by decide +kernel
theorem dX27_decides_17 : decode cX27_decides 17 = .ok (.bipush (-2), 2) := by decide +kernel
theorem dX27_decides_19 : decode cX27_decides 19 = .ok (.iload_n 1, 1) := by decide +kernel
theorem dX27_decides_20 : decode cX27_decides 20 = .ok (.aload_n 0, 1) := by decide +kernel
theorem dX27_decides_21 : decode cX27_decides 21 = .ok (.getfield 59, 3) := by decide +kernel
theorem dX27_decides_24 : decode cX27_decides 24 = .ok (.invokevirtual 200, 3) := by decide +kernel
theorem dX27_decides_27 : decode cX27_decides 27 = .ok (.aload_n 0, 1) := by decide +kernel
theorem dX27_decides_28 : decode cX27_decides 28 = .ok (.getfield 56, 3) := by decide +kernel
theorem dX27_decides_31 : decode cX27_decides 31 = .ok (.invokevirtual 173, 3) := by decide +kernel
theorem dX27_decides_34 : decode cX27_decides 34 = .ok (.ireturn, 1) := by decide +kernel
abbrev cX27_decided : ByteArray := prog_49_method_22_code
def yX27_decided : MethodName := ⟨RX27, "decided", "(IILjava/util/BitSet;)V"⟩
theorem dX27_decided_0 : decode cX27_decided 0 = .ok (.aload_n 0, 1) := by decide +kernel
theorem dX27_decided_1 : decode cX27_decided 1 = .ok (.iload_n 1, 1) := by decide +kernel
theorem dX27_decided_2 : decode cX27_decided 2 = .ok (.invokevirtual 197, 3) := by decide +kernel
theorem dX27_decided_5 : decode cX27_decided 5 = .ok (.istore 4, 2) := by decide +kernel
theorem dX27_decided_7 : decode cX27_decided 7 = .ok (.aload_n 0, 1) := by decide +kernel
theorem dX27_decided_8 : decode cX27_decided 8 = .ok (.getfield 49, 3) := by decide +kernel
theorem dX27_decided_11 : decode cX27_decided 11 = .ok (.invokevirtual 180, 3) := by decide +kernel
theorem dX27_decided_14 : decode cX27_decided 14 = .ok (.aload_n 0, 1) := by decide +kernel
theorem dX27_decided_15 : decode cX27_decided 15 = .ok (.getfield 56, 3) := by decide +kernel
theorem dX27_decided_18 : decode cX27_decided 18 = .ok (.invokevirtual 180, 3) := by decide +kernel
theorem dX27_decided_21 : decode cX27_decided 21 = .ok (.aload_n 3, 1) := by decide +kernel
theorem dX27_decided_22 : decode cX27_decided 22 = .ok (.invokevirtual 180, 3) := by decide +kernel
theorem dX27_decided_25 : decode cX27_decided 25 = .ok (.iconst 0, 1) := by decide +kernel
theorem dX27_decided_26 : decode cX27_decided 26 = .ok (.istore 5, 2) := by decide +kernel
theorem dX27_decided_28 : decode cX27_decided 28 = .ok (.iload 5, 2) := by decide +kernel
theorem dX27_decided_30 : decode cX27_decided 30 = .ok (.iload 4, 2) := by decide +kernel
theorem dX27_decided_32 : decode cX27_decided 32 = .ok (.if_icmp .ge 97, 3) := by decide +kernel
theorem dX27_decided_35 : decode cX27_decided 35 = .ok (.aload_n 0, 1) := by decide +kernel
theorem dX27_decided_36 : decode cX27_decided 36 = .ok (.getfield 26, 3) := by decide +kernel
theorem dX27_decided_39 : decode cX27_decided 39 = .ok (.aload_n 0, 1) := by decide +kernel
theorem dX27_decided_40 : decode cX27_decided 40 = .ok (.getfield 65, 3) := by decide +kernel
theorem dX27_decided_43 : decode cX27_decided 43 = .ok (.iload 5, 2) := by decide +kernel
theorem dX27_decided_45 : decode cX27_decided 45 = .ok (.iaload, 1) := by decide +kernel
theorem dX27_decided_46 : decode cX27_decided 46 = .ok (.invokevirtual 125, 3) := by decide +kernel
theorem dX27_decided_49 : decode cX27_decided 49 = .ok (.checkcast 116, 3) := by decide +kernel
theorem dX27_decided_52 : decode cX27_decided 52 = .ok (.astore 6, 2) := by decide +kernel
theorem dX27_decided_54 : decode cX27_decided 54 = .ok (.aload_n 0, 1) := by decide +kernel
theorem dX27_decided_55 : decode cX27_decided 55 = .ok (.aload 6, 2) := by decide +kernel
theorem dX27_decided_57 : decode cX27_decided 57 = .ok (.getfield 138, 3) := by decide +kernel
theorem dX27_decided_60 : decode cX27_decided 60 = .ok (.invokevirtual 169, 3) := by decide +kernel
theorem dX27_decided_63 : decode cX27_decided 63 = .ok (.aload_n 0, 1) := by decide +kernel
theorem dX27_decided_64 : decode cX27_decided 64 = .ok (.getfield 49, 3) := by decide +kernel
theorem dX27_decided_67 : decode cX27_decided 67 = .ok (.aload_n 0, 1) := by decide +kernel
theorem dX27_decided_68 : decode cX27_decided 68 = .ok (.getfield 53, 3) := by decide +kernel
theorem dX27_decided_71 : decode cX27_decided 71 = .ok (.invokestatic 190, 3) := by decide +kernel
theorem dX27_decided_74 : decode cX27_decided 74 = .ok (.aload_n 0, 1) := by decide +kernel
theorem dX27_decided_75 : decode cX27_decided 75 = .ok (.getfield 65, 3) := by decide +kernel
theorem dX27_decided_78 : decode cX27_decided 78 = .ok (.iload 5, 2) := by decide +kernel
theorem dX27_decided_80 : decode cX27_decided 80 = .ok (.iaload, 1) := by decide +kernel
theorem dX27_decided_81 : decode cX27_decided 81 = .ok (.iload_n 2, 1) := by decide +kernel
theorem dX27_decided_82 : decode cX27_decided 82 = .ok (.if_icmp .ne 14, 3) := by decide +kernel
theorem dX27_decided_85 : decode cX27_decided 85 = .ok (.aload_n 0, 1) := by decide +kernel
theorem dX27_decided_86 : decode cX27_decided 86 = .ok (.getfield 56, 3) := by decide +kernel
theorem dX27_decided_89 : decode cX27_decided 89 = .ok (.aload_n 0, 1) := by decide +kernel
theorem dX27_decided_90 : decode cX27_decided 90 = .ok (.getfield 53, 3) := by decide +kernel
theorem dX27_decided_93 : decode cX27_decided 93 = .ok (.invokevirtual 183, 3) := by decide +kernel
theorem dX27_decided_96 : decode cX27_decided 96 = .ok (.aload 6, 2) := by decide +kernel
theorem dX27_decided_98 : decode cX27_decided 98 = .ok (.getfield 147, 3) := by decide +kernel
theorem dX27_decided_101 : decode cX27_decided 101 = .ok (.ifCond .ne 11, 3) := by decide +kernel
theorem dX27_decided_104 : decode cX27_decided 104 = .ok (.aload_n 3, 1) := by decide +kernel
theorem dX27_decided_105 : decode cX27_decided 105 = .ok (.aload_n 0, 1) := by decide +kernel
theorem dX27_decided_106 : decode cX27_decided 106 = .ok (.getfield 53, 3) := by decide +kernel
theorem dX27_decided_109 : decode cX27_decided 109 = .ok (.invokevirtual 183, 3) := by decide +kernel
theorem dX27_decided_112 : decode cX27_decided 112 = .ok (.aload_n 0, 1) := by decide +kernel
theorem dX27_decided_113 : decode cX27_decided 113 = .ok (.getfield 49, 3) := by decide +kernel
theorem dX27_decided_116 : decode cX27_decided 116 = .ok (.aload_n 0, 1) := by decide +kernel
theorem dX27_decided_117 : decode cX27_decided 117 = .ok (.getfield 53, 3) := by decide +kernel
theorem dX27_decided_120 : decode cX27_decided 120 = .ok (.invokevirtual 183, 3) := by decide +kernel
theorem dX27_decided_123 : decode cX27_decided 123 = .ok (.iinc 5 1, 3) := by decide +kernel
theorem dX27_decided_126 : decode cX27_decided 126 = .ok (.goto (-98), 3) := by decide +kernel
theorem dX27_decided_129 : decode cX27_decided 129 = .ok (.return_, 1) := by decide +kernel
abbrev cX27_inOrder : ByteArray := prog_49_method_21_code
def yX27_inOrder : MethodName := ⟨RX27, "inOrder", "(I)I"⟩
theorem dX27_inOrder_0 : decode cX27_inOrder 0 = .ok (.iconst 0, 1) := by decide +kernel
theorem dX27_inOrder_1 : decode cX27_inOrder 1 = .ok (.istore_n 2, 1) := by decide +kernel
theorem dX27_inOrder_2 : decode cX27_inOrder 2 = .ok (.iconst 0, 1) := by decide +kernel
theorem dX27_inOrder_3 : decode cX27_inOrder 3 = .ok (.istore_n 3, 1) := by decide +kernel
theorem dX27_inOrder_4 : decode cX27_inOrder 4 = .ok (.iload_n 3, 1) := by decide +kernel
theorem dX27_inOrder_5 : decode cX27_inOrder 5 = .ok (.aload_n 0, 1) := by decide +kernel
theorem dX27_inOrder_6 : decode cX27_inOrder 6 = .ok (.getfield 26, 3) := by decide +kernel
theorem dX27_inOrder_9 : decode cX27_inOrder 9 = .ok (.invokevirtual 76, 3) := by decide +kernel
theorem dX27_inOrder_12 : decode cX27_inOrder 12 = .ok (.if_icmp .ge 75, 3) := by decide +kernel
theorem dX27_inOrder_15 : decode cX27_inOrder 15 = .ok (.iload_n 3, 1) := by decide +kernel
theorem dX27_inOrder_16 : decode cX27_inOrder 16 = .ok (.iload_n 1, 1) := by decide +kernel
theorem dX27_inOrder_17 : decode cX27_inOrder 17 = .ok (.if_icmp .ne 6, 3) := by decide +kernel
theorem dX27_inOrder_20 : decode cX27_inOrder 20 = .ok (.goto 61, 3) := by decide +kernel
theorem dX27_inOrder_23 : decode cX27_inOrder 23 = .ok (.iload_n 2, 1) := by decide +kernel
theorem dX27_inOrder_24 : decode cX27_inOrder 24 = .ok (.istore 4, 2) := by decide +kernel
theorem dX27_inOrder_26 : decode cX27_inOrder 26 = .ok (.iload 4, 2) := by decide +kernel
theorem dX27_inOrder_28 : decode cX27_inOrder 28 = .ok (.ifCond .le 42, 3) := by decide +kernel
theorem dX27_inOrder_31 : decode cX27_inOrder 31 = .ok (.aload_n 0, 1) := by decide +kernel
theorem dX27_inOrder_32 : decode cX27_inOrder 32 = .ok (.iload_n 3, 1) := by decide +kernel
theorem dX27_inOrder_33 : decode cX27_inOrder 33 = .ok (.aload_n 0, 1) := by decide +kernel
theorem dX27_inOrder_34 : decode cX27_inOrder 34 = .ok (.getfield 65, 3) := by decide +kernel
theorem dX27_inOrder_37 : decode cX27_inOrder 37 = .ok (.iload 4, 2) := by decide +kernel
theorem dX27_inOrder_39 : decode cX27_inOrder 39 = .ok (.iconst 1, 1) := by decide +kernel
theorem dX27_inOrder_40 : decode cX27_inOrder 40 = .ok (.isub, 1) := by decide +kernel
theorem dX27_inOrder_41 : decode cX27_inOrder 41 = .ok (.iaload, 1) := by decide +kernel
theorem dX27_inOrder_42 : decode cX27_inOrder 42 = .ok (.invokevirtual 141, 3) := by decide +kernel
theorem dX27_inOrder_45 : decode cX27_inOrder 45 = .ok (.ifCond .eq 25, 3) := by decide +kernel
theorem dX27_inOrder_48 : decode cX27_inOrder 48 = .ok (.aload_n 0, 1) := by decide +kernel
theorem dX27_inOrder_49 : decode cX27_inOrder 49 = .ok (.getfield 65, 3) := by decide +kernel
theorem dX27_inOrder_52 : decode cX27_inOrder 52 = .ok (.iload 4, 2) := by decide +kernel
theorem dX27_inOrder_54 : decode cX27_inOrder 54 = .ok (.aload_n 0, 1) := by decide +kernel
theorem dX27_inOrder_55 : decode cX27_inOrder 55 = .ok (.getfield 65, 3) := by decide +kernel
theorem dX27_inOrder_58 : decode cX27_inOrder 58 = .ok (.iload 4, 2) := by decide +kernel
theorem dX27_inOrder_60 : decode cX27_inOrder 60 = .ok (.iconst 1, 1) := by decide +kernel
theorem dX27_inOrder_61 : decode cX27_inOrder 61 = .ok (.isub, 1) := by decide +kernel
theorem dX27_inOrder_62 : decode cX27_inOrder 62 = .ok (.iaload, 1) := by decide +kernel
theorem dX27_inOrder_63 : decode cX27_inOrder 63 = .ok (.iastore, 1) := by decide +kernel
theorem dX27_inOrder_64 : decode cX27_inOrder 64 = .ok (.iinc 4 (-1), 3) := by decide +kernel
theorem dX27_inOrder_67 : decode cX27_inOrder 67 = .ok (.goto (-41), 3) := by decide +kernel
theorem dX27_inOrder_70 : decode cX27_inOrder 70 = .ok (.aload_n 0, 1) := by decide +kernel
theorem dX27_inOrder_71 : decode cX27_inOrder 71 = .ok (.getfield 65, 3) := by decide +kernel
theorem dX27_inOrder_74 : decode cX27_inOrder 74 = .ok (.iload 4, 2) := by decide +kernel
theorem dX27_inOrder_76 : decode cX27_inOrder 76 = .ok (.iload_n 3, 1) := by decide +kernel
theorem dX27_inOrder_77 : decode cX27_inOrder 77 = .ok (.iastore, 1) := by decide +kernel
theorem dX27_inOrder_78 : decode cX27_inOrder 78 = .ok (.iinc 2 1, 3) := by decide +kernel
theorem dX27_inOrder_81 : decode cX27_inOrder 81 = .ok (.iinc 3 1, 3) := by decide +kernel
theorem dX27_inOrder_84 : decode cX27_inOrder 84 = .ok (.goto (-80), 3) := by decide +kernel
theorem dX27_inOrder_87 : decode cX27_inOrder 87 = .ok (.iload_n 2, 1) := by decide +kernel
theorem dX27_inOrder_88 : decode cX27_inOrder 88 = .ok (.ireturn, 1) := by decide +kernel
abbrev cX27_sees : ByteArray := prog_49_method_24_code
def yX27_sees : MethodName := ⟨RX27, "sees", "(II)I"⟩
theorem dX27_sees_0 : decode cX27_sees 0 = .ok (.iload_n 1, 1) := by decide +kernel
theorem dX27_sees_1 : decode cX27_sees 1 = .ok (.bipush 8, 2) := by decide +kernel
theorem dX27_sees_3 : decode cX27_sees 3 = .ok (.invokestatic 68, 3) := by decide +kernel
theorem dX27_sees_6 : decode cX27_sees 6 = .ok (.ifCond .eq 12, 3) := by decide +kernel
theorem dX27_sees_9 : decode cX27_sees 9 = .ok (.iload_n 2, 1) := by decide +kernel
theorem dX27_sees_10 : decode cX27_sees 10 = .ok (.bipush 8, 2) := by decide +kernel
theorem dX27_sees_12 : decode cX27_sees 12 = .ok (.invokestatic 68, 3) := by decide +kernel
theorem dX27_sees_15 : decode cX27_sees 15 = .ok (.ifCond .ne 5, 3) := by decide +kernel
theorem dX27_sees_18 : decode cX27_sees 18 = .ok (.iconst (-1), 1) := by decide +kernel
theorem dX27_sees_19 : decode cX27_sees 19 = .ok (.ireturn, 1) := by decide +kernel
theorem dX27_sees_20 : decode cX27_sees 20 = .ok (.aload_n 0, 1) := by decide +kernel
theorem dX27_sees_21 : decode cX27_sees 21 = .ok (.bipush (-2), 2) := by decide +kernel
theorem dX27_sees_23 : decode cX27_sees 23 = .ok (.bipush (-2), 2) := by decide +kernel
theorem dX27_sees_25 : decode cX27_sees 25 = .ok (.aload_n 0, 1) := by decide +kernel
theorem dX27_sees_26 : decode cX27_sees 26 = .ok (.getfield 59, 3) := by decide +kernel
theorem dX27_sees_29 : decode cX27_sees 29 = .ok (.invokevirtual 200, 3) := by decide +kernel
theorem dX27_sees_32 : decode cX27_sees 32 = .ok (.iconst 0, 1) := by decide +kernel
theorem dX27_sees_33 : decode cX27_sees 33 = .ok (.istore_n 3, 1) := by decide +kernel
theorem dX27_sees_34 : decode cX27_sees 34 = .ok (.sipush 768, 3) := by decide +kernel
theorem dX27_sees_37 : decode cX27_sees 37 = .ok (.iload_n 1, 1) := by decide +kernel
theorem dX27_sees_38 : decode cX27_sees 38 = .ok (.imul, 1) := by decide +kernel
theorem dX27_sees_39 : decode cX27_sees 39 = .ok (.istore 4, 2) := by decide +kernel
theorem dX27_sees_41 : decode cX27_sees 41 = .ok (.iload 4, 2) := by decide +kernel
theorem dX27_sees_43 : decode cX27_sees 43 = .ok (.sipush 768, 3) := by decide +kernel
theorem dX27_sees_46 : decode cX27_sees 46 = .ok (.iload_n 1, 1) := by decide +kernel
theorem dX27_sees_47 : decode cX27_sees 47 = .ok (.iconst 1, 1) := by decide +kernel
theorem dX27_sees_48 : decode cX27_sees 48 = .ok (.iadd, 1) := by decide +kernel
theorem dX27_sees_49 : decode cX27_sees 49 = .ok (.imul, 1) := by decide +kernel
theorem dX27_sees_50 : decode cX27_sees 50 = .ok (.if_icmp .ge 43, 3) := by decide +kernel
theorem dX27_sees_53 : decode cX27_sees 53 = .ok (.iload_n 3, 1) := by decide +kernel
theorem dX27_sees_54 : decode cX27_sees 54 = .ok (.aload_n 0, 1) := by decide +kernel
theorem dX27_sees_55 : decode cX27_sees 55 = .ok (.getfield 40, 3) := by decide +kernel
theorem dX27_sees_58 : decode cX27_sees 58 = .ok (.iload 4, 2) := by decide +kernel
theorem dX27_sees_60 : decode cX27_sees 60 = .ok (.aaload, 1) := by decide +kernel
theorem dX27_sees_61 : decode cX27_sees 61 = .ok (.getfield 204, 3) := by decide +kernel
theorem dX27_sees_64 : decode cX27_sees 64 = .ok (.iload_n 2, 1) := by decide +kernel
theorem dX27_sees_65 : decode cX27_sees 65 = .ok (.if_icmp .ne 19, 3) := by decide +kernel
theorem dX27_sees_68 : decode cX27_sees 68 = .ok (.aload_n 0, 1) := by decide +kernel
theorem dX27_sees_69 : decode cX27_sees 69 = .ok (.getfield 59, 3) := by decide +kernel
theorem dX27_sees_72 : decode cX27_sees 72 = .ok (.iload 4, 2) := by decide +kernel
theorem dX27_sees_74 : decode cX27_sees 74 = .ok (.invokevirtual 207, 3) := by decide +kernel
theorem dX27_sees_77 : decode cX27_sees 77 = .ok (.ifCond .eq 7, 3) := by decide +kernel
theorem dX27_sees_80 : decode cX27_sees 80 = .ok (.iconst 1, 1) := by decide +kernel
theorem dX27_sees_81 : decode cX27_sees 81 = .ok (.goto 4, 3) := by decide +kernel
theorem dX27_sees_84 : decode cX27_sees 84 = .ok (.iconst 0, 1) := by decide +kernel
theorem dX27_sees_85 : decode cX27_sees 85 = .ok (.iadd, 1) := by decide +kernel
theorem dX27_sees_86 : decode cX27_sees 86 = .ok (.istore_n 3, 1) := by decide +kernel
theorem dX27_sees_87 : decode cX27_sees 87 = .ok (.iinc 4 1, 3) := by decide +kernel
theorem dX27_sees_90 : decode cX27_sees 90 = .ok (.goto (-49), 3) := by decide +kernel
theorem dX27_sees_93 : decode cX27_sees 93 = .ok (.iload_n 3, 1) := by decide +kernel
theorem dX27_sees_94 : decode cX27_sees 94 = .ok (.ireturn, 1) := by decide +kernel
abbrev cX27_matters : ByteArray := prog_49_method_25_code
def yX27_matters : MethodName := ⟨RX27, "matters", "(I)I"⟩
theorem dX27_matters_0 : decode cX27_matters 0 = .ok (.iload_n 1, 1) := by decide +kernel
theorem dX27_matters_1 : decode cX27_matters 1 = .ok (.aload_n 0, 1) := by decide +kernel
theorem dX27_matters_2 : decode cX27_matters 2 = .ok (.getfield 26, 3) := by decide +kernel
theorem dX27_matters_5 : decode cX27_matters 5 = .ok (.invokevirtual 76, 3) := by decide +kernel
theorem dX27_matters_8 : decode cX27_matters 8 = .ok (.invokestatic 68, 3) := by decide +kernel
theorem dX27_matters_11 : decode cX27_matters 11 = .ok (.ifCond .ne 5, 3) := by decide +kernel
theorem dX27_matters_14 : decode cX27_matters 14 = .ok (.iconst (-1), 1) := by decide +kernel
theorem dX27_matters_15 : decode cX27_matters 15 = .ok (.ireturn, 1) := by decide +kernel
theorem dX27_matters_16 : decode cX27_matters 16 = .ok (.aload_n 0, 1) := by decide +kernel
theorem dX27_matters_17 : decode cX27_matters 17 = .ok (.bipush (-2), 2) := by decide +kernel
theorem dX27_matters_19 : decode cX27_matters 19 = .ok (.bipush (-2), 2) := by decide +kernel
theorem dX27_matters_21 : decode cX27_matters 21 = .ok (.aload_n 0, 1) := by decide +kernel
theorem dX27_matters_22 : decode cX27_matters 22 = .ok (.getfield 59, 3) := by decide +kernel
theorem dX27_matters_25 : decode cX27_matters 25 = .ok (.invokevirtual 200, 3) := by decide +kernel
theorem dX27_matters_28 : decode cX27_matters 28 = .ok (.aload_n 0, 1) := by decide +kernel
theorem dX27_matters_29 : decode cX27_matters 29 = .ok (.iload_n 1, 1) := by decide +kernel
theorem dX27_matters_30 : decode cX27_matters 30 = .ok (.bipush (-2), 2) := by decide +kernel
theorem dX27_matters_32 : decode cX27_matters 32 = .ok (.aload_n 0, 1) := by decide +kernel
theorem dX27_matters_33 : decode cX27_matters 33 = .ok (.getfield 62, 3) := by decide +kernel
theorem dX27_matters_36 : decode cX27_matters 36 = .ok (.invokevirtual 200, 3) := by decide +kernel
theorem dX27_matters_39 : decode cX27_matters 39 = .ok (.aload_n 0, 1) := by decide +kernel
theorem dX27_matters_40 : decode cX27_matters 40 = .ok (.getfield 59, 3) := by decide +kernel
theorem dX27_matters_43 : decode cX27_matters 43 = .ok (.aload_n 0, 1) := by decide +kernel
theorem dX27_matters_44 : decode cX27_matters 44 = .ok (.getfield 62, 3) := by decide +kernel
theorem dX27_matters_47 : decode cX27_matters 47 = .ok (.invokevirtual 209, 3) := by decide +kernel
theorem dX27_matters_50 : decode cX27_matters 50 = .ok (.aload_n 0, 1) := by decide +kernel
theorem dX27_matters_51 : decode cX27_matters 51 = .ok (.getfield 59, 3) := by decide +kernel
theorem dX27_matters_54 : decode cX27_matters 54 = .ok (.invokevirtual 173, 3) := by decide +kernel
theorem dX27_matters_57 : decode cX27_matters 57 = .ok (.ireturn, 1) := by decide +kernel
abbrev cX27_idle : ByteArray := prog_49_method_26_code
def yX27_idle : MethodName := ⟨RX27, "idle", "(ZI)I"⟩
theorem dX27_idle_0 : decode cX27_idle 0 = .ok (.aload_n 0, 1) := by decide +kernel
theorem dX27_idle_1 : decode cX27_idle 1 = .ok (.iload_n 2, 1) := by decide +kernel
theorem dX27_idle_2 : decode cX27_idle 2 = .ok (.invokevirtual 80, 3) := by decide +kernel
theorem dX27_idle_5 : decode cX27_idle 5 = .ok (.ifCond .ne 5, 3) := by decide +kernel
theorem dX27_idle_8 : decode cX27_idle 8 = .ok (.iconst (-1), 1) := by decide +kernel
theorem dX27_idle_9 : decode cX27_idle 9 = .ok (.ireturn, 1) := by decide +kernel
theorem dX27_idle_10 : decode cX27_idle 10 = .ok (.iconst 0, 1) := by decide +kernel
theorem dX27_idle_11 : decode cX27_idle 11 = .ok (.istore_n 3, 1) := by decide +kernel
theorem dX27_idle_12 : decode cX27_idle 12 = .ok (.iload_n 3, 1) := by decide +kernel
theorem dX27_idle_13 : decode cX27_idle 13 = .ok (.bipush 10, 2) := by decide +kernel
theorem dX27_idle_15 : decode cX27_idle 15 = .ok (.if_icmp .ge 121, 3) := by decide +kernel
theorem dX27_idle_18 : decode cX27_idle 18 = .ok (.aload_n 0, 1) := by decide +kernel
theorem dX27_idle_19 : decode cX27_idle 19 = .ok (.getfield 53, 3) := by decide +kernel
theorem dX27_idle_22 : decode cX27_idle 22 = .ok (.invokevirtual 180, 3) := by decide +kernel
theorem dX27_idle_25 : decode cX27_idle 25 = .ok (.aload_n 0, 1) := by decide +kernel
theorem dX27_idle_26 : decode cX27_idle 26 = .ok (.getfield 53, 3) := by decide +kernel
theorem dX27_idle_29 : decode cX27_idle 29 = .ok (.aload_n 0, 1) := by decide +kernel
theorem dX27_idle_30 : decode cX27_idle 30 = .ok (.iload_n 2, 1) := by decide +kernel
theorem dX27_idle_31 : decode cX27_idle 31 = .ok (.invokevirtual 169, 3) := by decide +kernel
theorem dX27_idle_34 : decode cX27_idle 34 = .ok (.invokevirtual 183, 3) := by decide +kernel
theorem dX27_idle_37 : decode cX27_idle 37 = .ok (.iconst 0, 1) := by decide +kernel
theorem dX27_idle_38 : decode cX27_idle 38 = .ok (.istore 4, 2) := by decide +kernel
theorem dX27_idle_40 : decode cX27_idle 40 = .ok (.iload 4, 2) := by decide +kernel
theorem dX27_idle_42 : decode cX27_idle 42 = .ok (.aload_n 0, 1) := by decide +kernel
theorem dX27_idle_43 : decode cX27_idle 43 = .ok (.getfield 26, 3) := by decide +kernel
theorem dX27_idle_46 : decode cX27_idle 46 = .ok (.invokevirtual 76, 3) := by decide +kernel
theorem dX27_idle_49 : decode cX27_idle 49 = .ok (.if_icmp .ge 69, 3) := by decide +kernel
theorem dX27_idle_52 : decode cX27_idle 52 = .ok (.aload_n 0, 1) := by decide +kernel
theorem dX27_idle_53 : decode cX27_idle 53 = .ok (.getfield 26, 3) := by decide +kernel
theorem dX27_idle_56 : decode cX27_idle 56 = .ok (.iload 4, 2) := by decide +kernel
theorem dX27_idle_58 : decode cX27_idle 58 = .ok (.invokevirtual 125, 3) := by decide +kernel
theorem dX27_idle_61 : decode cX27_idle 61 = .ok (.checkcast 116, 3) := by decide +kernel
theorem dX27_idle_64 : decode cX27_idle 64 = .ok (.astore 5, 2) := by decide +kernel
theorem dX27_idle_66 : decode cX27_idle 66 = .ok (.aload 5, 2) := by decide +kernel
theorem dX27_idle_68 : decode cX27_idle 68 = .ok (.getfield 144, 3) := by decide +kernel
theorem dX27_idle_71 : decode cX27_idle 71 = .ok (.iload_n 3, 1) := by decide +kernel
theorem dX27_idle_72 : decode cX27_idle 72 = .ok (.if_icmp .lt 24, 3) := by decide +kernel
theorem dX27_idle_75 : decode cX27_idle 75 = .ok (.aload 5, 2) := by decide +kernel
theorem dX27_idle_77 : decode cX27_idle 77 = .ok (.getfield 144, 3) := by decide +kernel
theorem dX27_idle_80 : decode cX27_idle 80 = .ok (.iload_n 3, 1) := by decide +kernel
theorem dX27_idle_81 : decode cX27_idle 81 = .ok (.if_icmp .ne 31, 3) := by decide +kernel
theorem dX27_idle_84 : decode cX27_idle 84 = .ok (.aload 5, 2) := by decide +kernel
theorem dX27_idle_86 : decode cX27_idle 86 = .ok (.getfield 147, 3) := by decide +kernel
theorem dX27_idle_89 : decode cX27_idle 89 = .ok (.ifCond .ne 7, 3) := by decide +kernel
theorem dX27_idle_92 : decode cX27_idle 92 = .ok (.iload_n 1, 1) := by decide +kernel
theorem dX27_idle_93 : decode cX27_idle 93 = .ok (.ifCond .ne 19, 3) := by decide +kernel
theorem dX27_idle_96 : decode cX27_idle 96 = .ok (.aload_n 0, 1) := by decide +kernel
theorem dX27_idle_97 : decode cX27_idle 97 = .ok (.getfield 53, 3) := by decide +kernel
theorem dX27_idle_100 : decode cX27_idle 100 = .ok (.aload_n 0, 1) := by decide +kernel
theorem dX27_idle_101 : decode cX27_idle 101 = .ok (.aload 5, 2) := by decide +kernel
theorem dX27_idle_103 : decode cX27_idle 103 = .ok (.getfield 138, 3) := by decide +kernel
theorem dX27_idle_106 : decode cX27_idle 106 = .ok (.invokevirtual 169, 3) := by decide +kernel
theorem dX27_idle_109 : decode cX27_idle 109 = .ok (.invokevirtual 187, 3) := by decide +kernel
theorem dX27_idle_112 : decode cX27_idle 112 = .ok (.iinc 4 1, 3) := by decide +kernel
theorem dX27_idle_115 : decode cX27_idle 115 = .ok (.goto (-75), 3) := by decide +kernel
theorem dX27_idle_118 : decode cX27_idle 118 = .ok (.aload_n 0, 1) := by decide +kernel
theorem dX27_idle_119 : decode cX27_idle 119 = .ok (.getfield 53, 3) := by decide +kernel
theorem dX27_idle_122 : decode cX27_idle 122 = .ok (.invokevirtual 194, 3) := by decide +kernel
theorem dX27_idle_125 : decode cX27_idle 125 = .ok (.ifCond .eq 5, 3) := by decide +kernel
theorem dX27_idle_128 : decode cX27_idle 128 = .ok (.iload_n 3, 1) := by decide +kernel
theorem dX27_idle_129 : decode cX27_idle 129 = .ok (.ireturn, 1) := by decide +kernel
theorem dX27_idle_130 : decode cX27_idle 130 = .ok (.iinc 3 1, 3) := by decide +kernel
theorem dX27_idle_133 : decode cX27_idle 133 = .ok (.goto (-121), 3) := by decide +kernel
theorem dX27_idle_136 : decode cX27_idle 136 = .ok (.bipush 10, 2) := by decide +kernel
theorem dX27_idle_138 : decode cX27_idle 138 = .ok (.ireturn, 1) := by decide +kernel
abbrev cX27_apart : ByteArray := prog_49_method_27_code
def yX27_apart : MethodName := ⟨RX27, "apart", "(II)I"⟩
theorem dX27_apart_0 : decode cX27_apart 0 = .ok (.iload_n 1, 1) := by decide +kernel
theorem dX27_apart_1 : decode cX27_apart 1 = .ok (.bipush 8, 2) := by decide +kernel
theorem dX27_apart_3 : decode cX27_apart 3 = .ok (.invokestatic 68, 3) := by decide +kernel
theorem dX27_apart_6 : decode cX27_apart 6 = .ok (.ifCond .eq 12, 3) := by decide +kernel
theorem dX27_apart_9 : decode cX27_apart 9 = .ok (.iload_n 2, 1) := by decide +kernel
theorem dX27_apart_10 : decode cX27_apart 10 = .ok (.bipush 8, 2) := by decide +kernel
theorem dX27_apart_12 : decode cX27_apart 12 = .ok (.invokestatic 68, 3) := by decide +kernel
theorem dX27_apart_15 : decode cX27_apart 15 = .ok (.ifCond .ne 5, 3) := by decide +kernel
theorem dX27_apart_18 : decode cX27_apart 18 = .ok (.iconst (-1), 1) := by decide +kernel
theorem dX27_apart_19 : decode cX27_apart 19 = .ok (.ireturn, 1) := by decide +kernel
theorem dX27_apart_20 : decode cX27_apart 20 = .ok (.aload_n 0, 1) := by decide +kernel
theorem dX27_apart_21 : decode cX27_apart 21 = .ok (.bipush (-2), 2) := by decide +kernel
theorem dX27_apart_23 : decode cX27_apart 23 = .ok (.bipush (-2), 2) := by decide +kernel
theorem dX27_apart_25 : decode cX27_apart 25 = .ok (.aload_n 0, 1) := by decide +kernel
theorem dX27_apart_26 : decode cX27_apart 26 = .ok (.getfield 59, 3) := by decide +kernel
theorem dX27_apart_29 : decode cX27_apart 29 = .ok (.invokevirtual 200, 3) := by decide +kernel
theorem dX27_apart_32 : decode cX27_apart 32 = .ok (.iconst 0, 1) := by decide +kernel
theorem dX27_apart_33 : decode cX27_apart 33 = .ok (.istore_n 3, 1) := by decide +kernel
theorem dX27_apart_34 : decode cX27_apart 34 = .ok (.iload_n 3, 1) := by decide +kernel
theorem dX27_apart_35 : decode cX27_apart 35 = .ok (.sipush 768, 3) := by decide +kernel
theorem dX27_apart_38 : decode cX27_apart 38 = .ok (.if_icmp .ge 48, 3) := by decide +kernel
theorem dX27_apart_41 : decode cX27_apart 41 = .ok (.aload_n 0, 1) := by decide +kernel
theorem dX27_apart_42 : decode cX27_apart 42 = .ok (.getfield 59, 3) := by decide +kernel
theorem dX27_apart_45 : decode cX27_apart 45 = .ok (.sipush 768, 3) := by decide +kernel
theorem dX27_apart_48 : decode cX27_apart 48 = .ok (.iload_n 1, 1) := by decide +kernel
theorem dX27_apart_49 : decode cX27_apart 49 = .ok (.imul, 1) := by decide +kernel
theorem dX27_apart_50 : decode cX27_apart 50 = .ok (.iload_n 3, 1) := by decide +kernel
theorem dX27_apart_51 : decode cX27_apart 51 = .ok (.iadd, 1) := by decide +kernel
theorem dX27_apart_52 : decode cX27_apart 52 = .ok (.invokevirtual 207, 3) := by decide +kernel
theorem dX27_apart_55 : decode cX27_apart 55 = .ok (.aload_n 0, 1) := by decide +kernel
theorem dX27_apart_56 : decode cX27_apart 56 = .ok (.getfield 59, 3) := by decide +kernel
theorem dX27_apart_59 : decode cX27_apart 59 = .ok (.sipush 768, 3) := by decide +kernel
theorem dX27_apart_62 : decode cX27_apart 62 = .ok (.iload_n 2, 1) := by decide +kernel
theorem dX27_apart_63 : decode cX27_apart 63 = .ok (.imul, 1) := by decide +kernel
theorem dX27_apart_64 : decode cX27_apart 64 = .ok (.iload_n 3, 1) := by decide +kernel
theorem dX27_apart_65 : decode cX27_apart 65 = .ok (.iadd, 1) := by decide +kernel
theorem dX27_apart_66 : decode cX27_apart 66 = .ok (.invokevirtual 207, 3) := by decide +kernel
theorem dX27_apart_69 : decode cX27_apart 69 = .ok (.if_icmp .eq 11, 3) := by decide +kernel
theorem dX27_apart_72 : decode cX27_apart 72 = .ok (.sipush 768, 3) := by decide +kernel
theorem dX27_apart_75 : decode cX27_apart 75 = .ok (.iload_n 1, 1) := by decide +kernel
theorem dX27_apart_76 : decode cX27_apart 76 = .ok (.imul, 1) := by decide +kernel
theorem dX27_apart_77 : decode cX27_apart 77 = .ok (.iload_n 3, 1) := by decide +kernel
theorem dX27_apart_78 : decode cX27_apart 78 = .ok (.iadd, 1) := by decide +kernel
theorem dX27_apart_79 : decode cX27_apart 79 = .ok (.ireturn, 1) := by decide +kernel
theorem dX27_apart_80 : decode cX27_apart 80 = .ok (.iinc 3 1, 3) := by decide +kernel
theorem dX27_apart_83 : decode cX27_apart 83 = .ok (.goto (-49), 3) := by decide +kernel
theorem dX27_apart_86 : decode cX27_apart 86 = .ok (.bipush (-2), 2) := by decide +kernel
theorem dX27_apart_88 : decode cX27_apart 88 = .ok (.ireturn, 1) := by decide +kernel
abbrev cX27_allowed : ByteArray := prog_49_method_28_code
def yX27_allowed : MethodName := ⟨RX27, "allowed", "()I"⟩
theorem dX27_allowed_0 : decode cX27_allowed 0 = .ok (.aload_n 0, 1) := by decide +kernel
theorem dX27_allowed_1 : decode cX27_allowed 1 = .ok (.bipush (-2), 2) := by decide +kernel
theorem dX27_allowed_3 : decode cX27_allowed 3 = .ok (.bipush (-2), 2) := by decide +kernel
theorem dX27_allowed_5 : decode cX27_allowed 5 = .ok (.aload_n 0, 1) := by decide +kernel
theorem dX27_allowed_6 : decode cX27_allowed 6 = .ok (.getfield 59, 3) := by decide +kernel
theorem dX27_allowed_9 : decode cX27_allowed 9 = .ok (.invokevirtual 200, 3) := by decide +kernel
theorem dX27_allowed_12 : decode cX27_allowed 12 = .ok (.aload_n 0, 1) := by decide +kernel
theorem dX27_allowed_13 : decode cX27_allowed 13 = .ok (.getfield 59, 3) := by decide +kernel
theorem dX27_allowed_16 : decode cX27_allowed 16 = .ok (.invokevirtual 173, 3) := by decide +kernel
theorem dX27_allowed_19 : decode cX27_allowed 19 = .ok (.ireturn, 1) := by decide +kernel
abbrev cX27_conditions : ByteArray := prog_49_method_8_code
def yX27_conditions : MethodName := ⟨RX27, "conditions", "()I"⟩
theorem dX27_conditions_0 : decode cX27_conditions 0 = .ok (.aload_n 0, 1) := by decide +kernel
theorem dX27_conditions_1 : decode cX27_conditions 1 = .ok (.getfield 22, 3) := by decide +kernel
theorem dX27_conditions_4 : decode cX27_conditions 4 = .ok (.invokevirtual 76, 3) := by decide +kernel
theorem dX27_conditions_7 : decode cX27_conditions 7 = .ok (.ireturn, 1) := by decide +kernel
abbrev cX27_rules : ByteArray := prog_49_method_11_code
def yX27_rules : MethodName := ⟨RX27, "rules", "()I"⟩
theorem dX27_rules_0 : decode cX27_rules 0 = .ok (.aload_n 0, 1) := by decide +kernel
theorem dX27_rules_1 : decode cX27_rules 1 = .ok (.getfield 26, 3) := by decide +kernel
theorem dX27_rules_4 : decode cX27_rules 4 = .ok (.invokevirtual 76, 3) := by decide +kernel
theorem dX27_rules_7 : decode cX27_rules 7 = .ok (.ireturn, 1) := by decide +kernel
theorem in_X27 : ∀ w ∈ wsX270, w ∈ lw_all := lw_in wsX270 [1318, 1320, 1322, 1324, 1326, 1328, 1330, 1332, 1334, 1336, 1338, 1340, 1342] (by decide +kernel) (by decide +kernel)
def RX28 : String := "KnowHouse$RightDesk$Ask"
def TX28 : u_T := fun k => match k with
  | 0 => ("KnowHouse$RightDesk$Ask", "person", "I", true)
  | 1 => ("KnowHouse$RightDesk$Ask", "graph", "I", true)
  | 2 => ("KnowHouse$RightDesk$Ask", "predicate", "I", true)
  | 3 => ("KnowHouse$RightDesk$Ask", "class0", "I", true)
  | _ => ("KnowHouse$RightDesk$Ask", "version", "I", true)
def tyX28 : Nat → FieldType := fun k => match k with
  | 0 => .int
  | 1 => .int
  | 2 => .int
  | 3 => .int
  | _ => .int
abbrev wsX280 : List Cond := u_ws RX28 TX28 5
theorem nmX28 : ∀ a, a < 5 → ∀ b, b < 5 → a ≠ b → (TX28 a).2.1 ≠ (TX28 b).2.1 := by decide +kernel
theorem tyX28_ok : ∀ k, k < 5 → parseFieldDescriptor (TX28 k).2.2.1 = some (tyX28 k) := by decide +kernel
abbrev cX28_of : ByteArray := prog_51_method_2_code
def yX28_of : MethodName := ⟨RX28, "of", "(I)LKnowHouse$RightDesk$Ask;"⟩
theorem dX28_of_0 : decode cX28_of 0 = .ok (.iload_n 0, 1) := by decide +kernel
theorem dX28_of_1 : decode cX28_of 1 = .ok (.istore_n 1, 1) := by decide +kernel
theorem dX28_of_2 : decode cX28_of 2 = .ok (.iload_n 1, 1) := by decide +kernel
theorem dX28_of_3 : decode cX28_of 3 = .ok (.bipush 8, 2) := by decide +kernel
theorem dX28_of_5 : decode cX28_of 5 = .ok (.irem, 1) := by decide +kernel
theorem dX28_of_6 : decode cX28_of 6 = .ok (.istore_n 2, 1) := by decide +kernel
theorem dX28_of_7 : decode cX28_of 7 = .ok (.iload_n 1, 1) := by decide +kernel
theorem dX28_of_8 : decode cX28_of 8 = .ok (.bipush 8, 2) := by decide +kernel
theorem dX28_of_10 : decode cX28_of 10 = .ok (.idiv, 1) := by decide +kernel
theorem dX28_of_11 : decode cX28_of 11 = .ok (.istore_n 1, 1) := by decide +kernel
theorem dX28_of_12 : decode cX28_of 12 = .ok (.iload_n 1, 1) := by decide +kernel
theorem dX28_of_13 : decode cX28_of 13 = .ok (.iconst 4, 1) := by decide +kernel
theorem dX28_of_14 : decode cX28_of 14 = .ok (.irem, 1) := by decide +kernel
theorem dX28_of_15 : decode cX28_of 15 = .ok (.istore_n 3, 1) := by decide +kernel
theorem dX28_of_16 : decode cX28_of 16 = .ok (.iload_n 1, 1) := by decide +kernel
theorem dX28_of_17 : decode cX28_of 17 = .ok (.iconst 4, 1) := by decide +kernel
theorem dX28_of_18 : decode cX28_of 18 = .ok (.idiv, 1) := by decide +kernel
theorem dX28_of_19 : decode cX28_of 19 = .ok (.istore_n 1, 1) := by decide +kernel
theorem dX28_of_20 : decode cX28_of 20 = .ok (.iload_n 1, 1) := by decide +kernel
theorem dX28_of_21 : decode cX28_of 21 = .ok (.bipush 6, 2) := by decide +kernel
theorem dX28_of_23 : decode cX28_of 23 = .ok (.irem, 1) := by decide +kernel
theorem dX28_of_24 : decode cX28_of 24 = .ok (.istore 4, 2) := by decide +kernel
theorem dX28_of_26 : decode cX28_of 26 = .ok (.iload_n 1, 1) := by decide +kernel
theorem dX28_of_27 : decode cX28_of 27 = .ok (.bipush 6, 2) := by decide +kernel
theorem dX28_of_29 : decode cX28_of 29 = .ok (.idiv, 1) := by decide +kernel
theorem dX28_of_30 : decode cX28_of 30 = .ok (.istore_n 1, 1) := by decide +kernel
theorem dX28_of_31 : decode cX28_of 31 = .ok (.new 10, 3) := by decide +kernel
theorem dX28_of_34 : decode cX28_of 34 = .ok (.dup, 1) := by decide +kernel
theorem dX28_of_35 : decode cX28_of 35 = .ok (.iload_n 1, 1) := by decide +kernel
theorem dX28_of_36 : decode cX28_of 36 = .ok (.iconst 4, 1) := by decide +kernel
theorem dX28_of_37 : decode cX28_of 37 = .ok (.idiv, 1) := by decide +kernel
theorem dX28_of_38 : decode cX28_of 38 = .ok (.iload_n 1, 1) := by decide +kernel
theorem dX28_of_39 : decode cX28_of 39 = .ok (.iconst 4, 1) := by decide +kernel
theorem dX28_of_40 : decode cX28_of 40 = .ok (.irem, 1) := by decide +kernel
theorem dX28_of_41 : decode cX28_of 41 = .ok (.iload 4, 2) := by decide +kernel
theorem dX28_of_43 : decode cX28_of 43 = .ok (.iload_n 3, 1) := by decide +kernel
theorem dX28_of_44 : decode cX28_of 44 = .ok (.iload_n 2, 1) := by decide +kernel
theorem dX28_of_45 : decode cX28_of 45 = .ok (.invokespecial 27, 3) := by decide +kernel
theorem dX28_of_48 : decode cX28_of 48 = .ok (.areturn, 1) := by decide +kernel
abbrev cX28_init : ByteArray := prog_51_method_1_code
def yX28_init : MethodName := ⟨RX28, "<init>", "(IIIII)V"⟩
theorem dX28_init_0 : decode cX28_init 0 = .ok (.aload_n 0, 1) := by decide +kernel
theorem dX28_init_1 : decode cX28_init 1 = .ok (.invokespecial 3, 3) := by decide +kernel
theorem dX28_init_4 : decode cX28_init 4 = .ok (.aload_n 0, 1) := by decide +kernel
theorem dX28_init_5 : decode cX28_init 5 = .ok (.iload_n 1, 1) := by decide +kernel
theorem dX28_init_6 : decode cX28_init 6 = .ok (.putfield 9, 3) := by decide +kernel
theorem dX28_init_9 : decode cX28_init 9 = .ok (.aload_n 0, 1) := by decide +kernel
theorem dX28_init_10 : decode cX28_init 10 = .ok (.iload_n 2, 1) := by decide +kernel
theorem dX28_init_11 : decode cX28_init 11 = .ok (.putfield 15, 3) := by decide +kernel
theorem dX28_init_14 : decode cX28_init 14 = .ok (.aload_n 0, 1) := by decide +kernel
theorem dX28_init_15 : decode cX28_init 15 = .ok (.iload_n 3, 1) := by decide +kernel
theorem dX28_init_16 : decode cX28_init 16 = .ok (.putfield 18, 3) := by decide +kernel
theorem dX28_init_19 : decode cX28_init 19 = .ok (.aload_n 0, 1) := by decide +kernel
theorem dX28_init_20 : decode cX28_init 20 = .ok (.iload 4, 2) := by decide +kernel
theorem dX28_init_22 : decode cX28_init 22 = .ok (.putfield 21, 3) := by decide +kernel
theorem dX28_init_25 : decode cX28_init 25 = .ok (.aload_n 0, 1) := by decide +kernel
theorem dX28_init_26 : decode cX28_init 26 = .ok (.iload 5, 2) := by decide +kernel
theorem dX28_init_28 : decode cX28_init 28 = .ok (.putfield 24, 3) := by decide +kernel
theorem dX28_init_31 : decode cX28_init 31 = .ok (.return_, 1) := by decide +kernel
abbrev cX28_isGood : ByteArray := prog_51_method_4_code
def yX28_isGood : MethodName := ⟨RX28, "isGood", "()Z"⟩
theorem dX28_isGood_0 : decode cX28_isGood 0 = .ok (.aload_n 0, 1) := by decide +kernel
theorem dX28_isGood_1 : decode cX28_isGood 1 = .ok (.getfield 9, 3) := by decide +kernel
theorem dX28_isGood_4 : decode cX28_isGood 4 = .ok (.bipush 8, 2) := by decide +kernel
theorem dX28_isGood_6 : decode cX28_isGood 6 = .ok (.invokestatic 30, 3) := by decide +kernel
theorem dX28_isGood_9 : decode cX28_isGood 9 = .ok (.ifCond .eq 53, 3) := by decide +kernel
theorem dX28_isGood_12 : decode cX28_isGood 12 = .ok (.aload_n 0, 1) := by decide +kernel
theorem dX28_isGood_13 : decode cX28_isGood 13 = .ok (.getfield 15, 3) := by decide +kernel
theorem dX28_isGood_16 : decode cX28_isGood 16 = .ok (.iconst 4, 1) := by decide +kernel
theorem dX28_isGood_17 : decode cX28_isGood 17 = .ok (.invokestatic 30, 3) := by decide +kernel
theorem dX28_isGood_20 : decode cX28_isGood 20 = .ok (.ifCond .eq 42, 3) := by decide +kernel
theorem dX28_isGood_23 : decode cX28_isGood 23 = .ok (.aload_n 0, 1) := by decide +kernel
theorem dX28_isGood_24 : decode cX28_isGood 24 = .ok (.getfield 18, 3) := by decide +kernel
theorem dX28_isGood_27 : decode cX28_isGood 27 = .ok (.bipush 6, 2) := by decide +kernel
theorem dX28_isGood_29 : decode cX28_isGood 29 = .ok (.invokestatic 30, 3) := by decide +kernel
theorem dX28_isGood_32 : decode cX28_isGood 32 = .ok (.ifCond .eq 30, 3) := by decide +kernel
theorem dX28_isGood_35 : decode cX28_isGood 35 = .ok (.aload_n 0, 1) := by decide +kernel
theorem dX28_isGood_36 : decode cX28_isGood 36 = .ok (.getfield 21, 3) := by decide +kernel
theorem dX28_isGood_39 : decode cX28_isGood 39 = .ok (.iconst 4, 1) := by decide +kernel
theorem dX28_isGood_40 : decode cX28_isGood 40 = .ok (.invokestatic 30, 3) := by decide +kernel
theorem dX28_isGood_43 : decode cX28_isGood 43 = .ok (.ifCond .eq 19, 3) := by decide +kernel
theorem dX28_isGood_46 : decode cX28_isGood 46 = .ok (.aload_n 0, 1) := by decide +kernel
theorem dX28_isGood_47 : decode cX28_isGood 47 = .ok (.getfield 24, 3) := by decide +kernel
theorem dX28_isGood_50 : decode cX28_isGood 50 = .ok (.bipush 8, 2) := by decide +kernel
theorem dX28_isGood_52 : decode cX28_isGood 52 = .ok (.invokestatic 30, 3) := by decide +kernel
theorem dX28_isGood_55 : decode cX28_isGood 55 = .ok (.ifCond .eq 7, 3) := by decide +kernel
theorem dX28_isGood_58 : decode cX28_isGood 58 = .ok (.iconst 1, 1) := by decide +kernel
theorem dX28_isGood_59 : decode cX28_isGood 59 = .ok (.goto 4, 3) := by decide +kernel
theorem dX28_isGood_62 : decode cX28_isGood 62 = .ok (.iconst 0, 1) := by decide +kernel
theorem dX28_isGood_63 : decode cX28_isGood 63 = .ok (.ireturn, 1) := by decide +kernel
abbrev cX28_number : ByteArray := prog_51_method_3_code
def yX28_number : MethodName := ⟨RX28, "number", "()I"⟩
theorem dX28_number_0 : decode cX28_number 0 = .ok (.aload_n 0, 1) := by decide +kernel
theorem dX28_number_1 : decode cX28_number 1 = .ok (.getfield 9, 3) := by decide +kernel
theorem dX28_number_4 : decode cX28_number 4 = .ok (.iconst 4, 1) := by decide +kernel
theorem dX28_number_5 : decode cX28_number 5 = .ok (.imul, 1) := by decide +kernel
theorem dX28_number_6 : decode cX28_number 6 = .ok (.aload_n 0, 1) := by decide +kernel
theorem dX28_number_7 : decode cX28_number 7 = .ok (.getfield 15, 3) := by decide +kernel
theorem dX28_number_10 : decode cX28_number 10 = .ok (.iadd, 1) := by decide +kernel
theorem dX28_number_11 : decode cX28_number 11 = .ok (.bipush 6, 2) := by decide +kernel
theorem dX28_number_13 : decode cX28_number 13 = .ok (.imul, 1) := by decide +kernel
theorem dX28_number_14 : decode cX28_number 14 = .ok (.aload_n 0, 1) := by decide +kernel
theorem dX28_number_15 : decode cX28_number 15 = .ok (.getfield 18, 3) := by decide +kernel
theorem dX28_number_18 : decode cX28_number 18 = .ok (.iadd, 1) := by decide +kernel
theorem dX28_number_19 : decode cX28_number 19 = .ok (.iconst 4, 1) := by decide +kernel
theorem dX28_number_20 : decode cX28_number 20 = .ok (.imul, 1) := by decide +kernel
theorem dX28_number_21 : decode cX28_number 21 = .ok (.aload_n 0, 1) := by decide +kernel
theorem dX28_number_22 : decode cX28_number 22 = .ok (.getfield 21, 3) := by decide +kernel
theorem dX28_number_25 : decode cX28_number 25 = .ok (.iadd, 1) := by decide +kernel
theorem dX28_number_26 : decode cX28_number 26 = .ok (.bipush 8, 2) := by decide +kernel
theorem dX28_number_28 : decode cX28_number 28 = .ok (.imul, 1) := by decide +kernel
theorem dX28_number_29 : decode cX28_number 29 = .ok (.aload_n 0, 1) := by decide +kernel
theorem dX28_number_30 : decode cX28_number 30 = .ok (.getfield 24, 3) := by decide +kernel
theorem dX28_number_33 : decode cX28_number 33 = .ok (.iadd, 1) := by decide +kernel
theorem dX28_number_34 : decode cX28_number 34 = .ok (.ireturn, 1) := by decide +kernel
theorem in_X28 : ∀ w ∈ wsX280, w ∈ lw_all := lw_in wsX280 [1271, 1273, 1275, 1277, 1279] (by decide +kernel) (by decide +kernel)
def RX75 : String := "KnowHouse$RightDesk$Is"
def TX75 : u_T := fun k => match k with
  | 0 => ("KnowHouse$RightDesk$Is", "kind", "I", true)
  | 1 => ("KnowHouse$RightDesk$Is", "number", "I", true)
  | _ => ("KnowHouse$RightDesk$Is", "groups", "[I", true)
def tyX75 : Nat → FieldType := fun k => match k with
  | 0 => .int
  | 1 => .int
  | _ => .array .int
abbrev wsX750 : List Cond := u_ws RX75 TX75 3
theorem nmX75 : ∀ a, a < 3 → ∀ b, b < 3 → a ≠ b → (TX75 a).2.1 ≠ (TX75 b).2.1 := by decide +kernel
theorem tyX75_ok : ∀ k, k < 3 → parseFieldDescriptor (TX75 k).2.2.1 = some (tyX75 k) := by decide +kernel
abbrev cX75_holds : ByteArray := prog_53_method_2_code
def yX75_holds : MethodName := ⟨RX75, "holds", "(LKnowHouse$RightDesk$Ask;[Z)Z"⟩
theorem dX75_holds_0 : decode cX75_holds 0 = .ok (.aload_n 0, 1) := by decide +kernel
theorem dX75_holds_1 : decode cX75_holds 1 = .ok (.getfield 7, 3) := by decide +kernel
theorem dX75_holds_4 : decode cX75_holds 4 = .ok (.tableswitch 109 0 3 #[32, 49, 75, 92], 32) := by decide +kernel
theorem dX75_holds_36 : decode cX75_holds 36 = .ok (.aload_n 1, 1) := by decide +kernel
theorem dX75_holds_37 : decode cX75_holds 37 = .ok (.getfield 20, 3) := by decide +kernel
theorem dX75_holds_40 : decode cX75_holds 40 = .ok (.aload_n 0, 1) := by decide +kernel
theorem dX75_holds_41 : decode cX75_holds 41 = .ok (.getfield 13, 3) := by decide +kernel
theorem dX75_holds_44 : decode cX75_holds 44 = .ok (.if_icmp .ne 7, 3) := by decide +kernel
theorem dX75_holds_47 : decode cX75_holds 47 = .ok (.iconst 1, 1) := by decide +kernel
theorem dX75_holds_48 : decode cX75_holds 48 = .ok (.goto 4, 3) := by decide +kernel
theorem dX75_holds_51 : decode cX75_holds 51 = .ok (.iconst 0, 1) := by decide +kernel
theorem dX75_holds_52 : decode cX75_holds 52 = .ok (.ireturn, 1) := by decide +kernel
theorem dX75_holds_53 : decode cX75_holds 53 = .ok (.aload_n 0, 1) := by decide +kernel
theorem dX75_holds_54 : decode cX75_holds 54 = .ok (.getfield 16, 3) := by decide +kernel
theorem dX75_holds_57 : decode cX75_holds 57 = .ok (.aload_n 1, 1) := by decide +kernel
theorem dX75_holds_58 : decode cX75_holds 58 = .ok (.getfield 20, 3) := by decide +kernel
theorem dX75_holds_61 : decode cX75_holds 61 = .ok (.iaload, 1) := by decide +kernel
theorem dX75_holds_62 : decode cX75_holds 62 = .ok (.aload_n 0, 1) := by decide +kernel
theorem dX75_holds_63 : decode cX75_holds 63 = .ok (.getfield 13, 3) := by decide +kernel
theorem dX75_holds_66 : decode cX75_holds 66 = .ok (.ishr, 1) := by decide +kernel
theorem dX75_holds_67 : decode cX75_holds 67 = .ok (.iconst 1, 1) := by decide +kernel
theorem dX75_holds_68 : decode cX75_holds 68 = .ok (.iand, 1) := by decide +kernel
theorem dX75_holds_69 : decode cX75_holds 69 = .ok (.iconst 1, 1) := by decide +kernel
theorem dX75_holds_70 : decode cX75_holds 70 = .ok (.if_icmp .ne 7, 3) := by decide +kernel
theorem dX75_holds_73 : decode cX75_holds 73 = .ok (.iconst 1, 1) := by decide +kernel
theorem dX75_holds_74 : decode cX75_holds 74 = .ok (.goto 4, 3) := by decide +kernel
theorem dX75_holds_77 : decode cX75_holds 77 = .ok (.iconst 0, 1) := by decide +kernel
theorem dX75_holds_78 : decode cX75_holds 78 = .ok (.ireturn, 1) := by decide +kernel
theorem dX75_holds_79 : decode cX75_holds 79 = .ok (.aload_n 1, 1) := by decide +kernel
theorem dX75_holds_80 : decode cX75_holds 80 = .ok (.getfield 25, 3) := by decide +kernel
theorem dX75_holds_83 : decode cX75_holds 83 = .ok (.aload_n 0, 1) := by decide +kernel
theorem dX75_holds_84 : decode cX75_holds 84 = .ok (.getfield 13, 3) := by decide +kernel
theorem dX75_holds_87 : decode cX75_holds 87 = .ok (.if_icmp .ne 7, 3) := by decide +kernel
theorem dX75_holds_90 : decode cX75_holds 90 = .ok (.iconst 1, 1) := by decide +kernel
theorem dX75_holds_91 : decode cX75_holds 91 = .ok (.goto 4, 3) := by decide +kernel
theorem dX75_holds_94 : decode cX75_holds 94 = .ok (.iconst 0, 1) := by decide +kernel
theorem dX75_holds_95 : decode cX75_holds 95 = .ok (.ireturn, 1) := by decide +kernel
theorem dX75_holds_96 : decode cX75_holds 96 = .ok (.aload_n 1, 1) := by decide +kernel
theorem dX75_holds_97 : decode cX75_holds 97 = .ok (.getfield 28, 3) := by decide +kernel
theorem dX75_holds_100 : decode cX75_holds 100 = .ok (.aload_n 0, 1) := by decide +kernel
theorem dX75_holds_101 : decode cX75_holds 101 = .ok (.getfield 13, 3) := by decide +kernel
theorem dX75_holds_104 : decode cX75_holds 104 = .ok (.if_icmp .ne 7, 3) := by decide +kernel
theorem dX75_holds_107 : decode cX75_holds 107 = .ok (.iconst 1, 1) := by decide +kernel
theorem dX75_holds_108 : decode cX75_holds 108 = .ok (.goto 4, 3) := by decide +kernel
theorem dX75_holds_111 : decode cX75_holds 111 = .ok (.iconst 0, 1) := by decide +kernel
theorem dX75_holds_112 : decode cX75_holds 112 = .ok (.ireturn, 1) := by decide +kernel
theorem dX75_holds_113 : decode cX75_holds 113 = .ok (.aload_n 1, 1) := by decide +kernel
theorem dX75_holds_114 : decode cX75_holds 114 = .ok (.getfield 31, 3) := by decide +kernel
theorem dX75_holds_117 : decode cX75_holds 117 = .ok (.aload_n 0, 1) := by decide +kernel
theorem dX75_holds_118 : decode cX75_holds 118 = .ok (.getfield 13, 3) := by decide +kernel
theorem dX75_holds_121 : decode cX75_holds 121 = .ok (.if_icmp .ne 7, 3) := by decide +kernel
theorem dX75_holds_124 : decode cX75_holds 124 = .ok (.iconst 1, 1) := by decide +kernel
theorem dX75_holds_125 : decode cX75_holds 125 = .ok (.goto 4, 3) := by decide +kernel
theorem dX75_holds_128 : decode cX75_holds 128 = .ok (.iconst 0, 1) := by decide +kernel
theorem dX75_holds_129 : decode cX75_holds 129 = .ok (.ireturn, 1) := by decide +kernel
abbrev cX75_init : ByteArray := prog_53_method_1_code
def yX75_init : MethodName := ⟨RX75, "<init>", "(II[I)V"⟩
theorem dX75_init_0 : decode cX75_init 0 = .ok (.aload_n 0, 1) := by decide +kernel
theorem dX75_init_1 : decode cX75_init 1 = .ok (.invokespecial 1, 3) := by decide +kernel
theorem dX75_init_4 : decode cX75_init 4 = .ok (.aload_n 0, 1) := by decide +kernel
theorem dX75_init_5 : decode cX75_init 5 = .ok (.iload_n 1, 1) := by decide +kernel
theorem dX75_init_6 : decode cX75_init 6 = .ok (.putfield 7, 3) := by decide +kernel
theorem dX75_init_9 : decode cX75_init 9 = .ok (.aload_n 0, 1) := by decide +kernel
theorem dX75_init_10 : decode cX75_init 10 = .ok (.iload_n 2, 1) := by decide +kernel
theorem dX75_init_11 : decode cX75_init 11 = .ok (.putfield 13, 3) := by decide +kernel
theorem dX75_init_14 : decode cX75_init 14 = .ok (.aload_n 0, 1) := by decide +kernel
theorem dX75_init_15 : decode cX75_init 15 = .ok (.aload_n 3, 1) := by decide +kernel
theorem dX75_init_16 : decode cX75_init 16 = .ok (.putfield 16, 3) := by decide +kernel
theorem dX75_init_19 : decode cX75_init 19 = .ok (.return_, 1) := by decide +kernel
theorem in_X75 : ∀ w ∈ wsX750, w ∈ lw_all := lw_in wsX750 [4929, 4931, 4933] (by decide +kernel) (by decide +kernel)
def RX76 : String := "KnowHouse$RightDesk$Versions"
def TX76 : u_T := fun k => match k with
  | 0 => ("KnowHouse$RightDesk$Versions", "from", "I", true)
  | _ => ("KnowHouse$RightDesk$Versions", "to", "I", true)
def tyX76 : Nat → FieldType := fun k => match k with
  | 0 => .int
  | _ => .int
abbrev wsX760 : List Cond := u_ws RX76 TX76 2
theorem nmX76 : ∀ a, a < 2 → ∀ b, b < 2 → a ≠ b → (TX76 a).2.1 ≠ (TX76 b).2.1 := by decide +kernel
theorem tyX76_ok : ∀ k, k < 2 → parseFieldDescriptor (TX76 k).2.2.1 = some (tyX76 k) := by decide +kernel
abbrev cX76_holds : ByteArray := prog_57_method_2_code
def yX76_holds : MethodName := ⟨RX76, "holds", "(LKnowHouse$RightDesk$Ask;[Z)Z"⟩
theorem dX76_holds_0 : decode cX76_holds 0 = .ok (.aload_n 1, 1) := by decide +kernel
theorem dX76_holds_1 : decode cX76_holds 1 = .ok (.getfield 16, 3) := by decide +kernel
theorem dX76_holds_4 : decode cX76_holds 4 = .ok (.aload_n 0, 1) := by decide +kernel
theorem dX76_holds_5 : decode cX76_holds 5 = .ok (.getfield 7, 3) := by decide +kernel
theorem dX76_holds_8 : decode cX76_holds 8 = .ok (.if_icmp .lt 18, 3) := by decide +kernel
theorem dX76_holds_11 : decode cX76_holds 11 = .ok (.aload_n 1, 1) := by decide +kernel
theorem dX76_holds_12 : decode cX76_holds 12 = .ok (.getfield 16, 3) := by decide +kernel
theorem dX76_holds_15 : decode cX76_holds 15 = .ok (.aload_n 0, 1) := by decide +kernel
theorem dX76_holds_16 : decode cX76_holds 16 = .ok (.getfield 13, 3) := by decide +kernel
theorem dX76_holds_19 : decode cX76_holds 19 = .ok (.if_icmp .gt 7, 3) := by decide +kernel
theorem dX76_holds_22 : decode cX76_holds 22 = .ok (.iconst 1, 1) := by decide +kernel
theorem dX76_holds_23 : decode cX76_holds 23 = .ok (.goto 4, 3) := by decide +kernel
theorem dX76_holds_26 : decode cX76_holds 26 = .ok (.iconst 0, 1) := by decide +kernel
theorem dX76_holds_27 : decode cX76_holds 27 = .ok (.ireturn, 1) := by decide +kernel
abbrev cX76_init : ByteArray := prog_57_method_1_code
def yX76_init : MethodName := ⟨RX76, "<init>", "(II)V"⟩
theorem dX76_init_0 : decode cX76_init 0 = .ok (.aload_n 0, 1) := by decide +kernel
theorem dX76_init_1 : decode cX76_init 1 = .ok (.invokespecial 1, 3) := by decide +kernel
theorem dX76_init_4 : decode cX76_init 4 = .ok (.aload_n 0, 1) := by decide +kernel
theorem dX76_init_5 : decode cX76_init 5 = .ok (.iload_n 1, 1) := by decide +kernel
theorem dX76_init_6 : decode cX76_init 6 = .ok (.putfield 7, 3) := by decide +kernel
theorem dX76_init_9 : decode cX76_init 9 = .ok (.aload_n 0, 1) := by decide +kernel
theorem dX76_init_10 : decode cX76_init 10 = .ok (.iload_n 2, 1) := by decide +kernel
theorem dX76_init_11 : decode cX76_init 11 = .ok (.putfield 13, 3) := by decide +kernel
theorem dX76_init_14 : decode cX76_init 14 = .ok (.return_, 1) := by decide +kernel
theorem in_X76 : ∀ w ∈ wsX760, w ∈ lw_all := lw_in wsX760 [4944, 4946] (by decide +kernel) (by decide +kernel)
def RX77 : String := "KnowHouse$RightDesk$Not"
def TX77 : u_T := fun k => match k with
  | _ => ("KnowHouse$RightDesk$Not", "of", "I", true)
def tyX77 : Nat → FieldType := fun k => match k with
  | _ => .int
abbrev wsX770 : List Cond := u_ws RX77 TX77 1
theorem nmX77 : ∀ a, a < 1 → ∀ b, b < 1 → a ≠ b → (TX77 a).2.1 ≠ (TX77 b).2.1 := by decide +kernel
theorem tyX77_ok : ∀ k, k < 1 → parseFieldDescriptor (TX77 k).2.2.1 = some (tyX77 k) := by decide +kernel
abbrev cX77_holds : ByteArray := prog_54_method_2_code
def yX77_holds : MethodName := ⟨RX77, "holds", "(LKnowHouse$RightDesk$Ask;[Z)Z"⟩
theorem dX77_holds_0 : decode cX77_holds 0 = .ok (.aload_n 2, 1) := by decide +kernel
theorem dX77_holds_1 : decode cX77_holds 1 = .ok (.aload_n 0, 1) := by decide +kernel
theorem dX77_holds_2 : decode cX77_holds 2 = .ok (.getfield 7, 3) := by decide +kernel
theorem dX77_holds_5 : decode cX77_holds 5 = .ok (.baload, 1) := by decide +kernel
theorem dX77_holds_6 : decode cX77_holds 6 = .ok (.ifCond .ne 7, 3) := by decide +kernel
theorem dX77_holds_9 : decode cX77_holds 9 = .ok (.iconst 1, 1) := by decide +kernel
theorem dX77_holds_10 : decode cX77_holds 10 = .ok (.goto 4, 3) := by decide +kernel
theorem dX77_holds_13 : decode cX77_holds 13 = .ok (.iconst 0, 1) := by decide +kernel
theorem dX77_holds_14 : decode cX77_holds 14 = .ok (.ireturn, 1) := by decide +kernel
abbrev cX77_init : ByteArray := prog_54_method_1_code
def yX77_init : MethodName := ⟨RX77, "<init>", "(I)V"⟩
theorem dX77_init_0 : decode cX77_init 0 = .ok (.aload_n 0, 1) := by decide +kernel
theorem dX77_init_1 : decode cX77_init 1 = .ok (.invokespecial 1, 3) := by decide +kernel
theorem dX77_init_4 : decode cX77_init 4 = .ok (.aload_n 0, 1) := by decide +kernel
theorem dX77_init_5 : decode cX77_init 5 = .ok (.iload_n 1, 1) := by decide +kernel
theorem dX77_init_6 : decode cX77_init 6 = .ok (.putfield 7, 3) := by decide +kernel
theorem dX77_init_9 : decode cX77_init 9 = .ok (.return_, 1) := by decide +kernel
theorem in_X77 : ∀ w ∈ wsX770, w ∈ lw_all := lw_in wsX770 [4956] (by decide +kernel) (by decide +kernel)
def RX78 : String := "KnowHouse$RightDesk$Some"
def TX78 : u_T := fun k => match k with
  | 0 => ("KnowHouse$RightDesk$Some", "least", "I", true)
  | _ => ("KnowHouse$RightDesk$Some", "of", "[I", true)
def tyX78 : Nat → FieldType := fun k => match k with
  | 0 => .int
  | _ => .array .int
abbrev wsX780 : List Cond := u_ws RX78 TX78 2
theorem nmX78 : ∀ a, a < 2 → ∀ b, b < 2 → a ≠ b → (TX78 a).2.1 ≠ (TX78 b).2.1 := by decide +kernel
theorem tyX78_ok : ∀ k, k < 2 → parseFieldDescriptor (TX78 k).2.2.1 = some (tyX78 k) := by decide +kernel
abbrev cX78_holds : ByteArray := prog_56_method_2_code
def yX78_holds : MethodName := ⟨RX78, "holds", "(LKnowHouse$RightDesk$Ask;[Z)Z"⟩
theorem dX78_holds_0 : decode cX78_holds 0 = .ok (.iconst 0, 1) := by decide +kernel
theorem dX78_holds_1 : decode cX78_holds 1 = .ok (.istore_n 3, 1) := by decide +kernel
theorem dX78_holds_2 : decode cX78_holds 2 = .ok (.aload_n 0, 1) := by decide +kernel
theorem dX78_holds_3 : decode cX78_holds 3 = .ok (.getfield 13, 3) := by decide +kernel
theorem dX78_holds_6 : decode cX78_holds 6 = .ok (.astore 4, 2) := by decide +kernel
theorem dX78_holds_8 : decode cX78_holds 8 = .ok (.aload 4, 2) := by decide +kernel
theorem dX78_holds_10 : decode cX78_holds 10 = .ok (.arraylength, 1) := by decide +kernel
theorem dX78_holds_11 : decode cX78_holds 11 = .ok (.istore 5, 2) := by decide +kernel
theorem dX78_holds_13 : decode cX78_holds 13 = .ok (.iconst 0, 1) := by decide +kernel
theorem dX78_holds_14 : decode cX78_holds 14 = .ok (.istore 6, 2) := by decide +kernel
theorem dX78_holds_16 : decode cX78_holds 16 = .ok (.iload 6, 2) := by decide +kernel
theorem dX78_holds_18 : decode cX78_holds 18 = .ok (.iload 5, 2) := by decide +kernel
theorem dX78_holds_20 : decode cX78_holds 20 = .ok (.if_icmp .ge 31, 3) := by decide +kernel
theorem dX78_holds_23 : decode cX78_holds 23 = .ok (.aload 4, 2) := by decide +kernel
theorem dX78_holds_25 : decode cX78_holds 25 = .ok (.iload 6, 2) := by decide +kernel
theorem dX78_holds_27 : decode cX78_holds 27 = .ok (.iaload, 1) := by decide +kernel
theorem dX78_holds_28 : decode cX78_holds 28 = .ok (.istore 7, 2) := by decide +kernel
theorem dX78_holds_30 : decode cX78_holds 30 = .ok (.iload_n 3, 1) := by decide +kernel
theorem dX78_holds_31 : decode cX78_holds 31 = .ok (.aload_n 2, 1) := by decide +kernel
theorem dX78_holds_32 : decode cX78_holds 32 = .ok (.iload 7, 2) := by decide +kernel
theorem dX78_holds_34 : decode cX78_holds 34 = .ok (.baload, 1) := by decide +kernel
theorem dX78_holds_35 : decode cX78_holds 35 = .ok (.ifCond .eq 7, 3) := by decide +kernel
theorem dX78_holds_38 : decode cX78_holds 38 = .ok (.iconst 1, 1) := by decide +kernel
theorem dX78_holds_39 : decode cX78_holds 39 = .ok (.goto 4, 3) := by decide +kernel
theorem dX78_holds_42 : decode cX78_holds 42 = .ok (.iconst 0, 1) := by decide +kernel
theorem dX78_holds_43 : decode cX78_holds 43 = .ok (.iadd, 1) := by decide +kernel
theorem dX78_holds_44 : decode cX78_holds 44 = .ok (.istore_n 3, 1) := by decide +kernel
theorem dX78_holds_45 : decode cX78_holds 45 = .ok (.iinc 6 1, 3) := by decide +kernel
theorem dX78_holds_48 : decode cX78_holds 48 = .ok (.goto (-32), 3) := by decide +kernel
theorem dX78_holds_51 : decode cX78_holds 51 = .ok (.iload_n 3, 1) := by decide +kernel
theorem dX78_holds_52 : decode cX78_holds 52 = .ok (.aload_n 0, 1) := by decide +kernel
theorem dX78_holds_53 : decode cX78_holds 53 = .ok (.getfield 7, 3) := by decide +kernel
theorem dX78_holds_56 : decode cX78_holds 56 = .ok (.if_icmp .lt 7, 3) := by decide +kernel
theorem dX78_holds_59 : decode cX78_holds 59 = .ok (.iconst 1, 1) := by decide +kernel
theorem dX78_holds_60 : decode cX78_holds 60 = .ok (.goto 4, 3) := by decide +kernel
theorem dX78_holds_63 : decode cX78_holds 63 = .ok (.iconst 0, 1) := by decide +kernel
theorem dX78_holds_64 : decode cX78_holds 64 = .ok (.ireturn, 1) := by decide +kernel
abbrev cX78_init : ByteArray := prog_56_method_1_code
def yX78_init : MethodName := ⟨RX78, "<init>", "(I[I)V"⟩
theorem dX78_init_0 : decode cX78_init 0 = .ok (.aload_n 0, 1) := by decide +kernel
theorem dX78_init_1 : decode cX78_init 1 = .ok (.invokespecial 1, 3) := by decide +kernel
theorem dX78_init_4 : decode cX78_init 4 = .ok (.aload_n 0, 1) := by decide +kernel
theorem dX78_init_5 : decode cX78_init 5 = .ok (.iload_n 1, 1) := by decide +kernel
theorem dX78_init_6 : decode cX78_init 6 = .ok (.putfield 7, 3) := by decide +kernel
theorem dX78_init_9 : decode cX78_init 9 = .ok (.aload_n 0, 1) := by decide +kernel
theorem dX78_init_10 : decode cX78_init 10 = .ok (.aload_n 2, 1) := by decide +kernel
theorem dX78_init_11 : decode cX78_init 11 = .ok (.putfield 13, 3) := by decide +kernel
theorem dX78_init_14 : decode cX78_init 14 = .ok (.return_, 1) := by decide +kernel
theorem in_X78 : ∀ w ∈ wsX780, w ∈ lw_all := lw_in wsX780 [4967, 4969] (by decide +kernel) (by decide +kernel)
def RX79 : String := "KnowHouse$RightDesk$Always"
abbrev cX79_holds : ByteArray := prog_50_method_2_code
def yX79_holds : MethodName := ⟨RX79, "holds", "(LKnowHouse$RightDesk$Ask;[Z)Z"⟩
theorem dX79_holds_0 : decode cX79_holds 0 = .ok (.iconst 1, 1) := by decide +kernel
theorem dX79_holds_1 : decode cX79_holds 1 = .ok (.ireturn, 1) := by decide +kernel
abbrev cX79_init : ByteArray := prog_50_method_1_code
def yX79_init : MethodName := ⟨RX79, "<init>", "()V"⟩
theorem dX79_init_0 : decode cX79_init 0 = .ok (.aload_n 0, 1) := by decide +kernel
theorem dX79_init_1 : decode cX79_init 1 = .ok (.invokespecial 1, 3) := by decide +kernel
theorem dX79_init_4 : decode cX79_init 4 = .ok (.return_, 1) := by decide +kernel
def TX79 : u_T := fun _ => ("", "", "", false)
def tyX79 : Nat → FieldType := fun _ => .int
theorem nmX79 : ∀ a, a < 0 → ∀ b, b < 0 → a ≠ b → (TX79 a).2.1 ≠ (TX79 b).2.1 := fun a h => absurd h (Nat.not_lt_zero a)
theorem tyX79_ok : ∀ k, k < 0 → parseFieldDescriptor (TX79 k).2.2.1 = some (tyX79 k) := fun k h => absurd h (Nat.not_lt_zero k)
theorem in_X79 : ∀ w ∈ u_ws RX79 TX79 0, w ∈ lw_all := fun w h => by cases h
def RX80 : String := "KnowHouse$RightDesk$Rule"
def TX80 : u_T := fun k => match k with
  | 0 => ("KnowHouse$RightDesk$Rule", "rank", "I", true)
  | 1 => ("KnowHouse$RightDesk$Rule", "denies", "Z", true)
  | _ => ("KnowHouse$RightDesk$Rule", "condition", "I", true)
def tyX80 : Nat → FieldType := fun k => match k with
  | 0 => .int
  | 1 => .boolean
  | _ => .int
abbrev wsX800 : List Cond := u_ws RX80 TX80 3
theorem nmX80 : ∀ a, a < 3 → ∀ b, b < 3 → a ≠ b → (TX80 a).2.1 ≠ (TX80 b).2.1 := by decide +kernel
theorem tyX80_ok : ∀ k, k < 3 → parseFieldDescriptor (TX80 k).2.2.1 = some (tyX80 k) := by decide +kernel
abbrev cX80_init : ByteArray := prog_55_method_1_code
def yX80_init : MethodName := ⟨RX80, "<init>", "(IZI)V"⟩
theorem dX80_init_0 : decode cX80_init 0 = .ok (.aload_n 0, 1) := by decide +kernel
theorem dX80_init_1 : decode cX80_init 1 = .ok (.invokespecial 1, 3) := by decide +kernel
theorem dX80_init_4 : decode cX80_init 4 = .ok (.aload_n 0, 1) := by decide +kernel
theorem dX80_init_5 : decode cX80_init 5 = .ok (.iload_n 1, 1) := by decide +kernel
theorem dX80_init_6 : decode cX80_init 6 = .ok (.putfield 7, 3) := by decide +kernel
theorem dX80_init_9 : decode cX80_init 9 = .ok (.aload_n 0, 1) := by decide +kernel
theorem dX80_init_10 : decode cX80_init 10 = .ok (.iload_n 2, 1) := by decide +kernel
theorem dX80_init_11 : decode cX80_init 11 = .ok (.putfield 13, 3) := by decide +kernel
theorem dX80_init_14 : decode cX80_init 14 = .ok (.aload_n 0, 1) := by decide +kernel
theorem dX80_init_15 : decode cX80_init 15 = .ok (.iload_n 3, 1) := by decide +kernel
theorem dX80_init_16 : decode cX80_init 16 = .ok (.putfield 17, 3) := by decide +kernel
theorem dX80_init_19 : decode cX80_init 19 = .ok (.return_, 1) := by decide +kernel
theorem in_X80 : ∀ w ∈ wsX800, w ∈ lw_all := lw_in wsX800 [4995, 4997, 4999] (by decide +kernel) (by decide +kernel)
def RJ2 : String := "java/util/ArrayList"
def TJ2 : u_T := fun k => match k with
  | 0 => ("java/util/AbstractList", "modCount", "I", false)
  | 1 => ("java/util/ArrayList", "elementData", "[Ljava/lang/Object;", false)
  | _ => ("java/util/ArrayList", "size", "I", false)
def tyJ2 : Nat → FieldType := fun k => match k with
  | 0 => .int
  | 1 => .array (.object "java/lang/Object")
  | _ => .int
abbrev wsJ20 : List Cond := u_ws RJ2 TJ2 3
theorem nmJ2 : ∀ a, a < 3 → ∀ b, b < 3 → a ≠ b → (TJ2 a).2.1 ≠ (TJ2 b).2.1 := by decide +kernel
theorem tyJ2_ok : ∀ k, k < 3 → parseFieldDescriptor (TJ2 k).2.2.1 = some (tyJ2 k) := by decide +kernel
abbrev cJ2_init : ByteArray := prog_122_method_2_code
def yJ2_init : MethodName := ⟨RJ2, "<init>", "()V"⟩
theorem dJ2_init_0 : decode cJ2_init 0 = .ok (.aload_n 0, 1) := by decide +kernel
theorem dJ2_init_1 : decode cJ2_init 1 = .ok (.invokespecial 1, 3) := by decide +kernel
theorem dJ2_init_4 : decode cJ2_init 4 = .ok (.aload_n 0, 1) := by decide +kernel
theorem dJ2_init_5 : decode cJ2_init 5 = .ok (.getstatic 39, 3) := by decide +kernel
theorem dJ2_init_8 : decode cJ2_init 8 = .ok (.putfield 9, 3) := by decide +kernel
theorem dJ2_init_11 : decode cJ2_init 11 = .ok (.return_, 1) := by decide +kernel
abbrev cJ2_clear : ByteArray := prog_122_method_40_code
def yJ2_clear : MethodName := ⟨RJ2, "clear", "()V"⟩
theorem dJ2_clear_0 : decode cJ2_clear 0 = .ok (.aload_n 0, 1) := by decide +kernel
theorem dJ2_clear_1 : decode cJ2_clear 1 = .ok (.dup, 1) := by decide +kernel
theorem dJ2_clear_2 : decode cJ2_clear 2 = .ok (.getfield 63, 3) := by decide +kernel
theorem dJ2_clear_5 : decode cJ2_clear 5 = .ok (.iconst 1, 1) := by decide +kernel
theorem dJ2_clear_6 : decode cJ2_clear 6 = .ok (.iadd, 1) := by decide +kernel
theorem dJ2_clear_7 : decode cJ2_clear 7 = .ok (.putfield 63, 3) := by decide +kernel
theorem dJ2_clear_10 : decode cJ2_clear 10 = .ok (.aload_n 0, 1) := by decide +kernel
theorem dJ2_clear_11 : decode cJ2_clear 11 = .ok (.getfield 9, 3) := by decide +kernel
theorem dJ2_clear_14 : decode cJ2_clear 14 = .ok (.astore_n 1, 1) := by decide +kernel
theorem dJ2_clear_15 : decode cJ2_clear 15 = .ok (.aload_n 0, 1) := by decide +kernel
theorem dJ2_clear_16 : decode cJ2_clear 16 = .ok (.getfield 48, 3) := by decide +kernel
theorem dJ2_clear_19 : decode cJ2_clear 19 = .ok (.istore_n 2, 1) := by decide +kernel
theorem dJ2_clear_20 : decode cJ2_clear 20 = .ok (.aload_n 0, 1) := by decide +kernel
theorem dJ2_clear_21 : decode cJ2_clear 21 = .ok (.iconst 0, 1) := by decide +kernel
theorem dJ2_clear_22 : decode cJ2_clear 22 = .ok (.dup_x1, 1) := by decide +kernel
theorem dJ2_clear_23 : decode cJ2_clear 23 = .ok (.putfield 48, 3) := by decide +kernel
theorem dJ2_clear_26 : decode cJ2_clear 26 = .ok (.istore_n 3, 1) := by decide +kernel
theorem dJ2_clear_27 : decode cJ2_clear 27 = .ok (.iload_n 3, 1) := by decide +kernel
theorem dJ2_clear_28 : decode cJ2_clear 28 = .ok (.iload_n 2, 1) := by decide +kernel
theorem dJ2_clear_29 : decode cJ2_clear 29 = .ok (.if_icmp .ge 13, 3) := by decide +kernel
theorem dJ2_clear_32 : decode cJ2_clear 32 = .ok (.aload_n 1, 1) := by decide +kernel
theorem dJ2_clear_33 : decode cJ2_clear 33 = .ok (.iload_n 3, 1) := by decide +kernel
theorem dJ2_clear_34 : decode cJ2_clear 34 = .ok (.aconst_null, 1) := by decide +kernel
theorem dJ2_clear_35 : decode cJ2_clear 35 = .ok (.aastore, 1) := by decide +kernel
theorem dJ2_clear_36 : decode cJ2_clear 36 = .ok (.iinc 3 1, 3) := by decide +kernel
theorem dJ2_clear_39 : decode cJ2_clear 39 = .ok (.goto (-12), 3) := by decide +kernel
theorem dJ2_clear_42 : decode cJ2_clear 42 = .ok (.return_, 1) := by decide +kernel
abbrev cJ2_add : ByteArray := prog_122_method_25_code
def yJ2_add : MethodName := ⟨RJ2, "add", "(Ljava/lang/Object;)Z"⟩
theorem dJ2_add_0 : decode cJ2_add 0 = .ok (.aload_n 0, 1) := by decide +kernel
theorem dJ2_add_1 : decode cJ2_add 1 = .ok (.dup, 1) := by decide +kernel
theorem dJ2_add_2 : decode cJ2_add 2 = .ok (.getfield 63, 3) := by decide +kernel
theorem dJ2_add_5 : decode cJ2_add 5 = .ok (.iconst 1, 1) := by decide +kernel
theorem dJ2_add_6 : decode cJ2_add 6 = .ok (.iadd, 1) := by decide +kernel
theorem dJ2_add_7 : decode cJ2_add 7 = .ok (.putfield 63, 3) := by decide +kernel
theorem dJ2_add_10 : decode cJ2_add 10 = .ok (.aload_n 0, 1) := by decide +kernel
theorem dJ2_add_11 : decode cJ2_add 11 = .ok (.aload_n 1, 1) := by decide +kernel
theorem dJ2_add_12 : decode cJ2_add 12 = .ok (.aload_n 0, 1) := by decide +kernel
theorem dJ2_add_13 : decode cJ2_add 13 = .ok (.getfield 9, 3) := by decide +kernel
theorem dJ2_add_16 : decode cJ2_add 16 = .ok (.aload_n 0, 1) := by decide +kernel
theorem dJ2_add_17 : decode cJ2_add 17 = .ok (.getfield 48, 3) := by decide +kernel
theorem dJ2_add_20 : decode cJ2_add 20 = .ok (.invokevirtual 131, 3) := by decide +kernel
theorem dJ2_add_23 : decode cJ2_add 23 = .ok (.iconst 1, 1) := by decide +kernel
theorem dJ2_add_24 : decode cJ2_add 24 = .ok (.ireturn, 1) := by decide +kernel
abbrev cJ2_add_2 : ByteArray := prog_122_method_24_code
def yJ2_add_2 : MethodName := ⟨RJ2, "add", "(Ljava/lang/Object;[Ljava/lang/Object;I)V"⟩
theorem dJ2_add_2_0 : decode cJ2_add_2 0 = .ok (.iload_n 3, 1) := by decide +kernel
theorem dJ2_add_2_1 : decode cJ2_add_2 1 = .ok (.aload_n 2, 1) := by decide +kernel
theorem dJ2_add_2_2 : decode cJ2_add_2 2 = .ok (.arraylength, 1) := by decide +kernel
theorem dJ2_add_2_3 : decode cJ2_add_2 3 = .ok (.if_icmp .ne 8, 3) := by decide +kernel
theorem dJ2_add_2_6 : decode cJ2_add_2 6 = .ok (.aload_n 0, 1) := by decide +kernel
theorem dJ2_add_2_7 : decode cJ2_add_2 7 = .ok (.invokevirtual 129, 3) := by decide +kernel
theorem dJ2_add_2_10 : decode cJ2_add_2 10 = .ok (.astore_n 2, 1) := by decide +kernel
theorem dJ2_add_2_11 : decode cJ2_add_2 11 = .ok (.aload_n 2, 1) := by decide +kernel
theorem dJ2_add_2_12 : decode cJ2_add_2 12 = .ok (.iload_n 3, 1) := by decide +kernel
theorem dJ2_add_2_13 : decode cJ2_add_2 13 = .ok (.aload_n 1, 1) := by decide +kernel
theorem dJ2_add_2_14 : decode cJ2_add_2 14 = .ok (.aastore, 1) := by decide +kernel
theorem dJ2_add_2_15 : decode cJ2_add_2 15 = .ok (.aload_n 0, 1) := by decide +kernel
theorem dJ2_add_2_16 : decode cJ2_add_2 16 = .ok (.iload_n 3, 1) := by decide +kernel
theorem dJ2_add_2_17 : decode cJ2_add_2 17 = .ok (.iconst 1, 1) := by decide +kernel
theorem dJ2_add_2_18 : decode cJ2_add_2 18 = .ok (.iadd, 1) := by decide +kernel
theorem dJ2_add_2_19 : decode cJ2_add_2 19 = .ok (.putfield 48, 3) := by decide +kernel
theorem dJ2_add_2_22 : decode cJ2_add_2 22 = .ok (.return_, 1) := by decide +kernel
abbrev cJ2_grow : ByteArray := prog_122_method_7_code
def yJ2_grow : MethodName := ⟨RJ2, "grow", "()[Ljava/lang/Object;"⟩
theorem dJ2_grow_0 : decode cJ2_grow 0 = .ok (.aload_n 0, 1) := by decide +kernel
theorem dJ2_grow_1 : decode cJ2_grow 1 = .ok (.aload_n 0, 1) := by decide +kernel
theorem dJ2_grow_2 : decode cJ2_grow 2 = .ok (.getfield 48, 3) := by decide +kernel
theorem dJ2_grow_5 : decode cJ2_grow 5 = .ok (.iconst 1, 1) := by decide +kernel
theorem dJ2_grow_6 : decode cJ2_grow 6 = .ok (.iadd, 1) := by decide +kernel
theorem dJ2_grow_7 : decode cJ2_grow 7 = .ok (.invokevirtual 69, 3) := by decide +kernel
theorem dJ2_grow_10 : decode cJ2_grow 10 = .ok (.areturn, 1) := by decide +kernel
abbrev cJ2_grow_2 : ByteArray := prog_122_method_6_code
def yJ2_grow_2 : MethodName := ⟨RJ2, "grow", "(I)[Ljava/lang/Object;"⟩
theorem dJ2_grow_2_0 : decode cJ2_grow_2 0 = .ok (.aload_n 0, 1) := by decide +kernel
theorem dJ2_grow_2_1 : decode cJ2_grow_2 1 = .ok (.getfield 9, 3) := by decide +kernel
theorem dJ2_grow_2_4 : decode cJ2_grow_2 4 = .ok (.arraylength, 1) := by decide +kernel
theorem dJ2_grow_2_5 : decode cJ2_grow_2 5 = .ok (.istore_n 2, 1) := by decide +kernel
theorem dJ2_grow_2_6 : decode cJ2_grow_2 6 = .ok (.iload_n 2, 1) := by decide +kernel
theorem dJ2_grow_2_7 : decode cJ2_grow_2 7 = .ok (.ifCond .gt 13, 3) := by decide +kernel
theorem dJ2_grow_2_10 : decode cJ2_grow_2 10 = .ok (.aload_n 0, 1) := by decide +kernel
theorem dJ2_grow_2_11 : decode cJ2_grow_2 11 = .ok (.getfield 9, 3) := by decide +kernel
theorem dJ2_grow_2_14 : decode cJ2_grow_2 14 = .ok (.getstatic 39, 3) := by decide +kernel
theorem dJ2_grow_2_17 : decode cJ2_grow_2 17 = .ok (.if_acmp .eq 28, 3) := by decide +kernel
theorem dJ2_grow_2_20 : decode cJ2_grow_2 20 = .ok (.iload_n 2, 1) := by decide +kernel
theorem dJ2_grow_2_21 : decode cJ2_grow_2 21 = .ok (.iload_n 1, 1) := by decide +kernel
theorem dJ2_grow_2_22 : decode cJ2_grow_2 22 = .ok (.iload_n 2, 1) := by decide +kernel
theorem dJ2_grow_2_23 : decode cJ2_grow_2 23 = .ok (.isub, 1) := by decide +kernel
theorem dJ2_grow_2_24 : decode cJ2_grow_2 24 = .ok (.iload_n 2, 1) := by decide +kernel
theorem dJ2_grow_2_25 : decode cJ2_grow_2 25 = .ok (.iconst 1, 1) := by decide +kernel
theorem dJ2_grow_2_26 : decode cJ2_grow_2 26 = .ok (.ishr, 1) := by decide +kernel
theorem dJ2_grow_2_27 : decode cJ2_grow_2 27 = .ok (.invokestatic 73, 3) := by decide +kernel
theorem dJ2_grow_2_30 : decode cJ2_grow_2 30 = .ok (.istore_n 3, 1) := by decide +kernel
theorem dJ2_grow_2_31 : decode cJ2_grow_2 31 = .ok (.aload_n 0, 1) := by decide +kernel
theorem dJ2_grow_2_32 : decode cJ2_grow_2 32 = .ok (.aload_n 0, 1) := by decide +kernel
theorem dJ2_grow_2_33 : decode cJ2_grow_2 33 = .ok (.getfield 9, 3) := by decide +kernel
theorem dJ2_grow_2_36 : decode cJ2_grow_2 36 = .ok (.iload_n 3, 1) := by decide +kernel
theorem dJ2_grow_2_37 : decode cJ2_grow_2 37 = .ok (.invokestatic 66, 3) := by decide +kernel
theorem dJ2_grow_2_40 : decode cJ2_grow_2 40 = .ok (.dup_x1, 1) := by decide +kernel
theorem dJ2_grow_2_41 : decode cJ2_grow_2 41 = .ok (.putfield 9, 3) := by decide +kernel
theorem dJ2_grow_2_44 : decode cJ2_grow_2 44 = .ok (.areturn, 1) := by decide +kernel
theorem dJ2_grow_2_45 : decode cJ2_grow_2 45 = .ok (.aload_n 0, 1) := by decide +kernel
theorem dJ2_grow_2_46 : decode cJ2_grow_2 46 = .ok (.bipush 10, 2) := by decide +kernel
theorem dJ2_grow_2_48 : decode cJ2_grow_2 48 = .ok (.iload_n 1, 1) := by decide +kernel
theorem dJ2_grow_2_49 : decode cJ2_grow_2 49 = .ok (.invokestatic 79, 3) := by decide +kernel
theorem dJ2_grow_2_52 : decode cJ2_grow_2 52 = .ok (.anewarray 7, 3) := by decide +kernel
theorem dJ2_grow_2_55 : decode cJ2_grow_2 55 = .ok (.dup_x1, 1) := by decide +kernel
theorem dJ2_grow_2_56 : decode cJ2_grow_2 56 = .ok (.putfield 9, 3) := by decide +kernel
theorem dJ2_grow_2_59 : decode cJ2_grow_2 59 = .ok (.areturn, 1) := by decide +kernel
abbrev cJ2_size : ByteArray := prog_122_method_8_code
def yJ2_size : MethodName := ⟨RJ2, "size", "()I"⟩
theorem dJ2_size_0 : decode cJ2_size 0 = .ok (.aload_n 0, 1) := by decide +kernel
theorem dJ2_size_1 : decode cJ2_size 1 = .ok (.getfield 48, 3) := by decide +kernel
theorem dJ2_size_4 : decode cJ2_size 4 = .ok (.ireturn, 1) := by decide +kernel
abbrev cJ2_get : ByteArray := prog_122_method_20_code
def yJ2_get : MethodName := ⟨RJ2, "get", "(I)Ljava/lang/Object;"⟩
theorem dJ2_get_0 : decode cJ2_get 0 = .ok (.iload_n 1, 1) := by decide +kernel
theorem dJ2_get_1 : decode cJ2_get 1 = .ok (.aload_n 0, 1) := by decide +kernel
theorem dJ2_get_2 : decode cJ2_get 2 = .ok (.getfield 48, 3) := by decide +kernel
theorem dJ2_get_5 : decode cJ2_get 5 = .ok (.invokestatic 118, 3) := by decide +kernel
theorem dJ2_get_8 : decode cJ2_get 8 = .ok (.pop, 1) := by decide +kernel
theorem dJ2_get_9 : decode cJ2_get 9 = .ok (.aload_n 0, 1) := by decide +kernel
theorem dJ2_get_10 : decode cJ2_get 10 = .ok (.iload_n 1, 1) := by decide +kernel
theorem dJ2_get_11 : decode cJ2_get 11 = .ok (.invokevirtual 123, 3) := by decide +kernel
theorem dJ2_get_14 : decode cJ2_get 14 = .ok (.areturn, 1) := by decide +kernel
abbrev cJ2_elementData : ByteArray := prog_122_method_18_code
def yJ2_elementData : MethodName := ⟨RJ2, "elementData", "(I)Ljava/lang/Object;"⟩
theorem dJ2_elementData_0 : decode cJ2_elementData 0 = .ok (.aload_n 0, 1) := by decide +kernel
theorem dJ2_elementData_1 : decode cJ2_elementData 1 = .ok (.getfield 9, 3) := by decide +kernel
theorem dJ2_elementData_4 : decode cJ2_elementData 4 = .ok (.iload_n 1, 1) := by decide +kernel
theorem dJ2_elementData_5 : decode cJ2_elementData 5 = .ok (.aaload, 1) := by decide +kernel
theorem dJ2_elementData_6 : decode cJ2_elementData 6 = .ok (.areturn, 1) := by decide +kernel
abbrev cJ2_iterator : ByteArray := prog_122_method_55_code
def yJ2_iterator : MethodName := ⟨RJ2, "iterator", "()Ljava/util/Iterator;"⟩
theorem dJ2_iterator_0 : decode cJ2_iterator 0 = .ok (.new 267, 3) := by decide +kernel
theorem dJ2_iterator_3 : decode cJ2_iterator 3 = .ok (.dup, 1) := by decide +kernel
theorem dJ2_iterator_4 : decode cJ2_iterator 4 = .ok (.aload_n 0, 1) := by decide +kernel
theorem dJ2_iterator_5 : decode cJ2_iterator 5 = .ok (.invokespecial 269, 3) := by decide +kernel
theorem dJ2_iterator_8 : decode cJ2_iterator 8 = .ok (.areturn, 1) := by decide +kernel
abbrev cJ2_remove : ByteArray := prog_122_method_29_code
def yJ2_remove : MethodName := ⟨RJ2, "remove", "(I)Ljava/lang/Object;"⟩
theorem dJ2_remove_0 : decode cJ2_remove 0 = .ok (.iload_n 1, 1) := by decide +kernel
theorem dJ2_remove_1 : decode cJ2_remove 1 = .ok (.aload_n 0, 1) := by decide +kernel
theorem dJ2_remove_2 : decode cJ2_remove 2 = .ok (.getfield 48, 3) := by decide +kernel
theorem dJ2_remove_5 : decode cJ2_remove 5 = .ok (.invokestatic 118, 3) := by decide +kernel
theorem dJ2_remove_8 : decode cJ2_remove 8 = .ok (.pop, 1) := by decide +kernel
theorem dJ2_remove_9 : decode cJ2_remove 9 = .ok (.aload_n 0, 1) := by decide +kernel
theorem dJ2_remove_10 : decode cJ2_remove 10 = .ok (.getfield 9, 3) := by decide +kernel
theorem dJ2_remove_13 : decode cJ2_remove 13 = .ok (.astore_n 2, 1) := by decide +kernel
theorem dJ2_remove_14 : decode cJ2_remove 14 = .ok (.aload_n 2, 1) := by decide +kernel
theorem dJ2_remove_15 : decode cJ2_remove 15 = .ok (.iload_n 1, 1) := by decide +kernel
theorem dJ2_remove_16 : decode cJ2_remove 16 = .ok (.aaload, 1) := by decide +kernel
theorem dJ2_remove_17 : decode cJ2_remove 17 = .ok (.astore_n 3, 1) := by decide +kernel
theorem dJ2_remove_18 : decode cJ2_remove 18 = .ok (.aload_n 0, 1) := by decide +kernel
theorem dJ2_remove_19 : decode cJ2_remove 19 = .ok (.aload_n 2, 1) := by decide +kernel
theorem dJ2_remove_20 : decode cJ2_remove 20 = .ok (.iload_n 1, 1) := by decide +kernel
theorem dJ2_remove_21 : decode cJ2_remove 21 = .ok (.invokevirtual 144, 3) := by decide +kernel
theorem dJ2_remove_24 : decode cJ2_remove 24 = .ok (.aload_n 3, 1) := by decide +kernel
theorem dJ2_remove_25 : decode cJ2_remove 25 = .ok (.areturn, 1) := by decide +kernel
abbrev cJ2_fastRemove : ByteArray := prog_122_method_39_code
def yJ2_fastRemove : MethodName := ⟨RJ2, "fastRemove", "([Ljava/lang/Object;I)V"⟩
theorem dJ2_fastRemove_0 : decode cJ2_fastRemove 0 = .ok (.aload_n 0, 1) := by decide +kernel
theorem dJ2_fastRemove_1 : decode cJ2_fastRemove 1 = .ok (.dup, 1) := by decide +kernel
theorem dJ2_fastRemove_2 : decode cJ2_fastRemove 2 = .ok (.getfield 63, 3) := by decide +kernel
theorem dJ2_fastRemove_5 : decode cJ2_fastRemove 5 = .ok (.iconst 1, 1) := by decide +kernel
theorem dJ2_fastRemove_6 : decode cJ2_fastRemove 6 = .ok (.iadd, 1) := by decide +kernel
theorem dJ2_fastRemove_7 : decode cJ2_fastRemove 7 = .ok (.putfield 63, 3) := by decide +kernel
theorem dJ2_fastRemove_10 : decode cJ2_fastRemove 10 = .ok (.aload_n 0, 1) := by decide +kernel
theorem dJ2_fastRemove_11 : decode cJ2_fastRemove 11 = .ok (.getfield 48, 3) := by decide +kernel
theorem dJ2_fastRemove_14 : decode cJ2_fastRemove 14 = .ok (.iconst 1, 1) := by decide +kernel
theorem dJ2_fastRemove_15 : decode cJ2_fastRemove 15 = .ok (.isub, 1) := by decide +kernel
theorem dJ2_fastRemove_16 : decode cJ2_fastRemove 16 = .ok (.dup, 1) := by decide +kernel
theorem dJ2_fastRemove_17 : decode cJ2_fastRemove 17 = .ok (.istore_n 3, 1) := by decide +kernel
theorem dJ2_fastRemove_18 : decode cJ2_fastRemove 18 = .ok (.iload_n 2, 1) := by decide +kernel
theorem dJ2_fastRemove_19 : decode cJ2_fastRemove 19 = .ok (.if_icmp .le 15, 3) := by decide +kernel
theorem dJ2_fastRemove_22 : decode cJ2_fastRemove 22 = .ok (.aload_n 1, 1) := by decide +kernel
theorem dJ2_fastRemove_23 : decode cJ2_fastRemove 23 = .ok (.iload_n 2, 1) := by decide +kernel
theorem dJ2_fastRemove_24 : decode cJ2_fastRemove 24 = .ok (.iconst 1, 1) := by decide +kernel
theorem dJ2_fastRemove_25 : decode cJ2_fastRemove 25 = .ok (.iadd, 1) := by decide +kernel
theorem dJ2_fastRemove_26 : decode cJ2_fastRemove 26 = .ok (.aload_n 1, 1) := by decide +kernel
theorem dJ2_fastRemove_27 : decode cJ2_fastRemove 27 = .ok (.iload_n 2, 1) := by decide +kernel
theorem dJ2_fastRemove_28 : decode cJ2_fastRemove 28 = .ok (.iload_n 3, 1) := by decide +kernel
theorem dJ2_fastRemove_29 : decode cJ2_fastRemove 29 = .ok (.iload_n 2, 1) := by decide +kernel
theorem dJ2_fastRemove_30 : decode cJ2_fastRemove 30 = .ok (.isub, 1) := by decide +kernel
theorem dJ2_fastRemove_31 : decode cJ2_fastRemove 31 = .ok (.invokestatic 112, 3) := by decide +kernel
theorem dJ2_fastRemove_34 : decode cJ2_fastRemove 34 = .ok (.aload_n 1, 1) := by decide +kernel
theorem dJ2_fastRemove_35 : decode cJ2_fastRemove 35 = .ok (.aload_n 0, 1) := by decide +kernel
theorem dJ2_fastRemove_36 : decode cJ2_fastRemove 36 = .ok (.iload_n 3, 1) := by decide +kernel
theorem dJ2_fastRemove_37 : decode cJ2_fastRemove 37 = .ok (.dup_x1, 1) := by decide +kernel
theorem dJ2_fastRemove_38 : decode cJ2_fastRemove 38 = .ok (.putfield 48, 3) := by decide +kernel
theorem dJ2_fastRemove_41 : decode cJ2_fastRemove 41 = .ok (.aconst_null, 1) := by decide +kernel
theorem dJ2_fastRemove_42 : decode cJ2_fastRemove 42 = .ok (.aastore, 1) := by decide +kernel
theorem dJ2_fastRemove_43 : decode cJ2_fastRemove 43 = .ok (.return_, 1) := by decide +kernel
theorem in_J2 : ∀ w ∈ wsJ20, w ∈ lw_all := lw_in wsJ20 [630, 626, 628] (by decide +kernel) (by decide +kernel)
def RJ4 : String := "java/util/BitSet"
def TJ4 : u_T := fun k => match k with
  | 0 => ("java/util/BitSet", "words", "[J", false)
  | 1 => ("java/util/BitSet", "wordsInUse", "I", false)
  | _ => ("java/util/BitSet", "sizeIsSticky", "Z", false)
def tyJ4 : Nat → FieldType := fun k => match k with
  | 0 => .array .long
  | 1 => .int
  | _ => .boolean
abbrev wsJ40 : List Cond := u_ws RJ4 TJ4 3
theorem nmJ4 : ∀ a, a < 3 → ∀ b, b < 3 → a ≠ b → (TJ4 a).2.1 ≠ (TJ4 b).2.1 := by decide +kernel
theorem tyJ4_ok : ∀ k, k < 3 → parseFieldDescriptor (TJ4 k).2.2.1 = some (tyJ4 k) := by decide +kernel
abbrev cJ4_init : ByteArray := prog_125_method_5_code
def yJ4_init : MethodName := ⟨RJ4, "<init>", "(I)V"⟩
theorem dJ4_init_0 : decode cJ4_init 0 = .ok (.aload_n 0, 1) := by decide +kernel
theorem dJ4_init_1 : decode cJ4_init 1 = .ok (.invokespecial 21, 3) := by decide +kernel
theorem dJ4_init_4 : decode cJ4_init 4 = .ok (.aload_n 0, 1) := by decide +kernel
theorem dJ4_init_5 : decode cJ4_init 5 = .ok (.iconst 0, 1) := by decide +kernel
theorem dJ4_init_6 : decode cJ4_init 6 = .ok (.putfield 7, 3) := by decide +kernel
theorem dJ4_init_9 : decode cJ4_init 9 = .ok (.aload_n 0, 1) := by decide +kernel
theorem dJ4_init_10 : decode cJ4_init 10 = .ok (.iconst 0, 1) := by decide +kernel
theorem dJ4_init_11 : decode cJ4_init 11 = .ok (.putfield 24, 3) := by decide +kernel
theorem dJ4_init_14 : decode cJ4_init 14 = .ok (.iload_n 1, 1) := by decide +kernel
theorem dJ4_init_15 : decode cJ4_init 15 = .ok (.ifCond .ge 30, 3) := by decide +kernel
theorem dJ4_init_18 : decode cJ4_init 18 = .ok (.new 31, 3) := by decide +kernel
theorem dJ4_init_21 : decode cJ4_init 21 = .ok (.dup, 1) := by decide +kernel
theorem dJ4_init_22 : decode cJ4_init 22 = .ok (.new 33, 3) := by decide +kernel
theorem dJ4_init_25 : decode cJ4_init 25 = .ok (.dup, 1) := by decide +kernel
theorem dJ4_init_26 : decode cJ4_init 26 = .ok (.invokespecial 35, 3) := by decide +kernel
theorem dJ4_init_29 : decode cJ4_init 29 = .ok (.ldc 36, 2) := by decide +kernel
theorem dJ4_init_31 : decode cJ4_init 31 = .ok (.invokevirtual 38, 3) := by decide +kernel
theorem dJ4_init_34 : decode cJ4_init 34 = .ok (.iload_n 1, 1) := by decide +kernel
theorem dJ4_init_35 : decode cJ4_init 35 = .ok (.invokevirtual 42, 3) := by decide +kernel
theorem dJ4_init_38 : decode cJ4_init 38 = .ok (.invokevirtual 45, 3) := by decide +kernel
theorem dJ4_init_41 : decode cJ4_init 41 = .ok (.invokespecial 49, 3) := by decide +kernel
theorem dJ4_init_44 : decode cJ4_init 44 = .ok (.athrow, 1) := by decide +kernel
theorem dJ4_init_45 : decode cJ4_init 45 = .ok (.aload_n 0, 1) := by decide +kernel
theorem dJ4_init_46 : decode cJ4_init 46 = .ok (.iload_n 1, 1) := by decide +kernel
theorem dJ4_init_47 : decode cJ4_init 47 = .ok (.invokevirtual 27, 3) := by decide +kernel
theorem dJ4_init_50 : decode cJ4_init 50 = .ok (.aload_n 0, 1) := by decide +kernel
theorem dJ4_init_51 : decode cJ4_init 51 = .ok (.iconst 1, 1) := by decide +kernel
theorem dJ4_init_52 : decode cJ4_init 52 = .ok (.putfield 24, 3) := by decide +kernel
theorem dJ4_init_55 : decode cJ4_init 55 = .ok (.return_, 1) := by decide +kernel
abbrev cJ4_initWords : ByteArray := prog_125_method_6_code
def yJ4_initWords : MethodName := ⟨RJ4, "initWords", "(I)V"⟩
theorem dJ4_initWords_0 : decode cJ4_initWords 0 = .ok (.aload_n 0, 1) := by decide +kernel
theorem dJ4_initWords_1 : decode cJ4_initWords 1 = .ok (.iload_n 1, 1) := by decide +kernel
theorem dJ4_initWords_2 : decode cJ4_initWords 2 = .ok (.iconst 1, 1) := by decide +kernel
theorem dJ4_initWords_3 : decode cJ4_initWords 3 = .ok (.isub, 1) := by decide +kernel
theorem dJ4_initWords_4 : decode cJ4_initWords 4 = .ok (.invokestatic 52, 3) := by decide +kernel
theorem dJ4_initWords_7 : decode cJ4_initWords 7 = .ok (.iconst 1, 1) := by decide +kernel
theorem dJ4_initWords_8 : decode cJ4_initWords 8 = .ok (.iadd, 1) := by decide +kernel
theorem dJ4_initWords_9 : decode cJ4_initWords 9 = .ok (.newarray .long, 2) := by decide +kernel
theorem dJ4_initWords_11 : decode cJ4_initWords 11 = .ok (.putfield 11, 3) := by decide +kernel
theorem dJ4_initWords_14 : decode cJ4_initWords 14 = .ok (.return_, 1) := by decide +kernel
abbrev cJ4_wordIndex : ByteArray := prog_125_method_1_code
def yJ4_wordIndex : MethodName := ⟨RJ4, "wordIndex", "(I)I"⟩
theorem dJ4_wordIndex_0 : decode cJ4_wordIndex 0 = .ok (.iload_n 0, 1) := by decide +kernel
theorem dJ4_wordIndex_1 : decode cJ4_wordIndex 1 = .ok (.bipush 6, 2) := by decide +kernel
theorem dJ4_wordIndex_3 : decode cJ4_wordIndex 3 = .ok (.ishr, 1) := by decide +kernel
theorem dJ4_wordIndex_4 : decode cJ4_wordIndex 4 = .ok (.ireturn, 1) := by decide +kernel
abbrev cJ4_init_2 : ByteArray := prog_125_method_4_code
def yJ4_init_2 : MethodName := ⟨RJ4, "<init>", "()V"⟩
theorem dJ4_init_2_0 : decode cJ4_init_2 0 = .ok (.aload_n 0, 1) := by decide +kernel
theorem dJ4_init_2_1 : decode cJ4_init_2 1 = .ok (.invokespecial 21, 3) := by decide +kernel
theorem dJ4_init_2_4 : decode cJ4_init_2 4 = .ok (.aload_n 0, 1) := by decide +kernel
theorem dJ4_init_2_5 : decode cJ4_init_2 5 = .ok (.iconst 0, 1) := by decide +kernel
theorem dJ4_init_2_6 : decode cJ4_init_2 6 = .ok (.putfield 7, 3) := by decide +kernel
theorem dJ4_init_2_9 : decode cJ4_init_2 9 = .ok (.aload_n 0, 1) := by decide +kernel
theorem dJ4_init_2_10 : decode cJ4_init_2 10 = .ok (.iconst 0, 1) := by decide +kernel
theorem dJ4_init_2_11 : decode cJ4_init_2 11 = .ok (.putfield 24, 3) := by decide +kernel
theorem dJ4_init_2_14 : decode cJ4_init_2 14 = .ok (.aload_n 0, 1) := by decide +kernel
theorem dJ4_init_2_15 : decode cJ4_init_2 15 = .ok (.bipush 64, 2) := by decide +kernel
theorem dJ4_init_2_17 : decode cJ4_init_2 17 = .ok (.invokevirtual 27, 3) := by decide +kernel
theorem dJ4_init_2_20 : decode cJ4_init_2 20 = .ok (.aload_n 0, 1) := by decide +kernel
theorem dJ4_init_2_21 : decode cJ4_init_2 21 = .ok (.iconst 0, 1) := by decide +kernel
theorem dJ4_init_2_22 : decode cJ4_init_2 22 = .ok (.putfield 24, 3) := by decide +kernel
theorem dJ4_init_2_25 : decode cJ4_init_2 25 = .ok (.return_, 1) := by decide +kernel
abbrev cJ4_get : ByteArray := prog_125_method_26_code
def yJ4_get : MethodName := ⟨RJ4, "get", "(I)Z"⟩
theorem dJ4_get_0 : decode cJ4_get 0 = .ok (.iload_n 1, 1) := by decide +kernel
theorem dJ4_get_1 : decode cJ4_get 1 = .ok (.ifCond .ge 30, 3) := by decide +kernel
theorem dJ4_get_4 : decode cJ4_get 4 = .ok (.new 142, 3) := by decide +kernel
theorem dJ4_get_7 : decode cJ4_get 7 = .ok (.dup, 1) := by decide +kernel
theorem dJ4_get_8 : decode cJ4_get 8 = .ok (.new 33, 3) := by decide +kernel
theorem dJ4_get_11 : decode cJ4_get 11 = .ok (.dup, 1) := by decide +kernel
theorem dJ4_get_12 : decode cJ4_get 12 = .ok (.invokespecial 35, 3) := by decide +kernel
theorem dJ4_get_15 : decode cJ4_get 15 = .ok (.ldc 153, 2) := by decide +kernel
theorem dJ4_get_17 : decode cJ4_get 17 = .ok (.invokevirtual 38, 3) := by decide +kernel
theorem dJ4_get_20 : decode cJ4_get 20 = .ok (.iload_n 1, 1) := by decide +kernel
theorem dJ4_get_21 : decode cJ4_get 21 = .ok (.invokevirtual 42, 3) := by decide +kernel
theorem dJ4_get_24 : decode cJ4_get 24 = .ok (.invokevirtual 45, 3) := by decide +kernel
theorem dJ4_get_27 : decode cJ4_get 27 = .ok (.invokespecial 146, 3) := by decide +kernel
theorem dJ4_get_30 : decode cJ4_get 30 = .ok (.athrow, 1) := by decide +kernel
theorem dJ4_get_31 : decode cJ4_get 31 = .ok (.aload_n 0, 1) := by decide +kernel
theorem dJ4_get_32 : decode cJ4_get 32 = .ok (.invokevirtual 56, 3) := by decide +kernel
theorem dJ4_get_35 : decode cJ4_get 35 = .ok (.iload_n 1, 1) := by decide +kernel
theorem dJ4_get_36 : decode cJ4_get 36 = .ok (.invokestatic 52, 3) := by decide +kernel
theorem dJ4_get_39 : decode cJ4_get 39 = .ok (.istore_n 2, 1) := by decide +kernel
theorem dJ4_get_40 : decode cJ4_get 40 = .ok (.iload_n 2, 1) := by decide +kernel
theorem dJ4_get_41 : decode cJ4_get 41 = .ok (.aload_n 0, 1) := by decide +kernel
theorem dJ4_get_42 : decode cJ4_get 42 = .ok (.getfield 7, 3) := by decide +kernel
theorem dJ4_get_45 : decode cJ4_get 45 = .ok (.if_icmp .ge 22, 3) := by decide +kernel
theorem dJ4_get_48 : decode cJ4_get 48 = .ok (.aload_n 0, 1) := by decide +kernel
theorem dJ4_get_49 : decode cJ4_get 49 = .ok (.getfield 11, 3) := by decide +kernel
theorem dJ4_get_52 : decode cJ4_get 52 = .ok (.iload_n 2, 1) := by decide +kernel
theorem dJ4_get_53 : decode cJ4_get 53 = .ok (.laload, 1) := by decide +kernel
theorem dJ4_get_54 : decode cJ4_get 54 = .ok (.lconst 1, 1) := by decide +kernel
theorem dJ4_get_55 : decode cJ4_get 55 = .ok (.iload_n 1, 1) := by decide +kernel
theorem dJ4_get_56 : decode cJ4_get 56 = .ok (.lshl, 1) := by decide +kernel
theorem dJ4_get_57 : decode cJ4_get 57 = .ok (.land, 1) := by decide +kernel
theorem dJ4_get_58 : decode cJ4_get 58 = .ok (.lconst 0, 1) := by decide +kernel
theorem dJ4_get_59 : decode cJ4_get 59 = .ok (.lcmp, 1) := by decide +kernel
theorem dJ4_get_60 : decode cJ4_get 60 = .ok (.ifCond .eq 7, 3) := by decide +kernel
theorem dJ4_get_63 : decode cJ4_get 63 = .ok (.iconst 1, 1) := by decide +kernel
theorem dJ4_get_64 : decode cJ4_get 64 = .ok (.goto 4, 3) := by decide +kernel
theorem dJ4_get_67 : decode cJ4_get 67 = .ok (.iconst 0, 1) := by decide +kernel
theorem dJ4_get_68 : decode cJ4_get 68 = .ok (.ireturn, 1) := by decide +kernel
abbrev cJ4_checkInvariants : ByteArray := prog_125_method_2_code
def yJ4_checkInvariants : MethodName := ⟨RJ4, "checkInvariants", "()V"⟩
theorem dJ4_checkInvariants_0 : decode cJ4_checkInvariants 0 = .ok (.getstatic 3, 3) := by decide +kernel
theorem dJ4_checkInvariants_3 : decode cJ4_checkInvariants 3 = .ok (.ifCond .ne 34, 3) := by decide +kernel
theorem dJ4_checkInvariants_6 : decode cJ4_checkInvariants 6 = .ok (.aload_n 0, 1) := by decide +kernel
theorem dJ4_checkInvariants_7 : decode cJ4_checkInvariants 7 = .ok (.getfield 7, 3) := by decide +kernel
theorem dJ4_checkInvariants_10 : decode cJ4_checkInvariants 10 = .ok (.ifCond .eq 27, 3) := by decide +kernel
theorem dJ4_checkInvariants_13 : decode cJ4_checkInvariants 13 = .ok (.aload_n 0, 1) := by decide +kernel
theorem dJ4_checkInvariants_14 : decode cJ4_checkInvariants 14 = .ok (.getfield 11, 3) := by decide +kernel
theorem dJ4_checkInvariants_17 : decode cJ4_checkInvariants 17 = .ok (.aload_n 0, 1) := by decide +kernel
theorem dJ4_checkInvariants_18 : decode cJ4_checkInvariants 18 = .ok (.getfield 7, 3) := by decide +kernel
theorem dJ4_checkInvariants_21 : decode cJ4_checkInvariants 21 = .ok (.iconst 1, 1) := by decide +kernel
theorem dJ4_checkInvariants_22 : decode cJ4_checkInvariants 22 = .ok (.isub, 1) := by decide +kernel
theorem dJ4_checkInvariants_23 : decode cJ4_checkInvariants 23 = .ok (.laload, 1) := by decide +kernel
theorem dJ4_checkInvariants_24 : decode cJ4_checkInvariants 24 = .ok (.lconst 0, 1) := by decide +kernel
theorem dJ4_checkInvariants_25 : decode cJ4_checkInvariants 25 = .ok (.lcmp, 1) := by decide +kernel
theorem dJ4_checkInvariants_26 : decode cJ4_checkInvariants 26 = .ok (.ifCond .ne 11, 3) := by decide +kernel
theorem dJ4_checkInvariants_29 : decode cJ4_checkInvariants 29 = .ok (.new 15, 3) := by decide +kernel
theorem dJ4_checkInvariants_32 : decode cJ4_checkInvariants 32 = .ok (.dup, 1) := by decide +kernel
theorem dJ4_checkInvariants_33 : decode cJ4_checkInvariants 33 = .ok (.invokespecial 17, 3) := by decide +kernel
theorem dJ4_checkInvariants_36 : decode cJ4_checkInvariants 36 = .ok (.athrow, 1) := by decide +kernel
theorem dJ4_checkInvariants_37 : decode cJ4_checkInvariants 37 = .ok (.getstatic 3, 3) := by decide +kernel
theorem dJ4_checkInvariants_40 : decode cJ4_checkInvariants 40 = .ok (.ifCond .ne 30, 3) := by decide +kernel
theorem dJ4_checkInvariants_43 : decode cJ4_checkInvariants 43 = .ok (.aload_n 0, 1) := by decide +kernel
theorem dJ4_checkInvariants_44 : decode cJ4_checkInvariants 44 = .ok (.getfield 7, 3) := by decide +kernel
theorem dJ4_checkInvariants_47 : decode cJ4_checkInvariants 47 = .ok (.ifCond .lt 15, 3) := by decide +kernel
theorem dJ4_checkInvariants_50 : decode cJ4_checkInvariants 50 = .ok (.aload_n 0, 1) := by decide +kernel
theorem dJ4_checkInvariants_51 : decode cJ4_checkInvariants 51 = .ok (.getfield 7, 3) := by decide +kernel
theorem dJ4_checkInvariants_54 : decode cJ4_checkInvariants 54 = .ok (.aload_n 0, 1) := by decide +kernel
theorem dJ4_checkInvariants_55 : decode cJ4_checkInvariants 55 = .ok (.getfield 11, 3) := by decide +kernel
theorem dJ4_checkInvariants_58 : decode cJ4_checkInvariants 58 = .ok (.arraylength, 1) := by decide +kernel
theorem dJ4_checkInvariants_59 : decode cJ4_checkInvariants 59 = .ok (.if_icmp .le 11, 3) := by decide +kernel
theorem dJ4_checkInvariants_62 : decode cJ4_checkInvariants 62 = .ok (.new 15, 3) := by decide +kernel
theorem dJ4_checkInvariants_65 : decode cJ4_checkInvariants 65 = .ok (.dup, 1) := by decide +kernel
theorem dJ4_checkInvariants_66 : decode cJ4_checkInvariants 66 = .ok (.invokespecial 17, 3) := by decide +kernel
theorem dJ4_checkInvariants_69 : decode cJ4_checkInvariants 69 = .ok (.athrow, 1) := by decide +kernel
theorem dJ4_checkInvariants_70 : decode cJ4_checkInvariants 70 = .ok (.getstatic 3, 3) := by decide +kernel
theorem dJ4_checkInvariants_73 : decode cJ4_checkInvariants 73 = .ok (.ifCond .ne 37, 3) := by decide +kernel
theorem dJ4_checkInvariants_76 : decode cJ4_checkInvariants 76 = .ok (.aload_n 0, 1) := by decide +kernel
theorem dJ4_checkInvariants_77 : decode cJ4_checkInvariants 77 = .ok (.getfield 7, 3) := by decide +kernel
theorem dJ4_checkInvariants_80 : decode cJ4_checkInvariants 80 = .ok (.aload_n 0, 1) := by decide +kernel
theorem dJ4_checkInvariants_81 : decode cJ4_checkInvariants 81 = .ok (.getfield 11, 3) := by decide +kernel
theorem dJ4_checkInvariants_84 : decode cJ4_checkInvariants 84 = .ok (.arraylength, 1) := by decide +kernel
theorem dJ4_checkInvariants_85 : decode cJ4_checkInvariants 85 = .ok (.if_icmp .eq 25, 3) := by decide +kernel
theorem dJ4_checkInvariants_88 : decode cJ4_checkInvariants 88 = .ok (.aload_n 0, 1) := by decide +kernel
theorem dJ4_checkInvariants_89 : decode cJ4_checkInvariants 89 = .ok (.getfield 11, 3) := by decide +kernel
theorem dJ4_checkInvariants_92 : decode cJ4_checkInvariants 92 = .ok (.aload_n 0, 1) := by decide +kernel
theorem dJ4_checkInvariants_93 : decode cJ4_checkInvariants 93 = .ok (.getfield 7, 3) := by decide +kernel
theorem dJ4_checkInvariants_96 : decode cJ4_checkInvariants 96 = .ok (.laload, 1) := by decide +kernel
theorem dJ4_checkInvariants_97 : decode cJ4_checkInvariants 97 = .ok (.lconst 0, 1) := by decide +kernel
theorem dJ4_checkInvariants_98 : decode cJ4_checkInvariants 98 = .ok (.lcmp, 1) := by decide +kernel
theorem dJ4_checkInvariants_99 : decode cJ4_checkInvariants 99 = .ok (.ifCond .eq 11, 3) := by decide +kernel
theorem dJ4_checkInvariants_102 : decode cJ4_checkInvariants 102 = .ok (.new 15, 3) := by decide +kernel
theorem dJ4_checkInvariants_105 : decode cJ4_checkInvariants 105 = .ok (.dup, 1) := by decide +kernel
theorem dJ4_checkInvariants_106 : decode cJ4_checkInvariants 106 = .ok (.invokespecial 17, 3) := by decide +kernel
theorem dJ4_checkInvariants_109 : decode cJ4_checkInvariants 109 = .ok (.athrow, 1) := by decide +kernel
theorem dJ4_checkInvariants_110 : decode cJ4_checkInvariants 110 = .ok (.return_, 1) := by decide +kernel
abbrev cJ4_set : ByteArray := prog_125_method_20_code
def yJ4_set : MethodName := ⟨RJ4, "set", "(IZ)V"⟩
theorem dJ4_set_0 : decode cJ4_set 0 = .ok (.iload_n 2, 1) := by decide +kernel
theorem dJ4_set_1 : decode cJ4_set 1 = .ok (.ifCond .eq 11, 3) := by decide +kernel
theorem dJ4_set_4 : decode cJ4_set 4 = .ok (.aload_n 0, 1) := by decide +kernel
theorem dJ4_set_5 : decode cJ4_set 5 = .ok (.iload_n 1, 1) := by decide +kernel
theorem dJ4_set_6 : decode cJ4_set 6 = .ok (.invokevirtual 167, 3) := by decide +kernel
theorem dJ4_set_9 : decode cJ4_set 9 = .ok (.goto 8, 3) := by decide +kernel
theorem dJ4_set_12 : decode cJ4_set 12 = .ok (.aload_n 0, 1) := by decide +kernel
theorem dJ4_set_13 : decode cJ4_set 13 = .ok (.iload_n 1, 1) := by decide +kernel
theorem dJ4_set_14 : decode cJ4_set 14 = .ok (.invokevirtual 170, 3) := by decide +kernel
theorem dJ4_set_17 : decode cJ4_set 17 = .ok (.return_, 1) := by decide +kernel
abbrev cJ4_set_2 : ByteArray := prog_125_method_19_code
def yJ4_set_2 : MethodName := ⟨RJ4, "set", "(I)V"⟩
theorem dJ4_set_2_0 : decode cJ4_set_2 0 = .ok (.iload_n 1, 1) := by decide +kernel
theorem dJ4_set_2_1 : decode cJ4_set_2 1 = .ok (.ifCond .ge 30, 3) := by decide +kernel
theorem dJ4_set_2_4 : decode cJ4_set_2 4 = .ok (.new 142, 3) := by decide +kernel
theorem dJ4_set_2_7 : decode cJ4_set_2 7 = .ok (.dup, 1) := by decide +kernel
theorem dJ4_set_2_8 : decode cJ4_set_2 8 = .ok (.new 33, 3) := by decide +kernel
theorem dJ4_set_2_11 : decode cJ4_set_2 11 = .ok (.dup, 1) := by decide +kernel
theorem dJ4_set_2_12 : decode cJ4_set_2 12 = .ok (.invokespecial 35, 3) := by decide +kernel
theorem dJ4_set_2_15 : decode cJ4_set_2 15 = .ok (.ldc 153, 2) := by decide +kernel
theorem dJ4_set_2_17 : decode cJ4_set_2 17 = .ok (.invokevirtual 38, 3) := by decide +kernel
theorem dJ4_set_2_20 : decode cJ4_set_2 20 = .ok (.iload_n 1, 1) := by decide +kernel
theorem dJ4_set_2_21 : decode cJ4_set_2 21 = .ok (.invokevirtual 42, 3) := by decide +kernel
theorem dJ4_set_2_24 : decode cJ4_set_2 24 = .ok (.invokevirtual 45, 3) := by decide +kernel
theorem dJ4_set_2_27 : decode cJ4_set_2 27 = .ok (.invokespecial 146, 3) := by decide +kernel
theorem dJ4_set_2_30 : decode cJ4_set_2 30 = .ok (.athrow, 1) := by decide +kernel
theorem dJ4_set_2_31 : decode cJ4_set_2 31 = .ok (.iload_n 1, 1) := by decide +kernel
theorem dJ4_set_2_32 : decode cJ4_set_2 32 = .ok (.invokestatic 52, 3) := by decide +kernel
theorem dJ4_set_2_35 : decode cJ4_set_2 35 = .ok (.istore_n 2, 1) := by decide +kernel
theorem dJ4_set_2_36 : decode cJ4_set_2 36 = .ok (.aload_n 0, 1) := by decide +kernel
theorem dJ4_set_2_37 : decode cJ4_set_2 37 = .ok (.iload_n 2, 1) := by decide +kernel
theorem dJ4_set_2_38 : decode cJ4_set_2 38 = .ok (.invokevirtual 155, 3) := by decide +kernel
theorem dJ4_set_2_41 : decode cJ4_set_2 41 = .ok (.aload_n 0, 1) := by decide +kernel
theorem dJ4_set_2_42 : decode cJ4_set_2 42 = .ok (.getfield 11, 3) := by decide +kernel
theorem dJ4_set_2_45 : decode cJ4_set_2 45 = .ok (.iload_n 2, 1) := by decide +kernel
theorem dJ4_set_2_46 : decode cJ4_set_2 46 = .ok (.dup2, 1) := by decide +kernel
theorem dJ4_set_2_47 : decode cJ4_set_2 47 = .ok (.laload, 1) := by decide +kernel
theorem dJ4_set_2_48 : decode cJ4_set_2 48 = .ok (.lconst 1, 1) := by decide +kernel
theorem dJ4_set_2_49 : decode cJ4_set_2 49 = .ok (.iload_n 1, 1) := by decide +kernel
theorem dJ4_set_2_50 : decode cJ4_set_2 50 = .ok (.lshl, 1) := by decide +kernel
theorem dJ4_set_2_51 : decode cJ4_set_2 51 = .ok (.lor, 1) := by decide +kernel
theorem dJ4_set_2_52 : decode cJ4_set_2 52 = .ok (.lastore, 1) := by decide +kernel
theorem dJ4_set_2_53 : decode cJ4_set_2 53 = .ok (.aload_n 0, 1) := by decide +kernel
theorem dJ4_set_2_54 : decode cJ4_set_2 54 = .ok (.invokevirtual 56, 3) := by decide +kernel
theorem dJ4_set_2_57 : decode cJ4_set_2 57 = .ok (.return_, 1) := by decide +kernel
abbrev cJ4_expandTo : ByteArray := prog_125_method_15_code
def yJ4_expandTo : MethodName := ⟨RJ4, "expandTo", "(I)V"⟩
theorem dJ4_expandTo_0 : decode cJ4_expandTo 0 = .ok (.iload_n 1, 1) := by decide +kernel
theorem dJ4_expandTo_1 : decode cJ4_expandTo 1 = .ok (.iconst 1, 1) := by decide +kernel
theorem dJ4_expandTo_2 : decode cJ4_expandTo 2 = .ok (.iadd, 1) := by decide +kernel
theorem dJ4_expandTo_3 : decode cJ4_expandTo 3 = .ok (.istore_n 2, 1) := by decide +kernel
theorem dJ4_expandTo_4 : decode cJ4_expandTo 4 = .ok (.aload_n 0, 1) := by decide +kernel
theorem dJ4_expandTo_5 : decode cJ4_expandTo 5 = .ok (.getfield 7, 3) := by decide +kernel
theorem dJ4_expandTo_8 : decode cJ4_expandTo 8 = .ok (.iload_n 2, 1) := by decide +kernel
theorem dJ4_expandTo_9 : decode cJ4_expandTo 9 = .ok (.if_icmp .ge 13, 3) := by decide +kernel
theorem dJ4_expandTo_12 : decode cJ4_expandTo 12 = .ok (.aload_n 0, 1) := by decide +kernel
theorem dJ4_expandTo_13 : decode cJ4_expandTo 13 = .ok (.iload_n 2, 1) := by decide +kernel
theorem dJ4_expandTo_14 : decode cJ4_expandTo 14 = .ok (.invokevirtual 139, 3) := by decide +kernel
theorem dJ4_expandTo_17 : decode cJ4_expandTo 17 = .ok (.aload_n 0, 1) := by decide +kernel
theorem dJ4_expandTo_18 : decode cJ4_expandTo 18 = .ok (.iload_n 2, 1) := by decide +kernel
theorem dJ4_expandTo_19 : decode cJ4_expandTo 19 = .ok (.putfield 7, 3) := by decide +kernel
theorem dJ4_expandTo_22 : decode cJ4_expandTo 22 = .ok (.return_, 1) := by decide +kernel
abbrev cJ4_ensureCapacity : ByteArray := prog_125_method_14_code
def yJ4_ensureCapacity : MethodName := ⟨RJ4, "ensureCapacity", "(I)V"⟩
theorem dJ4_ensureCapacity_0 : decode cJ4_ensureCapacity 0 = .ok (.aload_n 0, 1) := by decide +kernel
theorem dJ4_ensureCapacity_1 : decode cJ4_ensureCapacity 1 = .ok (.getfield 11, 3) := by decide +kernel
theorem dJ4_ensureCapacity_4 : decode cJ4_ensureCapacity 4 = .ok (.arraylength, 1) := by decide +kernel
theorem dJ4_ensureCapacity_5 : decode cJ4_ensureCapacity 5 = .ok (.iload_n 1, 1) := by decide +kernel
theorem dJ4_ensureCapacity_6 : decode cJ4_ensureCapacity 6 = .ok (.if_icmp .ge 32, 3) := by decide +kernel
theorem dJ4_ensureCapacity_9 : decode cJ4_ensureCapacity 9 = .ok (.iconst 2, 1) := by decide +kernel
theorem dJ4_ensureCapacity_10 : decode cJ4_ensureCapacity 10 = .ok (.aload_n 0, 1) := by decide +kernel
theorem dJ4_ensureCapacity_11 : decode cJ4_ensureCapacity 11 = .ok (.getfield 11, 3) := by decide +kernel
theorem dJ4_ensureCapacity_14 : decode cJ4_ensureCapacity 14 = .ok (.arraylength, 1) := by decide +kernel
theorem dJ4_ensureCapacity_15 : decode cJ4_ensureCapacity 15 = .ok (.imul, 1) := by decide +kernel
theorem dJ4_ensureCapacity_16 : decode cJ4_ensureCapacity 16 = .ok (.iload_n 1, 1) := by decide +kernel
theorem dJ4_ensureCapacity_17 : decode cJ4_ensureCapacity 17 = .ok (.invokestatic 133, 3) := by decide +kernel
theorem dJ4_ensureCapacity_20 : decode cJ4_ensureCapacity 20 = .ok (.istore_n 2, 1) := by decide +kernel
theorem dJ4_ensureCapacity_21 : decode cJ4_ensureCapacity 21 = .ok (.aload_n 0, 1) := by decide +kernel
theorem dJ4_ensureCapacity_22 : decode cJ4_ensureCapacity 22 = .ok (.aload_n 0, 1) := by decide +kernel
theorem dJ4_ensureCapacity_23 : decode cJ4_ensureCapacity 23 = .ok (.getfield 11, 3) := by decide +kernel
theorem dJ4_ensureCapacity_26 : decode cJ4_ensureCapacity 26 = .ok (.iload_n 2, 1) := by decide +kernel
theorem dJ4_ensureCapacity_27 : decode cJ4_ensureCapacity 27 = .ok (.invokestatic 59, 3) := by decide +kernel
theorem dJ4_ensureCapacity_30 : decode cJ4_ensureCapacity 30 = .ok (.putfield 11, 3) := by decide +kernel
theorem dJ4_ensureCapacity_33 : decode cJ4_ensureCapacity 33 = .ok (.aload_n 0, 1) := by decide +kernel
theorem dJ4_ensureCapacity_34 : decode cJ4_ensureCapacity 34 = .ok (.iconst 0, 1) := by decide +kernel
theorem dJ4_ensureCapacity_35 : decode cJ4_ensureCapacity 35 = .ok (.putfield 24, 3) := by decide +kernel
theorem dJ4_ensureCapacity_38 : decode cJ4_ensureCapacity 38 = .ok (.return_, 1) := by decide +kernel
abbrev cJ4_clear : ByteArray := prog_125_method_23_code
def yJ4_clear : MethodName := ⟨RJ4, "clear", "(I)V"⟩
theorem dJ4_clear_0 : decode cJ4_clear 0 = .ok (.iload_n 1, 1) := by decide +kernel
theorem dJ4_clear_1 : decode cJ4_clear 1 = .ok (.ifCond .ge 30, 3) := by decide +kernel
theorem dJ4_clear_4 : decode cJ4_clear 4 = .ok (.new 142, 3) := by decide +kernel
theorem dJ4_clear_7 : decode cJ4_clear 7 = .ok (.dup, 1) := by decide +kernel
theorem dJ4_clear_8 : decode cJ4_clear 8 = .ok (.new 33, 3) := by decide +kernel
theorem dJ4_clear_11 : decode cJ4_clear 11 = .ok (.dup, 1) := by decide +kernel
theorem dJ4_clear_12 : decode cJ4_clear 12 = .ok (.invokespecial 35, 3) := by decide +kernel
theorem dJ4_clear_15 : decode cJ4_clear 15 = .ok (.ldc 153, 2) := by decide +kernel
theorem dJ4_clear_17 : decode cJ4_clear 17 = .ok (.invokevirtual 38, 3) := by decide +kernel
theorem dJ4_clear_20 : decode cJ4_clear 20 = .ok (.iload_n 1, 1) := by decide +kernel
theorem dJ4_clear_21 : decode cJ4_clear 21 = .ok (.invokevirtual 42, 3) := by decide +kernel
theorem dJ4_clear_24 : decode cJ4_clear 24 = .ok (.invokevirtual 45, 3) := by decide +kernel
theorem dJ4_clear_27 : decode cJ4_clear 27 = .ok (.invokespecial 146, 3) := by decide +kernel
theorem dJ4_clear_30 : decode cJ4_clear 30 = .ok (.athrow, 1) := by decide +kernel
theorem dJ4_clear_31 : decode cJ4_clear 31 = .ok (.iload_n 1, 1) := by decide +kernel
theorem dJ4_clear_32 : decode cJ4_clear 32 = .ok (.invokestatic 52, 3) := by decide +kernel
theorem dJ4_clear_35 : decode cJ4_clear 35 = .ok (.istore_n 2, 1) := by decide +kernel
theorem dJ4_clear_36 : decode cJ4_clear 36 = .ok (.iload_n 2, 1) := by decide +kernel
theorem dJ4_clear_37 : decode cJ4_clear 37 = .ok (.aload_n 0, 1) := by decide +kernel
theorem dJ4_clear_38 : decode cJ4_clear 38 = .ok (.getfield 7, 3) := by decide +kernel
theorem dJ4_clear_41 : decode cJ4_clear 41 = .ok (.if_icmp .lt 4, 3) := by decide +kernel
theorem dJ4_clear_44 : decode cJ4_clear 44 = .ok (.return_, 1) := by decide +kernel
theorem dJ4_clear_45 : decode cJ4_clear 45 = .ok (.aload_n 0, 1) := by decide +kernel
theorem dJ4_clear_46 : decode cJ4_clear 46 = .ok (.getfield 11, 3) := by decide +kernel
theorem dJ4_clear_49 : decode cJ4_clear 49 = .ok (.iload_n 2, 1) := by decide +kernel
theorem dJ4_clear_50 : decode cJ4_clear 50 = .ok (.dup2, 1) := by decide +kernel
theorem dJ4_clear_51 : decode cJ4_clear 51 = .ok (.laload, 1) := by decide +kernel
theorem dJ4_clear_52 : decode cJ4_clear 52 = .ok (.lconst 1, 1) := by decide +kernel
theorem dJ4_clear_53 : decode cJ4_clear 53 = .ok (.iload_n 1, 1) := by decide +kernel
theorem dJ4_clear_54 : decode cJ4_clear 54 = .ok (.lshl, 1) := by decide +kernel
theorem dJ4_clear_55 : decode cJ4_clear 55 = .ok (.ldc2_w 165, 3) := by decide +kernel
theorem dJ4_clear_58 : decode cJ4_clear 58 = .ok (.lxor, 1) := by decide +kernel
theorem dJ4_clear_59 : decode cJ4_clear 59 = .ok (.land, 1) := by decide +kernel
theorem dJ4_clear_60 : decode cJ4_clear 60 = .ok (.lastore, 1) := by decide +kernel
theorem dJ4_clear_61 : decode cJ4_clear 61 = .ok (.aload_n 0, 1) := by decide +kernel
theorem dJ4_clear_62 : decode cJ4_clear 62 = .ok (.invokevirtual 158, 3) := by decide +kernel
theorem dJ4_clear_65 : decode cJ4_clear 65 = .ok (.aload_n 0, 1) := by decide +kernel
theorem dJ4_clear_66 : decode cJ4_clear 66 = .ok (.invokevirtual 56, 3) := by decide +kernel
theorem dJ4_clear_69 : decode cJ4_clear 69 = .ok (.return_, 1) := by decide +kernel
abbrev cJ4_recalculateWordsInUse : ByteArray := prog_125_method_3_code
def yJ4_recalculateWordsInUse : MethodName := ⟨RJ4, "recalculateWordsInUse", "()V"⟩
theorem dJ4_recalculateWordsInUse_0 : decode cJ4_recalculateWordsInUse 0 = .ok (.aload_n 0, 1) := by decide +kernel
theorem dJ4_recalculateWordsInUse_1 : decode cJ4_recalculateWordsInUse 1 = .ok (.getfield 7, 3) := by decide +kernel
theorem dJ4_recalculateWordsInUse_4 : decode cJ4_recalculateWordsInUse 4 = .ok (.iconst 1, 1) := by decide +kernel
theorem dJ4_recalculateWordsInUse_5 : decode cJ4_recalculateWordsInUse 5 = .ok (.isub, 1) := by decide +kernel
theorem dJ4_recalculateWordsInUse_6 : decode cJ4_recalculateWordsInUse 6 = .ok (.istore_n 1, 1) := by decide +kernel
theorem dJ4_recalculateWordsInUse_7 : decode cJ4_recalculateWordsInUse 7 = .ok (.iload_n 1, 1) := by decide +kernel
theorem dJ4_recalculateWordsInUse_8 : decode cJ4_recalculateWordsInUse 8 = .ok (.ifCond .lt 23, 3) := by decide +kernel
theorem dJ4_recalculateWordsInUse_11 : decode cJ4_recalculateWordsInUse 11 = .ok (.aload_n 0, 1) := by decide +kernel
theorem dJ4_recalculateWordsInUse_12 : decode cJ4_recalculateWordsInUse 12 = .ok (.getfield 11, 3) := by decide +kernel
theorem dJ4_recalculateWordsInUse_15 : decode cJ4_recalculateWordsInUse 15 = .ok (.iload_n 1, 1) := by decide +kernel
theorem dJ4_recalculateWordsInUse_16 : decode cJ4_recalculateWordsInUse 16 = .ok (.laload, 1) := by decide +kernel
theorem dJ4_recalculateWordsInUse_17 : decode cJ4_recalculateWordsInUse 17 = .ok (.lconst 0, 1) := by decide +kernel
theorem dJ4_recalculateWordsInUse_18 : decode cJ4_recalculateWordsInUse 18 = .ok (.lcmp, 1) := by decide +kernel
theorem dJ4_recalculateWordsInUse_19 : decode cJ4_recalculateWordsInUse 19 = .ok (.ifCond .eq 6, 3) := by decide +kernel
theorem dJ4_recalculateWordsInUse_22 : decode cJ4_recalculateWordsInUse 22 = .ok (.goto 9, 3) := by decide +kernel
theorem dJ4_recalculateWordsInUse_25 : decode cJ4_recalculateWordsInUse 25 = .ok (.iinc 1 (-1), 3) := by decide +kernel
theorem dJ4_recalculateWordsInUse_28 : decode cJ4_recalculateWordsInUse 28 = .ok (.goto (-21), 3) := by decide +kernel
theorem dJ4_recalculateWordsInUse_31 : decode cJ4_recalculateWordsInUse 31 = .ok (.aload_n 0, 1) := by decide +kernel
theorem dJ4_recalculateWordsInUse_32 : decode cJ4_recalculateWordsInUse 32 = .ok (.iload_n 1, 1) := by decide +kernel
theorem dJ4_recalculateWordsInUse_33 : decode cJ4_recalculateWordsInUse 33 = .ok (.iconst 1, 1) := by decide +kernel
theorem dJ4_recalculateWordsInUse_34 : decode cJ4_recalculateWordsInUse 34 = .ok (.iadd, 1) := by decide +kernel
theorem dJ4_recalculateWordsInUse_35 : decode cJ4_recalculateWordsInUse 35 = .ok (.putfield 7, 3) := by decide +kernel
theorem dJ4_recalculateWordsInUse_38 : decode cJ4_recalculateWordsInUse 38 = .ok (.return_, 1) := by decide +kernel
abbrev cJ4_clear_2 : ByteArray := prog_125_method_25_code
def yJ4_clear_2 : MethodName := ⟨RJ4, "clear", "()V"⟩
theorem dJ4_clear_2_0 : decode cJ4_clear_2 0 = .ok (.aload_n 0, 1) := by decide +kernel
theorem dJ4_clear_2_1 : decode cJ4_clear_2 1 = .ok (.getfield 7, 3) := by decide +kernel
theorem dJ4_clear_2_4 : decode cJ4_clear_2 4 = .ok (.ifCond .le 23, 3) := by decide +kernel
theorem dJ4_clear_2_7 : decode cJ4_clear_2 7 = .ok (.aload_n 0, 1) := by decide +kernel
theorem dJ4_clear_2_8 : decode cJ4_clear_2 8 = .ok (.getfield 11, 3) := by decide +kernel
theorem dJ4_clear_2_11 : decode cJ4_clear_2 11 = .ok (.aload_n 0, 1) := by decide +kernel
theorem dJ4_clear_2_12 : decode cJ4_clear_2 12 = .ok (.dup, 1) := by decide +kernel
theorem dJ4_clear_2_13 : decode cJ4_clear_2 13 = .ok (.getfield 7, 3) := by decide +kernel
theorem dJ4_clear_2_16 : decode cJ4_clear_2 16 = .ok (.iconst 1, 1) := by decide +kernel
theorem dJ4_clear_2_17 : decode cJ4_clear_2 17 = .ok (.isub, 1) := by decide +kernel
theorem dJ4_clear_2_18 : decode cJ4_clear_2 18 = .ok (.dup_x1, 1) := by decide +kernel
theorem dJ4_clear_2_19 : decode cJ4_clear_2 19 = .ok (.putfield 7, 3) := by decide +kernel
theorem dJ4_clear_2_22 : decode cJ4_clear_2 22 = .ok (.lconst 0, 1) := by decide +kernel
theorem dJ4_clear_2_23 : decode cJ4_clear_2 23 = .ok (.lastore, 1) := by decide +kernel
theorem dJ4_clear_2_24 : decode cJ4_clear_2 24 = .ok (.goto (-24), 3) := by decide +kernel
theorem dJ4_clear_2_27 : decode cJ4_clear_2 27 = .ok (.return_, 1) := by decide +kernel
abbrev cJ4_or : ByteArray := prog_125_method_37_code
def yJ4_or : MethodName := ⟨RJ4, "or", "(Ljava/util/BitSet;)V"⟩
theorem dJ4_or_0 : decode cJ4_or 0 = .ok (.aload_n 0, 1) := by decide +kernel
theorem dJ4_or_1 : decode cJ4_or 1 = .ok (.aload_n 1, 1) := by decide +kernel
theorem dJ4_or_2 : decode cJ4_or 2 = .ok (.if_acmp .ne 4, 3) := by decide +kernel
theorem dJ4_or_5 : decode cJ4_or 5 = .ok (.return_, 1) := by decide +kernel
theorem dJ4_or_6 : decode cJ4_or 6 = .ok (.aload_n 0, 1) := by decide +kernel
theorem dJ4_or_7 : decode cJ4_or 7 = .ok (.getfield 7, 3) := by decide +kernel
theorem dJ4_or_10 : decode cJ4_or 10 = .ok (.aload_n 1, 1) := by decide +kernel
theorem dJ4_or_11 : decode cJ4_or 11 = .ok (.getfield 7, 3) := by decide +kernel
theorem dJ4_or_14 : decode cJ4_or 14 = .ok (.invokestatic 193, 3) := by decide +kernel
theorem dJ4_or_17 : decode cJ4_or 17 = .ok (.istore_n 2, 1) := by decide +kernel
theorem dJ4_or_18 : decode cJ4_or 18 = .ok (.aload_n 0, 1) := by decide +kernel
theorem dJ4_or_19 : decode cJ4_or 19 = .ok (.getfield 7, 3) := by decide +kernel
theorem dJ4_or_22 : decode cJ4_or 22 = .ok (.aload_n 1, 1) := by decide +kernel
theorem dJ4_or_23 : decode cJ4_or 23 = .ok (.getfield 7, 3) := by decide +kernel
theorem dJ4_or_26 : decode cJ4_or 26 = .ok (.if_icmp .ge 19, 3) := by decide +kernel
theorem dJ4_or_29 : decode cJ4_or 29 = .ok (.aload_n 0, 1) := by decide +kernel
theorem dJ4_or_30 : decode cJ4_or 30 = .ok (.aload_n 1, 1) := by decide +kernel
theorem dJ4_or_31 : decode cJ4_or 31 = .ok (.getfield 7, 3) := by decide +kernel
theorem dJ4_or_34 : decode cJ4_or 34 = .ok (.invokevirtual 139, 3) := by decide +kernel
theorem dJ4_or_37 : decode cJ4_or 37 = .ok (.aload_n 0, 1) := by decide +kernel
theorem dJ4_or_38 : decode cJ4_or 38 = .ok (.aload_n 1, 1) := by decide +kernel
theorem dJ4_or_39 : decode cJ4_or 39 = .ok (.getfield 7, 3) := by decide +kernel
theorem dJ4_or_42 : decode cJ4_or 42 = .ok (.putfield 7, 3) := by decide +kernel
theorem dJ4_or_45 : decode cJ4_or 45 = .ok (.iconst 0, 1) := by decide +kernel
theorem dJ4_or_46 : decode cJ4_or 46 = .ok (.istore_n 3, 1) := by decide +kernel
theorem dJ4_or_47 : decode cJ4_or 47 = .ok (.iload_n 3, 1) := by decide +kernel
theorem dJ4_or_48 : decode cJ4_or 48 = .ok (.iload_n 2, 1) := by decide +kernel
theorem dJ4_or_49 : decode cJ4_or 49 = .ok (.if_icmp .ge 24, 3) := by decide +kernel
theorem dJ4_or_52 : decode cJ4_or 52 = .ok (.aload_n 0, 1) := by decide +kernel
theorem dJ4_or_53 : decode cJ4_or 53 = .ok (.getfield 11, 3) := by decide +kernel
theorem dJ4_or_56 : decode cJ4_or 56 = .ok (.iload_n 3, 1) := by decide +kernel
theorem dJ4_or_57 : decode cJ4_or 57 = .ok (.dup2, 1) := by decide +kernel
theorem dJ4_or_58 : decode cJ4_or 58 = .ok (.laload, 1) := by decide +kernel
theorem dJ4_or_59 : decode cJ4_or 59 = .ok (.aload_n 1, 1) := by decide +kernel
theorem dJ4_or_60 : decode cJ4_or 60 = .ok (.getfield 11, 3) := by decide +kernel
theorem dJ4_or_63 : decode cJ4_or 63 = .ok (.iload_n 3, 1) := by decide +kernel
theorem dJ4_or_64 : decode cJ4_or 64 = .ok (.laload, 1) := by decide +kernel
theorem dJ4_or_65 : decode cJ4_or 65 = .ok (.lor, 1) := by decide +kernel
theorem dJ4_or_66 : decode cJ4_or 66 = .ok (.lastore, 1) := by decide +kernel
theorem dJ4_or_67 : decode cJ4_or 67 = .ok (.iinc 3 1, 3) := by decide +kernel
theorem dJ4_or_70 : decode cJ4_or 70 = .ok (.goto (-23), 3) := by decide +kernel
theorem dJ4_or_73 : decode cJ4_or 73 = .ok (.iload_n 2, 1) := by decide +kernel
theorem dJ4_or_74 : decode cJ4_or 74 = .ok (.aload_n 1, 1) := by decide +kernel
theorem dJ4_or_75 : decode cJ4_or 75 = .ok (.getfield 7, 3) := by decide +kernel
theorem dJ4_or_78 : decode cJ4_or 78 = .ok (.if_icmp .ge 22, 3) := by decide +kernel
theorem dJ4_or_81 : decode cJ4_or 81 = .ok (.aload_n 1, 1) := by decide +kernel
theorem dJ4_or_82 : decode cJ4_or 82 = .ok (.getfield 11, 3) := by decide +kernel
theorem dJ4_or_85 : decode cJ4_or 85 = .ok (.iload_n 2, 1) := by decide +kernel
theorem dJ4_or_86 : decode cJ4_or 86 = .ok (.aload_n 0, 1) := by decide +kernel
theorem dJ4_or_87 : decode cJ4_or 87 = .ok (.getfield 11, 3) := by decide +kernel
theorem dJ4_or_90 : decode cJ4_or 90 = .ok (.iload_n 2, 1) := by decide +kernel
theorem dJ4_or_91 : decode cJ4_or 91 = .ok (.aload_n 0, 1) := by decide +kernel
theorem dJ4_or_92 : decode cJ4_or 92 = .ok (.getfield 7, 3) := by decide +kernel
theorem dJ4_or_95 : decode cJ4_or 95 = .ok (.iload_n 2, 1) := by decide +kernel
theorem dJ4_or_96 : decode cJ4_or 96 = .ok (.isub, 1) := by decide +kernel
theorem dJ4_or_97 : decode cJ4_or 97 = .ok (.invokestatic 199, 3) := by decide +kernel
theorem dJ4_or_100 : decode cJ4_or 100 = .ok (.aload_n 0, 1) := by decide +kernel
theorem dJ4_or_101 : decode cJ4_or 101 = .ok (.invokevirtual 56, 3) := by decide +kernel
theorem dJ4_or_104 : decode cJ4_or 104 = .ok (.return_, 1) := by decide +kernel
abbrev cJ4_nextSetBit : ByteArray := prog_125_method_28_code
def yJ4_nextSetBit : MethodName := ⟨RJ4, "nextSetBit", "(I)I"⟩
theorem dJ4_nextSetBit_0 : decode cJ4_nextSetBit 0 = .ok (.iload_n 1, 1) := by decide +kernel
theorem dJ4_nextSetBit_1 : decode cJ4_nextSetBit 1 = .ok (.ifCond .ge 30, 3) := by decide +kernel
theorem dJ4_nextSetBit_4 : decode cJ4_nextSetBit 4 = .ok (.new 142, 3) := by decide +kernel
theorem dJ4_nextSetBit_7 : decode cJ4_nextSetBit 7 = .ok (.dup, 1) := by decide +kernel
theorem dJ4_nextSetBit_8 : decode cJ4_nextSetBit 8 = .ok (.new 33, 3) := by decide +kernel
theorem dJ4_nextSetBit_11 : decode cJ4_nextSetBit 11 = .ok (.dup, 1) := by decide +kernel
theorem dJ4_nextSetBit_12 : decode cJ4_nextSetBit 12 = .ok (.invokespecial 35, 3) := by decide +kernel
theorem dJ4_nextSetBit_15 : decode cJ4_nextSetBit 15 = .ok (.ldc 144, 2) := by decide +kernel
theorem dJ4_nextSetBit_17 : decode cJ4_nextSetBit 17 = .ok (.invokevirtual 38, 3) := by decide +kernel
theorem dJ4_nextSetBit_20 : decode cJ4_nextSetBit 20 = .ok (.iload_n 1, 1) := by decide +kernel
theorem dJ4_nextSetBit_21 : decode cJ4_nextSetBit 21 = .ok (.invokevirtual 42, 3) := by decide +kernel
theorem dJ4_nextSetBit_24 : decode cJ4_nextSetBit 24 = .ok (.invokevirtual 45, 3) := by decide +kernel
theorem dJ4_nextSetBit_27 : decode cJ4_nextSetBit 27 = .ok (.invokespecial 146, 3) := by decide +kernel
theorem dJ4_nextSetBit_30 : decode cJ4_nextSetBit 30 = .ok (.athrow, 1) := by decide +kernel
theorem dJ4_nextSetBit_31 : decode cJ4_nextSetBit 31 = .ok (.aload_n 0, 1) := by decide +kernel
theorem dJ4_nextSetBit_32 : decode cJ4_nextSetBit 32 = .ok (.invokevirtual 56, 3) := by decide +kernel
theorem dJ4_nextSetBit_35 : decode cJ4_nextSetBit 35 = .ok (.iload_n 1, 1) := by decide +kernel
theorem dJ4_nextSetBit_36 : decode cJ4_nextSetBit 36 = .ok (.invokestatic 52, 3) := by decide +kernel
theorem dJ4_nextSetBit_39 : decode cJ4_nextSetBit 39 = .ok (.istore_n 2, 1) := by decide +kernel
theorem dJ4_nextSetBit_40 : decode cJ4_nextSetBit 40 = .ok (.iload_n 2, 1) := by decide +kernel
theorem dJ4_nextSetBit_41 : decode cJ4_nextSetBit 41 = .ok (.aload_n 0, 1) := by decide +kernel
theorem dJ4_nextSetBit_42 : decode cJ4_nextSetBit 42 = .ok (.getfield 7, 3) := by decide +kernel
theorem dJ4_nextSetBit_45 : decode cJ4_nextSetBit 45 = .ok (.if_icmp .lt 5, 3) := by decide +kernel
theorem dJ4_nextSetBit_48 : decode cJ4_nextSetBit 48 = .ok (.iconst (-1), 1) := by decide +kernel
theorem dJ4_nextSetBit_49 : decode cJ4_nextSetBit 49 = .ok (.ireturn, 1) := by decide +kernel
theorem dJ4_nextSetBit_50 : decode cJ4_nextSetBit 50 = .ok (.aload_n 0, 1) := by decide +kernel
theorem dJ4_nextSetBit_51 : decode cJ4_nextSetBit 51 = .ok (.getfield 11, 3) := by decide +kernel
theorem dJ4_nextSetBit_54 : decode cJ4_nextSetBit 54 = .ok (.iload_n 2, 1) := by decide +kernel
theorem dJ4_nextSetBit_55 : decode cJ4_nextSetBit 55 = .ok (.laload, 1) := by decide +kernel
theorem dJ4_nextSetBit_56 : decode cJ4_nextSetBit 56 = .ok (.ldc2_w 165, 3) := by decide +kernel
theorem dJ4_nextSetBit_59 : decode cJ4_nextSetBit 59 = .ok (.iload_n 1, 1) := by decide +kernel
theorem dJ4_nextSetBit_60 : decode cJ4_nextSetBit 60 = .ok (.lshl, 1) := by decide +kernel
theorem dJ4_nextSetBit_61 : decode cJ4_nextSetBit 61 = .ok (.land, 1) := by decide +kernel
theorem dJ4_nextSetBit_62 : decode cJ4_nextSetBit 62 = .ok (.lstore_n 3, 1) := by decide +kernel
theorem dJ4_nextSetBit_63 : decode cJ4_nextSetBit 63 = .ok (.lload_n 3, 1) := by decide +kernel
theorem dJ4_nextSetBit_64 : decode cJ4_nextSetBit 64 = .ok (.lconst 0, 1) := by decide +kernel
theorem dJ4_nextSetBit_65 : decode cJ4_nextSetBit 65 = .ok (.lcmp, 1) := by decide +kernel
theorem dJ4_nextSetBit_66 : decode cJ4_nextSetBit 66 = .ok (.ifCond .eq 13, 3) := by decide +kernel
theorem dJ4_nextSetBit_69 : decode cJ4_nextSetBit 69 = .ok (.iload_n 2, 1) := by decide +kernel
theorem dJ4_nextSetBit_70 : decode cJ4_nextSetBit 70 = .ok (.bipush 64, 2) := by decide +kernel
theorem dJ4_nextSetBit_72 : decode cJ4_nextSetBit 72 = .ok (.imul, 1) := by decide +kernel
theorem dJ4_nextSetBit_73 : decode cJ4_nextSetBit 73 = .ok (.lload_n 3, 1) := by decide +kernel
theorem dJ4_nextSetBit_74 : decode cJ4_nextSetBit 74 = .ok (.invokestatic 182, 3) := by decide +kernel
theorem dJ4_nextSetBit_77 : decode cJ4_nextSetBit 77 = .ok (.iadd, 1) := by decide +kernel
theorem dJ4_nextSetBit_78 : decode cJ4_nextSetBit 78 = .ok (.ireturn, 1) := by decide +kernel
theorem dJ4_nextSetBit_79 : decode cJ4_nextSetBit 79 = .ok (.iinc 2 1, 3) := by decide +kernel
theorem dJ4_nextSetBit_82 : decode cJ4_nextSetBit 82 = .ok (.iload_n 2, 1) := by decide +kernel
theorem dJ4_nextSetBit_83 : decode cJ4_nextSetBit 83 = .ok (.aload_n 0, 1) := by decide +kernel
theorem dJ4_nextSetBit_84 : decode cJ4_nextSetBit 84 = .ok (.getfield 7, 3) := by decide +kernel
theorem dJ4_nextSetBit_87 : decode cJ4_nextSetBit 87 = .ok (.if_icmp .ne 5, 3) := by decide +kernel
theorem dJ4_nextSetBit_90 : decode cJ4_nextSetBit 90 = .ok (.iconst (-1), 1) := by decide +kernel
theorem dJ4_nextSetBit_91 : decode cJ4_nextSetBit 91 = .ok (.ireturn, 1) := by decide +kernel
theorem dJ4_nextSetBit_92 : decode cJ4_nextSetBit 92 = .ok (.aload_n 0, 1) := by decide +kernel
theorem dJ4_nextSetBit_93 : decode cJ4_nextSetBit 93 = .ok (.getfield 11, 3) := by decide +kernel
theorem dJ4_nextSetBit_96 : decode cJ4_nextSetBit 96 = .ok (.iload_n 2, 1) := by decide +kernel
theorem dJ4_nextSetBit_97 : decode cJ4_nextSetBit 97 = .ok (.laload, 1) := by decide +kernel
theorem dJ4_nextSetBit_98 : decode cJ4_nextSetBit 98 = .ok (.lstore_n 3, 1) := by decide +kernel
theorem dJ4_nextSetBit_99 : decode cJ4_nextSetBit 99 = .ok (.goto (-36), 3) := by decide +kernel
abbrev cJ4_isEmpty : ByteArray := prog_125_method_33_code
def yJ4_isEmpty : MethodName := ⟨RJ4, "isEmpty", "()Z"⟩
theorem dJ4_isEmpty_0 : decode cJ4_isEmpty 0 = .ok (.aload_n 0, 1) := by decide +kernel
theorem dJ4_isEmpty_1 : decode cJ4_isEmpty 1 = .ok (.getfield 7, 3) := by decide +kernel
theorem dJ4_isEmpty_4 : decode cJ4_isEmpty 4 = .ok (.ifCond .ne 7, 3) := by decide +kernel
theorem dJ4_isEmpty_7 : decode cJ4_isEmpty 7 = .ok (.iconst 1, 1) := by decide +kernel
theorem dJ4_isEmpty_8 : decode cJ4_isEmpty 8 = .ok (.goto 4, 3) := by decide +kernel
theorem dJ4_isEmpty_11 : decode cJ4_isEmpty 11 = .ok (.iconst 0, 1) := by decide +kernel
theorem dJ4_isEmpty_12 : decode cJ4_isEmpty 12 = .ok (.ireturn, 1) := by decide +kernel
abbrev cJ4_cardinality : ByteArray := prog_125_method_35_code
def yJ4_cardinality : MethodName := ⟨RJ4, "cardinality", "()I"⟩
theorem dJ4_cardinality_0 : decode cJ4_cardinality 0 = .ok (.iconst 0, 1) := by decide +kernel
theorem dJ4_cardinality_1 : decode cJ4_cardinality 1 = .ok (.istore_n 1, 1) := by decide +kernel
theorem dJ4_cardinality_2 : decode cJ4_cardinality 2 = .ok (.iconst 0, 1) := by decide +kernel
theorem dJ4_cardinality_3 : decode cJ4_cardinality 3 = .ok (.istore_n 2, 1) := by decide +kernel
theorem dJ4_cardinality_4 : decode cJ4_cardinality 4 = .ok (.iload_n 2, 1) := by decide +kernel
theorem dJ4_cardinality_5 : decode cJ4_cardinality 5 = .ok (.aload_n 0, 1) := by decide +kernel
theorem dJ4_cardinality_6 : decode cJ4_cardinality 6 = .ok (.getfield 7, 3) := by decide +kernel
theorem dJ4_cardinality_9 : decode cJ4_cardinality 9 = .ok (.if_icmp .ge 21, 3) := by decide +kernel
theorem dJ4_cardinality_12 : decode cJ4_cardinality 12 = .ok (.iload_n 1, 1) := by decide +kernel
theorem dJ4_cardinality_13 : decode cJ4_cardinality 13 = .ok (.aload_n 0, 1) := by decide +kernel
theorem dJ4_cardinality_14 : decode cJ4_cardinality 14 = .ok (.getfield 11, 3) := by decide +kernel
theorem dJ4_cardinality_17 : decode cJ4_cardinality 17 = .ok (.iload_n 2, 1) := by decide +kernel
theorem dJ4_cardinality_18 : decode cJ4_cardinality 18 = .ok (.laload, 1) := by decide +kernel
theorem dJ4_cardinality_19 : decode cJ4_cardinality 19 = .ok (.invokestatic 196, 3) := by decide +kernel
theorem dJ4_cardinality_22 : decode cJ4_cardinality 22 = .ok (.iadd, 1) := by decide +kernel
theorem dJ4_cardinality_23 : decode cJ4_cardinality 23 = .ok (.istore_n 1, 1) := by decide +kernel
theorem dJ4_cardinality_24 : decode cJ4_cardinality 24 = .ok (.iinc 2 1, 3) := by decide +kernel
theorem dJ4_cardinality_27 : decode cJ4_cardinality 27 = .ok (.goto (-23), 3) := by decide +kernel
theorem dJ4_cardinality_30 : decode cJ4_cardinality 30 = .ok (.iload_n 1, 1) := by decide +kernel
theorem dJ4_cardinality_31 : decode cJ4_cardinality 31 = .ok (.ireturn, 1) := by decide +kernel
abbrev cJ4_andNot : ByteArray := prog_125_method_39_code
def yJ4_andNot : MethodName := ⟨RJ4, "andNot", "(Ljava/util/BitSet;)V"⟩
theorem dJ4_andNot_0 : decode cJ4_andNot 0 = .ok (.aload_n 0, 1) := by decide +kernel
theorem dJ4_andNot_1 : decode cJ4_andNot 1 = .ok (.getfield 7, 3) := by decide +kernel
theorem dJ4_andNot_4 : decode cJ4_andNot 4 = .ok (.aload_n 1, 1) := by decide +kernel
theorem dJ4_andNot_5 : decode cJ4_andNot 5 = .ok (.getfield 7, 3) := by decide +kernel
theorem dJ4_andNot_8 : decode cJ4_andNot 8 = .ok (.invokestatic 193, 3) := by decide +kernel
theorem dJ4_andNot_11 : decode cJ4_andNot 11 = .ok (.iconst 1, 1) := by decide +kernel
theorem dJ4_andNot_12 : decode cJ4_andNot 12 = .ok (.isub, 1) := by decide +kernel
theorem dJ4_andNot_13 : decode cJ4_andNot 13 = .ok (.istore_n 2, 1) := by decide +kernel
theorem dJ4_andNot_14 : decode cJ4_andNot 14 = .ok (.iload_n 2, 1) := by decide +kernel
theorem dJ4_andNot_15 : decode cJ4_andNot 15 = .ok (.ifCond .lt 28, 3) := by decide +kernel
theorem dJ4_andNot_18 : decode cJ4_andNot 18 = .ok (.aload_n 0, 1) := by decide +kernel
theorem dJ4_andNot_19 : decode cJ4_andNot 19 = .ok (.getfield 11, 3) := by decide +kernel
theorem dJ4_andNot_22 : decode cJ4_andNot 22 = .ok (.iload_n 2, 1) := by decide +kernel
theorem dJ4_andNot_23 : decode cJ4_andNot 23 = .ok (.dup2, 1) := by decide +kernel
theorem dJ4_andNot_24 : decode cJ4_andNot 24 = .ok (.laload, 1) := by decide +kernel
theorem dJ4_andNot_25 : decode cJ4_andNot 25 = .ok (.aload_n 1, 1) := by decide +kernel
theorem dJ4_andNot_26 : decode cJ4_andNot 26 = .ok (.getfield 11, 3) := by decide +kernel
theorem dJ4_andNot_29 : decode cJ4_andNot 29 = .ok (.iload_n 2, 1) := by decide +kernel
theorem dJ4_andNot_30 : decode cJ4_andNot 30 = .ok (.laload, 1) := by decide +kernel
theorem dJ4_andNot_31 : decode cJ4_andNot 31 = .ok (.ldc2_w 165, 3) := by decide +kernel
theorem dJ4_andNot_34 : decode cJ4_andNot 34 = .ok (.lxor, 1) := by decide +kernel
theorem dJ4_andNot_35 : decode cJ4_andNot 35 = .ok (.land, 1) := by decide +kernel
theorem dJ4_andNot_36 : decode cJ4_andNot 36 = .ok (.lastore, 1) := by decide +kernel
theorem dJ4_andNot_37 : decode cJ4_andNot 37 = .ok (.iinc 2 (-1), 3) := by decide +kernel
theorem dJ4_andNot_40 : decode cJ4_andNot 40 = .ok (.goto (-26), 3) := by decide +kernel
theorem dJ4_andNot_43 : decode cJ4_andNot 43 = .ok (.aload_n 0, 1) := by decide +kernel
theorem dJ4_andNot_44 : decode cJ4_andNot 44 = .ok (.invokevirtual 158, 3) := by decide +kernel
theorem dJ4_andNot_47 : decode cJ4_andNot 47 = .ok (.aload_n 0, 1) := by decide +kernel
theorem dJ4_andNot_48 : decode cJ4_andNot 48 = .ok (.invokevirtual 56, 3) := by decide +kernel
theorem dJ4_andNot_51 : decode cJ4_andNot 51 = .ok (.return_, 1) := by decide +kernel
abbrev cJ4_xor : ByteArray := prog_125_method_38_code
def yJ4_xor : MethodName := ⟨RJ4, "xor", "(Ljava/util/BitSet;)V"⟩
theorem dJ4_xor_0 : decode cJ4_xor 0 = .ok (.aload_n 0, 1) := by decide +kernel
theorem dJ4_xor_1 : decode cJ4_xor 1 = .ok (.getfield 7, 3) := by decide +kernel
theorem dJ4_xor_4 : decode cJ4_xor 4 = .ok (.aload_n 1, 1) := by decide +kernel
theorem dJ4_xor_5 : decode cJ4_xor 5 = .ok (.getfield 7, 3) := by decide +kernel
theorem dJ4_xor_8 : decode cJ4_xor 8 = .ok (.invokestatic 193, 3) := by decide +kernel
theorem dJ4_xor_11 : decode cJ4_xor 11 = .ok (.istore_n 2, 1) := by decide +kernel
theorem dJ4_xor_12 : decode cJ4_xor 12 = .ok (.aload_n 0, 1) := by decide +kernel
theorem dJ4_xor_13 : decode cJ4_xor 13 = .ok (.getfield 7, 3) := by decide +kernel
theorem dJ4_xor_16 : decode cJ4_xor 16 = .ok (.aload_n 1, 1) := by decide +kernel
theorem dJ4_xor_17 : decode cJ4_xor 17 = .ok (.getfield 7, 3) := by decide +kernel
theorem dJ4_xor_20 : decode cJ4_xor 20 = .ok (.if_icmp .ge 19, 3) := by decide +kernel
theorem dJ4_xor_23 : decode cJ4_xor 23 = .ok (.aload_n 0, 1) := by decide +kernel
theorem dJ4_xor_24 : decode cJ4_xor 24 = .ok (.aload_n 1, 1) := by decide +kernel
theorem dJ4_xor_25 : decode cJ4_xor 25 = .ok (.getfield 7, 3) := by decide +kernel
theorem dJ4_xor_28 : decode cJ4_xor 28 = .ok (.invokevirtual 139, 3) := by decide +kernel
theorem dJ4_xor_31 : decode cJ4_xor 31 = .ok (.aload_n 0, 1) := by decide +kernel
theorem dJ4_xor_32 : decode cJ4_xor 32 = .ok (.aload_n 1, 1) := by decide +kernel
theorem dJ4_xor_33 : decode cJ4_xor 33 = .ok (.getfield 7, 3) := by decide +kernel
theorem dJ4_xor_36 : decode cJ4_xor 36 = .ok (.putfield 7, 3) := by decide +kernel
theorem dJ4_xor_39 : decode cJ4_xor 39 = .ok (.iconst 0, 1) := by decide +kernel
theorem dJ4_xor_40 : decode cJ4_xor 40 = .ok (.istore_n 3, 1) := by decide +kernel
theorem dJ4_xor_41 : decode cJ4_xor 41 = .ok (.iload_n 3, 1) := by decide +kernel
theorem dJ4_xor_42 : decode cJ4_xor 42 = .ok (.iload_n 2, 1) := by decide +kernel
theorem dJ4_xor_43 : decode cJ4_xor 43 = .ok (.if_icmp .ge 24, 3) := by decide +kernel
theorem dJ4_xor_46 : decode cJ4_xor 46 = .ok (.aload_n 0, 1) := by decide +kernel
theorem dJ4_xor_47 : decode cJ4_xor 47 = .ok (.getfield 11, 3) := by decide +kernel
theorem dJ4_xor_50 : decode cJ4_xor 50 = .ok (.iload_n 3, 1) := by decide +kernel
theorem dJ4_xor_51 : decode cJ4_xor 51 = .ok (.dup2, 1) := by decide +kernel
theorem dJ4_xor_52 : decode cJ4_xor 52 = .ok (.laload, 1) := by decide +kernel
theorem dJ4_xor_53 : decode cJ4_xor 53 = .ok (.aload_n 1, 1) := by decide +kernel
theorem dJ4_xor_54 : decode cJ4_xor 54 = .ok (.getfield 11, 3) := by decide +kernel
theorem dJ4_xor_57 : decode cJ4_xor 57 = .ok (.iload_n 3, 1) := by decide +kernel
theorem dJ4_xor_58 : decode cJ4_xor 58 = .ok (.laload, 1) := by decide +kernel
theorem dJ4_xor_59 : decode cJ4_xor 59 = .ok (.lxor, 1) := by decide +kernel
theorem dJ4_xor_60 : decode cJ4_xor 60 = .ok (.lastore, 1) := by decide +kernel
theorem dJ4_xor_61 : decode cJ4_xor 61 = .ok (.iinc 3 1, 3) := by decide +kernel
theorem dJ4_xor_64 : decode cJ4_xor 64 = .ok (.goto (-23), 3) := by decide +kernel
theorem dJ4_xor_67 : decode cJ4_xor 67 = .ok (.iload_n 2, 1) := by decide +kernel
theorem dJ4_xor_68 : decode cJ4_xor 68 = .ok (.aload_n 1, 1) := by decide +kernel
theorem dJ4_xor_69 : decode cJ4_xor 69 = .ok (.getfield 7, 3) := by decide +kernel
theorem dJ4_xor_72 : decode cJ4_xor 72 = .ok (.if_icmp .ge 22, 3) := by decide +kernel
theorem dJ4_xor_75 : decode cJ4_xor 75 = .ok (.aload_n 1, 1) := by decide +kernel
theorem dJ4_xor_76 : decode cJ4_xor 76 = .ok (.getfield 11, 3) := by decide +kernel
theorem dJ4_xor_79 : decode cJ4_xor 79 = .ok (.iload_n 2, 1) := by decide +kernel
theorem dJ4_xor_80 : decode cJ4_xor 80 = .ok (.aload_n 0, 1) := by decide +kernel
theorem dJ4_xor_81 : decode cJ4_xor 81 = .ok (.getfield 11, 3) := by decide +kernel
theorem dJ4_xor_84 : decode cJ4_xor 84 = .ok (.iload_n 2, 1) := by decide +kernel
theorem dJ4_xor_85 : decode cJ4_xor 85 = .ok (.aload_n 1, 1) := by decide +kernel
theorem dJ4_xor_86 : decode cJ4_xor 86 = .ok (.getfield 7, 3) := by decide +kernel
theorem dJ4_xor_89 : decode cJ4_xor 89 = .ok (.iload_n 2, 1) := by decide +kernel
theorem dJ4_xor_90 : decode cJ4_xor 90 = .ok (.isub, 1) := by decide +kernel
theorem dJ4_xor_91 : decode cJ4_xor 91 = .ok (.invokestatic 199, 3) := by decide +kernel
theorem dJ4_xor_94 : decode cJ4_xor 94 = .ok (.aload_n 0, 1) := by decide +kernel
theorem dJ4_xor_95 : decode cJ4_xor 95 = .ok (.invokevirtual 158, 3) := by decide +kernel
theorem dJ4_xor_98 : decode cJ4_xor 98 = .ok (.aload_n 0, 1) := by decide +kernel
theorem dJ4_xor_99 : decode cJ4_xor 99 = .ok (.invokevirtual 56, 3) := by decide +kernel
theorem dJ4_xor_102 : decode cJ4_xor 102 = .ok (.return_, 1) := by decide +kernel
theorem in_J4 : ∀ w ∈ wsJ40, w ∈ lw_all := lw_in wsJ40 [1298, 1300, 1302] (by decide +kernel) (by decide +kernel)
def RJ0 : String := "java/util/AbstractCollection"
abbrev cJ0_init : ByteArray := prog_118_method_1_code
def yJ0_init : MethodName := ⟨RJ0, "<init>", "()V"⟩
theorem dJ0_init_0 : decode cJ0_init 0 = .ok (.aload_n 0, 1) := by decide +kernel
theorem dJ0_init_1 : decode cJ0_init 1 = .ok (.invokespecial 1, 3) := by decide +kernel
theorem dJ0_init_4 : decode cJ0_init 4 = .ok (.return_, 1) := by decide +kernel
def RJ1 : String := "java/util/AbstractList"
abbrev cJ1_init : ByteArray := prog_119_method_1_code
def yJ1_init : MethodName := ⟨RJ1, "<init>", "()V"⟩
theorem dJ1_init_0 : decode cJ1_init 0 = .ok (.aload_n 0, 1) := by decide +kernel
theorem dJ1_init_1 : decode cJ1_init 1 = .ok (.invokespecial 1, 3) := by decide +kernel
theorem dJ1_init_4 : decode cJ1_init 4 = .ok (.aload_n 0, 1) := by decide +kernel
theorem dJ1_init_5 : decode cJ1_init 5 = .ok (.iconst 0, 1) := by decide +kernel
theorem dJ1_init_6 : decode cJ1_init 6 = .ok (.putfield 7, 3) := by decide +kernel
theorem dJ1_init_9 : decode cJ1_init 9 = .ok (.return_, 1) := by decide +kernel
def RJ14 : String := "java/util/Objects"
abbrev cJ14_checkIndex : ByteArray := prog_130_method_17_code
def yJ14_checkIndex : MethodName := ⟨RJ14, "checkIndex", "(II)I"⟩
theorem dJ14_checkIndex_0 : decode cJ14_checkIndex 0 = .ok (.iload_n 0, 1) := by decide +kernel
theorem dJ14_checkIndex_1 : decode cJ14_checkIndex 1 = .ok (.iload_n 1, 1) := by decide +kernel
theorem dJ14_checkIndex_2 : decode cJ14_checkIndex 2 = .ok (.aconst_null, 1) := by decide +kernel
theorem dJ14_checkIndex_3 : decode cJ14_checkIndex 3 = .ok (.invokestatic 105, 3) := by decide +kernel
theorem dJ14_checkIndex_6 : decode cJ14_checkIndex 6 = .ok (.ireturn, 1) := by decide +kernel
def RJ13 : String := "jdk/internal/util/ArraysSupport"
abbrev cJ13_newLength : ByteArray := prog_134_method_27_code
def yJ13_newLength : MethodName := ⟨RJ13, "newLength", "(III)I"⟩
theorem dJ13_newLength_0 : decode cJ13_newLength 0 = .ok (.iload_n 0, 1) := by decide +kernel
theorem dJ13_newLength_1 : decode cJ13_newLength 1 = .ok (.iload_n 1, 1) := by decide +kernel
theorem dJ13_newLength_2 : decode cJ13_newLength 2 = .ok (.iload_n 2, 1) := by decide +kernel
theorem dJ13_newLength_3 : decode cJ13_newLength 3 = .ok (.invokestatic 194, 3) := by decide +kernel
theorem dJ13_newLength_6 : decode cJ13_newLength 6 = .ok (.iadd, 1) := by decide +kernel
theorem dJ13_newLength_7 : decode cJ13_newLength 7 = .ok (.istore_n 3, 1) := by decide +kernel
theorem dJ13_newLength_8 : decode cJ13_newLength 8 = .ok (.iconst 0, 1) := by decide +kernel
theorem dJ13_newLength_9 : decode cJ13_newLength 9 = .ok (.iload_n 3, 1) := by decide +kernel
theorem dJ13_newLength_10 : decode cJ13_newLength 10 = .ok (.if_icmp .ge 11, 3) := by decide +kernel
theorem dJ13_newLength_13 : decode cJ13_newLength 13 = .ok (.iload_n 3, 1) := by decide +kernel
theorem dJ13_newLength_14 : decode cJ13_newLength 14 = .ok (.ldc 200, 2) := by decide +kernel
theorem dJ13_newLength_16 : decode cJ13_newLength 16 = .ok (.if_icmp .gt 5, 3) := by decide +kernel
theorem dJ13_newLength_19 : decode cJ13_newLength 19 = .ok (.iload_n 3, 1) := by decide +kernel
theorem dJ13_newLength_20 : decode cJ13_newLength 20 = .ok (.ireturn, 1) := by decide +kernel
theorem dJ13_newLength_21 : decode cJ13_newLength 21 = .ok (.iload_n 0, 1) := by decide +kernel
theorem dJ13_newLength_22 : decode cJ13_newLength 22 = .ok (.iload_n 1, 1) := by decide +kernel
theorem dJ13_newLength_23 : decode cJ13_newLength 23 = .ok (.invokestatic 201, 3) := by decide +kernel
theorem dJ13_newLength_26 : decode cJ13_newLength 26 = .ok (.ireturn, 1) := by decide +kernel
abbrev cJ13_hugeLength : ByteArray := prog_134_method_28_code
def yJ13_hugeLength : MethodName := ⟨RJ13, "hugeLength", "(II)I"⟩
theorem dJ13_hugeLength_0 : decode cJ13_hugeLength 0 = .ok (.iload_n 0, 1) := by decide +kernel
theorem dJ13_hugeLength_1 : decode cJ13_hugeLength 1 = .ok (.iload_n 1, 1) := by decide +kernel
theorem dJ13_hugeLength_2 : decode cJ13_hugeLength 2 = .ok (.iadd, 1) := by decide +kernel
theorem dJ13_hugeLength_3 : decode cJ13_hugeLength 3 = .ok (.istore_n 2, 1) := by decide +kernel
theorem dJ13_hugeLength_4 : decode cJ13_hugeLength 4 = .ok (.iload_n 2, 1) := by decide +kernel
theorem dJ13_hugeLength_5 : decode cJ13_hugeLength 5 = .ok (.ifCond .ge 44, 3) := by decide +kernel
theorem dJ13_hugeLength_8 : decode cJ13_hugeLength 8 = .ok (.new 204, 3) := by decide +kernel
theorem dJ13_hugeLength_11 : decode cJ13_hugeLength 11 = .ok (.dup, 1) := by decide +kernel
theorem dJ13_hugeLength_12 : decode cJ13_hugeLength 12 = .ok (.new 89, 3) := by decide +kernel
theorem dJ13_hugeLength_15 : decode cJ13_hugeLength 15 = .ok (.dup, 1) := by decide +kernel
theorem dJ13_hugeLength_16 : decode cJ13_hugeLength 16 = .ok (.invokespecial 91, 3) := by decide +kernel
theorem dJ13_hugeLength_19 : decode cJ13_hugeLength 19 = .ok (.ldc 206, 2) := by decide +kernel
theorem dJ13_hugeLength_21 : decode cJ13_hugeLength 21 = .ok (.invokevirtual 94, 3) := by decide +kernel
theorem dJ13_hugeLength_24 : decode cJ13_hugeLength 24 = .ok (.iload_n 0, 1) := by decide +kernel
theorem dJ13_hugeLength_25 : decode cJ13_hugeLength 25 = .ok (.invokevirtual 98, 3) := by decide +kernel
theorem dJ13_hugeLength_28 : decode cJ13_hugeLength 28 = .ok (.ldc 208, 2) := by decide +kernel
theorem dJ13_hugeLength_30 : decode cJ13_hugeLength 30 = .ok (.invokevirtual 94, 3) := by decide +kernel
theorem dJ13_hugeLength_33 : decode cJ13_hugeLength 33 = .ok (.iload_n 1, 1) := by decide +kernel
theorem dJ13_hugeLength_34 : decode cJ13_hugeLength 34 = .ok (.invokevirtual 98, 3) := by decide +kernel
theorem dJ13_hugeLength_37 : decode cJ13_hugeLength 37 = .ok (.ldc 210, 2) := by decide +kernel
theorem dJ13_hugeLength_39 : decode cJ13_hugeLength 39 = .ok (.invokevirtual 94, 3) := by decide +kernel
theorem dJ13_hugeLength_42 : decode cJ13_hugeLength 42 = .ok (.invokevirtual 101, 3) := by decide +kernel
theorem dJ13_hugeLength_45 : decode cJ13_hugeLength 45 = .ok (.invokespecial 212, 3) := by decide +kernel
theorem dJ13_hugeLength_48 : decode cJ13_hugeLength 48 = .ok (.athrow, 1) := by decide +kernel
theorem dJ13_hugeLength_49 : decode cJ13_hugeLength 49 = .ok (.iload_n 2, 1) := by decide +kernel
theorem dJ13_hugeLength_50 : decode cJ13_hugeLength 50 = .ok (.ldc 200, 2) := by decide +kernel
theorem dJ13_hugeLength_52 : decode cJ13_hugeLength 52 = .ok (.if_icmp .gt 6, 3) := by decide +kernel
theorem dJ13_hugeLength_55 : decode cJ13_hugeLength 55 = .ok (.ldc 200, 2) := by decide +kernel
theorem dJ13_hugeLength_57 : decode cJ13_hugeLength 57 = .ok (.ireturn, 1) := by decide +kernel
theorem dJ13_hugeLength_58 : decode cJ13_hugeLength 58 = .ok (.iload_n 2, 1) := by decide +kernel
theorem dJ13_hugeLength_59 : decode cJ13_hugeLength 59 = .ok (.ireturn, 1) := by decide +kernel
def RJ12 : String := "java/util/Arrays"
abbrev cJ12_copyOf : ByteArray := prog_124_method_119_code
def yJ12_copyOf : MethodName := ⟨RJ12, "copyOf", "([Ljava/lang/Object;I)[Ljava/lang/Object;"⟩
theorem dJ12_copyOf_0 : decode cJ12_copyOf 0 = .ok (.aload_n 0, 1) := by decide +kernel
theorem dJ12_copyOf_1 : decode cJ12_copyOf 1 = .ok (.iload_n 1, 1) := by decide +kernel
theorem dJ12_copyOf_2 : decode cJ12_copyOf 2 = .ok (.aload_n 0, 1) := by decide +kernel
theorem dJ12_copyOf_3 : decode cJ12_copyOf 3 = .ok (.invokevirtual 86, 3) := by decide +kernel
theorem dJ12_copyOf_6 : decode cJ12_copyOf 6 = .ok (.invokestatic 300, 3) := by decide +kernel
theorem dJ12_copyOf_9 : decode cJ12_copyOf 9 = .ok (.areturn, 1) := by decide +kernel
abbrev cJ12_copyOf_2 : ByteArray := prog_124_method_120_code
def yJ12_copyOf_2 : MethodName := ⟨RJ12, "copyOf", "([Ljava/lang/Object;ILjava/lang/Class;)[Ljava/lang/Object;"⟩
theorem dJ12_copyOf_2_0 : decode cJ12_copyOf_2 0 = .ok (.aload_n 2, 1) := by decide +kernel
theorem dJ12_copyOf_2_1 : decode cJ12_copyOf_2 1 = .ok (.ldc 110, 2) := by decide +kernel
theorem dJ12_copyOf_2_3 : decode cJ12_copyOf_2 3 = .ok (.if_acmp .ne 10, 3) := by decide +kernel
theorem dJ12_copyOf_2_6 : decode cJ12_copyOf_2 6 = .ok (.iload_n 1, 1) := by decide +kernel
theorem dJ12_copyOf_2_7 : decode cJ12_copyOf_2 7 = .ok (.anewarray 2, 3) := by decide +kernel
theorem dJ12_copyOf_2_10 : decode cJ12_copyOf_2 10 = .ok (.goto 14, 3) := by decide +kernel
theorem dJ12_copyOf_2_13 : decode cJ12_copyOf_2 13 = .ok (.aload_n 2, 1) := by decide +kernel
theorem dJ12_copyOf_2_14 : decode cJ12_copyOf_2 14 = .ok (.invokevirtual 90, 3) := by decide +kernel
theorem dJ12_copyOf_2_17 : decode cJ12_copyOf_2 17 = .ok (.iload_n 1, 1) := by decide +kernel
theorem dJ12_copyOf_2_18 : decode cJ12_copyOf_2 18 = .ok (.invokestatic 95, 3) := by decide +kernel
theorem dJ12_copyOf_2_21 : decode cJ12_copyOf_2 21 = .ok (.checkcast 110, 3) := by decide +kernel
theorem dJ12_copyOf_2_24 : decode cJ12_copyOf_2 24 = .ok (.astore_n 3, 1) := by decide +kernel
theorem dJ12_copyOf_2_25 : decode cJ12_copyOf_2 25 = .ok (.aload_n 0, 1) := by decide +kernel
theorem dJ12_copyOf_2_26 : decode cJ12_copyOf_2 26 = .ok (.iconst 0, 1) := by decide +kernel
theorem dJ12_copyOf_2_27 : decode cJ12_copyOf_2 27 = .ok (.aload_n 3, 1) := by decide +kernel
theorem dJ12_copyOf_2_28 : decode cJ12_copyOf_2 28 = .ok (.iconst 0, 1) := by decide +kernel
theorem dJ12_copyOf_2_29 : decode cJ12_copyOf_2 29 = .ok (.aload_n 0, 1) := by decide +kernel
theorem dJ12_copyOf_2_30 : decode cJ12_copyOf_2 30 = .ok (.arraylength, 1) := by decide +kernel
theorem dJ12_copyOf_2_31 : decode cJ12_copyOf_2 31 = .ok (.iload_n 1, 1) := by decide +kernel
theorem dJ12_copyOf_2_32 : decode cJ12_copyOf_2 32 = .ok (.invokestatic 304, 3) := by decide +kernel
theorem dJ12_copyOf_2_35 : decode cJ12_copyOf_2 35 = .ok (.invokestatic 150, 3) := by decide +kernel
theorem dJ12_copyOf_2_38 : decode cJ12_copyOf_2 38 = .ok (.aload_n 3, 1) := by decide +kernel
theorem dJ12_copyOf_2_39 : decode cJ12_copyOf_2 39 = .ok (.areturn, 1) := by decide +kernel
abbrev cJ12_copyOf_3 : ByteArray := prog_124_method_124_code
def yJ12_copyOf_3 : MethodName := ⟨RJ12, "copyOf", "([JI)[J"⟩
theorem dJ12_copyOf_3_0 : decode cJ12_copyOf_3 0 = .ok (.iload_n 1, 1) := by decide +kernel
theorem dJ12_copyOf_3_1 : decode cJ12_copyOf_3 1 = .ok (.aload_n 0, 1) := by decide +kernel
theorem dJ12_copyOf_3_2 : decode cJ12_copyOf_3 2 = .ok (.arraylength, 1) := by decide +kernel
theorem dJ12_copyOf_3_3 : decode cJ12_copyOf_3 3 = .ok (.if_icmp .ne 11, 3) := by decide +kernel
theorem dJ12_copyOf_3_6 : decode cJ12_copyOf_3 6 = .ok (.aload_n 0, 1) := by decide +kernel
theorem dJ12_copyOf_3_7 : decode cJ12_copyOf_3 7 = .ok (.invokevirtual 319, 3) := by decide +kernel
theorem dJ12_copyOf_3_10 : decode cJ12_copyOf_3 10 = .ok (.checkcast 320, 3) := by decide +kernel
theorem dJ12_copyOf_3_13 : decode cJ12_copyOf_3 13 = .ok (.areturn, 1) := by decide +kernel
theorem dJ12_copyOf_3_14 : decode cJ12_copyOf_3 14 = .ok (.iload_n 1, 1) := by decide +kernel
theorem dJ12_copyOf_3_15 : decode cJ12_copyOf_3 15 = .ok (.newarray .long, 2) := by decide +kernel
theorem dJ12_copyOf_3_17 : decode cJ12_copyOf_3 17 = .ok (.astore_n 2, 1) := by decide +kernel
theorem dJ12_copyOf_3_18 : decode cJ12_copyOf_3 18 = .ok (.aload_n 0, 1) := by decide +kernel
theorem dJ12_copyOf_3_19 : decode cJ12_copyOf_3 19 = .ok (.iconst 0, 1) := by decide +kernel
theorem dJ12_copyOf_3_20 : decode cJ12_copyOf_3 20 = .ok (.aload_n 2, 1) := by decide +kernel
theorem dJ12_copyOf_3_21 : decode cJ12_copyOf_3 21 = .ok (.iconst 0, 1) := by decide +kernel
theorem dJ12_copyOf_3_22 : decode cJ12_copyOf_3 22 = .ok (.aload_n 0, 1) := by decide +kernel
theorem dJ12_copyOf_3_23 : decode cJ12_copyOf_3 23 = .ok (.arraylength, 1) := by decide +kernel
theorem dJ12_copyOf_3_24 : decode cJ12_copyOf_3 24 = .ok (.iload_n 1, 1) := by decide +kernel
theorem dJ12_copyOf_3_25 : decode cJ12_copyOf_3 25 = .ok (.invokestatic 304, 3) := by decide +kernel
theorem dJ12_copyOf_3_28 : decode cJ12_copyOf_3 28 = .ok (.invokestatic 150, 3) := by decide +kernel
theorem dJ12_copyOf_3_31 : decode cJ12_copyOf_3 31 = .ok (.aload_n 2, 1) := by decide +kernel
theorem dJ12_copyOf_3_32 : decode cJ12_copyOf_3 32 = .ok (.areturn, 1) := by decide +kernel
abbrev cJ12_copyOfRange : ByteArray := prog_124_method_132_code
def yJ12_copyOfRange : MethodName := ⟨RJ12, "copyOfRange", "([BII)[B"⟩
abbrev cJ12_copyOfRangeByte : ByteArray := prog_124_method_133_code
def yJ12_copyOfRangeByte : MethodName := ⟨RJ12, "copyOfRangeByte", "([BII)[B"⟩
abbrev cJ12_checkLength : ByteArray := prog_124_method_131_code
def yJ12_checkLength : MethodName := ⟨RJ12, "checkLength", "(II)V"⟩
abbrev cJ12_copyOf_4 : ByteArray := prog_124_method_121_code
def yJ12_copyOf_4 : MethodName := ⟨RJ12, "copyOf", "([BI)[B"⟩
theorem dJ21_numberOfTrailingZeros_0 : decode cJ21_numberOfTrailingZeros 0 = .ok (.lload_n 0, 1) := by decide +kernel
theorem dJ21_numberOfTrailingZeros_1 : decode cJ21_numberOfTrailingZeros 1 = .ok (.l2i, 1) := by decide +kernel
theorem dJ21_numberOfTrailingZeros_2 : decode cJ21_numberOfTrailingZeros 2 = .ok (.istore_n 2, 1) := by decide +kernel
theorem dJ21_numberOfTrailingZeros_3 : decode cJ21_numberOfTrailingZeros 3 = .ok (.iload_n 2, 1) := by decide +kernel
theorem dJ21_numberOfTrailingZeros_4 : decode cJ21_numberOfTrailingZeros 4 = .ok (.ifCond .ne 17, 3) := by decide +kernel
theorem dJ21_numberOfTrailingZeros_7 : decode cJ21_numberOfTrailingZeros 7 = .ok (.bipush 32, 2) := by decide +kernel
theorem dJ21_numberOfTrailingZeros_9 : decode cJ21_numberOfTrailingZeros 9 = .ok (.lload_n 0, 1) := by decide +kernel
theorem dJ21_numberOfTrailingZeros_10 : decode cJ21_numberOfTrailingZeros 10 = .ok (.bipush 32, 2) := by decide +kernel
theorem dJ21_numberOfTrailingZeros_12 : decode cJ21_numberOfTrailingZeros 12 = .ok (.lushr, 1) := by decide +kernel
theorem dJ21_numberOfTrailingZeros_13 : decode cJ21_numberOfTrailingZeros 13 = .ok (.l2i, 1) := by decide +kernel
theorem dJ21_numberOfTrailingZeros_14 : decode cJ21_numberOfTrailingZeros 14 = .ok (.invokestatic 311, 3) := by decide +kernel
theorem dJ21_numberOfTrailingZeros_17 : decode cJ21_numberOfTrailingZeros 17 = .ok (.iadd, 1) := by decide +kernel
theorem dJ21_numberOfTrailingZeros_18 : decode cJ21_numberOfTrailingZeros 18 = .ok (.goto 7, 3) := by decide +kernel
theorem dJ21_numberOfTrailingZeros_21 : decode cJ21_numberOfTrailingZeros 21 = .ok (.iload_n 2, 1) := by decide +kernel
theorem dJ21_numberOfTrailingZeros_22 : decode cJ21_numberOfTrailingZeros 22 = .ok (.invokestatic 311, 3) := by decide +kernel
theorem dJ21_numberOfTrailingZeros_25 : decode cJ21_numberOfTrailingZeros 25 = .ok (.ireturn, 1) := by decide +kernel
theorem dJ21_bitCount_0 : decode cJ21_bitCount 0 = .ok (.lload_n 0, 1) := by decide +kernel
theorem dJ21_bitCount_1 : decode cJ21_bitCount 1 = .ok (.lload_n 0, 1) := by decide +kernel
theorem dJ21_bitCount_2 : decode cJ21_bitCount 2 = .ok (.iconst 1, 1) := by decide +kernel
theorem dJ21_bitCount_3 : decode cJ21_bitCount 3 = .ok (.lushr, 1) := by decide +kernel
theorem dJ21_bitCount_4 : decode cJ21_bitCount 4 = .ok (.ldc2_w 314, 3) := by decide +kernel
theorem dJ21_bitCount_7 : decode cJ21_bitCount 7 = .ok (.land, 1) := by decide +kernel
theorem dJ21_bitCount_8 : decode cJ21_bitCount 8 = .ok (.lsub, 1) := by decide +kernel
theorem dJ21_bitCount_9 : decode cJ21_bitCount 9 = .ok (.lstore_n 0, 1) := by decide +kernel
theorem dJ21_bitCount_10 : decode cJ21_bitCount 10 = .ok (.lload_n 0, 1) := by decide +kernel
theorem dJ21_bitCount_11 : decode cJ21_bitCount 11 = .ok (.ldc2_w 316, 3) := by decide +kernel
theorem dJ21_bitCount_14 : decode cJ21_bitCount 14 = .ok (.land, 1) := by decide +kernel
theorem dJ21_bitCount_15 : decode cJ21_bitCount 15 = .ok (.lload_n 0, 1) := by decide +kernel
theorem dJ21_bitCount_16 : decode cJ21_bitCount 16 = .ok (.iconst 2, 1) := by decide +kernel
theorem dJ21_bitCount_17 : decode cJ21_bitCount 17 = .ok (.lushr, 1) := by decide +kernel
theorem dJ21_bitCount_18 : decode cJ21_bitCount 18 = .ok (.ldc2_w 316, 3) := by decide +kernel
theorem dJ21_bitCount_21 : decode cJ21_bitCount 21 = .ok (.land, 1) := by decide +kernel
theorem dJ21_bitCount_22 : decode cJ21_bitCount 22 = .ok (.ladd, 1) := by decide +kernel
theorem dJ21_bitCount_23 : decode cJ21_bitCount 23 = .ok (.lstore_n 0, 1) := by decide +kernel
theorem dJ21_bitCount_24 : decode cJ21_bitCount 24 = .ok (.lload_n 0, 1) := by decide +kernel
theorem dJ21_bitCount_25 : decode cJ21_bitCount 25 = .ok (.lload_n 0, 1) := by decide +kernel
theorem dJ21_bitCount_26 : decode cJ21_bitCount 26 = .ok (.iconst 4, 1) := by decide +kernel
theorem dJ21_bitCount_27 : decode cJ21_bitCount 27 = .ok (.lushr, 1) := by decide +kernel
theorem dJ21_bitCount_28 : decode cJ21_bitCount 28 = .ok (.ladd, 1) := by decide +kernel
theorem dJ21_bitCount_29 : decode cJ21_bitCount 29 = .ok (.ldc2_w 318, 3) := by decide +kernel
theorem dJ21_bitCount_32 : decode cJ21_bitCount 32 = .ok (.land, 1) := by decide +kernel
theorem dJ21_bitCount_33 : decode cJ21_bitCount 33 = .ok (.lstore_n 0, 1) := by decide +kernel
theorem dJ21_bitCount_34 : decode cJ21_bitCount 34 = .ok (.lload_n 0, 1) := by decide +kernel
theorem dJ21_bitCount_35 : decode cJ21_bitCount 35 = .ok (.lload_n 0, 1) := by decide +kernel
theorem dJ21_bitCount_36 : decode cJ21_bitCount 36 = .ok (.bipush 8, 2) := by decide +kernel
theorem dJ21_bitCount_38 : decode cJ21_bitCount 38 = .ok (.lushr, 1) := by decide +kernel
theorem dJ21_bitCount_39 : decode cJ21_bitCount 39 = .ok (.ladd, 1) := by decide +kernel
theorem dJ21_bitCount_40 : decode cJ21_bitCount 40 = .ok (.lstore_n 0, 1) := by decide +kernel
theorem dJ21_bitCount_41 : decode cJ21_bitCount 41 = .ok (.lload_n 0, 1) := by decide +kernel
theorem dJ21_bitCount_42 : decode cJ21_bitCount 42 = .ok (.lload_n 0, 1) := by decide +kernel
theorem dJ21_bitCount_43 : decode cJ21_bitCount 43 = .ok (.bipush 16, 2) := by decide +kernel
theorem dJ21_bitCount_45 : decode cJ21_bitCount 45 = .ok (.lushr, 1) := by decide +kernel
theorem dJ21_bitCount_46 : decode cJ21_bitCount 46 = .ok (.ladd, 1) := by decide +kernel
theorem dJ21_bitCount_47 : decode cJ21_bitCount 47 = .ok (.lstore_n 0, 1) := by decide +kernel
theorem dJ21_bitCount_48 : decode cJ21_bitCount 48 = .ok (.lload_n 0, 1) := by decide +kernel
theorem dJ21_bitCount_49 : decode cJ21_bitCount 49 = .ok (.lload_n 0, 1) := by decide +kernel
theorem dJ21_bitCount_50 : decode cJ21_bitCount 50 = .ok (.bipush 32, 2) := by decide +kernel
theorem dJ21_bitCount_52 : decode cJ21_bitCount 52 = .ok (.lushr, 1) := by decide +kernel
theorem dJ21_bitCount_53 : decode cJ21_bitCount 53 = .ok (.ladd, 1) := by decide +kernel
theorem dJ21_bitCount_54 : decode cJ21_bitCount 54 = .ok (.lstore_n 0, 1) := by decide +kernel
theorem dJ21_bitCount_55 : decode cJ21_bitCount 55 = .ok (.lload_n 0, 1) := by decide +kernel
theorem dJ21_bitCount_56 : decode cJ21_bitCount 56 = .ok (.l2i, 1) := by decide +kernel
theorem dJ21_bitCount_57 : decode cJ21_bitCount 57 = .ok (.bipush 127, 2) := by decide +kernel
theorem dJ21_bitCount_59 : decode cJ21_bitCount 59 = .ok (.iand, 1) := by decide +kernel
theorem dJ21_bitCount_60 : decode cJ21_bitCount 60 = .ok (.ireturn, 1) := by decide +kernel
theorem dJ3_numberOfTrailingZeros_0 : decode cJ3_numberOfTrailingZeros 0 = .ok (.iload_n 0, 1) := by decide +kernel
theorem dJ3_numberOfTrailingZeros_1 : decode cJ3_numberOfTrailingZeros 1 = .ok (.iconst (-1), 1) := by decide +kernel
theorem dJ3_numberOfTrailingZeros_2 : decode cJ3_numberOfTrailingZeros 2 = .ok (.ixor, 1) := by decide +kernel
theorem dJ3_numberOfTrailingZeros_3 : decode cJ3_numberOfTrailingZeros 3 = .ok (.iload_n 0, 1) := by decide +kernel
theorem dJ3_numberOfTrailingZeros_4 : decode cJ3_numberOfTrailingZeros 4 = .ok (.iconst 1, 1) := by decide +kernel
theorem dJ3_numberOfTrailingZeros_5 : decode cJ3_numberOfTrailingZeros 5 = .ok (.isub, 1) := by decide +kernel
theorem dJ3_numberOfTrailingZeros_6 : decode cJ3_numberOfTrailingZeros 6 = .ok (.iand, 1) := by decide +kernel
theorem dJ3_numberOfTrailingZeros_7 : decode cJ3_numberOfTrailingZeros 7 = .ok (.istore_n 0, 1) := by decide +kernel
theorem dJ3_numberOfTrailingZeros_8 : decode cJ3_numberOfTrailingZeros 8 = .ok (.iload_n 0, 1) := by decide +kernel
theorem dJ3_numberOfTrailingZeros_9 : decode cJ3_numberOfTrailingZeros 9 = .ok (.ifCond .gt 8, 3) := by decide +kernel
theorem dJ3_numberOfTrailingZeros_12 : decode cJ3_numberOfTrailingZeros 12 = .ok (.iload_n 0, 1) := by decide +kernel
theorem dJ3_numberOfTrailingZeros_13 : decode cJ3_numberOfTrailingZeros 13 = .ok (.bipush 32, 2) := by decide +kernel
theorem dJ3_numberOfTrailingZeros_15 : decode cJ3_numberOfTrailingZeros 15 = .ok (.iand, 1) := by decide +kernel
theorem dJ3_numberOfTrailingZeros_16 : decode cJ3_numberOfTrailingZeros 16 = .ok (.ireturn, 1) := by decide +kernel
theorem dJ3_numberOfTrailingZeros_17 : decode cJ3_numberOfTrailingZeros 17 = .ok (.iconst 1, 1) := by decide +kernel
theorem dJ3_numberOfTrailingZeros_18 : decode cJ3_numberOfTrailingZeros 18 = .ok (.istore_n 1, 1) := by decide +kernel
theorem dJ3_numberOfTrailingZeros_19 : decode cJ3_numberOfTrailingZeros 19 = .ok (.iload_n 0, 1) := by decide +kernel
theorem dJ3_numberOfTrailingZeros_20 : decode cJ3_numberOfTrailingZeros 20 = .ok (.ldc_w 264, 3) := by decide +kernel
theorem dJ3_numberOfTrailingZeros_23 : decode cJ3_numberOfTrailingZeros 23 = .ok (.if_icmp .le 11, 3) := by decide +kernel
theorem dJ3_numberOfTrailingZeros_26 : decode cJ3_numberOfTrailingZeros 26 = .ok (.iinc 1 16, 3) := by decide +kernel
theorem dJ3_numberOfTrailingZeros_29 : decode cJ3_numberOfTrailingZeros 29 = .ok (.iload_n 0, 1) := by decide +kernel
theorem dJ3_numberOfTrailingZeros_30 : decode cJ3_numberOfTrailingZeros 30 = .ok (.bipush 16, 2) := by decide +kernel
theorem dJ3_numberOfTrailingZeros_32 : decode cJ3_numberOfTrailingZeros 32 = .ok (.iushr, 1) := by decide +kernel
theorem dJ3_numberOfTrailingZeros_33 : decode cJ3_numberOfTrailingZeros 33 = .ok (.istore_n 0, 1) := by decide +kernel
theorem dJ3_numberOfTrailingZeros_34 : decode cJ3_numberOfTrailingZeros 34 = .ok (.iload_n 0, 1) := by decide +kernel
theorem dJ3_numberOfTrailingZeros_35 : decode cJ3_numberOfTrailingZeros 35 = .ok (.sipush 256, 3) := by decide +kernel
theorem dJ3_numberOfTrailingZeros_38 : decode cJ3_numberOfTrailingZeros 38 = .ok (.if_icmp .le 11, 3) := by decide +kernel
theorem dJ3_numberOfTrailingZeros_41 : decode cJ3_numberOfTrailingZeros 41 = .ok (.iinc 1 8, 3) := by decide +kernel
theorem dJ3_numberOfTrailingZeros_44 : decode cJ3_numberOfTrailingZeros 44 = .ok (.iload_n 0, 1) := by decide +kernel
theorem dJ3_numberOfTrailingZeros_45 : decode cJ3_numberOfTrailingZeros 45 = .ok (.bipush 8, 2) := by decide +kernel
theorem dJ3_numberOfTrailingZeros_47 : decode cJ3_numberOfTrailingZeros 47 = .ok (.iushr, 1) := by decide +kernel
theorem dJ3_numberOfTrailingZeros_48 : decode cJ3_numberOfTrailingZeros 48 = .ok (.istore_n 0, 1) := by decide +kernel
theorem dJ3_numberOfTrailingZeros_49 : decode cJ3_numberOfTrailingZeros 49 = .ok (.iload_n 0, 1) := by decide +kernel
theorem dJ3_numberOfTrailingZeros_50 : decode cJ3_numberOfTrailingZeros 50 = .ok (.bipush 16, 2) := by decide +kernel
theorem dJ3_numberOfTrailingZeros_52 : decode cJ3_numberOfTrailingZeros 52 = .ok (.if_icmp .le 10, 3) := by decide +kernel
theorem dJ3_numberOfTrailingZeros_55 : decode cJ3_numberOfTrailingZeros 55 = .ok (.iinc 1 4, 3) := by decide +kernel
theorem dJ3_numberOfTrailingZeros_58 : decode cJ3_numberOfTrailingZeros 58 = .ok (.iload_n 0, 1) := by decide +kernel
theorem dJ3_numberOfTrailingZeros_59 : decode cJ3_numberOfTrailingZeros 59 = .ok (.iconst 4, 1) := by decide +kernel
theorem dJ3_numberOfTrailingZeros_60 : decode cJ3_numberOfTrailingZeros 60 = .ok (.iushr, 1) := by decide +kernel
theorem dJ3_numberOfTrailingZeros_61 : decode cJ3_numberOfTrailingZeros 61 = .ok (.istore_n 0, 1) := by decide +kernel
theorem dJ3_numberOfTrailingZeros_62 : decode cJ3_numberOfTrailingZeros 62 = .ok (.iload_n 0, 1) := by decide +kernel
theorem dJ3_numberOfTrailingZeros_63 : decode cJ3_numberOfTrailingZeros 63 = .ok (.iconst 4, 1) := by decide +kernel
theorem dJ3_numberOfTrailingZeros_64 : decode cJ3_numberOfTrailingZeros 64 = .ok (.if_icmp .le 10, 3) := by decide +kernel
theorem dJ3_numberOfTrailingZeros_67 : decode cJ3_numberOfTrailingZeros 67 = .ok (.iinc 1 2, 3) := by decide +kernel
theorem dJ3_numberOfTrailingZeros_70 : decode cJ3_numberOfTrailingZeros 70 = .ok (.iload_n 0, 1) := by decide +kernel
theorem dJ3_numberOfTrailingZeros_71 : decode cJ3_numberOfTrailingZeros 71 = .ok (.iconst 2, 1) := by decide +kernel
theorem dJ3_numberOfTrailingZeros_72 : decode cJ3_numberOfTrailingZeros 72 = .ok (.iushr, 1) := by decide +kernel
theorem dJ3_numberOfTrailingZeros_73 : decode cJ3_numberOfTrailingZeros 73 = .ok (.istore_n 0, 1) := by decide +kernel
theorem dJ3_numberOfTrailingZeros_74 : decode cJ3_numberOfTrailingZeros 74 = .ok (.iload_n 1, 1) := by decide +kernel
theorem dJ3_numberOfTrailingZeros_75 : decode cJ3_numberOfTrailingZeros 75 = .ok (.iload_n 0, 1) := by decide +kernel
theorem dJ3_numberOfTrailingZeros_76 : decode cJ3_numberOfTrailingZeros 76 = .ok (.iconst 1, 1) := by decide +kernel
theorem dJ3_numberOfTrailingZeros_77 : decode cJ3_numberOfTrailingZeros 77 = .ok (.iushr, 1) := by decide +kernel
theorem dJ3_numberOfTrailingZeros_78 : decode cJ3_numberOfTrailingZeros 78 = .ok (.iadd, 1) := by decide +kernel
theorem dJ3_numberOfTrailingZeros_79 : decode cJ3_numberOfTrailingZeros 79 = .ok (.ireturn, 1) := by decide +kernel
theorem q480 : (Jvm.Cond.initialized "java/util/AbstractCollection") ∈ lw_all := lw_g (lw_at lw_m1 2 rfl) rfl
theorem q481 : (Jvm.Cond.initialized "java/util/AbstractList") ∈ lw_all := lw_g (lw_at lw_m1 3 rfl) rfl
theorem q482 : (Jvm.Cond.initialized "java/util/ArrayList") ∈ lw_all := lw_g (lw_at lw_m1 4 rfl) rfl
theorem q512 : (Jvm.Cond.initialized "KnowHouse$RightDesk") ∈ lw_all := lw_g (lw_at lw_m1 34 rfl) rfl
theorem q513 : (Jvm.Cond.initialized "KnowHouse$RightDesk$Ask") ∈ lw_all := lw_g (lw_at lw_m1 35 rfl) rfl
theorem q514 : (Jvm.Cond.initialized "java/util/BitSet") ∈ lw_all := lw_g (lw_at lw_m1 36 rfl) rfl
theorem q537 : (Jvm.Cond.initialized "java/util/Arrays") ∈ lw_all := lw_g (lw_at lw_m1 59 rfl) rfl
theorem q538 : (Jvm.Cond.initialized "jdk/internal/util/ArraysSupport") ∈ lw_all := lw_g (lw_at lw_m1 60 rfl) rfl
theorem q553 : (Jvm.Cond.initialized "java/util/Objects") ∈ lw_all := lw_g (lw_at lw_m1 75 rfl) rfl
theorem q583 : (Jvm.Cond.initialized "KnowHouse$RightDesk$Is") ∈ lw_all := lw_g (lw_at lw_m1 105 rfl) rfl
theorem q584 : (Jvm.Cond.initialized "KnowHouse$RightDesk$Versions") ∈ lw_all := lw_g (lw_at lw_m1 106 rfl) rfl
theorem q585 : (Jvm.Cond.initialized "KnowHouse$RightDesk$Not") ∈ lw_all := lw_g (lw_at lw_m1 107 rfl) rfl
theorem q586 : (Jvm.Cond.initialized "KnowHouse$RightDesk$Some") ∈ lw_all := lw_g (lw_at lw_m1 108 rfl) rfl
theorem q587 : (Jvm.Cond.initialized "KnowHouse$RightDesk$Always") ∈ lw_all := lw_g (lw_at lw_m1 109 rfl) rfl
theorem q588 : (Jvm.Cond.initialized "KnowHouse$RightDesk$Rule") ∈ lw_all := lw_g (lw_at lw_m1 110 rfl) rfl
theorem q605 : (Jvm.Cond.instantiable "java/util/ArrayList" (3 : Nat)) ∈ lw_all := lw_g (lw_at lw_m1 127 rfl) rfl
theorem q607 : (Jvm.Cond.instanceMethod ({ cls := "java/util/ArrayList", name := "<init>", desc := "()V" } : Jvm.MethodName)) ∈ lw_all := lw_g (lw_at lw_m1 129 rfl) rfl
theorem q608 : (Jvm.Cond.code ({ cls := "java/util/ArrayList", name := "<init>", desc := "()V" } : Jvm.MethodName) prog_122_method_2_code (1 : Nat) (Option.none : Option Jvm.ClassFile.FieldType)) ∈ lw_all := lw_g (lw_at lw_m1 130 rfl) rfl
theorem q609 : (Jvm.Cond.methodLink "java/util/ArrayList" (1 : Nat) ({ cls := "java/util/AbstractList", name := "<init>", desc := "()V" } : Jvm.MethodName)) ∈ lw_all := lw_g (lw_at lw_m1 131 rfl) rfl
theorem q610 : (Jvm.Cond.instanceMethod ({ cls := "java/util/AbstractList", name := "<init>", desc := "()V" } : Jvm.MethodName)) ∈ lw_all := lw_g (lw_at lw_m1 132 rfl) rfl
theorem q611 : (Jvm.Cond.code ({ cls := "java/util/AbstractList", name := "<init>", desc := "()V" } : Jvm.MethodName) prog_119_method_1_code (1 : Nat) (Option.none : Option Jvm.ClassFile.FieldType)) ∈ lw_all := lw_g (lw_at lw_m1 133 rfl) rfl
theorem q612 : (Jvm.Cond.methodLink "java/util/AbstractList" (1 : Nat) ({ cls := "java/util/AbstractCollection", name := "<init>", desc := "()V" } : Jvm.MethodName)) ∈ lw_all := lw_g (lw_at lw_m1 134 rfl) rfl
theorem q613 : (Jvm.Cond.instanceMethod ({ cls := "java/util/AbstractCollection", name := "<init>", desc := "()V" } : Jvm.MethodName)) ∈ lw_all := lw_g (lw_at lw_m1 135 rfl) rfl
theorem q614 : (Jvm.Cond.code ({ cls := "java/util/AbstractCollection", name := "<init>", desc := "()V" } : Jvm.MethodName) prog_118_method_1_code (1 : Nat) (Option.none : Option Jvm.ClassFile.FieldType)) ∈ lw_all := lw_g (lw_at lw_m1 136 rfl) rfl
theorem q615 : (Jvm.Cond.methodLink "java/util/AbstractCollection" (1 : Nat) ({ cls := "java/lang/Object", name := "<init>", desc := "()V" } : Jvm.MethodName)) ∈ lw_all := lw_g (lw_at lw_m1 137 rfl) rfl
theorem q616 : (Jvm.Cond.fieldLink "java/util/ArrayList" (39 : Nat) "java/util/ArrayList" "DEFAULTCAPACITY_EMPTY_ELEMENTDATA" "[Ljava/lang/Object;") ∈ lw_all := lw_g (lw_at lw_m1 138 rfl) rfl
theorem q618 : (Jvm.Cond.fieldLink "java/util/ArrayList" (9 : Nat) "java/util/ArrayList" "elementData" "[Ljava/lang/Object;") ∈ lw_all := lw_g (lw_at lw_m1 140 rfl) rfl
theorem q621 : (Jvm.Cond.fieldLink "java/util/ArrayList" (48 : Nat) "java/util/ArrayList" "size" "I") ∈ lw_all := lw_g (lw_at lw_m1 143 rfl) rfl
theorem q622 : (Jvm.Cond.fieldLink "java/util/AbstractList" (7 : Nat) "java/util/AbstractList" "modCount" "I") ∈ lw_all := lw_g (lw_at lw_m1 144 rfl) rfl
theorem q624 : (Jvm.Cond.sameField "java/util/ArrayList" "java/util/AbstractList" "modCount" "I") ∈ lw_all := lw_g (lw_at lw_m1 146 rfl) rfl
theorem q625 : (Jvm.Cond.fieldLink "java/util/ArrayList" (63 : Nat) "java/util/ArrayList" "modCount" "I") ∈ lw_all := lw_g (lw_at lw_m1 147 rfl) rfl
theorem q1243 : (Jvm.Cond.methodLink "KnowHouse$RightDesk" (9 : Nat) ({ cls := "java/lang/Object", name := "<init>", desc := "()V" } : Jvm.MethodName)) ∈ lw_all := lw_g (lw_at lw_m4 45 rfl) rfl
theorem q1244 : (Jvm.Cond.classLink "KnowHouse$RightDesk" (19 : Nat) "java/util/ArrayList") ∈ lw_all := lw_g (lw_at lw_m4 46 rfl) rfl
theorem q1245 : (Jvm.Cond.methodLink "KnowHouse$RightDesk" (21 : Nat) ({ cls := "java/util/ArrayList", name := "<init>", desc := "()V" } : Jvm.MethodName)) ∈ lw_all := lw_g (lw_at lw_m4 47 rfl) rfl
theorem q1246 : (Jvm.Cond.methodLink "KnowHouse$RightDesk" (36 : Nat) ({ cls := "KnowHouse$RightDesk", name := "makeAsks", desc := "()[LKnowHouse$RightDesk$Ask;" } : Jvm.MethodName)) ∈ lw_all := lw_g (lw_at lw_m4 48 rfl) rfl
theorem q1247 : (Jvm.Cond.static ({ cls := "KnowHouse$RightDesk", name := "makeAsks", desc := "()[LKnowHouse$RightDesk$Ask;" } : Jvm.MethodName)) ∈ lw_all := lw_g (lw_at lw_m4 49 rfl) rfl
theorem q1248 : (Jvm.Cond.code ({ cls := "KnowHouse$RightDesk", name := "makeAsks", desc := "()[LKnowHouse$RightDesk$Ask;" } : Jvm.MethodName) prog_49_method_2_code (2 : Nat) (Option.some (Jvm.ClassFile.FieldType.array (Jvm.ClassFile.FieldType.object "KnowHouse$RightDesk$Ask")))) ∈ lw_all := lw_g (lw_at lw_m4 50 rfl) rfl
theorem q1249 : (Jvm.Cond.classLink "KnowHouse$RightDesk" (3 : Nat) "KnowHouse$RightDesk$Ask") ∈ lw_all := lw_g (lw_at lw_m4 51 rfl) rfl
theorem q1250 : (Jvm.Cond.arrayOver (Jvm.ClassFile.FieldType.object "KnowHouse$RightDesk$Ask")) ∈ lw_tbl := lw_at lw_m4 52 rfl
theorem q1251 : (Jvm.Cond.methodLink "KnowHouse$RightDesk" (5 : Nat) ({ cls := "KnowHouse$RightDesk$Ask", name := "of", desc := "(I)LKnowHouse$RightDesk$Ask;" } : Jvm.MethodName)) ∈ lw_all := lw_g (lw_at lw_m4 53 rfl) rfl
theorem q1252 : (Jvm.Cond.static ({ cls := "KnowHouse$RightDesk$Ask", name := "of", desc := "(I)LKnowHouse$RightDesk$Ask;" } : Jvm.MethodName)) ∈ lw_all := lw_g (lw_at lw_m4 54 rfl) rfl
theorem q1253 : (Jvm.Cond.code ({ cls := "KnowHouse$RightDesk$Ask", name := "of", desc := "(I)LKnowHouse$RightDesk$Ask;" } : Jvm.MethodName) prog_51_method_2_code (5 : Nat) (Option.some (Jvm.ClassFile.FieldType.object "KnowHouse$RightDesk$Ask"))) ∈ lw_all := lw_g (lw_at lw_m4 55 rfl) rfl
theorem q1254 : (Jvm.Cond.classLink "KnowHouse$RightDesk$Ask" (10 : Nat) "KnowHouse$RightDesk$Ask") ∈ lw_all := lw_g (lw_at lw_m4 56 rfl) rfl
theorem q1255 : (Jvm.Cond.instantiable "KnowHouse$RightDesk$Ask" (5 : Nat)) ∈ lw_all := lw_g (lw_at lw_m4 57 rfl) rfl
theorem q1256 : (Jvm.Cond.methodLink "KnowHouse$RightDesk$Ask" (27 : Nat) ({ cls := "KnowHouse$RightDesk$Ask", name := "<init>", desc := "(IIIII)V" } : Jvm.MethodName)) ∈ lw_all := lw_g (lw_at lw_m4 58 rfl) rfl
theorem q1257 : (Jvm.Cond.instanceMethod ({ cls := "KnowHouse$RightDesk$Ask", name := "<init>", desc := "(IIIII)V" } : Jvm.MethodName)) ∈ lw_all := lw_g (lw_at lw_m4 59 rfl) rfl
theorem q1258 : (Jvm.Cond.code ({ cls := "KnowHouse$RightDesk$Ask", name := "<init>", desc := "(IIIII)V" } : Jvm.MethodName) prog_51_method_1_code (6 : Nat) (Option.none : Option Jvm.ClassFile.FieldType)) ∈ lw_all := lw_g (lw_at lw_m4 60 rfl) rfl
theorem q1259 : (Jvm.Cond.methodLink "KnowHouse$RightDesk$Ask" (3 : Nat) ({ cls := "java/lang/Object", name := "<init>", desc := "()V" } : Jvm.MethodName)) ∈ lw_all := lw_g (lw_at lw_m4 61 rfl) rfl
theorem q1260 : (Jvm.Cond.fieldLink "KnowHouse$RightDesk$Ask" (9 : Nat) "KnowHouse$RightDesk$Ask" "person" "I") ∈ lw_all := lw_g (lw_at lw_m4 62 rfl) rfl
theorem q1261 : (Jvm.Cond.fieldLinkNest "KnowHouse$RightDesk$Is" (20 : Nat) "KnowHouse$RightDesk$Ask" "person" "I" "KnowHouse") ∈ lw_tbl := lw_at lw_m4 63 rfl
theorem q1262 : (Jvm.Cond.fieldLink "KnowHouse$RightDesk$Ask" (15 : Nat) "KnowHouse$RightDesk$Ask" "graph" "I") ∈ lw_all := lw_g (lw_at lw_m4 64 rfl) rfl
theorem q1263 : (Jvm.Cond.fieldLinkNest "KnowHouse$RightDesk$Is" (25 : Nat) "KnowHouse$RightDesk$Ask" "graph" "I" "KnowHouse") ∈ lw_tbl := lw_at lw_m4 65 rfl
theorem q1264 : (Jvm.Cond.fieldLink "KnowHouse$RightDesk$Ask" (18 : Nat) "KnowHouse$RightDesk$Ask" "predicate" "I") ∈ lw_all := lw_g (lw_at lw_m4 66 rfl) rfl
theorem q1265 : (Jvm.Cond.fieldLinkNest "KnowHouse$RightDesk$Is" (28 : Nat) "KnowHouse$RightDesk$Ask" "predicate" "I" "KnowHouse") ∈ lw_tbl := lw_at lw_m4 67 rfl
theorem q1266 : (Jvm.Cond.fieldLink "KnowHouse$RightDesk$Ask" (21 : Nat) "KnowHouse$RightDesk$Ask" "class0" "I") ∈ lw_all := lw_g (lw_at lw_m4 68 rfl) rfl
theorem q1267 : (Jvm.Cond.fieldLinkNest "KnowHouse$RightDesk$Is" (31 : Nat) "KnowHouse$RightDesk$Ask" "class0" "I" "KnowHouse") ∈ lw_tbl := lw_at lw_m4 69 rfl
theorem q1268 : (Jvm.Cond.fieldLink "KnowHouse$RightDesk$Ask" (24 : Nat) "KnowHouse$RightDesk$Ask" "version" "I") ∈ lw_all := lw_g (lw_at lw_m4 70 rfl) rfl
theorem q1269 : (Jvm.Cond.fieldLinkNest "KnowHouse$RightDesk$Versions" (16 : Nat) "KnowHouse$RightDesk$Ask" "version" "I" "KnowHouse") ∈ lw_tbl := lw_at lw_m4 71 rfl
theorem q1270 : (Jvm.Cond.fieldLinkNest "KnowHouse$RightDesk" (204 : Nat) "KnowHouse$RightDesk$Ask" "version" "I" "KnowHouse") ∈ lw_tbl := lw_at lw_m4 72 rfl
theorem q1282 : (Jvm.Cond.classLink "KnowHouse$RightDesk" (44 : Nat) "java/util/BitSet") ∈ lw_all := lw_g (lw_at lw_m4 84 rfl) rfl
theorem q1283 : (Jvm.Cond.instantiable "java/util/BitSet" (3 : Nat)) ∈ lw_all := lw_g (lw_at lw_m4 85 rfl) rfl
theorem q1284 : (Jvm.Cond.methodLink "KnowHouse$RightDesk" (46 : Nat) ({ cls := "java/util/BitSet", name := "<init>", desc := "(I)V" } : Jvm.MethodName)) ∈ lw_all := lw_g (lw_at lw_m4 86 rfl) rfl
theorem q1285 : (Jvm.Cond.instanceMethod ({ cls := "java/util/BitSet", name := "<init>", desc := "(I)V" } : Jvm.MethodName)) ∈ lw_all := lw_g (lw_at lw_m4 87 rfl) rfl
theorem q1286 : (Jvm.Cond.code ({ cls := "java/util/BitSet", name := "<init>", desc := "(I)V" } : Jvm.MethodName) prog_125_method_5_code (2 : Nat) (Option.none : Option Jvm.ClassFile.FieldType)) ∈ lw_all := lw_g (lw_at lw_m4 88 rfl) rfl
theorem q1287 : (Jvm.Cond.methodLink "java/util/BitSet" (21 : Nat) ({ cls := "java/lang/Object", name := "<init>", desc := "()V" } : Jvm.MethodName)) ∈ lw_all := lw_g (lw_at lw_m4 89 rfl) rfl
theorem q1288 : (Jvm.Cond.methodLink "java/util/BitSet" (27 : Nat) ({ cls := "java/util/BitSet", name := "initWords", desc := "(I)V" } : Jvm.MethodName)) ∈ lw_all := lw_g (lw_at lw_m4 90 rfl) rfl
theorem q1290 : (Jvm.Cond.instanceMethod ({ cls := "java/util/BitSet", name := "initWords", desc := "(I)V" } : Jvm.MethodName)) ∈ lw_all := lw_g (lw_at lw_m4 92 rfl) rfl
theorem q1291 : (Jvm.Cond.code ({ cls := "java/util/BitSet", name := "initWords", desc := "(I)V" } : Jvm.MethodName) prog_125_method_6_code (2 : Nat) (Option.none : Option Jvm.ClassFile.FieldType)) ∈ lw_all := lw_g (lw_at lw_m4 93 rfl) rfl
theorem q1292 : (Jvm.Cond.methodLink "java/util/BitSet" (52 : Nat) ({ cls := "java/util/BitSet", name := "wordIndex", desc := "(I)I" } : Jvm.MethodName)) ∈ lw_all := lw_g (lw_at lw_m4 94 rfl) rfl
theorem q1293 : (Jvm.Cond.static ({ cls := "java/util/BitSet", name := "wordIndex", desc := "(I)I" } : Jvm.MethodName)) ∈ lw_all := lw_g (lw_at lw_m4 95 rfl) rfl
theorem q1294 : (Jvm.Cond.code ({ cls := "java/util/BitSet", name := "wordIndex", desc := "(I)I" } : Jvm.MethodName) prog_125_method_1_code (1 : Nat) (Option.some Jvm.ClassFile.FieldType.int)) ∈ lw_all := lw_g (lw_at lw_m4 96 rfl) rfl
theorem q1295 : (Jvm.Cond.fieldLink "java/util/BitSet" (11 : Nat) "java/util/BitSet" "words" "[J") ∈ lw_all := lw_g (lw_at lw_m4 97 rfl) rfl
theorem q1296 : (Jvm.Cond.fieldLink "java/util/BitSet" (7 : Nat) "java/util/BitSet" "wordsInUse" "I") ∈ lw_all := lw_g (lw_at lw_m4 98 rfl) rfl
theorem q1297 : (Jvm.Cond.fieldLink "java/util/BitSet" (24 : Nat) "java/util/BitSet" "sizeIsSticky" "Z") ∈ lw_all := lw_g (lw_at lw_m4 99 rfl) rfl
theorem q1305 : (Jvm.Cond.fieldLink "KnowHouse$RightDesk" (15 : Nat) "KnowHouse$RightDesk" "groups" "[I") ∈ lw_all := lw_g (lw_at lw_m4 107 rfl) rfl
theorem q1306 : (Jvm.Cond.fieldLink "KnowHouse$RightDesk" (22 : Nat) "KnowHouse$RightDesk" "conditions" "Ljava/util/ArrayList;") ∈ lw_all := lw_g (lw_at lw_m4 108 rfl) rfl
theorem q1307 : (Jvm.Cond.fieldLink "KnowHouse$RightDesk" (26 : Nat) "KnowHouse$RightDesk" "rules" "Ljava/util/ArrayList;") ∈ lw_all := lw_g (lw_at lw_m4 109 rfl) rfl
theorem q1308 : (Jvm.Cond.fieldLink "KnowHouse$RightDesk" (29 : Nat) "KnowHouse$RightDesk" "sets" "Ljava/util/ArrayList;") ∈ lw_all := lw_g (lw_at lw_m4 110 rfl) rfl
theorem q1309 : (Jvm.Cond.fieldLink "KnowHouse$RightDesk" (72 : Nat) "KnowHouse$RightDesk" "right" "I") ∈ lw_all := lw_g (lw_at lw_m4 111 rfl) rfl
theorem q1310 : (Jvm.Cond.fieldLink "KnowHouse$RightDesk" (32 : Nat) "KnowHouse$RightDesk" "known" "[Z") ∈ lw_all := lw_g (lw_at lw_m4 112 rfl) rfl
theorem q1311 : (Jvm.Cond.fieldLink "KnowHouse$RightDesk" (40 : Nat) "KnowHouse$RightDesk" "asks" "[LKnowHouse$RightDesk$Ask;") ∈ lw_all := lw_g (lw_at lw_m4 113 rfl) rfl
theorem q1312 : (Jvm.Cond.fieldLink "KnowHouse$RightDesk" (49 : Nat) "KnowHouse$RightDesk" "done" "Ljava/util/BitSet;") ∈ lw_all := lw_g (lw_at lw_m4 114 rfl) rfl
theorem q1313 : (Jvm.Cond.fieldLink "KnowHouse$RightDesk" (53 : Nat) "KnowHouse$RightDesk" "more" "Ljava/util/BitSet;") ∈ lw_all := lw_g (lw_at lw_m4 115 rfl) rfl
theorem q1314 : (Jvm.Cond.fieldLink "KnowHouse$RightDesk" (56 : Nat) "KnowHouse$RightDesk" "its" "Ljava/util/BitSet;") ∈ lw_all := lw_g (lw_at lw_m4 116 rfl) rfl
theorem q1315 : (Jvm.Cond.fieldLink "KnowHouse$RightDesk" (59 : Nat) "KnowHouse$RightDesk" "allowed" "Ljava/util/BitSet;") ∈ lw_all := lw_g (lw_at lw_m4 117 rfl) rfl
theorem q1316 : (Jvm.Cond.fieldLink "KnowHouse$RightDesk" (62 : Nat) "KnowHouse$RightDesk" "other" "Ljava/util/BitSet;") ∈ lw_all := lw_g (lw_at lw_m4 118 rfl) rfl
theorem q1317 : (Jvm.Cond.fieldLink "KnowHouse$RightDesk" (65 : Nat) "KnowHouse$RightDesk" "order" "[I") ∈ lw_all := lw_g (lw_at lw_m4 119 rfl) rfl
theorem q1784 : (Jvm.Cond.arrayOver (Jvm.ClassFile.FieldType.object "java/lang/Object")) ∈ lw_tbl := lw_at lw_m6 106 rfl
theorem q1917 : (Jvm.Cond.static ({ cls := "java/util/Arrays", name := "copyOf", desc := "([Ljava/lang/Object;I)[Ljava/lang/Object;" } : Jvm.MethodName)) ∈ lw_all := lw_g (lw_at lw_m6 239 rfl) rfl
theorem q1918 : (Jvm.Cond.code ({ cls := "java/util/Arrays", name := "copyOf", desc := "([Ljava/lang/Object;I)[Ljava/lang/Object;" } : Jvm.MethodName) prog_124_method_119_code (2 : Nat) (Option.some (Jvm.ClassFile.FieldType.array (Jvm.ClassFile.FieldType.object "java/lang/Object")))) ∈ lw_all := lw_g (lw_at lw_m7 0 rfl) rfl
theorem q1919 : (Jvm.Cond.methodLink "java/util/Arrays" (86 : Nat) ({ cls := "java/lang/Object", name := "getClass", desc := "()Ljava/lang/Class;" } : Jvm.MethodName)) ∈ lw_all := lw_g (lw_at lw_m7 1 rfl) rfl
theorem q1920 : (Jvm.Cond.instanceMethod ({ cls := "java/lang/Object", name := "getClass", desc := "()Ljava/lang/Class;" } : Jvm.MethodName)) ∈ lw_all := lw_g (lw_at lw_m7 2 rfl) rfl
theorem q2012 : (Jvm.Cond.native ({ cls := "java/lang/Object", name := "getClass", desc := "()Ljava/lang/Class;" } : Jvm.MethodName)) ∈ lw_all := lw_g (lw_at lw_m7 94 rfl) rfl
theorem q2013 : (Jvm.Cond.methodLink "java/util/Arrays" (300 : Nat) ({ cls := "java/util/Arrays", name := "copyOf", desc := "([Ljava/lang/Object;ILjava/lang/Class;)[Ljava/lang/Object;" } : Jvm.MethodName)) ∈ lw_all := lw_g (lw_at lw_m7 95 rfl) rfl
theorem q2014 : (Jvm.Cond.static ({ cls := "java/util/Arrays", name := "copyOf", desc := "([Ljava/lang/Object;ILjava/lang/Class;)[Ljava/lang/Object;" } : Jvm.MethodName)) ∈ lw_all := lw_g (lw_at lw_m7 96 rfl) rfl
theorem q2015 : (Jvm.Cond.code ({ cls := "java/util/Arrays", name := "copyOf", desc := "([Ljava/lang/Object;ILjava/lang/Class;)[Ljava/lang/Object;" } : Jvm.MethodName) prog_124_method_120_code (4 : Nat) (Option.some (Jvm.ClassFile.FieldType.array (Jvm.ClassFile.FieldType.object "java/lang/Object")))) ∈ lw_all := lw_g (lw_at lw_m7 97 rfl) rfl
theorem q2016 : (Jvm.Cond.classLink "java/util/Arrays" (110 : Nat) "[Ljava/lang/Object;") ∈ lw_all := lw_g (lw_at lw_m7 98 rfl) rfl
theorem q2017 : (Jvm.Cond.classLink "java/util/Arrays" (2 : Nat) "java/lang/Object") ∈ lw_all := lw_g (lw_at lw_m7 99 rfl) rfl
theorem q2018 : (Jvm.Cond.methodLink "java/util/Arrays" (304 : Nat) ({ cls := "java/lang/Math", name := "min", desc := "(II)I" } : Jvm.MethodName)) ∈ lw_all := lw_g (lw_at lw_m7 100 rfl) rfl
theorem q2021 : (Jvm.Cond.methodLink "java/util/Arrays" (150 : Nat) ({ cls := "java/lang/System", name := "arraycopy", desc := "(Ljava/lang/Object;ILjava/lang/Object;II)V" } : Jvm.MethodName)) ∈ lw_all := lw_g (lw_at lw_m7 103 rfl) rfl
theorem q2060 : (Jvm.Cond.instanceMethod ({ cls := "java/util/ArrayList", name := "add", desc := "(Ljava/lang/Object;)Z" } : Jvm.MethodName)) ∈ lw_all := lw_g (lw_at lw_m7 142 rfl) rfl
theorem q2061 : (Jvm.Cond.selects "java/util/ArrayList" ({ cls := "java/util/ArrayList", name := "add", desc := "(Ljava/lang/Object;)Z" } : Jvm.MethodName) ({ cls := "java/util/ArrayList", name := "add", desc := "(Ljava/lang/Object;)Z" } : Jvm.MethodName)) ∈ lw_all := lw_g (lw_at lw_m7 143 rfl) rfl
theorem q2062 : (Jvm.Cond.code ({ cls := "java/util/ArrayList", name := "add", desc := "(Ljava/lang/Object;)Z" } : Jvm.MethodName) prog_122_method_25_code (2 : Nat) (Option.some Jvm.ClassFile.FieldType.boolean)) ∈ lw_all := lw_g (lw_at lw_m7 144 rfl) rfl
theorem q2063 : (Jvm.Cond.methodLink "java/util/ArrayList" (131 : Nat) ({ cls := "java/util/ArrayList", name := "add", desc := "(Ljava/lang/Object;[Ljava/lang/Object;I)V" } : Jvm.MethodName)) ∈ lw_all := lw_g (lw_at lw_m7 145 rfl) rfl
theorem q2065 : (Jvm.Cond.instanceMethod ({ cls := "java/util/ArrayList", name := "add", desc := "(Ljava/lang/Object;[Ljava/lang/Object;I)V" } : Jvm.MethodName)) ∈ lw_all := lw_g (lw_at lw_m7 147 rfl) rfl
theorem q2066 : (Jvm.Cond.code ({ cls := "java/util/ArrayList", name := "add", desc := "(Ljava/lang/Object;[Ljava/lang/Object;I)V" } : Jvm.MethodName) prog_122_method_24_code (4 : Nat) (Option.none : Option Jvm.ClassFile.FieldType)) ∈ lw_all := lw_g (lw_at lw_m7 148 rfl) rfl
theorem q2067 : (Jvm.Cond.methodLink "java/util/ArrayList" (129 : Nat) ({ cls := "java/util/ArrayList", name := "grow", desc := "()[Ljava/lang/Object;" } : Jvm.MethodName)) ∈ lw_all := lw_g (lw_at lw_m7 149 rfl) rfl
theorem q2069 : (Jvm.Cond.instanceMethod ({ cls := "java/util/ArrayList", name := "grow", desc := "()[Ljava/lang/Object;" } : Jvm.MethodName)) ∈ lw_all := lw_g (lw_at lw_m7 151 rfl) rfl
theorem q2070 : (Jvm.Cond.code ({ cls := "java/util/ArrayList", name := "grow", desc := "()[Ljava/lang/Object;" } : Jvm.MethodName) prog_122_method_7_code (1 : Nat) (Option.some (Jvm.ClassFile.FieldType.array (Jvm.ClassFile.FieldType.object "java/lang/Object")))) ∈ lw_all := lw_g (lw_at lw_m7 152 rfl) rfl
theorem q2071 : (Jvm.Cond.methodLink "java/util/ArrayList" (69 : Nat) ({ cls := "java/util/ArrayList", name := "grow", desc := "(I)[Ljava/lang/Object;" } : Jvm.MethodName)) ∈ lw_all := lw_g (lw_at lw_m7 153 rfl) rfl
theorem q2073 : (Jvm.Cond.instanceMethod ({ cls := "java/util/ArrayList", name := "grow", desc := "(I)[Ljava/lang/Object;" } : Jvm.MethodName)) ∈ lw_all := lw_g (lw_at lw_m7 155 rfl) rfl
theorem q2074 : (Jvm.Cond.code ({ cls := "java/util/ArrayList", name := "grow", desc := "(I)[Ljava/lang/Object;" } : Jvm.MethodName) prog_122_method_6_code (4 : Nat) (Option.some (Jvm.ClassFile.FieldType.array (Jvm.ClassFile.FieldType.object "java/lang/Object")))) ∈ lw_all := lw_g (lw_at lw_m7 156 rfl) rfl
theorem q2075 : (Jvm.Cond.methodLink "java/util/ArrayList" (73 : Nat) ({ cls := "jdk/internal/util/ArraysSupport", name := "newLength", desc := "(III)I" } : Jvm.MethodName)) ∈ lw_all := lw_g (lw_at lw_m7 157 rfl) rfl
theorem q2076 : (Jvm.Cond.static ({ cls := "jdk/internal/util/ArraysSupport", name := "newLength", desc := "(III)I" } : Jvm.MethodName)) ∈ lw_all := lw_g (lw_at lw_m7 158 rfl) rfl
theorem q2077 : (Jvm.Cond.code ({ cls := "jdk/internal/util/ArraysSupport", name := "newLength", desc := "(III)I" } : Jvm.MethodName) prog_134_method_27_code (4 : Nat) (Option.some Jvm.ClassFile.FieldType.int)) ∈ lw_all := lw_g (lw_at lw_m7 159 rfl) rfl
theorem q2078 : (Jvm.Cond.methodLink "jdk/internal/util/ArraysSupport" (194 : Nat) ({ cls := "java/lang/Math", name := "max", desc := "(II)I" } : Jvm.MethodName)) ∈ lw_all := lw_g (lw_at lw_m7 160 rfl) rfl
theorem q2081 : (Jvm.Cond.constant "jdk/internal/util/ArraysSupport" (200 : Nat) (2147483639 : Int32)) ∈ lw_all := lw_g (lw_at lw_m7 163 rfl) rfl
theorem q2082 : (Jvm.Cond.methodLink "jdk/internal/util/ArraysSupport" (201 : Nat) ({ cls := "jdk/internal/util/ArraysSupport", name := "hugeLength", desc := "(II)I" } : Jvm.MethodName)) ∈ lw_all := lw_g (lw_at lw_m7 164 rfl) rfl
theorem q2083 : (Jvm.Cond.static ({ cls := "jdk/internal/util/ArraysSupport", name := "hugeLength", desc := "(II)I" } : Jvm.MethodName)) ∈ lw_all := lw_g (lw_at lw_m7 165 rfl) rfl
theorem q2084 : (Jvm.Cond.code ({ cls := "jdk/internal/util/ArraysSupport", name := "hugeLength", desc := "(II)I" } : Jvm.MethodName) prog_134_method_28_code (3 : Nat) (Option.some Jvm.ClassFile.FieldType.int)) ∈ lw_all := lw_g (lw_at lw_m7 166 rfl) rfl
theorem q2085 : (Jvm.Cond.methodLink "java/util/ArrayList" (66 : Nat) ({ cls := "java/util/Arrays", name := "copyOf", desc := "([Ljava/lang/Object;I)[Ljava/lang/Object;" } : Jvm.MethodName)) ∈ lw_all := lw_g (lw_at lw_m7 167 rfl) rfl
theorem q2086 : (Jvm.Cond.methodLink "java/util/ArrayList" (79 : Nat) ({ cls := "java/lang/Math", name := "max", desc := "(II)I" } : Jvm.MethodName)) ∈ lw_all := lw_g (lw_at lw_m7 168 rfl) rfl
theorem q2087 : (Jvm.Cond.classLink "java/util/ArrayList" (7 : Nat) "java/lang/Object") ∈ lw_all := lw_g (lw_at lw_m7 169 rfl) rfl
theorem q2411 : (Jvm.Cond.instanceMethod ({ cls := "java/util/ArrayList", name := "size", desc := "()I" } : Jvm.MethodName)) ∈ lw_all := lw_g (lw_at lw_m9 13 rfl) rfl
theorem q2412 : (Jvm.Cond.selects "java/util/ArrayList" ({ cls := "java/util/ArrayList", name := "size", desc := "()I" } : Jvm.MethodName) ({ cls := "java/util/ArrayList", name := "size", desc := "()I" } : Jvm.MethodName)) ∈ lw_all := lw_g (lw_at lw_m9 14 rfl) rfl
theorem q2413 : (Jvm.Cond.code ({ cls := "java/util/ArrayList", name := "size", desc := "()I" } : Jvm.MethodName) prog_122_method_8_code (1 : Nat) (Option.some Jvm.ClassFile.FieldType.int)) ∈ lw_all := lw_g (lw_at lw_m9 15 rfl) rfl
theorem q2415 : (Jvm.Cond.instanceMethod ({ cls := "java/util/ArrayList", name := "get", desc := "(I)Ljava/lang/Object;" } : Jvm.MethodName)) ∈ lw_all := lw_g (lw_at lw_m9 17 rfl) rfl
theorem q2416 : (Jvm.Cond.selects "java/util/ArrayList" ({ cls := "java/util/ArrayList", name := "get", desc := "(I)Ljava/lang/Object;" } : Jvm.MethodName) ({ cls := "java/util/ArrayList", name := "get", desc := "(I)Ljava/lang/Object;" } : Jvm.MethodName)) ∈ lw_all := lw_g (lw_at lw_m9 18 rfl) rfl
theorem q2417 : (Jvm.Cond.code ({ cls := "java/util/ArrayList", name := "get", desc := "(I)Ljava/lang/Object;" } : Jvm.MethodName) prog_122_method_20_code (2 : Nat) (Option.some (Jvm.ClassFile.FieldType.object "java/lang/Object"))) ∈ lw_all := lw_g (lw_at lw_m9 19 rfl) rfl
theorem q2418 : (Jvm.Cond.methodLink "java/util/ArrayList" (118 : Nat) ({ cls := "java/util/Objects", name := "checkIndex", desc := "(II)I" } : Jvm.MethodName)) ∈ lw_all := lw_g (lw_at lw_m9 20 rfl) rfl
theorem q2419 : (Jvm.Cond.static ({ cls := "java/util/Objects", name := "checkIndex", desc := "(II)I" } : Jvm.MethodName)) ∈ lw_all := lw_g (lw_at lw_m9 21 rfl) rfl
theorem q2420 : (Jvm.Cond.code ({ cls := "java/util/Objects", name := "checkIndex", desc := "(II)I" } : Jvm.MethodName) prog_130_method_17_code (2 : Nat) (Option.some Jvm.ClassFile.FieldType.int)) ∈ lw_all := lw_g (lw_at lw_m9 22 rfl) rfl
theorem q2421 : (Jvm.Cond.methodLink "java/util/Objects" (105 : Nat) ({ cls := "jdk/internal/util/Preconditions", name := "checkIndex", desc := "(IILjava/util/function/BiFunction;)I" } : Jvm.MethodName)) ∈ lw_all := lw_g (lw_at lw_m9 23 rfl) rfl
theorem q2424 : (Jvm.Cond.methodLink "java/util/ArrayList" (123 : Nat) ({ cls := "java/util/ArrayList", name := "elementData", desc := "(I)Ljava/lang/Object;" } : Jvm.MethodName)) ∈ lw_all := lw_g (lw_at lw_m9 26 rfl) rfl
theorem q2425 : (Jvm.Cond.instanceMethod ({ cls := "java/util/ArrayList", name := "elementData", desc := "(I)Ljava/lang/Object;" } : Jvm.MethodName)) ∈ lw_all := lw_g (lw_at lw_m9 27 rfl) rfl
theorem q2426 : (Jvm.Cond.selects "java/util/ArrayList" ({ cls := "java/util/ArrayList", name := "elementData", desc := "(I)Ljava/lang/Object;" } : Jvm.MethodName) ({ cls := "java/util/ArrayList", name := "elementData", desc := "(I)Ljava/lang/Object;" } : Jvm.MethodName)) ∈ lw_all := lw_g (lw_at lw_m9 28 rfl) rfl
theorem q2427 : (Jvm.Cond.code ({ cls := "java/util/ArrayList", name := "elementData", desc := "(I)Ljava/lang/Object;" } : Jvm.MethodName) prog_122_method_18_code (2 : Nat) (Option.some (Jvm.ClassFile.FieldType.object "java/lang/Object"))) ∈ lw_all := lw_g (lw_at lw_m9 29 rfl) rfl
theorem q2529 : (Jvm.Cond.methodLink "KnowHouse$RightDesk" (151 : Nat) ({ cls := "KnowHouse$RightDesk$Ask", name := "<init>", desc := "(IIIII)V" } : Jvm.MethodName)) ∈ lw_all := lw_g (lw_at lw_m9 131 rfl) rfl
theorem q2530 : (Jvm.Cond.methodLink "KnowHouse$RightDesk" (154 : Nat) ({ cls := "KnowHouse$RightDesk$Ask", name := "isGood", desc := "()Z" } : Jvm.MethodName)) ∈ lw_all := lw_g (lw_at lw_m9 132 rfl) rfl
theorem q2531 : (Jvm.Cond.instanceMethod ({ cls := "KnowHouse$RightDesk$Ask", name := "isGood", desc := "()Z" } : Jvm.MethodName)) ∈ lw_all := lw_g (lw_at lw_m9 133 rfl) rfl
theorem q2532 : (Jvm.Cond.selects "KnowHouse$RightDesk$Ask" ({ cls := "KnowHouse$RightDesk$Ask", name := "isGood", desc := "()Z" } : Jvm.MethodName) ({ cls := "KnowHouse$RightDesk$Ask", name := "isGood", desc := "()Z" } : Jvm.MethodName)) ∈ lw_all := lw_g (lw_at lw_m9 134 rfl) rfl
theorem q2533 : (Jvm.Cond.code ({ cls := "KnowHouse$RightDesk$Ask", name := "isGood", desc := "()Z" } : Jvm.MethodName) prog_51_method_4_code (1 : Nat) (Option.some Jvm.ClassFile.FieldType.boolean)) ∈ lw_all := lw_g (lw_at lw_m9 135 rfl) rfl
theorem q2534 : (Jvm.Cond.methodLinkNest "KnowHouse$RightDesk$Ask" (30 : Nat) ({ cls := "KnowHouse$RightDesk", name := "isIn", desc := "(II)Z" } : Jvm.MethodName) "KnowHouse") ∈ lw_tbl := lw_at lw_m9 136 rfl
theorem q2535 : (Jvm.Cond.static ({ cls := "KnowHouse$RightDesk", name := "isIn", desc := "(II)Z" } : Jvm.MethodName)) ∈ lw_all := lw_g (lw_at lw_m9 137 rfl) rfl
theorem q2536 : (Jvm.Cond.code ({ cls := "KnowHouse$RightDesk", name := "isIn", desc := "(II)Z" } : Jvm.MethodName) prog_49_method_1_code (2 : Nat) (Option.some Jvm.ClassFile.FieldType.boolean)) ∈ lw_all := lw_g (lw_at lw_m9 138 rfl) rfl
theorem q2537 : (Jvm.Cond.methodLink "KnowHouse$RightDesk" (158 : Nat) ({ cls := "KnowHouse$RightDesk$Ask", name := "number", desc := "()I" } : Jvm.MethodName)) ∈ lw_all := lw_g (lw_at lw_m9 139 rfl) rfl
theorem q2538 : (Jvm.Cond.instanceMethod ({ cls := "KnowHouse$RightDesk$Ask", name := "number", desc := "()I" } : Jvm.MethodName)) ∈ lw_all := lw_g (lw_at lw_m9 140 rfl) rfl
theorem q2539 : (Jvm.Cond.selects "KnowHouse$RightDesk$Ask" ({ cls := "KnowHouse$RightDesk$Ask", name := "number", desc := "()I" } : Jvm.MethodName) ({ cls := "KnowHouse$RightDesk$Ask", name := "number", desc := "()I" } : Jvm.MethodName)) ∈ lw_all := lw_g (lw_at lw_m9 141 rfl) rfl
theorem q2540 : (Jvm.Cond.code ({ cls := "KnowHouse$RightDesk$Ask", name := "number", desc := "()I" } : Jvm.MethodName) prog_51_method_3_code (1 : Nat) (Option.some Jvm.ClassFile.FieldType.int)) ∈ lw_all := lw_g (lw_at lw_m9 142 rfl) rfl
theorem q2541 : (Jvm.Cond.methodLink "KnowHouse$RightDesk" (161 : Nat) ({ cls := "KnowHouse$RightDesk", name := "deciding", desc := "(LKnowHouse$RightDesk$Ask;)I" } : Jvm.MethodName)) ∈ lw_all := lw_g (lw_at lw_m9 143 rfl) rfl
theorem q2543 : (Jvm.Cond.instanceMethod ({ cls := "KnowHouse$RightDesk", name := "deciding", desc := "(LKnowHouse$RightDesk$Ask;)I" } : Jvm.MethodName)) ∈ lw_all := lw_g (lw_at lw_m9 145 rfl) rfl
theorem q2544 : (Jvm.Cond.code ({ cls := "KnowHouse$RightDesk", name := "deciding", desc := "(LKnowHouse$RightDesk$Ask;)I" } : Jvm.MethodName) prog_49_method_13_code (4 : Nat) (Option.some Jvm.ClassFile.FieldType.int)) ∈ lw_all := lw_g (lw_at lw_m9 146 rfl) rfl
theorem q2545 : (Jvm.Cond.methodLink "KnowHouse$RightDesk" (134 : Nat) ({ cls := "KnowHouse$RightDesk", name := "know", desc := "(LKnowHouse$RightDesk$Ask;)V" } : Jvm.MethodName)) ∈ lw_all := lw_g (lw_at lw_m9 147 rfl) rfl
theorem q2547 : (Jvm.Cond.instanceMethod ({ cls := "KnowHouse$RightDesk", name := "know", desc := "(LKnowHouse$RightDesk$Ask;)V" } : Jvm.MethodName)) ∈ lw_all := lw_g (lw_at lw_m9 149 rfl) rfl
theorem q2548 : (Jvm.Cond.code ({ cls := "KnowHouse$RightDesk", name := "know", desc := "(LKnowHouse$RightDesk$Ask;)V" } : Jvm.MethodName) prog_49_method_12_code (3 : Nat) (Option.none : Option Jvm.ClassFile.FieldType)) ∈ lw_all := lw_g (lw_at lw_m9 150 rfl) rfl
theorem q2549 : (Jvm.Cond.methodLink "KnowHouse$RightDesk" (76 : Nat) ({ cls := "java/util/ArrayList", name := "size", desc := "()I" } : Jvm.MethodName)) ∈ lw_all := lw_g (lw_at lw_m9 151 rfl) rfl
theorem q2550 : (Jvm.Cond.methodLink "KnowHouse$RightDesk" (125 : Nat) ({ cls := "java/util/ArrayList", name := "get", desc := "(I)Ljava/lang/Object;" } : Jvm.MethodName)) ∈ lw_all := lw_g (lw_at lw_m9 152 rfl) rfl
theorem q2551 : (Jvm.Cond.classLink "KnowHouse$RightDesk" (128 : Nat) "KnowHouse$RightDesk$Condition") ∈ lw_all := lw_g (lw_at lw_m9 153 rfl) rfl
theorem q2553 : (Jvm.Cond.methodLink "KnowHouse$RightDesk" (130 : Nat) ({ cls := "KnowHouse$RightDesk$Condition", name := "holds", desc := "(LKnowHouse$RightDesk$Ask;[Z)Z" } : Jvm.MethodName)) ∈ lw_all := lw_g (lw_at lw_m9 155 rfl) rfl
theorem q2556 : (Jvm.Cond.castable "KnowHouse$RightDesk$Always" "KnowHouse$RightDesk$Condition") ∈ lw_tbl := lw_at lw_m9 158 rfl
theorem q2557 : (Jvm.Cond.selects "KnowHouse$RightDesk$Always" ({ cls := "KnowHouse$RightDesk$Condition", name := "holds", desc := "(LKnowHouse$RightDesk$Ask;[Z)Z" } : Jvm.MethodName) ({ cls := "KnowHouse$RightDesk$Always", name := "holds", desc := "(LKnowHouse$RightDesk$Ask;[Z)Z" } : Jvm.MethodName)) ∈ lw_all := lw_g (lw_at lw_m9 159 rfl) rfl
theorem q2559 : (Jvm.Cond.instanceMethod ({ cls := "KnowHouse$RightDesk$Always", name := "holds", desc := "(LKnowHouse$RightDesk$Ask;[Z)Z" } : Jvm.MethodName)) ∈ lw_all := lw_g (lw_at lw_m9 161 rfl) rfl
theorem q2561 : (Jvm.Cond.code ({ cls := "KnowHouse$RightDesk$Always", name := "holds", desc := "(LKnowHouse$RightDesk$Ask;[Z)Z" } : Jvm.MethodName) prog_50_method_2_code (3 : Nat) (Option.some Jvm.ClassFile.FieldType.boolean)) ∈ lw_all := lw_g (lw_at lw_m9 163 rfl) rfl
theorem q2562 : (Jvm.Cond.castable "KnowHouse$RightDesk$Is" "KnowHouse$RightDesk$Condition") ∈ lw_tbl := lw_at lw_m9 164 rfl
theorem q2563 : (Jvm.Cond.selects "KnowHouse$RightDesk$Is" ({ cls := "KnowHouse$RightDesk$Condition", name := "holds", desc := "(LKnowHouse$RightDesk$Ask;[Z)Z" } : Jvm.MethodName) ({ cls := "KnowHouse$RightDesk$Is", name := "holds", desc := "(LKnowHouse$RightDesk$Ask;[Z)Z" } : Jvm.MethodName)) ∈ lw_all := lw_g (lw_at lw_m9 165 rfl) rfl
theorem q2565 : (Jvm.Cond.instanceMethod ({ cls := "KnowHouse$RightDesk$Is", name := "holds", desc := "(LKnowHouse$RightDesk$Ask;[Z)Z" } : Jvm.MethodName)) ∈ lw_all := lw_g (lw_at lw_m9 167 rfl) rfl
theorem q2567 : (Jvm.Cond.code ({ cls := "KnowHouse$RightDesk$Is", name := "holds", desc := "(LKnowHouse$RightDesk$Ask;[Z)Z" } : Jvm.MethodName) prog_53_method_2_code (3 : Nat) (Option.some Jvm.ClassFile.FieldType.boolean)) ∈ lw_all := lw_g (lw_at lw_m9 169 rfl) rfl
theorem q2568 : (Jvm.Cond.castable "KnowHouse$RightDesk$Not" "KnowHouse$RightDesk$Condition") ∈ lw_tbl := lw_at lw_m9 170 rfl
theorem q2569 : (Jvm.Cond.selects "KnowHouse$RightDesk$Not" ({ cls := "KnowHouse$RightDesk$Condition", name := "holds", desc := "(LKnowHouse$RightDesk$Ask;[Z)Z" } : Jvm.MethodName) ({ cls := "KnowHouse$RightDesk$Not", name := "holds", desc := "(LKnowHouse$RightDesk$Ask;[Z)Z" } : Jvm.MethodName)) ∈ lw_all := lw_g (lw_at lw_m9 171 rfl) rfl
theorem q2571 : (Jvm.Cond.instanceMethod ({ cls := "KnowHouse$RightDesk$Not", name := "holds", desc := "(LKnowHouse$RightDesk$Ask;[Z)Z" } : Jvm.MethodName)) ∈ lw_all := lw_g (lw_at lw_m9 173 rfl) rfl
theorem q2573 : (Jvm.Cond.code ({ cls := "KnowHouse$RightDesk$Not", name := "holds", desc := "(LKnowHouse$RightDesk$Ask;[Z)Z" } : Jvm.MethodName) prog_54_method_2_code (3 : Nat) (Option.some Jvm.ClassFile.FieldType.boolean)) ∈ lw_all := lw_g (lw_at lw_m9 175 rfl) rfl
theorem q2574 : (Jvm.Cond.castable "KnowHouse$RightDesk$Some" "KnowHouse$RightDesk$Condition") ∈ lw_tbl := lw_at lw_m9 176 rfl
theorem q2575 : (Jvm.Cond.selects "KnowHouse$RightDesk$Some" ({ cls := "KnowHouse$RightDesk$Condition", name := "holds", desc := "(LKnowHouse$RightDesk$Ask;[Z)Z" } : Jvm.MethodName) ({ cls := "KnowHouse$RightDesk$Some", name := "holds", desc := "(LKnowHouse$RightDesk$Ask;[Z)Z" } : Jvm.MethodName)) ∈ lw_all := lw_g (lw_at lw_m9 177 rfl) rfl
theorem q2577 : (Jvm.Cond.instanceMethod ({ cls := "KnowHouse$RightDesk$Some", name := "holds", desc := "(LKnowHouse$RightDesk$Ask;[Z)Z" } : Jvm.MethodName)) ∈ lw_all := lw_g (lw_at lw_m9 179 rfl) rfl
theorem q2579 : (Jvm.Cond.code ({ cls := "KnowHouse$RightDesk$Some", name := "holds", desc := "(LKnowHouse$RightDesk$Ask;[Z)Z" } : Jvm.MethodName) prog_56_method_2_code (8 : Nat) (Option.some Jvm.ClassFile.FieldType.boolean)) ∈ lw_all := lw_g (lw_at lw_m9 181 rfl) rfl
theorem q2580 : (Jvm.Cond.castable "KnowHouse$RightDesk$Versions" "KnowHouse$RightDesk$Condition") ∈ lw_tbl := lw_at lw_m9 182 rfl
theorem q2581 : (Jvm.Cond.selects "KnowHouse$RightDesk$Versions" ({ cls := "KnowHouse$RightDesk$Condition", name := "holds", desc := "(LKnowHouse$RightDesk$Ask;[Z)Z" } : Jvm.MethodName) ({ cls := "KnowHouse$RightDesk$Versions", name := "holds", desc := "(LKnowHouse$RightDesk$Ask;[Z)Z" } : Jvm.MethodName)) ∈ lw_all := lw_g (lw_at lw_m9 183 rfl) rfl
theorem q2583 : (Jvm.Cond.instanceMethod ({ cls := "KnowHouse$RightDesk$Versions", name := "holds", desc := "(LKnowHouse$RightDesk$Ask;[Z)Z" } : Jvm.MethodName)) ∈ lw_all := lw_g (lw_at lw_m9 185 rfl) rfl
theorem q2585 : (Jvm.Cond.code ({ cls := "KnowHouse$RightDesk$Versions", name := "holds", desc := "(LKnowHouse$RightDesk$Ask;[Z)Z" } : Jvm.MethodName) prog_57_method_2_code (3 : Nat) (Option.some Jvm.ClassFile.FieldType.boolean)) ∈ lw_all := lw_g (lw_at lw_m9 187 rfl) rfl
theorem q2586 : (Jvm.Cond.classLink "KnowHouse$RightDesk" (116 : Nat) "KnowHouse$RightDesk$Rule") ∈ lw_all := lw_g (lw_at lw_m9 188 rfl) rfl
theorem q2587 : (Jvm.Cond.methodLink "KnowHouse$RightDesk" (141 : Nat) ({ cls := "KnowHouse$RightDesk", name := "isBefore", desc := "(II)Z" } : Jvm.MethodName)) ∈ lw_all := lw_g (lw_at lw_m9 189 rfl) rfl
theorem q2589 : (Jvm.Cond.instanceMethod ({ cls := "KnowHouse$RightDesk", name := "isBefore", desc := "(II)Z" } : Jvm.MethodName)) ∈ lw_all := lw_g (lw_at lw_m9 191 rfl) rfl
theorem q2590 : (Jvm.Cond.code ({ cls := "KnowHouse$RightDesk", name := "isBefore", desc := "(II)Z" } : Jvm.MethodName) prog_49_method_14_code (5 : Nat) (Option.some Jvm.ClassFile.FieldType.boolean)) ∈ lw_all := lw_g (lw_at lw_m9 192 rfl) rfl
theorem q2876 : (Jvm.Cond.instanceMethod ({ cls := "java/util/BitSet", name := "get", desc := "(I)Z" } : Jvm.MethodName)) ∈ lw_all := lw_g (lw_at lw_m10 238 rfl) rfl
theorem q2877 : (Jvm.Cond.selects "java/util/BitSet" ({ cls := "java/util/BitSet", name := "get", desc := "(I)Z" } : Jvm.MethodName) ({ cls := "java/util/BitSet", name := "get", desc := "(I)Z" } : Jvm.MethodName)) ∈ lw_all := lw_g (lw_at lw_m10 239 rfl) rfl
theorem q2878 : (Jvm.Cond.code ({ cls := "java/util/BitSet", name := "get", desc := "(I)Z" } : Jvm.MethodName) prog_125_method_26_code (3 : Nat) (Option.some Jvm.ClassFile.FieldType.boolean)) ∈ lw_all := lw_g (lw_at lw_m11 0 rfl) rfl
theorem q2879 : (Jvm.Cond.methodLink "java/util/BitSet" (56 : Nat) ({ cls := "java/util/BitSet", name := "checkInvariants", desc := "()V" } : Jvm.MethodName)) ∈ lw_all := lw_g (lw_at lw_m11 1 rfl) rfl
theorem q2881 : (Jvm.Cond.instanceMethod ({ cls := "java/util/BitSet", name := "checkInvariants", desc := "()V" } : Jvm.MethodName)) ∈ lw_all := lw_g (lw_at lw_m11 3 rfl) rfl
theorem q2882 : (Jvm.Cond.code ({ cls := "java/util/BitSet", name := "checkInvariants", desc := "()V" } : Jvm.MethodName) prog_125_method_2_code (1 : Nat) (Option.none : Option Jvm.ClassFile.FieldType)) ∈ lw_all := lw_g (lw_at lw_m11 4 rfl) rfl
theorem q2883 : (Jvm.Cond.fieldLink "java/util/BitSet" (3 : Nat) "java/util/BitSet" "$assertionsDisabled" "Z") ∈ lw_all := lw_g (lw_at lw_m11 5 rfl) rfl
theorem q2886 : (Jvm.Cond.instanceMethod ({ cls := "java/util/BitSet", name := "set", desc := "(IZ)V" } : Jvm.MethodName)) ∈ lw_all := lw_g (lw_at lw_m11 8 rfl) rfl
theorem q2887 : (Jvm.Cond.selects "java/util/BitSet" ({ cls := "java/util/BitSet", name := "set", desc := "(IZ)V" } : Jvm.MethodName) ({ cls := "java/util/BitSet", name := "set", desc := "(IZ)V" } : Jvm.MethodName)) ∈ lw_all := lw_g (lw_at lw_m11 9 rfl) rfl
theorem q2888 : (Jvm.Cond.code ({ cls := "java/util/BitSet", name := "set", desc := "(IZ)V" } : Jvm.MethodName) prog_125_method_20_code (3 : Nat) (Option.none : Option Jvm.ClassFile.FieldType)) ∈ lw_all := lw_g (lw_at lw_m11 10 rfl) rfl
theorem q2889 : (Jvm.Cond.methodLink "java/util/BitSet" (167 : Nat) ({ cls := "java/util/BitSet", name := "set", desc := "(I)V" } : Jvm.MethodName)) ∈ lw_all := lw_g (lw_at lw_m11 11 rfl) rfl
theorem q2890 : (Jvm.Cond.instanceMethod ({ cls := "java/util/BitSet", name := "set", desc := "(I)V" } : Jvm.MethodName)) ∈ lw_all := lw_g (lw_at lw_m11 12 rfl) rfl
theorem q2891 : (Jvm.Cond.selects "java/util/BitSet" ({ cls := "java/util/BitSet", name := "set", desc := "(I)V" } : Jvm.MethodName) ({ cls := "java/util/BitSet", name := "set", desc := "(I)V" } : Jvm.MethodName)) ∈ lw_all := lw_g (lw_at lw_m11 13 rfl) rfl
theorem q2892 : (Jvm.Cond.code ({ cls := "java/util/BitSet", name := "set", desc := "(I)V" } : Jvm.MethodName) prog_125_method_19_code (3 : Nat) (Option.none : Option Jvm.ClassFile.FieldType)) ∈ lw_all := lw_g (lw_at lw_m11 14 rfl) rfl
theorem q2893 : (Jvm.Cond.methodLink "java/util/BitSet" (155 : Nat) ({ cls := "java/util/BitSet", name := "expandTo", desc := "(I)V" } : Jvm.MethodName)) ∈ lw_all := lw_g (lw_at lw_m11 15 rfl) rfl
theorem q2895 : (Jvm.Cond.instanceMethod ({ cls := "java/util/BitSet", name := "expandTo", desc := "(I)V" } : Jvm.MethodName)) ∈ lw_all := lw_g (lw_at lw_m11 17 rfl) rfl
theorem q2896 : (Jvm.Cond.code ({ cls := "java/util/BitSet", name := "expandTo", desc := "(I)V" } : Jvm.MethodName) prog_125_method_15_code (3 : Nat) (Option.none : Option Jvm.ClassFile.FieldType)) ∈ lw_all := lw_g (lw_at lw_m11 18 rfl) rfl
theorem q2897 : (Jvm.Cond.methodLink "java/util/BitSet" (139 : Nat) ({ cls := "java/util/BitSet", name := "ensureCapacity", desc := "(I)V" } : Jvm.MethodName)) ∈ lw_all := lw_g (lw_at lw_m11 19 rfl) rfl
theorem q2899 : (Jvm.Cond.instanceMethod ({ cls := "java/util/BitSet", name := "ensureCapacity", desc := "(I)V" } : Jvm.MethodName)) ∈ lw_all := lw_g (lw_at lw_m11 21 rfl) rfl
theorem q2900 : (Jvm.Cond.code ({ cls := "java/util/BitSet", name := "ensureCapacity", desc := "(I)V" } : Jvm.MethodName) prog_125_method_14_code (3 : Nat) (Option.none : Option Jvm.ClassFile.FieldType)) ∈ lw_all := lw_g (lw_at lw_m11 22 rfl) rfl
theorem q2901 : (Jvm.Cond.methodLink "java/util/BitSet" (133 : Nat) ({ cls := "java/lang/Math", name := "max", desc := "(II)I" } : Jvm.MethodName)) ∈ lw_all := lw_g (lw_at lw_m11 23 rfl) rfl
theorem q2902 : (Jvm.Cond.methodLink "java/util/BitSet" (59 : Nat) ({ cls := "java/util/Arrays", name := "copyOf", desc := "([JI)[J" } : Jvm.MethodName)) ∈ lw_all := lw_g (lw_at lw_m11 24 rfl) rfl
theorem q2903 : (Jvm.Cond.static ({ cls := "java/util/Arrays", name := "copyOf", desc := "([JI)[J" } : Jvm.MethodName)) ∈ lw_all := lw_g (lw_at lw_m11 25 rfl) rfl
theorem q2904 : (Jvm.Cond.code ({ cls := "java/util/Arrays", name := "copyOf", desc := "([JI)[J" } : Jvm.MethodName) prog_124_method_124_code (3 : Nat) (Option.some (Jvm.ClassFile.FieldType.array Jvm.ClassFile.FieldType.long))) ∈ lw_all := lw_g (lw_at lw_m11 26 rfl) rfl
theorem q2912 : (Jvm.Cond.methodLink "java/util/BitSet" (170 : Nat) ({ cls := "java/util/BitSet", name := "clear", desc := "(I)V" } : Jvm.MethodName)) ∈ lw_all := lw_g (lw_at lw_m11 34 rfl) rfl
theorem q2913 : (Jvm.Cond.instanceMethod ({ cls := "java/util/BitSet", name := "clear", desc := "(I)V" } : Jvm.MethodName)) ∈ lw_all := lw_g (lw_at lw_m11 35 rfl) rfl
theorem q2914 : (Jvm.Cond.selects "java/util/BitSet" ({ cls := "java/util/BitSet", name := "clear", desc := "(I)V" } : Jvm.MethodName) ({ cls := "java/util/BitSet", name := "clear", desc := "(I)V" } : Jvm.MethodName)) ∈ lw_all := lw_g (lw_at lw_m11 36 rfl) rfl
theorem q2915 : (Jvm.Cond.code ({ cls := "java/util/BitSet", name := "clear", desc := "(I)V" } : Jvm.MethodName) prog_125_method_23_code (3 : Nat) (Option.none : Option Jvm.ClassFile.FieldType)) ∈ lw_all := lw_g (lw_at lw_m11 37 rfl) rfl
theorem q2916 : (Jvm.Cond.constantLong "java/util/BitSet" (165 : Nat) (-1 : Int64)) ∈ lw_all := lw_g (lw_at lw_m11 38 rfl) rfl
theorem q2917 : (Jvm.Cond.methodLink "java/util/BitSet" (158 : Nat) ({ cls := "java/util/BitSet", name := "recalculateWordsInUse", desc := "()V" } : Jvm.MethodName)) ∈ lw_all := lw_g (lw_at lw_m11 39 rfl) rfl
theorem q2919 : (Jvm.Cond.instanceMethod ({ cls := "java/util/BitSet", name := "recalculateWordsInUse", desc := "()V" } : Jvm.MethodName)) ∈ lw_all := lw_g (lw_at lw_m11 41 rfl) rfl
theorem q2920 : (Jvm.Cond.code ({ cls := "java/util/BitSet", name := "recalculateWordsInUse", desc := "()V" } : Jvm.MethodName) prog_125_method_3_code (2 : Nat) (Option.none : Option Jvm.ClassFile.FieldType)) ∈ lw_all := lw_g (lw_at lw_m11 42 rfl) rfl
theorem q3149 : (Jvm.Cond.static ({ cls := "java/lang/Integer", name := "numberOfTrailingZeros", desc := "(I)I" } : Jvm.MethodName)) ∈ lw_all := lw_g (lw_at lw_m12 31 rfl) rfl
theorem q3150 : (Jvm.Cond.code ({ cls := "java/lang/Integer", name := "numberOfTrailingZeros", desc := "(I)I" } : Jvm.MethodName) prog_103_method_48_code (2 : Nat) (Option.some Jvm.ClassFile.FieldType.int)) ∈ lw_all := lw_g (lw_at lw_m12 32 rfl) rfl
theorem q3151 : (Jvm.Cond.constant "java/lang/Integer" (264 : Nat) (65536 : Int32)) ∈ lw_all := lw_g (lw_at lw_m12 33 rfl) rfl
theorem q3720 : (Jvm.Cond.instanceMethod ({ cls := "java/util/BitSet", name := "clear", desc := "()V" } : Jvm.MethodName)) ∈ lw_all := lw_g (lw_at lw_m14 122 rfl) rfl
theorem q3721 : (Jvm.Cond.selects "java/util/BitSet" ({ cls := "java/util/BitSet", name := "clear", desc := "()V" } : Jvm.MethodName) ({ cls := "java/util/BitSet", name := "clear", desc := "()V" } : Jvm.MethodName)) ∈ lw_all := lw_g (lw_at lw_m14 123 rfl) rfl
theorem q3722 : (Jvm.Cond.code ({ cls := "java/util/BitSet", name := "clear", desc := "()V" } : Jvm.MethodName) prog_125_method_25_code (1 : Nat) (Option.none : Option Jvm.ClassFile.FieldType)) ∈ lw_all := lw_g (lw_at lw_m14 124 rfl) rfl
theorem q3724 : (Jvm.Cond.instanceMethod ({ cls := "java/util/BitSet", name := "or", desc := "(Ljava/util/BitSet;)V" } : Jvm.MethodName)) ∈ lw_all := lw_g (lw_at lw_m14 126 rfl) rfl
theorem q3725 : (Jvm.Cond.selects "java/util/BitSet" ({ cls := "java/util/BitSet", name := "or", desc := "(Ljava/util/BitSet;)V" } : Jvm.MethodName) ({ cls := "java/util/BitSet", name := "or", desc := "(Ljava/util/BitSet;)V" } : Jvm.MethodName)) ∈ lw_all := lw_g (lw_at lw_m14 127 rfl) rfl
theorem q3726 : (Jvm.Cond.code ({ cls := "java/util/BitSet", name := "or", desc := "(Ljava/util/BitSet;)V" } : Jvm.MethodName) prog_125_method_37_code (4 : Nat) (Option.none : Option Jvm.ClassFile.FieldType)) ∈ lw_all := lw_g (lw_at lw_m14 128 rfl) rfl
theorem q3727 : (Jvm.Cond.methodLink "java/util/BitSet" (193 : Nat) ({ cls := "java/lang/Math", name := "min", desc := "(II)I" } : Jvm.MethodName)) ∈ lw_all := lw_g (lw_at lw_m14 129 rfl) rfl
theorem q3728 : (Jvm.Cond.methodLink "java/util/BitSet" (199 : Nat) ({ cls := "java/lang/System", name := "arraycopy", desc := "(Ljava/lang/Object;ILjava/lang/Object;II)V" } : Jvm.MethodName)) ∈ lw_all := lw_g (lw_at lw_m14 130 rfl) rfl
theorem q3775 : (Jvm.Cond.instanceMethod ({ cls := "java/util/BitSet", name := "nextSetBit", desc := "(I)I" } : Jvm.MethodName)) ∈ lw_all := lw_g (lw_at lw_m14 177 rfl) rfl
theorem q3776 : (Jvm.Cond.selects "java/util/BitSet" ({ cls := "java/util/BitSet", name := "nextSetBit", desc := "(I)I" } : Jvm.MethodName) ({ cls := "java/util/BitSet", name := "nextSetBit", desc := "(I)I" } : Jvm.MethodName)) ∈ lw_all := lw_g (lw_at lw_m14 178 rfl) rfl
theorem q3777 : (Jvm.Cond.code ({ cls := "java/util/BitSet", name := "nextSetBit", desc := "(I)I" } : Jvm.MethodName) prog_125_method_28_code (5 : Nat) (Option.some Jvm.ClassFile.FieldType.int)) ∈ lw_all := lw_g (lw_at lw_m14 179 rfl) rfl
theorem q3778 : (Jvm.Cond.methodLink "java/util/BitSet" (182 : Nat) ({ cls := "java/lang/Long", name := "numberOfTrailingZeros", desc := "(J)I" } : Jvm.MethodName)) ∈ lw_all := lw_g (lw_at lw_m14 180 rfl) rfl
theorem q3779 : (Jvm.Cond.static ({ cls := "java/lang/Long", name := "numberOfTrailingZeros", desc := "(J)I" } : Jvm.MethodName)) ∈ lw_all := lw_g (lw_at lw_m14 181 rfl) rfl
theorem q3780 : (Jvm.Cond.code ({ cls := "java/lang/Long", name := "numberOfTrailingZeros", desc := "(J)I" } : Jvm.MethodName) prog_105_method_49_code (3 : Nat) (Option.some Jvm.ClassFile.FieldType.int)) ∈ lw_all := lw_g (lw_at lw_m14 182 rfl) rfl
theorem q3781 : (Jvm.Cond.methodLink "java/lang/Long" (311 : Nat) ({ cls := "java/lang/Integer", name := "numberOfTrailingZeros", desc := "(I)I" } : Jvm.MethodName)) ∈ lw_all := lw_g (lw_at lw_m14 183 rfl) rfl
theorem q3853 : (Jvm.Cond.instanceMethod ({ cls := "java/util/BitSet", name := "isEmpty", desc := "()Z" } : Jvm.MethodName)) ∈ lw_all := lw_g (lw_at lw_m15 15 rfl) rfl
theorem q3854 : (Jvm.Cond.selects "java/util/BitSet" ({ cls := "java/util/BitSet", name := "isEmpty", desc := "()Z" } : Jvm.MethodName) ({ cls := "java/util/BitSet", name := "isEmpty", desc := "()Z" } : Jvm.MethodName)) ∈ lw_all := lw_g (lw_at lw_m15 16 rfl) rfl
theorem q3855 : (Jvm.Cond.code ({ cls := "java/util/BitSet", name := "isEmpty", desc := "()Z" } : Jvm.MethodName) prog_125_method_33_code (1 : Nat) (Option.some Jvm.ClassFile.FieldType.boolean)) ∈ lw_all := lw_g (lw_at lw_m15 17 rfl) rfl
theorem q4905 : (Jvm.Cond.methodLink "KnowHouse$RightDesk" (68 : Nat) ({ cls := "KnowHouse$RightDesk", name := "isIn", desc := "(II)Z" } : Jvm.MethodName)) ∈ lw_all := lw_g (lw_at lw_m19 107 rfl) rfl
theorem q4910 : (Jvm.Cond.methodLink "KnowHouse$RightDesk" (108 : Nat) ({ cls := "KnowHouse$RightDesk", name := "make", desc := "(IIII)LKnowHouse$RightDesk$Condition;" } : Jvm.MethodName)) ∈ lw_all := lw_g (lw_at lw_m19 112 rfl) rfl
theorem q4912 : (Jvm.Cond.instanceMethod ({ cls := "KnowHouse$RightDesk", name := "make", desc := "(IIII)LKnowHouse$RightDesk$Condition;" } : Jvm.MethodName)) ∈ lw_all := lw_g (lw_at lw_m19 114 rfl) rfl
theorem q4913 : (Jvm.Cond.code ({ cls := "KnowHouse$RightDesk", name := "make", desc := "(IIII)LKnowHouse$RightDesk$Condition;" } : Jvm.MethodName) prog_49_method_6_code (6 : Nat) (Option.some (Jvm.ClassFile.FieldType.object "KnowHouse$RightDesk$Condition"))) ∈ lw_all := lw_g (lw_at lw_m19 115 rfl) rfl
theorem q4914 : (Jvm.Cond.methodLink "KnowHouse$RightDesk" (80 : Nat) ({ cls := "KnowHouse$RightDesk", name := "isCondition", desc := "(I)Z" } : Jvm.MethodName)) ∈ lw_all := lw_g (lw_at lw_m19 116 rfl) rfl
theorem q4916 : (Jvm.Cond.instanceMethod ({ cls := "KnowHouse$RightDesk", name := "isCondition", desc := "(I)Z" } : Jvm.MethodName)) ∈ lw_all := lw_g (lw_at lw_m19 118 rfl) rfl
theorem q4917 : (Jvm.Cond.code ({ cls := "KnowHouse$RightDesk", name := "isCondition", desc := "(I)Z" } : Jvm.MethodName) prog_49_method_5_code (2 : Nat) (Option.some Jvm.ClassFile.FieldType.boolean)) ∈ lw_all := lw_g (lw_at lw_m19 119 rfl) rfl
theorem q4918 : (Jvm.Cond.fieldLink "KnowHouse$RightDesk" (84 : Nat) "KnowHouse$RightDesk" "MOST" "[I") ∈ lw_all := lw_g (lw_at lw_m19 120 rfl) rfl
theorem q4920 : (Jvm.Cond.classLink "KnowHouse$RightDesk" (87 : Nat) "KnowHouse$RightDesk$Is") ∈ lw_all := lw_g (lw_at lw_m19 122 rfl) rfl
theorem q4921 : (Jvm.Cond.instantiable "KnowHouse$RightDesk$Is" (3 : Nat)) ∈ lw_all := lw_g (lw_at lw_m19 123 rfl) rfl
theorem q4922 : (Jvm.Cond.methodLink "KnowHouse$RightDesk" (89 : Nat) ({ cls := "KnowHouse$RightDesk$Is", name := "<init>", desc := "(II[I)V" } : Jvm.MethodName)) ∈ lw_all := lw_g (lw_at lw_m19 124 rfl) rfl
theorem q4923 : (Jvm.Cond.instanceMethod ({ cls := "KnowHouse$RightDesk$Is", name := "<init>", desc := "(II[I)V" } : Jvm.MethodName)) ∈ lw_all := lw_g (lw_at lw_m19 125 rfl) rfl
theorem q4924 : (Jvm.Cond.code ({ cls := "KnowHouse$RightDesk$Is", name := "<init>", desc := "(II[I)V" } : Jvm.MethodName) prog_53_method_1_code (4 : Nat) (Option.none : Option Jvm.ClassFile.FieldType)) ∈ lw_all := lw_g (lw_at lw_m19 126 rfl) rfl
theorem q4925 : (Jvm.Cond.methodLink "KnowHouse$RightDesk$Is" (1 : Nat) ({ cls := "java/lang/Object", name := "<init>", desc := "()V" } : Jvm.MethodName)) ∈ lw_all := lw_g (lw_at lw_m19 127 rfl) rfl
theorem q4926 : (Jvm.Cond.fieldLink "KnowHouse$RightDesk$Is" (7 : Nat) "KnowHouse$RightDesk$Is" "kind" "I") ∈ lw_all := lw_g (lw_at lw_m19 128 rfl) rfl
theorem q4927 : (Jvm.Cond.fieldLink "KnowHouse$RightDesk$Is" (13 : Nat) "KnowHouse$RightDesk$Is" "number" "I") ∈ lw_all := lw_g (lw_at lw_m19 129 rfl) rfl
theorem q4928 : (Jvm.Cond.fieldLink "KnowHouse$RightDesk$Is" (16 : Nat) "KnowHouse$RightDesk$Is" "groups" "[I") ∈ lw_all := lw_g (lw_at lw_m19 130 rfl) rfl
theorem q4936 : (Jvm.Cond.classLink "KnowHouse$RightDesk" (92 : Nat) "KnowHouse$RightDesk$Versions") ∈ lw_all := lw_g (lw_at lw_m19 138 rfl) rfl
theorem q4937 : (Jvm.Cond.instantiable "KnowHouse$RightDesk$Versions" (2 : Nat)) ∈ lw_all := lw_g (lw_at lw_m19 139 rfl) rfl
theorem q4938 : (Jvm.Cond.methodLink "KnowHouse$RightDesk" (94 : Nat) ({ cls := "KnowHouse$RightDesk$Versions", name := "<init>", desc := "(II)V" } : Jvm.MethodName)) ∈ lw_all := lw_g (lw_at lw_m19 140 rfl) rfl
theorem q4939 : (Jvm.Cond.instanceMethod ({ cls := "KnowHouse$RightDesk$Versions", name := "<init>", desc := "(II)V" } : Jvm.MethodName)) ∈ lw_all := lw_g (lw_at lw_m19 141 rfl) rfl
theorem q4940 : (Jvm.Cond.code ({ cls := "KnowHouse$RightDesk$Versions", name := "<init>", desc := "(II)V" } : Jvm.MethodName) prog_57_method_1_code (3 : Nat) (Option.none : Option Jvm.ClassFile.FieldType)) ∈ lw_all := lw_g (lw_at lw_m19 142 rfl) rfl
theorem q4941 : (Jvm.Cond.methodLink "KnowHouse$RightDesk$Versions" (1 : Nat) ({ cls := "java/lang/Object", name := "<init>", desc := "()V" } : Jvm.MethodName)) ∈ lw_all := lw_g (lw_at lw_m19 143 rfl) rfl
theorem q4942 : (Jvm.Cond.fieldLink "KnowHouse$RightDesk$Versions" (7 : Nat) "KnowHouse$RightDesk$Versions" "from" "I") ∈ lw_all := lw_g (lw_at lw_m19 144 rfl) rfl
theorem q4943 : (Jvm.Cond.fieldLink "KnowHouse$RightDesk$Versions" (13 : Nat) "KnowHouse$RightDesk$Versions" "to" "I") ∈ lw_all := lw_g (lw_at lw_m19 145 rfl) rfl
theorem q4949 : (Jvm.Cond.classLink "KnowHouse$RightDesk" (97 : Nat) "KnowHouse$RightDesk$Not") ∈ lw_all := lw_g (lw_at lw_m19 151 rfl) rfl
theorem q4950 : (Jvm.Cond.instantiable "KnowHouse$RightDesk$Not" (1 : Nat)) ∈ lw_all := lw_g (lw_at lw_m19 152 rfl) rfl
theorem q4951 : (Jvm.Cond.methodLink "KnowHouse$RightDesk" (99 : Nat) ({ cls := "KnowHouse$RightDesk$Not", name := "<init>", desc := "(I)V" } : Jvm.MethodName)) ∈ lw_all := lw_g (lw_at lw_m19 153 rfl) rfl
theorem q4952 : (Jvm.Cond.instanceMethod ({ cls := "KnowHouse$RightDesk$Not", name := "<init>", desc := "(I)V" } : Jvm.MethodName)) ∈ lw_all := lw_g (lw_at lw_m19 154 rfl) rfl
theorem q4953 : (Jvm.Cond.code ({ cls := "KnowHouse$RightDesk$Not", name := "<init>", desc := "(I)V" } : Jvm.MethodName) prog_54_method_1_code (2 : Nat) (Option.none : Option Jvm.ClassFile.FieldType)) ∈ lw_all := lw_g (lw_at lw_m19 155 rfl) rfl
theorem q4954 : (Jvm.Cond.methodLink "KnowHouse$RightDesk$Not" (1 : Nat) ({ cls := "java/lang/Object", name := "<init>", desc := "()V" } : Jvm.MethodName)) ∈ lw_all := lw_g (lw_at lw_m19 156 rfl) rfl
theorem q4955 : (Jvm.Cond.fieldLink "KnowHouse$RightDesk$Not" (7 : Nat) "KnowHouse$RightDesk$Not" "of" "I") ∈ lw_all := lw_g (lw_at lw_m19 157 rfl) rfl
theorem q4959 : (Jvm.Cond.classLink "KnowHouse$RightDesk" (100 : Nat) "KnowHouse$RightDesk$Some") ∈ lw_all := lw_g (lw_at lw_m19 161 rfl) rfl
theorem q4960 : (Jvm.Cond.instantiable "KnowHouse$RightDesk$Some" (2 : Nat)) ∈ lw_all := lw_g (lw_at lw_m19 162 rfl) rfl
theorem q4961 : (Jvm.Cond.methodLink "KnowHouse$RightDesk" (102 : Nat) ({ cls := "KnowHouse$RightDesk$Some", name := "<init>", desc := "(I[I)V" } : Jvm.MethodName)) ∈ lw_all := lw_g (lw_at lw_m19 163 rfl) rfl
theorem q4962 : (Jvm.Cond.instanceMethod ({ cls := "KnowHouse$RightDesk$Some", name := "<init>", desc := "(I[I)V" } : Jvm.MethodName)) ∈ lw_all := lw_g (lw_at lw_m19 164 rfl) rfl
theorem q4963 : (Jvm.Cond.code ({ cls := "KnowHouse$RightDesk$Some", name := "<init>", desc := "(I[I)V" } : Jvm.MethodName) prog_56_method_1_code (3 : Nat) (Option.none : Option Jvm.ClassFile.FieldType)) ∈ lw_all := lw_g (lw_at lw_m19 165 rfl) rfl
theorem q4964 : (Jvm.Cond.methodLink "KnowHouse$RightDesk$Some" (1 : Nat) ({ cls := "java/lang/Object", name := "<init>", desc := "()V" } : Jvm.MethodName)) ∈ lw_all := lw_g (lw_at lw_m19 166 rfl) rfl
theorem q4965 : (Jvm.Cond.fieldLink "KnowHouse$RightDesk$Some" (7 : Nat) "KnowHouse$RightDesk$Some" "least" "I") ∈ lw_all := lw_g (lw_at lw_m19 167 rfl) rfl
theorem q4966 : (Jvm.Cond.fieldLink "KnowHouse$RightDesk$Some" (13 : Nat) "KnowHouse$RightDesk$Some" "of" "[I") ∈ lw_all := lw_g (lw_at lw_m19 168 rfl) rfl
theorem q4972 : (Jvm.Cond.classLink "KnowHouse$RightDesk" (105 : Nat) "KnowHouse$RightDesk$Always") ∈ lw_all := lw_g (lw_at lw_m19 174 rfl) rfl
theorem q4973 : (Jvm.Cond.instantiable "KnowHouse$RightDesk$Always" (0 : Nat)) ∈ lw_all := lw_g (lw_at lw_m19 175 rfl) rfl
theorem q4974 : (Jvm.Cond.methodLinkNest "KnowHouse$RightDesk" (107 : Nat) ({ cls := "KnowHouse$RightDesk$Always", name := "<init>", desc := "()V" } : Jvm.MethodName) "KnowHouse") ∈ lw_tbl := lw_at lw_m19 176 rfl
theorem q4975 : (Jvm.Cond.instanceMethod ({ cls := "KnowHouse$RightDesk$Always", name := "<init>", desc := "()V" } : Jvm.MethodName)) ∈ lw_all := lw_g (lw_at lw_m19 177 rfl) rfl
theorem q4976 : (Jvm.Cond.code ({ cls := "KnowHouse$RightDesk$Always", name := "<init>", desc := "()V" } : Jvm.MethodName) prog_50_method_1_code (1 : Nat) (Option.none : Option Jvm.ClassFile.FieldType)) ∈ lw_all := lw_g (lw_at lw_m19 178 rfl) rfl
theorem q4977 : (Jvm.Cond.methodLink "KnowHouse$RightDesk$Always" (1 : Nat) ({ cls := "java/lang/Object", name := "<init>", desc := "()V" } : Jvm.MethodName)) ∈ lw_all := lw_g (lw_at lw_m19 179 rfl) rfl
theorem q4979 : (Jvm.Cond.methodLink "KnowHouse$RightDesk" (112 : Nat) ({ cls := "java/util/ArrayList", name := "add", desc := "(Ljava/lang/Object;)Z" } : Jvm.MethodName)) ∈ lw_all := lw_g (lw_at lw_m19 181 rfl) rfl
theorem q4984 : (Jvm.Cond.instantiable "KnowHouse$RightDesk$Rule" (3 : Nat)) ∈ lw_all := lw_g (lw_at lw_m19 186 rfl) rfl
theorem q4985 : (Jvm.Cond.methodLink "KnowHouse$RightDesk" (118 : Nat) ({ cls := "KnowHouse$RightDesk$Rule", name := "<init>", desc := "(IZI)V" } : Jvm.MethodName)) ∈ lw_all := lw_g (lw_at lw_m19 187 rfl) rfl
theorem q4986 : (Jvm.Cond.instanceMethod ({ cls := "KnowHouse$RightDesk$Rule", name := "<init>", desc := "(IZI)V" } : Jvm.MethodName)) ∈ lw_all := lw_g (lw_at lw_m19 188 rfl) rfl
theorem q4987 : (Jvm.Cond.code ({ cls := "KnowHouse$RightDesk$Rule", name := "<init>", desc := "(IZI)V" } : Jvm.MethodName) prog_55_method_1_code (4 : Nat) (Option.none : Option Jvm.ClassFile.FieldType)) ∈ lw_all := lw_g (lw_at lw_m19 189 rfl) rfl
theorem q4988 : (Jvm.Cond.methodLink "KnowHouse$RightDesk$Rule" (1 : Nat) ({ cls := "java/lang/Object", name := "<init>", desc := "()V" } : Jvm.MethodName)) ∈ lw_all := lw_g (lw_at lw_m19 190 rfl) rfl
theorem q4989 : (Jvm.Cond.fieldLink "KnowHouse$RightDesk$Rule" (7 : Nat) "KnowHouse$RightDesk$Rule" "rank" "I") ∈ lw_all := lw_g (lw_at lw_m19 191 rfl) rfl
theorem q4990 : (Jvm.Cond.fieldLinkNest "KnowHouse$RightDesk" (144 : Nat) "KnowHouse$RightDesk$Rule" "rank" "I" "KnowHouse") ∈ lw_tbl := lw_at lw_m19 192 rfl
theorem q4991 : (Jvm.Cond.fieldLink "KnowHouse$RightDesk$Rule" (13 : Nat) "KnowHouse$RightDesk$Rule" "denies" "Z") ∈ lw_all := lw_g (lw_at lw_m19 193 rfl) rfl
theorem q4992 : (Jvm.Cond.fieldLinkNest "KnowHouse$RightDesk" (147 : Nat) "KnowHouse$RightDesk$Rule" "denies" "Z" "KnowHouse") ∈ lw_tbl := lw_at lw_m19 194 rfl
theorem q4993 : (Jvm.Cond.fieldLink "KnowHouse$RightDesk$Rule" (17 : Nat) "KnowHouse$RightDesk$Rule" "condition" "I") ∈ lw_all := lw_g (lw_at lw_m19 195 rfl) rfl
theorem q4994 : (Jvm.Cond.fieldLinkNest "KnowHouse$RightDesk" (138 : Nat) "KnowHouse$RightDesk$Rule" "condition" "I" "KnowHouse") ∈ lw_tbl := lw_at lw_m19 196 rfl
theorem q5006 : (Jvm.Cond.methodLink "KnowHouse$RightDesk" (121 : Nat) ({ cls := "java/util/ArrayList", name := "remove", desc := "(I)Ljava/lang/Object;" } : Jvm.MethodName)) ∈ lw_all := lw_g (lw_at lw_m19 208 rfl) rfl
theorem q5007 : (Jvm.Cond.instanceMethod ({ cls := "java/util/ArrayList", name := "remove", desc := "(I)Ljava/lang/Object;" } : Jvm.MethodName)) ∈ lw_all := lw_g (lw_at lw_m19 209 rfl) rfl
theorem q5008 : (Jvm.Cond.selects "java/util/ArrayList" ({ cls := "java/util/ArrayList", name := "remove", desc := "(I)Ljava/lang/Object;" } : Jvm.MethodName) ({ cls := "java/util/ArrayList", name := "remove", desc := "(I)Ljava/lang/Object;" } : Jvm.MethodName)) ∈ lw_all := lw_g (lw_at lw_m19 210 rfl) rfl
theorem q5009 : (Jvm.Cond.code ({ cls := "java/util/ArrayList", name := "remove", desc := "(I)Ljava/lang/Object;" } : Jvm.MethodName) prog_122_method_29_code (4 : Nat) (Option.some (Jvm.ClassFile.FieldType.object "java/lang/Object"))) ∈ lw_all := lw_g (lw_at lw_m19 211 rfl) rfl
theorem q5010 : (Jvm.Cond.methodLink "java/util/ArrayList" (144 : Nat) ({ cls := "java/util/ArrayList", name := "fastRemove", desc := "([Ljava/lang/Object;I)V" } : Jvm.MethodName)) ∈ lw_all := lw_g (lw_at lw_m19 212 rfl) rfl
theorem q5012 : (Jvm.Cond.instanceMethod ({ cls := "java/util/ArrayList", name := "fastRemove", desc := "([Ljava/lang/Object;I)V" } : Jvm.MethodName)) ∈ lw_all := lw_g (lw_at lw_m19 214 rfl) rfl
theorem q5013 : (Jvm.Cond.code ({ cls := "java/util/ArrayList", name := "fastRemove", desc := "([Ljava/lang/Object;I)V" } : Jvm.MethodName) prog_122_method_39_code (4 : Nat) (Option.none : Option Jvm.ClassFile.FieldType)) ∈ lw_all := lw_g (lw_at lw_m19 215 rfl) rfl
theorem q5014 : (Jvm.Cond.methodLink "java/util/ArrayList" (112 : Nat) ({ cls := "java/lang/System", name := "arraycopy", desc := "(Ljava/lang/Object;ILjava/lang/Object;II)V" } : Jvm.MethodName)) ∈ lw_all := lw_g (lw_at lw_m19 216 rfl) rfl
theorem q5019 : (Jvm.Cond.methodLink "KnowHouse$RightDesk" (169 : Nat) ({ cls := "KnowHouse$RightDesk", name := "setOf", desc := "(I)Ljava/util/BitSet;" } : Jvm.MethodName)) ∈ lw_all := lw_g (lw_at lw_m19 221 rfl) rfl
theorem q5021 : (Jvm.Cond.instanceMethod ({ cls := "KnowHouse$RightDesk", name := "setOf", desc := "(I)Ljava/util/BitSet;" } : Jvm.MethodName)) ∈ lw_all := lw_g (lw_at lw_m19 223 rfl) rfl
theorem q5022 : (Jvm.Cond.code ({ cls := "KnowHouse$RightDesk", name := "setOf", desc := "(I)Ljava/util/BitSet;" } : Jvm.MethodName) prog_49_method_16_code (7 : Nat) (Option.some (Jvm.ClassFile.FieldType.object "java/util/BitSet"))) ∈ lw_all := lw_g (lw_at lw_m19 224 rfl) rfl
theorem q5023 : (Jvm.Cond.methodLink "KnowHouse$RightDesk" (165 : Nat) ({ cls := "java/util/BitSet", name := "set", desc := "(IZ)V" } : Jvm.MethodName)) ∈ lw_all := lw_g (lw_at lw_m19 225 rfl) rfl
theorem q5024 : (Jvm.Cond.methodLink "KnowHouse$RightDesk" (173 : Nat) ({ cls := "java/util/BitSet", name := "cardinality", desc := "()I" } : Jvm.MethodName)) ∈ lw_all := lw_g (lw_at lw_m19 226 rfl) rfl
theorem q5025 : (Jvm.Cond.instanceMethod ({ cls := "java/util/BitSet", name := "cardinality", desc := "()I" } : Jvm.MethodName)) ∈ lw_all := lw_g (lw_at lw_m19 227 rfl) rfl
theorem q5026 : (Jvm.Cond.selects "java/util/BitSet" ({ cls := "java/util/BitSet", name := "cardinality", desc := "()I" } : Jvm.MethodName) ({ cls := "java/util/BitSet", name := "cardinality", desc := "()I" } : Jvm.MethodName)) ∈ lw_all := lw_g (lw_at lw_m19 228 rfl) rfl
theorem q5027 : (Jvm.Cond.code ({ cls := "java/util/BitSet", name := "cardinality", desc := "()I" } : Jvm.MethodName) prog_125_method_35_code (3 : Nat) (Option.some Jvm.ClassFile.FieldType.int)) ∈ lw_all := lw_g (lw_at lw_m19 229 rfl) rfl
theorem q5028 : (Jvm.Cond.methodLink "java/util/BitSet" (196 : Nat) ({ cls := "java/lang/Long", name := "bitCount", desc := "(J)I" } : Jvm.MethodName)) ∈ lw_all := lw_g (lw_at lw_m19 230 rfl) rfl
theorem q5029 : (Jvm.Cond.static ({ cls := "java/lang/Long", name := "bitCount", desc := "(J)I" } : Jvm.MethodName)) ∈ lw_all := lw_g (lw_at lw_m19 231 rfl) rfl
theorem q5030 : (Jvm.Cond.code ({ cls := "java/lang/Long", name := "bitCount", desc := "(J)I" } : Jvm.MethodName) prog_105_method_50_code (2 : Nat) (Option.some Jvm.ClassFile.FieldType.int)) ∈ lw_all := lw_g (lw_at lw_m19 232 rfl) rfl
theorem q5031 : (Jvm.Cond.constantLong "java/lang/Long" (314 : Nat) (6148914691236517205 : Int64)) ∈ lw_all := lw_g (lw_at lw_m19 233 rfl) rfl
theorem q5032 : (Jvm.Cond.constantLong "java/lang/Long" (316 : Nat) (3689348814741910323 : Int64)) ∈ lw_all := lw_g (lw_at lw_m19 234 rfl) rfl
theorem q5033 : (Jvm.Cond.constantLong "java/lang/Long" (318 : Nat) (1085102592571150095 : Int64)) ∈ lw_all := lw_g (lw_at lw_m19 235 rfl) rfl
theorem q5038 : (Jvm.Cond.methodLink "KnowHouse$RightDesk" (176 : Nat) ({ cls := "java/util/BitSet", name := "nextSetBit", desc := "(I)I" } : Jvm.MethodName)) ∈ lw_all := lw_g (lw_at lw_m20 0 rfl) rfl
theorem q5043 : (Jvm.Cond.methodLink "KnowHouse$RightDesk" (190 : Nat) ({ cls := "KnowHouse$RightDesk", name := "put", desc := "(Ljava/util/BitSet;Ljava/util/BitSet;Ljava/util/BitSet;)V" } : Jvm.MethodName)) ∈ lw_all := lw_g (lw_at lw_m20 5 rfl) rfl
theorem q5044 : (Jvm.Cond.static ({ cls := "KnowHouse$RightDesk", name := "put", desc := "(Ljava/util/BitSet;Ljava/util/BitSet;Ljava/util/BitSet;)V" } : Jvm.MethodName)) ∈ lw_all := lw_g (lw_at lw_m20 6 rfl) rfl
theorem q5045 : (Jvm.Cond.code ({ cls := "KnowHouse$RightDesk", name := "put", desc := "(Ljava/util/BitSet;Ljava/util/BitSet;Ljava/util/BitSet;)V" } : Jvm.MethodName) prog_49_method_19_code (3 : Nat) (Option.none : Option Jvm.ClassFile.FieldType)) ∈ lw_all := lw_g (lw_at lw_m20 7 rfl) rfl
theorem q5046 : (Jvm.Cond.methodLink "KnowHouse$RightDesk" (180 : Nat) ({ cls := "java/util/BitSet", name := "clear", desc := "()V" } : Jvm.MethodName)) ∈ lw_all := lw_g (lw_at lw_m20 8 rfl) rfl
theorem q5047 : (Jvm.Cond.methodLink "KnowHouse$RightDesk" (183 : Nat) ({ cls := "java/util/BitSet", name := "or", desc := "(Ljava/util/BitSet;)V" } : Jvm.MethodName)) ∈ lw_all := lw_g (lw_at lw_m20 9 rfl) rfl
theorem q5048 : (Jvm.Cond.methodLink "KnowHouse$RightDesk" (187 : Nat) ({ cls := "java/util/BitSet", name := "andNot", desc := "(Ljava/util/BitSet;)V" } : Jvm.MethodName)) ∈ lw_all := lw_g (lw_at lw_m20 10 rfl) rfl
theorem q5049 : (Jvm.Cond.instanceMethod ({ cls := "java/util/BitSet", name := "andNot", desc := "(Ljava/util/BitSet;)V" } : Jvm.MethodName)) ∈ lw_all := lw_g (lw_at lw_m20 11 rfl) rfl
theorem q5050 : (Jvm.Cond.selects "java/util/BitSet" ({ cls := "java/util/BitSet", name := "andNot", desc := "(Ljava/util/BitSet;)V" } : Jvm.MethodName) ({ cls := "java/util/BitSet", name := "andNot", desc := "(Ljava/util/BitSet;)V" } : Jvm.MethodName)) ∈ lw_all := lw_g (lw_at lw_m20 12 rfl) rfl
theorem q5051 : (Jvm.Cond.code ({ cls := "java/util/BitSet", name := "andNot", desc := "(Ljava/util/BitSet;)V" } : Jvm.MethodName) prog_125_method_39_code (3 : Nat) (Option.none : Option Jvm.ClassFile.FieldType)) ∈ lw_all := lw_g (lw_at lw_m20 13 rfl) rfl
theorem q5052 : (Jvm.Cond.methodLink "KnowHouse$RightDesk" (194 : Nat) ({ cls := "java/util/BitSet", name := "isEmpty", desc := "()Z" } : Jvm.MethodName)) ∈ lw_all := lw_g (lw_at lw_m20 14 rfl) rfl
theorem q5057 : (Jvm.Cond.methodLink "KnowHouse$RightDesk" (200 : Nat) ({ cls := "KnowHouse$RightDesk", name := "decided", desc := "(IILjava/util/BitSet;)V" } : Jvm.MethodName)) ∈ lw_all := lw_g (lw_at lw_m20 19 rfl) rfl
theorem q5059 : (Jvm.Cond.instanceMethod ({ cls := "KnowHouse$RightDesk", name := "decided", desc := "(IILjava/util/BitSet;)V" } : Jvm.MethodName)) ∈ lw_all := lw_g (lw_at lw_m20 21 rfl) rfl
theorem q5060 : (Jvm.Cond.code ({ cls := "KnowHouse$RightDesk", name := "decided", desc := "(IILjava/util/BitSet;)V" } : Jvm.MethodName) prog_49_method_22_code (7 : Nat) (Option.none : Option Jvm.ClassFile.FieldType)) ∈ lw_all := lw_g (lw_at lw_m20 22 rfl) rfl
theorem q5061 : (Jvm.Cond.methodLink "KnowHouse$RightDesk" (197 : Nat) ({ cls := "KnowHouse$RightDesk", name := "inOrder", desc := "(I)I" } : Jvm.MethodName)) ∈ lw_all := lw_g (lw_at lw_m20 23 rfl) rfl
theorem q5063 : (Jvm.Cond.instanceMethod ({ cls := "KnowHouse$RightDesk", name := "inOrder", desc := "(I)I" } : Jvm.MethodName)) ∈ lw_all := lw_g (lw_at lw_m20 25 rfl) rfl
theorem q5064 : (Jvm.Cond.code ({ cls := "KnowHouse$RightDesk", name := "inOrder", desc := "(I)I" } : Jvm.MethodName) prog_49_method_21_code (5 : Nat) (Option.some Jvm.ClassFile.FieldType.int)) ∈ lw_all := lw_g (lw_at lw_m20 26 rfl) rfl
theorem q5069 : (Jvm.Cond.methodLink "KnowHouse$RightDesk" (207 : Nat) ({ cls := "java/util/BitSet", name := "get", desc := "(I)Z" } : Jvm.MethodName)) ∈ lw_all := lw_g (lw_at lw_m20 31 rfl) rfl
theorem q5074 : (Jvm.Cond.methodLink "KnowHouse$RightDesk" (209 : Nat) ({ cls := "java/util/BitSet", name := "xor", desc := "(Ljava/util/BitSet;)V" } : Jvm.MethodName)) ∈ lw_all := lw_g (lw_at lw_m20 36 rfl) rfl
theorem q5075 : (Jvm.Cond.instanceMethod ({ cls := "java/util/BitSet", name := "xor", desc := "(Ljava/util/BitSet;)V" } : Jvm.MethodName)) ∈ lw_all := lw_g (lw_at lw_m20 37 rfl) rfl
theorem q5076 : (Jvm.Cond.selects "java/util/BitSet" ({ cls := "java/util/BitSet", name := "xor", desc := "(Ljava/util/BitSet;)V" } : Jvm.MethodName) ({ cls := "java/util/BitSet", name := "xor", desc := "(Ljava/util/BitSet;)V" } : Jvm.MethodName)) ∈ lw_all := lw_g (lw_at lw_m20 38 rfl) rfl
theorem q5077 : (Jvm.Cond.code ({ cls := "java/util/BitSet", name := "xor", desc := "(Ljava/util/BitSet;)V" } : Jvm.MethodName) prog_125_method_38_code (4 : Nat) (Option.none : Option Jvm.ClassFile.FieldType)) ∈ lw_all := lw_g (lw_at lw_m20 39 rfl) rfl
theorem q9028 : (Jvm.Cond.selects "[Ljava/lang/Object;" ({ cls := "java/lang/Object", name := "getClass", desc := "()Ljava/lang/Class;" } : Jvm.MethodName) ({ cls := "java/lang/Object", name := "getClass", desc := "()Ljava/lang/Class;" } : Jvm.MethodName)) ∈ lw_all := lw_g (lw_at lw_m36 150 rfl) rfl
theorem q9029 : (Jvm.Cond.declares ({ cls := "java/lang/Object", name := "getClass", desc := "()Ljava/lang/Class;" } : Jvm.MethodName)) ∈ lw_tbl := lw_at lw_m36 151 rfl
theorem q9058 : (Jvm.Cond.castable "java/util/BitSet" "java/lang/Object") ∈ lw_tbl := lw_at lw_m36 180 rfl
theorem q9106 : (Jvm.Cond.castable "KnowHouse$RightDesk$Is" "java/lang/Object") ∈ lw_tbl := lw_at lw_m36 228 rfl
theorem q9107 : (Jvm.Cond.castable "KnowHouse$RightDesk$Versions" "java/lang/Object") ∈ lw_tbl := lw_at lw_m36 229 rfl
theorem q9108 : (Jvm.Cond.castable "KnowHouse$RightDesk$Not" "java/lang/Object") ∈ lw_tbl := lw_at lw_m36 230 rfl
theorem q9109 : (Jvm.Cond.castable "KnowHouse$RightDesk$Some" "java/lang/Object") ∈ lw_tbl := lw_at lw_m36 231 rfl
theorem q9110 : (Jvm.Cond.castable "KnowHouse$RightDesk$Always" "java/lang/Object") ∈ lw_tbl := lw_at lw_m36 232 rfl
theorem q9111 : (Jvm.Cond.castable "KnowHouse$RightDesk$Rule" "java/lang/Object") ∈ lw_tbl := lw_at lw_m36 233 rfl
theorem hRDx34_X27_know : "KnowHouse$RightDesk$Condition" ≠ "java/lang/invoke/MethodHandle" ∧ "KnowHouse$RightDesk$Condition" ≠ "java/lang/invoke/VarHandle" ∧ (parseMethodDescriptor "(LKnowHouse$RightDesk$Ask;[Z)Z").map (fun d => d.parameters.length) = some 2 := by decide +kernel
theorem hRDJ0_init : yJ0_init.cls ≠ "java/lang/invoke/MethodHandle" ∧ yJ0_init.cls ≠ "java/lang/invoke/VarHandle" ∧ (parseMethodDescriptor yJ0_init.desc).map (fun d => d.parameters.length) = some 0 := by decide +kernel
theorem hRDJ1_init : yJ1_init.cls ≠ "java/lang/invoke/MethodHandle" ∧ yJ1_init.cls ≠ "java/lang/invoke/VarHandle" ∧ (parseMethodDescriptor yJ1_init.desc).map (fun d => d.parameters.length) = some 0 := by decide +kernel
theorem hRDX28_init : yX28_init.cls ≠ "java/lang/invoke/MethodHandle" ∧ yX28_init.cls ≠ "java/lang/invoke/VarHandle" ∧ (parseMethodDescriptor yX28_init.desc).map (fun d => d.parameters.length) = some 5 := by decide +kernel
theorem hRDX28_of : yX28_of.cls ≠ "java/lang/invoke/MethodHandle" ∧ yX28_of.cls ≠ "java/lang/invoke/VarHandle" ∧ (parseMethodDescriptor yX28_of.desc).map (fun d => d.parameters.length) = some 1 := by decide +kernel
theorem hRDJ4_wordIndex : yJ4_wordIndex.cls ≠ "java/lang/invoke/MethodHandle" ∧ yJ4_wordIndex.cls ≠ "java/lang/invoke/VarHandle" ∧ (parseMethodDescriptor yJ4_wordIndex.desc).map (fun d => d.parameters.length) = some 1 := by decide +kernel
theorem hRDJ4_initWords : yJ4_initWords.cls ≠ "java/lang/invoke/MethodHandle" ∧ yJ4_initWords.cls ≠ "java/lang/invoke/VarHandle" ∧ (parseMethodDescriptor yJ4_initWords.desc).map (fun d => d.parameters.length) = some 1 := by decide +kernel
theorem hRDJ2_init : yJ2_init.cls ≠ "java/lang/invoke/MethodHandle" ∧ yJ2_init.cls ≠ "java/lang/invoke/VarHandle" ∧ (parseMethodDescriptor yJ2_init.desc).map (fun d => d.parameters.length) = some 0 := by decide +kernel
theorem hRDX27_makeAsks : yX27_makeAsks.cls ≠ "java/lang/invoke/MethodHandle" ∧ yX27_makeAsks.cls ≠ "java/lang/invoke/VarHandle" ∧ (parseMethodDescriptor yX27_makeAsks.desc).map (fun d => d.parameters.length) = some 0 := by decide +kernel
theorem hRDJ4_init : yJ4_init.cls ≠ "java/lang/invoke/MethodHandle" ∧ yJ4_init.cls ≠ "java/lang/invoke/VarHandle" ∧ (parseMethodDescriptor yJ4_init.desc).map (fun d => d.parameters.length) = some 1 := by decide +kernel
theorem hRDX27_isIn : yX27_isIn.cls ≠ "java/lang/invoke/MethodHandle" ∧ yX27_isIn.cls ≠ "java/lang/invoke/VarHandle" ∧ (parseMethodDescriptor yX27_isIn.desc).map (fun d => d.parameters.length) = some 2 := by decide +kernel
theorem hRDJ15_checkIndex : yJ15_checkIndex.cls ≠ "java/lang/invoke/MethodHandle" ∧ yJ15_checkIndex.cls ≠ "java/lang/invoke/VarHandle" ∧ (parseMethodDescriptor yJ15_checkIndex.desc).map (fun d => d.parameters.length) = some 3 := by decide +kernel
theorem hRDJ14_checkIndex : yJ14_checkIndex.cls ≠ "java/lang/invoke/MethodHandle" ∧ yJ14_checkIndex.cls ≠ "java/lang/invoke/VarHandle" ∧ (parseMethodDescriptor yJ14_checkIndex.desc).map (fun d => d.parameters.length) = some 2 := by decide +kernel
theorem hRDJ2_elementData : yJ2_elementData.cls ≠ "java/lang/invoke/MethodHandle" ∧ yJ2_elementData.cls ≠ "java/lang/invoke/VarHandle" ∧ (parseMethodDescriptor yJ2_elementData.desc).map (fun d => d.parameters.length) = some 1 := by decide +kernel
theorem hRDJ2_size : yJ2_size.cls ≠ "java/lang/invoke/MethodHandle" ∧ yJ2_size.cls ≠ "java/lang/invoke/VarHandle" ∧ (parseMethodDescriptor yJ2_size.desc).map (fun d => d.parameters.length) = some 0 := by decide +kernel
theorem hRDJ2_get : yJ2_get.cls ≠ "java/lang/invoke/MethodHandle" ∧ yJ2_get.cls ≠ "java/lang/invoke/VarHandle" ∧ (parseMethodDescriptor yJ2_get.desc).map (fun d => d.parameters.length) = some 1 := by decide +kernel
theorem hRDX27_know : yX27_know.cls ≠ "java/lang/invoke/MethodHandle" ∧ yX27_know.cls ≠ "java/lang/invoke/VarHandle" ∧ (parseMethodDescriptor yX27_know.desc).map (fun d => d.parameters.length) = some 1 := by decide +kernel
theorem hRDX27_isBefore : yX27_isBefore.cls ≠ "java/lang/invoke/MethodHandle" ∧ yX27_isBefore.cls ≠ "java/lang/invoke/VarHandle" ∧ (parseMethodDescriptor yX27_isBefore.desc).map (fun d => d.parameters.length) = some 2 := by decide +kernel
theorem hRDX28_isGood : yX28_isGood.cls ≠ "java/lang/invoke/MethodHandle" ∧ yX28_isGood.cls ≠ "java/lang/invoke/VarHandle" ∧ (parseMethodDescriptor yX28_isGood.desc).map (fun d => d.parameters.length) = some 0 := by decide +kernel
theorem hRDX28_number : yX28_number.cls ≠ "java/lang/invoke/MethodHandle" ∧ yX28_number.cls ≠ "java/lang/invoke/VarHandle" ∧ (parseMethodDescriptor yX28_number.desc).map (fun d => d.parameters.length) = some 0 := by decide +kernel
theorem hRDX27_deciding : yX27_deciding.cls ≠ "java/lang/invoke/MethodHandle" ∧ yX27_deciding.cls ≠ "java/lang/invoke/VarHandle" ∧ (parseMethodDescriptor yX27_deciding.desc).map (fun d => d.parameters.length) = some 1 := by decide +kernel
theorem hRDX27_isCondition : yX27_isCondition.cls ≠ "java/lang/invoke/MethodHandle" ∧ yX27_isCondition.cls ≠ "java/lang/invoke/VarHandle" ∧ (parseMethodDescriptor yX27_isCondition.desc).map (fun d => d.parameters.length) = some 1 := by decide +kernel
theorem hRDX75_init : yX75_init.cls ≠ "java/lang/invoke/MethodHandle" ∧ yX75_init.cls ≠ "java/lang/invoke/VarHandle" ∧ (parseMethodDescriptor yX75_init.desc).map (fun d => d.parameters.length) = some 3 := by decide +kernel
theorem hRDX76_init : yX76_init.cls ≠ "java/lang/invoke/MethodHandle" ∧ yX76_init.cls ≠ "java/lang/invoke/VarHandle" ∧ (parseMethodDescriptor yX76_init.desc).map (fun d => d.parameters.length) = some 2 := by decide +kernel
theorem hRDX77_init : yX77_init.cls ≠ "java/lang/invoke/MethodHandle" ∧ yX77_init.cls ≠ "java/lang/invoke/VarHandle" ∧ (parseMethodDescriptor yX77_init.desc).map (fun d => d.parameters.length) = some 1 := by decide +kernel
theorem hRDX78_init : yX78_init.cls ≠ "java/lang/invoke/MethodHandle" ∧ yX78_init.cls ≠ "java/lang/invoke/VarHandle" ∧ (parseMethodDescriptor yX78_init.desc).map (fun d => d.parameters.length) = some 2 := by decide +kernel
theorem hRDX79_init : yX79_init.cls ≠ "java/lang/invoke/MethodHandle" ∧ yX79_init.cls ≠ "java/lang/invoke/VarHandle" ∧ (parseMethodDescriptor yX79_init.desc).map (fun d => d.parameters.length) = some 0 := by decide +kernel
theorem hRDJ13_hugeLength : yJ13_hugeLength.cls ≠ "java/lang/invoke/MethodHandle" ∧ yJ13_hugeLength.cls ≠ "java/lang/invoke/VarHandle" ∧ (parseMethodDescriptor yJ13_hugeLength.desc).map (fun d => d.parameters.length) = some 2 := by decide +kernel
theorem hRDJ12_copyOf_2 : yJ12_copyOf_2.cls ≠ "java/lang/invoke/MethodHandle" ∧ yJ12_copyOf_2.cls ≠ "java/lang/invoke/VarHandle" ∧ (parseMethodDescriptor yJ12_copyOf_2.desc).map (fun d => d.parameters.length) = some 3 := by decide +kernel
theorem hRDJ13_newLength : yJ13_newLength.cls ≠ "java/lang/invoke/MethodHandle" ∧ yJ13_newLength.cls ≠ "java/lang/invoke/VarHandle" ∧ (parseMethodDescriptor yJ13_newLength.desc).map (fun d => d.parameters.length) = some 3 := by decide +kernel
theorem hRDJ12_copyOf : yJ12_copyOf.cls ≠ "java/lang/invoke/MethodHandle" ∧ yJ12_copyOf.cls ≠ "java/lang/invoke/VarHandle" ∧ (parseMethodDescriptor yJ12_copyOf.desc).map (fun d => d.parameters.length) = some 2 := by decide +kernel
theorem hRDJ2_grow_2 : yJ2_grow_2.cls ≠ "java/lang/invoke/MethodHandle" ∧ yJ2_grow_2.cls ≠ "java/lang/invoke/VarHandle" ∧ (parseMethodDescriptor yJ2_grow_2.desc).map (fun d => d.parameters.length) = some 1 := by decide +kernel
theorem hRDJ2_grow : yJ2_grow.cls ≠ "java/lang/invoke/MethodHandle" ∧ yJ2_grow.cls ≠ "java/lang/invoke/VarHandle" ∧ (parseMethodDescriptor yJ2_grow.desc).map (fun d => d.parameters.length) = some 0 := by decide +kernel
theorem hRDJ2_add_2 : yJ2_add_2.cls ≠ "java/lang/invoke/MethodHandle" ∧ yJ2_add_2.cls ≠ "java/lang/invoke/VarHandle" ∧ (parseMethodDescriptor yJ2_add_2.desc).map (fun d => d.parameters.length) = some 3 := by decide +kernel
theorem hRDX27_make : yX27_make.cls ≠ "java/lang/invoke/MethodHandle" ∧ yX27_make.cls ≠ "java/lang/invoke/VarHandle" ∧ (parseMethodDescriptor yX27_make.desc).map (fun d => d.parameters.length) = some 4 := by decide +kernel
theorem hRDJ2_add : yJ2_add.cls ≠ "java/lang/invoke/MethodHandle" ∧ yJ2_add.cls ≠ "java/lang/invoke/VarHandle" ∧ (parseMethodDescriptor yJ2_add.desc).map (fun d => d.parameters.length) = some 1 := by decide +kernel
theorem hRDX80_init : yX80_init.cls ≠ "java/lang/invoke/MethodHandle" ∧ yX80_init.cls ≠ "java/lang/invoke/VarHandle" ∧ (parseMethodDescriptor yX80_init.desc).map (fun d => d.parameters.length) = some 3 := by decide +kernel
theorem hRDJ2_fastRemove : yJ2_fastRemove.cls ≠ "java/lang/invoke/MethodHandle" ∧ yJ2_fastRemove.cls ≠ "java/lang/invoke/VarHandle" ∧ (parseMethodDescriptor yJ2_fastRemove.desc).map (fun d => d.parameters.length) = some 2 := by decide +kernel
theorem hRDJ2_remove : yJ2_remove.cls ≠ "java/lang/invoke/MethodHandle" ∧ yJ2_remove.cls ≠ "java/lang/invoke/VarHandle" ∧ (parseMethodDescriptor yJ2_remove.desc).map (fun d => d.parameters.length) = some 1 := by decide +kernel
theorem hRDJ12_copyOf_3 : yJ12_copyOf_3.cls ≠ "java/lang/invoke/MethodHandle" ∧ yJ12_copyOf_3.cls ≠ "java/lang/invoke/VarHandle" ∧ (parseMethodDescriptor yJ12_copyOf_3.desc).map (fun d => d.parameters.length) = some 2 := by decide +kernel
theorem hRDJ4_ensureCapacity : yJ4_ensureCapacity.cls ≠ "java/lang/invoke/MethodHandle" ∧ yJ4_ensureCapacity.cls ≠ "java/lang/invoke/VarHandle" ∧ (parseMethodDescriptor yJ4_ensureCapacity.desc).map (fun d => d.parameters.length) = some 1 := by decide +kernel
theorem hRDJ4_expandTo : yJ4_expandTo.cls ≠ "java/lang/invoke/MethodHandle" ∧ yJ4_expandTo.cls ≠ "java/lang/invoke/VarHandle" ∧ (parseMethodDescriptor yJ4_expandTo.desc).map (fun d => d.parameters.length) = some 1 := by decide +kernel
theorem hRDJ4_checkInvariants : yJ4_checkInvariants.cls ≠ "java/lang/invoke/MethodHandle" ∧ yJ4_checkInvariants.cls ≠ "java/lang/invoke/VarHandle" ∧ (parseMethodDescriptor yJ4_checkInvariants.desc).map (fun d => d.parameters.length) = some 0 := by decide +kernel
theorem hRDJ4_recalculateWordsInUse : yJ4_recalculateWordsInUse.cls ≠ "java/lang/invoke/MethodHandle" ∧ yJ4_recalculateWordsInUse.cls ≠ "java/lang/invoke/VarHandle" ∧ (parseMethodDescriptor yJ4_recalculateWordsInUse.desc).map (fun d => d.parameters.length) = some 0 := by decide +kernel
theorem hRDJ4_set_2 : yJ4_set_2.cls ≠ "java/lang/invoke/MethodHandle" ∧ yJ4_set_2.cls ≠ "java/lang/invoke/VarHandle" ∧ (parseMethodDescriptor yJ4_set_2.desc).map (fun d => d.parameters.length) = some 1 := by decide +kernel
theorem hRDJ4_clear : yJ4_clear.cls ≠ "java/lang/invoke/MethodHandle" ∧ yJ4_clear.cls ≠ "java/lang/invoke/VarHandle" ∧ (parseMethodDescriptor yJ4_clear.desc).map (fun d => d.parameters.length) = some 1 := by decide +kernel
theorem hRDJ4_set : yJ4_set.cls ≠ "java/lang/invoke/MethodHandle" ∧ yJ4_set.cls ≠ "java/lang/invoke/VarHandle" ∧ (parseMethodDescriptor yJ4_set.desc).map (fun d => d.parameters.length) = some 2 := by decide +kernel
theorem hRDJ21_bitCount : yJ21_bitCount.cls ≠ "java/lang/invoke/MethodHandle" ∧ yJ21_bitCount.cls ≠ "java/lang/invoke/VarHandle" ∧ (parseMethodDescriptor yJ21_bitCount.desc).map (fun d => d.parameters.length) = some 1 := by decide +kernel
theorem hRDX27_setOf : yX27_setOf.cls ≠ "java/lang/invoke/MethodHandle" ∧ yX27_setOf.cls ≠ "java/lang/invoke/VarHandle" ∧ (parseMethodDescriptor yX27_setOf.desc).map (fun d => d.parameters.length) = some 1 := by decide +kernel
theorem hRDJ4_cardinality : yJ4_cardinality.cls ≠ "java/lang/invoke/MethodHandle" ∧ yJ4_cardinality.cls ≠ "java/lang/invoke/VarHandle" ∧ (parseMethodDescriptor yJ4_cardinality.desc).map (fun d => d.parameters.length) = some 0 := by decide +kernel
theorem hRDJ3_numberOfTrailingZeros : yJ3_numberOfTrailingZeros.cls ≠ "java/lang/invoke/MethodHandle" ∧ yJ3_numberOfTrailingZeros.cls ≠ "java/lang/invoke/VarHandle" ∧ (parseMethodDescriptor yJ3_numberOfTrailingZeros.desc).map (fun d => d.parameters.length) = some 1 := by decide +kernel
theorem hRDJ21_numberOfTrailingZeros : yJ21_numberOfTrailingZeros.cls ≠ "java/lang/invoke/MethodHandle" ∧ yJ21_numberOfTrailingZeros.cls ≠ "java/lang/invoke/VarHandle" ∧ (parseMethodDescriptor yJ21_numberOfTrailingZeros.desc).map (fun d => d.parameters.length) = some 1 := by decide +kernel
theorem hRDJ4_nextSetBit : yJ4_nextSetBit.cls ≠ "java/lang/invoke/MethodHandle" ∧ yJ4_nextSetBit.cls ≠ "java/lang/invoke/VarHandle" ∧ (parseMethodDescriptor yJ4_nextSetBit.desc).map (fun d => d.parameters.length) = some 1 := by decide +kernel
theorem hRDJ4_clear_2 : yJ4_clear_2.cls ≠ "java/lang/invoke/MethodHandle" ∧ yJ4_clear_2.cls ≠ "java/lang/invoke/VarHandle" ∧ (parseMethodDescriptor yJ4_clear_2.desc).map (fun d => d.parameters.length) = some 0 := by decide +kernel
theorem hRDJ4_or : yJ4_or.cls ≠ "java/lang/invoke/MethodHandle" ∧ yJ4_or.cls ≠ "java/lang/invoke/VarHandle" ∧ (parseMethodDescriptor yJ4_or.desc).map (fun d => d.parameters.length) = some 1 := by decide +kernel
theorem hRDJ4_andNot : yJ4_andNot.cls ≠ "java/lang/invoke/MethodHandle" ∧ yJ4_andNot.cls ≠ "java/lang/invoke/VarHandle" ∧ (parseMethodDescriptor yJ4_andNot.desc).map (fun d => d.parameters.length) = some 1 := by decide +kernel
theorem hRDX27_put : yX27_put.cls ≠ "java/lang/invoke/MethodHandle" ∧ yX27_put.cls ≠ "java/lang/invoke/VarHandle" ∧ (parseMethodDescriptor yX27_put.desc).map (fun d => d.parameters.length) = some 3 := by decide +kernel
theorem hRDJ4_isEmpty : yJ4_isEmpty.cls ≠ "java/lang/invoke/MethodHandle" ∧ yJ4_isEmpty.cls ≠ "java/lang/invoke/VarHandle" ∧ (parseMethodDescriptor yJ4_isEmpty.desc).map (fun d => d.parameters.length) = some 0 := by decide +kernel
theorem hRDX27_inOrder : yX27_inOrder.cls ≠ "java/lang/invoke/MethodHandle" ∧ yX27_inOrder.cls ≠ "java/lang/invoke/VarHandle" ∧ (parseMethodDescriptor yX27_inOrder.desc).map (fun d => d.parameters.length) = some 1 := by decide +kernel
theorem hRDX27_decided : yX27_decided.cls ≠ "java/lang/invoke/MethodHandle" ∧ yX27_decided.cls ≠ "java/lang/invoke/VarHandle" ∧ (parseMethodDescriptor yX27_decided.desc).map (fun d => d.parameters.length) = some 3 := by decide +kernel
theorem hRDJ4_get : yJ4_get.cls ≠ "java/lang/invoke/MethodHandle" ∧ yJ4_get.cls ≠ "java/lang/invoke/VarHandle" ∧ (parseMethodDescriptor yJ4_get.desc).map (fun d => d.parameters.length) = some 1 := by decide +kernel
theorem hRDJ4_xor : yJ4_xor.cls ≠ "java/lang/invoke/MethodHandle" ∧ yJ4_xor.cls ≠ "java/lang/invoke/VarHandle" ∧ (parseMethodDescriptor yJ4_xor.desc).map (fun d => d.parameters.length) = some 1 := by decide +kernel
def sg4 : Nat → Int32 := fun j => ([8, 8, 4, 6, 4] : List Int32).getD j 0
def kERD (G : kGt) (sa : Nat → Nat) : Prop := ∀ (A : Nat → Prop) (s : State) (H : Heap), G A s H → va_Z "java/util/ArrayList" "DEFAULTCAPACITY_EMPTY_ELEMENTDATA" "[Ljava/lang/Object;" (.ref (sa 0)) A s H ∧ va_Fw "KnowHouse$RightDesk$Is" ⟨"KnowHouse$RightDesk$Condition", "holds", "(LKnowHouse$RightDesk$Ask;[Z)Z"⟩ ⟨"KnowHouse$RightDesk$Is", "holds", "(LKnowHouse$RightDesk$Ask;[Z)Z"⟩ s ∧ va_Fw "KnowHouse$RightDesk$Versions" ⟨"KnowHouse$RightDesk$Condition", "holds", "(LKnowHouse$RightDesk$Ask;[Z)Z"⟩ ⟨"KnowHouse$RightDesk$Versions", "holds", "(LKnowHouse$RightDesk$Ask;[Z)Z"⟩ s ∧ va_Fw "KnowHouse$RightDesk$Not" ⟨"KnowHouse$RightDesk$Condition", "holds", "(LKnowHouse$RightDesk$Ask;[Z)Z"⟩ ⟨"KnowHouse$RightDesk$Not", "holds", "(LKnowHouse$RightDesk$Ask;[Z)Z"⟩ s ∧ va_Fw "KnowHouse$RightDesk$Some" ⟨"KnowHouse$RightDesk$Condition", "holds", "(LKnowHouse$RightDesk$Ask;[Z)Z"⟩ ⟨"KnowHouse$RightDesk$Some", "holds", "(LKnowHouse$RightDesk$Ask;[Z)Z"⟩ s ∧ va_Fw "KnowHouse$RightDesk$Always" ⟨"KnowHouse$RightDesk$Condition", "holds", "(LKnowHouse$RightDesk$Ask;[Z)Z"⟩ ⟨"KnowHouse$RightDesk$Always", "holds", "(LKnowHouse$RightDesk$Ask;[Z)Z"⟩ s ∧ va_Z "KnowHouse$RightDesk" "MOST" "[I" (.ref (sa 4)) A s H ∧ va_T .int (sa 4) 5 (fun j => .int (sg4 j)) A s H ∧ va_Mi "[Ljava/lang/Object;" (sa 10) s ∧ va_T (.object "java/lang/Object") (sa 0) 0 (fun _ => .null) A s H ∧ va_Z "java/util/BitSet" "$assertionsDisabled" "Z" (.int 1) A s H ∧ True
theorem kERD_0 {G : kGt} {sa : Nat → Nat} (h : kERD G sa) {A : Nat → Prop} {s : State} {H : Heap} (g : G A s H) : va_Z "java/util/ArrayList" "DEFAULTCAPACITY_EMPTY_ELEMENTDATA" "[Ljava/lang/Object;" (.ref (sa 0)) A s H := (h A s H g).1
theorem kERD_1 {G : kGt} {sa : Nat → Nat} (h : kERD G sa) {A : Nat → Prop} {s : State} {H : Heap} (g : G A s H) : va_Fw "KnowHouse$RightDesk$Is" ⟨"KnowHouse$RightDesk$Condition", "holds", "(LKnowHouse$RightDesk$Ask;[Z)Z"⟩ ⟨"KnowHouse$RightDesk$Is", "holds", "(LKnowHouse$RightDesk$Ask;[Z)Z"⟩ s := (h A s H g).2.1
theorem kERD_2 {G : kGt} {sa : Nat → Nat} (h : kERD G sa) {A : Nat → Prop} {s : State} {H : Heap} (g : G A s H) : va_Fw "KnowHouse$RightDesk$Versions" ⟨"KnowHouse$RightDesk$Condition", "holds", "(LKnowHouse$RightDesk$Ask;[Z)Z"⟩ ⟨"KnowHouse$RightDesk$Versions", "holds", "(LKnowHouse$RightDesk$Ask;[Z)Z"⟩ s := (h A s H g).2.2.1
theorem kERD_3 {G : kGt} {sa : Nat → Nat} (h : kERD G sa) {A : Nat → Prop} {s : State} {H : Heap} (g : G A s H) : va_Fw "KnowHouse$RightDesk$Not" ⟨"KnowHouse$RightDesk$Condition", "holds", "(LKnowHouse$RightDesk$Ask;[Z)Z"⟩ ⟨"KnowHouse$RightDesk$Not", "holds", "(LKnowHouse$RightDesk$Ask;[Z)Z"⟩ s := (h A s H g).2.2.2.1
theorem kERD_4 {G : kGt} {sa : Nat → Nat} (h : kERD G sa) {A : Nat → Prop} {s : State} {H : Heap} (g : G A s H) : va_Fw "KnowHouse$RightDesk$Some" ⟨"KnowHouse$RightDesk$Condition", "holds", "(LKnowHouse$RightDesk$Ask;[Z)Z"⟩ ⟨"KnowHouse$RightDesk$Some", "holds", "(LKnowHouse$RightDesk$Ask;[Z)Z"⟩ s := (h A s H g).2.2.2.2.1
theorem kERD_5 {G : kGt} {sa : Nat → Nat} (h : kERD G sa) {A : Nat → Prop} {s : State} {H : Heap} (g : G A s H) : va_Fw "KnowHouse$RightDesk$Always" ⟨"KnowHouse$RightDesk$Condition", "holds", "(LKnowHouse$RightDesk$Ask;[Z)Z"⟩ ⟨"KnowHouse$RightDesk$Always", "holds", "(LKnowHouse$RightDesk$Ask;[Z)Z"⟩ s := (h A s H g).2.2.2.2.2.1
theorem kERD_6 {G : kGt} {sa : Nat → Nat} (h : kERD G sa) {A : Nat → Prop} {s : State} {H : Heap} (g : G A s H) : va_Z "KnowHouse$RightDesk" "MOST" "[I" (.ref (sa 4)) A s H := (h A s H g).2.2.2.2.2.2.1
theorem kERD_7 {G : kGt} {sa : Nat → Nat} (h : kERD G sa) {A : Nat → Prop} {s : State} {H : Heap} (g : G A s H) : va_T .int (sa 4) 5 (fun j => .int (sg4 j)) A s H := (h A s H g).2.2.2.2.2.2.2.1
theorem kERD_8 {G : kGt} {sa : Nat → Nat} (h : kERD G sa) {A : Nat → Prop} {s : State} {H : Heap} (g : G A s H) : va_Mi "[Ljava/lang/Object;" (sa 10) s := (h A s H g).2.2.2.2.2.2.2.2.1
theorem kERD_9 {G : kGt} {sa : Nat → Nat} (h : kERD G sa) {A : Nat → Prop} {s : State} {H : Heap} (g : G A s H) : va_T (.object "java/lang/Object") (sa 0) 0 (fun _ => .null) A s H := (h A s H g).2.2.2.2.2.2.2.2.2.1
theorem kERD_10 {G : kGt} {sa : Nat → Nat} (h : kERD G sa) {A : Nat → Prop} {s : State} {H : Heap} (g : G A s H) : va_Z "java/util/BitSet" "$assertionsDisabled" "Z" (.int 1) A s H := (h A s H g).2.2.2.2.2.2.2.2.2.2.1
def cRD (ci : Nat → Nat) (d : Nat → ClassId) (kd : Nat → Nat) (an : Nat → Nat) (ai : Nat → Nat → Int32) (al : Nat → Nat → Int64) (ar : Nat → Nat → Option Nat) (mX27_groups : Nat → Option Nat) (mX27_conditions : Nat → Option Nat) (mX27_rules : Nat → Option Nat) (mX27_sets : Nat → Option Nat) (mX27_right : Nat → Int32) (mX27_known : Nat → Option Nat) (mX27_asks : Nat → Option Nat) (mX27_done : Nat → Option Nat) (mX27_more : Nat → Option Nat) (mX27_its : Nat → Option Nat) (mX27_allowed : Nat → Option Nat) (mX27_other : Nat → Option Nat) (mX27_order : Nat → Option Nat) (mX28_person : Nat → Int32) (mX28_graph : Nat → Int32) (mX28_predicate : Nat → Int32) (mX28_class0 : Nat → Int32) (mX28_version : Nat → Int32) (mX75_kind : Nat → Int32) (mX75_number : Nat → Int32) (mX75_groups : Nat → Option Nat) (mX76_from : Nat → Int32) (mX76_to : Nat → Int32) (mX77_of : Nat → Int32) (mX78_least : Nat → Int32) (mX78_of : Nat → Option Nat) (mX80_rank : Nat → Int32) (mX80_denies : Nat → Int32) (mX80_condition : Nat → Int32) (mJ1_modCount : Nat → Int32) (mJ2_elementData : Nat → Option Nat) (mJ2_size : Nat → Int32) (mJ4_words : Nat → Option Nat) (mJ4_wordsInUse : Nat → Int32) (mJ4_sizeIsSticky : Nat → Int32) : Nat → va_E := fun a => match kd a with
  | 1 => .inr (ci 0, [va_rf (mX27_groups a), va_rf (mX27_conditions a), va_rf (mX27_rules a), va_rf (mX27_sets a), .int (mX27_right a), va_rf (mX27_known a), va_rf (mX27_asks a), va_rf (mX27_done a), va_rf (mX27_more a), va_rf (mX27_its a), va_rf (mX27_allowed a), va_rf (mX27_other a), va_rf (mX27_order a)])
  | 2 => .inr (ci 1, [.int (mX28_person a), .int (mX28_graph a), .int (mX28_predicate a), .int (mX28_class0 a), .int (mX28_version a)])
  | 3 => .inr (ci 2, [.int (mX75_kind a), .int (mX75_number a), va_rf (mX75_groups a)])
  | 4 => .inr (ci 3, [.int (mX76_from a), .int (mX76_to a)])
  | 5 => .inr (ci 4, [.int (mX77_of a)])
  | 6 => .inr (ci 5, [.int (mX78_least a), va_rf (mX78_of a)])
  | 7 => .inr (ci 6, [])
  | 8 => .inr (ci 7, [.int (mX80_rank a), .int (mX80_denies a), .int (mX80_condition a)])
  | 9 => .inr (ci 8, [.int (mJ1_modCount a), va_rf (mJ2_elementData a), .int (mJ2_size a)])
  | 10 => .inr (ci 9, [va_rf (mJ4_words a), .int (mJ4_wordsInUse a), .int (mJ4_sizeIsSticky a)])
  | 11 => .inl (d 0, an a, .inl (ai a))
  | 12 => .inl (d 1, an a, .inl (ai a))
  | 13 => .inl (d 2, an a, .inr (.inl (al a)))
  | 14 => .inl (d 3, an a, .inr (.inr (.inr (.inr (ar a)))))
  | 15 => .inl (d 4, an a, .inr (.inr (.inr (.inr (ar a)))))
  | _ => .inl (d 0, 0, .inl (fun _ => 0))
abbrev kRD : List vw_C := [(RX27, TX27, 13), (RX28, TX28, 5), (RX75, TX75, 3), (RX76, TX76, 2), (RX77, TX77, 1), (RX78, TX78, 2), (RX79, TX79, 0), (RX80, TX80, 3), (RJ2, TJ2, 3), (RJ4, TJ4, 3)]
abbrev tRD (d : Nat → ClassId) : List (ClassId × FieldType) := [(d 0, .int), (d 1, .boolean), (d 2, .long), (d 3, (.object "KnowHouse$RightDesk$Ask")), (d 4, (.object "java/lang/Object"))]
theorem cRD_1 {ci : Nat → Nat} {d : Nat → ClassId} {kd : Nat → Nat} {an : Nat → Nat} {ai : Nat → Nat → Int32} {al : Nat → Nat → Int64} {ar : Nat → Nat → Option Nat} {mX27_groups : Nat → Option Nat} {mX27_conditions : Nat → Option Nat} {mX27_rules : Nat → Option Nat} {mX27_sets : Nat → Option Nat} {mX27_right : Nat → Int32} {mX27_known : Nat → Option Nat} {mX27_asks : Nat → Option Nat} {mX27_done : Nat → Option Nat} {mX27_more : Nat → Option Nat} {mX27_its : Nat → Option Nat} {mX27_allowed : Nat → Option Nat} {mX27_other : Nat → Option Nat} {mX27_order : Nat → Option Nat} {mX28_person : Nat → Int32} {mX28_graph : Nat → Int32} {mX28_predicate : Nat → Int32} {mX28_class0 : Nat → Int32} {mX28_version : Nat → Int32} {mX75_kind : Nat → Int32} {mX75_number : Nat → Int32} {mX75_groups : Nat → Option Nat} {mX76_from : Nat → Int32} {mX76_to : Nat → Int32} {mX77_of : Nat → Int32} {mX78_least : Nat → Int32} {mX78_of : Nat → Option Nat} {mX80_rank : Nat → Int32} {mX80_denies : Nat → Int32} {mX80_condition : Nat → Int32} {mJ1_modCount : Nat → Int32} {mJ2_elementData : Nat → Option Nat} {mJ2_size : Nat → Int32} {mJ4_words : Nat → Option Nat} {mJ4_wordsInUse : Nat → Int32} {mJ4_sizeIsSticky : Nat → Int32} {a : Nat} (hk : kd a = 1) : (cRD ci d kd an ai al ar mX27_groups mX27_conditions mX27_rules mX27_sets mX27_right mX27_known mX27_asks mX27_done mX27_more mX27_its mX27_allowed mX27_other mX27_order mX28_person mX28_graph mX28_predicate mX28_class0 mX28_version mX75_kind mX75_number mX75_groups mX76_from mX76_to mX77_of mX78_least mX78_of mX80_rank mX80_denies mX80_condition mJ1_modCount mJ2_elementData mJ2_size mJ4_words mJ4_wordsInUse mJ4_sizeIsSticky) a = .inr (ci 0, [va_rf (mX27_groups a), va_rf (mX27_conditions a), va_rf (mX27_rules a), va_rf (mX27_sets a), .int (mX27_right a), va_rf (mX27_known a), va_rf (mX27_asks a), va_rf (mX27_done a), va_rf (mX27_more a), va_rf (mX27_its a), va_rf (mX27_allowed a), va_rf (mX27_other a), va_rf (mX27_order a)]) := by unfold cRD; simp only [hk]
theorem cRD_1_0 {ci : Nat → Nat} {d : Nat → ClassId} {kd : Nat → Nat} {an : Nat → Nat} {ai : Nat → Nat → Int32} {al : Nat → Nat → Int64} {ar : Nat → Nat → Option Nat} {mX27_groups : Nat → Option Nat} {mX27_conditions : Nat → Option Nat} {mX27_rules : Nat → Option Nat} {mX27_sets : Nat → Option Nat} {mX27_right : Nat → Int32} {mX27_known : Nat → Option Nat} {mX27_asks : Nat → Option Nat} {mX27_done : Nat → Option Nat} {mX27_more : Nat → Option Nat} {mX27_its : Nat → Option Nat} {mX27_allowed : Nat → Option Nat} {mX27_other : Nat → Option Nat} {mX27_order : Nat → Option Nat} {mX28_person : Nat → Int32} {mX28_graph : Nat → Int32} {mX28_predicate : Nat → Int32} {mX28_class0 : Nat → Int32} {mX28_version : Nat → Int32} {mX75_kind : Nat → Int32} {mX75_number : Nat → Int32} {mX75_groups : Nat → Option Nat} {mX76_from : Nat → Int32} {mX76_to : Nat → Int32} {mX77_of : Nat → Int32} {mX78_least : Nat → Int32} {mX78_of : Nat → Option Nat} {mX80_rank : Nat → Int32} {mX80_denies : Nat → Int32} {mX80_condition : Nat → Int32} {mJ1_modCount : Nat → Int32} {mJ2_elementData : Nat → Option Nat} {mJ2_size : Nat → Int32} {mJ4_words : Nat → Option Nat} {mJ4_wordsInUse : Nat → Int32} {mJ4_sizeIsSticky : Nat → Int32} {a : Nat} {v : Option Nat} (hk : kd a = 1) : va_up (cRD ci d kd an ai al ar mX27_groups mX27_conditions mX27_rules mX27_sets mX27_right mX27_known mX27_asks mX27_done mX27_more mX27_its mX27_allowed mX27_other mX27_order mX28_person mX28_graph mX28_predicate mX28_class0 mX28_version mX75_kind mX75_number mX75_groups mX76_from mX76_to mX77_of mX78_least mX78_of mX80_rank mX80_denies mX80_condition mJ1_modCount mJ2_elementData mJ2_size mJ4_words mJ4_wordsInUse mJ4_sizeIsSticky) a (.inr (ci 0, [va_rf v, va_rf (mX27_conditions a), va_rf (mX27_rules a), va_rf (mX27_sets a), .int (mX27_right a), va_rf (mX27_known a), va_rf (mX27_asks a), va_rf (mX27_done a), va_rf (mX27_more a), va_rf (mX27_its a), va_rf (mX27_allowed a), va_rf (mX27_other a), va_rf (mX27_order a)])) = (cRD ci d kd an ai al ar (va_up mX27_groups a v) mX27_conditions mX27_rules mX27_sets mX27_right mX27_known mX27_asks mX27_done mX27_more mX27_its mX27_allowed mX27_other mX27_order mX28_person mX28_graph mX28_predicate mX28_class0 mX28_version mX75_kind mX75_number mX75_groups mX76_from mX76_to mX77_of mX78_least mX78_of mX80_rank mX80_denies mX80_condition mJ1_modCount mJ2_elementData mJ2_size mJ4_words mJ4_wordsInUse mJ4_sizeIsSticky) := by
  funext b
  by_cases h : b = a
  · subst h
    rw [va_up_self]
    unfold cRD
    rw [hk]
    simp only [va_up_self]
  · rw [va_up_ne _ _ h]
    unfold cRD
    simp only [va_up_ne _ _ h]
theorem cRD_1_1 {ci : Nat → Nat} {d : Nat → ClassId} {kd : Nat → Nat} {an : Nat → Nat} {ai : Nat → Nat → Int32} {al : Nat → Nat → Int64} {ar : Nat → Nat → Option Nat} {mX27_groups : Nat → Option Nat} {mX27_conditions : Nat → Option Nat} {mX27_rules : Nat → Option Nat} {mX27_sets : Nat → Option Nat} {mX27_right : Nat → Int32} {mX27_known : Nat → Option Nat} {mX27_asks : Nat → Option Nat} {mX27_done : Nat → Option Nat} {mX27_more : Nat → Option Nat} {mX27_its : Nat → Option Nat} {mX27_allowed : Nat → Option Nat} {mX27_other : Nat → Option Nat} {mX27_order : Nat → Option Nat} {mX28_person : Nat → Int32} {mX28_graph : Nat → Int32} {mX28_predicate : Nat → Int32} {mX28_class0 : Nat → Int32} {mX28_version : Nat → Int32} {mX75_kind : Nat → Int32} {mX75_number : Nat → Int32} {mX75_groups : Nat → Option Nat} {mX76_from : Nat → Int32} {mX76_to : Nat → Int32} {mX77_of : Nat → Int32} {mX78_least : Nat → Int32} {mX78_of : Nat → Option Nat} {mX80_rank : Nat → Int32} {mX80_denies : Nat → Int32} {mX80_condition : Nat → Int32} {mJ1_modCount : Nat → Int32} {mJ2_elementData : Nat → Option Nat} {mJ2_size : Nat → Int32} {mJ4_words : Nat → Option Nat} {mJ4_wordsInUse : Nat → Int32} {mJ4_sizeIsSticky : Nat → Int32} {a : Nat} {v : Option Nat} (hk : kd a = 1) : va_up (cRD ci d kd an ai al ar mX27_groups mX27_conditions mX27_rules mX27_sets mX27_right mX27_known mX27_asks mX27_done mX27_more mX27_its mX27_allowed mX27_other mX27_order mX28_person mX28_graph mX28_predicate mX28_class0 mX28_version mX75_kind mX75_number mX75_groups mX76_from mX76_to mX77_of mX78_least mX78_of mX80_rank mX80_denies mX80_condition mJ1_modCount mJ2_elementData mJ2_size mJ4_words mJ4_wordsInUse mJ4_sizeIsSticky) a (.inr (ci 0, [va_rf (mX27_groups a), va_rf v, va_rf (mX27_rules a), va_rf (mX27_sets a), .int (mX27_right a), va_rf (mX27_known a), va_rf (mX27_asks a), va_rf (mX27_done a), va_rf (mX27_more a), va_rf (mX27_its a), va_rf (mX27_allowed a), va_rf (mX27_other a), va_rf (mX27_order a)])) = (cRD ci d kd an ai al ar mX27_groups (va_up mX27_conditions a v) mX27_rules mX27_sets mX27_right mX27_known mX27_asks mX27_done mX27_more mX27_its mX27_allowed mX27_other mX27_order mX28_person mX28_graph mX28_predicate mX28_class0 mX28_version mX75_kind mX75_number mX75_groups mX76_from mX76_to mX77_of mX78_least mX78_of mX80_rank mX80_denies mX80_condition mJ1_modCount mJ2_elementData mJ2_size mJ4_words mJ4_wordsInUse mJ4_sizeIsSticky) := by
  funext b
  by_cases h : b = a
  · subst h
    rw [va_up_self]
    unfold cRD
    rw [hk]
    simp only [va_up_self]
  · rw [va_up_ne _ _ h]
    unfold cRD
    simp only [va_up_ne _ _ h]
theorem cRD_1_2 {ci : Nat → Nat} {d : Nat → ClassId} {kd : Nat → Nat} {an : Nat → Nat} {ai : Nat → Nat → Int32} {al : Nat → Nat → Int64} {ar : Nat → Nat → Option Nat} {mX27_groups : Nat → Option Nat} {mX27_conditions : Nat → Option Nat} {mX27_rules : Nat → Option Nat} {mX27_sets : Nat → Option Nat} {mX27_right : Nat → Int32} {mX27_known : Nat → Option Nat} {mX27_asks : Nat → Option Nat} {mX27_done : Nat → Option Nat} {mX27_more : Nat → Option Nat} {mX27_its : Nat → Option Nat} {mX27_allowed : Nat → Option Nat} {mX27_other : Nat → Option Nat} {mX27_order : Nat → Option Nat} {mX28_person : Nat → Int32} {mX28_graph : Nat → Int32} {mX28_predicate : Nat → Int32} {mX28_class0 : Nat → Int32} {mX28_version : Nat → Int32} {mX75_kind : Nat → Int32} {mX75_number : Nat → Int32} {mX75_groups : Nat → Option Nat} {mX76_from : Nat → Int32} {mX76_to : Nat → Int32} {mX77_of : Nat → Int32} {mX78_least : Nat → Int32} {mX78_of : Nat → Option Nat} {mX80_rank : Nat → Int32} {mX80_denies : Nat → Int32} {mX80_condition : Nat → Int32} {mJ1_modCount : Nat → Int32} {mJ2_elementData : Nat → Option Nat} {mJ2_size : Nat → Int32} {mJ4_words : Nat → Option Nat} {mJ4_wordsInUse : Nat → Int32} {mJ4_sizeIsSticky : Nat → Int32} {a : Nat} {v : Option Nat} (hk : kd a = 1) : va_up (cRD ci d kd an ai al ar mX27_groups mX27_conditions mX27_rules mX27_sets mX27_right mX27_known mX27_asks mX27_done mX27_more mX27_its mX27_allowed mX27_other mX27_order mX28_person mX28_graph mX28_predicate mX28_class0 mX28_version mX75_kind mX75_number mX75_groups mX76_from mX76_to mX77_of mX78_least mX78_of mX80_rank mX80_denies mX80_condition mJ1_modCount mJ2_elementData mJ2_size mJ4_words mJ4_wordsInUse mJ4_sizeIsSticky) a (.inr (ci 0, [va_rf (mX27_groups a), va_rf (mX27_conditions a), va_rf v, va_rf (mX27_sets a), .int (mX27_right a), va_rf (mX27_known a), va_rf (mX27_asks a), va_rf (mX27_done a), va_rf (mX27_more a), va_rf (mX27_its a), va_rf (mX27_allowed a), va_rf (mX27_other a), va_rf (mX27_order a)])) = (cRD ci d kd an ai al ar mX27_groups mX27_conditions (va_up mX27_rules a v) mX27_sets mX27_right mX27_known mX27_asks mX27_done mX27_more mX27_its mX27_allowed mX27_other mX27_order mX28_person mX28_graph mX28_predicate mX28_class0 mX28_version mX75_kind mX75_number mX75_groups mX76_from mX76_to mX77_of mX78_least mX78_of mX80_rank mX80_denies mX80_condition mJ1_modCount mJ2_elementData mJ2_size mJ4_words mJ4_wordsInUse mJ4_sizeIsSticky) := by
  funext b
  by_cases h : b = a
  · subst h
    rw [va_up_self]
    unfold cRD
    rw [hk]
    simp only [va_up_self]
  · rw [va_up_ne _ _ h]
    unfold cRD
    simp only [va_up_ne _ _ h]
theorem cRD_1_3 {ci : Nat → Nat} {d : Nat → ClassId} {kd : Nat → Nat} {an : Nat → Nat} {ai : Nat → Nat → Int32} {al : Nat → Nat → Int64} {ar : Nat → Nat → Option Nat} {mX27_groups : Nat → Option Nat} {mX27_conditions : Nat → Option Nat} {mX27_rules : Nat → Option Nat} {mX27_sets : Nat → Option Nat} {mX27_right : Nat → Int32} {mX27_known : Nat → Option Nat} {mX27_asks : Nat → Option Nat} {mX27_done : Nat → Option Nat} {mX27_more : Nat → Option Nat} {mX27_its : Nat → Option Nat} {mX27_allowed : Nat → Option Nat} {mX27_other : Nat → Option Nat} {mX27_order : Nat → Option Nat} {mX28_person : Nat → Int32} {mX28_graph : Nat → Int32} {mX28_predicate : Nat → Int32} {mX28_class0 : Nat → Int32} {mX28_version : Nat → Int32} {mX75_kind : Nat → Int32} {mX75_number : Nat → Int32} {mX75_groups : Nat → Option Nat} {mX76_from : Nat → Int32} {mX76_to : Nat → Int32} {mX77_of : Nat → Int32} {mX78_least : Nat → Int32} {mX78_of : Nat → Option Nat} {mX80_rank : Nat → Int32} {mX80_denies : Nat → Int32} {mX80_condition : Nat → Int32} {mJ1_modCount : Nat → Int32} {mJ2_elementData : Nat → Option Nat} {mJ2_size : Nat → Int32} {mJ4_words : Nat → Option Nat} {mJ4_wordsInUse : Nat → Int32} {mJ4_sizeIsSticky : Nat → Int32} {a : Nat} {v : Option Nat} (hk : kd a = 1) : va_up (cRD ci d kd an ai al ar mX27_groups mX27_conditions mX27_rules mX27_sets mX27_right mX27_known mX27_asks mX27_done mX27_more mX27_its mX27_allowed mX27_other mX27_order mX28_person mX28_graph mX28_predicate mX28_class0 mX28_version mX75_kind mX75_number mX75_groups mX76_from mX76_to mX77_of mX78_least mX78_of mX80_rank mX80_denies mX80_condition mJ1_modCount mJ2_elementData mJ2_size mJ4_words mJ4_wordsInUse mJ4_sizeIsSticky) a (.inr (ci 0, [va_rf (mX27_groups a), va_rf (mX27_conditions a), va_rf (mX27_rules a), va_rf v, .int (mX27_right a), va_rf (mX27_known a), va_rf (mX27_asks a), va_rf (mX27_done a), va_rf (mX27_more a), va_rf (mX27_its a), va_rf (mX27_allowed a), va_rf (mX27_other a), va_rf (mX27_order a)])) = (cRD ci d kd an ai al ar mX27_groups mX27_conditions mX27_rules (va_up mX27_sets a v) mX27_right mX27_known mX27_asks mX27_done mX27_more mX27_its mX27_allowed mX27_other mX27_order mX28_person mX28_graph mX28_predicate mX28_class0 mX28_version mX75_kind mX75_number mX75_groups mX76_from mX76_to mX77_of mX78_least mX78_of mX80_rank mX80_denies mX80_condition mJ1_modCount mJ2_elementData mJ2_size mJ4_words mJ4_wordsInUse mJ4_sizeIsSticky) := by
  funext b
  by_cases h : b = a
  · subst h
    rw [va_up_self]
    unfold cRD
    rw [hk]
    simp only [va_up_self]
  · rw [va_up_ne _ _ h]
    unfold cRD
    simp only [va_up_ne _ _ h]
theorem cRD_1_4 {ci : Nat → Nat} {d : Nat → ClassId} {kd : Nat → Nat} {an : Nat → Nat} {ai : Nat → Nat → Int32} {al : Nat → Nat → Int64} {ar : Nat → Nat → Option Nat} {mX27_groups : Nat → Option Nat} {mX27_conditions : Nat → Option Nat} {mX27_rules : Nat → Option Nat} {mX27_sets : Nat → Option Nat} {mX27_right : Nat → Int32} {mX27_known : Nat → Option Nat} {mX27_asks : Nat → Option Nat} {mX27_done : Nat → Option Nat} {mX27_more : Nat → Option Nat} {mX27_its : Nat → Option Nat} {mX27_allowed : Nat → Option Nat} {mX27_other : Nat → Option Nat} {mX27_order : Nat → Option Nat} {mX28_person : Nat → Int32} {mX28_graph : Nat → Int32} {mX28_predicate : Nat → Int32} {mX28_class0 : Nat → Int32} {mX28_version : Nat → Int32} {mX75_kind : Nat → Int32} {mX75_number : Nat → Int32} {mX75_groups : Nat → Option Nat} {mX76_from : Nat → Int32} {mX76_to : Nat → Int32} {mX77_of : Nat → Int32} {mX78_least : Nat → Int32} {mX78_of : Nat → Option Nat} {mX80_rank : Nat → Int32} {mX80_denies : Nat → Int32} {mX80_condition : Nat → Int32} {mJ1_modCount : Nat → Int32} {mJ2_elementData : Nat → Option Nat} {mJ2_size : Nat → Int32} {mJ4_words : Nat → Option Nat} {mJ4_wordsInUse : Nat → Int32} {mJ4_sizeIsSticky : Nat → Int32} {a : Nat} {v : Int32} (hk : kd a = 1) : va_up (cRD ci d kd an ai al ar mX27_groups mX27_conditions mX27_rules mX27_sets mX27_right mX27_known mX27_asks mX27_done mX27_more mX27_its mX27_allowed mX27_other mX27_order mX28_person mX28_graph mX28_predicate mX28_class0 mX28_version mX75_kind mX75_number mX75_groups mX76_from mX76_to mX77_of mX78_least mX78_of mX80_rank mX80_denies mX80_condition mJ1_modCount mJ2_elementData mJ2_size mJ4_words mJ4_wordsInUse mJ4_sizeIsSticky) a (.inr (ci 0, [va_rf (mX27_groups a), va_rf (mX27_conditions a), va_rf (mX27_rules a), va_rf (mX27_sets a), .int v, va_rf (mX27_known a), va_rf (mX27_asks a), va_rf (mX27_done a), va_rf (mX27_more a), va_rf (mX27_its a), va_rf (mX27_allowed a), va_rf (mX27_other a), va_rf (mX27_order a)])) = (cRD ci d kd an ai al ar mX27_groups mX27_conditions mX27_rules mX27_sets (va_up mX27_right a v) mX27_known mX27_asks mX27_done mX27_more mX27_its mX27_allowed mX27_other mX27_order mX28_person mX28_graph mX28_predicate mX28_class0 mX28_version mX75_kind mX75_number mX75_groups mX76_from mX76_to mX77_of mX78_least mX78_of mX80_rank mX80_denies mX80_condition mJ1_modCount mJ2_elementData mJ2_size mJ4_words mJ4_wordsInUse mJ4_sizeIsSticky) := by
  funext b
  by_cases h : b = a
  · subst h
    rw [va_up_self]
    unfold cRD
    rw [hk]
    simp only [va_up_self]
  · rw [va_up_ne _ _ h]
    unfold cRD
    simp only [va_up_ne _ _ h]
theorem cRD_1_5 {ci : Nat → Nat} {d : Nat → ClassId} {kd : Nat → Nat} {an : Nat → Nat} {ai : Nat → Nat → Int32} {al : Nat → Nat → Int64} {ar : Nat → Nat → Option Nat} {mX27_groups : Nat → Option Nat} {mX27_conditions : Nat → Option Nat} {mX27_rules : Nat → Option Nat} {mX27_sets : Nat → Option Nat} {mX27_right : Nat → Int32} {mX27_known : Nat → Option Nat} {mX27_asks : Nat → Option Nat} {mX27_done : Nat → Option Nat} {mX27_more : Nat → Option Nat} {mX27_its : Nat → Option Nat} {mX27_allowed : Nat → Option Nat} {mX27_other : Nat → Option Nat} {mX27_order : Nat → Option Nat} {mX28_person : Nat → Int32} {mX28_graph : Nat → Int32} {mX28_predicate : Nat → Int32} {mX28_class0 : Nat → Int32} {mX28_version : Nat → Int32} {mX75_kind : Nat → Int32} {mX75_number : Nat → Int32} {mX75_groups : Nat → Option Nat} {mX76_from : Nat → Int32} {mX76_to : Nat → Int32} {mX77_of : Nat → Int32} {mX78_least : Nat → Int32} {mX78_of : Nat → Option Nat} {mX80_rank : Nat → Int32} {mX80_denies : Nat → Int32} {mX80_condition : Nat → Int32} {mJ1_modCount : Nat → Int32} {mJ2_elementData : Nat → Option Nat} {mJ2_size : Nat → Int32} {mJ4_words : Nat → Option Nat} {mJ4_wordsInUse : Nat → Int32} {mJ4_sizeIsSticky : Nat → Int32} {a : Nat} {v : Option Nat} (hk : kd a = 1) : va_up (cRD ci d kd an ai al ar mX27_groups mX27_conditions mX27_rules mX27_sets mX27_right mX27_known mX27_asks mX27_done mX27_more mX27_its mX27_allowed mX27_other mX27_order mX28_person mX28_graph mX28_predicate mX28_class0 mX28_version mX75_kind mX75_number mX75_groups mX76_from mX76_to mX77_of mX78_least mX78_of mX80_rank mX80_denies mX80_condition mJ1_modCount mJ2_elementData mJ2_size mJ4_words mJ4_wordsInUse mJ4_sizeIsSticky) a (.inr (ci 0, [va_rf (mX27_groups a), va_rf (mX27_conditions a), va_rf (mX27_rules a), va_rf (mX27_sets a), .int (mX27_right a), va_rf v, va_rf (mX27_asks a), va_rf (mX27_done a), va_rf (mX27_more a), va_rf (mX27_its a), va_rf (mX27_allowed a), va_rf (mX27_other a), va_rf (mX27_order a)])) = (cRD ci d kd an ai al ar mX27_groups mX27_conditions mX27_rules mX27_sets mX27_right (va_up mX27_known a v) mX27_asks mX27_done mX27_more mX27_its mX27_allowed mX27_other mX27_order mX28_person mX28_graph mX28_predicate mX28_class0 mX28_version mX75_kind mX75_number mX75_groups mX76_from mX76_to mX77_of mX78_least mX78_of mX80_rank mX80_denies mX80_condition mJ1_modCount mJ2_elementData mJ2_size mJ4_words mJ4_wordsInUse mJ4_sizeIsSticky) := by
  funext b
  by_cases h : b = a
  · subst h
    rw [va_up_self]
    unfold cRD
    rw [hk]
    simp only [va_up_self]
  · rw [va_up_ne _ _ h]
    unfold cRD
    simp only [va_up_ne _ _ h]
theorem cRD_1_6 {ci : Nat → Nat} {d : Nat → ClassId} {kd : Nat → Nat} {an : Nat → Nat} {ai : Nat → Nat → Int32} {al : Nat → Nat → Int64} {ar : Nat → Nat → Option Nat} {mX27_groups : Nat → Option Nat} {mX27_conditions : Nat → Option Nat} {mX27_rules : Nat → Option Nat} {mX27_sets : Nat → Option Nat} {mX27_right : Nat → Int32} {mX27_known : Nat → Option Nat} {mX27_asks : Nat → Option Nat} {mX27_done : Nat → Option Nat} {mX27_more : Nat → Option Nat} {mX27_its : Nat → Option Nat} {mX27_allowed : Nat → Option Nat} {mX27_other : Nat → Option Nat} {mX27_order : Nat → Option Nat} {mX28_person : Nat → Int32} {mX28_graph : Nat → Int32} {mX28_predicate : Nat → Int32} {mX28_class0 : Nat → Int32} {mX28_version : Nat → Int32} {mX75_kind : Nat → Int32} {mX75_number : Nat → Int32} {mX75_groups : Nat → Option Nat} {mX76_from : Nat → Int32} {mX76_to : Nat → Int32} {mX77_of : Nat → Int32} {mX78_least : Nat → Int32} {mX78_of : Nat → Option Nat} {mX80_rank : Nat → Int32} {mX80_denies : Nat → Int32} {mX80_condition : Nat → Int32} {mJ1_modCount : Nat → Int32} {mJ2_elementData : Nat → Option Nat} {mJ2_size : Nat → Int32} {mJ4_words : Nat → Option Nat} {mJ4_wordsInUse : Nat → Int32} {mJ4_sizeIsSticky : Nat → Int32} {a : Nat} {v : Option Nat} (hk : kd a = 1) : va_up (cRD ci d kd an ai al ar mX27_groups mX27_conditions mX27_rules mX27_sets mX27_right mX27_known mX27_asks mX27_done mX27_more mX27_its mX27_allowed mX27_other mX27_order mX28_person mX28_graph mX28_predicate mX28_class0 mX28_version mX75_kind mX75_number mX75_groups mX76_from mX76_to mX77_of mX78_least mX78_of mX80_rank mX80_denies mX80_condition mJ1_modCount mJ2_elementData mJ2_size mJ4_words mJ4_wordsInUse mJ4_sizeIsSticky) a (.inr (ci 0, [va_rf (mX27_groups a), va_rf (mX27_conditions a), va_rf (mX27_rules a), va_rf (mX27_sets a), .int (mX27_right a), va_rf (mX27_known a), va_rf v, va_rf (mX27_done a), va_rf (mX27_more a), va_rf (mX27_its a), va_rf (mX27_allowed a), va_rf (mX27_other a), va_rf (mX27_order a)])) = (cRD ci d kd an ai al ar mX27_groups mX27_conditions mX27_rules mX27_sets mX27_right mX27_known (va_up mX27_asks a v) mX27_done mX27_more mX27_its mX27_allowed mX27_other mX27_order mX28_person mX28_graph mX28_predicate mX28_class0 mX28_version mX75_kind mX75_number mX75_groups mX76_from mX76_to mX77_of mX78_least mX78_of mX80_rank mX80_denies mX80_condition mJ1_modCount mJ2_elementData mJ2_size mJ4_words mJ4_wordsInUse mJ4_sizeIsSticky) := by
  funext b
  by_cases h : b = a
  · subst h
    rw [va_up_self]
    unfold cRD
    rw [hk]
    simp only [va_up_self]
  · rw [va_up_ne _ _ h]
    unfold cRD
    simp only [va_up_ne _ _ h]
theorem cRD_1_7 {ci : Nat → Nat} {d : Nat → ClassId} {kd : Nat → Nat} {an : Nat → Nat} {ai : Nat → Nat → Int32} {al : Nat → Nat → Int64} {ar : Nat → Nat → Option Nat} {mX27_groups : Nat → Option Nat} {mX27_conditions : Nat → Option Nat} {mX27_rules : Nat → Option Nat} {mX27_sets : Nat → Option Nat} {mX27_right : Nat → Int32} {mX27_known : Nat → Option Nat} {mX27_asks : Nat → Option Nat} {mX27_done : Nat → Option Nat} {mX27_more : Nat → Option Nat} {mX27_its : Nat → Option Nat} {mX27_allowed : Nat → Option Nat} {mX27_other : Nat → Option Nat} {mX27_order : Nat → Option Nat} {mX28_person : Nat → Int32} {mX28_graph : Nat → Int32} {mX28_predicate : Nat → Int32} {mX28_class0 : Nat → Int32} {mX28_version : Nat → Int32} {mX75_kind : Nat → Int32} {mX75_number : Nat → Int32} {mX75_groups : Nat → Option Nat} {mX76_from : Nat → Int32} {mX76_to : Nat → Int32} {mX77_of : Nat → Int32} {mX78_least : Nat → Int32} {mX78_of : Nat → Option Nat} {mX80_rank : Nat → Int32} {mX80_denies : Nat → Int32} {mX80_condition : Nat → Int32} {mJ1_modCount : Nat → Int32} {mJ2_elementData : Nat → Option Nat} {mJ2_size : Nat → Int32} {mJ4_words : Nat → Option Nat} {mJ4_wordsInUse : Nat → Int32} {mJ4_sizeIsSticky : Nat → Int32} {a : Nat} {v : Option Nat} (hk : kd a = 1) : va_up (cRD ci d kd an ai al ar mX27_groups mX27_conditions mX27_rules mX27_sets mX27_right mX27_known mX27_asks mX27_done mX27_more mX27_its mX27_allowed mX27_other mX27_order mX28_person mX28_graph mX28_predicate mX28_class0 mX28_version mX75_kind mX75_number mX75_groups mX76_from mX76_to mX77_of mX78_least mX78_of mX80_rank mX80_denies mX80_condition mJ1_modCount mJ2_elementData mJ2_size mJ4_words mJ4_wordsInUse mJ4_sizeIsSticky) a (.inr (ci 0, [va_rf (mX27_groups a), va_rf (mX27_conditions a), va_rf (mX27_rules a), va_rf (mX27_sets a), .int (mX27_right a), va_rf (mX27_known a), va_rf (mX27_asks a), va_rf v, va_rf (mX27_more a), va_rf (mX27_its a), va_rf (mX27_allowed a), va_rf (mX27_other a), va_rf (mX27_order a)])) = (cRD ci d kd an ai al ar mX27_groups mX27_conditions mX27_rules mX27_sets mX27_right mX27_known mX27_asks (va_up mX27_done a v) mX27_more mX27_its mX27_allowed mX27_other mX27_order mX28_person mX28_graph mX28_predicate mX28_class0 mX28_version mX75_kind mX75_number mX75_groups mX76_from mX76_to mX77_of mX78_least mX78_of mX80_rank mX80_denies mX80_condition mJ1_modCount mJ2_elementData mJ2_size mJ4_words mJ4_wordsInUse mJ4_sizeIsSticky) := by
  funext b
  by_cases h : b = a
  · subst h
    rw [va_up_self]
    unfold cRD
    rw [hk]
    simp only [va_up_self]
  · rw [va_up_ne _ _ h]
    unfold cRD
    simp only [va_up_ne _ _ h]
theorem cRD_1_8 {ci : Nat → Nat} {d : Nat → ClassId} {kd : Nat → Nat} {an : Nat → Nat} {ai : Nat → Nat → Int32} {al : Nat → Nat → Int64} {ar : Nat → Nat → Option Nat} {mX27_groups : Nat → Option Nat} {mX27_conditions : Nat → Option Nat} {mX27_rules : Nat → Option Nat} {mX27_sets : Nat → Option Nat} {mX27_right : Nat → Int32} {mX27_known : Nat → Option Nat} {mX27_asks : Nat → Option Nat} {mX27_done : Nat → Option Nat} {mX27_more : Nat → Option Nat} {mX27_its : Nat → Option Nat} {mX27_allowed : Nat → Option Nat} {mX27_other : Nat → Option Nat} {mX27_order : Nat → Option Nat} {mX28_person : Nat → Int32} {mX28_graph : Nat → Int32} {mX28_predicate : Nat → Int32} {mX28_class0 : Nat → Int32} {mX28_version : Nat → Int32} {mX75_kind : Nat → Int32} {mX75_number : Nat → Int32} {mX75_groups : Nat → Option Nat} {mX76_from : Nat → Int32} {mX76_to : Nat → Int32} {mX77_of : Nat → Int32} {mX78_least : Nat → Int32} {mX78_of : Nat → Option Nat} {mX80_rank : Nat → Int32} {mX80_denies : Nat → Int32} {mX80_condition : Nat → Int32} {mJ1_modCount : Nat → Int32} {mJ2_elementData : Nat → Option Nat} {mJ2_size : Nat → Int32} {mJ4_words : Nat → Option Nat} {mJ4_wordsInUse : Nat → Int32} {mJ4_sizeIsSticky : Nat → Int32} {a : Nat} {v : Option Nat} (hk : kd a = 1) : va_up (cRD ci d kd an ai al ar mX27_groups mX27_conditions mX27_rules mX27_sets mX27_right mX27_known mX27_asks mX27_done mX27_more mX27_its mX27_allowed mX27_other mX27_order mX28_person mX28_graph mX28_predicate mX28_class0 mX28_version mX75_kind mX75_number mX75_groups mX76_from mX76_to mX77_of mX78_least mX78_of mX80_rank mX80_denies mX80_condition mJ1_modCount mJ2_elementData mJ2_size mJ4_words mJ4_wordsInUse mJ4_sizeIsSticky) a (.inr (ci 0, [va_rf (mX27_groups a), va_rf (mX27_conditions a), va_rf (mX27_rules a), va_rf (mX27_sets a), .int (mX27_right a), va_rf (mX27_known a), va_rf (mX27_asks a), va_rf (mX27_done a), va_rf v, va_rf (mX27_its a), va_rf (mX27_allowed a), va_rf (mX27_other a), va_rf (mX27_order a)])) = (cRD ci d kd an ai al ar mX27_groups mX27_conditions mX27_rules mX27_sets mX27_right mX27_known mX27_asks mX27_done (va_up mX27_more a v) mX27_its mX27_allowed mX27_other mX27_order mX28_person mX28_graph mX28_predicate mX28_class0 mX28_version mX75_kind mX75_number mX75_groups mX76_from mX76_to mX77_of mX78_least mX78_of mX80_rank mX80_denies mX80_condition mJ1_modCount mJ2_elementData mJ2_size mJ4_words mJ4_wordsInUse mJ4_sizeIsSticky) := by
  funext b
  by_cases h : b = a
  · subst h
    rw [va_up_self]
    unfold cRD
    rw [hk]
    simp only [va_up_self]
  · rw [va_up_ne _ _ h]
    unfold cRD
    simp only [va_up_ne _ _ h]
theorem cRD_1_9 {ci : Nat → Nat} {d : Nat → ClassId} {kd : Nat → Nat} {an : Nat → Nat} {ai : Nat → Nat → Int32} {al : Nat → Nat → Int64} {ar : Nat → Nat → Option Nat} {mX27_groups : Nat → Option Nat} {mX27_conditions : Nat → Option Nat} {mX27_rules : Nat → Option Nat} {mX27_sets : Nat → Option Nat} {mX27_right : Nat → Int32} {mX27_known : Nat → Option Nat} {mX27_asks : Nat → Option Nat} {mX27_done : Nat → Option Nat} {mX27_more : Nat → Option Nat} {mX27_its : Nat → Option Nat} {mX27_allowed : Nat → Option Nat} {mX27_other : Nat → Option Nat} {mX27_order : Nat → Option Nat} {mX28_person : Nat → Int32} {mX28_graph : Nat → Int32} {mX28_predicate : Nat → Int32} {mX28_class0 : Nat → Int32} {mX28_version : Nat → Int32} {mX75_kind : Nat → Int32} {mX75_number : Nat → Int32} {mX75_groups : Nat → Option Nat} {mX76_from : Nat → Int32} {mX76_to : Nat → Int32} {mX77_of : Nat → Int32} {mX78_least : Nat → Int32} {mX78_of : Nat → Option Nat} {mX80_rank : Nat → Int32} {mX80_denies : Nat → Int32} {mX80_condition : Nat → Int32} {mJ1_modCount : Nat → Int32} {mJ2_elementData : Nat → Option Nat} {mJ2_size : Nat → Int32} {mJ4_words : Nat → Option Nat} {mJ4_wordsInUse : Nat → Int32} {mJ4_sizeIsSticky : Nat → Int32} {a : Nat} {v : Option Nat} (hk : kd a = 1) : va_up (cRD ci d kd an ai al ar mX27_groups mX27_conditions mX27_rules mX27_sets mX27_right mX27_known mX27_asks mX27_done mX27_more mX27_its mX27_allowed mX27_other mX27_order mX28_person mX28_graph mX28_predicate mX28_class0 mX28_version mX75_kind mX75_number mX75_groups mX76_from mX76_to mX77_of mX78_least mX78_of mX80_rank mX80_denies mX80_condition mJ1_modCount mJ2_elementData mJ2_size mJ4_words mJ4_wordsInUse mJ4_sizeIsSticky) a (.inr (ci 0, [va_rf (mX27_groups a), va_rf (mX27_conditions a), va_rf (mX27_rules a), va_rf (mX27_sets a), .int (mX27_right a), va_rf (mX27_known a), va_rf (mX27_asks a), va_rf (mX27_done a), va_rf (mX27_more a), va_rf v, va_rf (mX27_allowed a), va_rf (mX27_other a), va_rf (mX27_order a)])) = (cRD ci d kd an ai al ar mX27_groups mX27_conditions mX27_rules mX27_sets mX27_right mX27_known mX27_asks mX27_done mX27_more (va_up mX27_its a v) mX27_allowed mX27_other mX27_order mX28_person mX28_graph mX28_predicate mX28_class0 mX28_version mX75_kind mX75_number mX75_groups mX76_from mX76_to mX77_of mX78_least mX78_of mX80_rank mX80_denies mX80_condition mJ1_modCount mJ2_elementData mJ2_size mJ4_words mJ4_wordsInUse mJ4_sizeIsSticky) := by
  funext b
  by_cases h : b = a
  · subst h
    rw [va_up_self]
    unfold cRD
    rw [hk]
    simp only [va_up_self]
  · rw [va_up_ne _ _ h]
    unfold cRD
    simp only [va_up_ne _ _ h]
theorem cRD_1_10 {ci : Nat → Nat} {d : Nat → ClassId} {kd : Nat → Nat} {an : Nat → Nat} {ai : Nat → Nat → Int32} {al : Nat → Nat → Int64} {ar : Nat → Nat → Option Nat} {mX27_groups : Nat → Option Nat} {mX27_conditions : Nat → Option Nat} {mX27_rules : Nat → Option Nat} {mX27_sets : Nat → Option Nat} {mX27_right : Nat → Int32} {mX27_known : Nat → Option Nat} {mX27_asks : Nat → Option Nat} {mX27_done : Nat → Option Nat} {mX27_more : Nat → Option Nat} {mX27_its : Nat → Option Nat} {mX27_allowed : Nat → Option Nat} {mX27_other : Nat → Option Nat} {mX27_order : Nat → Option Nat} {mX28_person : Nat → Int32} {mX28_graph : Nat → Int32} {mX28_predicate : Nat → Int32} {mX28_class0 : Nat → Int32} {mX28_version : Nat → Int32} {mX75_kind : Nat → Int32} {mX75_number : Nat → Int32} {mX75_groups : Nat → Option Nat} {mX76_from : Nat → Int32} {mX76_to : Nat → Int32} {mX77_of : Nat → Int32} {mX78_least : Nat → Int32} {mX78_of : Nat → Option Nat} {mX80_rank : Nat → Int32} {mX80_denies : Nat → Int32} {mX80_condition : Nat → Int32} {mJ1_modCount : Nat → Int32} {mJ2_elementData : Nat → Option Nat} {mJ2_size : Nat → Int32} {mJ4_words : Nat → Option Nat} {mJ4_wordsInUse : Nat → Int32} {mJ4_sizeIsSticky : Nat → Int32} {a : Nat} {v : Option Nat} (hk : kd a = 1) : va_up (cRD ci d kd an ai al ar mX27_groups mX27_conditions mX27_rules mX27_sets mX27_right mX27_known mX27_asks mX27_done mX27_more mX27_its mX27_allowed mX27_other mX27_order mX28_person mX28_graph mX28_predicate mX28_class0 mX28_version mX75_kind mX75_number mX75_groups mX76_from mX76_to mX77_of mX78_least mX78_of mX80_rank mX80_denies mX80_condition mJ1_modCount mJ2_elementData mJ2_size mJ4_words mJ4_wordsInUse mJ4_sizeIsSticky) a (.inr (ci 0, [va_rf (mX27_groups a), va_rf (mX27_conditions a), va_rf (mX27_rules a), va_rf (mX27_sets a), .int (mX27_right a), va_rf (mX27_known a), va_rf (mX27_asks a), va_rf (mX27_done a), va_rf (mX27_more a), va_rf (mX27_its a), va_rf v, va_rf (mX27_other a), va_rf (mX27_order a)])) = (cRD ci d kd an ai al ar mX27_groups mX27_conditions mX27_rules mX27_sets mX27_right mX27_known mX27_asks mX27_done mX27_more mX27_its (va_up mX27_allowed a v) mX27_other mX27_order mX28_person mX28_graph mX28_predicate mX28_class0 mX28_version mX75_kind mX75_number mX75_groups mX76_from mX76_to mX77_of mX78_least mX78_of mX80_rank mX80_denies mX80_condition mJ1_modCount mJ2_elementData mJ2_size mJ4_words mJ4_wordsInUse mJ4_sizeIsSticky) := by
  funext b
  by_cases h : b = a
  · subst h
    rw [va_up_self]
    unfold cRD
    rw [hk]
    simp only [va_up_self]
  · rw [va_up_ne _ _ h]
    unfold cRD
    simp only [va_up_ne _ _ h]
theorem cRD_1_11 {ci : Nat → Nat} {d : Nat → ClassId} {kd : Nat → Nat} {an : Nat → Nat} {ai : Nat → Nat → Int32} {al : Nat → Nat → Int64} {ar : Nat → Nat → Option Nat} {mX27_groups : Nat → Option Nat} {mX27_conditions : Nat → Option Nat} {mX27_rules : Nat → Option Nat} {mX27_sets : Nat → Option Nat} {mX27_right : Nat → Int32} {mX27_known : Nat → Option Nat} {mX27_asks : Nat → Option Nat} {mX27_done : Nat → Option Nat} {mX27_more : Nat → Option Nat} {mX27_its : Nat → Option Nat} {mX27_allowed : Nat → Option Nat} {mX27_other : Nat → Option Nat} {mX27_order : Nat → Option Nat} {mX28_person : Nat → Int32} {mX28_graph : Nat → Int32} {mX28_predicate : Nat → Int32} {mX28_class0 : Nat → Int32} {mX28_version : Nat → Int32} {mX75_kind : Nat → Int32} {mX75_number : Nat → Int32} {mX75_groups : Nat → Option Nat} {mX76_from : Nat → Int32} {mX76_to : Nat → Int32} {mX77_of : Nat → Int32} {mX78_least : Nat → Int32} {mX78_of : Nat → Option Nat} {mX80_rank : Nat → Int32} {mX80_denies : Nat → Int32} {mX80_condition : Nat → Int32} {mJ1_modCount : Nat → Int32} {mJ2_elementData : Nat → Option Nat} {mJ2_size : Nat → Int32} {mJ4_words : Nat → Option Nat} {mJ4_wordsInUse : Nat → Int32} {mJ4_sizeIsSticky : Nat → Int32} {a : Nat} {v : Option Nat} (hk : kd a = 1) : va_up (cRD ci d kd an ai al ar mX27_groups mX27_conditions mX27_rules mX27_sets mX27_right mX27_known mX27_asks mX27_done mX27_more mX27_its mX27_allowed mX27_other mX27_order mX28_person mX28_graph mX28_predicate mX28_class0 mX28_version mX75_kind mX75_number mX75_groups mX76_from mX76_to mX77_of mX78_least mX78_of mX80_rank mX80_denies mX80_condition mJ1_modCount mJ2_elementData mJ2_size mJ4_words mJ4_wordsInUse mJ4_sizeIsSticky) a (.inr (ci 0, [va_rf (mX27_groups a), va_rf (mX27_conditions a), va_rf (mX27_rules a), va_rf (mX27_sets a), .int (mX27_right a), va_rf (mX27_known a), va_rf (mX27_asks a), va_rf (mX27_done a), va_rf (mX27_more a), va_rf (mX27_its a), va_rf (mX27_allowed a), va_rf v, va_rf (mX27_order a)])) = (cRD ci d kd an ai al ar mX27_groups mX27_conditions mX27_rules mX27_sets mX27_right mX27_known mX27_asks mX27_done mX27_more mX27_its mX27_allowed (va_up mX27_other a v) mX27_order mX28_person mX28_graph mX28_predicate mX28_class0 mX28_version mX75_kind mX75_number mX75_groups mX76_from mX76_to mX77_of mX78_least mX78_of mX80_rank mX80_denies mX80_condition mJ1_modCount mJ2_elementData mJ2_size mJ4_words mJ4_wordsInUse mJ4_sizeIsSticky) := by
  funext b
  by_cases h : b = a
  · subst h
    rw [va_up_self]
    unfold cRD
    rw [hk]
    simp only [va_up_self]
  · rw [va_up_ne _ _ h]
    unfold cRD
    simp only [va_up_ne _ _ h]
theorem cRD_1_12 {ci : Nat → Nat} {d : Nat → ClassId} {kd : Nat → Nat} {an : Nat → Nat} {ai : Nat → Nat → Int32} {al : Nat → Nat → Int64} {ar : Nat → Nat → Option Nat} {mX27_groups : Nat → Option Nat} {mX27_conditions : Nat → Option Nat} {mX27_rules : Nat → Option Nat} {mX27_sets : Nat → Option Nat} {mX27_right : Nat → Int32} {mX27_known : Nat → Option Nat} {mX27_asks : Nat → Option Nat} {mX27_done : Nat → Option Nat} {mX27_more : Nat → Option Nat} {mX27_its : Nat → Option Nat} {mX27_allowed : Nat → Option Nat} {mX27_other : Nat → Option Nat} {mX27_order : Nat → Option Nat} {mX28_person : Nat → Int32} {mX28_graph : Nat → Int32} {mX28_predicate : Nat → Int32} {mX28_class0 : Nat → Int32} {mX28_version : Nat → Int32} {mX75_kind : Nat → Int32} {mX75_number : Nat → Int32} {mX75_groups : Nat → Option Nat} {mX76_from : Nat → Int32} {mX76_to : Nat → Int32} {mX77_of : Nat → Int32} {mX78_least : Nat → Int32} {mX78_of : Nat → Option Nat} {mX80_rank : Nat → Int32} {mX80_denies : Nat → Int32} {mX80_condition : Nat → Int32} {mJ1_modCount : Nat → Int32} {mJ2_elementData : Nat → Option Nat} {mJ2_size : Nat → Int32} {mJ4_words : Nat → Option Nat} {mJ4_wordsInUse : Nat → Int32} {mJ4_sizeIsSticky : Nat → Int32} {a : Nat} {v : Option Nat} (hk : kd a = 1) : va_up (cRD ci d kd an ai al ar mX27_groups mX27_conditions mX27_rules mX27_sets mX27_right mX27_known mX27_asks mX27_done mX27_more mX27_its mX27_allowed mX27_other mX27_order mX28_person mX28_graph mX28_predicate mX28_class0 mX28_version mX75_kind mX75_number mX75_groups mX76_from mX76_to mX77_of mX78_least mX78_of mX80_rank mX80_denies mX80_condition mJ1_modCount mJ2_elementData mJ2_size mJ4_words mJ4_wordsInUse mJ4_sizeIsSticky) a (.inr (ci 0, [va_rf (mX27_groups a), va_rf (mX27_conditions a), va_rf (mX27_rules a), va_rf (mX27_sets a), .int (mX27_right a), va_rf (mX27_known a), va_rf (mX27_asks a), va_rf (mX27_done a), va_rf (mX27_more a), va_rf (mX27_its a), va_rf (mX27_allowed a), va_rf (mX27_other a), va_rf v])) = (cRD ci d kd an ai al ar mX27_groups mX27_conditions mX27_rules mX27_sets mX27_right mX27_known mX27_asks mX27_done mX27_more mX27_its mX27_allowed mX27_other (va_up mX27_order a v) mX28_person mX28_graph mX28_predicate mX28_class0 mX28_version mX75_kind mX75_number mX75_groups mX76_from mX76_to mX77_of mX78_least mX78_of mX80_rank mX80_denies mX80_condition mJ1_modCount mJ2_elementData mJ2_size mJ4_words mJ4_wordsInUse mJ4_sizeIsSticky) := by
  funext b
  by_cases h : b = a
  · subst h
    rw [va_up_self]
    unfold cRD
    rw [hk]
    simp only [va_up_self]
  · rw [va_up_ne _ _ h]
    unfold cRD
    simp only [va_up_ne _ _ h]
theorem cRD_1_n {ci : Nat → Nat} {d : Nat → ClassId} {kd : Nat → Nat} {an : Nat → Nat} {ai : Nat → Nat → Int32} {al : Nat → Nat → Int64} {ar : Nat → Nat → Option Nat} {mX27_groups : Nat → Option Nat} {mX27_conditions : Nat → Option Nat} {mX27_rules : Nat → Option Nat} {mX27_sets : Nat → Option Nat} {mX27_right : Nat → Int32} {mX27_known : Nat → Option Nat} {mX27_asks : Nat → Option Nat} {mX27_done : Nat → Option Nat} {mX27_more : Nat → Option Nat} {mX27_its : Nat → Option Nat} {mX27_allowed : Nat → Option Nat} {mX27_other : Nat → Option Nat} {mX27_order : Nat → Option Nat} {mX28_person : Nat → Int32} {mX28_graph : Nat → Int32} {mX28_predicate : Nat → Int32} {mX28_class0 : Nat → Int32} {mX28_version : Nat → Int32} {mX75_kind : Nat → Int32} {mX75_number : Nat → Int32} {mX75_groups : Nat → Option Nat} {mX76_from : Nat → Int32} {mX76_to : Nat → Int32} {mX77_of : Nat → Int32} {mX78_least : Nat → Int32} {mX78_of : Nat → Option Nat} {mX80_rank : Nat → Int32} {mX80_denies : Nat → Int32} {mX80_condition : Nat → Int32} {mJ1_modCount : Nat → Int32} {mJ2_elementData : Nat → Option Nat} {mJ2_size : Nat → Int32} {mJ4_words : Nat → Option Nat} {mJ4_wordsInUse : Nat → Int32} {mJ4_sizeIsSticky : Nat → Int32} (q : Nat) : va_up (cRD ci d kd an ai al ar mX27_groups mX27_conditions mX27_rules mX27_sets mX27_right mX27_known mX27_asks mX27_done mX27_more mX27_its mX27_allowed mX27_other mX27_order mX28_person mX28_graph mX28_predicate mX28_class0 mX28_version mX75_kind mX75_number mX75_groups mX76_from mX76_to mX77_of mX78_least mX78_of mX80_rank mX80_denies mX80_condition mJ1_modCount mJ2_elementData mJ2_size mJ4_words mJ4_wordsInUse mJ4_sizeIsSticky) q (.inr (ci 0, [va_rf none, va_rf none, va_rf none, va_rf none, .int 0, va_rf none, va_rf none, va_rf none, va_rf none, va_rf none, va_rf none, va_rf none, va_rf none])) = (cRD ci d (va_up kd q 1) an ai al ar (va_up mX27_groups q none) (va_up mX27_conditions q none) (va_up mX27_rules q none) (va_up mX27_sets q none) (va_up mX27_right q 0) (va_up mX27_known q none) (va_up mX27_asks q none) (va_up mX27_done q none) (va_up mX27_more q none) (va_up mX27_its q none) (va_up mX27_allowed q none) (va_up mX27_other q none) (va_up mX27_order q none) mX28_person mX28_graph mX28_predicate mX28_class0 mX28_version mX75_kind mX75_number mX75_groups mX76_from mX76_to mX77_of mX78_least mX78_of mX80_rank mX80_denies mX80_condition mJ1_modCount mJ2_elementData mJ2_size mJ4_words mJ4_wordsInUse mJ4_sizeIsSticky) := by
  funext b
  by_cases h : b = q
  · subst h
    rw [va_up_self]
    unfold cRD
    simp only [va_up_self]
  · rw [va_up_ne _ _ h]
    unfold cRD
    simp only [va_up_ne _ _ h]
theorem cRD_2 {ci : Nat → Nat} {d : Nat → ClassId} {kd : Nat → Nat} {an : Nat → Nat} {ai : Nat → Nat → Int32} {al : Nat → Nat → Int64} {ar : Nat → Nat → Option Nat} {mX27_groups : Nat → Option Nat} {mX27_conditions : Nat → Option Nat} {mX27_rules : Nat → Option Nat} {mX27_sets : Nat → Option Nat} {mX27_right : Nat → Int32} {mX27_known : Nat → Option Nat} {mX27_asks : Nat → Option Nat} {mX27_done : Nat → Option Nat} {mX27_more : Nat → Option Nat} {mX27_its : Nat → Option Nat} {mX27_allowed : Nat → Option Nat} {mX27_other : Nat → Option Nat} {mX27_order : Nat → Option Nat} {mX28_person : Nat → Int32} {mX28_graph : Nat → Int32} {mX28_predicate : Nat → Int32} {mX28_class0 : Nat → Int32} {mX28_version : Nat → Int32} {mX75_kind : Nat → Int32} {mX75_number : Nat → Int32} {mX75_groups : Nat → Option Nat} {mX76_from : Nat → Int32} {mX76_to : Nat → Int32} {mX77_of : Nat → Int32} {mX78_least : Nat → Int32} {mX78_of : Nat → Option Nat} {mX80_rank : Nat → Int32} {mX80_denies : Nat → Int32} {mX80_condition : Nat → Int32} {mJ1_modCount : Nat → Int32} {mJ2_elementData : Nat → Option Nat} {mJ2_size : Nat → Int32} {mJ4_words : Nat → Option Nat} {mJ4_wordsInUse : Nat → Int32} {mJ4_sizeIsSticky : Nat → Int32} {a : Nat} (hk : kd a = 2) : (cRD ci d kd an ai al ar mX27_groups mX27_conditions mX27_rules mX27_sets mX27_right mX27_known mX27_asks mX27_done mX27_more mX27_its mX27_allowed mX27_other mX27_order mX28_person mX28_graph mX28_predicate mX28_class0 mX28_version mX75_kind mX75_number mX75_groups mX76_from mX76_to mX77_of mX78_least mX78_of mX80_rank mX80_denies mX80_condition mJ1_modCount mJ2_elementData mJ2_size mJ4_words mJ4_wordsInUse mJ4_sizeIsSticky) a = .inr (ci 1, [.int (mX28_person a), .int (mX28_graph a), .int (mX28_predicate a), .int (mX28_class0 a), .int (mX28_version a)]) := by unfold cRD; simp only [hk]
theorem cRD_2_0 {ci : Nat → Nat} {d : Nat → ClassId} {kd : Nat → Nat} {an : Nat → Nat} {ai : Nat → Nat → Int32} {al : Nat → Nat → Int64} {ar : Nat → Nat → Option Nat} {mX27_groups : Nat → Option Nat} {mX27_conditions : Nat → Option Nat} {mX27_rules : Nat → Option Nat} {mX27_sets : Nat → Option Nat} {mX27_right : Nat → Int32} {mX27_known : Nat → Option Nat} {mX27_asks : Nat → Option Nat} {mX27_done : Nat → Option Nat} {mX27_more : Nat → Option Nat} {mX27_its : Nat → Option Nat} {mX27_allowed : Nat → Option Nat} {mX27_other : Nat → Option Nat} {mX27_order : Nat → Option Nat} {mX28_person : Nat → Int32} {mX28_graph : Nat → Int32} {mX28_predicate : Nat → Int32} {mX28_class0 : Nat → Int32} {mX28_version : Nat → Int32} {mX75_kind : Nat → Int32} {mX75_number : Nat → Int32} {mX75_groups : Nat → Option Nat} {mX76_from : Nat → Int32} {mX76_to : Nat → Int32} {mX77_of : Nat → Int32} {mX78_least : Nat → Int32} {mX78_of : Nat → Option Nat} {mX80_rank : Nat → Int32} {mX80_denies : Nat → Int32} {mX80_condition : Nat → Int32} {mJ1_modCount : Nat → Int32} {mJ2_elementData : Nat → Option Nat} {mJ2_size : Nat → Int32} {mJ4_words : Nat → Option Nat} {mJ4_wordsInUse : Nat → Int32} {mJ4_sizeIsSticky : Nat → Int32} {a : Nat} {v : Int32} (hk : kd a = 2) : va_up (cRD ci d kd an ai al ar mX27_groups mX27_conditions mX27_rules mX27_sets mX27_right mX27_known mX27_asks mX27_done mX27_more mX27_its mX27_allowed mX27_other mX27_order mX28_person mX28_graph mX28_predicate mX28_class0 mX28_version mX75_kind mX75_number mX75_groups mX76_from mX76_to mX77_of mX78_least mX78_of mX80_rank mX80_denies mX80_condition mJ1_modCount mJ2_elementData mJ2_size mJ4_words mJ4_wordsInUse mJ4_sizeIsSticky) a (.inr (ci 1, [.int v, .int (mX28_graph a), .int (mX28_predicate a), .int (mX28_class0 a), .int (mX28_version a)])) = (cRD ci d kd an ai al ar mX27_groups mX27_conditions mX27_rules mX27_sets mX27_right mX27_known mX27_asks mX27_done mX27_more mX27_its mX27_allowed mX27_other mX27_order (va_up mX28_person a v) mX28_graph mX28_predicate mX28_class0 mX28_version mX75_kind mX75_number mX75_groups mX76_from mX76_to mX77_of mX78_least mX78_of mX80_rank mX80_denies mX80_condition mJ1_modCount mJ2_elementData mJ2_size mJ4_words mJ4_wordsInUse mJ4_sizeIsSticky) := by
  funext b
  by_cases h : b = a
  · subst h
    rw [va_up_self]
    unfold cRD
    rw [hk]
    simp only [va_up_self]
  · rw [va_up_ne _ _ h]
    unfold cRD
    simp only [va_up_ne _ _ h]
theorem cRD_2_1 {ci : Nat → Nat} {d : Nat → ClassId} {kd : Nat → Nat} {an : Nat → Nat} {ai : Nat → Nat → Int32} {al : Nat → Nat → Int64} {ar : Nat → Nat → Option Nat} {mX27_groups : Nat → Option Nat} {mX27_conditions : Nat → Option Nat} {mX27_rules : Nat → Option Nat} {mX27_sets : Nat → Option Nat} {mX27_right : Nat → Int32} {mX27_known : Nat → Option Nat} {mX27_asks : Nat → Option Nat} {mX27_done : Nat → Option Nat} {mX27_more : Nat → Option Nat} {mX27_its : Nat → Option Nat} {mX27_allowed : Nat → Option Nat} {mX27_other : Nat → Option Nat} {mX27_order : Nat → Option Nat} {mX28_person : Nat → Int32} {mX28_graph : Nat → Int32} {mX28_predicate : Nat → Int32} {mX28_class0 : Nat → Int32} {mX28_version : Nat → Int32} {mX75_kind : Nat → Int32} {mX75_number : Nat → Int32} {mX75_groups : Nat → Option Nat} {mX76_from : Nat → Int32} {mX76_to : Nat → Int32} {mX77_of : Nat → Int32} {mX78_least : Nat → Int32} {mX78_of : Nat → Option Nat} {mX80_rank : Nat → Int32} {mX80_denies : Nat → Int32} {mX80_condition : Nat → Int32} {mJ1_modCount : Nat → Int32} {mJ2_elementData : Nat → Option Nat} {mJ2_size : Nat → Int32} {mJ4_words : Nat → Option Nat} {mJ4_wordsInUse : Nat → Int32} {mJ4_sizeIsSticky : Nat → Int32} {a : Nat} {v : Int32} (hk : kd a = 2) : va_up (cRD ci d kd an ai al ar mX27_groups mX27_conditions mX27_rules mX27_sets mX27_right mX27_known mX27_asks mX27_done mX27_more mX27_its mX27_allowed mX27_other mX27_order mX28_person mX28_graph mX28_predicate mX28_class0 mX28_version mX75_kind mX75_number mX75_groups mX76_from mX76_to mX77_of mX78_least mX78_of mX80_rank mX80_denies mX80_condition mJ1_modCount mJ2_elementData mJ2_size mJ4_words mJ4_wordsInUse mJ4_sizeIsSticky) a (.inr (ci 1, [.int (mX28_person a), .int v, .int (mX28_predicate a), .int (mX28_class0 a), .int (mX28_version a)])) = (cRD ci d kd an ai al ar mX27_groups mX27_conditions mX27_rules mX27_sets mX27_right mX27_known mX27_asks mX27_done mX27_more mX27_its mX27_allowed mX27_other mX27_order mX28_person (va_up mX28_graph a v) mX28_predicate mX28_class0 mX28_version mX75_kind mX75_number mX75_groups mX76_from mX76_to mX77_of mX78_least mX78_of mX80_rank mX80_denies mX80_condition mJ1_modCount mJ2_elementData mJ2_size mJ4_words mJ4_wordsInUse mJ4_sizeIsSticky) := by
  funext b
  by_cases h : b = a
  · subst h
    rw [va_up_self]
    unfold cRD
    rw [hk]
    simp only [va_up_self]
  · rw [va_up_ne _ _ h]
    unfold cRD
    simp only [va_up_ne _ _ h]
theorem cRD_2_2 {ci : Nat → Nat} {d : Nat → ClassId} {kd : Nat → Nat} {an : Nat → Nat} {ai : Nat → Nat → Int32} {al : Nat → Nat → Int64} {ar : Nat → Nat → Option Nat} {mX27_groups : Nat → Option Nat} {mX27_conditions : Nat → Option Nat} {mX27_rules : Nat → Option Nat} {mX27_sets : Nat → Option Nat} {mX27_right : Nat → Int32} {mX27_known : Nat → Option Nat} {mX27_asks : Nat → Option Nat} {mX27_done : Nat → Option Nat} {mX27_more : Nat → Option Nat} {mX27_its : Nat → Option Nat} {mX27_allowed : Nat → Option Nat} {mX27_other : Nat → Option Nat} {mX27_order : Nat → Option Nat} {mX28_person : Nat → Int32} {mX28_graph : Nat → Int32} {mX28_predicate : Nat → Int32} {mX28_class0 : Nat → Int32} {mX28_version : Nat → Int32} {mX75_kind : Nat → Int32} {mX75_number : Nat → Int32} {mX75_groups : Nat → Option Nat} {mX76_from : Nat → Int32} {mX76_to : Nat → Int32} {mX77_of : Nat → Int32} {mX78_least : Nat → Int32} {mX78_of : Nat → Option Nat} {mX80_rank : Nat → Int32} {mX80_denies : Nat → Int32} {mX80_condition : Nat → Int32} {mJ1_modCount : Nat → Int32} {mJ2_elementData : Nat → Option Nat} {mJ2_size : Nat → Int32} {mJ4_words : Nat → Option Nat} {mJ4_wordsInUse : Nat → Int32} {mJ4_sizeIsSticky : Nat → Int32} {a : Nat} {v : Int32} (hk : kd a = 2) : va_up (cRD ci d kd an ai al ar mX27_groups mX27_conditions mX27_rules mX27_sets mX27_right mX27_known mX27_asks mX27_done mX27_more mX27_its mX27_allowed mX27_other mX27_order mX28_person mX28_graph mX28_predicate mX28_class0 mX28_version mX75_kind mX75_number mX75_groups mX76_from mX76_to mX77_of mX78_least mX78_of mX80_rank mX80_denies mX80_condition mJ1_modCount mJ2_elementData mJ2_size mJ4_words mJ4_wordsInUse mJ4_sizeIsSticky) a (.inr (ci 1, [.int (mX28_person a), .int (mX28_graph a), .int v, .int (mX28_class0 a), .int (mX28_version a)])) = (cRD ci d kd an ai al ar mX27_groups mX27_conditions mX27_rules mX27_sets mX27_right mX27_known mX27_asks mX27_done mX27_more mX27_its mX27_allowed mX27_other mX27_order mX28_person mX28_graph (va_up mX28_predicate a v) mX28_class0 mX28_version mX75_kind mX75_number mX75_groups mX76_from mX76_to mX77_of mX78_least mX78_of mX80_rank mX80_denies mX80_condition mJ1_modCount mJ2_elementData mJ2_size mJ4_words mJ4_wordsInUse mJ4_sizeIsSticky) := by
  funext b
  by_cases h : b = a
  · subst h
    rw [va_up_self]
    unfold cRD
    rw [hk]
    simp only [va_up_self]
  · rw [va_up_ne _ _ h]
    unfold cRD
    simp only [va_up_ne _ _ h]
theorem cRD_2_3 {ci : Nat → Nat} {d : Nat → ClassId} {kd : Nat → Nat} {an : Nat → Nat} {ai : Nat → Nat → Int32} {al : Nat → Nat → Int64} {ar : Nat → Nat → Option Nat} {mX27_groups : Nat → Option Nat} {mX27_conditions : Nat → Option Nat} {mX27_rules : Nat → Option Nat} {mX27_sets : Nat → Option Nat} {mX27_right : Nat → Int32} {mX27_known : Nat → Option Nat} {mX27_asks : Nat → Option Nat} {mX27_done : Nat → Option Nat} {mX27_more : Nat → Option Nat} {mX27_its : Nat → Option Nat} {mX27_allowed : Nat → Option Nat} {mX27_other : Nat → Option Nat} {mX27_order : Nat → Option Nat} {mX28_person : Nat → Int32} {mX28_graph : Nat → Int32} {mX28_predicate : Nat → Int32} {mX28_class0 : Nat → Int32} {mX28_version : Nat → Int32} {mX75_kind : Nat → Int32} {mX75_number : Nat → Int32} {mX75_groups : Nat → Option Nat} {mX76_from : Nat → Int32} {mX76_to : Nat → Int32} {mX77_of : Nat → Int32} {mX78_least : Nat → Int32} {mX78_of : Nat → Option Nat} {mX80_rank : Nat → Int32} {mX80_denies : Nat → Int32} {mX80_condition : Nat → Int32} {mJ1_modCount : Nat → Int32} {mJ2_elementData : Nat → Option Nat} {mJ2_size : Nat → Int32} {mJ4_words : Nat → Option Nat} {mJ4_wordsInUse : Nat → Int32} {mJ4_sizeIsSticky : Nat → Int32} {a : Nat} {v : Int32} (hk : kd a = 2) : va_up (cRD ci d kd an ai al ar mX27_groups mX27_conditions mX27_rules mX27_sets mX27_right mX27_known mX27_asks mX27_done mX27_more mX27_its mX27_allowed mX27_other mX27_order mX28_person mX28_graph mX28_predicate mX28_class0 mX28_version mX75_kind mX75_number mX75_groups mX76_from mX76_to mX77_of mX78_least mX78_of mX80_rank mX80_denies mX80_condition mJ1_modCount mJ2_elementData mJ2_size mJ4_words mJ4_wordsInUse mJ4_sizeIsSticky) a (.inr (ci 1, [.int (mX28_person a), .int (mX28_graph a), .int (mX28_predicate a), .int v, .int (mX28_version a)])) = (cRD ci d kd an ai al ar mX27_groups mX27_conditions mX27_rules mX27_sets mX27_right mX27_known mX27_asks mX27_done mX27_more mX27_its mX27_allowed mX27_other mX27_order mX28_person mX28_graph mX28_predicate (va_up mX28_class0 a v) mX28_version mX75_kind mX75_number mX75_groups mX76_from mX76_to mX77_of mX78_least mX78_of mX80_rank mX80_denies mX80_condition mJ1_modCount mJ2_elementData mJ2_size mJ4_words mJ4_wordsInUse mJ4_sizeIsSticky) := by
  funext b
  by_cases h : b = a
  · subst h
    rw [va_up_self]
    unfold cRD
    rw [hk]
    simp only [va_up_self]
  · rw [va_up_ne _ _ h]
    unfold cRD
    simp only [va_up_ne _ _ h]
theorem cRD_2_4 {ci : Nat → Nat} {d : Nat → ClassId} {kd : Nat → Nat} {an : Nat → Nat} {ai : Nat → Nat → Int32} {al : Nat → Nat → Int64} {ar : Nat → Nat → Option Nat} {mX27_groups : Nat → Option Nat} {mX27_conditions : Nat → Option Nat} {mX27_rules : Nat → Option Nat} {mX27_sets : Nat → Option Nat} {mX27_right : Nat → Int32} {mX27_known : Nat → Option Nat} {mX27_asks : Nat → Option Nat} {mX27_done : Nat → Option Nat} {mX27_more : Nat → Option Nat} {mX27_its : Nat → Option Nat} {mX27_allowed : Nat → Option Nat} {mX27_other : Nat → Option Nat} {mX27_order : Nat → Option Nat} {mX28_person : Nat → Int32} {mX28_graph : Nat → Int32} {mX28_predicate : Nat → Int32} {mX28_class0 : Nat → Int32} {mX28_version : Nat → Int32} {mX75_kind : Nat → Int32} {mX75_number : Nat → Int32} {mX75_groups : Nat → Option Nat} {mX76_from : Nat → Int32} {mX76_to : Nat → Int32} {mX77_of : Nat → Int32} {mX78_least : Nat → Int32} {mX78_of : Nat → Option Nat} {mX80_rank : Nat → Int32} {mX80_denies : Nat → Int32} {mX80_condition : Nat → Int32} {mJ1_modCount : Nat → Int32} {mJ2_elementData : Nat → Option Nat} {mJ2_size : Nat → Int32} {mJ4_words : Nat → Option Nat} {mJ4_wordsInUse : Nat → Int32} {mJ4_sizeIsSticky : Nat → Int32} {a : Nat} {v : Int32} (hk : kd a = 2) : va_up (cRD ci d kd an ai al ar mX27_groups mX27_conditions mX27_rules mX27_sets mX27_right mX27_known mX27_asks mX27_done mX27_more mX27_its mX27_allowed mX27_other mX27_order mX28_person mX28_graph mX28_predicate mX28_class0 mX28_version mX75_kind mX75_number mX75_groups mX76_from mX76_to mX77_of mX78_least mX78_of mX80_rank mX80_denies mX80_condition mJ1_modCount mJ2_elementData mJ2_size mJ4_words mJ4_wordsInUse mJ4_sizeIsSticky) a (.inr (ci 1, [.int (mX28_person a), .int (mX28_graph a), .int (mX28_predicate a), .int (mX28_class0 a), .int v])) = (cRD ci d kd an ai al ar mX27_groups mX27_conditions mX27_rules mX27_sets mX27_right mX27_known mX27_asks mX27_done mX27_more mX27_its mX27_allowed mX27_other mX27_order mX28_person mX28_graph mX28_predicate mX28_class0 (va_up mX28_version a v) mX75_kind mX75_number mX75_groups mX76_from mX76_to mX77_of mX78_least mX78_of mX80_rank mX80_denies mX80_condition mJ1_modCount mJ2_elementData mJ2_size mJ4_words mJ4_wordsInUse mJ4_sizeIsSticky) := by
  funext b
  by_cases h : b = a
  · subst h
    rw [va_up_self]
    unfold cRD
    rw [hk]
    simp only [va_up_self]
  · rw [va_up_ne _ _ h]
    unfold cRD
    simp only [va_up_ne _ _ h]
theorem cRD_2_n {ci : Nat → Nat} {d : Nat → ClassId} {kd : Nat → Nat} {an : Nat → Nat} {ai : Nat → Nat → Int32} {al : Nat → Nat → Int64} {ar : Nat → Nat → Option Nat} {mX27_groups : Nat → Option Nat} {mX27_conditions : Nat → Option Nat} {mX27_rules : Nat → Option Nat} {mX27_sets : Nat → Option Nat} {mX27_right : Nat → Int32} {mX27_known : Nat → Option Nat} {mX27_asks : Nat → Option Nat} {mX27_done : Nat → Option Nat} {mX27_more : Nat → Option Nat} {mX27_its : Nat → Option Nat} {mX27_allowed : Nat → Option Nat} {mX27_other : Nat → Option Nat} {mX27_order : Nat → Option Nat} {mX28_person : Nat → Int32} {mX28_graph : Nat → Int32} {mX28_predicate : Nat → Int32} {mX28_class0 : Nat → Int32} {mX28_version : Nat → Int32} {mX75_kind : Nat → Int32} {mX75_number : Nat → Int32} {mX75_groups : Nat → Option Nat} {mX76_from : Nat → Int32} {mX76_to : Nat → Int32} {mX77_of : Nat → Int32} {mX78_least : Nat → Int32} {mX78_of : Nat → Option Nat} {mX80_rank : Nat → Int32} {mX80_denies : Nat → Int32} {mX80_condition : Nat → Int32} {mJ1_modCount : Nat → Int32} {mJ2_elementData : Nat → Option Nat} {mJ2_size : Nat → Int32} {mJ4_words : Nat → Option Nat} {mJ4_wordsInUse : Nat → Int32} {mJ4_sizeIsSticky : Nat → Int32} (q : Nat) : va_up (cRD ci d kd an ai al ar mX27_groups mX27_conditions mX27_rules mX27_sets mX27_right mX27_known mX27_asks mX27_done mX27_more mX27_its mX27_allowed mX27_other mX27_order mX28_person mX28_graph mX28_predicate mX28_class0 mX28_version mX75_kind mX75_number mX75_groups mX76_from mX76_to mX77_of mX78_least mX78_of mX80_rank mX80_denies mX80_condition mJ1_modCount mJ2_elementData mJ2_size mJ4_words mJ4_wordsInUse mJ4_sizeIsSticky) q (.inr (ci 1, [.int 0, .int 0, .int 0, .int 0, .int 0])) = (cRD ci d (va_up kd q 2) an ai al ar mX27_groups mX27_conditions mX27_rules mX27_sets mX27_right mX27_known mX27_asks mX27_done mX27_more mX27_its mX27_allowed mX27_other mX27_order (va_up mX28_person q 0) (va_up mX28_graph q 0) (va_up mX28_predicate q 0) (va_up mX28_class0 q 0) (va_up mX28_version q 0) mX75_kind mX75_number mX75_groups mX76_from mX76_to mX77_of mX78_least mX78_of mX80_rank mX80_denies mX80_condition mJ1_modCount mJ2_elementData mJ2_size mJ4_words mJ4_wordsInUse mJ4_sizeIsSticky) := by
  funext b
  by_cases h : b = q
  · subst h
    rw [va_up_self]
    unfold cRD
    simp only [va_up_self]
  · rw [va_up_ne _ _ h]
    unfold cRD
    simp only [va_up_ne _ _ h]
theorem cRD_3 {ci : Nat → Nat} {d : Nat → ClassId} {kd : Nat → Nat} {an : Nat → Nat} {ai : Nat → Nat → Int32} {al : Nat → Nat → Int64} {ar : Nat → Nat → Option Nat} {mX27_groups : Nat → Option Nat} {mX27_conditions : Nat → Option Nat} {mX27_rules : Nat → Option Nat} {mX27_sets : Nat → Option Nat} {mX27_right : Nat → Int32} {mX27_known : Nat → Option Nat} {mX27_asks : Nat → Option Nat} {mX27_done : Nat → Option Nat} {mX27_more : Nat → Option Nat} {mX27_its : Nat → Option Nat} {mX27_allowed : Nat → Option Nat} {mX27_other : Nat → Option Nat} {mX27_order : Nat → Option Nat} {mX28_person : Nat → Int32} {mX28_graph : Nat → Int32} {mX28_predicate : Nat → Int32} {mX28_class0 : Nat → Int32} {mX28_version : Nat → Int32} {mX75_kind : Nat → Int32} {mX75_number : Nat → Int32} {mX75_groups : Nat → Option Nat} {mX76_from : Nat → Int32} {mX76_to : Nat → Int32} {mX77_of : Nat → Int32} {mX78_least : Nat → Int32} {mX78_of : Nat → Option Nat} {mX80_rank : Nat → Int32} {mX80_denies : Nat → Int32} {mX80_condition : Nat → Int32} {mJ1_modCount : Nat → Int32} {mJ2_elementData : Nat → Option Nat} {mJ2_size : Nat → Int32} {mJ4_words : Nat → Option Nat} {mJ4_wordsInUse : Nat → Int32} {mJ4_sizeIsSticky : Nat → Int32} {a : Nat} (hk : kd a = 3) : (cRD ci d kd an ai al ar mX27_groups mX27_conditions mX27_rules mX27_sets mX27_right mX27_known mX27_asks mX27_done mX27_more mX27_its mX27_allowed mX27_other mX27_order mX28_person mX28_graph mX28_predicate mX28_class0 mX28_version mX75_kind mX75_number mX75_groups mX76_from mX76_to mX77_of mX78_least mX78_of mX80_rank mX80_denies mX80_condition mJ1_modCount mJ2_elementData mJ2_size mJ4_words mJ4_wordsInUse mJ4_sizeIsSticky) a = .inr (ci 2, [.int (mX75_kind a), .int (mX75_number a), va_rf (mX75_groups a)]) := by unfold cRD; simp only [hk]
theorem cRD_3_0 {ci : Nat → Nat} {d : Nat → ClassId} {kd : Nat → Nat} {an : Nat → Nat} {ai : Nat → Nat → Int32} {al : Nat → Nat → Int64} {ar : Nat → Nat → Option Nat} {mX27_groups : Nat → Option Nat} {mX27_conditions : Nat → Option Nat} {mX27_rules : Nat → Option Nat} {mX27_sets : Nat → Option Nat} {mX27_right : Nat → Int32} {mX27_known : Nat → Option Nat} {mX27_asks : Nat → Option Nat} {mX27_done : Nat → Option Nat} {mX27_more : Nat → Option Nat} {mX27_its : Nat → Option Nat} {mX27_allowed : Nat → Option Nat} {mX27_other : Nat → Option Nat} {mX27_order : Nat → Option Nat} {mX28_person : Nat → Int32} {mX28_graph : Nat → Int32} {mX28_predicate : Nat → Int32} {mX28_class0 : Nat → Int32} {mX28_version : Nat → Int32} {mX75_kind : Nat → Int32} {mX75_number : Nat → Int32} {mX75_groups : Nat → Option Nat} {mX76_from : Nat → Int32} {mX76_to : Nat → Int32} {mX77_of : Nat → Int32} {mX78_least : Nat → Int32} {mX78_of : Nat → Option Nat} {mX80_rank : Nat → Int32} {mX80_denies : Nat → Int32} {mX80_condition : Nat → Int32} {mJ1_modCount : Nat → Int32} {mJ2_elementData : Nat → Option Nat} {mJ2_size : Nat → Int32} {mJ4_words : Nat → Option Nat} {mJ4_wordsInUse : Nat → Int32} {mJ4_sizeIsSticky : Nat → Int32} {a : Nat} {v : Int32} (hk : kd a = 3) : va_up (cRD ci d kd an ai al ar mX27_groups mX27_conditions mX27_rules mX27_sets mX27_right mX27_known mX27_asks mX27_done mX27_more mX27_its mX27_allowed mX27_other mX27_order mX28_person mX28_graph mX28_predicate mX28_class0 mX28_version mX75_kind mX75_number mX75_groups mX76_from mX76_to mX77_of mX78_least mX78_of mX80_rank mX80_denies mX80_condition mJ1_modCount mJ2_elementData mJ2_size mJ4_words mJ4_wordsInUse mJ4_sizeIsSticky) a (.inr (ci 2, [.int v, .int (mX75_number a), va_rf (mX75_groups a)])) = (cRD ci d kd an ai al ar mX27_groups mX27_conditions mX27_rules mX27_sets mX27_right mX27_known mX27_asks mX27_done mX27_more mX27_its mX27_allowed mX27_other mX27_order mX28_person mX28_graph mX28_predicate mX28_class0 mX28_version (va_up mX75_kind a v) mX75_number mX75_groups mX76_from mX76_to mX77_of mX78_least mX78_of mX80_rank mX80_denies mX80_condition mJ1_modCount mJ2_elementData mJ2_size mJ4_words mJ4_wordsInUse mJ4_sizeIsSticky) := by
  funext b
  by_cases h : b = a
  · subst h
    rw [va_up_self]
    unfold cRD
    rw [hk]
    simp only [va_up_self]
  · rw [va_up_ne _ _ h]
    unfold cRD
    simp only [va_up_ne _ _ h]
theorem cRD_3_1 {ci : Nat → Nat} {d : Nat → ClassId} {kd : Nat → Nat} {an : Nat → Nat} {ai : Nat → Nat → Int32} {al : Nat → Nat → Int64} {ar : Nat → Nat → Option Nat} {mX27_groups : Nat → Option Nat} {mX27_conditions : Nat → Option Nat} {mX27_rules : Nat → Option Nat} {mX27_sets : Nat → Option Nat} {mX27_right : Nat → Int32} {mX27_known : Nat → Option Nat} {mX27_asks : Nat → Option Nat} {mX27_done : Nat → Option Nat} {mX27_more : Nat → Option Nat} {mX27_its : Nat → Option Nat} {mX27_allowed : Nat → Option Nat} {mX27_other : Nat → Option Nat} {mX27_order : Nat → Option Nat} {mX28_person : Nat → Int32} {mX28_graph : Nat → Int32} {mX28_predicate : Nat → Int32} {mX28_class0 : Nat → Int32} {mX28_version : Nat → Int32} {mX75_kind : Nat → Int32} {mX75_number : Nat → Int32} {mX75_groups : Nat → Option Nat} {mX76_from : Nat → Int32} {mX76_to : Nat → Int32} {mX77_of : Nat → Int32} {mX78_least : Nat → Int32} {mX78_of : Nat → Option Nat} {mX80_rank : Nat → Int32} {mX80_denies : Nat → Int32} {mX80_condition : Nat → Int32} {mJ1_modCount : Nat → Int32} {mJ2_elementData : Nat → Option Nat} {mJ2_size : Nat → Int32} {mJ4_words : Nat → Option Nat} {mJ4_wordsInUse : Nat → Int32} {mJ4_sizeIsSticky : Nat → Int32} {a : Nat} {v : Int32} (hk : kd a = 3) : va_up (cRD ci d kd an ai al ar mX27_groups mX27_conditions mX27_rules mX27_sets mX27_right mX27_known mX27_asks mX27_done mX27_more mX27_its mX27_allowed mX27_other mX27_order mX28_person mX28_graph mX28_predicate mX28_class0 mX28_version mX75_kind mX75_number mX75_groups mX76_from mX76_to mX77_of mX78_least mX78_of mX80_rank mX80_denies mX80_condition mJ1_modCount mJ2_elementData mJ2_size mJ4_words mJ4_wordsInUse mJ4_sizeIsSticky) a (.inr (ci 2, [.int (mX75_kind a), .int v, va_rf (mX75_groups a)])) = (cRD ci d kd an ai al ar mX27_groups mX27_conditions mX27_rules mX27_sets mX27_right mX27_known mX27_asks mX27_done mX27_more mX27_its mX27_allowed mX27_other mX27_order mX28_person mX28_graph mX28_predicate mX28_class0 mX28_version mX75_kind (va_up mX75_number a v) mX75_groups mX76_from mX76_to mX77_of mX78_least mX78_of mX80_rank mX80_denies mX80_condition mJ1_modCount mJ2_elementData mJ2_size mJ4_words mJ4_wordsInUse mJ4_sizeIsSticky) := by
  funext b
  by_cases h : b = a
  · subst h
    rw [va_up_self]
    unfold cRD
    rw [hk]
    simp only [va_up_self]
  · rw [va_up_ne _ _ h]
    unfold cRD
    simp only [va_up_ne _ _ h]
theorem cRD_3_2 {ci : Nat → Nat} {d : Nat → ClassId} {kd : Nat → Nat} {an : Nat → Nat} {ai : Nat → Nat → Int32} {al : Nat → Nat → Int64} {ar : Nat → Nat → Option Nat} {mX27_groups : Nat → Option Nat} {mX27_conditions : Nat → Option Nat} {mX27_rules : Nat → Option Nat} {mX27_sets : Nat → Option Nat} {mX27_right : Nat → Int32} {mX27_known : Nat → Option Nat} {mX27_asks : Nat → Option Nat} {mX27_done : Nat → Option Nat} {mX27_more : Nat → Option Nat} {mX27_its : Nat → Option Nat} {mX27_allowed : Nat → Option Nat} {mX27_other : Nat → Option Nat} {mX27_order : Nat → Option Nat} {mX28_person : Nat → Int32} {mX28_graph : Nat → Int32} {mX28_predicate : Nat → Int32} {mX28_class0 : Nat → Int32} {mX28_version : Nat → Int32} {mX75_kind : Nat → Int32} {mX75_number : Nat → Int32} {mX75_groups : Nat → Option Nat} {mX76_from : Nat → Int32} {mX76_to : Nat → Int32} {mX77_of : Nat → Int32} {mX78_least : Nat → Int32} {mX78_of : Nat → Option Nat} {mX80_rank : Nat → Int32} {mX80_denies : Nat → Int32} {mX80_condition : Nat → Int32} {mJ1_modCount : Nat → Int32} {mJ2_elementData : Nat → Option Nat} {mJ2_size : Nat → Int32} {mJ4_words : Nat → Option Nat} {mJ4_wordsInUse : Nat → Int32} {mJ4_sizeIsSticky : Nat → Int32} {a : Nat} {v : Option Nat} (hk : kd a = 3) : va_up (cRD ci d kd an ai al ar mX27_groups mX27_conditions mX27_rules mX27_sets mX27_right mX27_known mX27_asks mX27_done mX27_more mX27_its mX27_allowed mX27_other mX27_order mX28_person mX28_graph mX28_predicate mX28_class0 mX28_version mX75_kind mX75_number mX75_groups mX76_from mX76_to mX77_of mX78_least mX78_of mX80_rank mX80_denies mX80_condition mJ1_modCount mJ2_elementData mJ2_size mJ4_words mJ4_wordsInUse mJ4_sizeIsSticky) a (.inr (ci 2, [.int (mX75_kind a), .int (mX75_number a), va_rf v])) = (cRD ci d kd an ai al ar mX27_groups mX27_conditions mX27_rules mX27_sets mX27_right mX27_known mX27_asks mX27_done mX27_more mX27_its mX27_allowed mX27_other mX27_order mX28_person mX28_graph mX28_predicate mX28_class0 mX28_version mX75_kind mX75_number (va_up mX75_groups a v) mX76_from mX76_to mX77_of mX78_least mX78_of mX80_rank mX80_denies mX80_condition mJ1_modCount mJ2_elementData mJ2_size mJ4_words mJ4_wordsInUse mJ4_sizeIsSticky) := by
  funext b
  by_cases h : b = a
  · subst h
    rw [va_up_self]
    unfold cRD
    rw [hk]
    simp only [va_up_self]
  · rw [va_up_ne _ _ h]
    unfold cRD
    simp only [va_up_ne _ _ h]
theorem cRD_3_n {ci : Nat → Nat} {d : Nat → ClassId} {kd : Nat → Nat} {an : Nat → Nat} {ai : Nat → Nat → Int32} {al : Nat → Nat → Int64} {ar : Nat → Nat → Option Nat} {mX27_groups : Nat → Option Nat} {mX27_conditions : Nat → Option Nat} {mX27_rules : Nat → Option Nat} {mX27_sets : Nat → Option Nat} {mX27_right : Nat → Int32} {mX27_known : Nat → Option Nat} {mX27_asks : Nat → Option Nat} {mX27_done : Nat → Option Nat} {mX27_more : Nat → Option Nat} {mX27_its : Nat → Option Nat} {mX27_allowed : Nat → Option Nat} {mX27_other : Nat → Option Nat} {mX27_order : Nat → Option Nat} {mX28_person : Nat → Int32} {mX28_graph : Nat → Int32} {mX28_predicate : Nat → Int32} {mX28_class0 : Nat → Int32} {mX28_version : Nat → Int32} {mX75_kind : Nat → Int32} {mX75_number : Nat → Int32} {mX75_groups : Nat → Option Nat} {mX76_from : Nat → Int32} {mX76_to : Nat → Int32} {mX77_of : Nat → Int32} {mX78_least : Nat → Int32} {mX78_of : Nat → Option Nat} {mX80_rank : Nat → Int32} {mX80_denies : Nat → Int32} {mX80_condition : Nat → Int32} {mJ1_modCount : Nat → Int32} {mJ2_elementData : Nat → Option Nat} {mJ2_size : Nat → Int32} {mJ4_words : Nat → Option Nat} {mJ4_wordsInUse : Nat → Int32} {mJ4_sizeIsSticky : Nat → Int32} (q : Nat) : va_up (cRD ci d kd an ai al ar mX27_groups mX27_conditions mX27_rules mX27_sets mX27_right mX27_known mX27_asks mX27_done mX27_more mX27_its mX27_allowed mX27_other mX27_order mX28_person mX28_graph mX28_predicate mX28_class0 mX28_version mX75_kind mX75_number mX75_groups mX76_from mX76_to mX77_of mX78_least mX78_of mX80_rank mX80_denies mX80_condition mJ1_modCount mJ2_elementData mJ2_size mJ4_words mJ4_wordsInUse mJ4_sizeIsSticky) q (.inr (ci 2, [.int 0, .int 0, va_rf none])) = (cRD ci d (va_up kd q 3) an ai al ar mX27_groups mX27_conditions mX27_rules mX27_sets mX27_right mX27_known mX27_asks mX27_done mX27_more mX27_its mX27_allowed mX27_other mX27_order mX28_person mX28_graph mX28_predicate mX28_class0 mX28_version (va_up mX75_kind q 0) (va_up mX75_number q 0) (va_up mX75_groups q none) mX76_from mX76_to mX77_of mX78_least mX78_of mX80_rank mX80_denies mX80_condition mJ1_modCount mJ2_elementData mJ2_size mJ4_words mJ4_wordsInUse mJ4_sizeIsSticky) := by
  funext b
  by_cases h : b = q
  · subst h
    rw [va_up_self]
    unfold cRD
    simp only [va_up_self]
  · rw [va_up_ne _ _ h]
    unfold cRD
    simp only [va_up_ne _ _ h]
theorem cRD_4 {ci : Nat → Nat} {d : Nat → ClassId} {kd : Nat → Nat} {an : Nat → Nat} {ai : Nat → Nat → Int32} {al : Nat → Nat → Int64} {ar : Nat → Nat → Option Nat} {mX27_groups : Nat → Option Nat} {mX27_conditions : Nat → Option Nat} {mX27_rules : Nat → Option Nat} {mX27_sets : Nat → Option Nat} {mX27_right : Nat → Int32} {mX27_known : Nat → Option Nat} {mX27_asks : Nat → Option Nat} {mX27_done : Nat → Option Nat} {mX27_more : Nat → Option Nat} {mX27_its : Nat → Option Nat} {mX27_allowed : Nat → Option Nat} {mX27_other : Nat → Option Nat} {mX27_order : Nat → Option Nat} {mX28_person : Nat → Int32} {mX28_graph : Nat → Int32} {mX28_predicate : Nat → Int32} {mX28_class0 : Nat → Int32} {mX28_version : Nat → Int32} {mX75_kind : Nat → Int32} {mX75_number : Nat → Int32} {mX75_groups : Nat → Option Nat} {mX76_from : Nat → Int32} {mX76_to : Nat → Int32} {mX77_of : Nat → Int32} {mX78_least : Nat → Int32} {mX78_of : Nat → Option Nat} {mX80_rank : Nat → Int32} {mX80_denies : Nat → Int32} {mX80_condition : Nat → Int32} {mJ1_modCount : Nat → Int32} {mJ2_elementData : Nat → Option Nat} {mJ2_size : Nat → Int32} {mJ4_words : Nat → Option Nat} {mJ4_wordsInUse : Nat → Int32} {mJ4_sizeIsSticky : Nat → Int32} {a : Nat} (hk : kd a = 4) : (cRD ci d kd an ai al ar mX27_groups mX27_conditions mX27_rules mX27_sets mX27_right mX27_known mX27_asks mX27_done mX27_more mX27_its mX27_allowed mX27_other mX27_order mX28_person mX28_graph mX28_predicate mX28_class0 mX28_version mX75_kind mX75_number mX75_groups mX76_from mX76_to mX77_of mX78_least mX78_of mX80_rank mX80_denies mX80_condition mJ1_modCount mJ2_elementData mJ2_size mJ4_words mJ4_wordsInUse mJ4_sizeIsSticky) a = .inr (ci 3, [.int (mX76_from a), .int (mX76_to a)]) := by unfold cRD; simp only [hk]
theorem cRD_4_0 {ci : Nat → Nat} {d : Nat → ClassId} {kd : Nat → Nat} {an : Nat → Nat} {ai : Nat → Nat → Int32} {al : Nat → Nat → Int64} {ar : Nat → Nat → Option Nat} {mX27_groups : Nat → Option Nat} {mX27_conditions : Nat → Option Nat} {mX27_rules : Nat → Option Nat} {mX27_sets : Nat → Option Nat} {mX27_right : Nat → Int32} {mX27_known : Nat → Option Nat} {mX27_asks : Nat → Option Nat} {mX27_done : Nat → Option Nat} {mX27_more : Nat → Option Nat} {mX27_its : Nat → Option Nat} {mX27_allowed : Nat → Option Nat} {mX27_other : Nat → Option Nat} {mX27_order : Nat → Option Nat} {mX28_person : Nat → Int32} {mX28_graph : Nat → Int32} {mX28_predicate : Nat → Int32} {mX28_class0 : Nat → Int32} {mX28_version : Nat → Int32} {mX75_kind : Nat → Int32} {mX75_number : Nat → Int32} {mX75_groups : Nat → Option Nat} {mX76_from : Nat → Int32} {mX76_to : Nat → Int32} {mX77_of : Nat → Int32} {mX78_least : Nat → Int32} {mX78_of : Nat → Option Nat} {mX80_rank : Nat → Int32} {mX80_denies : Nat → Int32} {mX80_condition : Nat → Int32} {mJ1_modCount : Nat → Int32} {mJ2_elementData : Nat → Option Nat} {mJ2_size : Nat → Int32} {mJ4_words : Nat → Option Nat} {mJ4_wordsInUse : Nat → Int32} {mJ4_sizeIsSticky : Nat → Int32} {a : Nat} {v : Int32} (hk : kd a = 4) : va_up (cRD ci d kd an ai al ar mX27_groups mX27_conditions mX27_rules mX27_sets mX27_right mX27_known mX27_asks mX27_done mX27_more mX27_its mX27_allowed mX27_other mX27_order mX28_person mX28_graph mX28_predicate mX28_class0 mX28_version mX75_kind mX75_number mX75_groups mX76_from mX76_to mX77_of mX78_least mX78_of mX80_rank mX80_denies mX80_condition mJ1_modCount mJ2_elementData mJ2_size mJ4_words mJ4_wordsInUse mJ4_sizeIsSticky) a (.inr (ci 3, [.int v, .int (mX76_to a)])) = (cRD ci d kd an ai al ar mX27_groups mX27_conditions mX27_rules mX27_sets mX27_right mX27_known mX27_asks mX27_done mX27_more mX27_its mX27_allowed mX27_other mX27_order mX28_person mX28_graph mX28_predicate mX28_class0 mX28_version mX75_kind mX75_number mX75_groups (va_up mX76_from a v) mX76_to mX77_of mX78_least mX78_of mX80_rank mX80_denies mX80_condition mJ1_modCount mJ2_elementData mJ2_size mJ4_words mJ4_wordsInUse mJ4_sizeIsSticky) := by
  funext b
  by_cases h : b = a
  · subst h
    rw [va_up_self]
    unfold cRD
    rw [hk]
    simp only [va_up_self]
  · rw [va_up_ne _ _ h]
    unfold cRD
    simp only [va_up_ne _ _ h]
theorem cRD_4_1 {ci : Nat → Nat} {d : Nat → ClassId} {kd : Nat → Nat} {an : Nat → Nat} {ai : Nat → Nat → Int32} {al : Nat → Nat → Int64} {ar : Nat → Nat → Option Nat} {mX27_groups : Nat → Option Nat} {mX27_conditions : Nat → Option Nat} {mX27_rules : Nat → Option Nat} {mX27_sets : Nat → Option Nat} {mX27_right : Nat → Int32} {mX27_known : Nat → Option Nat} {mX27_asks : Nat → Option Nat} {mX27_done : Nat → Option Nat} {mX27_more : Nat → Option Nat} {mX27_its : Nat → Option Nat} {mX27_allowed : Nat → Option Nat} {mX27_other : Nat → Option Nat} {mX27_order : Nat → Option Nat} {mX28_person : Nat → Int32} {mX28_graph : Nat → Int32} {mX28_predicate : Nat → Int32} {mX28_class0 : Nat → Int32} {mX28_version : Nat → Int32} {mX75_kind : Nat → Int32} {mX75_number : Nat → Int32} {mX75_groups : Nat → Option Nat} {mX76_from : Nat → Int32} {mX76_to : Nat → Int32} {mX77_of : Nat → Int32} {mX78_least : Nat → Int32} {mX78_of : Nat → Option Nat} {mX80_rank : Nat → Int32} {mX80_denies : Nat → Int32} {mX80_condition : Nat → Int32} {mJ1_modCount : Nat → Int32} {mJ2_elementData : Nat → Option Nat} {mJ2_size : Nat → Int32} {mJ4_words : Nat → Option Nat} {mJ4_wordsInUse : Nat → Int32} {mJ4_sizeIsSticky : Nat → Int32} {a : Nat} {v : Int32} (hk : kd a = 4) : va_up (cRD ci d kd an ai al ar mX27_groups mX27_conditions mX27_rules mX27_sets mX27_right mX27_known mX27_asks mX27_done mX27_more mX27_its mX27_allowed mX27_other mX27_order mX28_person mX28_graph mX28_predicate mX28_class0 mX28_version mX75_kind mX75_number mX75_groups mX76_from mX76_to mX77_of mX78_least mX78_of mX80_rank mX80_denies mX80_condition mJ1_modCount mJ2_elementData mJ2_size mJ4_words mJ4_wordsInUse mJ4_sizeIsSticky) a (.inr (ci 3, [.int (mX76_from a), .int v])) = (cRD ci d kd an ai al ar mX27_groups mX27_conditions mX27_rules mX27_sets mX27_right mX27_known mX27_asks mX27_done mX27_more mX27_its mX27_allowed mX27_other mX27_order mX28_person mX28_graph mX28_predicate mX28_class0 mX28_version mX75_kind mX75_number mX75_groups mX76_from (va_up mX76_to a v) mX77_of mX78_least mX78_of mX80_rank mX80_denies mX80_condition mJ1_modCount mJ2_elementData mJ2_size mJ4_words mJ4_wordsInUse mJ4_sizeIsSticky) := by
  funext b
  by_cases h : b = a
  · subst h
    rw [va_up_self]
    unfold cRD
    rw [hk]
    simp only [va_up_self]
  · rw [va_up_ne _ _ h]
    unfold cRD
    simp only [va_up_ne _ _ h]
theorem cRD_4_n {ci : Nat → Nat} {d : Nat → ClassId} {kd : Nat → Nat} {an : Nat → Nat} {ai : Nat → Nat → Int32} {al : Nat → Nat → Int64} {ar : Nat → Nat → Option Nat} {mX27_groups : Nat → Option Nat} {mX27_conditions : Nat → Option Nat} {mX27_rules : Nat → Option Nat} {mX27_sets : Nat → Option Nat} {mX27_right : Nat → Int32} {mX27_known : Nat → Option Nat} {mX27_asks : Nat → Option Nat} {mX27_done : Nat → Option Nat} {mX27_more : Nat → Option Nat} {mX27_its : Nat → Option Nat} {mX27_allowed : Nat → Option Nat} {mX27_other : Nat → Option Nat} {mX27_order : Nat → Option Nat} {mX28_person : Nat → Int32} {mX28_graph : Nat → Int32} {mX28_predicate : Nat → Int32} {mX28_class0 : Nat → Int32} {mX28_version : Nat → Int32} {mX75_kind : Nat → Int32} {mX75_number : Nat → Int32} {mX75_groups : Nat → Option Nat} {mX76_from : Nat → Int32} {mX76_to : Nat → Int32} {mX77_of : Nat → Int32} {mX78_least : Nat → Int32} {mX78_of : Nat → Option Nat} {mX80_rank : Nat → Int32} {mX80_denies : Nat → Int32} {mX80_condition : Nat → Int32} {mJ1_modCount : Nat → Int32} {mJ2_elementData : Nat → Option Nat} {mJ2_size : Nat → Int32} {mJ4_words : Nat → Option Nat} {mJ4_wordsInUse : Nat → Int32} {mJ4_sizeIsSticky : Nat → Int32} (q : Nat) : va_up (cRD ci d kd an ai al ar mX27_groups mX27_conditions mX27_rules mX27_sets mX27_right mX27_known mX27_asks mX27_done mX27_more mX27_its mX27_allowed mX27_other mX27_order mX28_person mX28_graph mX28_predicate mX28_class0 mX28_version mX75_kind mX75_number mX75_groups mX76_from mX76_to mX77_of mX78_least mX78_of mX80_rank mX80_denies mX80_condition mJ1_modCount mJ2_elementData mJ2_size mJ4_words mJ4_wordsInUse mJ4_sizeIsSticky) q (.inr (ci 3, [.int 0, .int 0])) = (cRD ci d (va_up kd q 4) an ai al ar mX27_groups mX27_conditions mX27_rules mX27_sets mX27_right mX27_known mX27_asks mX27_done mX27_more mX27_its mX27_allowed mX27_other mX27_order mX28_person mX28_graph mX28_predicate mX28_class0 mX28_version mX75_kind mX75_number mX75_groups (va_up mX76_from q 0) (va_up mX76_to q 0) mX77_of mX78_least mX78_of mX80_rank mX80_denies mX80_condition mJ1_modCount mJ2_elementData mJ2_size mJ4_words mJ4_wordsInUse mJ4_sizeIsSticky) := by
  funext b
  by_cases h : b = q
  · subst h
    rw [va_up_self]
    unfold cRD
    simp only [va_up_self]
  · rw [va_up_ne _ _ h]
    unfold cRD
    simp only [va_up_ne _ _ h]
theorem cRD_5 {ci : Nat → Nat} {d : Nat → ClassId} {kd : Nat → Nat} {an : Nat → Nat} {ai : Nat → Nat → Int32} {al : Nat → Nat → Int64} {ar : Nat → Nat → Option Nat} {mX27_groups : Nat → Option Nat} {mX27_conditions : Nat → Option Nat} {mX27_rules : Nat → Option Nat} {mX27_sets : Nat → Option Nat} {mX27_right : Nat → Int32} {mX27_known : Nat → Option Nat} {mX27_asks : Nat → Option Nat} {mX27_done : Nat → Option Nat} {mX27_more : Nat → Option Nat} {mX27_its : Nat → Option Nat} {mX27_allowed : Nat → Option Nat} {mX27_other : Nat → Option Nat} {mX27_order : Nat → Option Nat} {mX28_person : Nat → Int32} {mX28_graph : Nat → Int32} {mX28_predicate : Nat → Int32} {mX28_class0 : Nat → Int32} {mX28_version : Nat → Int32} {mX75_kind : Nat → Int32} {mX75_number : Nat → Int32} {mX75_groups : Nat → Option Nat} {mX76_from : Nat → Int32} {mX76_to : Nat → Int32} {mX77_of : Nat → Int32} {mX78_least : Nat → Int32} {mX78_of : Nat → Option Nat} {mX80_rank : Nat → Int32} {mX80_denies : Nat → Int32} {mX80_condition : Nat → Int32} {mJ1_modCount : Nat → Int32} {mJ2_elementData : Nat → Option Nat} {mJ2_size : Nat → Int32} {mJ4_words : Nat → Option Nat} {mJ4_wordsInUse : Nat → Int32} {mJ4_sizeIsSticky : Nat → Int32} {a : Nat} (hk : kd a = 5) : (cRD ci d kd an ai al ar mX27_groups mX27_conditions mX27_rules mX27_sets mX27_right mX27_known mX27_asks mX27_done mX27_more mX27_its mX27_allowed mX27_other mX27_order mX28_person mX28_graph mX28_predicate mX28_class0 mX28_version mX75_kind mX75_number mX75_groups mX76_from mX76_to mX77_of mX78_least mX78_of mX80_rank mX80_denies mX80_condition mJ1_modCount mJ2_elementData mJ2_size mJ4_words mJ4_wordsInUse mJ4_sizeIsSticky) a = .inr (ci 4, [.int (mX77_of a)]) := by unfold cRD; simp only [hk]
theorem cRD_5_0 {ci : Nat → Nat} {d : Nat → ClassId} {kd : Nat → Nat} {an : Nat → Nat} {ai : Nat → Nat → Int32} {al : Nat → Nat → Int64} {ar : Nat → Nat → Option Nat} {mX27_groups : Nat → Option Nat} {mX27_conditions : Nat → Option Nat} {mX27_rules : Nat → Option Nat} {mX27_sets : Nat → Option Nat} {mX27_right : Nat → Int32} {mX27_known : Nat → Option Nat} {mX27_asks : Nat → Option Nat} {mX27_done : Nat → Option Nat} {mX27_more : Nat → Option Nat} {mX27_its : Nat → Option Nat} {mX27_allowed : Nat → Option Nat} {mX27_other : Nat → Option Nat} {mX27_order : Nat → Option Nat} {mX28_person : Nat → Int32} {mX28_graph : Nat → Int32} {mX28_predicate : Nat → Int32} {mX28_class0 : Nat → Int32} {mX28_version : Nat → Int32} {mX75_kind : Nat → Int32} {mX75_number : Nat → Int32} {mX75_groups : Nat → Option Nat} {mX76_from : Nat → Int32} {mX76_to : Nat → Int32} {mX77_of : Nat → Int32} {mX78_least : Nat → Int32} {mX78_of : Nat → Option Nat} {mX80_rank : Nat → Int32} {mX80_denies : Nat → Int32} {mX80_condition : Nat → Int32} {mJ1_modCount : Nat → Int32} {mJ2_elementData : Nat → Option Nat} {mJ2_size : Nat → Int32} {mJ4_words : Nat → Option Nat} {mJ4_wordsInUse : Nat → Int32} {mJ4_sizeIsSticky : Nat → Int32} {a : Nat} {v : Int32} (hk : kd a = 5) : va_up (cRD ci d kd an ai al ar mX27_groups mX27_conditions mX27_rules mX27_sets mX27_right mX27_known mX27_asks mX27_done mX27_more mX27_its mX27_allowed mX27_other mX27_order mX28_person mX28_graph mX28_predicate mX28_class0 mX28_version mX75_kind mX75_number mX75_groups mX76_from mX76_to mX77_of mX78_least mX78_of mX80_rank mX80_denies mX80_condition mJ1_modCount mJ2_elementData mJ2_size mJ4_words mJ4_wordsInUse mJ4_sizeIsSticky) a (.inr (ci 4, [.int v])) = (cRD ci d kd an ai al ar mX27_groups mX27_conditions mX27_rules mX27_sets mX27_right mX27_known mX27_asks mX27_done mX27_more mX27_its mX27_allowed mX27_other mX27_order mX28_person mX28_graph mX28_predicate mX28_class0 mX28_version mX75_kind mX75_number mX75_groups mX76_from mX76_to (va_up mX77_of a v) mX78_least mX78_of mX80_rank mX80_denies mX80_condition mJ1_modCount mJ2_elementData mJ2_size mJ4_words mJ4_wordsInUse mJ4_sizeIsSticky) := by
  funext b
  by_cases h : b = a
  · subst h
    rw [va_up_self]
    unfold cRD
    rw [hk]
    simp only [va_up_self]
  · rw [va_up_ne _ _ h]
    unfold cRD
    simp only [va_up_ne _ _ h]
theorem cRD_5_n {ci : Nat → Nat} {d : Nat → ClassId} {kd : Nat → Nat} {an : Nat → Nat} {ai : Nat → Nat → Int32} {al : Nat → Nat → Int64} {ar : Nat → Nat → Option Nat} {mX27_groups : Nat → Option Nat} {mX27_conditions : Nat → Option Nat} {mX27_rules : Nat → Option Nat} {mX27_sets : Nat → Option Nat} {mX27_right : Nat → Int32} {mX27_known : Nat → Option Nat} {mX27_asks : Nat → Option Nat} {mX27_done : Nat → Option Nat} {mX27_more : Nat → Option Nat} {mX27_its : Nat → Option Nat} {mX27_allowed : Nat → Option Nat} {mX27_other : Nat → Option Nat} {mX27_order : Nat → Option Nat} {mX28_person : Nat → Int32} {mX28_graph : Nat → Int32} {mX28_predicate : Nat → Int32} {mX28_class0 : Nat → Int32} {mX28_version : Nat → Int32} {mX75_kind : Nat → Int32} {mX75_number : Nat → Int32} {mX75_groups : Nat → Option Nat} {mX76_from : Nat → Int32} {mX76_to : Nat → Int32} {mX77_of : Nat → Int32} {mX78_least : Nat → Int32} {mX78_of : Nat → Option Nat} {mX80_rank : Nat → Int32} {mX80_denies : Nat → Int32} {mX80_condition : Nat → Int32} {mJ1_modCount : Nat → Int32} {mJ2_elementData : Nat → Option Nat} {mJ2_size : Nat → Int32} {mJ4_words : Nat → Option Nat} {mJ4_wordsInUse : Nat → Int32} {mJ4_sizeIsSticky : Nat → Int32} (q : Nat) : va_up (cRD ci d kd an ai al ar mX27_groups mX27_conditions mX27_rules mX27_sets mX27_right mX27_known mX27_asks mX27_done mX27_more mX27_its mX27_allowed mX27_other mX27_order mX28_person mX28_graph mX28_predicate mX28_class0 mX28_version mX75_kind mX75_number mX75_groups mX76_from mX76_to mX77_of mX78_least mX78_of mX80_rank mX80_denies mX80_condition mJ1_modCount mJ2_elementData mJ2_size mJ4_words mJ4_wordsInUse mJ4_sizeIsSticky) q (.inr (ci 4, [.int 0])) = (cRD ci d (va_up kd q 5) an ai al ar mX27_groups mX27_conditions mX27_rules mX27_sets mX27_right mX27_known mX27_asks mX27_done mX27_more mX27_its mX27_allowed mX27_other mX27_order mX28_person mX28_graph mX28_predicate mX28_class0 mX28_version mX75_kind mX75_number mX75_groups mX76_from mX76_to (va_up mX77_of q 0) mX78_least mX78_of mX80_rank mX80_denies mX80_condition mJ1_modCount mJ2_elementData mJ2_size mJ4_words mJ4_wordsInUse mJ4_sizeIsSticky) := by
  funext b
  by_cases h : b = q
  · subst h
    rw [va_up_self]
    unfold cRD
    simp only [va_up_self]
  · rw [va_up_ne _ _ h]
    unfold cRD
    simp only [va_up_ne _ _ h]
theorem cRD_6 {ci : Nat → Nat} {d : Nat → ClassId} {kd : Nat → Nat} {an : Nat → Nat} {ai : Nat → Nat → Int32} {al : Nat → Nat → Int64} {ar : Nat → Nat → Option Nat} {mX27_groups : Nat → Option Nat} {mX27_conditions : Nat → Option Nat} {mX27_rules : Nat → Option Nat} {mX27_sets : Nat → Option Nat} {mX27_right : Nat → Int32} {mX27_known : Nat → Option Nat} {mX27_asks : Nat → Option Nat} {mX27_done : Nat → Option Nat} {mX27_more : Nat → Option Nat} {mX27_its : Nat → Option Nat} {mX27_allowed : Nat → Option Nat} {mX27_other : Nat → Option Nat} {mX27_order : Nat → Option Nat} {mX28_person : Nat → Int32} {mX28_graph : Nat → Int32} {mX28_predicate : Nat → Int32} {mX28_class0 : Nat → Int32} {mX28_version : Nat → Int32} {mX75_kind : Nat → Int32} {mX75_number : Nat → Int32} {mX75_groups : Nat → Option Nat} {mX76_from : Nat → Int32} {mX76_to : Nat → Int32} {mX77_of : Nat → Int32} {mX78_least : Nat → Int32} {mX78_of : Nat → Option Nat} {mX80_rank : Nat → Int32} {mX80_denies : Nat → Int32} {mX80_condition : Nat → Int32} {mJ1_modCount : Nat → Int32} {mJ2_elementData : Nat → Option Nat} {mJ2_size : Nat → Int32} {mJ4_words : Nat → Option Nat} {mJ4_wordsInUse : Nat → Int32} {mJ4_sizeIsSticky : Nat → Int32} {a : Nat} (hk : kd a = 6) : (cRD ci d kd an ai al ar mX27_groups mX27_conditions mX27_rules mX27_sets mX27_right mX27_known mX27_asks mX27_done mX27_more mX27_its mX27_allowed mX27_other mX27_order mX28_person mX28_graph mX28_predicate mX28_class0 mX28_version mX75_kind mX75_number mX75_groups mX76_from mX76_to mX77_of mX78_least mX78_of mX80_rank mX80_denies mX80_condition mJ1_modCount mJ2_elementData mJ2_size mJ4_words mJ4_wordsInUse mJ4_sizeIsSticky) a = .inr (ci 5, [.int (mX78_least a), va_rf (mX78_of a)]) := by unfold cRD; simp only [hk]
theorem cRD_6_0 {ci : Nat → Nat} {d : Nat → ClassId} {kd : Nat → Nat} {an : Nat → Nat} {ai : Nat → Nat → Int32} {al : Nat → Nat → Int64} {ar : Nat → Nat → Option Nat} {mX27_groups : Nat → Option Nat} {mX27_conditions : Nat → Option Nat} {mX27_rules : Nat → Option Nat} {mX27_sets : Nat → Option Nat} {mX27_right : Nat → Int32} {mX27_known : Nat → Option Nat} {mX27_asks : Nat → Option Nat} {mX27_done : Nat → Option Nat} {mX27_more : Nat → Option Nat} {mX27_its : Nat → Option Nat} {mX27_allowed : Nat → Option Nat} {mX27_other : Nat → Option Nat} {mX27_order : Nat → Option Nat} {mX28_person : Nat → Int32} {mX28_graph : Nat → Int32} {mX28_predicate : Nat → Int32} {mX28_class0 : Nat → Int32} {mX28_version : Nat → Int32} {mX75_kind : Nat → Int32} {mX75_number : Nat → Int32} {mX75_groups : Nat → Option Nat} {mX76_from : Nat → Int32} {mX76_to : Nat → Int32} {mX77_of : Nat → Int32} {mX78_least : Nat → Int32} {mX78_of : Nat → Option Nat} {mX80_rank : Nat → Int32} {mX80_denies : Nat → Int32} {mX80_condition : Nat → Int32} {mJ1_modCount : Nat → Int32} {mJ2_elementData : Nat → Option Nat} {mJ2_size : Nat → Int32} {mJ4_words : Nat → Option Nat} {mJ4_wordsInUse : Nat → Int32} {mJ4_sizeIsSticky : Nat → Int32} {a : Nat} {v : Int32} (hk : kd a = 6) : va_up (cRD ci d kd an ai al ar mX27_groups mX27_conditions mX27_rules mX27_sets mX27_right mX27_known mX27_asks mX27_done mX27_more mX27_its mX27_allowed mX27_other mX27_order mX28_person mX28_graph mX28_predicate mX28_class0 mX28_version mX75_kind mX75_number mX75_groups mX76_from mX76_to mX77_of mX78_least mX78_of mX80_rank mX80_denies mX80_condition mJ1_modCount mJ2_elementData mJ2_size mJ4_words mJ4_wordsInUse mJ4_sizeIsSticky) a (.inr (ci 5, [.int v, va_rf (mX78_of a)])) = (cRD ci d kd an ai al ar mX27_groups mX27_conditions mX27_rules mX27_sets mX27_right mX27_known mX27_asks mX27_done mX27_more mX27_its mX27_allowed mX27_other mX27_order mX28_person mX28_graph mX28_predicate mX28_class0 mX28_version mX75_kind mX75_number mX75_groups mX76_from mX76_to mX77_of (va_up mX78_least a v) mX78_of mX80_rank mX80_denies mX80_condition mJ1_modCount mJ2_elementData mJ2_size mJ4_words mJ4_wordsInUse mJ4_sizeIsSticky) := by
  funext b
  by_cases h : b = a
  · subst h
    rw [va_up_self]
    unfold cRD
    rw [hk]
    simp only [va_up_self]
  · rw [va_up_ne _ _ h]
    unfold cRD
    simp only [va_up_ne _ _ h]
theorem cRD_6_1 {ci : Nat → Nat} {d : Nat → ClassId} {kd : Nat → Nat} {an : Nat → Nat} {ai : Nat → Nat → Int32} {al : Nat → Nat → Int64} {ar : Nat → Nat → Option Nat} {mX27_groups : Nat → Option Nat} {mX27_conditions : Nat → Option Nat} {mX27_rules : Nat → Option Nat} {mX27_sets : Nat → Option Nat} {mX27_right : Nat → Int32} {mX27_known : Nat → Option Nat} {mX27_asks : Nat → Option Nat} {mX27_done : Nat → Option Nat} {mX27_more : Nat → Option Nat} {mX27_its : Nat → Option Nat} {mX27_allowed : Nat → Option Nat} {mX27_other : Nat → Option Nat} {mX27_order : Nat → Option Nat} {mX28_person : Nat → Int32} {mX28_graph : Nat → Int32} {mX28_predicate : Nat → Int32} {mX28_class0 : Nat → Int32} {mX28_version : Nat → Int32} {mX75_kind : Nat → Int32} {mX75_number : Nat → Int32} {mX75_groups : Nat → Option Nat} {mX76_from : Nat → Int32} {mX76_to : Nat → Int32} {mX77_of : Nat → Int32} {mX78_least : Nat → Int32} {mX78_of : Nat → Option Nat} {mX80_rank : Nat → Int32} {mX80_denies : Nat → Int32} {mX80_condition : Nat → Int32} {mJ1_modCount : Nat → Int32} {mJ2_elementData : Nat → Option Nat} {mJ2_size : Nat → Int32} {mJ4_words : Nat → Option Nat} {mJ4_wordsInUse : Nat → Int32} {mJ4_sizeIsSticky : Nat → Int32} {a : Nat} {v : Option Nat} (hk : kd a = 6) : va_up (cRD ci d kd an ai al ar mX27_groups mX27_conditions mX27_rules mX27_sets mX27_right mX27_known mX27_asks mX27_done mX27_more mX27_its mX27_allowed mX27_other mX27_order mX28_person mX28_graph mX28_predicate mX28_class0 mX28_version mX75_kind mX75_number mX75_groups mX76_from mX76_to mX77_of mX78_least mX78_of mX80_rank mX80_denies mX80_condition mJ1_modCount mJ2_elementData mJ2_size mJ4_words mJ4_wordsInUse mJ4_sizeIsSticky) a (.inr (ci 5, [.int (mX78_least a), va_rf v])) = (cRD ci d kd an ai al ar mX27_groups mX27_conditions mX27_rules mX27_sets mX27_right mX27_known mX27_asks mX27_done mX27_more mX27_its mX27_allowed mX27_other mX27_order mX28_person mX28_graph mX28_predicate mX28_class0 mX28_version mX75_kind mX75_number mX75_groups mX76_from mX76_to mX77_of mX78_least (va_up mX78_of a v) mX80_rank mX80_denies mX80_condition mJ1_modCount mJ2_elementData mJ2_size mJ4_words mJ4_wordsInUse mJ4_sizeIsSticky) := by
  funext b
  by_cases h : b = a
  · subst h
    rw [va_up_self]
    unfold cRD
    rw [hk]
    simp only [va_up_self]
  · rw [va_up_ne _ _ h]
    unfold cRD
    simp only [va_up_ne _ _ h]
theorem cRD_6_n {ci : Nat → Nat} {d : Nat → ClassId} {kd : Nat → Nat} {an : Nat → Nat} {ai : Nat → Nat → Int32} {al : Nat → Nat → Int64} {ar : Nat → Nat → Option Nat} {mX27_groups : Nat → Option Nat} {mX27_conditions : Nat → Option Nat} {mX27_rules : Nat → Option Nat} {mX27_sets : Nat → Option Nat} {mX27_right : Nat → Int32} {mX27_known : Nat → Option Nat} {mX27_asks : Nat → Option Nat} {mX27_done : Nat → Option Nat} {mX27_more : Nat → Option Nat} {mX27_its : Nat → Option Nat} {mX27_allowed : Nat → Option Nat} {mX27_other : Nat → Option Nat} {mX27_order : Nat → Option Nat} {mX28_person : Nat → Int32} {mX28_graph : Nat → Int32} {mX28_predicate : Nat → Int32} {mX28_class0 : Nat → Int32} {mX28_version : Nat → Int32} {mX75_kind : Nat → Int32} {mX75_number : Nat → Int32} {mX75_groups : Nat → Option Nat} {mX76_from : Nat → Int32} {mX76_to : Nat → Int32} {mX77_of : Nat → Int32} {mX78_least : Nat → Int32} {mX78_of : Nat → Option Nat} {mX80_rank : Nat → Int32} {mX80_denies : Nat → Int32} {mX80_condition : Nat → Int32} {mJ1_modCount : Nat → Int32} {mJ2_elementData : Nat → Option Nat} {mJ2_size : Nat → Int32} {mJ4_words : Nat → Option Nat} {mJ4_wordsInUse : Nat → Int32} {mJ4_sizeIsSticky : Nat → Int32} (q : Nat) : va_up (cRD ci d kd an ai al ar mX27_groups mX27_conditions mX27_rules mX27_sets mX27_right mX27_known mX27_asks mX27_done mX27_more mX27_its mX27_allowed mX27_other mX27_order mX28_person mX28_graph mX28_predicate mX28_class0 mX28_version mX75_kind mX75_number mX75_groups mX76_from mX76_to mX77_of mX78_least mX78_of mX80_rank mX80_denies mX80_condition mJ1_modCount mJ2_elementData mJ2_size mJ4_words mJ4_wordsInUse mJ4_sizeIsSticky) q (.inr (ci 5, [.int 0, va_rf none])) = (cRD ci d (va_up kd q 6) an ai al ar mX27_groups mX27_conditions mX27_rules mX27_sets mX27_right mX27_known mX27_asks mX27_done mX27_more mX27_its mX27_allowed mX27_other mX27_order mX28_person mX28_graph mX28_predicate mX28_class0 mX28_version mX75_kind mX75_number mX75_groups mX76_from mX76_to mX77_of (va_up mX78_least q 0) (va_up mX78_of q none) mX80_rank mX80_denies mX80_condition mJ1_modCount mJ2_elementData mJ2_size mJ4_words mJ4_wordsInUse mJ4_sizeIsSticky) := by
  funext b
  by_cases h : b = q
  · subst h
    rw [va_up_self]
    unfold cRD
    simp only [va_up_self]
  · rw [va_up_ne _ _ h]
    unfold cRD
    simp only [va_up_ne _ _ h]
theorem cRD_7 {ci : Nat → Nat} {d : Nat → ClassId} {kd : Nat → Nat} {an : Nat → Nat} {ai : Nat → Nat → Int32} {al : Nat → Nat → Int64} {ar : Nat → Nat → Option Nat} {mX27_groups : Nat → Option Nat} {mX27_conditions : Nat → Option Nat} {mX27_rules : Nat → Option Nat} {mX27_sets : Nat → Option Nat} {mX27_right : Nat → Int32} {mX27_known : Nat → Option Nat} {mX27_asks : Nat → Option Nat} {mX27_done : Nat → Option Nat} {mX27_more : Nat → Option Nat} {mX27_its : Nat → Option Nat} {mX27_allowed : Nat → Option Nat} {mX27_other : Nat → Option Nat} {mX27_order : Nat → Option Nat} {mX28_person : Nat → Int32} {mX28_graph : Nat → Int32} {mX28_predicate : Nat → Int32} {mX28_class0 : Nat → Int32} {mX28_version : Nat → Int32} {mX75_kind : Nat → Int32} {mX75_number : Nat → Int32} {mX75_groups : Nat → Option Nat} {mX76_from : Nat → Int32} {mX76_to : Nat → Int32} {mX77_of : Nat → Int32} {mX78_least : Nat → Int32} {mX78_of : Nat → Option Nat} {mX80_rank : Nat → Int32} {mX80_denies : Nat → Int32} {mX80_condition : Nat → Int32} {mJ1_modCount : Nat → Int32} {mJ2_elementData : Nat → Option Nat} {mJ2_size : Nat → Int32} {mJ4_words : Nat → Option Nat} {mJ4_wordsInUse : Nat → Int32} {mJ4_sizeIsSticky : Nat → Int32} {a : Nat} (hk : kd a = 7) : (cRD ci d kd an ai al ar mX27_groups mX27_conditions mX27_rules mX27_sets mX27_right mX27_known mX27_asks mX27_done mX27_more mX27_its mX27_allowed mX27_other mX27_order mX28_person mX28_graph mX28_predicate mX28_class0 mX28_version mX75_kind mX75_number mX75_groups mX76_from mX76_to mX77_of mX78_least mX78_of mX80_rank mX80_denies mX80_condition mJ1_modCount mJ2_elementData mJ2_size mJ4_words mJ4_wordsInUse mJ4_sizeIsSticky) a = .inr (ci 6, []) := by unfold cRD; simp only [hk]
theorem cRD_7_n {ci : Nat → Nat} {d : Nat → ClassId} {kd : Nat → Nat} {an : Nat → Nat} {ai : Nat → Nat → Int32} {al : Nat → Nat → Int64} {ar : Nat → Nat → Option Nat} {mX27_groups : Nat → Option Nat} {mX27_conditions : Nat → Option Nat} {mX27_rules : Nat → Option Nat} {mX27_sets : Nat → Option Nat} {mX27_right : Nat → Int32} {mX27_known : Nat → Option Nat} {mX27_asks : Nat → Option Nat} {mX27_done : Nat → Option Nat} {mX27_more : Nat → Option Nat} {mX27_its : Nat → Option Nat} {mX27_allowed : Nat → Option Nat} {mX27_other : Nat → Option Nat} {mX27_order : Nat → Option Nat} {mX28_person : Nat → Int32} {mX28_graph : Nat → Int32} {mX28_predicate : Nat → Int32} {mX28_class0 : Nat → Int32} {mX28_version : Nat → Int32} {mX75_kind : Nat → Int32} {mX75_number : Nat → Int32} {mX75_groups : Nat → Option Nat} {mX76_from : Nat → Int32} {mX76_to : Nat → Int32} {mX77_of : Nat → Int32} {mX78_least : Nat → Int32} {mX78_of : Nat → Option Nat} {mX80_rank : Nat → Int32} {mX80_denies : Nat → Int32} {mX80_condition : Nat → Int32} {mJ1_modCount : Nat → Int32} {mJ2_elementData : Nat → Option Nat} {mJ2_size : Nat → Int32} {mJ4_words : Nat → Option Nat} {mJ4_wordsInUse : Nat → Int32} {mJ4_sizeIsSticky : Nat → Int32} (q : Nat) : va_up (cRD ci d kd an ai al ar mX27_groups mX27_conditions mX27_rules mX27_sets mX27_right mX27_known mX27_asks mX27_done mX27_more mX27_its mX27_allowed mX27_other mX27_order mX28_person mX28_graph mX28_predicate mX28_class0 mX28_version mX75_kind mX75_number mX75_groups mX76_from mX76_to mX77_of mX78_least mX78_of mX80_rank mX80_denies mX80_condition mJ1_modCount mJ2_elementData mJ2_size mJ4_words mJ4_wordsInUse mJ4_sizeIsSticky) q (.inr (ci 6, [])) = (cRD ci d (va_up kd q 7) an ai al ar mX27_groups mX27_conditions mX27_rules mX27_sets mX27_right mX27_known mX27_asks mX27_done mX27_more mX27_its mX27_allowed mX27_other mX27_order mX28_person mX28_graph mX28_predicate mX28_class0 mX28_version mX75_kind mX75_number mX75_groups mX76_from mX76_to mX77_of mX78_least mX78_of mX80_rank mX80_denies mX80_condition mJ1_modCount mJ2_elementData mJ2_size mJ4_words mJ4_wordsInUse mJ4_sizeIsSticky) := by
  funext b
  by_cases h : b = q
  · subst h
    rw [va_up_self]
    unfold cRD
    simp only [va_up_self]
  · rw [va_up_ne _ _ h]
    unfold cRD
    simp only [va_up_ne _ _ h]
theorem cRD_8 {ci : Nat → Nat} {d : Nat → ClassId} {kd : Nat → Nat} {an : Nat → Nat} {ai : Nat → Nat → Int32} {al : Nat → Nat → Int64} {ar : Nat → Nat → Option Nat} {mX27_groups : Nat → Option Nat} {mX27_conditions : Nat → Option Nat} {mX27_rules : Nat → Option Nat} {mX27_sets : Nat → Option Nat} {mX27_right : Nat → Int32} {mX27_known : Nat → Option Nat} {mX27_asks : Nat → Option Nat} {mX27_done : Nat → Option Nat} {mX27_more : Nat → Option Nat} {mX27_its : Nat → Option Nat} {mX27_allowed : Nat → Option Nat} {mX27_other : Nat → Option Nat} {mX27_order : Nat → Option Nat} {mX28_person : Nat → Int32} {mX28_graph : Nat → Int32} {mX28_predicate : Nat → Int32} {mX28_class0 : Nat → Int32} {mX28_version : Nat → Int32} {mX75_kind : Nat → Int32} {mX75_number : Nat → Int32} {mX75_groups : Nat → Option Nat} {mX76_from : Nat → Int32} {mX76_to : Nat → Int32} {mX77_of : Nat → Int32} {mX78_least : Nat → Int32} {mX78_of : Nat → Option Nat} {mX80_rank : Nat → Int32} {mX80_denies : Nat → Int32} {mX80_condition : Nat → Int32} {mJ1_modCount : Nat → Int32} {mJ2_elementData : Nat → Option Nat} {mJ2_size : Nat → Int32} {mJ4_words : Nat → Option Nat} {mJ4_wordsInUse : Nat → Int32} {mJ4_sizeIsSticky : Nat → Int32} {a : Nat} (hk : kd a = 8) : (cRD ci d kd an ai al ar mX27_groups mX27_conditions mX27_rules mX27_sets mX27_right mX27_known mX27_asks mX27_done mX27_more mX27_its mX27_allowed mX27_other mX27_order mX28_person mX28_graph mX28_predicate mX28_class0 mX28_version mX75_kind mX75_number mX75_groups mX76_from mX76_to mX77_of mX78_least mX78_of mX80_rank mX80_denies mX80_condition mJ1_modCount mJ2_elementData mJ2_size mJ4_words mJ4_wordsInUse mJ4_sizeIsSticky) a = .inr (ci 7, [.int (mX80_rank a), .int (mX80_denies a), .int (mX80_condition a)]) := by unfold cRD; simp only [hk]
theorem cRD_8_0 {ci : Nat → Nat} {d : Nat → ClassId} {kd : Nat → Nat} {an : Nat → Nat} {ai : Nat → Nat → Int32} {al : Nat → Nat → Int64} {ar : Nat → Nat → Option Nat} {mX27_groups : Nat → Option Nat} {mX27_conditions : Nat → Option Nat} {mX27_rules : Nat → Option Nat} {mX27_sets : Nat → Option Nat} {mX27_right : Nat → Int32} {mX27_known : Nat → Option Nat} {mX27_asks : Nat → Option Nat} {mX27_done : Nat → Option Nat} {mX27_more : Nat → Option Nat} {mX27_its : Nat → Option Nat} {mX27_allowed : Nat → Option Nat} {mX27_other : Nat → Option Nat} {mX27_order : Nat → Option Nat} {mX28_person : Nat → Int32} {mX28_graph : Nat → Int32} {mX28_predicate : Nat → Int32} {mX28_class0 : Nat → Int32} {mX28_version : Nat → Int32} {mX75_kind : Nat → Int32} {mX75_number : Nat → Int32} {mX75_groups : Nat → Option Nat} {mX76_from : Nat → Int32} {mX76_to : Nat → Int32} {mX77_of : Nat → Int32} {mX78_least : Nat → Int32} {mX78_of : Nat → Option Nat} {mX80_rank : Nat → Int32} {mX80_denies : Nat → Int32} {mX80_condition : Nat → Int32} {mJ1_modCount : Nat → Int32} {mJ2_elementData : Nat → Option Nat} {mJ2_size : Nat → Int32} {mJ4_words : Nat → Option Nat} {mJ4_wordsInUse : Nat → Int32} {mJ4_sizeIsSticky : Nat → Int32} {a : Nat} {v : Int32} (hk : kd a = 8) : va_up (cRD ci d kd an ai al ar mX27_groups mX27_conditions mX27_rules mX27_sets mX27_right mX27_known mX27_asks mX27_done mX27_more mX27_its mX27_allowed mX27_other mX27_order mX28_person mX28_graph mX28_predicate mX28_class0 mX28_version mX75_kind mX75_number mX75_groups mX76_from mX76_to mX77_of mX78_least mX78_of mX80_rank mX80_denies mX80_condition mJ1_modCount mJ2_elementData mJ2_size mJ4_words mJ4_wordsInUse mJ4_sizeIsSticky) a (.inr (ci 7, [.int v, .int (mX80_denies a), .int (mX80_condition a)])) = (cRD ci d kd an ai al ar mX27_groups mX27_conditions mX27_rules mX27_sets mX27_right mX27_known mX27_asks mX27_done mX27_more mX27_its mX27_allowed mX27_other mX27_order mX28_person mX28_graph mX28_predicate mX28_class0 mX28_version mX75_kind mX75_number mX75_groups mX76_from mX76_to mX77_of mX78_least mX78_of (va_up mX80_rank a v) mX80_denies mX80_condition mJ1_modCount mJ2_elementData mJ2_size mJ4_words mJ4_wordsInUse mJ4_sizeIsSticky) := by
  funext b
  by_cases h : b = a
  · subst h
    rw [va_up_self]
    unfold cRD
    rw [hk]
    simp only [va_up_self]
  · rw [va_up_ne _ _ h]
    unfold cRD
    simp only [va_up_ne _ _ h]
theorem cRD_8_1 {ci : Nat → Nat} {d : Nat → ClassId} {kd : Nat → Nat} {an : Nat → Nat} {ai : Nat → Nat → Int32} {al : Nat → Nat → Int64} {ar : Nat → Nat → Option Nat} {mX27_groups : Nat → Option Nat} {mX27_conditions : Nat → Option Nat} {mX27_rules : Nat → Option Nat} {mX27_sets : Nat → Option Nat} {mX27_right : Nat → Int32} {mX27_known : Nat → Option Nat} {mX27_asks : Nat → Option Nat} {mX27_done : Nat → Option Nat} {mX27_more : Nat → Option Nat} {mX27_its : Nat → Option Nat} {mX27_allowed : Nat → Option Nat} {mX27_other : Nat → Option Nat} {mX27_order : Nat → Option Nat} {mX28_person : Nat → Int32} {mX28_graph : Nat → Int32} {mX28_predicate : Nat → Int32} {mX28_class0 : Nat → Int32} {mX28_version : Nat → Int32} {mX75_kind : Nat → Int32} {mX75_number : Nat → Int32} {mX75_groups : Nat → Option Nat} {mX76_from : Nat → Int32} {mX76_to : Nat → Int32} {mX77_of : Nat → Int32} {mX78_least : Nat → Int32} {mX78_of : Nat → Option Nat} {mX80_rank : Nat → Int32} {mX80_denies : Nat → Int32} {mX80_condition : Nat → Int32} {mJ1_modCount : Nat → Int32} {mJ2_elementData : Nat → Option Nat} {mJ2_size : Nat → Int32} {mJ4_words : Nat → Option Nat} {mJ4_wordsInUse : Nat → Int32} {mJ4_sizeIsSticky : Nat → Int32} {a : Nat} {v : Int32} (hk : kd a = 8) : va_up (cRD ci d kd an ai al ar mX27_groups mX27_conditions mX27_rules mX27_sets mX27_right mX27_known mX27_asks mX27_done mX27_more mX27_its mX27_allowed mX27_other mX27_order mX28_person mX28_graph mX28_predicate mX28_class0 mX28_version mX75_kind mX75_number mX75_groups mX76_from mX76_to mX77_of mX78_least mX78_of mX80_rank mX80_denies mX80_condition mJ1_modCount mJ2_elementData mJ2_size mJ4_words mJ4_wordsInUse mJ4_sizeIsSticky) a (.inr (ci 7, [.int (mX80_rank a), .int v, .int (mX80_condition a)])) = (cRD ci d kd an ai al ar mX27_groups mX27_conditions mX27_rules mX27_sets mX27_right mX27_known mX27_asks mX27_done mX27_more mX27_its mX27_allowed mX27_other mX27_order mX28_person mX28_graph mX28_predicate mX28_class0 mX28_version mX75_kind mX75_number mX75_groups mX76_from mX76_to mX77_of mX78_least mX78_of mX80_rank (va_up mX80_denies a v) mX80_condition mJ1_modCount mJ2_elementData mJ2_size mJ4_words mJ4_wordsInUse mJ4_sizeIsSticky) := by
  funext b
  by_cases h : b = a
  · subst h
    rw [va_up_self]
    unfold cRD
    rw [hk]
    simp only [va_up_self]
  · rw [va_up_ne _ _ h]
    unfold cRD
    simp only [va_up_ne _ _ h]
theorem cRD_8_2 {ci : Nat → Nat} {d : Nat → ClassId} {kd : Nat → Nat} {an : Nat → Nat} {ai : Nat → Nat → Int32} {al : Nat → Nat → Int64} {ar : Nat → Nat → Option Nat} {mX27_groups : Nat → Option Nat} {mX27_conditions : Nat → Option Nat} {mX27_rules : Nat → Option Nat} {mX27_sets : Nat → Option Nat} {mX27_right : Nat → Int32} {mX27_known : Nat → Option Nat} {mX27_asks : Nat → Option Nat} {mX27_done : Nat → Option Nat} {mX27_more : Nat → Option Nat} {mX27_its : Nat → Option Nat} {mX27_allowed : Nat → Option Nat} {mX27_other : Nat → Option Nat} {mX27_order : Nat → Option Nat} {mX28_person : Nat → Int32} {mX28_graph : Nat → Int32} {mX28_predicate : Nat → Int32} {mX28_class0 : Nat → Int32} {mX28_version : Nat → Int32} {mX75_kind : Nat → Int32} {mX75_number : Nat → Int32} {mX75_groups : Nat → Option Nat} {mX76_from : Nat → Int32} {mX76_to : Nat → Int32} {mX77_of : Nat → Int32} {mX78_least : Nat → Int32} {mX78_of : Nat → Option Nat} {mX80_rank : Nat → Int32} {mX80_denies : Nat → Int32} {mX80_condition : Nat → Int32} {mJ1_modCount : Nat → Int32} {mJ2_elementData : Nat → Option Nat} {mJ2_size : Nat → Int32} {mJ4_words : Nat → Option Nat} {mJ4_wordsInUse : Nat → Int32} {mJ4_sizeIsSticky : Nat → Int32} {a : Nat} {v : Int32} (hk : kd a = 8) : va_up (cRD ci d kd an ai al ar mX27_groups mX27_conditions mX27_rules mX27_sets mX27_right mX27_known mX27_asks mX27_done mX27_more mX27_its mX27_allowed mX27_other mX27_order mX28_person mX28_graph mX28_predicate mX28_class0 mX28_version mX75_kind mX75_number mX75_groups mX76_from mX76_to mX77_of mX78_least mX78_of mX80_rank mX80_denies mX80_condition mJ1_modCount mJ2_elementData mJ2_size mJ4_words mJ4_wordsInUse mJ4_sizeIsSticky) a (.inr (ci 7, [.int (mX80_rank a), .int (mX80_denies a), .int v])) = (cRD ci d kd an ai al ar mX27_groups mX27_conditions mX27_rules mX27_sets mX27_right mX27_known mX27_asks mX27_done mX27_more mX27_its mX27_allowed mX27_other mX27_order mX28_person mX28_graph mX28_predicate mX28_class0 mX28_version mX75_kind mX75_number mX75_groups mX76_from mX76_to mX77_of mX78_least mX78_of mX80_rank mX80_denies (va_up mX80_condition a v) mJ1_modCount mJ2_elementData mJ2_size mJ4_words mJ4_wordsInUse mJ4_sizeIsSticky) := by
  funext b
  by_cases h : b = a
  · subst h
    rw [va_up_self]
    unfold cRD
    rw [hk]
    simp only [va_up_self]
  · rw [va_up_ne _ _ h]
    unfold cRD
    simp only [va_up_ne _ _ h]
theorem cRD_8_n {ci : Nat → Nat} {d : Nat → ClassId} {kd : Nat → Nat} {an : Nat → Nat} {ai : Nat → Nat → Int32} {al : Nat → Nat → Int64} {ar : Nat → Nat → Option Nat} {mX27_groups : Nat → Option Nat} {mX27_conditions : Nat → Option Nat} {mX27_rules : Nat → Option Nat} {mX27_sets : Nat → Option Nat} {mX27_right : Nat → Int32} {mX27_known : Nat → Option Nat} {mX27_asks : Nat → Option Nat} {mX27_done : Nat → Option Nat} {mX27_more : Nat → Option Nat} {mX27_its : Nat → Option Nat} {mX27_allowed : Nat → Option Nat} {mX27_other : Nat → Option Nat} {mX27_order : Nat → Option Nat} {mX28_person : Nat → Int32} {mX28_graph : Nat → Int32} {mX28_predicate : Nat → Int32} {mX28_class0 : Nat → Int32} {mX28_version : Nat → Int32} {mX75_kind : Nat → Int32} {mX75_number : Nat → Int32} {mX75_groups : Nat → Option Nat} {mX76_from : Nat → Int32} {mX76_to : Nat → Int32} {mX77_of : Nat → Int32} {mX78_least : Nat → Int32} {mX78_of : Nat → Option Nat} {mX80_rank : Nat → Int32} {mX80_denies : Nat → Int32} {mX80_condition : Nat → Int32} {mJ1_modCount : Nat → Int32} {mJ2_elementData : Nat → Option Nat} {mJ2_size : Nat → Int32} {mJ4_words : Nat → Option Nat} {mJ4_wordsInUse : Nat → Int32} {mJ4_sizeIsSticky : Nat → Int32} (q : Nat) : va_up (cRD ci d kd an ai al ar mX27_groups mX27_conditions mX27_rules mX27_sets mX27_right mX27_known mX27_asks mX27_done mX27_more mX27_its mX27_allowed mX27_other mX27_order mX28_person mX28_graph mX28_predicate mX28_class0 mX28_version mX75_kind mX75_number mX75_groups mX76_from mX76_to mX77_of mX78_least mX78_of mX80_rank mX80_denies mX80_condition mJ1_modCount mJ2_elementData mJ2_size mJ4_words mJ4_wordsInUse mJ4_sizeIsSticky) q (.inr (ci 7, [.int 0, .int 0, .int 0])) = (cRD ci d (va_up kd q 8) an ai al ar mX27_groups mX27_conditions mX27_rules mX27_sets mX27_right mX27_known mX27_asks mX27_done mX27_more mX27_its mX27_allowed mX27_other mX27_order mX28_person mX28_graph mX28_predicate mX28_class0 mX28_version mX75_kind mX75_number mX75_groups mX76_from mX76_to mX77_of mX78_least mX78_of (va_up mX80_rank q 0) (va_up mX80_denies q 0) (va_up mX80_condition q 0) mJ1_modCount mJ2_elementData mJ2_size mJ4_words mJ4_wordsInUse mJ4_sizeIsSticky) := by
  funext b
  by_cases h : b = q
  · subst h
    rw [va_up_self]
    unfold cRD
    simp only [va_up_self]
  · rw [va_up_ne _ _ h]
    unfold cRD
    simp only [va_up_ne _ _ h]
theorem cRD_9 {ci : Nat → Nat} {d : Nat → ClassId} {kd : Nat → Nat} {an : Nat → Nat} {ai : Nat → Nat → Int32} {al : Nat → Nat → Int64} {ar : Nat → Nat → Option Nat} {mX27_groups : Nat → Option Nat} {mX27_conditions : Nat → Option Nat} {mX27_rules : Nat → Option Nat} {mX27_sets : Nat → Option Nat} {mX27_right : Nat → Int32} {mX27_known : Nat → Option Nat} {mX27_asks : Nat → Option Nat} {mX27_done : Nat → Option Nat} {mX27_more : Nat → Option Nat} {mX27_its : Nat → Option Nat} {mX27_allowed : Nat → Option Nat} {mX27_other : Nat → Option Nat} {mX27_order : Nat → Option Nat} {mX28_person : Nat → Int32} {mX28_graph : Nat → Int32} {mX28_predicate : Nat → Int32} {mX28_class0 : Nat → Int32} {mX28_version : Nat → Int32} {mX75_kind : Nat → Int32} {mX75_number : Nat → Int32} {mX75_groups : Nat → Option Nat} {mX76_from : Nat → Int32} {mX76_to : Nat → Int32} {mX77_of : Nat → Int32} {mX78_least : Nat → Int32} {mX78_of : Nat → Option Nat} {mX80_rank : Nat → Int32} {mX80_denies : Nat → Int32} {mX80_condition : Nat → Int32} {mJ1_modCount : Nat → Int32} {mJ2_elementData : Nat → Option Nat} {mJ2_size : Nat → Int32} {mJ4_words : Nat → Option Nat} {mJ4_wordsInUse : Nat → Int32} {mJ4_sizeIsSticky : Nat → Int32} {a : Nat} (hk : kd a = 9) : (cRD ci d kd an ai al ar mX27_groups mX27_conditions mX27_rules mX27_sets mX27_right mX27_known mX27_asks mX27_done mX27_more mX27_its mX27_allowed mX27_other mX27_order mX28_person mX28_graph mX28_predicate mX28_class0 mX28_version mX75_kind mX75_number mX75_groups mX76_from mX76_to mX77_of mX78_least mX78_of mX80_rank mX80_denies mX80_condition mJ1_modCount mJ2_elementData mJ2_size mJ4_words mJ4_wordsInUse mJ4_sizeIsSticky) a = .inr (ci 8, [.int (mJ1_modCount a), va_rf (mJ2_elementData a), .int (mJ2_size a)]) := by unfold cRD; simp only [hk]
theorem cRD_9_0 {ci : Nat → Nat} {d : Nat → ClassId} {kd : Nat → Nat} {an : Nat → Nat} {ai : Nat → Nat → Int32} {al : Nat → Nat → Int64} {ar : Nat → Nat → Option Nat} {mX27_groups : Nat → Option Nat} {mX27_conditions : Nat → Option Nat} {mX27_rules : Nat → Option Nat} {mX27_sets : Nat → Option Nat} {mX27_right : Nat → Int32} {mX27_known : Nat → Option Nat} {mX27_asks : Nat → Option Nat} {mX27_done : Nat → Option Nat} {mX27_more : Nat → Option Nat} {mX27_its : Nat → Option Nat} {mX27_allowed : Nat → Option Nat} {mX27_other : Nat → Option Nat} {mX27_order : Nat → Option Nat} {mX28_person : Nat → Int32} {mX28_graph : Nat → Int32} {mX28_predicate : Nat → Int32} {mX28_class0 : Nat → Int32} {mX28_version : Nat → Int32} {mX75_kind : Nat → Int32} {mX75_number : Nat → Int32} {mX75_groups : Nat → Option Nat} {mX76_from : Nat → Int32} {mX76_to : Nat → Int32} {mX77_of : Nat → Int32} {mX78_least : Nat → Int32} {mX78_of : Nat → Option Nat} {mX80_rank : Nat → Int32} {mX80_denies : Nat → Int32} {mX80_condition : Nat → Int32} {mJ1_modCount : Nat → Int32} {mJ2_elementData : Nat → Option Nat} {mJ2_size : Nat → Int32} {mJ4_words : Nat → Option Nat} {mJ4_wordsInUse : Nat → Int32} {mJ4_sizeIsSticky : Nat → Int32} {a : Nat} {v : Int32} (hk : kd a = 9) : va_up (cRD ci d kd an ai al ar mX27_groups mX27_conditions mX27_rules mX27_sets mX27_right mX27_known mX27_asks mX27_done mX27_more mX27_its mX27_allowed mX27_other mX27_order mX28_person mX28_graph mX28_predicate mX28_class0 mX28_version mX75_kind mX75_number mX75_groups mX76_from mX76_to mX77_of mX78_least mX78_of mX80_rank mX80_denies mX80_condition mJ1_modCount mJ2_elementData mJ2_size mJ4_words mJ4_wordsInUse mJ4_sizeIsSticky) a (.inr (ci 8, [.int v, va_rf (mJ2_elementData a), .int (mJ2_size a)])) = (cRD ci d kd an ai al ar mX27_groups mX27_conditions mX27_rules mX27_sets mX27_right mX27_known mX27_asks mX27_done mX27_more mX27_its mX27_allowed mX27_other mX27_order mX28_person mX28_graph mX28_predicate mX28_class0 mX28_version mX75_kind mX75_number mX75_groups mX76_from mX76_to mX77_of mX78_least mX78_of mX80_rank mX80_denies mX80_condition (va_up mJ1_modCount a v) mJ2_elementData mJ2_size mJ4_words mJ4_wordsInUse mJ4_sizeIsSticky) := by
  funext b
  by_cases h : b = a
  · subst h
    rw [va_up_self]
    unfold cRD
    rw [hk]
    simp only [va_up_self]
  · rw [va_up_ne _ _ h]
    unfold cRD
    simp only [va_up_ne _ _ h]
theorem cRD_9_1 {ci : Nat → Nat} {d : Nat → ClassId} {kd : Nat → Nat} {an : Nat → Nat} {ai : Nat → Nat → Int32} {al : Nat → Nat → Int64} {ar : Nat → Nat → Option Nat} {mX27_groups : Nat → Option Nat} {mX27_conditions : Nat → Option Nat} {mX27_rules : Nat → Option Nat} {mX27_sets : Nat → Option Nat} {mX27_right : Nat → Int32} {mX27_known : Nat → Option Nat} {mX27_asks : Nat → Option Nat} {mX27_done : Nat → Option Nat} {mX27_more : Nat → Option Nat} {mX27_its : Nat → Option Nat} {mX27_allowed : Nat → Option Nat} {mX27_other : Nat → Option Nat} {mX27_order : Nat → Option Nat} {mX28_person : Nat → Int32} {mX28_graph : Nat → Int32} {mX28_predicate : Nat → Int32} {mX28_class0 : Nat → Int32} {mX28_version : Nat → Int32} {mX75_kind : Nat → Int32} {mX75_number : Nat → Int32} {mX75_groups : Nat → Option Nat} {mX76_from : Nat → Int32} {mX76_to : Nat → Int32} {mX77_of : Nat → Int32} {mX78_least : Nat → Int32} {mX78_of : Nat → Option Nat} {mX80_rank : Nat → Int32} {mX80_denies : Nat → Int32} {mX80_condition : Nat → Int32} {mJ1_modCount : Nat → Int32} {mJ2_elementData : Nat → Option Nat} {mJ2_size : Nat → Int32} {mJ4_words : Nat → Option Nat} {mJ4_wordsInUse : Nat → Int32} {mJ4_sizeIsSticky : Nat → Int32} {a : Nat} {v : Option Nat} (hk : kd a = 9) : va_up (cRD ci d kd an ai al ar mX27_groups mX27_conditions mX27_rules mX27_sets mX27_right mX27_known mX27_asks mX27_done mX27_more mX27_its mX27_allowed mX27_other mX27_order mX28_person mX28_graph mX28_predicate mX28_class0 mX28_version mX75_kind mX75_number mX75_groups mX76_from mX76_to mX77_of mX78_least mX78_of mX80_rank mX80_denies mX80_condition mJ1_modCount mJ2_elementData mJ2_size mJ4_words mJ4_wordsInUse mJ4_sizeIsSticky) a (.inr (ci 8, [.int (mJ1_modCount a), va_rf v, .int (mJ2_size a)])) = (cRD ci d kd an ai al ar mX27_groups mX27_conditions mX27_rules mX27_sets mX27_right mX27_known mX27_asks mX27_done mX27_more mX27_its mX27_allowed mX27_other mX27_order mX28_person mX28_graph mX28_predicate mX28_class0 mX28_version mX75_kind mX75_number mX75_groups mX76_from mX76_to mX77_of mX78_least mX78_of mX80_rank mX80_denies mX80_condition mJ1_modCount (va_up mJ2_elementData a v) mJ2_size mJ4_words mJ4_wordsInUse mJ4_sizeIsSticky) := by
  funext b
  by_cases h : b = a
  · subst h
    rw [va_up_self]
    unfold cRD
    rw [hk]
    simp only [va_up_self]
  · rw [va_up_ne _ _ h]
    unfold cRD
    simp only [va_up_ne _ _ h]
theorem cRD_9_2 {ci : Nat → Nat} {d : Nat → ClassId} {kd : Nat → Nat} {an : Nat → Nat} {ai : Nat → Nat → Int32} {al : Nat → Nat → Int64} {ar : Nat → Nat → Option Nat} {mX27_groups : Nat → Option Nat} {mX27_conditions : Nat → Option Nat} {mX27_rules : Nat → Option Nat} {mX27_sets : Nat → Option Nat} {mX27_right : Nat → Int32} {mX27_known : Nat → Option Nat} {mX27_asks : Nat → Option Nat} {mX27_done : Nat → Option Nat} {mX27_more : Nat → Option Nat} {mX27_its : Nat → Option Nat} {mX27_allowed : Nat → Option Nat} {mX27_other : Nat → Option Nat} {mX27_order : Nat → Option Nat} {mX28_person : Nat → Int32} {mX28_graph : Nat → Int32} {mX28_predicate : Nat → Int32} {mX28_class0 : Nat → Int32} {mX28_version : Nat → Int32} {mX75_kind : Nat → Int32} {mX75_number : Nat → Int32} {mX75_groups : Nat → Option Nat} {mX76_from : Nat → Int32} {mX76_to : Nat → Int32} {mX77_of : Nat → Int32} {mX78_least : Nat → Int32} {mX78_of : Nat → Option Nat} {mX80_rank : Nat → Int32} {mX80_denies : Nat → Int32} {mX80_condition : Nat → Int32} {mJ1_modCount : Nat → Int32} {mJ2_elementData : Nat → Option Nat} {mJ2_size : Nat → Int32} {mJ4_words : Nat → Option Nat} {mJ4_wordsInUse : Nat → Int32} {mJ4_sizeIsSticky : Nat → Int32} {a : Nat} {v : Int32} (hk : kd a = 9) : va_up (cRD ci d kd an ai al ar mX27_groups mX27_conditions mX27_rules mX27_sets mX27_right mX27_known mX27_asks mX27_done mX27_more mX27_its mX27_allowed mX27_other mX27_order mX28_person mX28_graph mX28_predicate mX28_class0 mX28_version mX75_kind mX75_number mX75_groups mX76_from mX76_to mX77_of mX78_least mX78_of mX80_rank mX80_denies mX80_condition mJ1_modCount mJ2_elementData mJ2_size mJ4_words mJ4_wordsInUse mJ4_sizeIsSticky) a (.inr (ci 8, [.int (mJ1_modCount a), va_rf (mJ2_elementData a), .int v])) = (cRD ci d kd an ai al ar mX27_groups mX27_conditions mX27_rules mX27_sets mX27_right mX27_known mX27_asks mX27_done mX27_more mX27_its mX27_allowed mX27_other mX27_order mX28_person mX28_graph mX28_predicate mX28_class0 mX28_version mX75_kind mX75_number mX75_groups mX76_from mX76_to mX77_of mX78_least mX78_of mX80_rank mX80_denies mX80_condition mJ1_modCount mJ2_elementData (va_up mJ2_size a v) mJ4_words mJ4_wordsInUse mJ4_sizeIsSticky) := by
  funext b
  by_cases h : b = a
  · subst h
    rw [va_up_self]
    unfold cRD
    rw [hk]
    simp only [va_up_self]
  · rw [va_up_ne _ _ h]
    unfold cRD
    simp only [va_up_ne _ _ h]
theorem cRD_9_n {ci : Nat → Nat} {d : Nat → ClassId} {kd : Nat → Nat} {an : Nat → Nat} {ai : Nat → Nat → Int32} {al : Nat → Nat → Int64} {ar : Nat → Nat → Option Nat} {mX27_groups : Nat → Option Nat} {mX27_conditions : Nat → Option Nat} {mX27_rules : Nat → Option Nat} {mX27_sets : Nat → Option Nat} {mX27_right : Nat → Int32} {mX27_known : Nat → Option Nat} {mX27_asks : Nat → Option Nat} {mX27_done : Nat → Option Nat} {mX27_more : Nat → Option Nat} {mX27_its : Nat → Option Nat} {mX27_allowed : Nat → Option Nat} {mX27_other : Nat → Option Nat} {mX27_order : Nat → Option Nat} {mX28_person : Nat → Int32} {mX28_graph : Nat → Int32} {mX28_predicate : Nat → Int32} {mX28_class0 : Nat → Int32} {mX28_version : Nat → Int32} {mX75_kind : Nat → Int32} {mX75_number : Nat → Int32} {mX75_groups : Nat → Option Nat} {mX76_from : Nat → Int32} {mX76_to : Nat → Int32} {mX77_of : Nat → Int32} {mX78_least : Nat → Int32} {mX78_of : Nat → Option Nat} {mX80_rank : Nat → Int32} {mX80_denies : Nat → Int32} {mX80_condition : Nat → Int32} {mJ1_modCount : Nat → Int32} {mJ2_elementData : Nat → Option Nat} {mJ2_size : Nat → Int32} {mJ4_words : Nat → Option Nat} {mJ4_wordsInUse : Nat → Int32} {mJ4_sizeIsSticky : Nat → Int32} (q : Nat) : va_up (cRD ci d kd an ai al ar mX27_groups mX27_conditions mX27_rules mX27_sets mX27_right mX27_known mX27_asks mX27_done mX27_more mX27_its mX27_allowed mX27_other mX27_order mX28_person mX28_graph mX28_predicate mX28_class0 mX28_version mX75_kind mX75_number mX75_groups mX76_from mX76_to mX77_of mX78_least mX78_of mX80_rank mX80_denies mX80_condition mJ1_modCount mJ2_elementData mJ2_size mJ4_words mJ4_wordsInUse mJ4_sizeIsSticky) q (.inr (ci 8, [.int 0, va_rf none, .int 0])) = (cRD ci d (va_up kd q 9) an ai al ar mX27_groups mX27_conditions mX27_rules mX27_sets mX27_right mX27_known mX27_asks mX27_done mX27_more mX27_its mX27_allowed mX27_other mX27_order mX28_person mX28_graph mX28_predicate mX28_class0 mX28_version mX75_kind mX75_number mX75_groups mX76_from mX76_to mX77_of mX78_least mX78_of mX80_rank mX80_denies mX80_condition (va_up mJ1_modCount q 0) (va_up mJ2_elementData q none) (va_up mJ2_size q 0) mJ4_words mJ4_wordsInUse mJ4_sizeIsSticky) := by
  funext b
  by_cases h : b = q
  · subst h
    rw [va_up_self]
    unfold cRD
    simp only [va_up_self]
  · rw [va_up_ne _ _ h]
    unfold cRD
    simp only [va_up_ne _ _ h]
theorem cRD_10 {ci : Nat → Nat} {d : Nat → ClassId} {kd : Nat → Nat} {an : Nat → Nat} {ai : Nat → Nat → Int32} {al : Nat → Nat → Int64} {ar : Nat → Nat → Option Nat} {mX27_groups : Nat → Option Nat} {mX27_conditions : Nat → Option Nat} {mX27_rules : Nat → Option Nat} {mX27_sets : Nat → Option Nat} {mX27_right : Nat → Int32} {mX27_known : Nat → Option Nat} {mX27_asks : Nat → Option Nat} {mX27_done : Nat → Option Nat} {mX27_more : Nat → Option Nat} {mX27_its : Nat → Option Nat} {mX27_allowed : Nat → Option Nat} {mX27_other : Nat → Option Nat} {mX27_order : Nat → Option Nat} {mX28_person : Nat → Int32} {mX28_graph : Nat → Int32} {mX28_predicate : Nat → Int32} {mX28_class0 : Nat → Int32} {mX28_version : Nat → Int32} {mX75_kind : Nat → Int32} {mX75_number : Nat → Int32} {mX75_groups : Nat → Option Nat} {mX76_from : Nat → Int32} {mX76_to : Nat → Int32} {mX77_of : Nat → Int32} {mX78_least : Nat → Int32} {mX78_of : Nat → Option Nat} {mX80_rank : Nat → Int32} {mX80_denies : Nat → Int32} {mX80_condition : Nat → Int32} {mJ1_modCount : Nat → Int32} {mJ2_elementData : Nat → Option Nat} {mJ2_size : Nat → Int32} {mJ4_words : Nat → Option Nat} {mJ4_wordsInUse : Nat → Int32} {mJ4_sizeIsSticky : Nat → Int32} {a : Nat} (hk : kd a = 10) : (cRD ci d kd an ai al ar mX27_groups mX27_conditions mX27_rules mX27_sets mX27_right mX27_known mX27_asks mX27_done mX27_more mX27_its mX27_allowed mX27_other mX27_order mX28_person mX28_graph mX28_predicate mX28_class0 mX28_version mX75_kind mX75_number mX75_groups mX76_from mX76_to mX77_of mX78_least mX78_of mX80_rank mX80_denies mX80_condition mJ1_modCount mJ2_elementData mJ2_size mJ4_words mJ4_wordsInUse mJ4_sizeIsSticky) a = .inr (ci 9, [va_rf (mJ4_words a), .int (mJ4_wordsInUse a), .int (mJ4_sizeIsSticky a)]) := by unfold cRD; simp only [hk]
theorem cRD_10_0 {ci : Nat → Nat} {d : Nat → ClassId} {kd : Nat → Nat} {an : Nat → Nat} {ai : Nat → Nat → Int32} {al : Nat → Nat → Int64} {ar : Nat → Nat → Option Nat} {mX27_groups : Nat → Option Nat} {mX27_conditions : Nat → Option Nat} {mX27_rules : Nat → Option Nat} {mX27_sets : Nat → Option Nat} {mX27_right : Nat → Int32} {mX27_known : Nat → Option Nat} {mX27_asks : Nat → Option Nat} {mX27_done : Nat → Option Nat} {mX27_more : Nat → Option Nat} {mX27_its : Nat → Option Nat} {mX27_allowed : Nat → Option Nat} {mX27_other : Nat → Option Nat} {mX27_order : Nat → Option Nat} {mX28_person : Nat → Int32} {mX28_graph : Nat → Int32} {mX28_predicate : Nat → Int32} {mX28_class0 : Nat → Int32} {mX28_version : Nat → Int32} {mX75_kind : Nat → Int32} {mX75_number : Nat → Int32} {mX75_groups : Nat → Option Nat} {mX76_from : Nat → Int32} {mX76_to : Nat → Int32} {mX77_of : Nat → Int32} {mX78_least : Nat → Int32} {mX78_of : Nat → Option Nat} {mX80_rank : Nat → Int32} {mX80_denies : Nat → Int32} {mX80_condition : Nat → Int32} {mJ1_modCount : Nat → Int32} {mJ2_elementData : Nat → Option Nat} {mJ2_size : Nat → Int32} {mJ4_words : Nat → Option Nat} {mJ4_wordsInUse : Nat → Int32} {mJ4_sizeIsSticky : Nat → Int32} {a : Nat} {v : Option Nat} (hk : kd a = 10) : va_up (cRD ci d kd an ai al ar mX27_groups mX27_conditions mX27_rules mX27_sets mX27_right mX27_known mX27_asks mX27_done mX27_more mX27_its mX27_allowed mX27_other mX27_order mX28_person mX28_graph mX28_predicate mX28_class0 mX28_version mX75_kind mX75_number mX75_groups mX76_from mX76_to mX77_of mX78_least mX78_of mX80_rank mX80_denies mX80_condition mJ1_modCount mJ2_elementData mJ2_size mJ4_words mJ4_wordsInUse mJ4_sizeIsSticky) a (.inr (ci 9, [va_rf v, .int (mJ4_wordsInUse a), .int (mJ4_sizeIsSticky a)])) = (cRD ci d kd an ai al ar mX27_groups mX27_conditions mX27_rules mX27_sets mX27_right mX27_known mX27_asks mX27_done mX27_more mX27_its mX27_allowed mX27_other mX27_order mX28_person mX28_graph mX28_predicate mX28_class0 mX28_version mX75_kind mX75_number mX75_groups mX76_from mX76_to mX77_of mX78_least mX78_of mX80_rank mX80_denies mX80_condition mJ1_modCount mJ2_elementData mJ2_size (va_up mJ4_words a v) mJ4_wordsInUse mJ4_sizeIsSticky) := by
  funext b
  by_cases h : b = a
  · subst h
    rw [va_up_self]
    unfold cRD
    rw [hk]
    simp only [va_up_self]
  · rw [va_up_ne _ _ h]
    unfold cRD
    simp only [va_up_ne _ _ h]
theorem cRD_10_1 {ci : Nat → Nat} {d : Nat → ClassId} {kd : Nat → Nat} {an : Nat → Nat} {ai : Nat → Nat → Int32} {al : Nat → Nat → Int64} {ar : Nat → Nat → Option Nat} {mX27_groups : Nat → Option Nat} {mX27_conditions : Nat → Option Nat} {mX27_rules : Nat → Option Nat} {mX27_sets : Nat → Option Nat} {mX27_right : Nat → Int32} {mX27_known : Nat → Option Nat} {mX27_asks : Nat → Option Nat} {mX27_done : Nat → Option Nat} {mX27_more : Nat → Option Nat} {mX27_its : Nat → Option Nat} {mX27_allowed : Nat → Option Nat} {mX27_other : Nat → Option Nat} {mX27_order : Nat → Option Nat} {mX28_person : Nat → Int32} {mX28_graph : Nat → Int32} {mX28_predicate : Nat → Int32} {mX28_class0 : Nat → Int32} {mX28_version : Nat → Int32} {mX75_kind : Nat → Int32} {mX75_number : Nat → Int32} {mX75_groups : Nat → Option Nat} {mX76_from : Nat → Int32} {mX76_to : Nat → Int32} {mX77_of : Nat → Int32} {mX78_least : Nat → Int32} {mX78_of : Nat → Option Nat} {mX80_rank : Nat → Int32} {mX80_denies : Nat → Int32} {mX80_condition : Nat → Int32} {mJ1_modCount : Nat → Int32} {mJ2_elementData : Nat → Option Nat} {mJ2_size : Nat → Int32} {mJ4_words : Nat → Option Nat} {mJ4_wordsInUse : Nat → Int32} {mJ4_sizeIsSticky : Nat → Int32} {a : Nat} {v : Int32} (hk : kd a = 10) : va_up (cRD ci d kd an ai al ar mX27_groups mX27_conditions mX27_rules mX27_sets mX27_right mX27_known mX27_asks mX27_done mX27_more mX27_its mX27_allowed mX27_other mX27_order mX28_person mX28_graph mX28_predicate mX28_class0 mX28_version mX75_kind mX75_number mX75_groups mX76_from mX76_to mX77_of mX78_least mX78_of mX80_rank mX80_denies mX80_condition mJ1_modCount mJ2_elementData mJ2_size mJ4_words mJ4_wordsInUse mJ4_sizeIsSticky) a (.inr (ci 9, [va_rf (mJ4_words a), .int v, .int (mJ4_sizeIsSticky a)])) = (cRD ci d kd an ai al ar mX27_groups mX27_conditions mX27_rules mX27_sets mX27_right mX27_known mX27_asks mX27_done mX27_more mX27_its mX27_allowed mX27_other mX27_order mX28_person mX28_graph mX28_predicate mX28_class0 mX28_version mX75_kind mX75_number mX75_groups mX76_from mX76_to mX77_of mX78_least mX78_of mX80_rank mX80_denies mX80_condition mJ1_modCount mJ2_elementData mJ2_size mJ4_words (va_up mJ4_wordsInUse a v) mJ4_sizeIsSticky) := by
  funext b
  by_cases h : b = a
  · subst h
    rw [va_up_self]
    unfold cRD
    rw [hk]
    simp only [va_up_self]
  · rw [va_up_ne _ _ h]
    unfold cRD
    simp only [va_up_ne _ _ h]
theorem cRD_10_2 {ci : Nat → Nat} {d : Nat → ClassId} {kd : Nat → Nat} {an : Nat → Nat} {ai : Nat → Nat → Int32} {al : Nat → Nat → Int64} {ar : Nat → Nat → Option Nat} {mX27_groups : Nat → Option Nat} {mX27_conditions : Nat → Option Nat} {mX27_rules : Nat → Option Nat} {mX27_sets : Nat → Option Nat} {mX27_right : Nat → Int32} {mX27_known : Nat → Option Nat} {mX27_asks : Nat → Option Nat} {mX27_done : Nat → Option Nat} {mX27_more : Nat → Option Nat} {mX27_its : Nat → Option Nat} {mX27_allowed : Nat → Option Nat} {mX27_other : Nat → Option Nat} {mX27_order : Nat → Option Nat} {mX28_person : Nat → Int32} {mX28_graph : Nat → Int32} {mX28_predicate : Nat → Int32} {mX28_class0 : Nat → Int32} {mX28_version : Nat → Int32} {mX75_kind : Nat → Int32} {mX75_number : Nat → Int32} {mX75_groups : Nat → Option Nat} {mX76_from : Nat → Int32} {mX76_to : Nat → Int32} {mX77_of : Nat → Int32} {mX78_least : Nat → Int32} {mX78_of : Nat → Option Nat} {mX80_rank : Nat → Int32} {mX80_denies : Nat → Int32} {mX80_condition : Nat → Int32} {mJ1_modCount : Nat → Int32} {mJ2_elementData : Nat → Option Nat} {mJ2_size : Nat → Int32} {mJ4_words : Nat → Option Nat} {mJ4_wordsInUse : Nat → Int32} {mJ4_sizeIsSticky : Nat → Int32} {a : Nat} {v : Int32} (hk : kd a = 10) : va_up (cRD ci d kd an ai al ar mX27_groups mX27_conditions mX27_rules mX27_sets mX27_right mX27_known mX27_asks mX27_done mX27_more mX27_its mX27_allowed mX27_other mX27_order mX28_person mX28_graph mX28_predicate mX28_class0 mX28_version mX75_kind mX75_number mX75_groups mX76_from mX76_to mX77_of mX78_least mX78_of mX80_rank mX80_denies mX80_condition mJ1_modCount mJ2_elementData mJ2_size mJ4_words mJ4_wordsInUse mJ4_sizeIsSticky) a (.inr (ci 9, [va_rf (mJ4_words a), .int (mJ4_wordsInUse a), .int v])) = (cRD ci d kd an ai al ar mX27_groups mX27_conditions mX27_rules mX27_sets mX27_right mX27_known mX27_asks mX27_done mX27_more mX27_its mX27_allowed mX27_other mX27_order mX28_person mX28_graph mX28_predicate mX28_class0 mX28_version mX75_kind mX75_number mX75_groups mX76_from mX76_to mX77_of mX78_least mX78_of mX80_rank mX80_denies mX80_condition mJ1_modCount mJ2_elementData mJ2_size mJ4_words mJ4_wordsInUse (va_up mJ4_sizeIsSticky a v)) := by
  funext b
  by_cases h : b = a
  · subst h
    rw [va_up_self]
    unfold cRD
    rw [hk]
    simp only [va_up_self]
  · rw [va_up_ne _ _ h]
    unfold cRD
    simp only [va_up_ne _ _ h]
theorem cRD_10_n {ci : Nat → Nat} {d : Nat → ClassId} {kd : Nat → Nat} {an : Nat → Nat} {ai : Nat → Nat → Int32} {al : Nat → Nat → Int64} {ar : Nat → Nat → Option Nat} {mX27_groups : Nat → Option Nat} {mX27_conditions : Nat → Option Nat} {mX27_rules : Nat → Option Nat} {mX27_sets : Nat → Option Nat} {mX27_right : Nat → Int32} {mX27_known : Nat → Option Nat} {mX27_asks : Nat → Option Nat} {mX27_done : Nat → Option Nat} {mX27_more : Nat → Option Nat} {mX27_its : Nat → Option Nat} {mX27_allowed : Nat → Option Nat} {mX27_other : Nat → Option Nat} {mX27_order : Nat → Option Nat} {mX28_person : Nat → Int32} {mX28_graph : Nat → Int32} {mX28_predicate : Nat → Int32} {mX28_class0 : Nat → Int32} {mX28_version : Nat → Int32} {mX75_kind : Nat → Int32} {mX75_number : Nat → Int32} {mX75_groups : Nat → Option Nat} {mX76_from : Nat → Int32} {mX76_to : Nat → Int32} {mX77_of : Nat → Int32} {mX78_least : Nat → Int32} {mX78_of : Nat → Option Nat} {mX80_rank : Nat → Int32} {mX80_denies : Nat → Int32} {mX80_condition : Nat → Int32} {mJ1_modCount : Nat → Int32} {mJ2_elementData : Nat → Option Nat} {mJ2_size : Nat → Int32} {mJ4_words : Nat → Option Nat} {mJ4_wordsInUse : Nat → Int32} {mJ4_sizeIsSticky : Nat → Int32} (q : Nat) : va_up (cRD ci d kd an ai al ar mX27_groups mX27_conditions mX27_rules mX27_sets mX27_right mX27_known mX27_asks mX27_done mX27_more mX27_its mX27_allowed mX27_other mX27_order mX28_person mX28_graph mX28_predicate mX28_class0 mX28_version mX75_kind mX75_number mX75_groups mX76_from mX76_to mX77_of mX78_least mX78_of mX80_rank mX80_denies mX80_condition mJ1_modCount mJ2_elementData mJ2_size mJ4_words mJ4_wordsInUse mJ4_sizeIsSticky) q (.inr (ci 9, [va_rf none, .int 0, .int 0])) = (cRD ci d (va_up kd q 10) an ai al ar mX27_groups mX27_conditions mX27_rules mX27_sets mX27_right mX27_known mX27_asks mX27_done mX27_more mX27_its mX27_allowed mX27_other mX27_order mX28_person mX28_graph mX28_predicate mX28_class0 mX28_version mX75_kind mX75_number mX75_groups mX76_from mX76_to mX77_of mX78_least mX78_of mX80_rank mX80_denies mX80_condition mJ1_modCount mJ2_elementData mJ2_size (va_up mJ4_words q none) (va_up mJ4_wordsInUse q 0) (va_up mJ4_sizeIsSticky q 0)) := by
  funext b
  by_cases h : b = q
  · subst h
    rw [va_up_self]
    unfold cRD
    simp only [va_up_self]
  · rw [va_up_ne _ _ h]
    unfold cRD
    simp only [va_up_ne _ _ h]
theorem cRD_11 {ci : Nat → Nat} {d : Nat → ClassId} {kd : Nat → Nat} {an : Nat → Nat} {ai : Nat → Nat → Int32} {al : Nat → Nat → Int64} {ar : Nat → Nat → Option Nat} {mX27_groups : Nat → Option Nat} {mX27_conditions : Nat → Option Nat} {mX27_rules : Nat → Option Nat} {mX27_sets : Nat → Option Nat} {mX27_right : Nat → Int32} {mX27_known : Nat → Option Nat} {mX27_asks : Nat → Option Nat} {mX27_done : Nat → Option Nat} {mX27_more : Nat → Option Nat} {mX27_its : Nat → Option Nat} {mX27_allowed : Nat → Option Nat} {mX27_other : Nat → Option Nat} {mX27_order : Nat → Option Nat} {mX28_person : Nat → Int32} {mX28_graph : Nat → Int32} {mX28_predicate : Nat → Int32} {mX28_class0 : Nat → Int32} {mX28_version : Nat → Int32} {mX75_kind : Nat → Int32} {mX75_number : Nat → Int32} {mX75_groups : Nat → Option Nat} {mX76_from : Nat → Int32} {mX76_to : Nat → Int32} {mX77_of : Nat → Int32} {mX78_least : Nat → Int32} {mX78_of : Nat → Option Nat} {mX80_rank : Nat → Int32} {mX80_denies : Nat → Int32} {mX80_condition : Nat → Int32} {mJ1_modCount : Nat → Int32} {mJ2_elementData : Nat → Option Nat} {mJ2_size : Nat → Int32} {mJ4_words : Nat → Option Nat} {mJ4_wordsInUse : Nat → Int32} {mJ4_sizeIsSticky : Nat → Int32} {a : Nat} (hk : kd a = 11) : (cRD ci d kd an ai al ar mX27_groups mX27_conditions mX27_rules mX27_sets mX27_right mX27_known mX27_asks mX27_done mX27_more mX27_its mX27_allowed mX27_other mX27_order mX28_person mX28_graph mX28_predicate mX28_class0 mX28_version mX75_kind mX75_number mX75_groups mX76_from mX76_to mX77_of mX78_least mX78_of mX80_rank mX80_denies mX80_condition mJ1_modCount mJ2_elementData mJ2_size mJ4_words mJ4_wordsInUse mJ4_sizeIsSticky) a = .inl (d 0, an a, .inl (ai a)) := by unfold cRD; simp only [hk]
theorem cRD_11_s {ci : Nat → Nat} {d : Nat → ClassId} {kd : Nat → Nat} {an : Nat → Nat} {ai : Nat → Nat → Int32} {al : Nat → Nat → Int64} {ar : Nat → Nat → Option Nat} {mX27_groups : Nat → Option Nat} {mX27_conditions : Nat → Option Nat} {mX27_rules : Nat → Option Nat} {mX27_sets : Nat → Option Nat} {mX27_right : Nat → Int32} {mX27_known : Nat → Option Nat} {mX27_asks : Nat → Option Nat} {mX27_done : Nat → Option Nat} {mX27_more : Nat → Option Nat} {mX27_its : Nat → Option Nat} {mX27_allowed : Nat → Option Nat} {mX27_other : Nat → Option Nat} {mX27_order : Nat → Option Nat} {mX28_person : Nat → Int32} {mX28_graph : Nat → Int32} {mX28_predicate : Nat → Int32} {mX28_class0 : Nat → Int32} {mX28_version : Nat → Int32} {mX75_kind : Nat → Int32} {mX75_number : Nat → Int32} {mX75_groups : Nat → Option Nat} {mX76_from : Nat → Int32} {mX76_to : Nat → Int32} {mX77_of : Nat → Int32} {mX78_least : Nat → Int32} {mX78_of : Nat → Option Nat} {mX80_rank : Nat → Int32} {mX80_denies : Nat → Int32} {mX80_condition : Nat → Int32} {mJ1_modCount : Nat → Int32} {mJ2_elementData : Nat → Option Nat} {mJ2_size : Nat → Int32} {mJ4_words : Nat → Option Nat} {mJ4_wordsInUse : Nat → Int32} {mJ4_sizeIsSticky : Nat → Int32} {a : Nat} {g : Nat → Int32} (hk : kd a = 11) : va_up (cRD ci d kd an ai al ar mX27_groups mX27_conditions mX27_rules mX27_sets mX27_right mX27_known mX27_asks mX27_done mX27_more mX27_its mX27_allowed mX27_other mX27_order mX28_person mX28_graph mX28_predicate mX28_class0 mX28_version mX75_kind mX75_number mX75_groups mX76_from mX76_to mX77_of mX78_least mX78_of mX80_rank mX80_denies mX80_condition mJ1_modCount mJ2_elementData mJ2_size mJ4_words mJ4_wordsInUse mJ4_sizeIsSticky) a (.inl (d 0, an a, .inl g)) = (cRD ci d kd an (va_up ai a g) al ar mX27_groups mX27_conditions mX27_rules mX27_sets mX27_right mX27_known mX27_asks mX27_done mX27_more mX27_its mX27_allowed mX27_other mX27_order mX28_person mX28_graph mX28_predicate mX28_class0 mX28_version mX75_kind mX75_number mX75_groups mX76_from mX76_to mX77_of mX78_least mX78_of mX80_rank mX80_denies mX80_condition mJ1_modCount mJ2_elementData mJ2_size mJ4_words mJ4_wordsInUse mJ4_sizeIsSticky) := by
  funext b
  by_cases h : b = a
  · subst h
    rw [va_up_self]
    unfold cRD
    rw [hk]
    simp only [va_up_self]
  · rw [va_up_ne _ _ h]
    unfold cRD
    simp only [va_up_ne _ _ h]
theorem cRD_11_n {ci : Nat → Nat} {d : Nat → ClassId} {kd : Nat → Nat} {an : Nat → Nat} {ai : Nat → Nat → Int32} {al : Nat → Nat → Int64} {ar : Nat → Nat → Option Nat} {mX27_groups : Nat → Option Nat} {mX27_conditions : Nat → Option Nat} {mX27_rules : Nat → Option Nat} {mX27_sets : Nat → Option Nat} {mX27_right : Nat → Int32} {mX27_known : Nat → Option Nat} {mX27_asks : Nat → Option Nat} {mX27_done : Nat → Option Nat} {mX27_more : Nat → Option Nat} {mX27_its : Nat → Option Nat} {mX27_allowed : Nat → Option Nat} {mX27_other : Nat → Option Nat} {mX27_order : Nat → Option Nat} {mX28_person : Nat → Int32} {mX28_graph : Nat → Int32} {mX28_predicate : Nat → Int32} {mX28_class0 : Nat → Int32} {mX28_version : Nat → Int32} {mX75_kind : Nat → Int32} {mX75_number : Nat → Int32} {mX75_groups : Nat → Option Nat} {mX76_from : Nat → Int32} {mX76_to : Nat → Int32} {mX77_of : Nat → Int32} {mX78_least : Nat → Int32} {mX78_of : Nat → Option Nat} {mX80_rank : Nat → Int32} {mX80_denies : Nat → Int32} {mX80_condition : Nat → Int32} {mJ1_modCount : Nat → Int32} {mJ2_elementData : Nat → Option Nat} {mJ2_size : Nat → Int32} {mJ4_words : Nat → Option Nat} {mJ4_wordsInUse : Nat → Int32} {mJ4_sizeIsSticky : Nat → Int32} (n q : Nat) : va_up (cRD ci d kd an ai al ar mX27_groups mX27_conditions mX27_rules mX27_sets mX27_right mX27_known mX27_asks mX27_done mX27_more mX27_its mX27_allowed mX27_other mX27_order mX28_person mX28_graph mX28_predicate mX28_class0 mX28_version mX75_kind mX75_number mX75_groups mX76_from mX76_to mX77_of mX78_least mX78_of mX80_rank mX80_denies mX80_condition mJ1_modCount mJ2_elementData mJ2_size mJ4_words mJ4_wordsInUse mJ4_sizeIsSticky) q (.inl (d 0, n, .inl (fun _ => 0))) = (cRD ci d (va_up kd q 11) (va_up an q n) (va_up ai q (fun _ => 0)) al ar mX27_groups mX27_conditions mX27_rules mX27_sets mX27_right mX27_known mX27_asks mX27_done mX27_more mX27_its mX27_allowed mX27_other mX27_order mX28_person mX28_graph mX28_predicate mX28_class0 mX28_version mX75_kind mX75_number mX75_groups mX76_from mX76_to mX77_of mX78_least mX78_of mX80_rank mX80_denies mX80_condition mJ1_modCount mJ2_elementData mJ2_size mJ4_words mJ4_wordsInUse mJ4_sizeIsSticky) := by
  funext b
  by_cases h : b = q
  · subst h
    rw [va_up_self]
    unfold cRD
    simp only [va_up_self]
  · rw [va_up_ne _ _ h]
    unfold cRD
    simp only [va_up_ne _ _ h]
theorem cRD_12 {ci : Nat → Nat} {d : Nat → ClassId} {kd : Nat → Nat} {an : Nat → Nat} {ai : Nat → Nat → Int32} {al : Nat → Nat → Int64} {ar : Nat → Nat → Option Nat} {mX27_groups : Nat → Option Nat} {mX27_conditions : Nat → Option Nat} {mX27_rules : Nat → Option Nat} {mX27_sets : Nat → Option Nat} {mX27_right : Nat → Int32} {mX27_known : Nat → Option Nat} {mX27_asks : Nat → Option Nat} {mX27_done : Nat → Option Nat} {mX27_more : Nat → Option Nat} {mX27_its : Nat → Option Nat} {mX27_allowed : Nat → Option Nat} {mX27_other : Nat → Option Nat} {mX27_order : Nat → Option Nat} {mX28_person : Nat → Int32} {mX28_graph : Nat → Int32} {mX28_predicate : Nat → Int32} {mX28_class0 : Nat → Int32} {mX28_version : Nat → Int32} {mX75_kind : Nat → Int32} {mX75_number : Nat → Int32} {mX75_groups : Nat → Option Nat} {mX76_from : Nat → Int32} {mX76_to : Nat → Int32} {mX77_of : Nat → Int32} {mX78_least : Nat → Int32} {mX78_of : Nat → Option Nat} {mX80_rank : Nat → Int32} {mX80_denies : Nat → Int32} {mX80_condition : Nat → Int32} {mJ1_modCount : Nat → Int32} {mJ2_elementData : Nat → Option Nat} {mJ2_size : Nat → Int32} {mJ4_words : Nat → Option Nat} {mJ4_wordsInUse : Nat → Int32} {mJ4_sizeIsSticky : Nat → Int32} {a : Nat} (hk : kd a = 12) : (cRD ci d kd an ai al ar mX27_groups mX27_conditions mX27_rules mX27_sets mX27_right mX27_known mX27_asks mX27_done mX27_more mX27_its mX27_allowed mX27_other mX27_order mX28_person mX28_graph mX28_predicate mX28_class0 mX28_version mX75_kind mX75_number mX75_groups mX76_from mX76_to mX77_of mX78_least mX78_of mX80_rank mX80_denies mX80_condition mJ1_modCount mJ2_elementData mJ2_size mJ4_words mJ4_wordsInUse mJ4_sizeIsSticky) a = .inl (d 1, an a, .inl (ai a)) := by unfold cRD; simp only [hk]
theorem cRD_12_s {ci : Nat → Nat} {d : Nat → ClassId} {kd : Nat → Nat} {an : Nat → Nat} {ai : Nat → Nat → Int32} {al : Nat → Nat → Int64} {ar : Nat → Nat → Option Nat} {mX27_groups : Nat → Option Nat} {mX27_conditions : Nat → Option Nat} {mX27_rules : Nat → Option Nat} {mX27_sets : Nat → Option Nat} {mX27_right : Nat → Int32} {mX27_known : Nat → Option Nat} {mX27_asks : Nat → Option Nat} {mX27_done : Nat → Option Nat} {mX27_more : Nat → Option Nat} {mX27_its : Nat → Option Nat} {mX27_allowed : Nat → Option Nat} {mX27_other : Nat → Option Nat} {mX27_order : Nat → Option Nat} {mX28_person : Nat → Int32} {mX28_graph : Nat → Int32} {mX28_predicate : Nat → Int32} {mX28_class0 : Nat → Int32} {mX28_version : Nat → Int32} {mX75_kind : Nat → Int32} {mX75_number : Nat → Int32} {mX75_groups : Nat → Option Nat} {mX76_from : Nat → Int32} {mX76_to : Nat → Int32} {mX77_of : Nat → Int32} {mX78_least : Nat → Int32} {mX78_of : Nat → Option Nat} {mX80_rank : Nat → Int32} {mX80_denies : Nat → Int32} {mX80_condition : Nat → Int32} {mJ1_modCount : Nat → Int32} {mJ2_elementData : Nat → Option Nat} {mJ2_size : Nat → Int32} {mJ4_words : Nat → Option Nat} {mJ4_wordsInUse : Nat → Int32} {mJ4_sizeIsSticky : Nat → Int32} {a : Nat} {g : Nat → Int32} (hk : kd a = 12) : va_up (cRD ci d kd an ai al ar mX27_groups mX27_conditions mX27_rules mX27_sets mX27_right mX27_known mX27_asks mX27_done mX27_more mX27_its mX27_allowed mX27_other mX27_order mX28_person mX28_graph mX28_predicate mX28_class0 mX28_version mX75_kind mX75_number mX75_groups mX76_from mX76_to mX77_of mX78_least mX78_of mX80_rank mX80_denies mX80_condition mJ1_modCount mJ2_elementData mJ2_size mJ4_words mJ4_wordsInUse mJ4_sizeIsSticky) a (.inl (d 1, an a, .inl g)) = (cRD ci d kd an (va_up ai a g) al ar mX27_groups mX27_conditions mX27_rules mX27_sets mX27_right mX27_known mX27_asks mX27_done mX27_more mX27_its mX27_allowed mX27_other mX27_order mX28_person mX28_graph mX28_predicate mX28_class0 mX28_version mX75_kind mX75_number mX75_groups mX76_from mX76_to mX77_of mX78_least mX78_of mX80_rank mX80_denies mX80_condition mJ1_modCount mJ2_elementData mJ2_size mJ4_words mJ4_wordsInUse mJ4_sizeIsSticky) := by
  funext b
  by_cases h : b = a
  · subst h
    rw [va_up_self]
    unfold cRD
    rw [hk]
    simp only [va_up_self]
  · rw [va_up_ne _ _ h]
    unfold cRD
    simp only [va_up_ne _ _ h]
theorem cRD_12_n {ci : Nat → Nat} {d : Nat → ClassId} {kd : Nat → Nat} {an : Nat → Nat} {ai : Nat → Nat → Int32} {al : Nat → Nat → Int64} {ar : Nat → Nat → Option Nat} {mX27_groups : Nat → Option Nat} {mX27_conditions : Nat → Option Nat} {mX27_rules : Nat → Option Nat} {mX27_sets : Nat → Option Nat} {mX27_right : Nat → Int32} {mX27_known : Nat → Option Nat} {mX27_asks : Nat → Option Nat} {mX27_done : Nat → Option Nat} {mX27_more : Nat → Option Nat} {mX27_its : Nat → Option Nat} {mX27_allowed : Nat → Option Nat} {mX27_other : Nat → Option Nat} {mX27_order : Nat → Option Nat} {mX28_person : Nat → Int32} {mX28_graph : Nat → Int32} {mX28_predicate : Nat → Int32} {mX28_class0 : Nat → Int32} {mX28_version : Nat → Int32} {mX75_kind : Nat → Int32} {mX75_number : Nat → Int32} {mX75_groups : Nat → Option Nat} {mX76_from : Nat → Int32} {mX76_to : Nat → Int32} {mX77_of : Nat → Int32} {mX78_least : Nat → Int32} {mX78_of : Nat → Option Nat} {mX80_rank : Nat → Int32} {mX80_denies : Nat → Int32} {mX80_condition : Nat → Int32} {mJ1_modCount : Nat → Int32} {mJ2_elementData : Nat → Option Nat} {mJ2_size : Nat → Int32} {mJ4_words : Nat → Option Nat} {mJ4_wordsInUse : Nat → Int32} {mJ4_sizeIsSticky : Nat → Int32} (n q : Nat) : va_up (cRD ci d kd an ai al ar mX27_groups mX27_conditions mX27_rules mX27_sets mX27_right mX27_known mX27_asks mX27_done mX27_more mX27_its mX27_allowed mX27_other mX27_order mX28_person mX28_graph mX28_predicate mX28_class0 mX28_version mX75_kind mX75_number mX75_groups mX76_from mX76_to mX77_of mX78_least mX78_of mX80_rank mX80_denies mX80_condition mJ1_modCount mJ2_elementData mJ2_size mJ4_words mJ4_wordsInUse mJ4_sizeIsSticky) q (.inl (d 1, n, .inl (fun _ => 0))) = (cRD ci d (va_up kd q 12) (va_up an q n) (va_up ai q (fun _ => 0)) al ar mX27_groups mX27_conditions mX27_rules mX27_sets mX27_right mX27_known mX27_asks mX27_done mX27_more mX27_its mX27_allowed mX27_other mX27_order mX28_person mX28_graph mX28_predicate mX28_class0 mX28_version mX75_kind mX75_number mX75_groups mX76_from mX76_to mX77_of mX78_least mX78_of mX80_rank mX80_denies mX80_condition mJ1_modCount mJ2_elementData mJ2_size mJ4_words mJ4_wordsInUse mJ4_sizeIsSticky) := by
  funext b
  by_cases h : b = q
  · subst h
    rw [va_up_self]
    unfold cRD
    simp only [va_up_self]
  · rw [va_up_ne _ _ h]
    unfold cRD
    simp only [va_up_ne _ _ h]
theorem cRD_13 {ci : Nat → Nat} {d : Nat → ClassId} {kd : Nat → Nat} {an : Nat → Nat} {ai : Nat → Nat → Int32} {al : Nat → Nat → Int64} {ar : Nat → Nat → Option Nat} {mX27_groups : Nat → Option Nat} {mX27_conditions : Nat → Option Nat} {mX27_rules : Nat → Option Nat} {mX27_sets : Nat → Option Nat} {mX27_right : Nat → Int32} {mX27_known : Nat → Option Nat} {mX27_asks : Nat → Option Nat} {mX27_done : Nat → Option Nat} {mX27_more : Nat → Option Nat} {mX27_its : Nat → Option Nat} {mX27_allowed : Nat → Option Nat} {mX27_other : Nat → Option Nat} {mX27_order : Nat → Option Nat} {mX28_person : Nat → Int32} {mX28_graph : Nat → Int32} {mX28_predicate : Nat → Int32} {mX28_class0 : Nat → Int32} {mX28_version : Nat → Int32} {mX75_kind : Nat → Int32} {mX75_number : Nat → Int32} {mX75_groups : Nat → Option Nat} {mX76_from : Nat → Int32} {mX76_to : Nat → Int32} {mX77_of : Nat → Int32} {mX78_least : Nat → Int32} {mX78_of : Nat → Option Nat} {mX80_rank : Nat → Int32} {mX80_denies : Nat → Int32} {mX80_condition : Nat → Int32} {mJ1_modCount : Nat → Int32} {mJ2_elementData : Nat → Option Nat} {mJ2_size : Nat → Int32} {mJ4_words : Nat → Option Nat} {mJ4_wordsInUse : Nat → Int32} {mJ4_sizeIsSticky : Nat → Int32} {a : Nat} (hk : kd a = 13) : (cRD ci d kd an ai al ar mX27_groups mX27_conditions mX27_rules mX27_sets mX27_right mX27_known mX27_asks mX27_done mX27_more mX27_its mX27_allowed mX27_other mX27_order mX28_person mX28_graph mX28_predicate mX28_class0 mX28_version mX75_kind mX75_number mX75_groups mX76_from mX76_to mX77_of mX78_least mX78_of mX80_rank mX80_denies mX80_condition mJ1_modCount mJ2_elementData mJ2_size mJ4_words mJ4_wordsInUse mJ4_sizeIsSticky) a = .inl (d 2, an a, .inr (.inl (al a))) := by unfold cRD; simp only [hk]
theorem cRD_13_s {ci : Nat → Nat} {d : Nat → ClassId} {kd : Nat → Nat} {an : Nat → Nat} {ai : Nat → Nat → Int32} {al : Nat → Nat → Int64} {ar : Nat → Nat → Option Nat} {mX27_groups : Nat → Option Nat} {mX27_conditions : Nat → Option Nat} {mX27_rules : Nat → Option Nat} {mX27_sets : Nat → Option Nat} {mX27_right : Nat → Int32} {mX27_known : Nat → Option Nat} {mX27_asks : Nat → Option Nat} {mX27_done : Nat → Option Nat} {mX27_more : Nat → Option Nat} {mX27_its : Nat → Option Nat} {mX27_allowed : Nat → Option Nat} {mX27_other : Nat → Option Nat} {mX27_order : Nat → Option Nat} {mX28_person : Nat → Int32} {mX28_graph : Nat → Int32} {mX28_predicate : Nat → Int32} {mX28_class0 : Nat → Int32} {mX28_version : Nat → Int32} {mX75_kind : Nat → Int32} {mX75_number : Nat → Int32} {mX75_groups : Nat → Option Nat} {mX76_from : Nat → Int32} {mX76_to : Nat → Int32} {mX77_of : Nat → Int32} {mX78_least : Nat → Int32} {mX78_of : Nat → Option Nat} {mX80_rank : Nat → Int32} {mX80_denies : Nat → Int32} {mX80_condition : Nat → Int32} {mJ1_modCount : Nat → Int32} {mJ2_elementData : Nat → Option Nat} {mJ2_size : Nat → Int32} {mJ4_words : Nat → Option Nat} {mJ4_wordsInUse : Nat → Int32} {mJ4_sizeIsSticky : Nat → Int32} {a : Nat} {g : Nat → Int64} (hk : kd a = 13) : va_up (cRD ci d kd an ai al ar mX27_groups mX27_conditions mX27_rules mX27_sets mX27_right mX27_known mX27_asks mX27_done mX27_more mX27_its mX27_allowed mX27_other mX27_order mX28_person mX28_graph mX28_predicate mX28_class0 mX28_version mX75_kind mX75_number mX75_groups mX76_from mX76_to mX77_of mX78_least mX78_of mX80_rank mX80_denies mX80_condition mJ1_modCount mJ2_elementData mJ2_size mJ4_words mJ4_wordsInUse mJ4_sizeIsSticky) a (.inl (d 2, an a, .inr (.inl g))) = (cRD ci d kd an ai (va_up al a g) ar mX27_groups mX27_conditions mX27_rules mX27_sets mX27_right mX27_known mX27_asks mX27_done mX27_more mX27_its mX27_allowed mX27_other mX27_order mX28_person mX28_graph mX28_predicate mX28_class0 mX28_version mX75_kind mX75_number mX75_groups mX76_from mX76_to mX77_of mX78_least mX78_of mX80_rank mX80_denies mX80_condition mJ1_modCount mJ2_elementData mJ2_size mJ4_words mJ4_wordsInUse mJ4_sizeIsSticky) := by
  funext b
  by_cases h : b = a
  · subst h
    rw [va_up_self]
    unfold cRD
    rw [hk]
    simp only [va_up_self]
  · rw [va_up_ne _ _ h]
    unfold cRD
    simp only [va_up_ne _ _ h]
theorem cRD_13_n {ci : Nat → Nat} {d : Nat → ClassId} {kd : Nat → Nat} {an : Nat → Nat} {ai : Nat → Nat → Int32} {al : Nat → Nat → Int64} {ar : Nat → Nat → Option Nat} {mX27_groups : Nat → Option Nat} {mX27_conditions : Nat → Option Nat} {mX27_rules : Nat → Option Nat} {mX27_sets : Nat → Option Nat} {mX27_right : Nat → Int32} {mX27_known : Nat → Option Nat} {mX27_asks : Nat → Option Nat} {mX27_done : Nat → Option Nat} {mX27_more : Nat → Option Nat} {mX27_its : Nat → Option Nat} {mX27_allowed : Nat → Option Nat} {mX27_other : Nat → Option Nat} {mX27_order : Nat → Option Nat} {mX28_person : Nat → Int32} {mX28_graph : Nat → Int32} {mX28_predicate : Nat → Int32} {mX28_class0 : Nat → Int32} {mX28_version : Nat → Int32} {mX75_kind : Nat → Int32} {mX75_number : Nat → Int32} {mX75_groups : Nat → Option Nat} {mX76_from : Nat → Int32} {mX76_to : Nat → Int32} {mX77_of : Nat → Int32} {mX78_least : Nat → Int32} {mX78_of : Nat → Option Nat} {mX80_rank : Nat → Int32} {mX80_denies : Nat → Int32} {mX80_condition : Nat → Int32} {mJ1_modCount : Nat → Int32} {mJ2_elementData : Nat → Option Nat} {mJ2_size : Nat → Int32} {mJ4_words : Nat → Option Nat} {mJ4_wordsInUse : Nat → Int32} {mJ4_sizeIsSticky : Nat → Int32} (n q : Nat) : va_up (cRD ci d kd an ai al ar mX27_groups mX27_conditions mX27_rules mX27_sets mX27_right mX27_known mX27_asks mX27_done mX27_more mX27_its mX27_allowed mX27_other mX27_order mX28_person mX28_graph mX28_predicate mX28_class0 mX28_version mX75_kind mX75_number mX75_groups mX76_from mX76_to mX77_of mX78_least mX78_of mX80_rank mX80_denies mX80_condition mJ1_modCount mJ2_elementData mJ2_size mJ4_words mJ4_wordsInUse mJ4_sizeIsSticky) q (.inl (d 2, n, .inr (.inl (fun _ => 0)))) = (cRD ci d (va_up kd q 13) (va_up an q n) ai (va_up al q (fun _ => 0)) ar mX27_groups mX27_conditions mX27_rules mX27_sets mX27_right mX27_known mX27_asks mX27_done mX27_more mX27_its mX27_allowed mX27_other mX27_order mX28_person mX28_graph mX28_predicate mX28_class0 mX28_version mX75_kind mX75_number mX75_groups mX76_from mX76_to mX77_of mX78_least mX78_of mX80_rank mX80_denies mX80_condition mJ1_modCount mJ2_elementData mJ2_size mJ4_words mJ4_wordsInUse mJ4_sizeIsSticky) := by
  funext b
  by_cases h : b = q
  · subst h
    rw [va_up_self]
    unfold cRD
    simp only [va_up_self]
  · rw [va_up_ne _ _ h]
    unfold cRD
    simp only [va_up_ne _ _ h]
theorem cRD_14 {ci : Nat → Nat} {d : Nat → ClassId} {kd : Nat → Nat} {an : Nat → Nat} {ai : Nat → Nat → Int32} {al : Nat → Nat → Int64} {ar : Nat → Nat → Option Nat} {mX27_groups : Nat → Option Nat} {mX27_conditions : Nat → Option Nat} {mX27_rules : Nat → Option Nat} {mX27_sets : Nat → Option Nat} {mX27_right : Nat → Int32} {mX27_known : Nat → Option Nat} {mX27_asks : Nat → Option Nat} {mX27_done : Nat → Option Nat} {mX27_more : Nat → Option Nat} {mX27_its : Nat → Option Nat} {mX27_allowed : Nat → Option Nat} {mX27_other : Nat → Option Nat} {mX27_order : Nat → Option Nat} {mX28_person : Nat → Int32} {mX28_graph : Nat → Int32} {mX28_predicate : Nat → Int32} {mX28_class0 : Nat → Int32} {mX28_version : Nat → Int32} {mX75_kind : Nat → Int32} {mX75_number : Nat → Int32} {mX75_groups : Nat → Option Nat} {mX76_from : Nat → Int32} {mX76_to : Nat → Int32} {mX77_of : Nat → Int32} {mX78_least : Nat → Int32} {mX78_of : Nat → Option Nat} {mX80_rank : Nat → Int32} {mX80_denies : Nat → Int32} {mX80_condition : Nat → Int32} {mJ1_modCount : Nat → Int32} {mJ2_elementData : Nat → Option Nat} {mJ2_size : Nat → Int32} {mJ4_words : Nat → Option Nat} {mJ4_wordsInUse : Nat → Int32} {mJ4_sizeIsSticky : Nat → Int32} {a : Nat} (hk : kd a = 14) : (cRD ci d kd an ai al ar mX27_groups mX27_conditions mX27_rules mX27_sets mX27_right mX27_known mX27_asks mX27_done mX27_more mX27_its mX27_allowed mX27_other mX27_order mX28_person mX28_graph mX28_predicate mX28_class0 mX28_version mX75_kind mX75_number mX75_groups mX76_from mX76_to mX77_of mX78_least mX78_of mX80_rank mX80_denies mX80_condition mJ1_modCount mJ2_elementData mJ2_size mJ4_words mJ4_wordsInUse mJ4_sizeIsSticky) a = .inl (d 3, an a, .inr (.inr (.inr (.inr (ar a))))) := by unfold cRD; simp only [hk]
theorem cRD_14_s {ci : Nat → Nat} {d : Nat → ClassId} {kd : Nat → Nat} {an : Nat → Nat} {ai : Nat → Nat → Int32} {al : Nat → Nat → Int64} {ar : Nat → Nat → Option Nat} {mX27_groups : Nat → Option Nat} {mX27_conditions : Nat → Option Nat} {mX27_rules : Nat → Option Nat} {mX27_sets : Nat → Option Nat} {mX27_right : Nat → Int32} {mX27_known : Nat → Option Nat} {mX27_asks : Nat → Option Nat} {mX27_done : Nat → Option Nat} {mX27_more : Nat → Option Nat} {mX27_its : Nat → Option Nat} {mX27_allowed : Nat → Option Nat} {mX27_other : Nat → Option Nat} {mX27_order : Nat → Option Nat} {mX28_person : Nat → Int32} {mX28_graph : Nat → Int32} {mX28_predicate : Nat → Int32} {mX28_class0 : Nat → Int32} {mX28_version : Nat → Int32} {mX75_kind : Nat → Int32} {mX75_number : Nat → Int32} {mX75_groups : Nat → Option Nat} {mX76_from : Nat → Int32} {mX76_to : Nat → Int32} {mX77_of : Nat → Int32} {mX78_least : Nat → Int32} {mX78_of : Nat → Option Nat} {mX80_rank : Nat → Int32} {mX80_denies : Nat → Int32} {mX80_condition : Nat → Int32} {mJ1_modCount : Nat → Int32} {mJ2_elementData : Nat → Option Nat} {mJ2_size : Nat → Int32} {mJ4_words : Nat → Option Nat} {mJ4_wordsInUse : Nat → Int32} {mJ4_sizeIsSticky : Nat → Int32} {a : Nat} {g : Nat → Option Nat} (hk : kd a = 14) : va_up (cRD ci d kd an ai al ar mX27_groups mX27_conditions mX27_rules mX27_sets mX27_right mX27_known mX27_asks mX27_done mX27_more mX27_its mX27_allowed mX27_other mX27_order mX28_person mX28_graph mX28_predicate mX28_class0 mX28_version mX75_kind mX75_number mX75_groups mX76_from mX76_to mX77_of mX78_least mX78_of mX80_rank mX80_denies mX80_condition mJ1_modCount mJ2_elementData mJ2_size mJ4_words mJ4_wordsInUse mJ4_sizeIsSticky) a (.inl (d 3, an a, .inr (.inr (.inr (.inr g))))) = (cRD ci d kd an ai al (va_up ar a g) mX27_groups mX27_conditions mX27_rules mX27_sets mX27_right mX27_known mX27_asks mX27_done mX27_more mX27_its mX27_allowed mX27_other mX27_order mX28_person mX28_graph mX28_predicate mX28_class0 mX28_version mX75_kind mX75_number mX75_groups mX76_from mX76_to mX77_of mX78_least mX78_of mX80_rank mX80_denies mX80_condition mJ1_modCount mJ2_elementData mJ2_size mJ4_words mJ4_wordsInUse mJ4_sizeIsSticky) := by
  funext b
  by_cases h : b = a
  · subst h
    rw [va_up_self]
    unfold cRD
    rw [hk]
    simp only [va_up_self]
  · rw [va_up_ne _ _ h]
    unfold cRD
    simp only [va_up_ne _ _ h]
theorem cRD_14_n {ci : Nat → Nat} {d : Nat → ClassId} {kd : Nat → Nat} {an : Nat → Nat} {ai : Nat → Nat → Int32} {al : Nat → Nat → Int64} {ar : Nat → Nat → Option Nat} {mX27_groups : Nat → Option Nat} {mX27_conditions : Nat → Option Nat} {mX27_rules : Nat → Option Nat} {mX27_sets : Nat → Option Nat} {mX27_right : Nat → Int32} {mX27_known : Nat → Option Nat} {mX27_asks : Nat → Option Nat} {mX27_done : Nat → Option Nat} {mX27_more : Nat → Option Nat} {mX27_its : Nat → Option Nat} {mX27_allowed : Nat → Option Nat} {mX27_other : Nat → Option Nat} {mX27_order : Nat → Option Nat} {mX28_person : Nat → Int32} {mX28_graph : Nat → Int32} {mX28_predicate : Nat → Int32} {mX28_class0 : Nat → Int32} {mX28_version : Nat → Int32} {mX75_kind : Nat → Int32} {mX75_number : Nat → Int32} {mX75_groups : Nat → Option Nat} {mX76_from : Nat → Int32} {mX76_to : Nat → Int32} {mX77_of : Nat → Int32} {mX78_least : Nat → Int32} {mX78_of : Nat → Option Nat} {mX80_rank : Nat → Int32} {mX80_denies : Nat → Int32} {mX80_condition : Nat → Int32} {mJ1_modCount : Nat → Int32} {mJ2_elementData : Nat → Option Nat} {mJ2_size : Nat → Int32} {mJ4_words : Nat → Option Nat} {mJ4_wordsInUse : Nat → Int32} {mJ4_sizeIsSticky : Nat → Int32} (n q : Nat) : va_up (cRD ci d kd an ai al ar mX27_groups mX27_conditions mX27_rules mX27_sets mX27_right mX27_known mX27_asks mX27_done mX27_more mX27_its mX27_allowed mX27_other mX27_order mX28_person mX28_graph mX28_predicate mX28_class0 mX28_version mX75_kind mX75_number mX75_groups mX76_from mX76_to mX77_of mX78_least mX78_of mX80_rank mX80_denies mX80_condition mJ1_modCount mJ2_elementData mJ2_size mJ4_words mJ4_wordsInUse mJ4_sizeIsSticky) q (.inl (d 3, n, .inr (.inr (.inr (.inr (fun _ => none)))))) = (cRD ci d (va_up kd q 14) (va_up an q n) ai al (va_up ar q (fun _ => none)) mX27_groups mX27_conditions mX27_rules mX27_sets mX27_right mX27_known mX27_asks mX27_done mX27_more mX27_its mX27_allowed mX27_other mX27_order mX28_person mX28_graph mX28_predicate mX28_class0 mX28_version mX75_kind mX75_number mX75_groups mX76_from mX76_to mX77_of mX78_least mX78_of mX80_rank mX80_denies mX80_condition mJ1_modCount mJ2_elementData mJ2_size mJ4_words mJ4_wordsInUse mJ4_sizeIsSticky) := by
  funext b
  by_cases h : b = q
  · subst h
    rw [va_up_self]
    unfold cRD
    simp only [va_up_self]
  · rw [va_up_ne _ _ h]
    unfold cRD
    simp only [va_up_ne _ _ h]
theorem cRD_15 {ci : Nat → Nat} {d : Nat → ClassId} {kd : Nat → Nat} {an : Nat → Nat} {ai : Nat → Nat → Int32} {al : Nat → Nat → Int64} {ar : Nat → Nat → Option Nat} {mX27_groups : Nat → Option Nat} {mX27_conditions : Nat → Option Nat} {mX27_rules : Nat → Option Nat} {mX27_sets : Nat → Option Nat} {mX27_right : Nat → Int32} {mX27_known : Nat → Option Nat} {mX27_asks : Nat → Option Nat} {mX27_done : Nat → Option Nat} {mX27_more : Nat → Option Nat} {mX27_its : Nat → Option Nat} {mX27_allowed : Nat → Option Nat} {mX27_other : Nat → Option Nat} {mX27_order : Nat → Option Nat} {mX28_person : Nat → Int32} {mX28_graph : Nat → Int32} {mX28_predicate : Nat → Int32} {mX28_class0 : Nat → Int32} {mX28_version : Nat → Int32} {mX75_kind : Nat → Int32} {mX75_number : Nat → Int32} {mX75_groups : Nat → Option Nat} {mX76_from : Nat → Int32} {mX76_to : Nat → Int32} {mX77_of : Nat → Int32} {mX78_least : Nat → Int32} {mX78_of : Nat → Option Nat} {mX80_rank : Nat → Int32} {mX80_denies : Nat → Int32} {mX80_condition : Nat → Int32} {mJ1_modCount : Nat → Int32} {mJ2_elementData : Nat → Option Nat} {mJ2_size : Nat → Int32} {mJ4_words : Nat → Option Nat} {mJ4_wordsInUse : Nat → Int32} {mJ4_sizeIsSticky : Nat → Int32} {a : Nat} (hk : kd a = 15) : (cRD ci d kd an ai al ar mX27_groups mX27_conditions mX27_rules mX27_sets mX27_right mX27_known mX27_asks mX27_done mX27_more mX27_its mX27_allowed mX27_other mX27_order mX28_person mX28_graph mX28_predicate mX28_class0 mX28_version mX75_kind mX75_number mX75_groups mX76_from mX76_to mX77_of mX78_least mX78_of mX80_rank mX80_denies mX80_condition mJ1_modCount mJ2_elementData mJ2_size mJ4_words mJ4_wordsInUse mJ4_sizeIsSticky) a = .inl (d 4, an a, .inr (.inr (.inr (.inr (ar a))))) := by unfold cRD; simp only [hk]
theorem cRD_15_s {ci : Nat → Nat} {d : Nat → ClassId} {kd : Nat → Nat} {an : Nat → Nat} {ai : Nat → Nat → Int32} {al : Nat → Nat → Int64} {ar : Nat → Nat → Option Nat} {mX27_groups : Nat → Option Nat} {mX27_conditions : Nat → Option Nat} {mX27_rules : Nat → Option Nat} {mX27_sets : Nat → Option Nat} {mX27_right : Nat → Int32} {mX27_known : Nat → Option Nat} {mX27_asks : Nat → Option Nat} {mX27_done : Nat → Option Nat} {mX27_more : Nat → Option Nat} {mX27_its : Nat → Option Nat} {mX27_allowed : Nat → Option Nat} {mX27_other : Nat → Option Nat} {mX27_order : Nat → Option Nat} {mX28_person : Nat → Int32} {mX28_graph : Nat → Int32} {mX28_predicate : Nat → Int32} {mX28_class0 : Nat → Int32} {mX28_version : Nat → Int32} {mX75_kind : Nat → Int32} {mX75_number : Nat → Int32} {mX75_groups : Nat → Option Nat} {mX76_from : Nat → Int32} {mX76_to : Nat → Int32} {mX77_of : Nat → Int32} {mX78_least : Nat → Int32} {mX78_of : Nat → Option Nat} {mX80_rank : Nat → Int32} {mX80_denies : Nat → Int32} {mX80_condition : Nat → Int32} {mJ1_modCount : Nat → Int32} {mJ2_elementData : Nat → Option Nat} {mJ2_size : Nat → Int32} {mJ4_words : Nat → Option Nat} {mJ4_wordsInUse : Nat → Int32} {mJ4_sizeIsSticky : Nat → Int32} {a : Nat} {g : Nat → Option Nat} (hk : kd a = 15) : va_up (cRD ci d kd an ai al ar mX27_groups mX27_conditions mX27_rules mX27_sets mX27_right mX27_known mX27_asks mX27_done mX27_more mX27_its mX27_allowed mX27_other mX27_order mX28_person mX28_graph mX28_predicate mX28_class0 mX28_version mX75_kind mX75_number mX75_groups mX76_from mX76_to mX77_of mX78_least mX78_of mX80_rank mX80_denies mX80_condition mJ1_modCount mJ2_elementData mJ2_size mJ4_words mJ4_wordsInUse mJ4_sizeIsSticky) a (.inl (d 4, an a, .inr (.inr (.inr (.inr g))))) = (cRD ci d kd an ai al (va_up ar a g) mX27_groups mX27_conditions mX27_rules mX27_sets mX27_right mX27_known mX27_asks mX27_done mX27_more mX27_its mX27_allowed mX27_other mX27_order mX28_person mX28_graph mX28_predicate mX28_class0 mX28_version mX75_kind mX75_number mX75_groups mX76_from mX76_to mX77_of mX78_least mX78_of mX80_rank mX80_denies mX80_condition mJ1_modCount mJ2_elementData mJ2_size mJ4_words mJ4_wordsInUse mJ4_sizeIsSticky) := by
  funext b
  by_cases h : b = a
  · subst h
    rw [va_up_self]
    unfold cRD
    rw [hk]
    simp only [va_up_self]
  · rw [va_up_ne _ _ h]
    unfold cRD
    simp only [va_up_ne _ _ h]
theorem cRD_15_n {ci : Nat → Nat} {d : Nat → ClassId} {kd : Nat → Nat} {an : Nat → Nat} {ai : Nat → Nat → Int32} {al : Nat → Nat → Int64} {ar : Nat → Nat → Option Nat} {mX27_groups : Nat → Option Nat} {mX27_conditions : Nat → Option Nat} {mX27_rules : Nat → Option Nat} {mX27_sets : Nat → Option Nat} {mX27_right : Nat → Int32} {mX27_known : Nat → Option Nat} {mX27_asks : Nat → Option Nat} {mX27_done : Nat → Option Nat} {mX27_more : Nat → Option Nat} {mX27_its : Nat → Option Nat} {mX27_allowed : Nat → Option Nat} {mX27_other : Nat → Option Nat} {mX27_order : Nat → Option Nat} {mX28_person : Nat → Int32} {mX28_graph : Nat → Int32} {mX28_predicate : Nat → Int32} {mX28_class0 : Nat → Int32} {mX28_version : Nat → Int32} {mX75_kind : Nat → Int32} {mX75_number : Nat → Int32} {mX75_groups : Nat → Option Nat} {mX76_from : Nat → Int32} {mX76_to : Nat → Int32} {mX77_of : Nat → Int32} {mX78_least : Nat → Int32} {mX78_of : Nat → Option Nat} {mX80_rank : Nat → Int32} {mX80_denies : Nat → Int32} {mX80_condition : Nat → Int32} {mJ1_modCount : Nat → Int32} {mJ2_elementData : Nat → Option Nat} {mJ2_size : Nat → Int32} {mJ4_words : Nat → Option Nat} {mJ4_wordsInUse : Nat → Int32} {mJ4_sizeIsSticky : Nat → Int32} (n q : Nat) : va_up (cRD ci d kd an ai al ar mX27_groups mX27_conditions mX27_rules mX27_sets mX27_right mX27_known mX27_asks mX27_done mX27_more mX27_its mX27_allowed mX27_other mX27_order mX28_person mX28_graph mX28_predicate mX28_class0 mX28_version mX75_kind mX75_number mX75_groups mX76_from mX76_to mX77_of mX78_least mX78_of mX80_rank mX80_denies mX80_condition mJ1_modCount mJ2_elementData mJ2_size mJ4_words mJ4_wordsInUse mJ4_sizeIsSticky) q (.inl (d 4, n, .inr (.inr (.inr (.inr (fun _ => none)))))) = (cRD ci d (va_up kd q 15) (va_up an q n) ai al (va_up ar q (fun _ => none)) mX27_groups mX27_conditions mX27_rules mX27_sets mX27_right mX27_known mX27_asks mX27_done mX27_more mX27_its mX27_allowed mX27_other mX27_order mX28_person mX28_graph mX28_predicate mX28_class0 mX28_version mX75_kind mX75_number mX75_groups mX76_from mX76_to mX77_of mX78_least mX78_of mX80_rank mX80_denies mX80_condition mJ1_modCount mJ2_elementData mJ2_size mJ4_words mJ4_wordsInUse mJ4_sizeIsSticky) := by
  funext b
  by_cases h : b = q
  · subst h
    rw [va_up_self]
    unfold cRD
    simp only [va_up_self]
  · rw [va_up_ne _ _ h]
    unfold cRD
    simp only [va_up_ne _ _ h]
