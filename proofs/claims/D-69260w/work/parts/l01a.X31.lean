/-! KnowHouse$FacetCounts (printed by tools/gen.py) -/
set_option maxRecDepth 100000
def RX31 : String := "KnowHouse$FacetCounts"
def TX31 : u_T := fun k => match k with
  | 0 => ("KnowHouse$FacetCounts", "own", "[I", true)
  | 1 => ("KnowHouse$FacetCounts", "rows", "I", false)
  | 2 => ("KnowHouse$FacetCounts", "uppers", "[I", true)
  | 3 => ("KnowHouse$FacetCounts", "closed", "[I", true)
  | 4 => ("KnowHouse$FacetCounts", "chosen", "[I", true)
  | 5 => ("KnowHouse$FacetCounts", "fails", "[I", true)
  | 6 => ("KnowHouse$FacetCounts", "counts", "[I", true)
  | _ => ("KnowHouse$FacetCounts", "seen", "[I", true)
def tyX31 : Nat → FieldType := fun k => match k with
  | 0 => .array .int
  | 1 => .int
  | 2 => .array .int
  | 3 => .array .int
  | 4 => .array .int
  | 5 => .array .int
  | 6 => .array .int
  | _ => .array .int
abbrev wsX310 : List Cond := u_ws RX31 TX31 8
theorem nmX31 : ∀ a, a < 8 → ∀ b, b < 8 → a ≠ b → (TX31 a).2.1 ≠ (TX31 b).2.1 := by decide +kernel
theorem tyX31_ok : ∀ k, k < 8 → parseFieldDescriptor (TX31 k).2.2.1 = some (tyX31 k) := by decide +kernel
abbrev cX31_init : ByteArray := prog_20_method_1_code
def yX31_init : MethodName := ⟨RX31, "<init>", "()V"⟩
abbrev cX31_row : ByteArray := prog_20_method_9_code
def yX31_row : MethodName := ⟨RX31, "row", "(III)I"⟩
theorem dX31_row_0 : decode cX31_row 0 = .ok (.iload_n 1, 1) := by decide +kernel
theorem dX31_row_1 : decode cX31_row 1 = .ok (.iload_n 2, 1) := by decide +kernel
theorem dX31_row_2 : decode cX31_row 2 = .ok (.iload_n 3, 1) := by decide +kernel
theorem dX31_row_3 : decode cX31_row 3 = .ok (.invokestatic 49, 3) := by decide +kernel
theorem dX31_row_6 : decode cX31_row 6 = .ok (.ifCond .ne 5, 3) := by decide +kernel
theorem dX31_row_9 : decode cX31_row 9 = .ok (.iconst (-1), 1) := by decide +kernel
theorem dX31_row_10 : decode cX31_row 10 = .ok (.ireturn, 1) := by decide +kernel
theorem dX31_row_11 : decode cX31_row 11 = .ok (.bipush 8, 2) := by decide +kernel
theorem dX31_row_13 : decode cX31_row 13 = .ok (.iload_n 1, 1) := by decide +kernel
theorem dX31_row_14 : decode cX31_row 14 = .ok (.imul, 1) := by decide +kernel
theorem dX31_row_15 : decode cX31_row 15 = .ok (.iload_n 2, 1) := by decide +kernel
theorem dX31_row_16 : decode cX31_row 16 = .ok (.iadd, 1) := by decide +kernel
theorem dX31_row_17 : decode cX31_row 17 = .ok (.istore 4, 2) := by decide +kernel
theorem dX31_row_19 : decode cX31_row 19 = .ok (.aload_n 0, 1) := by decide +kernel
theorem dX31_row_20 : decode cX31_row 20 = .ok (.getfield 7, 3) := by decide +kernel
theorem dX31_row_23 : decode cX31_row 23 = .ok (.iload 4, 2) := by decide +kernel
theorem dX31_row_25 : decode cX31_row 25 = .ok (.iaload, 1) := by decide +kernel
theorem dX31_row_26 : decode cX31_row 26 = .ok (.iload_n 3, 1) := by decide +kernel
theorem dX31_row_27 : decode cX31_row 27 = .ok (.ishr, 1) := by decide +kernel
theorem dX31_row_28 : decode cX31_row 28 = .ok (.iconst 1, 1) := by decide +kernel
theorem dX31_row_29 : decode cX31_row 29 = .ok (.iand, 1) := by decide +kernel
theorem dX31_row_30 : decode cX31_row 30 = .ok (.iconst 1, 1) := by decide +kernel
theorem dX31_row_31 : decode cX31_row 31 = .ok (.if_icmp .ne 5, 3) := by decide +kernel
theorem dX31_row_34 : decode cX31_row 34 = .ok (.iconst 0, 1) := by decide +kernel
theorem dX31_row_35 : decode cX31_row 35 = .ok (.ireturn, 1) := by decide +kernel
theorem dX31_row_36 : decode cX31_row 36 = .ok (.aload_n 0, 1) := by decide +kernel
theorem dX31_row_37 : decode cX31_row 37 = .ok (.getfield 53, 3) := by decide +kernel
theorem dX31_row_40 : decode cX31_row 40 = .ok (.sipush 300, 3) := by decide +kernel
theorem dX31_row_43 : decode cX31_row 43 = .ok (.if_icmp .ne 6, 3) := by decide +kernel
theorem dX31_row_46 : decode cX31_row 46 = .ok (.bipush (-2), 2) := by decide +kernel
theorem dX31_row_48 : decode cX31_row 48 = .ok (.ireturn, 1) := by decide +kernel
theorem dX31_row_49 : decode cX31_row 49 = .ok (.aload_n 0, 1) := by decide +kernel
theorem dX31_row_50 : decode cX31_row 50 = .ok (.iload_n 1, 1) := by decide +kernel
theorem dX31_row_51 : decode cX31_row 51 = .ok (.iconst (-1), 1) := by decide +kernel
theorem dX31_row_52 : decode cX31_row 52 = .ok (.invokevirtual 45, 3) := by decide +kernel
theorem dX31_row_55 : decode cX31_row 55 = .ok (.aload_n 0, 1) := by decide +kernel
theorem dX31_row_56 : decode cX31_row 56 = .ok (.getfield 7, 3) := by decide +kernel
theorem dX31_row_59 : decode cX31_row 59 = .ok (.iload 4, 2) := by decide +kernel
theorem dX31_row_61 : decode cX31_row 61 = .ok (.dup2, 1) := by decide +kernel
theorem dX31_row_62 : decode cX31_row 62 = .ok (.iaload, 1) := by decide +kernel
theorem dX31_row_63 : decode cX31_row 63 = .ok (.iconst 1, 1) := by decide +kernel
theorem dX31_row_64 : decode cX31_row 64 = .ok (.iload_n 3, 1) := by decide +kernel
theorem dX31_row_65 : decode cX31_row 65 = .ok (.ishl, 1) := by decide +kernel
theorem dX31_row_66 : decode cX31_row 66 = .ok (.ior, 1) := by decide +kernel
theorem dX31_row_67 : decode cX31_row 67 = .ok (.iastore, 1) := by decide +kernel
theorem dX31_row_68 : decode cX31_row 68 = .ok (.aload_n 0, 1) := by decide +kernel
theorem dX31_row_69 : decode cX31_row 69 = .ok (.dup, 1) := by decide +kernel
theorem dX31_row_70 : decode cX31_row 70 = .ok (.getfield 53, 3) := by decide +kernel
theorem dX31_row_73 : decode cX31_row 73 = .ok (.iconst 1, 1) := by decide +kernel
theorem dX31_row_74 : decode cX31_row 74 = .ok (.iadd, 1) := by decide +kernel
theorem dX31_row_75 : decode cX31_row 75 = .ok (.putfield 53, 3) := by decide +kernel
theorem dX31_row_78 : decode cX31_row 78 = .ok (.aload_n 0, 1) := by decide +kernel
theorem dX31_row_79 : decode cX31_row 79 = .ok (.iload_n 1, 1) := by decide +kernel
theorem dX31_row_80 : decode cX31_row 80 = .ok (.iconst 1, 1) := by decide +kernel
theorem dX31_row_81 : decode cX31_row 81 = .ok (.invokevirtual 45, 3) := by decide +kernel
theorem dX31_row_84 : decode cX31_row 84 = .ok (.iconst 1, 1) := by decide +kernel
theorem dX31_row_85 : decode cX31_row 85 = .ok (.ireturn, 1) := by decide +kernel
abbrev cX31_isRow : ByteArray := prog_20_method_3_code
def yX31_isRow : MethodName := ⟨RX31, "isRow", "(III)Z"⟩
theorem dX31_isRow_0 : decode cX31_isRow 0 = .ok (.iload_n 0, 1) := by decide +kernel
theorem dX31_isRow_1 : decode cX31_isRow 1 = .ok (.bipush 40, 2) := by decide +kernel
theorem dX31_isRow_3 : decode cX31_isRow 3 = .ok (.invokestatic 31, 3) := by decide +kernel
theorem dX31_isRow_6 : decode cX31_isRow 6 = .ok (.ifCond .eq 25, 3) := by decide +kernel
theorem dX31_isRow_9 : decode cX31_isRow 9 = .ok (.iload_n 1, 1) := by decide +kernel
theorem dX31_isRow_10 : decode cX31_isRow 10 = .ok (.bipush 8, 2) := by decide +kernel
theorem dX31_isRow_12 : decode cX31_isRow 12 = .ok (.invokestatic 31, 3) := by decide +kernel
theorem dX31_isRow_15 : decode cX31_isRow 15 = .ok (.ifCond .eq 16, 3) := by decide +kernel
theorem dX31_isRow_18 : decode cX31_isRow 18 = .ok (.iload_n 2, 1) := by decide +kernel
theorem dX31_isRow_19 : decode cX31_isRow 19 = .ok (.bipush 32, 2) := by decide +kernel
theorem dX31_isRow_21 : decode cX31_isRow 21 = .ok (.invokestatic 31, 3) := by decide +kernel
theorem dX31_isRow_24 : decode cX31_isRow 24 = .ok (.ifCond .eq 7, 3) := by decide +kernel
theorem dX31_isRow_27 : decode cX31_isRow 27 = .ok (.iconst 1, 1) := by decide +kernel
theorem dX31_isRow_28 : decode cX31_isRow 28 = .ok (.goto 4, 3) := by decide +kernel
theorem dX31_isRow_31 : decode cX31_isRow 31 = .ok (.iconst 0, 1) := by decide +kernel
theorem dX31_isRow_32 : decode cX31_isRow 32 = .ok (.ireturn, 1) := by decide +kernel
abbrev cX31_isIn : ByteArray := prog_20_method_2_code
def yX31_isIn : MethodName := ⟨RX31, "isIn", "(II)Z"⟩
theorem dX31_isIn_0 : decode cX31_isIn 0 = .ok (.iload_n 0, 1) := by decide +kernel
theorem dX31_isIn_1 : decode cX31_isIn 1 = .ok (.ifCond .lt 12, 3) := by decide +kernel
theorem dX31_isIn_4 : decode cX31_isIn 4 = .ok (.iload_n 0, 1) := by decide +kernel
theorem dX31_isIn_5 : decode cX31_isIn 5 = .ok (.iload_n 1, 1) := by decide +kernel
theorem dX31_isIn_6 : decode cX31_isIn 6 = .ok (.if_icmp .ge 7, 3) := by decide +kernel
theorem dX31_isIn_9 : decode cX31_isIn 9 = .ok (.iconst 1, 1) := by decide +kernel
theorem dX31_isIn_10 : decode cX31_isIn 10 = .ok (.goto 4, 3) := by decide +kernel
theorem dX31_isIn_13 : decode cX31_isIn 13 = .ok (.iconst 0, 1) := by decide +kernel
theorem dX31_isIn_14 : decode cX31_isIn 14 = .ok (.ireturn, 1) := by decide +kernel
abbrev cX31_weigh : ByteArray := prog_20_method_7_code
def yX31_weigh : MethodName := ⟨RX31, "weigh", "(II)V"⟩
theorem dX31_weigh_0 : decode cX31_weigh 0 = .ok (.iload_n 2, 1) := by decide +kernel
theorem dX31_weigh_1 : decode cX31_weigh 1 = .ok (.ifCond .le 47, 3) := by decide +kernel
theorem dX31_weigh_4 : decode cX31_weigh 4 = .ok (.aload_n 0, 1) := by decide +kernel
theorem dX31_weigh_5 : decode cX31_weigh 5 = .ok (.getfield 22, 3) := by decide +kernel
theorem dX31_weigh_8 : decode cX31_weigh 8 = .ok (.iload_n 1, 1) := by decide +kernel
theorem dX31_weigh_9 : decode cX31_weigh 9 = .ok (.iconst 0, 1) := by decide +kernel
theorem dX31_weigh_10 : decode cX31_weigh 10 = .ok (.iastore, 1) := by decide +kernel
theorem dX31_weigh_11 : decode cX31_weigh 11 = .ok (.iconst 0, 1) := by decide +kernel
theorem dX31_weigh_12 : decode cX31_weigh 12 = .ok (.istore_n 3, 1) := by decide +kernel
theorem dX31_weigh_13 : decode cX31_weigh 13 = .ok (.iload_n 3, 1) := by decide +kernel
theorem dX31_weigh_14 : decode cX31_weigh 14 = .ok (.bipush 8, 2) := by decide +kernel
theorem dX31_weigh_16 : decode cX31_weigh 16 = .ok (.if_icmp .ge 32, 3) := by decide +kernel
theorem dX31_weigh_19 : decode cX31_weigh 19 = .ok (.aload_n 0, 1) := by decide +kernel
theorem dX31_weigh_20 : decode cX31_weigh 20 = .ok (.getfield 22, 3) := by decide +kernel
theorem dX31_weigh_23 : decode cX31_weigh 23 = .ok (.iload_n 1, 1) := by decide +kernel
theorem dX31_weigh_24 : decode cX31_weigh 24 = .ok (.dup2, 1) := by decide +kernel
theorem dX31_weigh_25 : decode cX31_weigh 25 = .ok (.iaload, 1) := by decide +kernel
theorem dX31_weigh_26 : decode cX31_weigh 26 = .ok (.aload_n 0, 1) := by decide +kernel
theorem dX31_weigh_27 : decode cX31_weigh 27 = .ok (.iload_n 1, 1) := by decide +kernel
theorem dX31_weigh_28 : decode cX31_weigh 28 = .ok (.iload_n 3, 1) := by decide +kernel
theorem dX31_weigh_29 : decode cX31_weigh 29 = .ok (.invokevirtual 39, 3) := by decide +kernel
theorem dX31_weigh_32 : decode cX31_weigh 32 = .ok (.ifCond .eq 7, 3) := by decide +kernel
theorem dX31_weigh_35 : decode cX31_weigh 35 = .ok (.iconst 1, 1) := by decide +kernel
theorem dX31_weigh_36 : decode cX31_weigh 36 = .ok (.goto 4, 3) := by decide +kernel
theorem dX31_weigh_39 : decode cX31_weigh 39 = .ok (.iconst 0, 1) := by decide +kernel
theorem dX31_weigh_40 : decode cX31_weigh 40 = .ok (.iadd, 1) := by decide +kernel
theorem dX31_weigh_41 : decode cX31_weigh 41 = .ok (.iastore, 1) := by decide +kernel
theorem dX31_weigh_42 : decode cX31_weigh 42 = .ok (.iinc 3 1, 3) := by decide +kernel
theorem dX31_weigh_45 : decode cX31_weigh 45 = .ok (.goto (-32), 3) := by decide +kernel
theorem dX31_weigh_48 : decode cX31_weigh 48 = .ok (.aload_n 0, 1) := by decide +kernel
theorem dX31_weigh_49 : decode cX31_weigh 49 = .ok (.getfield 22, 3) := by decide +kernel
theorem dX31_weigh_52 : decode cX31_weigh 52 = .ok (.iload_n 1, 1) := by decide +kernel
theorem dX31_weigh_53 : decode cX31_weigh 53 = .ok (.iaload, 1) := by decide +kernel
theorem dX31_weigh_54 : decode cX31_weigh 54 = .ok (.iconst 1, 1) := by decide +kernel
theorem dX31_weigh_55 : decode cX31_weigh 55 = .ok (.if_icmp .le 4, 3) := by decide +kernel
theorem dX31_weigh_58 : decode cX31_weigh 58 = .ok (.return_, 1) := by decide +kernel
theorem dX31_weigh_59 : decode cX31_weigh 59 = .ok (.iconst 0, 1) := by decide +kernel
theorem dX31_weigh_60 : decode cX31_weigh 60 = .ok (.istore_n 3, 1) := by decide +kernel
theorem dX31_weigh_61 : decode cX31_weigh 61 = .ok (.iload_n 3, 1) := by decide +kernel
theorem dX31_weigh_62 : decode cX31_weigh 62 = .ok (.bipush 8, 2) := by decide +kernel
theorem dX31_weigh_64 : decode cX31_weigh 64 = .ok (.if_icmp .ge 70, 3) := by decide +kernel
theorem dX31_weigh_67 : decode cX31_weigh 67 = .ok (.aload_n 0, 1) := by decide +kernel
theorem dX31_weigh_68 : decode cX31_weigh 68 = .ok (.iload_n 1, 1) := by decide +kernel
theorem dX31_weigh_69 : decode cX31_weigh 69 = .ok (.iload_n 3, 1) := by decide +kernel
theorem dX31_weigh_70 : decode cX31_weigh 70 = .ok (.invokevirtual 42, 3) := by decide +kernel
theorem dX31_weigh_73 : decode cX31_weigh 73 = .ok (.ifCond .eq 12, 3) := by decide +kernel
theorem dX31_weigh_76 : decode cX31_weigh 76 = .ok (.aload_n 0, 1) := by decide +kernel
theorem dX31_weigh_77 : decode cX31_weigh 77 = .ok (.iload_n 1, 1) := by decide +kernel
theorem dX31_weigh_78 : decode cX31_weigh 78 = .ok (.iload_n 3, 1) := by decide +kernel
theorem dX31_weigh_79 : decode cX31_weigh 79 = .ok (.invokevirtual 35, 3) := by decide +kernel
theorem dX31_weigh_82 : decode cX31_weigh 82 = .ok (.goto 4, 3) := by decide +kernel
theorem dX31_weigh_85 : decode cX31_weigh 85 = .ok (.iconst 0, 1) := by decide +kernel
theorem dX31_weigh_86 : decode cX31_weigh 86 = .ok (.istore 4, 2) := by decide +kernel
theorem dX31_weigh_88 : decode cX31_weigh 88 = .ok (.iconst 0, 1) := by decide +kernel
theorem dX31_weigh_89 : decode cX31_weigh 89 = .ok (.istore 5, 2) := by decide +kernel
theorem dX31_weigh_91 : decode cX31_weigh 91 = .ok (.iload 5, 2) := by decide +kernel
theorem dX31_weigh_93 : decode cX31_weigh 93 = .ok (.bipush 32, 2) := by decide +kernel
theorem dX31_weigh_95 : decode cX31_weigh 95 = .ok (.if_icmp .ge 33, 3) := by decide +kernel
theorem dX31_weigh_98 : decode cX31_weigh 98 = .ok (.aload_n 0, 1) := by decide +kernel
theorem dX31_weigh_99 : decode cX31_weigh 99 = .ok (.getfield 25, 3) := by decide +kernel
theorem dX31_weigh_102 : decode cX31_weigh 102 = .ok (.bipush 32, 2) := by decide +kernel
theorem dX31_weigh_104 : decode cX31_weigh 104 = .ok (.iload_n 3, 1) := by decide +kernel
theorem dX31_weigh_105 : decode cX31_weigh 105 = .ok (.imul, 1) := by decide +kernel
theorem dX31_weigh_106 : decode cX31_weigh 106 = .ok (.iload 5, 2) := by decide +kernel
theorem dX31_weigh_108 : decode cX31_weigh 108 = .ok (.iadd, 1) := by decide +kernel
theorem dX31_weigh_109 : decode cX31_weigh 109 = .ok (.dup2, 1) := by decide +kernel
theorem dX31_weigh_110 : decode cX31_weigh 110 = .ok (.iaload, 1) := by decide +kernel
theorem dX31_weigh_111 : decode cX31_weigh 111 = .ok (.iload 4, 2) := by decide +kernel
theorem dX31_weigh_113 : decode cX31_weigh 113 = .ok (.iload 5, 2) := by decide +kernel
theorem dX31_weigh_115 : decode cX31_weigh 115 = .ok (.ishr, 1) := by decide +kernel
theorem dX31_weigh_116 : decode cX31_weigh 116 = .ok (.iconst 1, 1) := by decide +kernel
theorem dX31_weigh_117 : decode cX31_weigh 117 = .ok (.iand, 1) := by decide +kernel
theorem dX31_weigh_118 : decode cX31_weigh 118 = .ok (.iload_n 2, 1) := by decide +kernel
theorem dX31_weigh_119 : decode cX31_weigh 119 = .ok (.imul, 1) := by decide +kernel
theorem dX31_weigh_120 : decode cX31_weigh 120 = .ok (.iadd, 1) := by decide +kernel
theorem dX31_weigh_121 : decode cX31_weigh 121 = .ok (.iastore, 1) := by decide +kernel
theorem dX31_weigh_122 : decode cX31_weigh 122 = .ok (.iinc 5 1, 3) := by decide +kernel
theorem dX31_weigh_125 : decode cX31_weigh 125 = .ok (.goto (-34), 3) := by decide +kernel
theorem dX31_weigh_128 : decode cX31_weigh 128 = .ok (.iinc 3 1, 3) := by decide +kernel
theorem dX31_weigh_131 : decode cX31_weigh 131 = .ok (.goto (-70), 3) := by decide +kernel
theorem dX31_weigh_134 : decode cX31_weigh 134 = .ok (.return_, 1) := by decide +kernel
abbrev cX31_failsAt : ByteArray := prog_20_method_5_code
def yX31_failsAt : MethodName := ⟨RX31, "failsAt", "(II)Z"⟩
theorem dX31_failsAt_0 : decode cX31_failsAt 0 = .ok (.aload_n 0, 1) := by decide +kernel
theorem dX31_failsAt_1 : decode cX31_failsAt 1 = .ok (.getfield 19, 3) := by decide +kernel
theorem dX31_failsAt_4 : decode cX31_failsAt 4 = .ok (.iload_n 2, 1) := by decide +kernel
theorem dX31_failsAt_5 : decode cX31_failsAt 5 = .ok (.iaload, 1) := by decide +kernel
theorem dX31_failsAt_6 : decode cX31_failsAt 6 = .ok (.ifCond .eq 23, 3) := by decide +kernel
theorem dX31_failsAt_9 : decode cX31_failsAt 9 = .ok (.aload_n 0, 1) := by decide +kernel
theorem dX31_failsAt_10 : decode cX31_failsAt 10 = .ok (.iload_n 1, 1) := by decide +kernel
theorem dX31_failsAt_11 : decode cX31_failsAt 11 = .ok (.iload_n 2, 1) := by decide +kernel
theorem dX31_failsAt_12 : decode cX31_failsAt 12 = .ok (.invokevirtual 35, 3) := by decide +kernel
theorem dX31_failsAt_15 : decode cX31_failsAt 15 = .ok (.aload_n 0, 1) := by decide +kernel
theorem dX31_failsAt_16 : decode cX31_failsAt 16 = .ok (.getfield 19, 3) := by decide +kernel
theorem dX31_failsAt_19 : decode cX31_failsAt 19 = .ok (.iload_n 2, 1) := by decide +kernel
theorem dX31_failsAt_20 : decode cX31_failsAt 20 = .ok (.iaload, 1) := by decide +kernel
theorem dX31_failsAt_21 : decode cX31_failsAt 21 = .ok (.iand, 1) := by decide +kernel
theorem dX31_failsAt_22 : decode cX31_failsAt 22 = .ok (.ifCond .ne 7, 3) := by decide +kernel
theorem dX31_failsAt_25 : decode cX31_failsAt 25 = .ok (.iconst 1, 1) := by decide +kernel
theorem dX31_failsAt_26 : decode cX31_failsAt 26 = .ok (.goto 4, 3) := by decide +kernel
theorem dX31_failsAt_29 : decode cX31_failsAt 29 = .ok (.iconst 0, 1) := by decide +kernel
theorem dX31_failsAt_30 : decode cX31_failsAt 30 = .ok (.ireturn, 1) := by decide +kernel
abbrev cX31_has : ByteArray := prog_20_method_4_code
def yX31_has : MethodName := ⟨RX31, "has", "(II)I"⟩
theorem dX31_has_0 : decode cX31_has 0 = .ok (.aload_n 0, 1) := by decide +kernel
theorem dX31_has_1 : decode cX31_has 1 = .ok (.getfield 7, 3) := by decide +kernel
theorem dX31_has_4 : decode cX31_has 4 = .ok (.bipush 8, 2) := by decide +kernel
theorem dX31_has_6 : decode cX31_has 6 = .ok (.iload_n 1, 1) := by decide +kernel
theorem dX31_has_7 : decode cX31_has 7 = .ok (.imul, 1) := by decide +kernel
theorem dX31_has_8 : decode cX31_has 8 = .ok (.iload_n 2, 1) := by decide +kernel
theorem dX31_has_9 : decode cX31_has 9 = .ok (.iadd, 1) := by decide +kernel
theorem dX31_has_10 : decode cX31_has 10 = .ok (.iaload, 1) := by decide +kernel
theorem dX31_has_11 : decode cX31_has 11 = .ok (.istore_n 3, 1) := by decide +kernel
theorem dX31_has_12 : decode cX31_has 12 = .ok (.iload_n 2, 1) := by decide +kernel
theorem dX31_has_13 : decode cX31_has 13 = .ok (.ifCond .le 5, 3) := by decide +kernel
theorem dX31_has_16 : decode cX31_has 16 = .ok (.iload_n 3, 1) := by decide +kernel
theorem dX31_has_17 : decode cX31_has 17 = .ok (.ireturn, 1) := by decide +kernel
theorem dX31_has_18 : decode cX31_has 18 = .ok (.iconst 0, 1) := by decide +kernel
theorem dX31_has_19 : decode cX31_has 19 = .ok (.istore 4, 2) := by decide +kernel
theorem dX31_has_21 : decode cX31_has 21 = .ok (.iconst 0, 1) := by decide +kernel
theorem dX31_has_22 : decode cX31_has 22 = .ok (.istore 5, 2) := by decide +kernel
theorem dX31_has_24 : decode cX31_has 24 = .ok (.iload 5, 2) := by decide +kernel
theorem dX31_has_26 : decode cX31_has 26 = .ok (.bipush 32, 2) := by decide +kernel
theorem dX31_has_28 : decode cX31_has 28 = .ok (.if_icmp .ge 31, 3) := by decide +kernel
theorem dX31_has_31 : decode cX31_has 31 = .ok (.iload_n 3, 1) := by decide +kernel
theorem dX31_has_32 : decode cX31_has 32 = .ok (.iload 5, 2) := by decide +kernel
theorem dX31_has_34 : decode cX31_has 34 = .ok (.ishr, 1) := by decide +kernel
theorem dX31_has_35 : decode cX31_has 35 = .ok (.iconst 1, 1) := by decide +kernel
theorem dX31_has_36 : decode cX31_has 36 = .ok (.iand, 1) := by decide +kernel
theorem dX31_has_37 : decode cX31_has 37 = .ok (.iconst 1, 1) := by decide +kernel
theorem dX31_has_38 : decode cX31_has 38 = .ok (.if_icmp .ne 15, 3) := by decide +kernel
theorem dX31_has_41 : decode cX31_has 41 = .ok (.iload 4, 2) := by decide +kernel
theorem dX31_has_43 : decode cX31_has 43 = .ok (.aload_n 0, 1) := by decide +kernel
theorem dX31_has_44 : decode cX31_has 44 = .ok (.getfield 16, 3) := by decide +kernel
theorem dX31_has_47 : decode cX31_has 47 = .ok (.iload 5, 2) := by decide +kernel
theorem dX31_has_49 : decode cX31_has 49 = .ok (.iaload, 1) := by decide +kernel
theorem dX31_has_50 : decode cX31_has 50 = .ok (.ior, 1) := by decide +kernel
theorem dX31_has_51 : decode cX31_has 51 = .ok (.istore 4, 2) := by decide +kernel
theorem dX31_has_53 : decode cX31_has 53 = .ok (.iinc 5 1, 3) := by decide +kernel
theorem dX31_has_56 : decode cX31_has 56 = .ok (.goto (-32), 3) := by decide +kernel
theorem dX31_has_59 : decode cX31_has 59 = .ok (.iload 4, 2) := by decide +kernel
theorem dX31_has_61 : decode cX31_has 61 = .ok (.ireturn, 1) := by decide +kernel
abbrev cX31_isKeptBut : ByteArray := prog_20_method_6_code
def yX31_isKeptBut : MethodName := ⟨RX31, "isKeptBut", "(II)Z"⟩
theorem dX31_isKeptBut_0 : decode cX31_isKeptBut 0 = .ok (.aload_n 0, 1) := by decide +kernel
theorem dX31_isKeptBut_1 : decode cX31_isKeptBut 1 = .ok (.getfield 22, 3) := by decide +kernel
theorem dX31_isKeptBut_4 : decode cX31_isKeptBut 4 = .ok (.iload_n 1, 1) := by decide +kernel
theorem dX31_isKeptBut_5 : decode cX31_isKeptBut 5 = .ok (.iaload, 1) := by decide +kernel
theorem dX31_isKeptBut_6 : decode cX31_isKeptBut 6 = .ok (.aload_n 0, 1) := by decide +kernel
theorem dX31_isKeptBut_7 : decode cX31_isKeptBut 7 = .ok (.iload_n 1, 1) := by decide +kernel
theorem dX31_isKeptBut_8 : decode cX31_isKeptBut 8 = .ok (.iload_n 2, 1) := by decide +kernel
theorem dX31_isKeptBut_9 : decode cX31_isKeptBut 9 = .ok (.invokevirtual 39, 3) := by decide +kernel
theorem dX31_isKeptBut_12 : decode cX31_isKeptBut 12 = .ok (.ifCond .eq 7, 3) := by decide +kernel
theorem dX31_isKeptBut_15 : decode cX31_isKeptBut 15 = .ok (.iconst 1, 1) := by decide +kernel
theorem dX31_isKeptBut_16 : decode cX31_isKeptBut 16 = .ok (.goto 4, 3) := by decide +kernel
theorem dX31_isKeptBut_19 : decode cX31_isKeptBut 19 = .ok (.iconst 0, 1) := by decide +kernel
theorem dX31_isKeptBut_20 : decode cX31_isKeptBut 20 = .ok (.isub, 1) := by decide +kernel
theorem dX31_isKeptBut_21 : decode cX31_isKeptBut 21 = .ok (.ifCond .ne 7, 3) := by decide +kernel
theorem dX31_isKeptBut_24 : decode cX31_isKeptBut 24 = .ok (.iconst 1, 1) := by decide +kernel
theorem dX31_isKeptBut_25 : decode cX31_isKeptBut 25 = .ok (.goto 4, 3) := by decide +kernel
theorem dX31_isKeptBut_28 : decode cX31_isKeptBut 28 = .ok (.iconst 0, 1) := by decide +kernel
theorem dX31_isKeptBut_29 : decode cX31_isKeptBut 29 = .ok (.ireturn, 1) := by decide +kernel
abbrev cX31_drop : ByteArray := prog_20_method_10_code
def yX31_drop : MethodName := ⟨RX31, "drop", "(III)I"⟩
theorem dX31_drop_0 : decode cX31_drop 0 = .ok (.iload_n 1, 1) := by decide +kernel
theorem dX31_drop_1 : decode cX31_drop 1 = .ok (.iload_n 2, 1) := by decide +kernel
theorem dX31_drop_2 : decode cX31_drop 2 = .ok (.iload_n 3, 1) := by decide +kernel
theorem dX31_drop_3 : decode cX31_drop 3 = .ok (.invokestatic 49, 3) := by decide +kernel
theorem dX31_drop_6 : decode cX31_drop 6 = .ok (.ifCond .ne 5, 3) := by decide +kernel
theorem dX31_drop_9 : decode cX31_drop 9 = .ok (.iconst (-1), 1) := by decide +kernel
theorem dX31_drop_10 : decode cX31_drop 10 = .ok (.ireturn, 1) := by decide +kernel
theorem dX31_drop_11 : decode cX31_drop 11 = .ok (.bipush 8, 2) := by decide +kernel
theorem dX31_drop_13 : decode cX31_drop 13 = .ok (.iload_n 1, 1) := by decide +kernel
theorem dX31_drop_14 : decode cX31_drop 14 = .ok (.imul, 1) := by decide +kernel
theorem dX31_drop_15 : decode cX31_drop 15 = .ok (.iload_n 2, 1) := by decide +kernel
theorem dX31_drop_16 : decode cX31_drop 16 = .ok (.iadd, 1) := by decide +kernel
theorem dX31_drop_17 : decode cX31_drop 17 = .ok (.istore 4, 2) := by decide +kernel
theorem dX31_drop_19 : decode cX31_drop 19 = .ok (.aload_n 0, 1) := by decide +kernel
theorem dX31_drop_20 : decode cX31_drop 20 = .ok (.getfield 7, 3) := by decide +kernel
theorem dX31_drop_23 : decode cX31_drop 23 = .ok (.iload 4, 2) := by decide +kernel
theorem dX31_drop_25 : decode cX31_drop 25 = .ok (.iaload, 1) := by decide +kernel
theorem dX31_drop_26 : decode cX31_drop 26 = .ok (.iload_n 3, 1) := by decide +kernel
theorem dX31_drop_27 : decode cX31_drop 27 = .ok (.ishr, 1) := by decide +kernel
theorem dX31_drop_28 : decode cX31_drop 28 = .ok (.iconst 1, 1) := by decide +kernel
theorem dX31_drop_29 : decode cX31_drop 29 = .ok (.iand, 1) := by decide +kernel
theorem dX31_drop_30 : decode cX31_drop 30 = .ok (.ifCond .ne 5, 3) := by decide +kernel
theorem dX31_drop_33 : decode cX31_drop 33 = .ok (.iconst 0, 1) := by decide +kernel
theorem dX31_drop_34 : decode cX31_drop 34 = .ok (.ireturn, 1) := by decide +kernel
theorem dX31_drop_35 : decode cX31_drop 35 = .ok (.aload_n 0, 1) := by decide +kernel
theorem dX31_drop_36 : decode cX31_drop 36 = .ok (.iload_n 1, 1) := by decide +kernel
theorem dX31_drop_37 : decode cX31_drop 37 = .ok (.iconst (-1), 1) := by decide +kernel
theorem dX31_drop_38 : decode cX31_drop 38 = .ok (.invokevirtual 45, 3) := by decide +kernel
theorem dX31_drop_41 : decode cX31_drop 41 = .ok (.aload_n 0, 1) := by decide +kernel
theorem dX31_drop_42 : decode cX31_drop 42 = .ok (.getfield 7, 3) := by decide +kernel
theorem dX31_drop_45 : decode cX31_drop 45 = .ok (.iload 4, 2) := by decide +kernel
theorem dX31_drop_47 : decode cX31_drop 47 = .ok (.dup2, 1) := by decide +kernel
theorem dX31_drop_48 : decode cX31_drop 48 = .ok (.iaload, 1) := by decide +kernel
theorem dX31_drop_49 : decode cX31_drop 49 = .ok (.iconst 1, 1) := by decide +kernel
theorem dX31_drop_50 : decode cX31_drop 50 = .ok (.iload_n 3, 1) := by decide +kernel
theorem dX31_drop_51 : decode cX31_drop 51 = .ok (.ishl, 1) := by decide +kernel
theorem dX31_drop_52 : decode cX31_drop 52 = .ok (.iconst (-1), 1) := by decide +kernel
theorem dX31_drop_53 : decode cX31_drop 53 = .ok (.ixor, 1) := by decide +kernel
theorem dX31_drop_54 : decode cX31_drop 54 = .ok (.iand, 1) := by decide +kernel
theorem dX31_drop_55 : decode cX31_drop 55 = .ok (.iastore, 1) := by decide +kernel
theorem dX31_drop_56 : decode cX31_drop 56 = .ok (.aload_n 0, 1) := by decide +kernel
theorem dX31_drop_57 : decode cX31_drop 57 = .ok (.dup, 1) := by decide +kernel
theorem dX31_drop_58 : decode cX31_drop 58 = .ok (.getfield 53, 3) := by decide +kernel
theorem dX31_drop_61 : decode cX31_drop 61 = .ok (.iconst 1, 1) := by decide +kernel
theorem dX31_drop_62 : decode cX31_drop 62 = .ok (.isub, 1) := by decide +kernel
theorem dX31_drop_63 : decode cX31_drop 63 = .ok (.putfield 53, 3) := by decide +kernel
theorem dX31_drop_66 : decode cX31_drop 66 = .ok (.aload_n 0, 1) := by decide +kernel
theorem dX31_drop_67 : decode cX31_drop 67 = .ok (.iload_n 1, 1) := by decide +kernel
theorem dX31_drop_68 : decode cX31_drop 68 = .ok (.iconst 1, 1) := by decide +kernel
theorem dX31_drop_69 : decode cX31_drop 69 = .ok (.invokevirtual 45, 3) := by decide +kernel
theorem dX31_drop_72 : decode cX31_drop 72 = .ok (.iconst 1, 1) := by decide +kernel
theorem dX31_drop_73 : decode cX31_drop 73 = .ok (.ireturn, 1) := by decide +kernel
abbrev cX31_above : ByteArray := prog_20_method_11_code
def yX31_above : MethodName := ⟨RX31, "above", "(II)I"⟩
theorem dX31_above_0 : decode cX31_above 0 = .ok (.iload_n 1, 1) := by decide +kernel
theorem dX31_above_1 : decode cX31_above 1 = .ok (.bipush 32, 2) := by decide +kernel
theorem dX31_above_3 : decode cX31_above 3 = .ok (.invokestatic 31, 3) := by decide +kernel
theorem dX31_above_6 : decode cX31_above 6 = .ok (.ifCond .eq 17, 3) := by decide +kernel
theorem dX31_above_9 : decode cX31_above 9 = .ok (.iload_n 2, 1) := by decide +kernel
theorem dX31_above_10 : decode cX31_above 10 = .ok (.iconst (-1), 1) := by decide +kernel
theorem dX31_above_11 : decode cX31_above 11 = .ok (.if_icmp .eq 14, 3) := by decide +kernel
theorem dX31_above_14 : decode cX31_above 14 = .ok (.iload_n 2, 1) := by decide +kernel
theorem dX31_above_15 : decode cX31_above 15 = .ok (.bipush 32, 2) := by decide +kernel
theorem dX31_above_17 : decode cX31_above 17 = .ok (.invokestatic 31, 3) := by decide +kernel
theorem dX31_above_20 : decode cX31_above 20 = .ok (.ifCond .ne 5, 3) := by decide +kernel
theorem dX31_above_23 : decode cX31_above 23 = .ok (.iconst (-1), 1) := by decide +kernel
theorem dX31_above_24 : decode cX31_above 24 = .ok (.ireturn, 1) := by decide +kernel
theorem dX31_above_25 : decode cX31_above 25 = .ok (.iload_n 2, 1) := by decide +kernel
theorem dX31_above_26 : decode cX31_above 26 = .ok (.iconst (-1), 1) := by decide +kernel
theorem dX31_above_27 : decode cX31_above 27 = .ok (.if_icmp .eq 20, 3) := by decide +kernel
theorem dX31_above_30 : decode cX31_above 30 = .ok (.aload_n 0, 1) := by decide +kernel
theorem dX31_above_31 : decode cX31_above 31 = .ok (.getfield 16, 3) := by decide +kernel
theorem dX31_above_34 : decode cX31_above 34 = .ok (.iload_n 2, 1) := by decide +kernel
theorem dX31_above_35 : decode cX31_above 35 = .ok (.iaload, 1) := by decide +kernel
theorem dX31_above_36 : decode cX31_above 36 = .ok (.iload_n 1, 1) := by decide +kernel
theorem dX31_above_37 : decode cX31_above 37 = .ok (.ishr, 1) := by decide +kernel
theorem dX31_above_38 : decode cX31_above 38 = .ok (.iconst 1, 1) := by decide +kernel
theorem dX31_above_39 : decode cX31_above 39 = .ok (.iand, 1) := by decide +kernel
theorem dX31_above_40 : decode cX31_above 40 = .ok (.iconst 1, 1) := by decide +kernel
theorem dX31_above_41 : decode cX31_above 41 = .ok (.if_icmp .ne 6, 3) := by decide +kernel
theorem dX31_above_44 : decode cX31_above 44 = .ok (.bipush (-3), 2) := by decide +kernel
theorem dX31_above_46 : decode cX31_above 46 = .ok (.ireturn, 1) := by decide +kernel
theorem dX31_above_47 : decode cX31_above 47 = .ok (.aload_n 0, 1) := by decide +kernel
theorem dX31_above_48 : decode cX31_above 48 = .ok (.getfield 13, 3) := by decide +kernel
theorem dX31_above_51 : decode cX31_above 51 = .ok (.iload_n 1, 1) := by decide +kernel
theorem dX31_above_52 : decode cX31_above 52 = .ok (.iaload, 1) := by decide +kernel
theorem dX31_above_53 : decode cX31_above 53 = .ok (.iload_n 2, 1) := by decide +kernel
theorem dX31_above_54 : decode cX31_above 54 = .ok (.if_icmp .ne 5, 3) := by decide +kernel
theorem dX31_above_57 : decode cX31_above 57 = .ok (.iconst 0, 1) := by decide +kernel
theorem dX31_above_58 : decode cX31_above 58 = .ok (.ireturn, 1) := by decide +kernel
theorem dX31_above_59 : decode cX31_above 59 = .ok (.aload_n 0, 1) := by decide +kernel
theorem dX31_above_60 : decode cX31_above 60 = .ok (.iconst (-1), 1) := by decide +kernel
theorem dX31_above_61 : decode cX31_above 61 = .ok (.invokevirtual 57, 3) := by decide +kernel
theorem dX31_above_64 : decode cX31_above 64 = .ok (.aload_n 0, 1) := by decide +kernel
theorem dX31_above_65 : decode cX31_above 65 = .ok (.getfield 13, 3) := by decide +kernel
theorem dX31_above_68 : decode cX31_above 68 = .ok (.iload_n 1, 1) := by decide +kernel
theorem dX31_above_69 : decode cX31_above 69 = .ok (.iload_n 2, 1) := by decide +kernel
theorem dX31_above_70 : decode cX31_above 70 = .ok (.iastore, 1) := by decide +kernel
theorem dX31_above_71 : decode cX31_above 71 = .ok (.iconst 0, 1) := by decide +kernel
theorem dX31_above_72 : decode cX31_above 72 = .ok (.istore_n 3, 1) := by decide +kernel
theorem dX31_above_73 : decode cX31_above 73 = .ok (.iload_n 3, 1) := by decide +kernel
theorem dX31_above_74 : decode cX31_above 74 = .ok (.bipush 32, 2) := by decide +kernel
theorem dX31_above_76 : decode cX31_above 76 = .ok (.if_icmp .ge 50, 3) := by decide +kernel
theorem dX31_above_79 : decode cX31_above 79 = .ok (.aload_n 0, 1) := by decide +kernel
theorem dX31_above_80 : decode cX31_above 80 = .ok (.getfield 16, 3) := by decide +kernel
theorem dX31_above_83 : decode cX31_above 83 = .ok (.iload_n 3, 1) := by decide +kernel
theorem dX31_above_84 : decode cX31_above 84 = .ok (.iconst 0, 1) := by decide +kernel
theorem dX31_above_85 : decode cX31_above 85 = .ok (.iastore, 1) := by decide +kernel
theorem dX31_above_86 : decode cX31_above 86 = .ok (.iload_n 3, 1) := by decide +kernel
theorem dX31_above_87 : decode cX31_above 87 = .ok (.istore 4, 2) := by decide +kernel
theorem dX31_above_89 : decode cX31_above 89 = .ok (.iload 4, 2) := by decide +kernel
theorem dX31_above_91 : decode cX31_above 91 = .ok (.iconst (-1), 1) := by decide +kernel
theorem dX31_above_92 : decode cX31_above 92 = .ok (.if_icmp .eq 28, 3) := by decide +kernel
theorem dX31_above_95 : decode cX31_above 95 = .ok (.aload_n 0, 1) := by decide +kernel
theorem dX31_above_96 : decode cX31_above 96 = .ok (.getfield 16, 3) := by decide +kernel
theorem dX31_above_99 : decode cX31_above 99 = .ok (.iload_n 3, 1) := by decide +kernel
theorem dX31_above_100 : decode cX31_above 100 = .ok (.dup2, 1) := by decide +kernel
theorem dX31_above_101 : decode cX31_above 101 = .ok (.iaload, 1) := by decide +kernel
theorem dX31_above_102 : decode cX31_above 102 = .ok (.iconst 1, 1) := by decide +kernel
theorem dX31_above_103 : decode cX31_above 103 = .ok (.iload 4, 2) := by decide +kernel
theorem dX31_above_105 : decode cX31_above 105 = .ok (.ishl, 1) := by decide +kernel
theorem dX31_above_106 : decode cX31_above 106 = .ok (.ior, 1) := by decide +kernel
theorem dX31_above_107 : decode cX31_above 107 = .ok (.iastore, 1) := by decide +kernel
theorem dX31_above_108 : decode cX31_above 108 = .ok (.aload_n 0, 1) := by decide +kernel
theorem dX31_above_109 : decode cX31_above 109 = .ok (.getfield 13, 3) := by decide +kernel
theorem dX31_above_112 : decode cX31_above 112 = .ok (.iload 4, 2) := by decide +kernel
theorem dX31_above_114 : decode cX31_above 114 = .ok (.iaload, 1) := by decide +kernel
theorem dX31_above_115 : decode cX31_above 115 = .ok (.istore 4, 2) := by decide +kernel
theorem dX31_above_117 : decode cX31_above 117 = .ok (.goto (-28), 3) := by decide +kernel
theorem dX31_above_120 : decode cX31_above 120 = .ok (.iinc 3 1, 3) := by decide +kernel
theorem dX31_above_123 : decode cX31_above 123 = .ok (.goto (-50), 3) := by decide +kernel
theorem dX31_above_126 : decode cX31_above 126 = .ok (.aload_n 0, 1) := by decide +kernel
theorem dX31_above_127 : decode cX31_above 127 = .ok (.iconst 1, 1) := by decide +kernel
theorem dX31_above_128 : decode cX31_above 128 = .ok (.invokevirtual 57, 3) := by decide +kernel
theorem dX31_above_131 : decode cX31_above 131 = .ok (.iconst 1, 1) := by decide +kernel
theorem dX31_above_132 : decode cX31_above 132 = .ok (.ireturn, 1) := by decide +kernel
abbrev cX31_weighAll : ByteArray := prog_20_method_8_code
def yX31_weighAll : MethodName := ⟨RX31, "weighAll", "(I)V"⟩
theorem dX31_weighAll_0 : decode cX31_weighAll 0 = .ok (.iconst 0, 1) := by decide +kernel
theorem dX31_weighAll_1 : decode cX31_weighAll 1 = .ok (.istore_n 2, 1) := by decide +kernel
theorem dX31_weighAll_2 : decode cX31_weighAll 2 = .ok (.iload_n 2, 1) := by decide +kernel
theorem dX31_weighAll_3 : decode cX31_weighAll 3 = .ok (.bipush 40, 2) := by decide +kernel
theorem dX31_weighAll_5 : decode cX31_weighAll 5 = .ok (.if_icmp .ge 15, 3) := by decide +kernel
theorem dX31_weighAll_8 : decode cX31_weighAll 8 = .ok (.aload_n 0, 1) := by decide +kernel
theorem dX31_weighAll_9 : decode cX31_weighAll 9 = .ok (.iload_n 2, 1) := by decide +kernel
theorem dX31_weighAll_10 : decode cX31_weighAll 10 = .ok (.iload_n 1, 1) := by decide +kernel
theorem dX31_weighAll_11 : decode cX31_weighAll 11 = .ok (.invokevirtual 45, 3) := by decide +kernel
theorem dX31_weighAll_14 : decode cX31_weighAll 14 = .ok (.iinc 2 1, 3) := by decide +kernel
theorem dX31_weighAll_17 : decode cX31_weighAll 17 = .ok (.goto (-15), 3) := by decide +kernel
theorem dX31_weighAll_20 : decode cX31_weighAll 20 = .ok (.return_, 1) := by decide +kernel
abbrev cX31_kept : ByteArray := prog_20_method_13_code
def yX31_kept : MethodName := ⟨RX31, "kept", "()I"⟩
theorem dX31_kept_0 : decode cX31_kept 0 = .ok (.iconst 0, 1) := by decide +kernel
theorem dX31_kept_1 : decode cX31_kept 1 = .ok (.istore_n 1, 1) := by decide +kernel
theorem dX31_kept_2 : decode cX31_kept 2 = .ok (.iconst 0, 1) := by decide +kernel
theorem dX31_kept_3 : decode cX31_kept 3 = .ok (.istore_n 2, 1) := by decide +kernel
theorem dX31_kept_4 : decode cX31_kept 4 = .ok (.iload_n 2, 1) := by decide +kernel
theorem dX31_kept_5 : decode cX31_kept 5 = .ok (.bipush 40, 2) := by decide +kernel
theorem dX31_kept_7 : decode cX31_kept 7 = .ok (.if_icmp .ge 26, 3) := by decide +kernel
theorem dX31_kept_10 : decode cX31_kept 10 = .ok (.iload_n 1, 1) := by decide +kernel
theorem dX31_kept_11 : decode cX31_kept 11 = .ok (.aload_n 0, 1) := by decide +kernel
theorem dX31_kept_12 : decode cX31_kept 12 = .ok (.getfield 22, 3) := by decide +kernel
theorem dX31_kept_15 : decode cX31_kept 15 = .ok (.iload_n 2, 1) := by decide +kernel
theorem dX31_kept_16 : decode cX31_kept 16 = .ok (.iaload, 1) := by decide +kernel
theorem dX31_kept_17 : decode cX31_kept 17 = .ok (.ifCond .ne 7, 3) := by decide +kernel
theorem dX31_kept_20 : decode cX31_kept 20 = .ok (.iconst 1, 1) := by decide +kernel
theorem dX31_kept_21 : decode cX31_kept 21 = .ok (.goto 4, 3) := by decide +kernel
theorem dX31_kept_24 : decode cX31_kept 24 = .ok (.iconst 0, 1) := by decide +kernel
theorem dX31_kept_25 : decode cX31_kept 25 = .ok (.iadd, 1) := by decide +kernel
theorem dX31_kept_26 : decode cX31_kept 26 = .ok (.istore_n 1, 1) := by decide +kernel
theorem dX31_kept_27 : decode cX31_kept 27 = .ok (.iinc 2 1, 3) := by decide +kernel
theorem dX31_kept_30 : decode cX31_kept 30 = .ok (.goto (-26), 3) := by decide +kernel
theorem dX31_kept_33 : decode cX31_kept 33 = .ok (.iload_n 1, 1) := by decide +kernel
theorem dX31_kept_34 : decode cX31_kept 34 = .ok (.ireturn, 1) := by decide +kernel
abbrev cX31_choose : ByteArray := prog_20_method_12_code
def yX31_choose : MethodName := ⟨RX31, "choose", "(IIZ)I"⟩
theorem dX31_choose_0 : decode cX31_choose 0 = .ok (.iload_n 1, 1) := by decide +kernel
theorem dX31_choose_1 : decode cX31_choose 1 = .ok (.bipush 8, 2) := by decide +kernel
theorem dX31_choose_3 : decode cX31_choose 3 = .ok (.invokestatic 31, 3) := by decide +kernel
theorem dX31_choose_6 : decode cX31_choose 6 = .ok (.ifCond .eq 12, 3) := by decide +kernel
theorem dX31_choose_9 : decode cX31_choose 9 = .ok (.iload_n 2, 1) := by decide +kernel
theorem dX31_choose_10 : decode cX31_choose 10 = .ok (.bipush 32, 2) := by decide +kernel
theorem dX31_choose_12 : decode cX31_choose 12 = .ok (.invokestatic 31, 3) := by decide +kernel
theorem dX31_choose_15 : decode cX31_choose 15 = .ok (.ifCond .ne 5, 3) := by decide +kernel
theorem dX31_choose_18 : decode cX31_choose 18 = .ok (.iconst (-1), 1) := by decide +kernel
theorem dX31_choose_19 : decode cX31_choose 19 = .ok (.ireturn, 1) := by decide +kernel
theorem dX31_choose_20 : decode cX31_choose 20 = .ok (.aload_n 0, 1) := by decide +kernel
theorem dX31_choose_21 : decode cX31_choose 21 = .ok (.iconst (-1), 1) := by decide +kernel
theorem dX31_choose_22 : decode cX31_choose 22 = .ok (.invokevirtual 57, 3) := by decide +kernel
theorem dX31_choose_25 : decode cX31_choose 25 = .ok (.iload_n 3, 1) := by decide +kernel
theorem dX31_choose_26 : decode cX31_choose 26 = .ok (.ifCond .eq 18, 3) := by decide +kernel
theorem dX31_choose_29 : decode cX31_choose 29 = .ok (.aload_n 0, 1) := by decide +kernel
theorem dX31_choose_30 : decode cX31_choose 30 = .ok (.getfield 19, 3) := by decide +kernel
theorem dX31_choose_33 : decode cX31_choose 33 = .ok (.iload_n 1, 1) := by decide +kernel
theorem dX31_choose_34 : decode cX31_choose 34 = .ok (.dup2, 1) := by decide +kernel
theorem dX31_choose_35 : decode cX31_choose 35 = .ok (.iaload, 1) := by decide +kernel
theorem dX31_choose_36 : decode cX31_choose 36 = .ok (.iconst 1, 1) := by decide +kernel
theorem dX31_choose_37 : decode cX31_choose 37 = .ok (.iload_n 2, 1) := by decide +kernel
theorem dX31_choose_38 : decode cX31_choose 38 = .ok (.ishl, 1) := by decide +kernel
theorem dX31_choose_39 : decode cX31_choose 39 = .ok (.ior, 1) := by decide +kernel
theorem dX31_choose_40 : decode cX31_choose 40 = .ok (.iastore, 1) := by decide +kernel
theorem dX31_choose_41 : decode cX31_choose 41 = .ok (.goto 17, 3) := by decide +kernel
theorem dX31_choose_44 : decode cX31_choose 44 = .ok (.aload_n 0, 1) := by decide +kernel
theorem dX31_choose_45 : decode cX31_choose 45 = .ok (.getfield 19, 3) := by decide +kernel
theorem dX31_choose_48 : decode cX31_choose 48 = .ok (.iload_n 1, 1) := by decide +kernel
theorem dX31_choose_49 : decode cX31_choose 49 = .ok (.dup2, 1) := by decide +kernel
theorem dX31_choose_50 : decode cX31_choose 50 = .ok (.iaload, 1) := by decide +kernel
theorem dX31_choose_51 : decode cX31_choose 51 = .ok (.iconst 1, 1) := by decide +kernel
theorem dX31_choose_52 : decode cX31_choose 52 = .ok (.iload_n 2, 1) := by decide +kernel
theorem dX31_choose_53 : decode cX31_choose 53 = .ok (.ishl, 1) := by decide +kernel
theorem dX31_choose_54 : decode cX31_choose 54 = .ok (.iconst (-1), 1) := by decide +kernel
theorem dX31_choose_55 : decode cX31_choose 55 = .ok (.ixor, 1) := by decide +kernel
theorem dX31_choose_56 : decode cX31_choose 56 = .ok (.iand, 1) := by decide +kernel
theorem dX31_choose_57 : decode cX31_choose 57 = .ok (.iastore, 1) := by decide +kernel
theorem dX31_choose_58 : decode cX31_choose 58 = .ok (.aload_n 0, 1) := by decide +kernel
theorem dX31_choose_59 : decode cX31_choose 59 = .ok (.iconst 1, 1) := by decide +kernel
theorem dX31_choose_60 : decode cX31_choose 60 = .ok (.invokevirtual 57, 3) := by decide +kernel
theorem dX31_choose_63 : decode cX31_choose 63 = .ok (.aload_n 0, 1) := by decide +kernel
theorem dX31_choose_64 : decode cX31_choose 64 = .ok (.invokevirtual 61, 3) := by decide +kernel
theorem dX31_choose_67 : decode cX31_choose 67 = .ok (.ireturn, 1) := by decide +kernel
abbrev cX31_isKept : ByteArray := prog_20_method_14_code
def yX31_isKept : MethodName := ⟨RX31, "isKept", "(I)I"⟩
theorem dX31_isKept_0 : decode cX31_isKept 0 = .ok (.iload_n 1, 1) := by decide +kernel
theorem dX31_isKept_1 : decode cX31_isKept 1 = .ok (.bipush 40, 2) := by decide +kernel
theorem dX31_isKept_3 : decode cX31_isKept 3 = .ok (.invokestatic 31, 3) := by decide +kernel
theorem dX31_isKept_6 : decode cX31_isKept 6 = .ok (.ifCond .ne 7, 3) := by decide +kernel
theorem dX31_isKept_9 : decode cX31_isKept 9 = .ok (.iconst (-1), 1) := by decide +kernel
theorem dX31_isKept_10 : decode cX31_isKept 10 = .ok (.goto 17, 3) := by decide +kernel
theorem dX31_isKept_13 : decode cX31_isKept 13 = .ok (.aload_n 0, 1) := by decide +kernel
theorem dX31_isKept_14 : decode cX31_isKept 14 = .ok (.getfield 22, 3) := by decide +kernel
theorem dX31_isKept_17 : decode cX31_isKept 17 = .ok (.iload_n 1, 1) := by decide +kernel
theorem dX31_isKept_18 : decode cX31_isKept 18 = .ok (.iaload, 1) := by decide +kernel
theorem dX31_isKept_19 : decode cX31_isKept 19 = .ok (.ifCond .ne 7, 3) := by decide +kernel
theorem dX31_isKept_22 : decode cX31_isKept 22 = .ok (.iconst 1, 1) := by decide +kernel
theorem dX31_isKept_23 : decode cX31_isKept 23 = .ok (.goto 4, 3) := by decide +kernel
theorem dX31_isKept_26 : decode cX31_isKept 26 = .ok (.iconst 0, 1) := by decide +kernel
theorem dX31_isKept_27 : decode cX31_isKept 27 = .ok (.ireturn, 1) := by decide +kernel
abbrev cX31_facet : ByteArray := prog_20_method_15_code
def yX31_facet : MethodName := ⟨RX31, "facet", "(II)I"⟩
theorem dX31_facet_0 : decode cX31_facet 0 = .ok (.iload_n 1, 1) := by decide +kernel
theorem dX31_facet_1 : decode cX31_facet 1 = .ok (.bipush 8, 2) := by decide +kernel
theorem dX31_facet_3 : decode cX31_facet 3 = .ok (.invokestatic 31, 3) := by decide +kernel
theorem dX31_facet_6 : decode cX31_facet 6 = .ok (.ifCond .eq 26, 3) := by decide +kernel
theorem dX31_facet_9 : decode cX31_facet 9 = .ok (.iload_n 2, 1) := by decide +kernel
theorem dX31_facet_10 : decode cX31_facet 10 = .ok (.bipush 32, 2) := by decide +kernel
theorem dX31_facet_12 : decode cX31_facet 12 = .ok (.invokestatic 31, 3) := by decide +kernel
theorem dX31_facet_15 : decode cX31_facet 15 = .ok (.ifCond .eq 17, 3) := by decide +kernel
theorem dX31_facet_18 : decode cX31_facet 18 = .ok (.aload_n 0, 1) := by decide +kernel
theorem dX31_facet_19 : decode cX31_facet 19 = .ok (.getfield 25, 3) := by decide +kernel
theorem dX31_facet_22 : decode cX31_facet 22 = .ok (.bipush 32, 2) := by decide +kernel
theorem dX31_facet_24 : decode cX31_facet 24 = .ok (.iload_n 1, 1) := by decide +kernel
theorem dX31_facet_25 : decode cX31_facet 25 = .ok (.imul, 1) := by decide +kernel
theorem dX31_facet_26 : decode cX31_facet 26 = .ok (.iload_n 2, 1) := by decide +kernel
theorem dX31_facet_27 : decode cX31_facet 27 = .ok (.iadd, 1) := by decide +kernel
theorem dX31_facet_28 : decode cX31_facet 28 = .ok (.iaload, 1) := by decide +kernel
theorem dX31_facet_29 : decode cX31_facet 29 = .ok (.goto 4, 3) := by decide +kernel
theorem dX31_facet_32 : decode cX31_facet 32 = .ok (.iconst (-1), 1) := by decide +kernel
theorem dX31_facet_33 : decode cX31_facet 33 = .ok (.ireturn, 1) := by decide +kernel
abbrev cX31_top : ByteArray := prog_20_method_16_code
def yX31_top : MethodName := ⟨RX31, "top", "(II)I"⟩
theorem dX31_top_0 : decode cX31_top 0 = .ok (.iload_n 1, 1) := by decide +kernel
theorem dX31_top_1 : decode cX31_top 1 = .ok (.bipush 8, 2) := by decide +kernel
theorem dX31_top_3 : decode cX31_top 3 = .ok (.invokestatic 31, 3) := by decide +kernel
theorem dX31_top_6 : decode cX31_top 6 = .ok (.ifCond .eq 12, 3) := by decide +kernel
theorem dX31_top_9 : decode cX31_top 9 = .ok (.iload_n 2, 1) := by decide +kernel
theorem dX31_top_10 : decode cX31_top 10 = .ok (.bipush 32, 2) := by decide +kernel
theorem dX31_top_12 : decode cX31_top 12 = .ok (.invokestatic 31, 3) := by decide +kernel
theorem dX31_top_15 : decode cX31_top 15 = .ok (.ifCond .ne 5, 3) := by decide +kernel
theorem dX31_top_18 : decode cX31_top 18 = .ok (.iconst (-1), 1) := by decide +kernel
theorem dX31_top_19 : decode cX31_top 19 = .ok (.ireturn, 1) := by decide +kernel
theorem dX31_top_20 : decode cX31_top 20 = .ok (.iconst 0, 1) := by decide +kernel
theorem dX31_top_21 : decode cX31_top 21 = .ok (.istore_n 3, 1) := by decide +kernel
theorem dX31_top_22 : decode cX31_top 22 = .ok (.iconst (-1), 1) := by decide +kernel
theorem dX31_top_23 : decode cX31_top 23 = .ok (.istore 4, 2) := by decide +kernel
theorem dX31_top_25 : decode cX31_top 25 = .ok (.iconst 0, 1) := by decide +kernel
theorem dX31_top_26 : decode cX31_top 26 = .ok (.istore 5, 2) := by decide +kernel
theorem dX31_top_28 : decode cX31_top 28 = .ok (.iload 5, 2) := by decide +kernel
theorem dX31_top_30 : decode cX31_top 30 = .ok (.iload_n 2, 1) := by decide +kernel
theorem dX31_top_31 : decode cX31_top 31 = .ok (.if_icmp .gt 101, 3) := by decide +kernel
theorem dX31_top_34 : decode cX31_top 34 = .ok (.iconst (-1), 1) := by decide +kernel
theorem dX31_top_35 : decode cX31_top 35 = .ok (.istore 4, 2) := by decide +kernel
theorem dX31_top_37 : decode cX31_top 37 = .ok (.iconst 0, 1) := by decide +kernel
theorem dX31_top_38 : decode cX31_top 38 = .ok (.istore 6, 2) := by decide +kernel
theorem dX31_top_40 : decode cX31_top 40 = .ok (.iload 6, 2) := by decide +kernel
theorem dX31_top_42 : decode cX31_top 42 = .ok (.bipush 32, 2) := by decide +kernel
theorem dX31_top_44 : decode cX31_top 44 = .ok (.if_icmp .ge 68, 3) := by decide +kernel
theorem dX31_top_47 : decode cX31_top 47 = .ok (.iload_n 3, 1) := by decide +kernel
theorem dX31_top_48 : decode cX31_top 48 = .ok (.iload 6, 2) := by decide +kernel
theorem dX31_top_50 : decode cX31_top 50 = .ok (.ishr, 1) := by decide +kernel
theorem dX31_top_51 : decode cX31_top 51 = .ok (.iconst 1, 1) := by decide +kernel
theorem dX31_top_52 : decode cX31_top 52 = .ok (.iand, 1) := by decide +kernel
theorem dX31_top_53 : decode cX31_top 53 = .ok (.iconst 1, 1) := by decide +kernel
theorem dX31_top_54 : decode cX31_top 54 = .ok (.if_icmp .ne 7, 3) := by decide +kernel
theorem dX31_top_57 : decode cX31_top 57 = .ok (.iconst 0, 1) := by decide +kernel
theorem dX31_top_58 : decode cX31_top 58 = .ok (.goto 15, 3) := by decide +kernel
theorem dX31_top_61 : decode cX31_top 61 = .ok (.aload_n 0, 1) := by decide +kernel
theorem dX31_top_62 : decode cX31_top 62 = .ok (.getfield 25, 3) := by decide +kernel
theorem dX31_top_65 : decode cX31_top 65 = .ok (.bipush 32, 2) := by decide +kernel
theorem dX31_top_67 : decode cX31_top 67 = .ok (.iload_n 1, 1) := by decide +kernel
theorem dX31_top_68 : decode cX31_top 68 = .ok (.imul, 1) := by decide +kernel
theorem dX31_top_69 : decode cX31_top 69 = .ok (.iload 6, 2) := by decide +kernel
theorem dX31_top_71 : decode cX31_top 71 = .ok (.iadd, 1) := by decide +kernel
theorem dX31_top_72 : decode cX31_top 72 = .ok (.iaload, 1) := by decide +kernel
theorem dX31_top_73 : decode cX31_top 73 = .ok (.istore 7, 2) := by decide +kernel
theorem dX31_top_75 : decode cX31_top 75 = .ok (.iload 7, 2) := by decide +kernel
theorem dX31_top_77 : decode cX31_top 77 = .ok (.ifCond .le 29, 3) := by decide +kernel
theorem dX31_top_80 : decode cX31_top 80 = .ok (.iload 4, 2) := by decide +kernel
theorem dX31_top_82 : decode cX31_top 82 = .ok (.ifCond .lt 20, 3) := by decide +kernel
theorem dX31_top_85 : decode cX31_top 85 = .ok (.iload 7, 2) := by decide +kernel
theorem dX31_top_87 : decode cX31_top 87 = .ok (.aload_n 0, 1) := by decide +kernel
theorem dX31_top_88 : decode cX31_top 88 = .ok (.getfield 25, 3) := by decide +kernel
theorem dX31_top_91 : decode cX31_top 91 = .ok (.bipush 32, 2) := by decide +kernel
theorem dX31_top_93 : decode cX31_top 93 = .ok (.iload_n 1, 1) := by decide +kernel
theorem dX31_top_94 : decode cX31_top 94 = .ok (.imul, 1) := by decide +kernel
theorem dX31_top_95 : decode cX31_top 95 = .ok (.iload 4, 2) := by decide +kernel
theorem dX31_top_97 : decode cX31_top 97 = .ok (.iadd, 1) := by decide +kernel
theorem dX31_top_98 : decode cX31_top 98 = .ok (.iaload, 1) := by decide +kernel
theorem dX31_top_99 : decode cX31_top 99 = .ok (.if_icmp .le 7, 3) := by decide +kernel
theorem dX31_top_102 : decode cX31_top 102 = .ok (.iload 6, 2) := by decide +kernel
theorem dX31_top_104 : decode cX31_top 104 = .ok (.istore 4, 2) := by decide +kernel
theorem dX31_top_106 : decode cX31_top 106 = .ok (.iinc 6 1, 3) := by decide +kernel
theorem dX31_top_109 : decode cX31_top 109 = .ok (.goto (-69), 3) := by decide +kernel
theorem dX31_top_112 : decode cX31_top 112 = .ok (.iload 4, 2) := by decide +kernel
theorem dX31_top_114 : decode cX31_top 114 = .ok (.ifCond .ge 5, 3) := by decide +kernel
theorem dX31_top_117 : decode cX31_top 117 = .ok (.iconst (-1), 1) := by decide +kernel
theorem dX31_top_118 : decode cX31_top 118 = .ok (.ireturn, 1) := by decide +kernel
theorem dX31_top_119 : decode cX31_top 119 = .ok (.iload_n 3, 1) := by decide +kernel
theorem dX31_top_120 : decode cX31_top 120 = .ok (.iconst 1, 1) := by decide +kernel
theorem dX31_top_121 : decode cX31_top 121 = .ok (.iload 4, 2) := by decide +kernel
theorem dX31_top_123 : decode cX31_top 123 = .ok (.ishl, 1) := by decide +kernel
theorem dX31_top_124 : decode cX31_top 124 = .ok (.ior, 1) := by decide +kernel
theorem dX31_top_125 : decode cX31_top 125 = .ok (.istore_n 3, 1) := by decide +kernel
theorem dX31_top_126 : decode cX31_top 126 = .ok (.iinc 5 1, 3) := by decide +kernel
theorem dX31_top_129 : decode cX31_top 129 = .ok (.goto (-101), 3) := by decide +kernel
theorem dX31_top_132 : decode cX31_top 132 = .ok (.iload 4, 2) := by decide +kernel
theorem dX31_top_134 : decode cX31_top 134 = .ok (.ireturn, 1) := by decide +kernel
abbrev cX31_range : ByteArray := prog_20_method_17_code
def yX31_range : MethodName := ⟨RX31, "range", "(III)I"⟩
theorem dX31_range_0 : decode cX31_range 0 = .ok (.iload_n 1, 1) := by decide +kernel
theorem dX31_range_1 : decode cX31_range 1 = .ok (.bipush 8, 2) := by decide +kernel
theorem dX31_range_3 : decode cX31_range 3 = .ok (.invokestatic 31, 3) := by decide +kernel
theorem dX31_range_6 : decode cX31_range 6 = .ok (.ifCond .ne 5, 3) := by decide +kernel
theorem dX31_range_9 : decode cX31_range 9 = .ok (.iconst (-1), 1) := by decide +kernel
theorem dX31_range_10 : decode cX31_range 10 = .ok (.ireturn, 1) := by decide +kernel
theorem dX31_range_11 : decode cX31_range 11 = .ok (.iconst 0, 1) := by decide +kernel
theorem dX31_range_12 : decode cX31_range 12 = .ok (.istore 4, 2) := by decide +kernel
theorem dX31_range_14 : decode cX31_range 14 = .ok (.iconst 0, 1) := by decide +kernel
theorem dX31_range_15 : decode cX31_range 15 = .ok (.istore 5, 2) := by decide +kernel
theorem dX31_range_17 : decode cX31_range 17 = .ok (.iload 5, 2) := by decide +kernel
theorem dX31_range_19 : decode cX31_range 19 = .ok (.bipush 32, 2) := by decide +kernel
theorem dX31_range_21 : decode cX31_range 21 = .ok (.if_icmp .ge 30, 3) := by decide +kernel
theorem dX31_range_24 : decode cX31_range 24 = .ok (.iload 5, 2) := by decide +kernel
theorem dX31_range_26 : decode cX31_range 26 = .ok (.iload_n 2, 1) := by decide +kernel
theorem dX31_range_27 : decode cX31_range 27 = .ok (.if_icmp .lt 18, 3) := by decide +kernel
theorem dX31_range_30 : decode cX31_range 30 = .ok (.iload 5, 2) := by decide +kernel
theorem dX31_range_32 : decode cX31_range 32 = .ok (.iload_n 3, 1) := by decide +kernel
theorem dX31_range_33 : decode cX31_range 33 = .ok (.if_icmp .gt 12, 3) := by decide +kernel
theorem dX31_range_36 : decode cX31_range 36 = .ok (.iload 4, 2) := by decide +kernel
theorem dX31_range_38 : decode cX31_range 38 = .ok (.iconst 1, 1) := by decide +kernel
theorem dX31_range_39 : decode cX31_range 39 = .ok (.iload 5, 2) := by decide +kernel
theorem dX31_range_41 : decode cX31_range 41 = .ok (.ishl, 1) := by decide +kernel
theorem dX31_range_42 : decode cX31_range 42 = .ok (.ior, 1) := by decide +kernel
theorem dX31_range_43 : decode cX31_range 43 = .ok (.istore 4, 2) := by decide +kernel
theorem dX31_range_45 : decode cX31_range 45 = .ok (.iinc 5 1, 3) := by decide +kernel
theorem dX31_range_48 : decode cX31_range 48 = .ok (.goto (-31), 3) := by decide +kernel
theorem dX31_range_51 : decode cX31_range 51 = .ok (.iconst 0, 1) := by decide +kernel
theorem dX31_range_52 : decode cX31_range 52 = .ok (.istore 5, 2) := by decide +kernel
theorem dX31_range_54 : decode cX31_range 54 = .ok (.iconst 0, 1) := by decide +kernel
theorem dX31_range_55 : decode cX31_range 55 = .ok (.istore 6, 2) := by decide +kernel
theorem dX31_range_57 : decode cX31_range 57 = .ok (.iload 6, 2) := by decide +kernel
theorem dX31_range_59 : decode cX31_range 59 = .ok (.bipush 40, 2) := by decide +kernel
theorem dX31_range_61 : decode cX31_range 61 = .ok (.if_icmp .ge 42, 3) := by decide +kernel
theorem dX31_range_64 : decode cX31_range 64 = .ok (.iload 5, 2) := by decide +kernel
theorem dX31_range_66 : decode cX31_range 66 = .ok (.aload_n 0, 1) := by decide +kernel
theorem dX31_range_67 : decode cX31_range 67 = .ok (.iload 6, 2) := by decide +kernel
theorem dX31_range_69 : decode cX31_range 69 = .ok (.iload_n 1, 1) := by decide +kernel
theorem dX31_range_70 : decode cX31_range 70 = .ok (.invokevirtual 42, 3) := by decide +kernel
theorem dX31_range_73 : decode cX31_range 73 = .ok (.ifCond .eq 20, 3) := by decide +kernel
theorem dX31_range_76 : decode cX31_range 76 = .ok (.aload_n 0, 1) := by decide +kernel
theorem dX31_range_77 : decode cX31_range 77 = .ok (.iload 6, 2) := by decide +kernel
theorem dX31_range_79 : decode cX31_range 79 = .ok (.iload_n 1, 1) := by decide +kernel
theorem dX31_range_80 : decode cX31_range 80 = .ok (.invokevirtual 35, 3) := by decide +kernel
theorem dX31_range_83 : decode cX31_range 83 = .ok (.iload 4, 2) := by decide +kernel
theorem dX31_range_85 : decode cX31_range 85 = .ok (.iand, 1) := by decide +kernel
theorem dX31_range_86 : decode cX31_range 86 = .ok (.ifCond .eq 7, 3) := by decide +kernel
theorem dX31_range_89 : decode cX31_range 89 = .ok (.iconst 1, 1) := by decide +kernel
theorem dX31_range_90 : decode cX31_range 90 = .ok (.goto 4, 3) := by decide +kernel
theorem dX31_range_93 : decode cX31_range 93 = .ok (.iconst 0, 1) := by decide +kernel
theorem dX31_range_94 : decode cX31_range 94 = .ok (.iadd, 1) := by decide +kernel
theorem dX31_range_95 : decode cX31_range 95 = .ok (.istore 5, 2) := by decide +kernel
theorem dX31_range_97 : decode cX31_range 97 = .ok (.iinc 6 1, 3) := by decide +kernel
theorem dX31_range_100 : decode cX31_range 100 = .ok (.goto (-43), 3) := by decide +kernel
theorem dX31_range_103 : decode cX31_range 103 = .ok (.iload 5, 2) := by decide +kernel
theorem dX31_range_105 : decode cX31_range 105 = .ok (.ireturn, 1) := by decide +kernel
abbrev cX31_sum : ByteArray := prog_20_method_18_code
def yX31_sum : MethodName := ⟨RX31, "sum", "(III)I"⟩
theorem dX31_sum_0 : decode cX31_sum 0 = .ok (.iload_n 1, 1) := by decide +kernel
theorem dX31_sum_1 : decode cX31_sum 1 = .ok (.bipush 8, 2) := by decide +kernel
theorem dX31_sum_3 : decode cX31_sum 3 = .ok (.invokestatic 31, 3) := by decide +kernel
theorem dX31_sum_6 : decode cX31_sum 6 = .ok (.ifCond .eq 21, 3) := by decide +kernel
theorem dX31_sum_9 : decode cX31_sum 9 = .ok (.iload_n 2, 1) := by decide +kernel
theorem dX31_sum_10 : decode cX31_sum 10 = .ok (.bipush 32, 2) := by decide +kernel
theorem dX31_sum_12 : decode cX31_sum 12 = .ok (.invokestatic 31, 3) := by decide +kernel
theorem dX31_sum_15 : decode cX31_sum 15 = .ok (.ifCond .eq 12, 3) := by decide +kernel
theorem dX31_sum_18 : decode cX31_sum 18 = .ok (.iload_n 3, 1) := by decide +kernel
theorem dX31_sum_19 : decode cX31_sum 19 = .ok (.bipush 8, 2) := by decide +kernel
theorem dX31_sum_21 : decode cX31_sum 21 = .ok (.invokestatic 31, 3) := by decide +kernel
theorem dX31_sum_24 : decode cX31_sum 24 = .ok (.ifCond .ne 5, 3) := by decide +kernel
theorem dX31_sum_27 : decode cX31_sum 27 = .ok (.iconst (-1), 1) := by decide +kernel
theorem dX31_sum_28 : decode cX31_sum 28 = .ok (.ireturn, 1) := by decide +kernel
theorem dX31_sum_29 : decode cX31_sum 29 = .ok (.iconst 0, 1) := by decide +kernel
theorem dX31_sum_30 : decode cX31_sum 30 = .ok (.istore 4, 2) := by decide +kernel
theorem dX31_sum_32 : decode cX31_sum 32 = .ok (.iconst 0, 1) := by decide +kernel
theorem dX31_sum_33 : decode cX31_sum 33 = .ok (.istore 5, 2) := by decide +kernel
theorem dX31_sum_35 : decode cX31_sum 35 = .ok (.iload 5, 2) := by decide +kernel
theorem dX31_sum_37 : decode cX31_sum 37 = .ok (.bipush 40, 2) := by decide +kernel
theorem dX31_sum_39 : decode cX31_sum 39 = .ok (.if_icmp .ge 76, 3) := by decide +kernel
theorem dX31_sum_42 : decode cX31_sum 42 = .ok (.aload_n 0, 1) := by decide +kernel
theorem dX31_sum_43 : decode cX31_sum 43 = .ok (.getfield 22, 3) := by decide +kernel
theorem dX31_sum_46 : decode cX31_sum 46 = .ok (.iload 5, 2) := by decide +kernel
theorem dX31_sum_48 : decode cX31_sum 48 = .ok (.iaload, 1) := by decide +kernel
theorem dX31_sum_49 : decode cX31_sum 49 = .ok (.ifCond .gt 60, 3) := by decide +kernel
theorem dX31_sum_52 : decode cX31_sum 52 = .ok (.aload_n 0, 1) := by decide +kernel
theorem dX31_sum_53 : decode cX31_sum 53 = .ok (.iload 5, 2) := by decide +kernel
theorem dX31_sum_55 : decode cX31_sum 55 = .ok (.iload_n 1, 1) := by decide +kernel
theorem dX31_sum_56 : decode cX31_sum 56 = .ok (.invokevirtual 35, 3) := by decide +kernel
theorem dX31_sum_59 : decode cX31_sum 59 = .ok (.iload_n 2, 1) := by decide +kernel
theorem dX31_sum_60 : decode cX31_sum 60 = .ok (.ishr, 1) := by decide +kernel
theorem dX31_sum_61 : decode cX31_sum 61 = .ok (.iconst 1, 1) := by decide +kernel
theorem dX31_sum_62 : decode cX31_sum 62 = .ok (.iand, 1) := by decide +kernel
theorem dX31_sum_63 : decode cX31_sum 63 = .ok (.ifCond .ne 6, 3) := by decide +kernel
theorem dX31_sum_66 : decode cX31_sum 66 = .ok (.goto 43, 3) := by decide +kernel
theorem dX31_sum_69 : decode cX31_sum 69 = .ok (.aload_n 0, 1) := by decide +kernel
theorem dX31_sum_70 : decode cX31_sum 70 = .ok (.iload 5, 2) := by decide +kernel
theorem dX31_sum_72 : decode cX31_sum 72 = .ok (.iload_n 3, 1) := by decide +kernel
theorem dX31_sum_73 : decode cX31_sum 73 = .ok (.invokevirtual 35, 3) := by decide +kernel
theorem dX31_sum_76 : decode cX31_sum 76 = .ok (.istore 6, 2) := by decide +kernel
theorem dX31_sum_78 : decode cX31_sum 78 = .ok (.iconst 0, 1) := by decide +kernel
theorem dX31_sum_79 : decode cX31_sum 79 = .ok (.istore 7, 2) := by decide +kernel
theorem dX31_sum_81 : decode cX31_sum 81 = .ok (.iload 7, 2) := by decide +kernel
theorem dX31_sum_83 : decode cX31_sum 83 = .ok (.bipush 32, 2) := by decide +kernel
theorem dX31_sum_85 : decode cX31_sum 85 = .ok (.if_icmp .ge 24, 3) := by decide +kernel
theorem dX31_sum_88 : decode cX31_sum 88 = .ok (.iload 4, 2) := by decide +kernel
theorem dX31_sum_90 : decode cX31_sum 90 = .ok (.iload 6, 2) := by decide +kernel
theorem dX31_sum_92 : decode cX31_sum 92 = .ok (.iload 7, 2) := by decide +kernel
theorem dX31_sum_94 : decode cX31_sum 94 = .ok (.ishr, 1) := by decide +kernel
theorem dX31_sum_95 : decode cX31_sum 95 = .ok (.iconst 1, 1) := by decide +kernel
theorem dX31_sum_96 : decode cX31_sum 96 = .ok (.iand, 1) := by decide +kernel
theorem dX31_sum_97 : decode cX31_sum 97 = .ok (.iload 7, 2) := by decide +kernel
theorem dX31_sum_99 : decode cX31_sum 99 = .ok (.imul, 1) := by decide +kernel
theorem dX31_sum_100 : decode cX31_sum 100 = .ok (.iadd, 1) := by decide +kernel
theorem dX31_sum_101 : decode cX31_sum 101 = .ok (.istore 4, 2) := by decide +kernel
theorem dX31_sum_103 : decode cX31_sum 103 = .ok (.iinc 7 1, 3) := by decide +kernel
theorem dX31_sum_106 : decode cX31_sum 106 = .ok (.goto (-25), 3) := by decide +kernel
theorem dX31_sum_109 : decode cX31_sum 109 = .ok (.iinc 5 1, 3) := by decide +kernel
theorem dX31_sum_112 : decode cX31_sum 112 = .ok (.goto (-77), 3) := by decide +kernel
theorem dX31_sum_115 : decode cX31_sum 115 = .ok (.iload 4, 2) := by decide +kernel
theorem dX31_sum_117 : decode cX31_sum 117 = .ok (.ireturn, 1) := by decide +kernel
abbrev cX31_changed : ByteArray := prog_20_method_21_code
def yX31_changed : MethodName := ⟨RX31, "changed", "()I"⟩
theorem dX31_changed_0 : decode cX31_changed 0 = .ok (.iconst 0, 1) := by decide +kernel
theorem dX31_changed_1 : decode cX31_changed 1 = .ok (.istore_n 1, 1) := by decide +kernel
theorem dX31_changed_2 : decode cX31_changed 2 = .ok (.iconst 0, 1) := by decide +kernel
theorem dX31_changed_3 : decode cX31_changed 3 = .ok (.istore_n 2, 1) := by decide +kernel
theorem dX31_changed_4 : decode cX31_changed 4 = .ok (.iload_n 2, 1) := by decide +kernel
theorem dX31_changed_5 : decode cX31_changed 5 = .ok (.aload_n 0, 1) := by decide +kernel
theorem dX31_changed_6 : decode cX31_changed 6 = .ok (.getfield 25, 3) := by decide +kernel
theorem dX31_changed_9 : decode cX31_changed 9 = .ok (.arraylength, 1) := by decide +kernel
theorem dX31_changed_10 : decode cX31_changed 10 = .ok (.if_icmp .ge 44, 3) := by decide +kernel
theorem dX31_changed_13 : decode cX31_changed 13 = .ok (.iload_n 1, 1) := by decide +kernel
theorem dX31_changed_14 : decode cX31_changed 14 = .ok (.aload_n 0, 1) := by decide +kernel
theorem dX31_changed_15 : decode cX31_changed 15 = .ok (.getfield 25, 3) := by decide +kernel
theorem dX31_changed_18 : decode cX31_changed 18 = .ok (.iload_n 2, 1) := by decide +kernel
theorem dX31_changed_19 : decode cX31_changed 19 = .ok (.iaload, 1) := by decide +kernel
theorem dX31_changed_20 : decode cX31_changed 20 = .ok (.aload_n 0, 1) := by decide +kernel
theorem dX31_changed_21 : decode cX31_changed 21 = .ok (.getfield 28, 3) := by decide +kernel
theorem dX31_changed_24 : decode cX31_changed 24 = .ok (.iload_n 2, 1) := by decide +kernel
theorem dX31_changed_25 : decode cX31_changed 25 = .ok (.iaload, 1) := by decide +kernel
theorem dX31_changed_26 : decode cX31_changed 26 = .ok (.if_icmp .eq 7, 3) := by decide +kernel
theorem dX31_changed_29 : decode cX31_changed 29 = .ok (.iconst 1, 1) := by decide +kernel
theorem dX31_changed_30 : decode cX31_changed 30 = .ok (.goto 4, 3) := by decide +kernel
theorem dX31_changed_33 : decode cX31_changed 33 = .ok (.iconst 0, 1) := by decide +kernel
theorem dX31_changed_34 : decode cX31_changed 34 = .ok (.iadd, 1) := by decide +kernel
theorem dX31_changed_35 : decode cX31_changed 35 = .ok (.istore_n 1, 1) := by decide +kernel
theorem dX31_changed_36 : decode cX31_changed 36 = .ok (.aload_n 0, 1) := by decide +kernel
theorem dX31_changed_37 : decode cX31_changed 37 = .ok (.getfield 28, 3) := by decide +kernel
theorem dX31_changed_40 : decode cX31_changed 40 = .ok (.iload_n 2, 1) := by decide +kernel
theorem dX31_changed_41 : decode cX31_changed 41 = .ok (.aload_n 0, 1) := by decide +kernel
theorem dX31_changed_42 : decode cX31_changed 42 = .ok (.getfield 25, 3) := by decide +kernel
theorem dX31_changed_45 : decode cX31_changed 45 = .ok (.iload_n 2, 1) := by decide +kernel
theorem dX31_changed_46 : decode cX31_changed 46 = .ok (.iaload, 1) := by decide +kernel
theorem dX31_changed_47 : decode cX31_changed 47 = .ok (.iastore, 1) := by decide +kernel
theorem dX31_changed_48 : decode cX31_changed 48 = .ok (.iinc 2 1, 3) := by decide +kernel
theorem dX31_changed_51 : decode cX31_changed 51 = .ok (.goto (-47), 3) := by decide +kernel
theorem dX31_changed_54 : decode cX31_changed 54 = .ok (.iload_n 1, 1) := by decide +kernel
theorem dX31_changed_55 : decode cX31_changed 55 = .ok (.ireturn, 1) := by decide +kernel
abbrev cX31_rows : ByteArray := prog_20_method_22_code
def yX31_rows : MethodName := ⟨RX31, "rows", "()I"⟩
theorem dX31_rows_0 : decode cX31_rows 0 = .ok (.aload_n 0, 1) := by decide +kernel
theorem dX31_rows_1 : decode cX31_rows 1 = .ok (.getfield 53, 3) := by decide +kernel
theorem dX31_rows_4 : decode cX31_rows 4 = .ok (.ireturn, 1) := by decide +kernel
theorem in_X31 : ∀ w ∈ wsX310, w ∈ lw_all := lw_in wsX310 [1433, 1435, 1437, 1439, 1441, 1443, 1445, 1447] (by decide +kernel) (by decide +kernel)
theorem q517 : (Jvm.Cond.initialized "KnowHouse$FacetCounts") ∈ lw_all := lw_g (lw_at lw_m1 39 rfl) rfl
theorem q1425 : (Jvm.Cond.fieldLink "KnowHouse$FacetCounts" (7 : Nat) "KnowHouse$FacetCounts" "own" "[I") ∈ lw_all := lw_g (lw_at lw_m4 227 rfl) rfl
theorem q1426 : (Jvm.Cond.fieldLink "KnowHouse$FacetCounts" (53 : Nat) "KnowHouse$FacetCounts" "rows" "I") ∈ lw_all := lw_g (lw_at lw_m4 228 rfl) rfl
theorem q1427 : (Jvm.Cond.fieldLink "KnowHouse$FacetCounts" (13 : Nat) "KnowHouse$FacetCounts" "uppers" "[I") ∈ lw_all := lw_g (lw_at lw_m4 229 rfl) rfl
theorem q1428 : (Jvm.Cond.fieldLink "KnowHouse$FacetCounts" (16 : Nat) "KnowHouse$FacetCounts" "closed" "[I") ∈ lw_all := lw_g (lw_at lw_m4 230 rfl) rfl
theorem q1429 : (Jvm.Cond.fieldLink "KnowHouse$FacetCounts" (19 : Nat) "KnowHouse$FacetCounts" "chosen" "[I") ∈ lw_all := lw_g (lw_at lw_m4 231 rfl) rfl
theorem q1430 : (Jvm.Cond.fieldLink "KnowHouse$FacetCounts" (22 : Nat) "KnowHouse$FacetCounts" "fails" "[I") ∈ lw_all := lw_g (lw_at lw_m4 232 rfl) rfl
theorem q1431 : (Jvm.Cond.fieldLink "KnowHouse$FacetCounts" (25 : Nat) "KnowHouse$FacetCounts" "counts" "[I") ∈ lw_all := lw_g (lw_at lw_m4 233 rfl) rfl
theorem q1432 : (Jvm.Cond.fieldLink "KnowHouse$FacetCounts" (28 : Nat) "KnowHouse$FacetCounts" "seen" "[I") ∈ lw_all := lw_g (lw_at lw_m4 234 rfl) rfl
theorem q2833 : (Jvm.Cond.methodLink "KnowHouse$FacetCounts" (49 : Nat) ({ cls := "KnowHouse$FacetCounts", name := "isRow", desc := "(III)Z" } : Jvm.MethodName)) ∈ lw_all := lw_g (lw_at lw_m10 195 rfl) rfl
theorem q2834 : (Jvm.Cond.static ({ cls := "KnowHouse$FacetCounts", name := "isRow", desc := "(III)Z" } : Jvm.MethodName)) ∈ lw_all := lw_g (lw_at lw_m10 196 rfl) rfl
theorem q2835 : (Jvm.Cond.code ({ cls := "KnowHouse$FacetCounts", name := "isRow", desc := "(III)Z" } : Jvm.MethodName) prog_20_method_3_code (3 : Nat) (Option.some Jvm.ClassFile.FieldType.boolean)) ∈ lw_all := lw_g (lw_at lw_m10 197 rfl) rfl
theorem q2836 : (Jvm.Cond.methodLink "KnowHouse$FacetCounts" (31 : Nat) ({ cls := "KnowHouse$FacetCounts", name := "isIn", desc := "(II)Z" } : Jvm.MethodName)) ∈ lw_all := lw_g (lw_at lw_m10 198 rfl) rfl
theorem q2837 : (Jvm.Cond.static ({ cls := "KnowHouse$FacetCounts", name := "isIn", desc := "(II)Z" } : Jvm.MethodName)) ∈ lw_all := lw_g (lw_at lw_m10 199 rfl) rfl
theorem q2838 : (Jvm.Cond.code ({ cls := "KnowHouse$FacetCounts", name := "isIn", desc := "(II)Z" } : Jvm.MethodName) prog_20_method_2_code (2 : Nat) (Option.some Jvm.ClassFile.FieldType.boolean)) ∈ lw_all := lw_g (lw_at lw_m10 200 rfl) rfl
theorem q2839 : (Jvm.Cond.methodLink "KnowHouse$FacetCounts" (45 : Nat) ({ cls := "KnowHouse$FacetCounts", name := "weigh", desc := "(II)V" } : Jvm.MethodName)) ∈ lw_all := lw_g (lw_at lw_m10 201 rfl) rfl
theorem q2841 : (Jvm.Cond.instanceMethod ({ cls := "KnowHouse$FacetCounts", name := "weigh", desc := "(II)V" } : Jvm.MethodName)) ∈ lw_all := lw_g (lw_at lw_m10 203 rfl) rfl
theorem q2842 : (Jvm.Cond.code ({ cls := "KnowHouse$FacetCounts", name := "weigh", desc := "(II)V" } : Jvm.MethodName) prog_20_method_7_code (6 : Nat) (Option.none : Option Jvm.ClassFile.FieldType)) ∈ lw_all := lw_g (lw_at lw_m10 204 rfl) rfl
theorem q2843 : (Jvm.Cond.methodLink "KnowHouse$FacetCounts" (39 : Nat) ({ cls := "KnowHouse$FacetCounts", name := "failsAt", desc := "(II)Z" } : Jvm.MethodName)) ∈ lw_all := lw_g (lw_at lw_m10 205 rfl) rfl
theorem q2845 : (Jvm.Cond.instanceMethod ({ cls := "KnowHouse$FacetCounts", name := "failsAt", desc := "(II)Z" } : Jvm.MethodName)) ∈ lw_all := lw_g (lw_at lw_m10 207 rfl) rfl
theorem q2846 : (Jvm.Cond.code ({ cls := "KnowHouse$FacetCounts", name := "failsAt", desc := "(II)Z" } : Jvm.MethodName) prog_20_method_5_code (3 : Nat) (Option.some Jvm.ClassFile.FieldType.boolean)) ∈ lw_all := lw_g (lw_at lw_m10 208 rfl) rfl
theorem q2847 : (Jvm.Cond.methodLink "KnowHouse$FacetCounts" (35 : Nat) ({ cls := "KnowHouse$FacetCounts", name := "has", desc := "(II)I" } : Jvm.MethodName)) ∈ lw_all := lw_g (lw_at lw_m10 209 rfl) rfl
theorem q2849 : (Jvm.Cond.instanceMethod ({ cls := "KnowHouse$FacetCounts", name := "has", desc := "(II)I" } : Jvm.MethodName)) ∈ lw_all := lw_g (lw_at lw_m10 211 rfl) rfl
theorem q2850 : (Jvm.Cond.code ({ cls := "KnowHouse$FacetCounts", name := "has", desc := "(II)I" } : Jvm.MethodName) prog_20_method_4_code (6 : Nat) (Option.some Jvm.ClassFile.FieldType.int)) ∈ lw_all := lw_g (lw_at lw_m10 212 rfl) rfl
theorem q2851 : (Jvm.Cond.methodLink "KnowHouse$FacetCounts" (42 : Nat) ({ cls := "KnowHouse$FacetCounts", name := "isKeptBut", desc := "(II)Z" } : Jvm.MethodName)) ∈ lw_all := lw_g (lw_at lw_m10 213 rfl) rfl
theorem q2853 : (Jvm.Cond.instanceMethod ({ cls := "KnowHouse$FacetCounts", name := "isKeptBut", desc := "(II)Z" } : Jvm.MethodName)) ∈ lw_all := lw_g (lw_at lw_m10 215 rfl) rfl
theorem q2854 : (Jvm.Cond.code ({ cls := "KnowHouse$FacetCounts", name := "isKeptBut", desc := "(II)Z" } : Jvm.MethodName) prog_20_method_6_code (3 : Nat) (Option.some Jvm.ClassFile.FieldType.boolean)) ∈ lw_all := lw_g (lw_at lw_m10 216 rfl) rfl
theorem q3160 : (Jvm.Cond.methodLink "KnowHouse$FacetCounts" (57 : Nat) ({ cls := "KnowHouse$FacetCounts", name := "weighAll", desc := "(I)V" } : Jvm.MethodName)) ∈ lw_all := lw_g (lw_at lw_m12 42 rfl) rfl
theorem q3162 : (Jvm.Cond.instanceMethod ({ cls := "KnowHouse$FacetCounts", name := "weighAll", desc := "(I)V" } : Jvm.MethodName)) ∈ lw_all := lw_g (lw_at lw_m12 44 rfl) rfl
theorem q3163 : (Jvm.Cond.code ({ cls := "KnowHouse$FacetCounts", name := "weighAll", desc := "(I)V" } : Jvm.MethodName) prog_20_method_8_code (3 : Nat) (Option.none : Option Jvm.ClassFile.FieldType)) ∈ lw_all := lw_g (lw_at lw_m12 45 rfl) rfl
theorem q3437 : (Jvm.Cond.instanceMethod ({ cls := "KnowHouse$FacetCounts", name := "kept", desc := "()I" } : Jvm.MethodName)) ∈ lw_all := lw_g (lw_at lw_m13 79 rfl) rfl
theorem q3438 : (Jvm.Cond.selects "KnowHouse$FacetCounts" ({ cls := "KnowHouse$FacetCounts", name := "kept", desc := "()I" } : Jvm.MethodName) ({ cls := "KnowHouse$FacetCounts", name := "kept", desc := "()I" } : Jvm.MethodName)) ∈ lw_all := lw_g (lw_at lw_m13 80 rfl) rfl
theorem q3439 : (Jvm.Cond.code ({ cls := "KnowHouse$FacetCounts", name := "kept", desc := "()I" } : Jvm.MethodName) prog_20_method_13_code (3 : Nat) (Option.some Jvm.ClassFile.FieldType.int)) ∈ lw_all := lw_g (lw_at lw_m13 81 rfl) rfl
theorem q5170 : (Jvm.Cond.methodLink "KnowHouse$FacetCounts" (61 : Nat) ({ cls := "KnowHouse$FacetCounts", name := "kept", desc := "()I" } : Jvm.MethodName)) ∈ lw_all := lw_g (lw_at lw_m20 132 rfl) rfl
theorem gX31_31 : GoodIn lw_all (va_wsS RX31 31 yX31_isIn (ws_ yX31_isIn cX31_isIn 2 (Option.some Jvm.ClassFile.FieldType.boolean))) := lw_S q2836 q2837 q517 q2838
theorem gX31_35 : GoodIn lw_all (wsV RX31 35 RX31 yX31_has (ws_ yX31_has cX31_has 6 (Option.some Jvm.ClassFile.FieldType.int))) := lw_V q2847 q2849 qs49 q517 q2850
theorem gX31_39 : GoodIn lw_all (wsV RX31 39 RX31 yX31_failsAt (ws_ yX31_failsAt cX31_failsAt 3 (Option.some Jvm.ClassFile.FieldType.boolean))) := lw_V q2843 q2845 qs48 q517 q2846
theorem gX31_42 : GoodIn lw_all (wsV RX31 42 RX31 yX31_isKeptBut (ws_ yX31_isKeptBut cX31_isKeptBut 3 (Option.some Jvm.ClassFile.FieldType.boolean))) := lw_V q2851 q2853 qs50 q517 q2854
theorem gX31_45 : GoodIn lw_all (wsV RX31 45 RX31 yX31_weigh (ws_ yX31_weigh cX31_weigh 6 (Option.none : Option Jvm.ClassFile.FieldType))) := lw_V q2839 q2841 qs47 q517 q2842
theorem gX31_49 : GoodIn lw_all (va_wsS RX31 49 yX31_isRow (ws_ yX31_isRow cX31_isRow 3 (Option.some Jvm.ClassFile.FieldType.boolean))) := lw_S q2833 q2834 q517 q2835
theorem gX31_57 : GoodIn lw_all (wsV RX31 57 RX31 yX31_weighAll (ws_ yX31_weighAll cX31_weighAll 3 (Option.none : Option Jvm.ClassFile.FieldType))) := lw_V q3160 q3162 qs78 q517 q3163
theorem gX31_61 : GoodIn lw_all (wsV RX31 61 RX31 yX31_kept (ws_ yX31_kept cX31_kept 3 (Option.some Jvm.ClassFile.FieldType.int))) := lw_V q5170 q3437 q3438 q517 q3439
theorem hX31_failsAt : yX31_failsAt.cls = RX31 ∧ yX31_failsAt.cls ≠ "java/lang/invoke/MethodHandle" ∧ yX31_failsAt.cls ≠ "java/lang/invoke/VarHandle" ∧ (parseMethodDescriptor yX31_failsAt.desc).map (fun d => d.parameters.length) = some 2 := by decide +kernel
theorem hX31_has : yX31_has.cls = RX31 ∧ yX31_has.cls ≠ "java/lang/invoke/MethodHandle" ∧ yX31_has.cls ≠ "java/lang/invoke/VarHandle" ∧ (parseMethodDescriptor yX31_has.desc).map (fun d => d.parameters.length) = some 2 := by decide +kernel
theorem hX31_isIn : yX31_isIn.cls ≠ "java/lang/invoke/MethodHandle" ∧ yX31_isIn.cls ≠ "java/lang/invoke/VarHandle" ∧ (parseMethodDescriptor yX31_isIn.desc).map (fun d => d.parameters.length) = some 2 := by decide +kernel
theorem hX31_isKeptBut : yX31_isKeptBut.cls = RX31 ∧ yX31_isKeptBut.cls ≠ "java/lang/invoke/MethodHandle" ∧ yX31_isKeptBut.cls ≠ "java/lang/invoke/VarHandle" ∧ (parseMethodDescriptor yX31_isKeptBut.desc).map (fun d => d.parameters.length) = some 2 := by decide +kernel
theorem hX31_isRow : yX31_isRow.cls ≠ "java/lang/invoke/MethodHandle" ∧ yX31_isRow.cls ≠ "java/lang/invoke/VarHandle" ∧ (parseMethodDescriptor yX31_isRow.desc).map (fun d => d.parameters.length) = some 3 := by decide +kernel
theorem hX31_kept : yX31_kept.cls = RX31 ∧ yX31_kept.cls ≠ "java/lang/invoke/MethodHandle" ∧ yX31_kept.cls ≠ "java/lang/invoke/VarHandle" ∧ (parseMethodDescriptor yX31_kept.desc).map (fun d => d.parameters.length) = some 0 := by decide +kernel
theorem hX31_weigh : yX31_weigh.cls = RX31 ∧ yX31_weigh.cls ≠ "java/lang/invoke/MethodHandle" ∧ yX31_weigh.cls ≠ "java/lang/invoke/VarHandle" ∧ (parseMethodDescriptor yX31_weigh.desc).map (fun d => d.parameters.length) = some 2 := by decide +kernel
theorem hX31_weighAll : yX31_weighAll.cls = RX31 ∧ yX31_weighAll.cls ≠ "java/lang/invoke/MethodHandle" ∧ yX31_weighAll.cls ≠ "java/lang/invoke/VarHandle" ∧ (parseMethodDescriptor yX31_weighAll.desc).map (fun d => d.parameters.length) = some 1 := by decide +kernel
