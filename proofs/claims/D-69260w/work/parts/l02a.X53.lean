/-! KnowHouseModel$FacetCountsModel (printed by tools/gen.py) -/
set_option maxRecDepth 100000
def RX53 : String := "KnowHouseModel$FacetCountsModel"
def TX53 : u_T := fun k => match k with
  | 0 => ("KnowHouseModel$FacetCountsModel", "thrown", "I", false)
  | 1 => ("KnowHouseModel$FacetCountsModel", "rows", "I", false)
  | 2 => ("KnowHouseModel$FacetCountsModel", "things", "[I", true)
  | 3 => ("KnowHouseModel$FacetCountsModel", "heads", "[I", true)
  | 4 => ("KnowHouseModel$FacetCountsModel", "values", "[I", true)
  | 5 => ("KnowHouseModel$FacetCountsModel", "uppers", "[I", true)
  | 6 => ("KnowHouseModel$FacetCountsModel", "chosen", "[Z", true)
  | 7 => ("KnowHouseModel$FacetCountsModel", "seen", "[I", true)
  | 8 => ("KnowHouseModel$FacetCountsModel", "fresh", "Z", false)
  | 9 => ("KnowHouseModel$FacetCountsModel", "has", "[Z", true)
  | 10 => ("KnowHouseModel$FacetCountsModel", "but", "[Z", true)
  | _ => ("KnowHouseModel$FacetCountsModel", "kept", "[Z", true)
def tyX53 : Nat → FieldType := fun k => match k with
  | 0 => .int
  | 1 => .int
  | 2 => .array .int
  | 3 => .array .int
  | 4 => .array .int
  | 5 => .array .int
  | 6 => .array .boolean
  | 7 => .array .int
  | 8 => .boolean
  | 9 => .array .boolean
  | 10 => .array .boolean
  | _ => .array .boolean
abbrev wsX530 : List Cond := u_ws RX53 TX53 12
theorem nmX53 : ∀ a, a < 12 → ∀ b, b < 12 → a ≠ b → (TX53 a).2.1 ≠ (TX53 b).2.1 := by decide +kernel
theorem tyX53_ok : ∀ k, k < 12 → parseFieldDescriptor (TX53 k).2.2.1 = some (tyX53 k) := by decide +kernel
abbrev cX53_init : ByteArray := prog_83_method_1_code
def yX53_init : MethodName := ⟨RX53, "<init>", "()V"⟩
abbrev cX53_row : ByteArray := prog_83_method_7_code
def yX53_row : MethodName := ⟨RX53, "row", "(III)I"⟩
theorem dX53_row_0 : decode cX53_row 0 = .ok (.aload_n 0, 1) := by decide +kernel
theorem dX53_row_1 : decode cX53_row 1 = .ok (.iconst 0, 1) := by decide +kernel
theorem dX53_row_2 : decode cX53_row 2 = .ok (.putfield 38, 3) := by decide +kernel
theorem dX53_row_5 : decode cX53_row 5 = .ok (.iload_n 1, 1) := by decide +kernel
theorem dX53_row_6 : decode cX53_row 6 = .ok (.invokestatic 45, 3) := by decide +kernel
theorem dX53_row_9 : decode cX53_row 9 = .ok (.ifCond .eq 17, 3) := by decide +kernel
theorem dX53_row_12 : decode cX53_row 12 = .ok (.iload_n 2, 1) := by decide +kernel
theorem dX53_row_13 : decode cX53_row 13 = .ok (.invokestatic 49, 3) := by decide +kernel
theorem dX53_row_16 : decode cX53_row 16 = .ok (.ifCond .eq 10, 3) := by decide +kernel
theorem dX53_row_19 : decode cX53_row 19 = .ok (.iload_n 3, 1) := by decide +kernel
theorem dX53_row_20 : decode cX53_row 20 = .ok (.invokestatic 52, 3) := by decide +kernel
theorem dX53_row_23 : decode cX53_row 23 = .ok (.ifCond .ne 5, 3) := by decide +kernel
theorem dX53_row_26 : decode cX53_row 26 = .ok (.iconst (-1), 1) := by decide +kernel
theorem dX53_row_27 : decode cX53_row 27 = .ok (.ireturn, 1) := by decide +kernel
theorem dX53_row_28 : decode cX53_row 28 = .ok (.aload_n 0, 1) := by decide +kernel
theorem dX53_row_29 : decode cX53_row 29 = .ok (.iload_n 1, 1) := by decide +kernel
theorem dX53_row_30 : decode cX53_row 30 = .ok (.iload_n 2, 1) := by decide +kernel
theorem dX53_row_31 : decode cX53_row 31 = .ok (.iload_n 3, 1) := by decide +kernel
theorem dX53_row_32 : decode cX53_row 32 = .ok (.invokevirtual 55, 3) := by decide +kernel
theorem dX53_row_35 : decode cX53_row 35 = .ok (.aload_n 0, 1) := by decide +kernel
theorem dX53_row_36 : decode cX53_row 36 = .ok (.getfield 42, 3) := by decide +kernel
theorem dX53_row_39 : decode cX53_row 39 = .ok (.if_icmp .ge 5, 3) := by decide +kernel
theorem dX53_row_42 : decode cX53_row 42 = .ok (.iconst 0, 1) := by decide +kernel
theorem dX53_row_43 : decode cX53_row 43 = .ok (.ireturn, 1) := by decide +kernel
theorem dX53_row_44 : decode cX53_row 44 = .ok (.aload_n 0, 1) := by decide +kernel
theorem dX53_row_45 : decode cX53_row 45 = .ok (.getfield 42, 3) := by decide +kernel
theorem dX53_row_48 : decode cX53_row 48 = .ok (.sipush 300, 3) := by decide +kernel
theorem dX53_row_51 : decode cX53_row 51 = .ok (.if_icmp .ne 6, 3) := by decide +kernel
theorem dX53_row_54 : decode cX53_row 54 = .ok (.bipush (-2), 2) := by decide +kernel
theorem dX53_row_56 : decode cX53_row 56 = .ok (.ireturn, 1) := by decide +kernel
theorem dX53_row_57 : decode cX53_row 57 = .ok (.aload_n 0, 1) := by decide +kernel
theorem dX53_row_58 : decode cX53_row 58 = .ok (.getfield 7, 3) := by decide +kernel
theorem dX53_row_61 : decode cX53_row 61 = .ok (.aload_n 0, 1) := by decide +kernel
theorem dX53_row_62 : decode cX53_row 62 = .ok (.getfield 42, 3) := by decide +kernel
theorem dX53_row_65 : decode cX53_row 65 = .ok (.iload_n 1, 1) := by decide +kernel
theorem dX53_row_66 : decode cX53_row 66 = .ok (.iastore, 1) := by decide +kernel
theorem dX53_row_67 : decode cX53_row 67 = .ok (.aload_n 0, 1) := by decide +kernel
theorem dX53_row_68 : decode cX53_row 68 = .ok (.getfield 13, 3) := by decide +kernel
theorem dX53_row_71 : decode cX53_row 71 = .ok (.aload_n 0, 1) := by decide +kernel
theorem dX53_row_72 : decode cX53_row 72 = .ok (.getfield 42, 3) := by decide +kernel
theorem dX53_row_75 : decode cX53_row 75 = .ok (.iload_n 2, 1) := by decide +kernel
theorem dX53_row_76 : decode cX53_row 76 = .ok (.iastore, 1) := by decide +kernel
theorem dX53_row_77 : decode cX53_row 77 = .ok (.aload_n 0, 1) := by decide +kernel
theorem dX53_row_78 : decode cX53_row 78 = .ok (.getfield 16, 3) := by decide +kernel
theorem dX53_row_81 : decode cX53_row 81 = .ok (.aload_n 0, 1) := by decide +kernel
theorem dX53_row_82 : decode cX53_row 82 = .ok (.getfield 42, 3) := by decide +kernel
theorem dX53_row_85 : decode cX53_row 85 = .ok (.iload_n 3, 1) := by decide +kernel
theorem dX53_row_86 : decode cX53_row 86 = .ok (.iastore, 1) := by decide +kernel
theorem dX53_row_87 : decode cX53_row 87 = .ok (.aload_n 0, 1) := by decide +kernel
theorem dX53_row_88 : decode cX53_row 88 = .ok (.dup, 1) := by decide +kernel
theorem dX53_row_89 : decode cX53_row 89 = .ok (.getfield 42, 3) := by decide +kernel
theorem dX53_row_92 : decode cX53_row 92 = .ok (.iconst 1, 1) := by decide +kernel
theorem dX53_row_93 : decode cX53_row 93 = .ok (.iadd, 1) := by decide +kernel
theorem dX53_row_94 : decode cX53_row 94 = .ok (.putfield 42, 3) := by decide +kernel
theorem dX53_row_97 : decode cX53_row 97 = .ok (.aload_n 0, 1) := by decide +kernel
theorem dX53_row_98 : decode cX53_row 98 = .ok (.iconst 0, 1) := by decide +kernel
theorem dX53_row_99 : decode cX53_row 99 = .ok (.putfield 59, 3) := by decide +kernel
theorem dX53_row_102 : decode cX53_row 102 = .ok (.iconst 1, 1) := by decide +kernel
theorem dX53_row_103 : decode cX53_row 103 = .ok (.ireturn, 1) := by decide +kernel
abbrev cX53_isThing : ByteArray := prog_83_method_3_code
def yX53_isThing : MethodName := ⟨RX53, "isThing", "(I)Z"⟩
theorem dX53_isThing_0 : decode cX53_isThing 0 = .ok (.iload_n 0, 1) := by decide +kernel
theorem dX53_isThing_1 : decode cX53_isThing 1 = .ok (.ifCond .lt 13, 3) := by decide +kernel
theorem dX53_isThing_4 : decode cX53_isThing 4 = .ok (.iload_n 0, 1) := by decide +kernel
theorem dX53_isThing_5 : decode cX53_isThing 5 = .ok (.bipush 40, 2) := by decide +kernel
theorem dX53_isThing_7 : decode cX53_isThing 7 = .ok (.if_icmp .ge 7, 3) := by decide +kernel
theorem dX53_isThing_10 : decode cX53_isThing 10 = .ok (.iconst 1, 1) := by decide +kernel
theorem dX53_isThing_11 : decode cX53_isThing 11 = .ok (.goto 4, 3) := by decide +kernel
theorem dX53_isThing_14 : decode cX53_isThing 14 = .ok (.iconst 0, 1) := by decide +kernel
theorem dX53_isThing_15 : decode cX53_isThing 15 = .ok (.ireturn, 1) := by decide +kernel
abbrev cX53_isHead : ByteArray := prog_83_method_4_code
def yX53_isHead : MethodName := ⟨RX53, "isHead", "(I)Z"⟩
theorem dX53_isHead_0 : decode cX53_isHead 0 = .ok (.iload_n 0, 1) := by decide +kernel
theorem dX53_isHead_1 : decode cX53_isHead 1 = .ok (.ifCond .lt 13, 3) := by decide +kernel
theorem dX53_isHead_4 : decode cX53_isHead 4 = .ok (.iload_n 0, 1) := by decide +kernel
theorem dX53_isHead_5 : decode cX53_isHead 5 = .ok (.bipush 8, 2) := by decide +kernel
theorem dX53_isHead_7 : decode cX53_isHead 7 = .ok (.if_icmp .ge 7, 3) := by decide +kernel
theorem dX53_isHead_10 : decode cX53_isHead 10 = .ok (.iconst 1, 1) := by decide +kernel
theorem dX53_isHead_11 : decode cX53_isHead 11 = .ok (.goto 4, 3) := by decide +kernel
theorem dX53_isHead_14 : decode cX53_isHead 14 = .ok (.iconst 0, 1) := by decide +kernel
theorem dX53_isHead_15 : decode cX53_isHead 15 = .ok (.ireturn, 1) := by decide +kernel
abbrev cX53_isValue : ByteArray := prog_83_method_5_code
def yX53_isValue : MethodName := ⟨RX53, "isValue", "(I)Z"⟩
theorem dX53_isValue_0 : decode cX53_isValue 0 = .ok (.iload_n 0, 1) := by decide +kernel
theorem dX53_isValue_1 : decode cX53_isValue 1 = .ok (.ifCond .lt 13, 3) := by decide +kernel
theorem dX53_isValue_4 : decode cX53_isValue 4 = .ok (.iload_n 0, 1) := by decide +kernel
theorem dX53_isValue_5 : decode cX53_isValue 5 = .ok (.bipush 32, 2) := by decide +kernel
theorem dX53_isValue_7 : decode cX53_isValue 7 = .ok (.if_icmp .ge 7, 3) := by decide +kernel
theorem dX53_isValue_10 : decode cX53_isValue 10 = .ok (.iconst 1, 1) := by decide +kernel
theorem dX53_isValue_11 : decode cX53_isValue 11 = .ok (.goto 4, 3) := by decide +kernel
theorem dX53_isValue_14 : decode cX53_isValue 14 = .ok (.iconst 0, 1) := by decide +kernel
theorem dX53_isValue_15 : decode cX53_isValue 15 = .ok (.ireturn, 1) := by decide +kernel
abbrev cX53_find : ByteArray := prog_83_method_6_code
def yX53_find : MethodName := ⟨RX53, "find", "(III)I"⟩
theorem dX53_find_0 : decode cX53_find 0 = .ok (.iconst 0, 1) := by decide +kernel
theorem dX53_find_1 : decode cX53_find 1 = .ok (.istore 4, 2) := by decide +kernel
theorem dX53_find_3 : decode cX53_find 3 = .ok (.iload 4, 2) := by decide +kernel
theorem dX53_find_5 : decode cX53_find 5 = .ok (.aload_n 0, 1) := by decide +kernel
theorem dX53_find_6 : decode cX53_find 6 = .ok (.getfield 42, 3) := by decide +kernel
theorem dX53_find_9 : decode cX53_find 9 = .ok (.if_icmp .ge 42, 3) := by decide +kernel
theorem dX53_find_12 : decode cX53_find 12 = .ok (.aload_n 0, 1) := by decide +kernel
theorem dX53_find_13 : decode cX53_find 13 = .ok (.getfield 7, 3) := by decide +kernel
theorem dX53_find_16 : decode cX53_find 16 = .ok (.iload 4, 2) := by decide +kernel
theorem dX53_find_18 : decode cX53_find 18 = .ok (.iaload, 1) := by decide +kernel
theorem dX53_find_19 : decode cX53_find 19 = .ok (.iload_n 1, 1) := by decide +kernel
theorem dX53_find_20 : decode cX53_find 20 = .ok (.if_icmp .ne 25, 3) := by decide +kernel
theorem dX53_find_23 : decode cX53_find 23 = .ok (.aload_n 0, 1) := by decide +kernel
theorem dX53_find_24 : decode cX53_find 24 = .ok (.getfield 13, 3) := by decide +kernel
theorem dX53_find_27 : decode cX53_find 27 = .ok (.iload 4, 2) := by decide +kernel
theorem dX53_find_29 : decode cX53_find 29 = .ok (.iaload, 1) := by decide +kernel
theorem dX53_find_30 : decode cX53_find 30 = .ok (.iload_n 2, 1) := by decide +kernel
theorem dX53_find_31 : decode cX53_find 31 = .ok (.if_icmp .ne 14, 3) := by decide +kernel
theorem dX53_find_34 : decode cX53_find 34 = .ok (.aload_n 0, 1) := by decide +kernel
theorem dX53_find_35 : decode cX53_find 35 = .ok (.getfield 16, 3) := by decide +kernel
theorem dX53_find_38 : decode cX53_find 38 = .ok (.iload 4, 2) := by decide +kernel
theorem dX53_find_40 : decode cX53_find 40 = .ok (.iaload, 1) := by decide +kernel
theorem dX53_find_41 : decode cX53_find 41 = .ok (.iload_n 3, 1) := by decide +kernel
theorem dX53_find_42 : decode cX53_find 42 = .ok (.if_icmp .eq 9, 3) := by decide +kernel
theorem dX53_find_45 : decode cX53_find 45 = .ok (.iinc 4 1, 3) := by decide +kernel
theorem dX53_find_48 : decode cX53_find 48 = .ok (.goto (-45), 3) := by decide +kernel
theorem dX53_find_51 : decode cX53_find 51 = .ok (.iload 4, 2) := by decide +kernel
theorem dX53_find_53 : decode cX53_find 53 = .ok (.ireturn, 1) := by decide +kernel
abbrev cX53_drop : ByteArray := prog_83_method_8_code
def yX53_drop : MethodName := ⟨RX53, "drop", "(III)I"⟩
theorem dX53_drop_0 : decode cX53_drop 0 = .ok (.aload_n 0, 1) := by decide +kernel
theorem dX53_drop_1 : decode cX53_drop 1 = .ok (.iconst 0, 1) := by decide +kernel
theorem dX53_drop_2 : decode cX53_drop 2 = .ok (.putfield 38, 3) := by decide +kernel
theorem dX53_drop_5 : decode cX53_drop 5 = .ok (.iload_n 1, 1) := by decide +kernel
theorem dX53_drop_6 : decode cX53_drop 6 = .ok (.invokestatic 45, 3) := by decide +kernel
theorem dX53_drop_9 : decode cX53_drop 9 = .ok (.ifCond .eq 17, 3) := by decide +kernel
theorem dX53_drop_12 : decode cX53_drop 12 = .ok (.iload_n 2, 1) := by decide +kernel
theorem dX53_drop_13 : decode cX53_drop 13 = .ok (.invokestatic 49, 3) := by decide +kernel
theorem dX53_drop_16 : decode cX53_drop 16 = .ok (.ifCond .eq 10, 3) := by decide +kernel
theorem dX53_drop_19 : decode cX53_drop 19 = .ok (.iload_n 3, 1) := by decide +kernel
theorem dX53_drop_20 : decode cX53_drop 20 = .ok (.invokestatic 52, 3) := by decide +kernel
theorem dX53_drop_23 : decode cX53_drop 23 = .ok (.ifCond .ne 5, 3) := by decide +kernel
theorem dX53_drop_26 : decode cX53_drop 26 = .ok (.iconst (-1), 1) := by decide +kernel
theorem dX53_drop_27 : decode cX53_drop 27 = .ok (.ireturn, 1) := by decide +kernel
theorem dX53_drop_28 : decode cX53_drop 28 = .ok (.aload_n 0, 1) := by decide +kernel
theorem dX53_drop_29 : decode cX53_drop 29 = .ok (.iload_n 1, 1) := by decide +kernel
theorem dX53_drop_30 : decode cX53_drop 30 = .ok (.iload_n 2, 1) := by decide +kernel
theorem dX53_drop_31 : decode cX53_drop 31 = .ok (.iload_n 3, 1) := by decide +kernel
theorem dX53_drop_32 : decode cX53_drop 32 = .ok (.invokevirtual 55, 3) := by decide +kernel
theorem dX53_drop_35 : decode cX53_drop 35 = .ok (.istore 4, 2) := by decide +kernel
theorem dX53_drop_37 : decode cX53_drop 37 = .ok (.iload 4, 2) := by decide +kernel
theorem dX53_drop_39 : decode cX53_drop 39 = .ok (.aload_n 0, 1) := by decide +kernel
theorem dX53_drop_40 : decode cX53_drop 40 = .ok (.getfield 42, 3) := by decide +kernel
theorem dX53_drop_43 : decode cX53_drop 43 = .ok (.if_icmp .ne 5, 3) := by decide +kernel
theorem dX53_drop_46 : decode cX53_drop 46 = .ok (.iconst 0, 1) := by decide +kernel
theorem dX53_drop_47 : decode cX53_drop 47 = .ok (.ireturn, 1) := by decide +kernel
theorem dX53_drop_48 : decode cX53_drop 48 = .ok (.aload_n 0, 1) := by decide +kernel
theorem dX53_drop_49 : decode cX53_drop 49 = .ok (.dup, 1) := by decide +kernel
theorem dX53_drop_50 : decode cX53_drop 50 = .ok (.getfield 42, 3) := by decide +kernel
theorem dX53_drop_53 : decode cX53_drop 53 = .ok (.iconst 1, 1) := by decide +kernel
theorem dX53_drop_54 : decode cX53_drop 54 = .ok (.isub, 1) := by decide +kernel
theorem dX53_drop_55 : decode cX53_drop 55 = .ok (.putfield 42, 3) := by decide +kernel
theorem dX53_drop_58 : decode cX53_drop 58 = .ok (.aload_n 0, 1) := by decide +kernel
theorem dX53_drop_59 : decode cX53_drop 59 = .ok (.getfield 7, 3) := by decide +kernel
theorem dX53_drop_62 : decode cX53_drop 62 = .ok (.iload 4, 2) := by decide +kernel
theorem dX53_drop_64 : decode cX53_drop 64 = .ok (.aload_n 0, 1) := by decide +kernel
theorem dX53_drop_65 : decode cX53_drop 65 = .ok (.getfield 7, 3) := by decide +kernel
theorem dX53_drop_68 : decode cX53_drop 68 = .ok (.aload_n 0, 1) := by decide +kernel
theorem dX53_drop_69 : decode cX53_drop 69 = .ok (.getfield 42, 3) := by decide +kernel
theorem dX53_drop_72 : decode cX53_drop 72 = .ok (.iaload, 1) := by decide +kernel
theorem dX53_drop_73 : decode cX53_drop 73 = .ok (.iastore, 1) := by decide +kernel
theorem dX53_drop_74 : decode cX53_drop 74 = .ok (.aload_n 0, 1) := by decide +kernel
theorem dX53_drop_75 : decode cX53_drop 75 = .ok (.getfield 13, 3) := by decide +kernel
theorem dX53_drop_78 : decode cX53_drop 78 = .ok (.iload 4, 2) := by decide +kernel
theorem dX53_drop_80 : decode cX53_drop 80 = .ok (.aload_n 0, 1) := by decide +kernel
theorem dX53_drop_81 : decode cX53_drop 81 = .ok (.getfield 13, 3) := by decide +kernel
theorem dX53_drop_84 : decode cX53_drop 84 = .ok (.aload_n 0, 1) := by decide +kernel
theorem dX53_drop_85 : decode cX53_drop 85 = .ok (.getfield 42, 3) := by decide +kernel
theorem dX53_drop_88 : decode cX53_drop 88 = .ok (.iaload, 1) := by decide +kernel
theorem dX53_drop_89 : decode cX53_drop 89 = .ok (.iastore, 1) := by decide +kernel
theorem dX53_drop_90 : decode cX53_drop 90 = .ok (.aload_n 0, 1) := by decide +kernel
theorem dX53_drop_91 : decode cX53_drop 91 = .ok (.getfield 16, 3) := by decide +kernel
theorem dX53_drop_94 : decode cX53_drop 94 = .ok (.iload 4, 2) := by decide +kernel
theorem dX53_drop_96 : decode cX53_drop 96 = .ok (.aload_n 0, 1) := by decide +kernel
theorem dX53_drop_97 : decode cX53_drop 97 = .ok (.getfield 16, 3) := by decide +kernel
theorem dX53_drop_100 : decode cX53_drop 100 = .ok (.aload_n 0, 1) := by decide +kernel
theorem dX53_drop_101 : decode cX53_drop 101 = .ok (.getfield 42, 3) := by decide +kernel
theorem dX53_drop_104 : decode cX53_drop 104 = .ok (.iaload, 1) := by decide +kernel
theorem dX53_drop_105 : decode cX53_drop 105 = .ok (.iastore, 1) := by decide +kernel
theorem dX53_drop_106 : decode cX53_drop 106 = .ok (.aload_n 0, 1) := by decide +kernel
theorem dX53_drop_107 : decode cX53_drop 107 = .ok (.iconst 0, 1) := by decide +kernel
theorem dX53_drop_108 : decode cX53_drop 108 = .ok (.putfield 59, 3) := by decide +kernel
theorem dX53_drop_111 : decode cX53_drop 111 = .ok (.iconst 1, 1) := by decide +kernel
theorem dX53_drop_112 : decode cX53_drop 112 = .ok (.ireturn, 1) := by decide +kernel
abbrev cX53_above : ByteArray := prog_83_method_9_code
def yX53_above : MethodName := ⟨RX53, "above", "(II)I"⟩
theorem dX53_above_0 : decode cX53_above 0 = .ok (.aload_n 0, 1) := by decide +kernel
theorem dX53_above_1 : decode cX53_above 1 = .ok (.iconst 0, 1) := by decide +kernel
theorem dX53_above_2 : decode cX53_above 2 = .ok (.putfield 38, 3) := by decide +kernel
theorem dX53_above_5 : decode cX53_above 5 = .ok (.iload_n 1, 1) := by decide +kernel
theorem dX53_above_6 : decode cX53_above 6 = .ok (.invokestatic 52, 3) := by decide +kernel
theorem dX53_above_9 : decode cX53_above 9 = .ok (.ifCond .eq 14, 3) := by decide +kernel
theorem dX53_above_12 : decode cX53_above 12 = .ok (.iload_n 2, 1) := by decide +kernel
theorem dX53_above_13 : decode cX53_above 13 = .ok (.iconst (-1), 1) := by decide +kernel
theorem dX53_above_14 : decode cX53_above 14 = .ok (.if_icmp .lt 9, 3) := by decide +kernel
theorem dX53_above_17 : decode cX53_above 17 = .ok (.iload_n 2, 1) := by decide +kernel
theorem dX53_above_18 : decode cX53_above 18 = .ok (.bipush 31, 2) := by decide +kernel
theorem dX53_above_20 : decode cX53_above 20 = .ok (.if_icmp .le 5, 3) := by decide +kernel
theorem dX53_above_23 : decode cX53_above 23 = .ok (.iconst (-1), 1) := by decide +kernel
theorem dX53_above_24 : decode cX53_above 24 = .ok (.ireturn, 1) := by decide +kernel
theorem dX53_above_25 : decode cX53_above 25 = .ok (.iload_n 2, 1) := by decide +kernel
theorem dX53_above_26 : decode cX53_above 26 = .ok (.istore_n 3, 1) := by decide +kernel
theorem dX53_above_27 : decode cX53_above 27 = .ok (.iload_n 3, 1) := by decide +kernel
theorem dX53_above_28 : decode cX53_above 28 = .ok (.ifCond .lt 18, 3) := by decide +kernel
theorem dX53_above_31 : decode cX53_above 31 = .ok (.iload_n 3, 1) := by decide +kernel
theorem dX53_above_32 : decode cX53_above 32 = .ok (.iload_n 1, 1) := by decide +kernel
theorem dX53_above_33 : decode cX53_above 33 = .ok (.if_icmp .eq 13, 3) := by decide +kernel
theorem dX53_above_36 : decode cX53_above 36 = .ok (.aload_n 0, 1) := by decide +kernel
theorem dX53_above_37 : decode cX53_above 37 = .ok (.getfield 19, 3) := by decide +kernel
theorem dX53_above_40 : decode cX53_above 40 = .ok (.iload_n 3, 1) := by decide +kernel
theorem dX53_above_41 : decode cX53_above 41 = .ok (.iaload, 1) := by decide +kernel
theorem dX53_above_42 : decode cX53_above 42 = .ok (.istore_n 3, 1) := by decide +kernel
theorem dX53_above_43 : decode cX53_above 43 = .ok (.goto (-16), 3) := by decide +kernel
theorem dX53_above_46 : decode cX53_above 46 = .ok (.iload_n 3, 1) := by decide +kernel
theorem dX53_above_47 : decode cX53_above 47 = .ok (.ifCond .lt 6, 3) := by decide +kernel
theorem dX53_above_50 : decode cX53_above 50 = .ok (.bipush (-3), 2) := by decide +kernel
theorem dX53_above_52 : decode cX53_above 52 = .ok (.ireturn, 1) := by decide +kernel
theorem dX53_above_53 : decode cX53_above 53 = .ok (.aload_n 0, 1) := by decide +kernel
theorem dX53_above_54 : decode cX53_above 54 = .ok (.getfield 19, 3) := by decide +kernel
theorem dX53_above_57 : decode cX53_above 57 = .ok (.iload_n 1, 1) := by decide +kernel
theorem dX53_above_58 : decode cX53_above 58 = .ok (.iaload, 1) := by decide +kernel
theorem dX53_above_59 : decode cX53_above 59 = .ok (.iload_n 2, 1) := by decide +kernel
theorem dX53_above_60 : decode cX53_above 60 = .ok (.if_icmp .ne 5, 3) := by decide +kernel
theorem dX53_above_63 : decode cX53_above 63 = .ok (.iconst 0, 1) := by decide +kernel
theorem dX53_above_64 : decode cX53_above 64 = .ok (.ireturn, 1) := by decide +kernel
theorem dX53_above_65 : decode cX53_above 65 = .ok (.aload_n 0, 1) := by decide +kernel
theorem dX53_above_66 : decode cX53_above 66 = .ok (.getfield 19, 3) := by decide +kernel
theorem dX53_above_69 : decode cX53_above 69 = .ok (.iload_n 1, 1) := by decide +kernel
theorem dX53_above_70 : decode cX53_above 70 = .ok (.iload_n 2, 1) := by decide +kernel
theorem dX53_above_71 : decode cX53_above 71 = .ok (.iastore, 1) := by decide +kernel
theorem dX53_above_72 : decode cX53_above 72 = .ok (.aload_n 0, 1) := by decide +kernel
theorem dX53_above_73 : decode cX53_above 73 = .ok (.iconst 0, 1) := by decide +kernel
theorem dX53_above_74 : decode cX53_above 74 = .ok (.putfield 59, 3) := by decide +kernel
theorem dX53_above_77 : decode cX53_above 77 = .ok (.iconst 1, 1) := by decide +kernel
theorem dX53_above_78 : decode cX53_above 78 = .ok (.ireturn, 1) := by decide +kernel
abbrev cX53_kept : ByteArray := prog_83_method_16_code
def yX53_kept : MethodName := ⟨RX53, "kept", "()I"⟩
theorem dX53_kept_0 : decode cX53_kept 0 = .ok (.aload_n 0, 1) := by decide +kernel
theorem dX53_kept_1 : decode cX53_kept 1 = .ok (.iconst 0, 1) := by decide +kernel
theorem dX53_kept_2 : decode cX53_kept 2 = .ok (.putfield 38, 3) := by decide +kernel
theorem dX53_kept_5 : decode cX53_kept 5 = .ok (.aload_n 0, 1) := by decide +kernel
theorem dX53_kept_6 : decode cX53_kept 6 = .ok (.invokevirtual 63, 3) := by decide +kernel
theorem dX53_kept_9 : decode cX53_kept 9 = .ok (.ireturn, 1) := by decide +kernel
abbrev cX53_countKept : ByteArray := prog_83_method_14_code
def yX53_countKept : MethodName := ⟨RX53, "countKept", "()I"⟩
theorem dX53_countKept_0 : decode cX53_countKept 0 = .ok (.aload_n 0, 1) := by decide +kernel
theorem dX53_countKept_1 : decode cX53_countKept 1 = .ok (.invokevirtual 74, 3) := by decide +kernel
theorem dX53_countKept_4 : decode cX53_countKept 4 = .ok (.iconst 0, 1) := by decide +kernel
theorem dX53_countKept_5 : decode cX53_countKept 5 = .ok (.istore_n 1, 1) := by decide +kernel
theorem dX53_countKept_6 : decode cX53_countKept 6 = .ok (.iconst 0, 1) := by decide +kernel
theorem dX53_countKept_7 : decode cX53_countKept 7 = .ok (.istore_n 2, 1) := by decide +kernel
theorem dX53_countKept_8 : decode cX53_countKept 8 = .ok (.iload_n 2, 1) := by decide +kernel
theorem dX53_countKept_9 : decode cX53_countKept 9 = .ok (.bipush 40, 2) := by decide +kernel
theorem dX53_countKept_11 : decode cX53_countKept 11 = .ok (.if_icmp .ge 26, 3) := by decide +kernel
theorem dX53_countKept_14 : decode cX53_countKept 14 = .ok (.iload_n 1, 1) := by decide +kernel
theorem dX53_countKept_15 : decode cX53_countKept 15 = .ok (.aload_n 0, 1) := by decide +kernel
theorem dX53_countKept_16 : decode cX53_countKept 16 = .ok (.getfield 35, 3) := by decide +kernel
theorem dX53_countKept_19 : decode cX53_countKept 19 = .ok (.iload_n 2, 1) := by decide +kernel
theorem dX53_countKept_20 : decode cX53_countKept 20 = .ok (.baload, 1) := by decide +kernel
theorem dX53_countKept_21 : decode cX53_countKept 21 = .ok (.ifCond .eq 7, 3) := by decide +kernel
theorem dX53_countKept_24 : decode cX53_countKept 24 = .ok (.iconst 1, 1) := by decide +kernel
theorem dX53_countKept_25 : decode cX53_countKept 25 = .ok (.goto 4, 3) := by decide +kernel
theorem dX53_countKept_28 : decode cX53_countKept 28 = .ok (.iconst 0, 1) := by decide +kernel
theorem dX53_countKept_29 : decode cX53_countKept 29 = .ok (.iadd, 1) := by decide +kernel
theorem dX53_countKept_30 : decode cX53_countKept 30 = .ok (.istore_n 1, 1) := by decide +kernel
theorem dX53_countKept_31 : decode cX53_countKept 31 = .ok (.iinc 2 1, 3) := by decide +kernel
theorem dX53_countKept_34 : decode cX53_countKept 34 = .ok (.goto (-26), 3) := by decide +kernel
theorem dX53_countKept_37 : decode cX53_countKept 37 = .ok (.iload_n 1, 1) := by decide +kernel
theorem dX53_countKept_38 : decode cX53_countKept 38 = .ok (.ireturn, 1) := by decide +kernel
abbrev cX53_reckon : ByteArray := prog_83_method_13_code
def yX53_reckon : MethodName := ⟨RX53, "reckon", "()V"⟩
theorem dX53_reckon_0 : decode cX53_reckon 0 = .ok (.aload_n 0, 1) := by decide +kernel
theorem dX53_reckon_1 : decode cX53_reckon 1 = .ok (.getfield 59, 3) := by decide +kernel
theorem dX53_reckon_4 : decode cX53_reckon 4 = .ok (.ifCond .eq 4, 3) := by decide +kernel
theorem dX53_reckon_7 : decode cX53_reckon 7 = .ok (.return_, 1) := by decide +kernel
theorem dX53_reckon_8 : decode cX53_reckon 8 = .ok (.aload_n 0, 1) := by decide +kernel
theorem dX53_reckon_9 : decode cX53_reckon 9 = .ok (.iconst 1, 1) := by decide +kernel
theorem dX53_reckon_10 : decode cX53_reckon 10 = .ok (.putfield 59, 3) := by decide +kernel
theorem dX53_reckon_13 : decode cX53_reckon 13 = .ok (.iconst 0, 1) := by decide +kernel
theorem dX53_reckon_14 : decode cX53_reckon 14 = .ok (.istore_n 1, 1) := by decide +kernel
theorem dX53_reckon_15 : decode cX53_reckon 15 = .ok (.iload_n 1, 1) := by decide +kernel
theorem dX53_reckon_16 : decode cX53_reckon 16 = .ok (.sipush 10240, 3) := by decide +kernel
theorem dX53_reckon_19 : decode cX53_reckon 19 = .ok (.if_icmp .ge 16, 3) := by decide +kernel
theorem dX53_reckon_22 : decode cX53_reckon 22 = .ok (.aload_n 0, 1) := by decide +kernel
theorem dX53_reckon_23 : decode cX53_reckon 23 = .ok (.getfield 29, 3) := by decide +kernel
theorem dX53_reckon_26 : decode cX53_reckon 26 = .ok (.iload_n 1, 1) := by decide +kernel
theorem dX53_reckon_27 : decode cX53_reckon 27 = .ok (.iconst 0, 1) := by decide +kernel
theorem dX53_reckon_28 : decode cX53_reckon 28 = .ok (.bastore, 1) := by decide +kernel
theorem dX53_reckon_29 : decode cX53_reckon 29 = .ok (.iinc 1 1, 3) := by decide +kernel
theorem dX53_reckon_32 : decode cX53_reckon 32 = .ok (.goto (-17), 3) := by decide +kernel
theorem dX53_reckon_35 : decode cX53_reckon 35 = .ok (.iconst 0, 1) := by decide +kernel
theorem dX53_reckon_36 : decode cX53_reckon 36 = .ok (.istore_n 1, 1) := by decide +kernel
theorem dX53_reckon_37 : decode cX53_reckon 37 = .ok (.iload_n 1, 1) := by decide +kernel
theorem dX53_reckon_38 : decode cX53_reckon 38 = .ok (.aload_n 0, 1) := by decide +kernel
theorem dX53_reckon_39 : decode cX53_reckon 39 = .ok (.getfield 42, 3) := by decide +kernel
theorem dX53_reckon_42 : decode cX53_reckon 42 = .ok (.if_icmp .ge 65, 3) := by decide +kernel
theorem dX53_reckon_45 : decode cX53_reckon 45 = .ok (.aload_n 0, 1) := by decide +kernel
theorem dX53_reckon_46 : decode cX53_reckon 46 = .ok (.getfield 16, 3) := by decide +kernel
theorem dX53_reckon_49 : decode cX53_reckon 49 = .ok (.iload_n 1, 1) := by decide +kernel
theorem dX53_reckon_50 : decode cX53_reckon 50 = .ok (.iaload, 1) := by decide +kernel
theorem dX53_reckon_51 : decode cX53_reckon 51 = .ok (.istore_n 2, 1) := by decide +kernel
theorem dX53_reckon_52 : decode cX53_reckon 52 = .ok (.iload_n 2, 1) := by decide +kernel
theorem dX53_reckon_53 : decode cX53_reckon 53 = .ok (.ifCond .lt 48, 3) := by decide +kernel
theorem dX53_reckon_56 : decode cX53_reckon 56 = .ok (.aload_n 0, 1) := by decide +kernel
theorem dX53_reckon_57 : decode cX53_reckon 57 = .ok (.getfield 29, 3) := by decide +kernel
theorem dX53_reckon_60 : decode cX53_reckon 60 = .ok (.aload_n 0, 1) := by decide +kernel
theorem dX53_reckon_61 : decode cX53_reckon 61 = .ok (.getfield 7, 3) := by decide +kernel
theorem dX53_reckon_64 : decode cX53_reckon 64 = .ok (.iload_n 1, 1) := by decide +kernel
theorem dX53_reckon_65 : decode cX53_reckon 65 = .ok (.iaload, 1) := by decide +kernel
theorem dX53_reckon_66 : decode cX53_reckon 66 = .ok (.aload_n 0, 1) := by decide +kernel
theorem dX53_reckon_67 : decode cX53_reckon 67 = .ok (.getfield 13, 3) := by decide +kernel
theorem dX53_reckon_70 : decode cX53_reckon 70 = .ok (.iload_n 1, 1) := by decide +kernel
theorem dX53_reckon_71 : decode cX53_reckon 71 = .ok (.iaload, 1) := by decide +kernel
theorem dX53_reckon_72 : decode cX53_reckon 72 = .ok (.iload_n 2, 1) := by decide +kernel
theorem dX53_reckon_73 : decode cX53_reckon 73 = .ok (.invokestatic 67, 3) := by decide +kernel
theorem dX53_reckon_76 : decode cX53_reckon 76 = .ok (.iconst 1, 1) := by decide +kernel
theorem dX53_reckon_77 : decode cX53_reckon 77 = .ok (.bastore, 1) := by decide +kernel
theorem dX53_reckon_78 : decode cX53_reckon 78 = .ok (.aload_n 0, 1) := by decide +kernel
theorem dX53_reckon_79 : decode cX53_reckon 79 = .ok (.getfield 13, 3) := by decide +kernel
theorem dX53_reckon_82 : decode cX53_reckon 82 = .ok (.iload_n 1, 1) := by decide +kernel
theorem dX53_reckon_83 : decode cX53_reckon 83 = .ok (.iaload, 1) := by decide +kernel
theorem dX53_reckon_84 : decode cX53_reckon 84 = .ok (.ifCond .ne 12, 3) := by decide +kernel
theorem dX53_reckon_87 : decode cX53_reckon 87 = .ok (.aload_n 0, 1) := by decide +kernel
theorem dX53_reckon_88 : decode cX53_reckon 88 = .ok (.getfield 19, 3) := by decide +kernel
theorem dX53_reckon_91 : decode cX53_reckon 91 = .ok (.iload_n 2, 1) := by decide +kernel
theorem dX53_reckon_92 : decode cX53_reckon 92 = .ok (.iaload, 1) := by decide +kernel
theorem dX53_reckon_93 : decode cX53_reckon 93 = .ok (.goto 4, 3) := by decide +kernel
theorem dX53_reckon_96 : decode cX53_reckon 96 = .ok (.iconst (-1), 1) := by decide +kernel
theorem dX53_reckon_97 : decode cX53_reckon 97 = .ok (.istore_n 2, 1) := by decide +kernel
theorem dX53_reckon_98 : decode cX53_reckon 98 = .ok (.goto (-46), 3) := by decide +kernel
theorem dX53_reckon_101 : decode cX53_reckon 101 = .ok (.iinc 1 1, 3) := by decide +kernel
theorem dX53_reckon_104 : decode cX53_reckon 104 = .ok (.goto (-67), 3) := by decide +kernel
theorem dX53_reckon_107 : decode cX53_reckon 107 = .ok (.iconst 0, 1) := by decide +kernel
theorem dX53_reckon_108 : decode cX53_reckon 108 = .ok (.istore_n 1, 1) := by decide +kernel
theorem dX53_reckon_109 : decode cX53_reckon 109 = .ok (.iload_n 1, 1) := by decide +kernel
theorem dX53_reckon_110 : decode cX53_reckon 110 = .ok (.bipush 40, 2) := by decide +kernel
theorem dX53_reckon_112 : decode cX53_reckon 112 = .ok (.if_icmp .ge 108, 3) := by decide +kernel
theorem dX53_reckon_115 : decode cX53_reckon 115 = .ok (.iconst 0, 1) := by decide +kernel
theorem dX53_reckon_116 : decode cX53_reckon 116 = .ok (.istore_n 2, 1) := by decide +kernel
theorem dX53_reckon_117 : decode cX53_reckon 117 = .ok (.iconst (-1), 1) := by decide +kernel
theorem dX53_reckon_118 : decode cX53_reckon 118 = .ok (.istore_n 3, 1) := by decide +kernel
theorem dX53_reckon_119 : decode cX53_reckon 119 = .ok (.iconst 0, 1) := by decide +kernel
theorem dX53_reckon_120 : decode cX53_reckon 120 = .ok (.istore 4, 2) := by decide +kernel
theorem dX53_reckon_122 : decode cX53_reckon 122 = .ok (.iload 4, 2) := by decide +kernel
theorem dX53_reckon_124 : decode cX53_reckon 124 = .ok (.bipush 8, 2) := by decide +kernel
theorem dX53_reckon_126 : decode cX53_reckon 126 = .ok (.if_icmp .ge 25, 3) := by decide +kernel
theorem dX53_reckon_129 : decode cX53_reckon 129 = .ok (.aload_n 0, 1) := by decide +kernel
theorem dX53_reckon_130 : decode cX53_reckon 130 = .ok (.iload_n 1, 1) := by decide +kernel
theorem dX53_reckon_131 : decode cX53_reckon 131 = .ok (.iload 4, 2) := by decide +kernel
theorem dX53_reckon_133 : decode cX53_reckon 133 = .ok (.invokevirtual 70, 3) := by decide +kernel
theorem dX53_reckon_136 : decode cX53_reckon 136 = .ok (.ifCond .ne 9, 3) := by decide +kernel
theorem dX53_reckon_139 : decode cX53_reckon 139 = .ok (.iinc 2 1, 3) := by decide +kernel
theorem dX53_reckon_142 : decode cX53_reckon 142 = .ok (.iload 4, 2) := by decide +kernel
theorem dX53_reckon_144 : decode cX53_reckon 144 = .ok (.istore_n 3, 1) := by decide +kernel
theorem dX53_reckon_145 : decode cX53_reckon 145 = .ok (.iinc 4 1, 3) := by decide +kernel
theorem dX53_reckon_148 : decode cX53_reckon 148 = .ok (.goto (-26), 3) := by decide +kernel
theorem dX53_reckon_151 : decode cX53_reckon 151 = .ok (.aload_n 0, 1) := by decide +kernel
theorem dX53_reckon_152 : decode cX53_reckon 152 = .ok (.getfield 35, 3) := by decide +kernel
theorem dX53_reckon_155 : decode cX53_reckon 155 = .ok (.iload_n 1, 1) := by decide +kernel
theorem dX53_reckon_156 : decode cX53_reckon 156 = .ok (.iload_n 2, 1) := by decide +kernel
theorem dX53_reckon_157 : decode cX53_reckon 157 = .ok (.ifCond .ne 7, 3) := by decide +kernel
theorem dX53_reckon_160 : decode cX53_reckon 160 = .ok (.iconst 1, 1) := by decide +kernel
theorem dX53_reckon_161 : decode cX53_reckon 161 = .ok (.goto 4, 3) := by decide +kernel
theorem dX53_reckon_164 : decode cX53_reckon 164 = .ok (.iconst 0, 1) := by decide +kernel
theorem dX53_reckon_165 : decode cX53_reckon 165 = .ok (.bastore, 1) := by decide +kernel
theorem dX53_reckon_166 : decode cX53_reckon 166 = .ok (.iconst 0, 1) := by decide +kernel
theorem dX53_reckon_167 : decode cX53_reckon 167 = .ok (.istore 4, 2) := by decide +kernel
theorem dX53_reckon_169 : decode cX53_reckon 169 = .ok (.iload 4, 2) := by decide +kernel
theorem dX53_reckon_171 : decode cX53_reckon 171 = .ok (.bipush 8, 2) := by decide +kernel
theorem dX53_reckon_173 : decode cX53_reckon 173 = .ok (.if_icmp .ge 41, 3) := by decide +kernel
theorem dX53_reckon_176 : decode cX53_reckon 176 = .ok (.aload_n 0, 1) := by decide +kernel
theorem dX53_reckon_177 : decode cX53_reckon 177 = .ok (.getfield 32, 3) := by decide +kernel
theorem dX53_reckon_180 : decode cX53_reckon 180 = .ok (.bipush 8, 2) := by decide +kernel
theorem dX53_reckon_182 : decode cX53_reckon 182 = .ok (.iload_n 1, 1) := by decide +kernel
theorem dX53_reckon_183 : decode cX53_reckon 183 = .ok (.imul, 1) := by decide +kernel
theorem dX53_reckon_184 : decode cX53_reckon 184 = .ok (.iload 4, 2) := by decide +kernel
theorem dX53_reckon_186 : decode cX53_reckon 186 = .ok (.iadd, 1) := by decide +kernel
theorem dX53_reckon_187 : decode cX53_reckon 187 = .ok (.iload_n 2, 1) := by decide +kernel
theorem dX53_reckon_188 : decode cX53_reckon 188 = .ok (.ifCond .eq 14, 3) := by decide +kernel
theorem dX53_reckon_191 : decode cX53_reckon 191 = .ok (.iload_n 2, 1) := by decide +kernel
theorem dX53_reckon_192 : decode cX53_reckon 192 = .ok (.iconst 1, 1) := by decide +kernel
theorem dX53_reckon_193 : decode cX53_reckon 193 = .ok (.if_icmp .ne 13, 3) := by decide +kernel
theorem dX53_reckon_196 : decode cX53_reckon 196 = .ok (.iload_n 3, 1) := by decide +kernel
theorem dX53_reckon_197 : decode cX53_reckon 197 = .ok (.iload 4, 2) := by decide +kernel
theorem dX53_reckon_199 : decode cX53_reckon 199 = .ok (.if_icmp .ne 7, 3) := by decide +kernel
theorem dX53_reckon_202 : decode cX53_reckon 202 = .ok (.iconst 1, 1) := by decide +kernel
theorem dX53_reckon_203 : decode cX53_reckon 203 = .ok (.goto 4, 3) := by decide +kernel
theorem dX53_reckon_206 : decode cX53_reckon 206 = .ok (.iconst 0, 1) := by decide +kernel
theorem dX53_reckon_207 : decode cX53_reckon 207 = .ok (.bastore, 1) := by decide +kernel
theorem dX53_reckon_208 : decode cX53_reckon 208 = .ok (.iinc 4 1, 3) := by decide +kernel
theorem dX53_reckon_211 : decode cX53_reckon 211 = .ok (.goto (-42), 3) := by decide +kernel
theorem dX53_reckon_214 : decode cX53_reckon 214 = .ok (.iinc 1 1, 3) := by decide +kernel
theorem dX53_reckon_217 : decode cX53_reckon 217 = .ok (.goto (-108), 3) := by decide +kernel
theorem dX53_reckon_220 : decode cX53_reckon 220 = .ok (.return_, 1) := by decide +kernel
abbrev cX53_place : ByteArray := prog_83_method_11_code
def yX53_place : MethodName := ⟨RX53, "place", "(III)I"⟩
theorem dX53_place_0 : decode cX53_place 0 = .ok (.sipush 256, 3) := by decide +kernel
theorem dX53_place_3 : decode cX53_place 3 = .ok (.iload_n 0, 1) := by decide +kernel
theorem dX53_place_4 : decode cX53_place 4 = .ok (.imul, 1) := by decide +kernel
theorem dX53_place_5 : decode cX53_place 5 = .ok (.bipush 32, 2) := by decide +kernel
theorem dX53_place_7 : decode cX53_place 7 = .ok (.iload_n 1, 1) := by decide +kernel
theorem dX53_place_8 : decode cX53_place 8 = .ok (.imul, 1) := by decide +kernel
theorem dX53_place_9 : decode cX53_place 9 = .ok (.iadd, 1) := by decide +kernel
theorem dX53_place_10 : decode cX53_place 10 = .ok (.iload_n 2, 1) := by decide +kernel
theorem dX53_place_11 : decode cX53_place 11 = .ok (.iadd, 1) := by decide +kernel
theorem dX53_place_12 : decode cX53_place 12 = .ok (.ireturn, 1) := by decide +kernel
abbrev cX53_fits : ByteArray := prog_83_method_12_code
def yX53_fits : MethodName := ⟨RX53, "fits", "(II)Z"⟩
theorem dX53_fits_0 : decode cX53_fits 0 = .ok (.iconst 0, 1) := by decide +kernel
theorem dX53_fits_1 : decode cX53_fits 1 = .ok (.istore_n 3, 1) := by decide +kernel
theorem dX53_fits_2 : decode cX53_fits 2 = .ok (.iconst 0, 1) := by decide +kernel
theorem dX53_fits_3 : decode cX53_fits 3 = .ok (.istore 4, 2) := by decide +kernel
theorem dX53_fits_5 : decode cX53_fits 5 = .ok (.iconst 0, 1) := by decide +kernel
theorem dX53_fits_6 : decode cX53_fits 6 = .ok (.istore 5, 2) := by decide +kernel
theorem dX53_fits_8 : decode cX53_fits 8 = .ok (.iload 5, 2) := by decide +kernel
theorem dX53_fits_10 : decode cX53_fits 10 = .ok (.bipush 32, 2) := by decide +kernel
theorem dX53_fits_12 : decode cX53_fits 12 = .ok (.if_icmp .ge 76, 3) := by decide +kernel
theorem dX53_fits_15 : decode cX53_fits 15 = .ok (.iload_n 3, 1) := by decide +kernel
theorem dX53_fits_16 : decode cX53_fits 16 = .ok (.ifCond .ne 18, 3) := by decide +kernel
theorem dX53_fits_19 : decode cX53_fits 19 = .ok (.aload_n 0, 1) := by decide +kernel
theorem dX53_fits_20 : decode cX53_fits 20 = .ok (.getfield 22, 3) := by decide +kernel
theorem dX53_fits_23 : decode cX53_fits 23 = .ok (.bipush 32, 2) := by decide +kernel
theorem dX53_fits_25 : decode cX53_fits 25 = .ok (.iload_n 2, 1) := by decide +kernel
theorem dX53_fits_26 : decode cX53_fits 26 = .ok (.imul, 1) := by decide +kernel
theorem dX53_fits_27 : decode cX53_fits 27 = .ok (.iload 5, 2) := by decide +kernel
theorem dX53_fits_29 : decode cX53_fits 29 = .ok (.iadd, 1) := by decide +kernel
theorem dX53_fits_30 : decode cX53_fits 30 = .ok (.baload, 1) := by decide +kernel
theorem dX53_fits_31 : decode cX53_fits 31 = .ok (.ifCond .eq 7, 3) := by decide +kernel
theorem dX53_fits_34 : decode cX53_fits 34 = .ok (.iconst 1, 1) := by decide +kernel
theorem dX53_fits_35 : decode cX53_fits 35 = .ok (.goto 4, 3) := by decide +kernel
theorem dX53_fits_38 : decode cX53_fits 38 = .ok (.iconst 0, 1) := by decide +kernel
theorem dX53_fits_39 : decode cX53_fits 39 = .ok (.istore_n 3, 1) := by decide +kernel
theorem dX53_fits_40 : decode cX53_fits 40 = .ok (.iload 4, 2) := by decide +kernel
theorem dX53_fits_42 : decode cX53_fits 42 = .ok (.ifCond .ne 33, 3) := by decide +kernel
theorem dX53_fits_45 : decode cX53_fits 45 = .ok (.aload_n 0, 1) := by decide +kernel
theorem dX53_fits_46 : decode cX53_fits 46 = .ok (.getfield 22, 3) := by decide +kernel
theorem dX53_fits_49 : decode cX53_fits 49 = .ok (.bipush 32, 2) := by decide +kernel
theorem dX53_fits_51 : decode cX53_fits 51 = .ok (.iload_n 2, 1) := by decide +kernel
theorem dX53_fits_52 : decode cX53_fits 52 = .ok (.imul, 1) := by decide +kernel
theorem dX53_fits_53 : decode cX53_fits 53 = .ok (.iload 5, 2) := by decide +kernel
theorem dX53_fits_55 : decode cX53_fits 55 = .ok (.iadd, 1) := by decide +kernel
theorem dX53_fits_56 : decode cX53_fits 56 = .ok (.baload, 1) := by decide +kernel
theorem dX53_fits_57 : decode cX53_fits 57 = .ok (.ifCond .eq 22, 3) := by decide +kernel
theorem dX53_fits_60 : decode cX53_fits 60 = .ok (.aload_n 0, 1) := by decide +kernel
theorem dX53_fits_61 : decode cX53_fits 61 = .ok (.getfield 29, 3) := by decide +kernel
theorem dX53_fits_64 : decode cX53_fits 64 = .ok (.iload_n 1, 1) := by decide +kernel
theorem dX53_fits_65 : decode cX53_fits 65 = .ok (.iload_n 2, 1) := by decide +kernel
theorem dX53_fits_66 : decode cX53_fits 66 = .ok (.iload 5, 2) := by decide +kernel
theorem dX53_fits_68 : decode cX53_fits 68 = .ok (.invokestatic 67, 3) := by decide +kernel
theorem dX53_fits_71 : decode cX53_fits 71 = .ok (.baload, 1) := by decide +kernel
theorem dX53_fits_72 : decode cX53_fits 72 = .ok (.ifCond .eq 7, 3) := by decide +kernel
theorem dX53_fits_75 : decode cX53_fits 75 = .ok (.iconst 1, 1) := by decide +kernel
theorem dX53_fits_76 : decode cX53_fits 76 = .ok (.goto 4, 3) := by decide +kernel
theorem dX53_fits_79 : decode cX53_fits 79 = .ok (.iconst 0, 1) := by decide +kernel
theorem dX53_fits_80 : decode cX53_fits 80 = .ok (.istore 4, 2) := by decide +kernel
theorem dX53_fits_82 : decode cX53_fits 82 = .ok (.iinc 5 1, 3) := by decide +kernel
theorem dX53_fits_85 : decode cX53_fits 85 = .ok (.goto (-77), 3) := by decide +kernel
theorem dX53_fits_88 : decode cX53_fits 88 = .ok (.iload 4, 2) := by decide +kernel
theorem dX53_fits_90 : decode cX53_fits 90 = .ok (.ifCond .ne 7, 3) := by decide +kernel
theorem dX53_fits_93 : decode cX53_fits 93 = .ok (.iload_n 3, 1) := by decide +kernel
theorem dX53_fits_94 : decode cX53_fits 94 = .ok (.ifCond .ne 7, 3) := by decide +kernel
theorem dX53_fits_97 : decode cX53_fits 97 = .ok (.iconst 1, 1) := by decide +kernel
theorem dX53_fits_98 : decode cX53_fits 98 = .ok (.goto 4, 3) := by decide +kernel
theorem dX53_fits_101 : decode cX53_fits 101 = .ok (.iconst 0, 1) := by decide +kernel
theorem dX53_fits_102 : decode cX53_fits 102 = .ok (.ireturn, 1) := by decide +kernel
abbrev cX53_choose : ByteArray := prog_83_method_10_code
def yX53_choose : MethodName := ⟨RX53, "choose", "(IIZ)I"⟩
theorem dX53_choose_0 : decode cX53_choose 0 = .ok (.aload_n 0, 1) := by decide +kernel
theorem dX53_choose_1 : decode cX53_choose 1 = .ok (.iconst 0, 1) := by decide +kernel
theorem dX53_choose_2 : decode cX53_choose 2 = .ok (.putfield 38, 3) := by decide +kernel
theorem dX53_choose_5 : decode cX53_choose 5 = .ok (.iload_n 1, 1) := by decide +kernel
theorem dX53_choose_6 : decode cX53_choose 6 = .ok (.invokestatic 49, 3) := by decide +kernel
theorem dX53_choose_9 : decode cX53_choose 9 = .ok (.ifCond .eq 10, 3) := by decide +kernel
theorem dX53_choose_12 : decode cX53_choose 12 = .ok (.iload_n 2, 1) := by decide +kernel
theorem dX53_choose_13 : decode cX53_choose 13 = .ok (.invokestatic 52, 3) := by decide +kernel
theorem dX53_choose_16 : decode cX53_choose 16 = .ok (.ifCond .ne 5, 3) := by decide +kernel
theorem dX53_choose_19 : decode cX53_choose 19 = .ok (.iconst (-1), 1) := by decide +kernel
theorem dX53_choose_20 : decode cX53_choose 20 = .ok (.ireturn, 1) := by decide +kernel
theorem dX53_choose_21 : decode cX53_choose 21 = .ok (.aload_n 0, 1) := by decide +kernel
theorem dX53_choose_22 : decode cX53_choose 22 = .ok (.getfield 22, 3) := by decide +kernel
theorem dX53_choose_25 : decode cX53_choose 25 = .ok (.bipush 32, 2) := by decide +kernel
theorem dX53_choose_27 : decode cX53_choose 27 = .ok (.iload_n 1, 1) := by decide +kernel
theorem dX53_choose_28 : decode cX53_choose 28 = .ok (.imul, 1) := by decide +kernel
theorem dX53_choose_29 : decode cX53_choose 29 = .ok (.iload_n 2, 1) := by decide +kernel
theorem dX53_choose_30 : decode cX53_choose 30 = .ok (.iadd, 1) := by decide +kernel
theorem dX53_choose_31 : decode cX53_choose 31 = .ok (.iload_n 3, 1) := by decide +kernel
theorem dX53_choose_32 : decode cX53_choose 32 = .ok (.bastore, 1) := by decide +kernel
theorem dX53_choose_33 : decode cX53_choose 33 = .ok (.aload_n 0, 1) := by decide +kernel
theorem dX53_choose_34 : decode cX53_choose 34 = .ok (.iconst 0, 1) := by decide +kernel
theorem dX53_choose_35 : decode cX53_choose 35 = .ok (.putfield 59, 3) := by decide +kernel
theorem dX53_choose_38 : decode cX53_choose 38 = .ok (.aload_n 0, 1) := by decide +kernel
theorem dX53_choose_39 : decode cX53_choose 39 = .ok (.invokevirtual 63, 3) := by decide +kernel
theorem dX53_choose_42 : decode cX53_choose 42 = .ok (.ireturn, 1) := by decide +kernel
abbrev cX53_isKept : ByteArray := prog_83_method_17_code
def yX53_isKept : MethodName := ⟨RX53, "isKept", "(I)I"⟩
theorem dX53_isKept_0 : decode cX53_isKept 0 = .ok (.aload_n 0, 1) := by decide +kernel
theorem dX53_isKept_1 : decode cX53_isKept 1 = .ok (.iconst 0, 1) := by decide +kernel
theorem dX53_isKept_2 : decode cX53_isKept 2 = .ok (.putfield 38, 3) := by decide +kernel
theorem dX53_isKept_5 : decode cX53_isKept 5 = .ok (.aload_n 0, 1) := by decide +kernel
theorem dX53_isKept_6 : decode cX53_isKept 6 = .ok (.invokevirtual 74, 3) := by decide +kernel
theorem dX53_isKept_9 : decode cX53_isKept 9 = .ok (.iload_n 1, 1) := by decide +kernel
theorem dX53_isKept_10 : decode cX53_isKept 10 = .ok (.invokestatic 45, 3) := by decide +kernel
theorem dX53_isKept_13 : decode cX53_isKept 13 = .ok (.ifCond .ne 7, 3) := by decide +kernel
theorem dX53_isKept_16 : decode cX53_isKept 16 = .ok (.iconst (-1), 1) := by decide +kernel
theorem dX53_isKept_17 : decode cX53_isKept 17 = .ok (.goto 17, 3) := by decide +kernel
theorem dX53_isKept_20 : decode cX53_isKept 20 = .ok (.aload_n 0, 1) := by decide +kernel
theorem dX53_isKept_21 : decode cX53_isKept 21 = .ok (.getfield 35, 3) := by decide +kernel
theorem dX53_isKept_24 : decode cX53_isKept 24 = .ok (.iload_n 1, 1) := by decide +kernel
theorem dX53_isKept_25 : decode cX53_isKept 25 = .ok (.baload, 1) := by decide +kernel
theorem dX53_isKept_26 : decode cX53_isKept 26 = .ok (.ifCond .eq 7, 3) := by decide +kernel
theorem dX53_isKept_29 : decode cX53_isKept 29 = .ok (.iconst 1, 1) := by decide +kernel
theorem dX53_isKept_30 : decode cX53_isKept 30 = .ok (.goto 4, 3) := by decide +kernel
theorem dX53_isKept_33 : decode cX53_isKept 33 = .ok (.iconst 0, 1) := by decide +kernel
theorem dX53_isKept_34 : decode cX53_isKept 34 = .ok (.ireturn, 1) := by decide +kernel
abbrev cX53_facet : ByteArray := prog_83_method_18_code
def yX53_facet : MethodName := ⟨RX53, "facet", "(II)I"⟩
theorem dX53_facet_0 : decode cX53_facet 0 = .ok (.aload_n 0, 1) := by decide +kernel
theorem dX53_facet_1 : decode cX53_facet 1 = .ok (.iconst 0, 1) := by decide +kernel
theorem dX53_facet_2 : decode cX53_facet 2 = .ok (.putfield 38, 3) := by decide +kernel
theorem dX53_facet_5 : decode cX53_facet 5 = .ok (.aload_n 0, 1) := by decide +kernel
theorem dX53_facet_6 : decode cX53_facet 6 = .ok (.invokevirtual 74, 3) := by decide +kernel
theorem dX53_facet_9 : decode cX53_facet 9 = .ok (.iload_n 1, 1) := by decide +kernel
theorem dX53_facet_10 : decode cX53_facet 10 = .ok (.invokestatic 49, 3) := by decide +kernel
theorem dX53_facet_13 : decode cX53_facet 13 = .ok (.ifCond .eq 19, 3) := by decide +kernel
theorem dX53_facet_16 : decode cX53_facet 16 = .ok (.iload_n 2, 1) := by decide +kernel
theorem dX53_facet_17 : decode cX53_facet 17 = .ok (.invokestatic 52, 3) := by decide +kernel
theorem dX53_facet_20 : decode cX53_facet 20 = .ok (.ifCond .eq 12, 3) := by decide +kernel
theorem dX53_facet_23 : decode cX53_facet 23 = .ok (.aload_n 0, 1) := by decide +kernel
theorem dX53_facet_24 : decode cX53_facet 24 = .ok (.iload_n 1, 1) := by decide +kernel
theorem dX53_facet_25 : decode cX53_facet 25 = .ok (.iload_n 2, 1) := by decide +kernel
theorem dX53_facet_26 : decode cX53_facet 26 = .ok (.invokevirtual 77, 3) := by decide +kernel
theorem dX53_facet_29 : decode cX53_facet 29 = .ok (.goto 4, 3) := by decide +kernel
theorem dX53_facet_32 : decode cX53_facet 32 = .ok (.iconst (-1), 1) := by decide +kernel
theorem dX53_facet_33 : decode cX53_facet 33 = .ok (.ireturn, 1) := by decide +kernel
abbrev cX53_countOf : ByteArray := prog_83_method_15_code
def yX53_countOf : MethodName := ⟨RX53, "countOf", "(II)I"⟩
theorem dX53_countOf_0 : decode cX53_countOf 0 = .ok (.iconst 0, 1) := by decide +kernel
theorem dX53_countOf_1 : decode cX53_countOf 1 = .ok (.istore_n 3, 1) := by decide +kernel
theorem dX53_countOf_2 : decode cX53_countOf 2 = .ok (.iconst 0, 1) := by decide +kernel
theorem dX53_countOf_3 : decode cX53_countOf 3 = .ok (.istore 4, 2) := by decide +kernel
theorem dX53_countOf_5 : decode cX53_countOf 5 = .ok (.iload 4, 2) := by decide +kernel
theorem dX53_countOf_7 : decode cX53_countOf 7 = .ok (.bipush 40, 2) := by decide +kernel
theorem dX53_countOf_9 : decode cX53_countOf 9 = .ok (.if_icmp .ge 47, 3) := by decide +kernel
theorem dX53_countOf_12 : decode cX53_countOf 12 = .ok (.iload_n 3, 1) := by decide +kernel
theorem dX53_countOf_13 : decode cX53_countOf 13 = .ok (.aload_n 0, 1) := by decide +kernel
theorem dX53_countOf_14 : decode cX53_countOf 14 = .ok (.getfield 32, 3) := by decide +kernel
theorem dX53_countOf_17 : decode cX53_countOf 17 = .ok (.bipush 8, 2) := by decide +kernel
theorem dX53_countOf_19 : decode cX53_countOf 19 = .ok (.iload 4, 2) := by decide +kernel
theorem dX53_countOf_21 : decode cX53_countOf 21 = .ok (.imul, 1) := by decide +kernel
theorem dX53_countOf_22 : decode cX53_countOf 22 = .ok (.iload_n 1, 1) := by decide +kernel
theorem dX53_countOf_23 : decode cX53_countOf 23 = .ok (.iadd, 1) := by decide +kernel
theorem dX53_countOf_24 : decode cX53_countOf 24 = .ok (.baload, 1) := by decide +kernel
theorem dX53_countOf_25 : decode cX53_countOf 25 = .ok (.ifCond .eq 22, 3) := by decide +kernel
theorem dX53_countOf_28 : decode cX53_countOf 28 = .ok (.aload_n 0, 1) := by decide +kernel
theorem dX53_countOf_29 : decode cX53_countOf 29 = .ok (.getfield 29, 3) := by decide +kernel
theorem dX53_countOf_32 : decode cX53_countOf 32 = .ok (.iload 4, 2) := by decide +kernel
theorem dX53_countOf_34 : decode cX53_countOf 34 = .ok (.iload_n 1, 1) := by decide +kernel
theorem dX53_countOf_35 : decode cX53_countOf 35 = .ok (.iload_n 2, 1) := by decide +kernel
theorem dX53_countOf_36 : decode cX53_countOf 36 = .ok (.invokestatic 67, 3) := by decide +kernel
theorem dX53_countOf_39 : decode cX53_countOf 39 = .ok (.baload, 1) := by decide +kernel
theorem dX53_countOf_40 : decode cX53_countOf 40 = .ok (.ifCond .eq 7, 3) := by decide +kernel
theorem dX53_countOf_43 : decode cX53_countOf 43 = .ok (.iconst 1, 1) := by decide +kernel
theorem dX53_countOf_44 : decode cX53_countOf 44 = .ok (.goto 4, 3) := by decide +kernel
theorem dX53_countOf_47 : decode cX53_countOf 47 = .ok (.iconst 0, 1) := by decide +kernel
theorem dX53_countOf_48 : decode cX53_countOf 48 = .ok (.iadd, 1) := by decide +kernel
theorem dX53_countOf_49 : decode cX53_countOf 49 = .ok (.istore_n 3, 1) := by decide +kernel
theorem dX53_countOf_50 : decode cX53_countOf 50 = .ok (.iinc 4 1, 3) := by decide +kernel
theorem dX53_countOf_53 : decode cX53_countOf 53 = .ok (.goto (-48), 3) := by decide +kernel
theorem dX53_countOf_56 : decode cX53_countOf 56 = .ok (.iload_n 3, 1) := by decide +kernel
theorem dX53_countOf_57 : decode cX53_countOf 57 = .ok (.ireturn, 1) := by decide +kernel
abbrev cX53_top : ByteArray := prog_83_method_20_code
def yX53_top : MethodName := ⟨RX53, "top", "(II)I"⟩
theorem dX53_top_0 : decode cX53_top 0 = .ok (.aload_n 0, 1) := by decide +kernel
theorem dX53_top_1 : decode cX53_top 1 = .ok (.iconst 0, 1) := by decide +kernel
theorem dX53_top_2 : decode cX53_top 2 = .ok (.putfield 38, 3) := by decide +kernel
theorem dX53_top_5 : decode cX53_top 5 = .ok (.aload_n 0, 1) := by decide +kernel
theorem dX53_top_6 : decode cX53_top 6 = .ok (.invokevirtual 74, 3) := by decide +kernel
theorem dX53_top_9 : decode cX53_top 9 = .ok (.iload_n 1, 1) := by decide +kernel
theorem dX53_top_10 : decode cX53_top 10 = .ok (.invokestatic 49, 3) := by decide +kernel
theorem dX53_top_13 : decode cX53_top 13 = .ok (.ifCond .eq 7, 3) := by decide +kernel
theorem dX53_top_16 : decode cX53_top 16 = .ok (.iload_n 2, 1) := by decide +kernel
theorem dX53_top_17 : decode cX53_top 17 = .ok (.ifCond .ge 5, 3) := by decide +kernel
theorem dX53_top_20 : decode cX53_top 20 = .ok (.iconst (-1), 1) := by decide +kernel
theorem dX53_top_21 : decode cX53_top 21 = .ok (.ireturn, 1) := by decide +kernel
theorem dX53_top_22 : decode cX53_top 22 = .ok (.iconst 0, 1) := by decide +kernel
theorem dX53_top_23 : decode cX53_top 23 = .ok (.istore_n 3, 1) := by decide +kernel
theorem dX53_top_24 : decode cX53_top 24 = .ok (.iload_n 3, 1) := by decide +kernel
theorem dX53_top_25 : decode cX53_top 25 = .ok (.bipush 32, 2) := by decide +kernel
theorem dX53_top_27 : decode cX53_top 27 = .ok (.if_icmp .ge 30, 3) := by decide +kernel
theorem dX53_top_30 : decode cX53_top 30 = .ok (.aload_n 0, 1) := by decide +kernel
theorem dX53_top_31 : decode cX53_top 31 = .ok (.iload_n 1, 1) := by decide +kernel
theorem dX53_top_32 : decode cX53_top 32 = .ok (.iload_n 3, 1) := by decide +kernel
theorem dX53_top_33 : decode cX53_top 33 = .ok (.invokevirtual 77, 3) := by decide +kernel
theorem dX53_top_36 : decode cX53_top 36 = .ok (.ifCond .le 15, 3) := by decide +kernel
theorem dX53_top_39 : decode cX53_top 39 = .ok (.aload_n 0, 1) := by decide +kernel
theorem dX53_top_40 : decode cX53_top 40 = .ok (.iload_n 1, 1) := by decide +kernel
theorem dX53_top_41 : decode cX53_top 41 = .ok (.iload_n 3, 1) := by decide +kernel
theorem dX53_top_42 : decode cX53_top 42 = .ok (.invokevirtual 81, 3) := by decide +kernel
theorem dX53_top_45 : decode cX53_top 45 = .ok (.iload_n 2, 1) := by decide +kernel
theorem dX53_top_46 : decode cX53_top 46 = .ok (.if_icmp .ne 5, 3) := by decide +kernel
theorem dX53_top_49 : decode cX53_top 49 = .ok (.iload_n 3, 1) := by decide +kernel
theorem dX53_top_50 : decode cX53_top 50 = .ok (.ireturn, 1) := by decide +kernel
theorem dX53_top_51 : decode cX53_top 51 = .ok (.iinc 3 1, 3) := by decide +kernel
theorem dX53_top_54 : decode cX53_top 54 = .ok (.goto (-30), 3) := by decide +kernel
theorem dX53_top_57 : decode cX53_top 57 = .ok (.iconst (-1), 1) := by decide +kernel
theorem dX53_top_58 : decode cX53_top 58 = .ok (.ireturn, 1) := by decide +kernel
abbrev cX53_rankOf : ByteArray := prog_83_method_19_code
def yX53_rankOf : MethodName := ⟨RX53, "rankOf", "(II)I"⟩
theorem dX53_rankOf_0 : decode cX53_rankOf 0 = .ok (.aload_n 0, 1) := by decide +kernel
theorem dX53_rankOf_1 : decode cX53_rankOf 1 = .ok (.iload_n 1, 1) := by decide +kernel
theorem dX53_rankOf_2 : decode cX53_rankOf 2 = .ok (.iload_n 2, 1) := by decide +kernel
theorem dX53_rankOf_3 : decode cX53_rankOf 3 = .ok (.invokevirtual 77, 3) := by decide +kernel
theorem dX53_rankOf_6 : decode cX53_rankOf 6 = .ok (.istore_n 3, 1) := by decide +kernel
theorem dX53_rankOf_7 : decode cX53_rankOf 7 = .ok (.iconst 0, 1) := by decide +kernel
theorem dX53_rankOf_8 : decode cX53_rankOf 8 = .ok (.istore 4, 2) := by decide +kernel
theorem dX53_rankOf_10 : decode cX53_rankOf 10 = .ok (.iconst 0, 1) := by decide +kernel
theorem dX53_rankOf_11 : decode cX53_rankOf 11 = .ok (.istore 5, 2) := by decide +kernel
theorem dX53_rankOf_13 : decode cX53_rankOf 13 = .ok (.iload 5, 2) := by decide +kernel
theorem dX53_rankOf_15 : decode cX53_rankOf 15 = .ok (.bipush 32, 2) := by decide +kernel
theorem dX53_rankOf_17 : decode cX53_rankOf 17 = .ok (.if_icmp .ge 46, 3) := by decide +kernel
theorem dX53_rankOf_20 : decode cX53_rankOf 20 = .ok (.aload_n 0, 1) := by decide +kernel
theorem dX53_rankOf_21 : decode cX53_rankOf 21 = .ok (.iload_n 1, 1) := by decide +kernel
theorem dX53_rankOf_22 : decode cX53_rankOf 22 = .ok (.iload 5, 2) := by decide +kernel
theorem dX53_rankOf_24 : decode cX53_rankOf 24 = .ok (.invokevirtual 77, 3) := by decide +kernel
theorem dX53_rankOf_27 : decode cX53_rankOf 27 = .ok (.istore 6, 2) := by decide +kernel
theorem dX53_rankOf_29 : decode cX53_rankOf 29 = .ok (.iload 4, 2) := by decide +kernel
theorem dX53_rankOf_31 : decode cX53_rankOf 31 = .ok (.iload 6, 2) := by decide +kernel
theorem dX53_rankOf_33 : decode cX53_rankOf 33 = .ok (.iload_n 3, 1) := by decide +kernel
theorem dX53_rankOf_34 : decode cX53_rankOf 34 = .ok (.if_icmp .gt 15, 3) := by decide +kernel
theorem dX53_rankOf_37 : decode cX53_rankOf 37 = .ok (.iload 6, 2) := by decide +kernel
theorem dX53_rankOf_39 : decode cX53_rankOf 39 = .ok (.iload_n 3, 1) := by decide +kernel
theorem dX53_rankOf_40 : decode cX53_rankOf 40 = .ok (.if_icmp .ne 13, 3) := by decide +kernel
theorem dX53_rankOf_43 : decode cX53_rankOf 43 = .ok (.iload 5, 2) := by decide +kernel
theorem dX53_rankOf_45 : decode cX53_rankOf 45 = .ok (.iload_n 2, 1) := by decide +kernel
theorem dX53_rankOf_46 : decode cX53_rankOf 46 = .ok (.if_icmp .ge 7, 3) := by decide +kernel
theorem dX53_rankOf_49 : decode cX53_rankOf 49 = .ok (.iconst 1, 1) := by decide +kernel
theorem dX53_rankOf_50 : decode cX53_rankOf 50 = .ok (.goto 4, 3) := by decide +kernel
theorem dX53_rankOf_53 : decode cX53_rankOf 53 = .ok (.iconst 0, 1) := by decide +kernel
theorem dX53_rankOf_54 : decode cX53_rankOf 54 = .ok (.iadd, 1) := by decide +kernel
theorem dX53_rankOf_55 : decode cX53_rankOf 55 = .ok (.istore 4, 2) := by decide +kernel
theorem dX53_rankOf_57 : decode cX53_rankOf 57 = .ok (.iinc 5 1, 3) := by decide +kernel
theorem dX53_rankOf_60 : decode cX53_rankOf 60 = .ok (.goto (-47), 3) := by decide +kernel
theorem dX53_rankOf_63 : decode cX53_rankOf 63 = .ok (.iload 4, 2) := by decide +kernel
theorem dX53_rankOf_65 : decode cX53_rankOf 65 = .ok (.ireturn, 1) := by decide +kernel
abbrev cX53_range : ByteArray := prog_83_method_21_code
def yX53_range : MethodName := ⟨RX53, "range", "(III)I"⟩
theorem dX53_range_0 : decode cX53_range 0 = .ok (.aload_n 0, 1) := by decide +kernel
theorem dX53_range_1 : decode cX53_range 1 = .ok (.iconst 0, 1) := by decide +kernel
theorem dX53_range_2 : decode cX53_range 2 = .ok (.putfield 38, 3) := by decide +kernel
theorem dX53_range_5 : decode cX53_range 5 = .ok (.aload_n 0, 1) := by decide +kernel
theorem dX53_range_6 : decode cX53_range 6 = .ok (.invokevirtual 74, 3) := by decide +kernel
theorem dX53_range_9 : decode cX53_range 9 = .ok (.iload_n 1, 1) := by decide +kernel
theorem dX53_range_10 : decode cX53_range 10 = .ok (.invokestatic 49, 3) := by decide +kernel
theorem dX53_range_13 : decode cX53_range 13 = .ok (.ifCond .ne 5, 3) := by decide +kernel
theorem dX53_range_16 : decode cX53_range 16 = .ok (.iconst (-1), 1) := by decide +kernel
theorem dX53_range_17 : decode cX53_range 17 = .ok (.ireturn, 1) := by decide +kernel
theorem dX53_range_18 : decode cX53_range 18 = .ok (.iconst 0, 1) := by decide +kernel
theorem dX53_range_19 : decode cX53_range 19 = .ok (.istore 4, 2) := by decide +kernel
theorem dX53_range_21 : decode cX53_range 21 = .ok (.iconst 0, 1) := by decide +kernel
theorem dX53_range_22 : decode cX53_range 22 = .ok (.istore 5, 2) := by decide +kernel
theorem dX53_range_24 : decode cX53_range 24 = .ok (.iload 5, 2) := by decide +kernel
theorem dX53_range_26 : decode cX53_range 26 = .ok (.bipush 40, 2) := by decide +kernel
theorem dX53_range_28 : decode cX53_range 28 = .ok (.if_icmp .ge 98, 3) := by decide +kernel
theorem dX53_range_31 : decode cX53_range 31 = .ok (.iconst 0, 1) := by decide +kernel
theorem dX53_range_32 : decode cX53_range 32 = .ok (.istore 6, 2) := by decide +kernel
theorem dX53_range_34 : decode cX53_range 34 = .ok (.iconst 0, 1) := by decide +kernel
theorem dX53_range_35 : decode cX53_range 35 = .ok (.istore 7, 2) := by decide +kernel
theorem dX53_range_37 : decode cX53_range 37 = .ok (.iload 7, 2) := by decide +kernel
theorem dX53_range_39 : decode cX53_range 39 = .ok (.bipush 32, 2) := by decide +kernel
theorem dX53_range_41 : decode cX53_range 41 = .ok (.if_icmp .ge 49, 3) := by decide +kernel
theorem dX53_range_44 : decode cX53_range 44 = .ok (.iload 6, 2) := by decide +kernel
theorem dX53_range_46 : decode cX53_range 46 = .ok (.ifCond .ne 31, 3) := by decide +kernel
theorem dX53_range_49 : decode cX53_range 49 = .ok (.iload 7, 2) := by decide +kernel
theorem dX53_range_51 : decode cX53_range 51 = .ok (.iload_n 2, 1) := by decide +kernel
theorem dX53_range_52 : decode cX53_range 52 = .ok (.if_icmp .lt 29, 3) := by decide +kernel
theorem dX53_range_55 : decode cX53_range 55 = .ok (.iload 7, 2) := by decide +kernel
theorem dX53_range_57 : decode cX53_range 57 = .ok (.iload_n 3, 1) := by decide +kernel
theorem dX53_range_58 : decode cX53_range 58 = .ok (.if_icmp .gt 23, 3) := by decide +kernel
theorem dX53_range_61 : decode cX53_range 61 = .ok (.aload_n 0, 1) := by decide +kernel
theorem dX53_range_62 : decode cX53_range 62 = .ok (.getfield 29, 3) := by decide +kernel
theorem dX53_range_65 : decode cX53_range 65 = .ok (.iload 5, 2) := by decide +kernel
theorem dX53_range_67 : decode cX53_range 67 = .ok (.iload_n 1, 1) := by decide +kernel
theorem dX53_range_68 : decode cX53_range 68 = .ok (.iload 7, 2) := by decide +kernel
theorem dX53_range_70 : decode cX53_range 70 = .ok (.invokestatic 67, 3) := by decide +kernel
theorem dX53_range_73 : decode cX53_range 73 = .ok (.baload, 1) := by decide +kernel
theorem dX53_range_74 : decode cX53_range 74 = .ok (.ifCond .eq 7, 3) := by decide +kernel
theorem dX53_range_77 : decode cX53_range 77 = .ok (.iconst 1, 1) := by decide +kernel
theorem dX53_range_78 : decode cX53_range 78 = .ok (.goto 4, 3) := by decide +kernel
theorem dX53_range_81 : decode cX53_range 81 = .ok (.iconst 0, 1) := by decide +kernel
theorem dX53_range_82 : decode cX53_range 82 = .ok (.istore 6, 2) := by decide +kernel
theorem dX53_range_84 : decode cX53_range 84 = .ok (.iinc 7 1, 3) := by decide +kernel
theorem dX53_range_87 : decode cX53_range 87 = .ok (.goto (-50), 3) := by decide +kernel
theorem dX53_range_90 : decode cX53_range 90 = .ok (.iload 4, 2) := by decide +kernel
theorem dX53_range_92 : decode cX53_range 92 = .ok (.iload 6, 2) := by decide +kernel
theorem dX53_range_94 : decode cX53_range 94 = .ok (.ifCond .eq 22, 3) := by decide +kernel
theorem dX53_range_97 : decode cX53_range 97 = .ok (.aload_n 0, 1) := by decide +kernel
theorem dX53_range_98 : decode cX53_range 98 = .ok (.getfield 32, 3) := by decide +kernel
theorem dX53_range_101 : decode cX53_range 101 = .ok (.bipush 8, 2) := by decide +kernel
theorem dX53_range_103 : decode cX53_range 103 = .ok (.iload 5, 2) := by decide +kernel
theorem dX53_range_105 : decode cX53_range 105 = .ok (.imul, 1) := by decide +kernel
theorem dX53_range_106 : decode cX53_range 106 = .ok (.iload_n 1, 1) := by decide +kernel
theorem dX53_range_107 : decode cX53_range 107 = .ok (.iadd, 1) := by decide +kernel
theorem dX53_range_108 : decode cX53_range 108 = .ok (.baload, 1) := by decide +kernel
theorem dX53_range_109 : decode cX53_range 109 = .ok (.ifCond .eq 7, 3) := by decide +kernel
theorem dX53_range_112 : decode cX53_range 112 = .ok (.iconst 1, 1) := by decide +kernel
theorem dX53_range_113 : decode cX53_range 113 = .ok (.goto 4, 3) := by decide +kernel
theorem dX53_range_116 : decode cX53_range 116 = .ok (.iconst 0, 1) := by decide +kernel
theorem dX53_range_117 : decode cX53_range 117 = .ok (.iadd, 1) := by decide +kernel
theorem dX53_range_118 : decode cX53_range 118 = .ok (.istore 4, 2) := by decide +kernel
theorem dX53_range_120 : decode cX53_range 120 = .ok (.iinc 5 1, 3) := by decide +kernel
theorem dX53_range_123 : decode cX53_range 123 = .ok (.goto (-99), 3) := by decide +kernel
theorem dX53_range_126 : decode cX53_range 126 = .ok (.iload 4, 2) := by decide +kernel
theorem dX53_range_128 : decode cX53_range 128 = .ok (.ireturn, 1) := by decide +kernel
abbrev cX53_sum : ByteArray := prog_83_method_22_code
def yX53_sum : MethodName := ⟨RX53, "sum", "(III)I"⟩
theorem dX53_sum_0 : decode cX53_sum 0 = .ok (.aload_n 0, 1) := by decide +kernel
theorem dX53_sum_1 : decode cX53_sum 1 = .ok (.iconst 0, 1) := by decide +kernel
theorem dX53_sum_2 : decode cX53_sum 2 = .ok (.putfield 38, 3) := by decide +kernel
theorem dX53_sum_5 : decode cX53_sum 5 = .ok (.aload_n 0, 1) := by decide +kernel
theorem dX53_sum_6 : decode cX53_sum 6 = .ok (.invokevirtual 74, 3) := by decide +kernel
theorem dX53_sum_9 : decode cX53_sum 9 = .ok (.iload_n 1, 1) := by decide +kernel
theorem dX53_sum_10 : decode cX53_sum 10 = .ok (.invokestatic 49, 3) := by decide +kernel
theorem dX53_sum_13 : decode cX53_sum 13 = .ok (.ifCond .eq 17, 3) := by decide +kernel
theorem dX53_sum_16 : decode cX53_sum 16 = .ok (.iload_n 2, 1) := by decide +kernel
theorem dX53_sum_17 : decode cX53_sum 17 = .ok (.invokestatic 52, 3) := by decide +kernel
theorem dX53_sum_20 : decode cX53_sum 20 = .ok (.ifCond .eq 10, 3) := by decide +kernel
theorem dX53_sum_23 : decode cX53_sum 23 = .ok (.iload_n 3, 1) := by decide +kernel
theorem dX53_sum_24 : decode cX53_sum 24 = .ok (.invokestatic 49, 3) := by decide +kernel
theorem dX53_sum_27 : decode cX53_sum 27 = .ok (.ifCond .ne 5, 3) := by decide +kernel
theorem dX53_sum_30 : decode cX53_sum 30 = .ok (.iconst (-1), 1) := by decide +kernel
theorem dX53_sum_31 : decode cX53_sum 31 = .ok (.ireturn, 1) := by decide +kernel
theorem dX53_sum_32 : decode cX53_sum 32 = .ok (.iconst 0, 1) := by decide +kernel
theorem dX53_sum_33 : decode cX53_sum 33 = .ok (.istore 4, 2) := by decide +kernel
theorem dX53_sum_35 : decode cX53_sum 35 = .ok (.iconst 0, 1) := by decide +kernel
theorem dX53_sum_36 : decode cX53_sum 36 = .ok (.istore 5, 2) := by decide +kernel
theorem dX53_sum_38 : decode cX53_sum 38 = .ok (.iload 5, 2) := by decide +kernel
theorem dX53_sum_40 : decode cX53_sum 40 = .ok (.bipush 40, 2) := by decide +kernel
theorem dX53_sum_42 : decode cX53_sum 42 = .ok (.if_icmp .ge 77, 3) := by decide +kernel
theorem dX53_sum_45 : decode cX53_sum 45 = .ok (.iconst 1, 1) := by decide +kernel
theorem dX53_sum_46 : decode cX53_sum 46 = .ok (.istore 6, 2) := by decide +kernel
theorem dX53_sum_48 : decode cX53_sum 48 = .ok (.iload 6, 2) := by decide +kernel
theorem dX53_sum_50 : decode cX53_sum 50 = .ok (.bipush 32, 2) := by decide +kernel
theorem dX53_sum_52 : decode cX53_sum 52 = .ok (.if_icmp .ge 61, 3) := by decide +kernel
theorem dX53_sum_55 : decode cX53_sum 55 = .ok (.aload_n 0, 1) := by decide +kernel
theorem dX53_sum_56 : decode cX53_sum 56 = .ok (.getfield 35, 3) := by decide +kernel
theorem dX53_sum_59 : decode cX53_sum 59 = .ok (.iload 5, 2) := by decide +kernel
theorem dX53_sum_61 : decode cX53_sum 61 = .ok (.baload, 1) := by decide +kernel
theorem dX53_sum_62 : decode cX53_sum 62 = .ok (.ifCond .eq 51, 3) := by decide +kernel
theorem dX53_sum_65 : decode cX53_sum 65 = .ok (.aload_n 0, 1) := by decide +kernel
theorem dX53_sum_66 : decode cX53_sum 66 = .ok (.getfield 29, 3) := by decide +kernel
theorem dX53_sum_69 : decode cX53_sum 69 = .ok (.iload 5, 2) := by decide +kernel
theorem dX53_sum_71 : decode cX53_sum 71 = .ok (.iload_n 1, 1) := by decide +kernel
theorem dX53_sum_72 : decode cX53_sum 72 = .ok (.iload_n 2, 1) := by decide +kernel
theorem dX53_sum_73 : decode cX53_sum 73 = .ok (.invokestatic 67, 3) := by decide +kernel
theorem dX53_sum_76 : decode cX53_sum 76 = .ok (.baload, 1) := by decide +kernel
theorem dX53_sum_77 : decode cX53_sum 77 = .ok (.ifCond .eq 36, 3) := by decide +kernel
theorem dX53_sum_80 : decode cX53_sum 80 = .ok (.iload 4, 2) := by decide +kernel
theorem dX53_sum_82 : decode cX53_sum 82 = .ok (.aload_n 0, 1) := by decide +kernel
theorem dX53_sum_83 : decode cX53_sum 83 = .ok (.getfield 29, 3) := by decide +kernel
theorem dX53_sum_86 : decode cX53_sum 86 = .ok (.iload 5, 2) := by decide +kernel
theorem dX53_sum_88 : decode cX53_sum 88 = .ok (.iload_n 3, 1) := by decide +kernel
theorem dX53_sum_89 : decode cX53_sum 89 = .ok (.iload 6, 2) := by decide +kernel
theorem dX53_sum_91 : decode cX53_sum 91 = .ok (.invokestatic 67, 3) := by decide +kernel
theorem dX53_sum_94 : decode cX53_sum 94 = .ok (.baload, 1) := by decide +kernel
theorem dX53_sum_95 : decode cX53_sum 95 = .ok (.ifCond .eq 8, 3) := by decide +kernel
theorem dX53_sum_98 : decode cX53_sum 98 = .ok (.iload 6, 2) := by decide +kernel
theorem dX53_sum_100 : decode cX53_sum 100 = .ok (.goto 4, 3) := by decide +kernel
theorem dX53_sum_103 : decode cX53_sum 103 = .ok (.iconst 0, 1) := by decide +kernel
theorem dX53_sum_104 : decode cX53_sum 104 = .ok (.iadd, 1) := by decide +kernel
theorem dX53_sum_105 : decode cX53_sum 105 = .ok (.istore 4, 2) := by decide +kernel
theorem dX53_sum_107 : decode cX53_sum 107 = .ok (.iinc 6 1, 3) := by decide +kernel
theorem dX53_sum_110 : decode cX53_sum 110 = .ok (.goto (-62), 3) := by decide +kernel
theorem dX53_sum_113 : decode cX53_sum 113 = .ok (.iinc 5 1, 3) := by decide +kernel
theorem dX53_sum_116 : decode cX53_sum 116 = .ok (.goto (-78), 3) := by decide +kernel
theorem dX53_sum_119 : decode cX53_sum 119 = .ok (.iload 4, 2) := by decide +kernel
theorem dX53_sum_121 : decode cX53_sum 121 = .ok (.ireturn, 1) := by decide +kernel
abbrev cX53_changed : ByteArray := prog_83_method_24_code
def yX53_changed : MethodName := ⟨RX53, "changed", "()I"⟩
theorem dX53_changed_0 : decode cX53_changed 0 = .ok (.aload_n 0, 1) := by decide +kernel
theorem dX53_changed_1 : decode cX53_changed 1 = .ok (.iconst 0, 1) := by decide +kernel
theorem dX53_changed_2 : decode cX53_changed 2 = .ok (.putfield 38, 3) := by decide +kernel
theorem dX53_changed_5 : decode cX53_changed 5 = .ok (.aload_n 0, 1) := by decide +kernel
theorem dX53_changed_6 : decode cX53_changed 6 = .ok (.invokevirtual 74, 3) := by decide +kernel
theorem dX53_changed_9 : decode cX53_changed 9 = .ok (.iconst 0, 1) := by decide +kernel
theorem dX53_changed_10 : decode cX53_changed 10 = .ok (.istore_n 1, 1) := by decide +kernel
theorem dX53_changed_11 : decode cX53_changed 11 = .ok (.iconst 0, 1) := by decide +kernel
theorem dX53_changed_12 : decode cX53_changed 12 = .ok (.istore_n 2, 1) := by decide +kernel
theorem dX53_changed_13 : decode cX53_changed 13 = .ok (.iload_n 2, 1) := by decide +kernel
theorem dX53_changed_14 : decode cX53_changed 14 = .ok (.bipush 8, 2) := by decide +kernel
theorem dX53_changed_16 : decode cX53_changed 16 = .ok (.if_icmp .ge 68, 3) := by decide +kernel
theorem dX53_changed_19 : decode cX53_changed 19 = .ok (.iconst 0, 1) := by decide +kernel
theorem dX53_changed_20 : decode cX53_changed 20 = .ok (.istore_n 3, 1) := by decide +kernel
theorem dX53_changed_21 : decode cX53_changed 21 = .ok (.iload_n 3, 1) := by decide +kernel
theorem dX53_changed_22 : decode cX53_changed 22 = .ok (.bipush 32, 2) := by decide +kernel
theorem dX53_changed_24 : decode cX53_changed 24 = .ok (.if_icmp .ge 54, 3) := by decide +kernel
theorem dX53_changed_27 : decode cX53_changed 27 = .ok (.aload_n 0, 1) := by decide +kernel
theorem dX53_changed_28 : decode cX53_changed 28 = .ok (.iload_n 2, 1) := by decide +kernel
theorem dX53_changed_29 : decode cX53_changed 29 = .ok (.iload_n 3, 1) := by decide +kernel
theorem dX53_changed_30 : decode cX53_changed 30 = .ok (.invokevirtual 77, 3) := by decide +kernel
theorem dX53_changed_33 : decode cX53_changed 33 = .ok (.istore 4, 2) := by decide +kernel
theorem dX53_changed_35 : decode cX53_changed 35 = .ok (.iload_n 1, 1) := by decide +kernel
theorem dX53_changed_36 : decode cX53_changed 36 = .ok (.iload 4, 2) := by decide +kernel
theorem dX53_changed_38 : decode cX53_changed 38 = .ok (.aload_n 0, 1) := by decide +kernel
theorem dX53_changed_39 : decode cX53_changed 39 = .ok (.getfield 26, 3) := by decide +kernel
theorem dX53_changed_42 : decode cX53_changed 42 = .ok (.bipush 32, 2) := by decide +kernel
theorem dX53_changed_44 : decode cX53_changed 44 = .ok (.iload_n 2, 1) := by decide +kernel
theorem dX53_changed_45 : decode cX53_changed 45 = .ok (.imul, 1) := by decide +kernel
theorem dX53_changed_46 : decode cX53_changed 46 = .ok (.iload_n 3, 1) := by decide +kernel
theorem dX53_changed_47 : decode cX53_changed 47 = .ok (.iadd, 1) := by decide +kernel
theorem dX53_changed_48 : decode cX53_changed 48 = .ok (.iaload, 1) := by decide +kernel
theorem dX53_changed_49 : decode cX53_changed 49 = .ok (.if_icmp .eq 7, 3) := by decide +kernel
theorem dX53_changed_52 : decode cX53_changed 52 = .ok (.iconst 1, 1) := by decide +kernel
theorem dX53_changed_53 : decode cX53_changed 53 = .ok (.goto 4, 3) := by decide +kernel
theorem dX53_changed_56 : decode cX53_changed 56 = .ok (.iconst 0, 1) := by decide +kernel
theorem dX53_changed_57 : decode cX53_changed 57 = .ok (.iadd, 1) := by decide +kernel
theorem dX53_changed_58 : decode cX53_changed 58 = .ok (.istore_n 1, 1) := by decide +kernel
theorem dX53_changed_59 : decode cX53_changed 59 = .ok (.aload_n 0, 1) := by decide +kernel
theorem dX53_changed_60 : decode cX53_changed 60 = .ok (.getfield 26, 3) := by decide +kernel
theorem dX53_changed_63 : decode cX53_changed 63 = .ok (.bipush 32, 2) := by decide +kernel
theorem dX53_changed_65 : decode cX53_changed 65 = .ok (.iload_n 2, 1) := by decide +kernel
theorem dX53_changed_66 : decode cX53_changed 66 = .ok (.imul, 1) := by decide +kernel
theorem dX53_changed_67 : decode cX53_changed 67 = .ok (.iload_n 3, 1) := by decide +kernel
theorem dX53_changed_68 : decode cX53_changed 68 = .ok (.iadd, 1) := by decide +kernel
theorem dX53_changed_69 : decode cX53_changed 69 = .ok (.iload 4, 2) := by decide +kernel
theorem dX53_changed_71 : decode cX53_changed 71 = .ok (.iastore, 1) := by decide +kernel
theorem dX53_changed_72 : decode cX53_changed 72 = .ok (.iinc 3 1, 3) := by decide +kernel
theorem dX53_changed_75 : decode cX53_changed 75 = .ok (.goto (-54), 3) := by decide +kernel
theorem dX53_changed_78 : decode cX53_changed 78 = .ok (.iinc 2 1, 3) := by decide +kernel
theorem dX53_changed_81 : decode cX53_changed 81 = .ok (.goto (-68), 3) := by decide +kernel
theorem dX53_changed_84 : decode cX53_changed 84 = .ok (.iload_n 1, 1) := by decide +kernel
theorem dX53_changed_85 : decode cX53_changed 85 = .ok (.ireturn, 1) := by decide +kernel
abbrev cX53_rows : ByteArray := prog_83_method_25_code
def yX53_rows : MethodName := ⟨RX53, "rows", "()I"⟩
theorem dX53_rows_0 : decode cX53_rows 0 = .ok (.aload_n 0, 1) := by decide +kernel
theorem dX53_rows_1 : decode cX53_rows 1 = .ok (.iconst 0, 1) := by decide +kernel
theorem dX53_rows_2 : decode cX53_rows 2 = .ok (.putfield 38, 3) := by decide +kernel
theorem dX53_rows_5 : decode cX53_rows 5 = .ok (.aload_n 0, 1) := by decide +kernel
theorem dX53_rows_6 : decode cX53_rows 6 = .ok (.getfield 42, 3) := by decide +kernel
theorem dX53_rows_9 : decode cX53_rows 9 = .ok (.ireturn, 1) := by decide +kernel
theorem in_X53 : ∀ w ∈ wsX530, w ∈ lw_all := lw_in wsX530 [6469, 6471, 6473, 6475, 6477, 6479, 6481, 6483, 6485, 6487, 6489, 6491] (by decide +kernel) (by decide +kernel)
theorem q548 : (Jvm.Cond.initialized "KnowHouseModel$FacetCountsModel") ∈ lw_all := lw_g (lw_at lw_m1 70 rfl) rfl
theorem q6457 : (Jvm.Cond.fieldLink "KnowHouseModel$FacetCountsModel" (38 : Nat) "KnowHouseModel$FacetCountsModel" "thrown" "I") ∈ lw_all := lw_g (lw_at lw_m25 219 rfl) rfl
theorem q6458 : (Jvm.Cond.fieldLink "KnowHouseModel$FacetCountsModel" (42 : Nat) "KnowHouseModel$FacetCountsModel" "rows" "I") ∈ lw_all := lw_g (lw_at lw_m25 220 rfl) rfl
theorem q6459 : (Jvm.Cond.fieldLink "KnowHouseModel$FacetCountsModel" (7 : Nat) "KnowHouseModel$FacetCountsModel" "things" "[I") ∈ lw_all := lw_g (lw_at lw_m25 221 rfl) rfl
theorem q6460 : (Jvm.Cond.fieldLink "KnowHouseModel$FacetCountsModel" (13 : Nat) "KnowHouseModel$FacetCountsModel" "heads" "[I") ∈ lw_all := lw_g (lw_at lw_m25 222 rfl) rfl
theorem q6461 : (Jvm.Cond.fieldLink "KnowHouseModel$FacetCountsModel" (16 : Nat) "KnowHouseModel$FacetCountsModel" "values" "[I") ∈ lw_all := lw_g (lw_at lw_m25 223 rfl) rfl
theorem q6462 : (Jvm.Cond.fieldLink "KnowHouseModel$FacetCountsModel" (19 : Nat) "KnowHouseModel$FacetCountsModel" "uppers" "[I") ∈ lw_all := lw_g (lw_at lw_m25 224 rfl) rfl
theorem q6463 : (Jvm.Cond.fieldLink "KnowHouseModel$FacetCountsModel" (22 : Nat) "KnowHouseModel$FacetCountsModel" "chosen" "[Z") ∈ lw_all := lw_g (lw_at lw_m25 225 rfl) rfl
theorem q6464 : (Jvm.Cond.fieldLink "KnowHouseModel$FacetCountsModel" (26 : Nat) "KnowHouseModel$FacetCountsModel" "seen" "[I") ∈ lw_all := lw_g (lw_at lw_m25 226 rfl) rfl
theorem q6465 : (Jvm.Cond.fieldLink "KnowHouseModel$FacetCountsModel" (59 : Nat) "KnowHouseModel$FacetCountsModel" "fresh" "Z") ∈ lw_all := lw_g (lw_at lw_m25 227 rfl) rfl
theorem q6466 : (Jvm.Cond.fieldLink "KnowHouseModel$FacetCountsModel" (29 : Nat) "KnowHouseModel$FacetCountsModel" "has" "[Z") ∈ lw_all := lw_g (lw_at lw_m25 228 rfl) rfl
theorem q6467 : (Jvm.Cond.fieldLink "KnowHouseModel$FacetCountsModel" (32 : Nat) "KnowHouseModel$FacetCountsModel" "but" "[Z") ∈ lw_all := lw_g (lw_at lw_m25 229 rfl) rfl
theorem q6468 : (Jvm.Cond.fieldLink "KnowHouseModel$FacetCountsModel" (35 : Nat) "KnowHouseModel$FacetCountsModel" "kept" "[Z") ∈ lw_all := lw_g (lw_at lw_m25 230 rfl) rfl
theorem q7339 : (Jvm.Cond.methodLink "KnowHouseModel$FacetCountsModel" (45 : Nat) ({ cls := "KnowHouseModel$FacetCountsModel", name := "isThing", desc := "(I)Z" } : Jvm.MethodName)) ∈ lw_all := lw_g (lw_at lw_m29 141 rfl) rfl
theorem q7340 : (Jvm.Cond.static ({ cls := "KnowHouseModel$FacetCountsModel", name := "isThing", desc := "(I)Z" } : Jvm.MethodName)) ∈ lw_all := lw_g (lw_at lw_m29 142 rfl) rfl
theorem q7341 : (Jvm.Cond.code ({ cls := "KnowHouseModel$FacetCountsModel", name := "isThing", desc := "(I)Z" } : Jvm.MethodName) prog_83_method_3_code (1 : Nat) (Option.some Jvm.ClassFile.FieldType.boolean)) ∈ lw_all := lw_g (lw_at lw_m29 143 rfl) rfl
theorem q7342 : (Jvm.Cond.methodLink "KnowHouseModel$FacetCountsModel" (49 : Nat) ({ cls := "KnowHouseModel$FacetCountsModel", name := "isHead", desc := "(I)Z" } : Jvm.MethodName)) ∈ lw_all := lw_g (lw_at lw_m29 144 rfl) rfl
theorem q7343 : (Jvm.Cond.static ({ cls := "KnowHouseModel$FacetCountsModel", name := "isHead", desc := "(I)Z" } : Jvm.MethodName)) ∈ lw_all := lw_g (lw_at lw_m29 145 rfl) rfl
theorem q7344 : (Jvm.Cond.code ({ cls := "KnowHouseModel$FacetCountsModel", name := "isHead", desc := "(I)Z" } : Jvm.MethodName) prog_83_method_4_code (1 : Nat) (Option.some Jvm.ClassFile.FieldType.boolean)) ∈ lw_all := lw_g (lw_at lw_m29 146 rfl) rfl
theorem q7345 : (Jvm.Cond.methodLink "KnowHouseModel$FacetCountsModel" (52 : Nat) ({ cls := "KnowHouseModel$FacetCountsModel", name := "isValue", desc := "(I)Z" } : Jvm.MethodName)) ∈ lw_all := lw_g (lw_at lw_m29 147 rfl) rfl
theorem q7346 : (Jvm.Cond.static ({ cls := "KnowHouseModel$FacetCountsModel", name := "isValue", desc := "(I)Z" } : Jvm.MethodName)) ∈ lw_all := lw_g (lw_at lw_m29 148 rfl) rfl
theorem q7347 : (Jvm.Cond.code ({ cls := "KnowHouseModel$FacetCountsModel", name := "isValue", desc := "(I)Z" } : Jvm.MethodName) prog_83_method_5_code (1 : Nat) (Option.some Jvm.ClassFile.FieldType.boolean)) ∈ lw_all := lw_g (lw_at lw_m29 149 rfl) rfl
theorem q7348 : (Jvm.Cond.methodLink "KnowHouseModel$FacetCountsModel" (55 : Nat) ({ cls := "KnowHouseModel$FacetCountsModel", name := "find", desc := "(III)I" } : Jvm.MethodName)) ∈ lw_all := lw_g (lw_at lw_m29 150 rfl) rfl
theorem q7350 : (Jvm.Cond.instanceMethod ({ cls := "KnowHouseModel$FacetCountsModel", name := "find", desc := "(III)I" } : Jvm.MethodName)) ∈ lw_all := lw_g (lw_at lw_m29 152 rfl) rfl
theorem q7351 : (Jvm.Cond.code ({ cls := "KnowHouseModel$FacetCountsModel", name := "find", desc := "(III)I" } : Jvm.MethodName) prog_83_method_6_code (5 : Nat) (Option.some Jvm.ClassFile.FieldType.int)) ∈ lw_all := lw_g (lw_at lw_m29 153 rfl) rfl
theorem q7771 : (Jvm.Cond.methodLink "KnowHouseModel$FacetCountsModel" (63 : Nat) ({ cls := "KnowHouseModel$FacetCountsModel", name := "countKept", desc := "()I" } : Jvm.MethodName)) ∈ lw_all := lw_g (lw_at lw_m31 93 rfl) rfl
theorem q7773 : (Jvm.Cond.instanceMethod ({ cls := "KnowHouseModel$FacetCountsModel", name := "countKept", desc := "()I" } : Jvm.MethodName)) ∈ lw_all := lw_g (lw_at lw_m31 95 rfl) rfl
theorem q7774 : (Jvm.Cond.code ({ cls := "KnowHouseModel$FacetCountsModel", name := "countKept", desc := "()I" } : Jvm.MethodName) prog_83_method_14_code (3 : Nat) (Option.some Jvm.ClassFile.FieldType.int)) ∈ lw_all := lw_g (lw_at lw_m31 96 rfl) rfl
theorem q7775 : (Jvm.Cond.methodLink "KnowHouseModel$FacetCountsModel" (74 : Nat) ({ cls := "KnowHouseModel$FacetCountsModel", name := "reckon", desc := "()V" } : Jvm.MethodName)) ∈ lw_all := lw_g (lw_at lw_m31 97 rfl) rfl
theorem q7777 : (Jvm.Cond.instanceMethod ({ cls := "KnowHouseModel$FacetCountsModel", name := "reckon", desc := "()V" } : Jvm.MethodName)) ∈ lw_all := lw_g (lw_at lw_m31 99 rfl) rfl
theorem q7778 : (Jvm.Cond.code ({ cls := "KnowHouseModel$FacetCountsModel", name := "reckon", desc := "()V" } : Jvm.MethodName) prog_83_method_13_code (5 : Nat) (Option.none : Option Jvm.ClassFile.FieldType)) ∈ lw_all := lw_g (lw_at lw_m31 100 rfl) rfl
theorem q7779 : (Jvm.Cond.methodLink "KnowHouseModel$FacetCountsModel" (67 : Nat) ({ cls := "KnowHouseModel$FacetCountsModel", name := "place", desc := "(III)I" } : Jvm.MethodName)) ∈ lw_all := lw_g (lw_at lw_m31 101 rfl) rfl
theorem q7780 : (Jvm.Cond.static ({ cls := "KnowHouseModel$FacetCountsModel", name := "place", desc := "(III)I" } : Jvm.MethodName)) ∈ lw_all := lw_g (lw_at lw_m31 102 rfl) rfl
theorem q7781 : (Jvm.Cond.code ({ cls := "KnowHouseModel$FacetCountsModel", name := "place", desc := "(III)I" } : Jvm.MethodName) prog_83_method_11_code (3 : Nat) (Option.some Jvm.ClassFile.FieldType.int)) ∈ lw_all := lw_g (lw_at lw_m31 103 rfl) rfl
theorem q7782 : (Jvm.Cond.methodLink "KnowHouseModel$FacetCountsModel" (70 : Nat) ({ cls := "KnowHouseModel$FacetCountsModel", name := "fits", desc := "(II)Z" } : Jvm.MethodName)) ∈ lw_all := lw_g (lw_at lw_m31 104 rfl) rfl
theorem q7784 : (Jvm.Cond.instanceMethod ({ cls := "KnowHouseModel$FacetCountsModel", name := "fits", desc := "(II)Z" } : Jvm.MethodName)) ∈ lw_all := lw_g (lw_at lw_m31 106 rfl) rfl
theorem q7785 : (Jvm.Cond.code ({ cls := "KnowHouseModel$FacetCountsModel", name := "fits", desc := "(II)Z" } : Jvm.MethodName) prog_83_method_12_code (6 : Nat) (Option.some Jvm.ClassFile.FieldType.boolean)) ∈ lw_all := lw_g (lw_at lw_m31 107 rfl) rfl
theorem q8617 : (Jvm.Cond.methodLink "KnowHouseModel$FacetCountsModel" (77 : Nat) ({ cls := "KnowHouseModel$FacetCountsModel", name := "countOf", desc := "(II)I" } : Jvm.MethodName)) ∈ lw_all := lw_g (lw_at lw_m34 219 rfl) rfl
theorem q8619 : (Jvm.Cond.instanceMethod ({ cls := "KnowHouseModel$FacetCountsModel", name := "countOf", desc := "(II)I" } : Jvm.MethodName)) ∈ lw_all := lw_g (lw_at lw_m34 221 rfl) rfl
theorem q8620 : (Jvm.Cond.code ({ cls := "KnowHouseModel$FacetCountsModel", name := "countOf", desc := "(II)I" } : Jvm.MethodName) prog_83_method_15_code (5 : Nat) (Option.some Jvm.ClassFile.FieldType.int)) ∈ lw_all := lw_g (lw_at lw_m34 222 rfl) rfl
theorem q8625 : (Jvm.Cond.methodLink "KnowHouseModel$FacetCountsModel" (81 : Nat) ({ cls := "KnowHouseModel$FacetCountsModel", name := "rankOf", desc := "(II)I" } : Jvm.MethodName)) ∈ lw_all := lw_g (lw_at lw_m34 227 rfl) rfl
theorem q8627 : (Jvm.Cond.instanceMethod ({ cls := "KnowHouseModel$FacetCountsModel", name := "rankOf", desc := "(II)I" } : Jvm.MethodName)) ∈ lw_all := lw_g (lw_at lw_m34 229 rfl) rfl
theorem q8628 : (Jvm.Cond.code ({ cls := "KnowHouseModel$FacetCountsModel", name := "rankOf", desc := "(II)I" } : Jvm.MethodName) prog_83_method_19_code (7 : Nat) (Option.some Jvm.ClassFile.FieldType.int)) ∈ lw_all := lw_g (lw_at lw_m34 230 rfl) rfl
theorem gX53_45 : GoodIn lw_all (va_wsS RX53 45 yX53_isThing (ws_ yX53_isThing cX53_isThing 1 (Option.some Jvm.ClassFile.FieldType.boolean))) := lw_S q7339 q7340 q548 q7341
theorem gX53_49 : GoodIn lw_all (va_wsS RX53 49 yX53_isHead (ws_ yX53_isHead cX53_isHead 1 (Option.some Jvm.ClassFile.FieldType.boolean))) := lw_S q7342 q7343 q548 q7344
theorem gX53_52 : GoodIn lw_all (va_wsS RX53 52 yX53_isValue (ws_ yX53_isValue cX53_isValue 1 (Option.some Jvm.ClassFile.FieldType.boolean))) := lw_S q7345 q7346 q548 q7347
theorem gX53_55 : GoodIn lw_all (wsV RX53 55 RX53 yX53_find (ws_ yX53_find cX53_find 5 (Option.some Jvm.ClassFile.FieldType.int))) := lw_V q7348 q7350 qs257 q548 q7351
theorem gX53_63 : GoodIn lw_all (wsV RX53 63 RX53 yX53_countKept (ws_ yX53_countKept cX53_countKept 3 (Option.some Jvm.ClassFile.FieldType.int))) := lw_V q7771 q7773 qs331 q548 q7774
theorem gX53_67 : GoodIn lw_all (va_wsS RX53 67 yX53_place (ws_ yX53_place cX53_place 3 (Option.some Jvm.ClassFile.FieldType.int))) := lw_S q7779 q7780 q548 q7781
theorem gX53_70 : GoodIn lw_all (wsV RX53 70 RX53 yX53_fits (ws_ yX53_fits cX53_fits 6 (Option.some Jvm.ClassFile.FieldType.boolean))) := lw_V q7782 q7784 qs333 q548 q7785
theorem gX53_74 : GoodIn lw_all (wsV RX53 74 RX53 yX53_reckon (ws_ yX53_reckon cX53_reckon 5 (Option.none : Option Jvm.ClassFile.FieldType))) := lw_V q7775 q7777 qs332 q548 q7778
theorem gX53_77 : GoodIn lw_all (wsV RX53 77 RX53 yX53_countOf (ws_ yX53_countOf cX53_countOf 5 (Option.some Jvm.ClassFile.FieldType.int))) := lw_V q8617 q8619 qs437 q548 q8620
theorem gX53_81 : GoodIn lw_all (wsV RX53 81 RX53 yX53_rankOf (ws_ yX53_rankOf cX53_rankOf 7 (Option.some Jvm.ClassFile.FieldType.int))) := lw_V q8625 q8627 qs438 q548 q8628
theorem hX53_countKept : yX53_countKept.cls = RX53 ∧ yX53_countKept.cls ≠ "java/lang/invoke/MethodHandle" ∧ yX53_countKept.cls ≠ "java/lang/invoke/VarHandle" ∧ (parseMethodDescriptor yX53_countKept.desc).map (fun d => d.parameters.length) = some 0 := by decide +kernel
theorem hX53_countOf : yX53_countOf.cls = RX53 ∧ yX53_countOf.cls ≠ "java/lang/invoke/MethodHandle" ∧ yX53_countOf.cls ≠ "java/lang/invoke/VarHandle" ∧ (parseMethodDescriptor yX53_countOf.desc).map (fun d => d.parameters.length) = some 2 := by decide +kernel
theorem hX53_find : yX53_find.cls = RX53 ∧ yX53_find.cls ≠ "java/lang/invoke/MethodHandle" ∧ yX53_find.cls ≠ "java/lang/invoke/VarHandle" ∧ (parseMethodDescriptor yX53_find.desc).map (fun d => d.parameters.length) = some 3 := by decide +kernel
theorem hX53_fits : yX53_fits.cls = RX53 ∧ yX53_fits.cls ≠ "java/lang/invoke/MethodHandle" ∧ yX53_fits.cls ≠ "java/lang/invoke/VarHandle" ∧ (parseMethodDescriptor yX53_fits.desc).map (fun d => d.parameters.length) = some 2 := by decide +kernel
theorem hX53_isHead : yX53_isHead.cls ≠ "java/lang/invoke/MethodHandle" ∧ yX53_isHead.cls ≠ "java/lang/invoke/VarHandle" ∧ (parseMethodDescriptor yX53_isHead.desc).map (fun d => d.parameters.length) = some 1 := by decide +kernel
theorem hX53_isThing : yX53_isThing.cls ≠ "java/lang/invoke/MethodHandle" ∧ yX53_isThing.cls ≠ "java/lang/invoke/VarHandle" ∧ (parseMethodDescriptor yX53_isThing.desc).map (fun d => d.parameters.length) = some 1 := by decide +kernel
theorem hX53_isValue : yX53_isValue.cls ≠ "java/lang/invoke/MethodHandle" ∧ yX53_isValue.cls ≠ "java/lang/invoke/VarHandle" ∧ (parseMethodDescriptor yX53_isValue.desc).map (fun d => d.parameters.length) = some 1 := by decide +kernel
theorem hX53_place : yX53_place.cls ≠ "java/lang/invoke/MethodHandle" ∧ yX53_place.cls ≠ "java/lang/invoke/VarHandle" ∧ (parseMethodDescriptor yX53_place.desc).map (fun d => d.parameters.length) = some 3 := by decide +kernel
theorem hX53_rankOf : yX53_rankOf.cls = RX53 ∧ yX53_rankOf.cls ≠ "java/lang/invoke/MethodHandle" ∧ yX53_rankOf.cls ≠ "java/lang/invoke/VarHandle" ∧ (parseMethodDescriptor yX53_rankOf.desc).map (fun d => d.parameters.length) = some 2 := by decide +kernel
theorem hX53_reckon : yX53_reckon.cls = RX53 ∧ yX53_reckon.cls ≠ "java/lang/invoke/MethodHandle" ∧ yX53_reckon.cls ≠ "java/lang/invoke/VarHandle" ∧ (parseMethodDescriptor yX53_reckon.desc).map (fun d => d.parameters.length) = some 0 := by decide +kernel
