/-! KnowHouseModel$ClassifySortModel (printed by tools/zgen.py) -/
set_option maxRecDepth 100000
def RX52 : String := "KnowHouseModel$ClassifySortModel"
def TX52 : u_T := fun k => match k with
  | 0 => ("KnowHouseModel$ClassifySortModel", "thrown", "I", false)
  | 1 => ("KnowHouseModel$ClassifySortModel", "classes", "I", false)
  | 2 => ("KnowHouseModel$ClassifySortModel", "things", "I", false)
  | 3 => ("KnowHouseModel$ClassifySortModel", "axioms", "I", false)
  | 4 => ("KnowHouseModel$ClassifySortModel", "fuel", "I", false)
  | 5 => ("KnowHouseModel$ClassifySortModel", "questions", "I", false)
  | 6 => ("KnowHouseModel$ClassifySortModel", "sorted", "Z", false)
  | 7 => ("KnowHouseModel$ClassifySortModel", "left", "[I", true)
  | 8 => ("KnowHouseModel$ClassifySortModel", "other", "[I", true)
  | 9 => ("KnowHouseModel$ClassifySortModel", "right", "[I", true)
  | 10 => ("KnowHouseModel$ClassifySortModel", "there", "[Z", true)
  | 11 => ("KnowHouseModel$ClassifySortModel", "member", "[Z", true)
  | 12 => ("KnowHouseModel$ClassifySortModel", "state", "[I", true)
  | 13 => ("KnowHouseModel$ClassifySortModel", "before", "[I", true)
  | 14 => ("KnowHouseModel$ClassifySortModel", "placed", "[Z", true)
  | 15 => ("KnowHouseModel$ClassifySortModel", "looked", "[Z", true)
  | 16 => ("KnowHouseModel$ClassifySortModel", "fact", "[Z", true)
  | 17 => ("KnowHouseModel$ClassifySortModel", "maker", "[I", true)
  | 18 => ("KnowHouseModel$ClassifySortModel", "fired", "[I", true)
  | 19 => ("KnowHouseModel$ClassifySortModel", "firedCount", "I", false)
  | 20 => ("KnowHouseModel$ClassifySortModel", "needed", "[Z", true)
  | 21 => ("KnowHouseModel$ClassifySortModel", "module", "[Z", true)
  | _ => ("KnowHouseModel$ClassifySortModel", "asked", "I", false)
def tyX52 : Nat → FieldType := fun k => match k with
  | 0 => .int
  | 1 => .int
  | 2 => .int
  | 3 => .int
  | 4 => .int
  | 5 => .int
  | 6 => .boolean
  | 7 => .array .int
  | 8 => .array .int
  | 9 => .array .int
  | 10 => .array .boolean
  | 11 => .array .boolean
  | 12 => .array .int
  | 13 => .array .int
  | 14 => .array .boolean
  | 15 => .array .boolean
  | 16 => .array .boolean
  | 17 => .array .int
  | 18 => .array .int
  | 19 => .int
  | 20 => .array .boolean
  | 21 => .array .boolean
  | _ => .int
abbrev wsX520 : List Cond := u_ws RX52 TX52 23
theorem nmX52 : ∀ a, a < 23 → ∀ b, b < 23 → a ≠ b → (TX52 a).2.1 ≠ (TX52 b).2.1 := by decide +kernel
theorem tyX52_ok : ∀ k, k < 23 → parseFieldDescriptor (TX52 k).2.2.1 = some (tyX52 k) := by decide +kernel
abbrev cX52_init : ByteArray := prog_81_method_1_code
def yX52_init : MethodName := ⟨RX52, "<init>", "()V"⟩
abbrev cX52_axiom : ByteArray := prog_81_method_19_code
def yX52_axiom : MethodName := ⟨RX52, "axiom", "(III)I"⟩
theorem dX52_axiom_0 : decode cX52_axiom 0 = .ok (.aload_n 0, 1) := by decide +kernel
theorem dX52_axiom_1 : decode cX52_axiom 1 = .ok (.iload_n 1, 1) := by decide +kernel
theorem dX52_axiom_2 : decode cX52_axiom 2 = .ok (.invokevirtual 63, 3) := by decide +kernel
theorem dX52_axiom_5 : decode cX52_axiom 5 = .ok (.ifCond .eq 29, 3) := by decide +kernel
theorem dX52_axiom_8 : decode cX52_axiom 8 = .ok (.iload_n 2, 1) := by decide +kernel
theorem dX52_axiom_9 : decode cX52_axiom 9 = .ok (.iconst (-1), 1) := by decide +kernel
theorem dX52_axiom_10 : decode cX52_axiom 10 = .ok (.if_icmp .eq 11, 3) := by decide +kernel
theorem dX52_axiom_13 : decode cX52_axiom 13 = .ok (.aload_n 0, 1) := by decide +kernel
theorem dX52_axiom_14 : decode cX52_axiom 14 = .ok (.iload_n 2, 1) := by decide +kernel
theorem dX52_axiom_15 : decode cX52_axiom 15 = .ok (.invokevirtual 63, 3) := by decide +kernel
theorem dX52_axiom_18 : decode cX52_axiom 18 = .ok (.ifCond .eq 16, 3) := by decide +kernel
theorem dX52_axiom_21 : decode cX52_axiom 21 = .ok (.iload_n 3, 1) := by decide +kernel
theorem dX52_axiom_22 : decode cX52_axiom 22 = .ok (.iconst (-1), 1) := by decide +kernel
theorem dX52_axiom_23 : decode cX52_axiom 23 = .ok (.if_icmp .eq 13, 3) := by decide +kernel
theorem dX52_axiom_26 : decode cX52_axiom 26 = .ok (.aload_n 0, 1) := by decide +kernel
theorem dX52_axiom_27 : decode cX52_axiom 27 = .ok (.iload_n 3, 1) := by decide +kernel
theorem dX52_axiom_28 : decode cX52_axiom 28 = .ok (.invokevirtual 63, 3) := by decide +kernel
theorem dX52_axiom_31 : decode cX52_axiom 31 = .ok (.ifCond .ne 5, 3) := by decide +kernel
theorem dX52_axiom_34 : decode cX52_axiom 34 = .ok (.iconst (-1), 1) := by decide +kernel
theorem dX52_axiom_35 : decode cX52_axiom 35 = .ok (.ireturn, 1) := by decide +kernel
theorem dX52_axiom_36 : decode cX52_axiom 36 = .ok (.iload_n 2, 1) := by decide +kernel
theorem dX52_axiom_37 : decode cX52_axiom 37 = .ok (.iload_n 1, 1) := by decide +kernel
theorem dX52_axiom_38 : decode cX52_axiom 38 = .ok (.if_icmp .ne 6, 3) := by decide +kernel
theorem dX52_axiom_41 : decode cX52_axiom 41 = .ok (.bipush (-2), 2) := by decide +kernel
theorem dX52_axiom_43 : decode cX52_axiom 43 = .ok (.ireturn, 1) := by decide +kernel
theorem dX52_axiom_44 : decode cX52_axiom 44 = .ok (.aload_n 0, 1) := by decide +kernel
theorem dX52_axiom_45 : decode cX52_axiom 45 = .ok (.getfield 67, 3) := by decide +kernel
theorem dX52_axiom_48 : decode cX52_axiom 48 = .ok (.bipush 40, 2) := by decide +kernel
theorem dX52_axiom_50 : decode cX52_axiom 50 = .ok (.if_icmp .ne 6, 3) := by decide +kernel
theorem dX52_axiom_53 : decode cX52_axiom 53 = .ok (.bipush (-4), 2) := by decide +kernel
theorem dX52_axiom_55 : decode cX52_axiom 55 = .ok (.ireturn, 1) := by decide +kernel
theorem dX52_axiom_56 : decode cX52_axiom 56 = .ok (.aload_n 0, 1) := by decide +kernel
theorem dX52_axiom_57 : decode cX52_axiom 57 = .ok (.getfield 13, 3) := by decide +kernel
theorem dX52_axiom_60 : decode cX52_axiom 60 = .ok (.aload_n 0, 1) := by decide +kernel
theorem dX52_axiom_61 : decode cX52_axiom 61 = .ok (.getfield 67, 3) := by decide +kernel
theorem dX52_axiom_64 : decode cX52_axiom 64 = .ok (.iload_n 1, 1) := by decide +kernel
theorem dX52_axiom_65 : decode cX52_axiom 65 = .ok (.iastore, 1) := by decide +kernel
theorem dX52_axiom_66 : decode cX52_axiom 66 = .ok (.aload_n 0, 1) := by decide +kernel
theorem dX52_axiom_67 : decode cX52_axiom 67 = .ok (.getfield 17, 3) := by decide +kernel
theorem dX52_axiom_70 : decode cX52_axiom 70 = .ok (.aload_n 0, 1) := by decide +kernel
theorem dX52_axiom_71 : decode cX52_axiom 71 = .ok (.getfield 67, 3) := by decide +kernel
theorem dX52_axiom_74 : decode cX52_axiom 74 = .ok (.iload_n 2, 1) := by decide +kernel
theorem dX52_axiom_75 : decode cX52_axiom 75 = .ok (.iastore, 1) := by decide +kernel
theorem dX52_axiom_76 : decode cX52_axiom 76 = .ok (.aload_n 0, 1) := by decide +kernel
theorem dX52_axiom_77 : decode cX52_axiom 77 = .ok (.getfield 20, 3) := by decide +kernel
theorem dX52_axiom_80 : decode cX52_axiom 80 = .ok (.aload_n 0, 1) := by decide +kernel
theorem dX52_axiom_81 : decode cX52_axiom 81 = .ok (.getfield 67, 3) := by decide +kernel
theorem dX52_axiom_84 : decode cX52_axiom 84 = .ok (.iload_n 3, 1) := by decide +kernel
theorem dX52_axiom_85 : decode cX52_axiom 85 = .ok (.ifCond .ge 8, 3) := by decide +kernel
theorem dX52_axiom_88 : decode cX52_axiom 88 = .ok (.bipush 20, 2) := by decide +kernel
theorem dX52_axiom_90 : decode cX52_axiom 90 = .ok (.goto 4, 3) := by decide +kernel
theorem dX52_axiom_93 : decode cX52_axiom 93 = .ok (.iload_n 3, 1) := by decide +kernel
theorem dX52_axiom_94 : decode cX52_axiom 94 = .ok (.iastore, 1) := by decide +kernel
theorem dX52_axiom_95 : decode cX52_axiom 95 = .ok (.aload_n 0, 1) := by decide +kernel
theorem dX52_axiom_96 : decode cX52_axiom 96 = .ok (.getfield 23, 3) := by decide +kernel
theorem dX52_axiom_99 : decode cX52_axiom 99 = .ok (.aload_n 0, 1) := by decide +kernel
theorem dX52_axiom_100 : decode cX52_axiom 100 = .ok (.getfield 67, 3) := by decide +kernel
theorem dX52_axiom_103 : decode cX52_axiom 103 = .ok (.iconst 1, 1) := by decide +kernel
theorem dX52_axiom_104 : decode cX52_axiom 104 = .ok (.bastore, 1) := by decide +kernel
theorem dX52_axiom_105 : decode cX52_axiom 105 = .ok (.aload_n 0, 1) := by decide +kernel
theorem dX52_axiom_106 : decode cX52_axiom 106 = .ok (.dup, 1) := by decide +kernel
theorem dX52_axiom_107 : decode cX52_axiom 107 = .ok (.getfield 67, 3) := by decide +kernel
theorem dX52_axiom_110 : decode cX52_axiom 110 = .ok (.iconst 1, 1) := by decide +kernel
theorem dX52_axiom_111 : decode cX52_axiom 111 = .ok (.iadd, 1) := by decide +kernel
theorem dX52_axiom_112 : decode cX52_axiom 112 = .ok (.putfield 67, 3) := by decide +kernel
theorem dX52_axiom_115 : decode cX52_axiom 115 = .ok (.aload_n 0, 1) := by decide +kernel
theorem dX52_axiom_116 : decode cX52_axiom 116 = .ok (.iconst 0, 1) := by decide +kernel
theorem dX52_axiom_117 : decode cX52_axiom 117 = .ok (.putfield 97, 3) := by decide +kernel
theorem dX52_axiom_120 : decode cX52_axiom 120 = .ok (.aload_n 0, 1) := by decide +kernel
theorem dX52_axiom_121 : decode cX52_axiom 121 = .ok (.aload_n 0, 1) := by decide +kernel
theorem dX52_axiom_122 : decode cX52_axiom 122 = .ok (.getfield 67, 3) := by decide +kernel
theorem dX52_axiom_125 : decode cX52_axiom 125 = .ok (.iconst 1, 1) := by decide +kernel
theorem dX52_axiom_126 : decode cX52_axiom 126 = .ok (.isub, 1) := by decide +kernel
theorem dX52_axiom_127 : decode cX52_axiom 127 = .ok (.iconst 0, 1) := by decide +kernel
theorem dX52_axiom_128 : decode cX52_axiom 128 = .ok (.invokevirtual 110, 3) := by decide +kernel
theorem dX52_axiom_131 : decode cX52_axiom 131 = .ok (.aload_n 0, 1) := by decide +kernel
theorem dX52_axiom_132 : decode cX52_axiom 132 = .ok (.invokevirtual 101, 3) := by decide +kernel
theorem dX52_axiom_135 : decode cX52_axiom 135 = .ok (.aload_n 0, 1) := by decide +kernel
theorem dX52_axiom_136 : decode cX52_axiom 136 = .ok (.getfield 67, 3) := by decide +kernel
theorem dX52_axiom_139 : decode cX52_axiom 139 = .ok (.iconst 1, 1) := by decide +kernel
theorem dX52_axiom_140 : decode cX52_axiom 140 = .ok (.isub, 1) := by decide +kernel
theorem dX52_axiom_141 : decode cX52_axiom 141 = .ok (.ireturn, 1) := by decide +kernel
abbrev cX52_isClass : ByteArray := prog_81_method_3_code
def yX52_isClass : MethodName := ⟨RX52, "isClass", "(I)Z"⟩
theorem dX52_isClass_0 : decode cX52_isClass 0 = .ok (.iload_n 1, 1) := by decide +kernel
theorem dX52_isClass_1 : decode cX52_isClass 1 = .ok (.ifCond .lt 15, 3) := by decide +kernel
theorem dX52_isClass_4 : decode cX52_isClass 4 = .ok (.iload_n 1, 1) := by decide +kernel
theorem dX52_isClass_5 : decode cX52_isClass 5 = .ok (.aload_n 0, 1) := by decide +kernel
theorem dX52_isClass_6 : decode cX52_isClass 6 = .ok (.getfield 60, 3) := by decide +kernel
theorem dX52_isClass_9 : decode cX52_isClass 9 = .ok (.if_icmp .ge 7, 3) := by decide +kernel
theorem dX52_isClass_12 : decode cX52_isClass 12 = .ok (.iconst 1, 1) := by decide +kernel
theorem dX52_isClass_13 : decode cX52_isClass 13 = .ok (.goto 4, 3) := by decide +kernel
theorem dX52_isClass_16 : decode cX52_isClass 16 = .ok (.iconst 0, 1) := by decide +kernel
theorem dX52_isClass_17 : decode cX52_isClass 17 = .ok (.ireturn, 1) := by decide +kernel
abbrev cX52_forget : ByteArray := prog_81_method_18_code
def yX52_forget : MethodName := ⟨RX52, "forget", "(II)V"⟩
theorem dX52_forget_0 : decode cX52_forget 0 = .ok (.iconst 0, 1) := by decide +kernel
theorem dX52_forget_1 : decode cX52_forget 1 = .ok (.istore_n 3, 1) := by decide +kernel
theorem dX52_forget_2 : decode cX52_forget 2 = .ok (.iload_n 3, 1) := by decide +kernel
theorem dX52_forget_3 : decode cX52_forget 3 = .ok (.aload_n 0, 1) := by decide +kernel
theorem dX52_forget_4 : decode cX52_forget 4 = .ok (.getfield 60, 3) := by decide +kernel
theorem dX52_forget_7 : decode cX52_forget 7 = .ok (.if_icmp .ge 73, 3) := by decide +kernel
theorem dX52_forget_10 : decode cX52_forget 10 = .ok (.aload_n 0, 1) := by decide +kernel
theorem dX52_forget_11 : decode cX52_forget 11 = .ok (.iload_n 3, 1) := by decide +kernel
theorem dX52_forget_12 : decode cX52_forget 12 = .ok (.iload_n 1, 1) := by decide +kernel
theorem dX52_forget_13 : decode cX52_forget 13 = .ok (.invokevirtual 107, 3) := by decide +kernel
theorem dX52_forget_16 : decode cX52_forget 16 = .ok (.ifCond .eq 58, 3) := by decide +kernel
theorem dX52_forget_19 : decode cX52_forget 19 = .ok (.iconst 0, 1) := by decide +kernel
theorem dX52_forget_20 : decode cX52_forget 20 = .ok (.istore 4, 2) := by decide +kernel
theorem dX52_forget_22 : decode cX52_forget 22 = .ok (.iload 4, 2) := by decide +kernel
theorem dX52_forget_24 : decode cX52_forget 24 = .ok (.bipush 20, 2) := by decide +kernel
theorem dX52_forget_26 : decode cX52_forget 26 = .ok (.if_icmp .gt 48, 3) := by decide +kernel
theorem dX52_forget_29 : decode cX52_forget 29 = .ok (.aload_n 0, 1) := by decide +kernel
theorem dX52_forget_30 : decode cX52_forget 30 = .ok (.getfield 30, 3) := by decide +kernel
theorem dX52_forget_33 : decode cX52_forget 33 = .ok (.bipush 21, 2) := by decide +kernel
theorem dX52_forget_35 : decode cX52_forget 35 = .ok (.iload_n 3, 1) := by decide +kernel
theorem dX52_forget_36 : decode cX52_forget 36 = .ok (.imul, 1) := by decide +kernel
theorem dX52_forget_37 : decode cX52_forget 37 = .ok (.iload 4, 2) := by decide +kernel
theorem dX52_forget_39 : decode cX52_forget 39 = .ok (.iadd, 1) := by decide +kernel
theorem dX52_forget_40 : decode cX52_forget 40 = .ok (.iaload, 1) := by decide +kernel
theorem dX52_forget_41 : decode cX52_forget 41 = .ok (.istore 5, 2) := by decide +kernel
theorem dX52_forget_43 : decode cX52_forget 43 = .ok (.iload 5, 2) := by decide +kernel
theorem dX52_forget_45 : decode cX52_forget 45 = .ok (.iload_n 2, 1) := by decide +kernel
theorem dX52_forget_46 : decode cX52_forget 46 = .ok (.if_icmp .eq 9, 3) := by decide +kernel
theorem dX52_forget_49 : decode cX52_forget 49 = .ok (.iload 5, 2) := by decide +kernel
theorem dX52_forget_51 : decode cX52_forget 51 = .ok (.iconst 2, 1) := by decide +kernel
theorem dX52_forget_52 : decode cX52_forget 52 = .ok (.if_icmp .ne 16, 3) := by decide +kernel
theorem dX52_forget_55 : decode cX52_forget 55 = .ok (.aload_n 0, 1) := by decide +kernel
theorem dX52_forget_56 : decode cX52_forget 56 = .ok (.getfield 30, 3) := by decide +kernel
theorem dX52_forget_59 : decode cX52_forget 59 = .ok (.bipush 21, 2) := by decide +kernel
theorem dX52_forget_61 : decode cX52_forget 61 = .ok (.iload_n 3, 1) := by decide +kernel
theorem dX52_forget_62 : decode cX52_forget 62 = .ok (.imul, 1) := by decide +kernel
theorem dX52_forget_63 : decode cX52_forget 63 = .ok (.iload 4, 2) := by decide +kernel
theorem dX52_forget_65 : decode cX52_forget 65 = .ok (.iadd, 1) := by decide +kernel
theorem dX52_forget_66 : decode cX52_forget 66 = .ok (.iconst 3, 1) := by decide +kernel
theorem dX52_forget_67 : decode cX52_forget 67 = .ok (.iastore, 1) := by decide +kernel
theorem dX52_forget_68 : decode cX52_forget 68 = .ok (.iinc 4 1, 3) := by decide +kernel
theorem dX52_forget_71 : decode cX52_forget 71 = .ok (.goto (-49), 3) := by decide +kernel
theorem dX52_forget_74 : decode cX52_forget 74 = .ok (.iinc 3 1, 3) := by decide +kernel
theorem dX52_forget_77 : decode cX52_forget 77 = .ok (.goto (-75), 3) := by decide +kernel
theorem dX52_forget_80 : decode cX52_forget 80 = .ok (.return_, 1) := by decide +kernel
abbrev cX52_isTouched : ByteArray := prog_81_method_17_code
def yX52_isTouched : MethodName := ⟨RX52, "isTouched", "(II)Z"⟩
theorem dX52_isTouched_0 : decode cX52_isTouched 0 = .ok (.iconst 0, 1) := by decide +kernel
theorem dX52_isTouched_1 : decode cX52_isTouched 1 = .ok (.istore_n 3, 1) := by decide +kernel
theorem dX52_isTouched_2 : decode cX52_isTouched 2 = .ok (.iload_n 3, 1) := by decide +kernel
theorem dX52_isTouched_3 : decode cX52_isTouched 3 = .ok (.bipush 20, 2) := by decide +kernel
theorem dX52_isTouched_5 : decode cX52_isTouched 5 = .ok (.if_icmp .gt 25, 3) := by decide +kernel
theorem dX52_isTouched_8 : decode cX52_isTouched 8 = .ok (.aload_n 0, 1) := by decide +kernel
theorem dX52_isTouched_9 : decode cX52_isTouched 9 = .ok (.getfield 54, 3) := by decide +kernel
theorem dX52_isTouched_12 : decode cX52_isTouched 12 = .ok (.iload_n 3, 1) := by decide +kernel
theorem dX52_isTouched_13 : decode cX52_isTouched 13 = .ok (.iload_n 3, 1) := by decide +kernel
theorem dX52_isTouched_14 : decode cX52_isTouched 14 = .ok (.iload_n 1, 1) := by decide +kernel
theorem dX52_isTouched_15 : decode cX52_isTouched 15 = .ok (.if_icmp .ne 7, 3) := by decide +kernel
theorem dX52_isTouched_18 : decode cX52_isTouched 18 = .ok (.iconst 1, 1) := by decide +kernel
theorem dX52_isTouched_19 : decode cX52_isTouched 19 = .ok (.goto 4, 3) := by decide +kernel
theorem dX52_isTouched_22 : decode cX52_isTouched 22 = .ok (.iconst 0, 1) := by decide +kernel
theorem dX52_isTouched_23 : decode cX52_isTouched 23 = .ok (.bastore, 1) := by decide +kernel
theorem dX52_isTouched_24 : decode cX52_isTouched 24 = .ok (.iinc 3 1, 3) := by decide +kernel
theorem dX52_isTouched_27 : decode cX52_isTouched 27 = .ok (.goto (-25), 3) := by decide +kernel
theorem dX52_isTouched_30 : decode cX52_isTouched 30 = .ok (.iconst 1, 1) := by decide +kernel
theorem dX52_isTouched_31 : decode cX52_isTouched 31 = .ok (.istore_n 3, 1) := by decide +kernel
theorem dX52_isTouched_32 : decode cX52_isTouched 32 = .ok (.iload_n 3, 1) := by decide +kernel
theorem dX52_isTouched_33 : decode cX52_isTouched 33 = .ok (.ifCond .eq 206, 3) := by decide +kernel
theorem dX52_isTouched_36 : decode cX52_isTouched 36 = .ok (.iconst 0, 1) := by decide +kernel
theorem dX52_isTouched_37 : decode cX52_isTouched 37 = .ok (.istore_n 3, 1) := by decide +kernel
theorem dX52_isTouched_38 : decode cX52_isTouched 38 = .ok (.iconst 0, 1) := by decide +kernel
theorem dX52_isTouched_39 : decode cX52_isTouched 39 = .ok (.istore 4, 2) := by decide +kernel
theorem dX52_isTouched_41 : decode cX52_isTouched 41 = .ok (.iload 4, 2) := by decide +kernel
theorem dX52_isTouched_43 : decode cX52_isTouched 43 = .ok (.aload_n 0, 1) := by decide +kernel
theorem dX52_isTouched_44 : decode cX52_isTouched 44 = .ok (.getfield 67, 3) := by decide +kernel
theorem dX52_isTouched_47 : decode cX52_isTouched 47 = .ok (.if_icmp .ge 189, 3) := by decide +kernel
theorem dX52_isTouched_50 : decode cX52_isTouched 50 = .ok (.aload_n 0, 1) := by decide +kernel
theorem dX52_isTouched_51 : decode cX52_isTouched 51 = .ok (.getfield 23, 3) := by decide +kernel
theorem dX52_isTouched_54 : decode cX52_isTouched 54 = .ok (.iload 4, 2) := by decide +kernel
theorem dX52_isTouched_56 : decode cX52_isTouched 56 = .ok (.baload, 1) := by decide +kernel
theorem dX52_isTouched_57 : decode cX52_isTouched 57 = .ok (.ifCond .eq 47, 3) := by decide +kernel
theorem dX52_isTouched_60 : decode cX52_isTouched 60 = .ok (.aload_n 0, 1) := by decide +kernel
theorem dX52_isTouched_61 : decode cX52_isTouched 61 = .ok (.getfield 54, 3) := by decide +kernel
theorem dX52_isTouched_64 : decode cX52_isTouched 64 = .ok (.aload_n 0, 1) := by decide +kernel
theorem dX52_isTouched_65 : decode cX52_isTouched 65 = .ok (.getfield 13, 3) := by decide +kernel
theorem dX52_isTouched_68 : decode cX52_isTouched 68 = .ok (.iload 4, 2) := by decide +kernel
theorem dX52_isTouched_70 : decode cX52_isTouched 70 = .ok (.iaload, 1) := by decide +kernel
theorem dX52_isTouched_71 : decode cX52_isTouched 71 = .ok (.baload, 1) := by decide +kernel
theorem dX52_isTouched_72 : decode cX52_isTouched 72 = .ok (.ifCond .ne 28, 3) := by decide +kernel
theorem dX52_isTouched_75 : decode cX52_isTouched 75 = .ok (.aload_n 0, 1) := by decide +kernel
theorem dX52_isTouched_76 : decode cX52_isTouched 76 = .ok (.getfield 17, 3) := by decide +kernel
theorem dX52_isTouched_79 : decode cX52_isTouched 79 = .ok (.iload 4, 2) := by decide +kernel
theorem dX52_isTouched_81 : decode cX52_isTouched 81 = .ok (.iaload, 1) := by decide +kernel
theorem dX52_isTouched_82 : decode cX52_isTouched 82 = .ok (.ifCond .lt 22, 3) := by decide +kernel
theorem dX52_isTouched_85 : decode cX52_isTouched 85 = .ok (.aload_n 0, 1) := by decide +kernel
theorem dX52_isTouched_86 : decode cX52_isTouched 86 = .ok (.getfield 54, 3) := by decide +kernel
theorem dX52_isTouched_89 : decode cX52_isTouched 89 = .ok (.aload_n 0, 1) := by decide +kernel
theorem dX52_isTouched_90 : decode cX52_isTouched 90 = .ok (.getfield 17, 3) := by decide +kernel
theorem dX52_isTouched_93 : decode cX52_isTouched 93 = .ok (.iload 4, 2) := by decide +kernel
theorem dX52_isTouched_95 : decode cX52_isTouched 95 = .ok (.iaload, 1) := by decide +kernel
theorem dX52_isTouched_96 : decode cX52_isTouched 96 = .ok (.baload, 1) := by decide +kernel
theorem dX52_isTouched_97 : decode cX52_isTouched 97 = .ok (.ifCond .eq 7, 3) := by decide +kernel
theorem dX52_isTouched_100 : decode cX52_isTouched 100 = .ok (.iconst 1, 1) := by decide +kernel
theorem dX52_isTouched_101 : decode cX52_isTouched 101 = .ok (.goto 4, 3) := by decide +kernel
theorem dX52_isTouched_104 : decode cX52_isTouched 104 = .ok (.iconst 0, 1) := by decide +kernel
theorem dX52_isTouched_105 : decode cX52_isTouched 105 = .ok (.istore 5, 2) := by decide +kernel
theorem dX52_isTouched_107 : decode cX52_isTouched 107 = .ok (.aload_n 0, 1) := by decide +kernel
theorem dX52_isTouched_108 : decode cX52_isTouched 108 = .ok (.getfield 54, 3) := by decide +kernel
theorem dX52_isTouched_111 : decode cX52_isTouched 111 = .ok (.aload_n 0, 1) := by decide +kernel
theorem dX52_isTouched_112 : decode cX52_isTouched 112 = .ok (.getfield 13, 3) := by decide +kernel
theorem dX52_isTouched_115 : decode cX52_isTouched 115 = .ok (.iload 4, 2) := by decide +kernel
theorem dX52_isTouched_117 : decode cX52_isTouched 117 = .ok (.iaload, 1) := by decide +kernel
theorem dX52_isTouched_118 : decode cX52_isTouched 118 = .ok (.baload, 1) := by decide +kernel
theorem dX52_isTouched_119 : decode cX52_isTouched 119 = .ok (.ifCond .eq 47, 3) := by decide +kernel
theorem dX52_isTouched_122 : decode cX52_isTouched 122 = .ok (.aload_n 0, 1) := by decide +kernel
theorem dX52_isTouched_123 : decode cX52_isTouched 123 = .ok (.getfield 17, 3) := by decide +kernel
theorem dX52_isTouched_126 : decode cX52_isTouched 126 = .ok (.iload 4, 2) := by decide +kernel
theorem dX52_isTouched_128 : decode cX52_isTouched 128 = .ok (.iaload, 1) := by decide +kernel
theorem dX52_isTouched_129 : decode cX52_isTouched 129 = .ok (.ifCond .lt 18, 3) := by decide +kernel
theorem dX52_isTouched_132 : decode cX52_isTouched 132 = .ok (.aload_n 0, 1) := by decide +kernel
theorem dX52_isTouched_133 : decode cX52_isTouched 133 = .ok (.getfield 54, 3) := by decide +kernel
theorem dX52_isTouched_136 : decode cX52_isTouched 136 = .ok (.aload_n 0, 1) := by decide +kernel
theorem dX52_isTouched_137 : decode cX52_isTouched 137 = .ok (.getfield 17, 3) := by decide +kernel
theorem dX52_isTouched_140 : decode cX52_isTouched 140 = .ok (.iload 4, 2) := by decide +kernel
theorem dX52_isTouched_142 : decode cX52_isTouched 142 = .ok (.iaload, 1) := by decide +kernel
theorem dX52_isTouched_143 : decode cX52_isTouched 143 = .ok (.baload, 1) := by decide +kernel
theorem dX52_isTouched_144 : decode cX52_isTouched 144 = .ok (.ifCond .eq 22, 3) := by decide +kernel
theorem dX52_isTouched_147 : decode cX52_isTouched 147 = .ok (.aload_n 0, 1) := by decide +kernel
theorem dX52_isTouched_148 : decode cX52_isTouched 148 = .ok (.getfield 54, 3) := by decide +kernel
theorem dX52_isTouched_151 : decode cX52_isTouched 151 = .ok (.aload_n 0, 1) := by decide +kernel
theorem dX52_isTouched_152 : decode cX52_isTouched 152 = .ok (.getfield 20, 3) := by decide +kernel
theorem dX52_isTouched_155 : decode cX52_isTouched 155 = .ok (.iload 4, 2) := by decide +kernel
theorem dX52_isTouched_157 : decode cX52_isTouched 157 = .ok (.iaload, 1) := by decide +kernel
theorem dX52_isTouched_158 : decode cX52_isTouched 158 = .ok (.baload, 1) := by decide +kernel
theorem dX52_isTouched_159 : decode cX52_isTouched 159 = .ok (.ifCond .eq 7, 3) := by decide +kernel
theorem dX52_isTouched_162 : decode cX52_isTouched 162 = .ok (.iconst 1, 1) := by decide +kernel
theorem dX52_isTouched_163 : decode cX52_isTouched 163 = .ok (.goto 4, 3) := by decide +kernel
theorem dX52_isTouched_166 : decode cX52_isTouched 166 = .ok (.iconst 0, 1) := by decide +kernel
theorem dX52_isTouched_167 : decode cX52_isTouched 167 = .ok (.istore 6, 2) := by decide +kernel
theorem dX52_isTouched_169 : decode cX52_isTouched 169 = .ok (.iload 5, 2) := by decide +kernel
theorem dX52_isTouched_171 : decode cX52_isTouched 171 = .ok (.ifCond .eq 59, 3) := by decide +kernel
theorem dX52_isTouched_174 : decode cX52_isTouched 174 = .ok (.iload 6, 2) := by decide +kernel
theorem dX52_isTouched_176 : decode cX52_isTouched 176 = .ok (.ifCond .ne 54, 3) := by decide +kernel
theorem dX52_isTouched_179 : decode cX52_isTouched 179 = .ok (.aload_n 0, 1) := by decide +kernel
theorem dX52_isTouched_180 : decode cX52_isTouched 180 = .ok (.getfield 54, 3) := by decide +kernel
theorem dX52_isTouched_183 : decode cX52_isTouched 183 = .ok (.aload_n 0, 1) := by decide +kernel
theorem dX52_isTouched_184 : decode cX52_isTouched 184 = .ok (.getfield 13, 3) := by decide +kernel
theorem dX52_isTouched_187 : decode cX52_isTouched 187 = .ok (.iload 4, 2) := by decide +kernel
theorem dX52_isTouched_189 : decode cX52_isTouched 189 = .ok (.iaload, 1) := by decide +kernel
theorem dX52_isTouched_190 : decode cX52_isTouched 190 = .ok (.iconst 1, 1) := by decide +kernel
theorem dX52_isTouched_191 : decode cX52_isTouched 191 = .ok (.bastore, 1) := by decide +kernel
theorem dX52_isTouched_192 : decode cX52_isTouched 192 = .ok (.aload_n 0, 1) := by decide +kernel
theorem dX52_isTouched_193 : decode cX52_isTouched 193 = .ok (.getfield 17, 3) := by decide +kernel
theorem dX52_isTouched_196 : decode cX52_isTouched 196 = .ok (.iload 4, 2) := by decide +kernel
theorem dX52_isTouched_198 : decode cX52_isTouched 198 = .ok (.iaload, 1) := by decide +kernel
theorem dX52_isTouched_199 : decode cX52_isTouched 199 = .ok (.ifCond .lt 16, 3) := by decide +kernel
theorem dX52_isTouched_202 : decode cX52_isTouched 202 = .ok (.aload_n 0, 1) := by decide +kernel
theorem dX52_isTouched_203 : decode cX52_isTouched 203 = .ok (.getfield 54, 3) := by decide +kernel
theorem dX52_isTouched_206 : decode cX52_isTouched 206 = .ok (.aload_n 0, 1) := by decide +kernel
theorem dX52_isTouched_207 : decode cX52_isTouched 207 = .ok (.getfield 17, 3) := by decide +kernel
theorem dX52_isTouched_210 : decode cX52_isTouched 210 = .ok (.iload 4, 2) := by decide +kernel
theorem dX52_isTouched_212 : decode cX52_isTouched 212 = .ok (.iaload, 1) := by decide +kernel
theorem dX52_isTouched_213 : decode cX52_isTouched 213 = .ok (.iconst 1, 1) := by decide +kernel
theorem dX52_isTouched_214 : decode cX52_isTouched 214 = .ok (.bastore, 1) := by decide +kernel
theorem dX52_isTouched_215 : decode cX52_isTouched 215 = .ok (.aload_n 0, 1) := by decide +kernel
theorem dX52_isTouched_216 : decode cX52_isTouched 216 = .ok (.getfield 54, 3) := by decide +kernel
theorem dX52_isTouched_219 : decode cX52_isTouched 219 = .ok (.aload_n 0, 1) := by decide +kernel
theorem dX52_isTouched_220 : decode cX52_isTouched 220 = .ok (.getfield 20, 3) := by decide +kernel
theorem dX52_isTouched_223 : decode cX52_isTouched 223 = .ok (.iload 4, 2) := by decide +kernel
theorem dX52_isTouched_225 : decode cX52_isTouched 225 = .ok (.iaload, 1) := by decide +kernel
theorem dX52_isTouched_226 : decode cX52_isTouched 226 = .ok (.iconst 1, 1) := by decide +kernel
theorem dX52_isTouched_227 : decode cX52_isTouched 227 = .ok (.bastore, 1) := by decide +kernel
theorem dX52_isTouched_228 : decode cX52_isTouched 228 = .ok (.iconst 1, 1) := by decide +kernel
theorem dX52_isTouched_229 : decode cX52_isTouched 229 = .ok (.istore_n 3, 1) := by decide +kernel
theorem dX52_isTouched_230 : decode cX52_isTouched 230 = .ok (.iinc 4 1, 3) := by decide +kernel
theorem dX52_isTouched_233 : decode cX52_isTouched 233 = .ok (.goto (-192), 3) := by decide +kernel
theorem dX52_isTouched_236 : decode cX52_isTouched 236 = .ok (.goto (-204), 3) := by decide +kernel
theorem dX52_isTouched_239 : decode cX52_isTouched 239 = .ok (.aload_n 0, 1) := by decide +kernel
theorem dX52_isTouched_240 : decode cX52_isTouched 240 = .ok (.getfield 54, 3) := by decide +kernel
theorem dX52_isTouched_243 : decode cX52_isTouched 243 = .ok (.aload_n 0, 1) := by decide +kernel
theorem dX52_isTouched_244 : decode cX52_isTouched 244 = .ok (.getfield 13, 3) := by decide +kernel
theorem dX52_isTouched_247 : decode cX52_isTouched 247 = .ok (.iload_n 2, 1) := by decide +kernel
theorem dX52_isTouched_248 : decode cX52_isTouched 248 = .ok (.iaload, 1) := by decide +kernel
theorem dX52_isTouched_249 : decode cX52_isTouched 249 = .ok (.baload, 1) := by decide +kernel
theorem dX52_isTouched_250 : decode cX52_isTouched 250 = .ok (.ifCond .ne 26, 3) := by decide +kernel
theorem dX52_isTouched_253 : decode cX52_isTouched 253 = .ok (.aload_n 0, 1) := by decide +kernel
theorem dX52_isTouched_254 : decode cX52_isTouched 254 = .ok (.getfield 17, 3) := by decide +kernel
theorem dX52_isTouched_257 : decode cX52_isTouched 257 = .ok (.iload_n 2, 1) := by decide +kernel
theorem dX52_isTouched_258 : decode cX52_isTouched 258 = .ok (.iaload, 1) := by decide +kernel
theorem dX52_isTouched_259 : decode cX52_isTouched 259 = .ok (.ifCond .lt 21, 3) := by decide +kernel
theorem dX52_isTouched_262 : decode cX52_isTouched 262 = .ok (.aload_n 0, 1) := by decide +kernel
theorem dX52_isTouched_263 : decode cX52_isTouched 263 = .ok (.getfield 54, 3) := by decide +kernel
theorem dX52_isTouched_266 : decode cX52_isTouched 266 = .ok (.aload_n 0, 1) := by decide +kernel
theorem dX52_isTouched_267 : decode cX52_isTouched 267 = .ok (.getfield 17, 3) := by decide +kernel
theorem dX52_isTouched_270 : decode cX52_isTouched 270 = .ok (.iload_n 2, 1) := by decide +kernel
theorem dX52_isTouched_271 : decode cX52_isTouched 271 = .ok (.iaload, 1) := by decide +kernel
theorem dX52_isTouched_272 : decode cX52_isTouched 272 = .ok (.baload, 1) := by decide +kernel
theorem dX52_isTouched_273 : decode cX52_isTouched 273 = .ok (.ifCond .eq 7, 3) := by decide +kernel
theorem dX52_isTouched_276 : decode cX52_isTouched 276 = .ok (.iconst 1, 1) := by decide +kernel
theorem dX52_isTouched_277 : decode cX52_isTouched 277 = .ok (.goto 4, 3) := by decide +kernel
theorem dX52_isTouched_280 : decode cX52_isTouched 280 = .ok (.iconst 0, 1) := by decide +kernel
theorem dX52_isTouched_281 : decode cX52_isTouched 281 = .ok (.ireturn, 1) := by decide +kernel
abbrev cX52_close : ByteArray := prog_81_method_11_code
def yX52_close : MethodName := ⟨RX52, "close", "()V"⟩
theorem dX52_close_0 : decode cX52_close 0 = .ok (.aload_n 0, 1) := by decide +kernel
theorem dX52_close_1 : decode cX52_close 1 = .ok (.invokevirtual 83, 3) := by decide +kernel
theorem dX52_close_4 : decode cX52_close 4 = .ok (.iconst 1, 1) := by decide +kernel
theorem dX52_close_5 : decode cX52_close 5 = .ok (.istore_n 1, 1) := by decide +kernel
theorem dX52_close_6 : decode cX52_close 6 = .ok (.iload_n 1, 1) := by decide +kernel
theorem dX52_close_7 : decode cX52_close 7 = .ok (.ifCond .eq 11, 3) := by decide +kernel
theorem dX52_close_10 : decode cX52_close 10 = .ok (.aload_n 0, 1) := by decide +kernel
theorem dX52_close_11 : decode cX52_close 11 = .ok (.invokevirtual 86, 3) := by decide +kernel
theorem dX52_close_14 : decode cX52_close 14 = .ok (.istore_n 1, 1) := by decide +kernel
theorem dX52_close_15 : decode cX52_close 15 = .ok (.goto (-9), 3) := by decide +kernel
theorem dX52_close_18 : decode cX52_close 18 = .ok (.return_, 1) := by decide +kernel
abbrev cX52_tellItself : ByteArray := prog_81_method_7_code
def yX52_tellItself : MethodName := ⟨RX52, "tellItself", "()V"⟩
theorem dX52_tellItself_0 : decode cX52_tellItself 0 = .ok (.iconst 0, 1) := by decide +kernel
theorem dX52_tellItself_1 : decode cX52_tellItself 1 = .ok (.istore_n 1, 1) := by decide +kernel
theorem dX52_tellItself_2 : decode cX52_tellItself 2 = .ok (.iload_n 1, 1) := by decide +kernel
theorem dX52_tellItself_3 : decode cX52_tellItself 3 = .ok (.aload_n 0, 1) := by decide +kernel
theorem dX52_tellItself_4 : decode cX52_tellItself 4 = .ok (.getfield 60, 3) := by decide +kernel
theorem dX52_tellItself_7 : decode cX52_tellItself 7 = .ok (.if_icmp .ge 58, 3) := by decide +kernel
theorem dX52_tellItself_10 : decode cX52_tellItself 10 = .ok (.iconst 0, 1) := by decide +kernel
theorem dX52_tellItself_11 : decode cX52_tellItself 11 = .ok (.istore_n 2, 1) := by decide +kernel
theorem dX52_tellItself_12 : decode cX52_tellItself 12 = .ok (.iload_n 2, 1) := by decide +kernel
theorem dX52_tellItself_13 : decode cX52_tellItself 13 = .ok (.bipush 20, 2) := by decide +kernel
theorem dX52_tellItself_15 : decode cX52_tellItself 15 = .ok (.if_icmp .gt 44, 3) := by decide +kernel
theorem dX52_tellItself_18 : decode cX52_tellItself 18 = .ok (.iload_n 2, 1) := by decide +kernel
theorem dX52_tellItself_19 : decode cX52_tellItself 19 = .ok (.aload_n 0, 1) := by decide +kernel
theorem dX52_tellItself_20 : decode cX52_tellItself 20 = .ok (.getfield 60, 3) := by decide +kernel
theorem dX52_tellItself_23 : decode cX52_tellItself 23 = .ok (.if_icmp .lt 9, 3) := by decide +kernel
theorem dX52_tellItself_26 : decode cX52_tellItself 26 = .ok (.iload_n 2, 1) := by decide +kernel
theorem dX52_tellItself_27 : decode cX52_tellItself 27 = .ok (.bipush 20, 2) := by decide +kernel
theorem dX52_tellItself_29 : decode cX52_tellItself 29 = .ok (.if_icmp .ne 24, 3) := by decide +kernel
theorem dX52_tellItself_32 : decode cX52_tellItself 32 = .ok (.aload_n 0, 1) := by decide +kernel
theorem dX52_tellItself_33 : decode cX52_tellItself 33 = .ok (.iload_n 1, 1) := by decide +kernel
theorem dX52_tellItself_34 : decode cX52_tellItself 34 = .ok (.iload_n 2, 1) := by decide +kernel
theorem dX52_tellItself_35 : decode cX52_tellItself 35 = .ok (.invokevirtual 70, 3) := by decide +kernel
theorem dX52_tellItself_38 : decode cX52_tellItself 38 = .ok (.ifCond .eq 15, 3) := by decide +kernel
theorem dX52_tellItself_41 : decode cX52_tellItself 41 = .ok (.aload_n 0, 1) := by decide +kernel
theorem dX52_tellItself_42 : decode cX52_tellItself 42 = .ok (.getfield 30, 3) := by decide +kernel
theorem dX52_tellItself_45 : decode cX52_tellItself 45 = .ok (.bipush 21, 2) := by decide +kernel
theorem dX52_tellItself_47 : decode cX52_tellItself 47 = .ok (.iload_n 1, 1) := by decide +kernel
theorem dX52_tellItself_48 : decode cX52_tellItself 48 = .ok (.imul, 1) := by decide +kernel
theorem dX52_tellItself_49 : decode cX52_tellItself 49 = .ok (.iload_n 2, 1) := by decide +kernel
theorem dX52_tellItself_50 : decode cX52_tellItself 50 = .ok (.iadd, 1) := by decide +kernel
theorem dX52_tellItself_51 : decode cX52_tellItself 51 = .ok (.iconst 1, 1) := by decide +kernel
theorem dX52_tellItself_52 : decode cX52_tellItself 52 = .ok (.iastore, 1) := by decide +kernel
theorem dX52_tellItself_53 : decode cX52_tellItself 53 = .ok (.iinc 2 1, 3) := by decide +kernel
theorem dX52_tellItself_56 : decode cX52_tellItself 56 = .ok (.goto (-44), 3) := by decide +kernel
theorem dX52_tellItself_59 : decode cX52_tellItself 59 = .ok (.iinc 1 1, 3) := by decide +kernel
theorem dX52_tellItself_62 : decode cX52_tellItself 62 = .ok (.goto (-60), 3) := by decide +kernel
theorem dX52_tellItself_65 : decode cX52_tellItself 65 = .ok (.return_, 1) := by decide +kernel
abbrev cX52_isItself : ByteArray := prog_81_method_6_code
def yX52_isItself : MethodName := ⟨RX52, "isItself", "(II)Z"⟩
theorem dX52_isItself_0 : decode cX52_isItself 0 = .ok (.iload_n 1, 1) := by decide +kernel
theorem dX52_isItself_1 : decode cX52_isItself 1 = .ok (.iload_n 2, 1) := by decide +kernel
theorem dX52_isItself_2 : decode cX52_isItself 2 = .ok (.if_icmp .ne 7, 3) := by decide +kernel
theorem dX52_isItself_5 : decode cX52_isItself 5 = .ok (.iconst 1, 1) := by decide +kernel
theorem dX52_isItself_6 : decode cX52_isItself 6 = .ok (.goto 4, 3) := by decide +kernel
theorem dX52_isItself_9 : decode cX52_isItself 9 = .ok (.iconst 0, 1) := by decide +kernel
theorem dX52_isItself_10 : decode cX52_isItself 10 = .ok (.istore_n 3, 1) := by decide +kernel
theorem dX52_isItself_11 : decode cX52_isItself 11 = .ok (.iconst 0, 1) := by decide +kernel
theorem dX52_isItself_12 : decode cX52_isItself 12 = .ok (.istore 4, 2) := by decide +kernel
theorem dX52_isItself_14 : decode cX52_isItself 14 = .ok (.iload 4, 2) := by decide +kernel
theorem dX52_isItself_16 : decode cX52_isItself 16 = .ok (.aload_n 0, 1) := by decide +kernel
theorem dX52_isItself_17 : decode cX52_isItself 17 = .ok (.getfield 67, 3) := by decide +kernel
theorem dX52_isItself_20 : decode cX52_isItself 20 = .ok (.if_icmp .ge 62, 3) := by decide +kernel
theorem dX52_isItself_23 : decode cX52_isItself 23 = .ok (.iload_n 3, 1) := by decide +kernel
theorem dX52_isItself_24 : decode cX52_isItself 24 = .ok (.ifCond .ne 46, 3) := by decide +kernel
theorem dX52_isItself_27 : decode cX52_isItself 27 = .ok (.aload_n 0, 1) := by decide +kernel
theorem dX52_isItself_28 : decode cX52_isItself 28 = .ok (.getfield 23, 3) := by decide +kernel
theorem dX52_isItself_31 : decode cX52_isItself 31 = .ok (.iload 4, 2) := by decide +kernel
theorem dX52_isItself_33 : decode cX52_isItself 33 = .ok (.baload, 1) := by decide +kernel
theorem dX52_isItself_34 : decode cX52_isItself 34 = .ok (.ifCond .eq 40, 3) := by decide +kernel
theorem dX52_isItself_37 : decode cX52_isItself 37 = .ok (.aload_n 0, 1) := by decide +kernel
theorem dX52_isItself_38 : decode cX52_isItself 38 = .ok (.getfield 13, 3) := by decide +kernel
theorem dX52_isItself_41 : decode cX52_isItself 41 = .ok (.iload 4, 2) := by decide +kernel
theorem dX52_isItself_43 : decode cX52_isItself 43 = .ok (.iaload, 1) := by decide +kernel
theorem dX52_isItself_44 : decode cX52_isItself 44 = .ok (.iload_n 1, 1) := by decide +kernel
theorem dX52_isItself_45 : decode cX52_isItself 45 = .ok (.if_icmp .ne 29, 3) := by decide +kernel
theorem dX52_isItself_48 : decode cX52_isItself 48 = .ok (.aload_n 0, 1) := by decide +kernel
theorem dX52_isItself_49 : decode cX52_isItself 49 = .ok (.getfield 17, 3) := by decide +kernel
theorem dX52_isItself_52 : decode cX52_isItself 52 = .ok (.iload 4, 2) := by decide +kernel
theorem dX52_isItself_54 : decode cX52_isItself 54 = .ok (.iaload, 1) := by decide +kernel
theorem dX52_isItself_55 : decode cX52_isItself 55 = .ok (.iconst (-1), 1) := by decide +kernel
theorem dX52_isItself_56 : decode cX52_isItself 56 = .ok (.if_icmp .ne 18, 3) := by decide +kernel
theorem dX52_isItself_59 : decode cX52_isItself 59 = .ok (.aload_n 0, 1) := by decide +kernel
theorem dX52_isItself_60 : decode cX52_isItself 60 = .ok (.getfield 20, 3) := by decide +kernel
theorem dX52_isItself_63 : decode cX52_isItself 63 = .ok (.iload 4, 2) := by decide +kernel
theorem dX52_isItself_65 : decode cX52_isItself 65 = .ok (.iaload, 1) := by decide +kernel
theorem dX52_isItself_66 : decode cX52_isItself 66 = .ok (.iload_n 2, 1) := by decide +kernel
theorem dX52_isItself_67 : decode cX52_isItself 67 = .ok (.if_icmp .ne 7, 3) := by decide +kernel
theorem dX52_isItself_70 : decode cX52_isItself 70 = .ok (.iconst 1, 1) := by decide +kernel
theorem dX52_isItself_71 : decode cX52_isItself 71 = .ok (.goto 4, 3) := by decide +kernel
theorem dX52_isItself_74 : decode cX52_isItself 74 = .ok (.iconst 0, 1) := by decide +kernel
theorem dX52_isItself_75 : decode cX52_isItself 75 = .ok (.istore_n 3, 1) := by decide +kernel
theorem dX52_isItself_76 : decode cX52_isItself 76 = .ok (.iinc 4 1, 3) := by decide +kernel
theorem dX52_isItself_79 : decode cX52_isItself 79 = .ok (.goto (-65), 3) := by decide +kernel
theorem dX52_isItself_82 : decode cX52_isItself 82 = .ok (.iload_n 3, 1) := by decide +kernel
theorem dX52_isItself_83 : decode cX52_isItself 83 = .ok (.ireturn, 1) := by decide +kernel
abbrev cX52_closeOnce : ByteArray := prog_81_method_9_code
def yX52_closeOnce : MethodName := ⟨RX52, "closeOnce", "()Z"⟩
theorem dX52_closeOnce_0 : decode cX52_closeOnce 0 = .ok (.iconst 0, 1) := by decide +kernel
theorem dX52_closeOnce_1 : decode cX52_closeOnce 1 = .ok (.istore_n 1, 1) := by decide +kernel
theorem dX52_closeOnce_2 : decode cX52_closeOnce 2 = .ok (.iconst 0, 1) := by decide +kernel
theorem dX52_closeOnce_3 : decode cX52_closeOnce 3 = .ok (.istore_n 2, 1) := by decide +kernel
theorem dX52_closeOnce_4 : decode cX52_closeOnce 4 = .ok (.iload_n 2, 1) := by decide +kernel
theorem dX52_closeOnce_5 : decode cX52_closeOnce 5 = .ok (.aload_n 0, 1) := by decide +kernel
theorem dX52_closeOnce_6 : decode cX52_closeOnce 6 = .ok (.getfield 60, 3) := by decide +kernel
theorem dX52_closeOnce_9 : decode cX52_closeOnce 9 = .ok (.if_icmp .ge 106, 3) := by decide +kernel
theorem dX52_closeOnce_12 : decode cX52_closeOnce 12 = .ok (.iconst 0, 1) := by decide +kernel
theorem dX52_closeOnce_13 : decode cX52_closeOnce 13 = .ok (.istore_n 3, 1) := by decide +kernel
theorem dX52_closeOnce_14 : decode cX52_closeOnce 14 = .ok (.iload_n 3, 1) := by decide +kernel
theorem dX52_closeOnce_15 : decode cX52_closeOnce 15 = .ok (.bipush 20, 2) := by decide +kernel
theorem dX52_closeOnce_17 : decode cX52_closeOnce 17 = .ok (.if_icmp .gt 92, 3) := by decide +kernel
theorem dX52_closeOnce_20 : decode cX52_closeOnce 20 = .ok (.aload_n 0, 1) := by decide +kernel
theorem dX52_closeOnce_21 : decode cX52_closeOnce 21 = .ok (.iload_n 3, 1) := by decide +kernel
theorem dX52_closeOnce_22 : decode cX52_closeOnce 22 = .ok (.invokevirtual 74, 3) := by decide +kernel
theorem dX52_closeOnce_25 : decode cX52_closeOnce 25 = .ok (.ifCond .eq 78, 3) := by decide +kernel
theorem dX52_closeOnce_28 : decode cX52_closeOnce 28 = .ok (.aload_n 0, 1) := by decide +kernel
theorem dX52_closeOnce_29 : decode cX52_closeOnce 29 = .ok (.iload_n 2, 1) := by decide +kernel
theorem dX52_closeOnce_30 : decode cX52_closeOnce 30 = .ok (.iload_n 3, 1) := by decide +kernel
theorem dX52_closeOnce_31 : decode cX52_closeOnce 31 = .ok (.invokevirtual 77, 3) := by decide +kernel
theorem dX52_closeOnce_34 : decode cX52_closeOnce 34 = .ok (.ifCond .eq 69, 3) := by decide +kernel
theorem dX52_closeOnce_37 : decode cX52_closeOnce 37 = .ok (.iconst 0, 1) := by decide +kernel
theorem dX52_closeOnce_38 : decode cX52_closeOnce 38 = .ok (.istore 4, 2) := by decide +kernel
theorem dX52_closeOnce_40 : decode cX52_closeOnce 40 = .ok (.iload 4, 2) := by decide +kernel
theorem dX52_closeOnce_42 : decode cX52_closeOnce 42 = .ok (.bipush 20, 2) := by decide +kernel
theorem dX52_closeOnce_44 : decode cX52_closeOnce 44 = .ok (.if_icmp .gt 59, 3) := by decide +kernel
theorem dX52_closeOnce_47 : decode cX52_closeOnce 47 = .ok (.aload_n 0, 1) := by decide +kernel
theorem dX52_closeOnce_48 : decode cX52_closeOnce 48 = .ok (.iload 4, 2) := by decide +kernel
theorem dX52_closeOnce_50 : decode cX52_closeOnce 50 = .ok (.invokevirtual 74, 3) := by decide +kernel
theorem dX52_closeOnce_53 : decode cX52_closeOnce 53 = .ok (.ifCond .eq 44, 3) := by decide +kernel
theorem dX52_closeOnce_56 : decode cX52_closeOnce 56 = .ok (.aload_n 0, 1) := by decide +kernel
theorem dX52_closeOnce_57 : decode cX52_closeOnce 57 = .ok (.iload_n 3, 1) := by decide +kernel
theorem dX52_closeOnce_58 : decode cX52_closeOnce 58 = .ok (.iload 4, 2) := by decide +kernel
theorem dX52_closeOnce_60 : decode cX52_closeOnce 60 = .ok (.invokevirtual 77, 3) := by decide +kernel
theorem dX52_closeOnce_63 : decode cX52_closeOnce 63 = .ok (.ifCond .eq 34, 3) := by decide +kernel
theorem dX52_closeOnce_66 : decode cX52_closeOnce 66 = .ok (.aload_n 0, 1) := by decide +kernel
theorem dX52_closeOnce_67 : decode cX52_closeOnce 67 = .ok (.getfield 30, 3) := by decide +kernel
theorem dX52_closeOnce_70 : decode cX52_closeOnce 70 = .ok (.bipush 21, 2) := by decide +kernel
theorem dX52_closeOnce_72 : decode cX52_closeOnce 72 = .ok (.iload_n 2, 1) := by decide +kernel
theorem dX52_closeOnce_73 : decode cX52_closeOnce 73 = .ok (.imul, 1) := by decide +kernel
theorem dX52_closeOnce_74 : decode cX52_closeOnce 74 = .ok (.iload 4, 2) := by decide +kernel
theorem dX52_closeOnce_76 : decode cX52_closeOnce 76 = .ok (.iadd, 1) := by decide +kernel
theorem dX52_closeOnce_77 : decode cX52_closeOnce 77 = .ok (.iaload, 1) := by decide +kernel
theorem dX52_closeOnce_78 : decode cX52_closeOnce 78 = .ok (.iconst 1, 1) := by decide +kernel
theorem dX52_closeOnce_79 : decode cX52_closeOnce 79 = .ok (.if_icmp .eq 18, 3) := by decide +kernel
theorem dX52_closeOnce_82 : decode cX52_closeOnce 82 = .ok (.aload_n 0, 1) := by decide +kernel
theorem dX52_closeOnce_83 : decode cX52_closeOnce 83 = .ok (.getfield 30, 3) := by decide +kernel
theorem dX52_closeOnce_86 : decode cX52_closeOnce 86 = .ok (.bipush 21, 2) := by decide +kernel
theorem dX52_closeOnce_88 : decode cX52_closeOnce 88 = .ok (.iload_n 2, 1) := by decide +kernel
theorem dX52_closeOnce_89 : decode cX52_closeOnce 89 = .ok (.imul, 1) := by decide +kernel
theorem dX52_closeOnce_90 : decode cX52_closeOnce 90 = .ok (.iload 4, 2) := by decide +kernel
theorem dX52_closeOnce_92 : decode cX52_closeOnce 92 = .ok (.iadd, 1) := by decide +kernel
theorem dX52_closeOnce_93 : decode cX52_closeOnce 93 = .ok (.iconst 1, 1) := by decide +kernel
theorem dX52_closeOnce_94 : decode cX52_closeOnce 94 = .ok (.iastore, 1) := by decide +kernel
theorem dX52_closeOnce_95 : decode cX52_closeOnce 95 = .ok (.iconst 1, 1) := by decide +kernel
theorem dX52_closeOnce_96 : decode cX52_closeOnce 96 = .ok (.istore_n 1, 1) := by decide +kernel
theorem dX52_closeOnce_97 : decode cX52_closeOnce 97 = .ok (.iinc 4 1, 3) := by decide +kernel
theorem dX52_closeOnce_100 : decode cX52_closeOnce 100 = .ok (.goto (-60), 3) := by decide +kernel
theorem dX52_closeOnce_103 : decode cX52_closeOnce 103 = .ok (.iinc 3 1, 3) := by decide +kernel
theorem dX52_closeOnce_106 : decode cX52_closeOnce 106 = .ok (.goto (-92), 3) := by decide +kernel
theorem dX52_closeOnce_109 : decode cX52_closeOnce 109 = .ok (.iinc 2 1, 3) := by decide +kernel
theorem dX52_closeOnce_112 : decode cX52_closeOnce 112 = .ok (.goto (-108), 3) := by decide +kernel
theorem dX52_closeOnce_115 : decode cX52_closeOnce 115 = .ok (.iconst 0, 1) := by decide +kernel
theorem dX52_closeOnce_116 : decode cX52_closeOnce 116 = .ok (.istore_n 2, 1) := by decide +kernel
theorem dX52_closeOnce_117 : decode cX52_closeOnce 117 = .ok (.iload_n 2, 1) := by decide +kernel
theorem dX52_closeOnce_118 : decode cX52_closeOnce 118 = .ok (.aload_n 0, 1) := by decide +kernel
theorem dX52_closeOnce_119 : decode cX52_closeOnce 119 = .ok (.getfield 60, 3) := by decide +kernel
theorem dX52_closeOnce_122 : decode cX52_closeOnce 122 = .ok (.if_icmp .ge 64, 3) := by decide +kernel
theorem dX52_closeOnce_125 : decode cX52_closeOnce 125 = .ok (.iconst 0, 1) := by decide +kernel
theorem dX52_closeOnce_126 : decode cX52_closeOnce 126 = .ok (.istore_n 3, 1) := by decide +kernel
theorem dX52_closeOnce_127 : decode cX52_closeOnce 127 = .ok (.iload_n 3, 1) := by decide +kernel
theorem dX52_closeOnce_128 : decode cX52_closeOnce 128 = .ok (.bipush 20, 2) := by decide +kernel
theorem dX52_closeOnce_130 : decode cX52_closeOnce 130 = .ok (.if_icmp .gt 50, 3) := by decide +kernel
theorem dX52_closeOnce_133 : decode cX52_closeOnce 133 = .ok (.aload_n 0, 1) := by decide +kernel
theorem dX52_closeOnce_134 : decode cX52_closeOnce 134 = .ok (.iload_n 3, 1) := by decide +kernel
theorem dX52_closeOnce_135 : decode cX52_closeOnce 135 = .ok (.invokevirtual 74, 3) := by decide +kernel
theorem dX52_closeOnce_138 : decode cX52_closeOnce 138 = .ok (.ifCond .eq 36, 3) := by decide +kernel
theorem dX52_closeOnce_141 : decode cX52_closeOnce 141 = .ok (.aload_n 0, 1) := by decide +kernel
theorem dX52_closeOnce_142 : decode cX52_closeOnce 142 = .ok (.getfield 30, 3) := by decide +kernel
theorem dX52_closeOnce_145 : decode cX52_closeOnce 145 = .ok (.bipush 21, 2) := by decide +kernel
theorem dX52_closeOnce_147 : decode cX52_closeOnce 147 = .ok (.iload_n 2, 1) := by decide +kernel
theorem dX52_closeOnce_148 : decode cX52_closeOnce 148 = .ok (.imul, 1) := by decide +kernel
theorem dX52_closeOnce_149 : decode cX52_closeOnce 149 = .ok (.iload_n 3, 1) := by decide +kernel
theorem dX52_closeOnce_150 : decode cX52_closeOnce 150 = .ok (.iadd, 1) := by decide +kernel
theorem dX52_closeOnce_151 : decode cX52_closeOnce 151 = .ok (.iaload, 1) := by decide +kernel
theorem dX52_closeOnce_152 : decode cX52_closeOnce 152 = .ok (.ifCond .ne 22, 3) := by decide +kernel
theorem dX52_closeOnce_155 : decode cX52_closeOnce 155 = .ok (.aload_n 0, 1) := by decide +kernel
theorem dX52_closeOnce_156 : decode cX52_closeOnce 156 = .ok (.iload_n 2, 1) := by decide +kernel
theorem dX52_closeOnce_157 : decode cX52_closeOnce 157 = .ok (.iload_n 3, 1) := by decide +kernel
theorem dX52_closeOnce_158 : decode cX52_closeOnce 158 = .ok (.invokevirtual 80, 3) := by decide +kernel
theorem dX52_closeOnce_161 : decode cX52_closeOnce 161 = .ok (.ifCond .ne 7, 3) := by decide +kernel
theorem dX52_closeOnce_164 : decode cX52_closeOnce 164 = .ok (.iload_n 1, 1) := by decide +kernel
theorem dX52_closeOnce_165 : decode cX52_closeOnce 165 = .ok (.ifCond .eq 7, 3) := by decide +kernel
theorem dX52_closeOnce_168 : decode cX52_closeOnce 168 = .ok (.iconst 1, 1) := by decide +kernel
theorem dX52_closeOnce_169 : decode cX52_closeOnce 169 = .ok (.goto 4, 3) := by decide +kernel
theorem dX52_closeOnce_172 : decode cX52_closeOnce 172 = .ok (.iconst 0, 1) := by decide +kernel
theorem dX52_closeOnce_173 : decode cX52_closeOnce 173 = .ok (.istore_n 1, 1) := by decide +kernel
theorem dX52_closeOnce_174 : decode cX52_closeOnce 174 = .ok (.iinc 3 1, 3) := by decide +kernel
theorem dX52_closeOnce_177 : decode cX52_closeOnce 177 = .ok (.goto (-50), 3) := by decide +kernel
theorem dX52_closeOnce_180 : decode cX52_closeOnce 180 = .ok (.iinc 2 1, 3) := by decide +kernel
theorem dX52_closeOnce_183 : decode cX52_closeOnce 183 = .ok (.goto (-66), 3) := by decide +kernel
theorem dX52_closeOnce_186 : decode cX52_closeOnce 186 = .ok (.iload_n 1, 1) := by decide +kernel
theorem dX52_closeOnce_187 : decode cX52_closeOnce 187 = .ok (.ireturn, 1) := by decide +kernel
abbrev cX52_isHere : ByteArray := prog_81_method_8_code
def yX52_isHere : MethodName := ⟨RX52, "isHere", "(I)Z"⟩
theorem dX52_isHere_0 : decode cX52_isHere 0 = .ok (.iload_n 1, 1) := by decide +kernel
theorem dX52_isHere_1 : decode cX52_isHere 1 = .ok (.aload_n 0, 1) := by decide +kernel
theorem dX52_isHere_2 : decode cX52_isHere 2 = .ok (.getfield 60, 3) := by decide +kernel
theorem dX52_isHere_5 : decode cX52_isHere 5 = .ok (.if_icmp .lt 9, 3) := by decide +kernel
theorem dX52_isHere_8 : decode cX52_isHere 8 = .ok (.iload_n 1, 1) := by decide +kernel
theorem dX52_isHere_9 : decode cX52_isHere 9 = .ok (.bipush 20, 2) := by decide +kernel
theorem dX52_isHere_11 : decode cX52_isHere 11 = .ok (.if_icmp .ne 7, 3) := by decide +kernel
theorem dX52_isHere_14 : decode cX52_isHere 14 = .ok (.iconst 1, 1) := by decide +kernel
theorem dX52_isHere_15 : decode cX52_isHere 15 = .ok (.goto 4, 3) := by decide +kernel
theorem dX52_isHere_18 : decode cX52_isHere 18 = .ok (.iconst 0, 1) := by decide +kernel
theorem dX52_isHere_19 : decode cX52_isHere 19 = .ok (.ireturn, 1) := by decide +kernel
abbrev cX52_below : ByteArray := prog_81_method_5_code
def yX52_below : MethodName := ⟨RX52, "below", "(II)Z"⟩
theorem dX52_below_0 : decode cX52_below 0 = .ok (.iload_n 1, 1) := by decide +kernel
theorem dX52_below_1 : decode cX52_below 1 = .ok (.bipush 20, 2) := by decide +kernel
theorem dX52_below_3 : decode cX52_below 3 = .ok (.if_icmp .eq 18, 3) := by decide +kernel
theorem dX52_below_6 : decode cX52_below 6 = .ok (.aload_n 0, 1) := by decide +kernel
theorem dX52_below_7 : decode cX52_below 7 = .ok (.getfield 30, 3) := by decide +kernel
theorem dX52_below_10 : decode cX52_below 10 = .ok (.bipush 21, 2) := by decide +kernel
theorem dX52_below_12 : decode cX52_below 12 = .ok (.iload_n 1, 1) := by decide +kernel
theorem dX52_below_13 : decode cX52_below 13 = .ok (.imul, 1) := by decide +kernel
theorem dX52_below_14 : decode cX52_below 14 = .ok (.iload_n 2, 1) := by decide +kernel
theorem dX52_below_15 : decode cX52_below 15 = .ok (.iadd, 1) := by decide +kernel
theorem dX52_below_16 : decode cX52_below 16 = .ok (.iaload, 1) := by decide +kernel
theorem dX52_below_17 : decode cX52_below 17 = .ok (.iconst 1, 1) := by decide +kernel
theorem dX52_below_18 : decode cX52_below 18 = .ok (.if_icmp .ne 7, 3) := by decide +kernel
theorem dX52_below_21 : decode cX52_below 21 = .ok (.iconst 1, 1) := by decide +kernel
theorem dX52_below_22 : decode cX52_below 22 = .ok (.goto 4, 3) := by decide +kernel
theorem dX52_below_25 : decode cX52_below 25 = .ok (.iconst 0, 1) := by decide +kernel
theorem dX52_below_26 : decode cX52_below 26 = .ok (.ireturn, 1) := by decide +kernel
abbrev cX52_spreadNo : ByteArray := prog_81_method_10_code
def yX52_spreadNo : MethodName := ⟨RX52, "spreadNo", "(II)Z"⟩
theorem dX52_spreadNo_0 : decode cX52_spreadNo 0 = .ok (.iconst 0, 1) := by decide +kernel
theorem dX52_spreadNo_1 : decode cX52_spreadNo 1 = .ok (.istore_n 3, 1) := by decide +kernel
theorem dX52_spreadNo_2 : decode cX52_spreadNo 2 = .ok (.iconst 0, 1) := by decide +kernel
theorem dX52_spreadNo_3 : decode cX52_spreadNo 3 = .ok (.istore 4, 2) := by decide +kernel
theorem dX52_spreadNo_5 : decode cX52_spreadNo 5 = .ok (.iload 4, 2) := by decide +kernel
theorem dX52_spreadNo_7 : decode cX52_spreadNo 7 = .ok (.aload_n 0, 1) := by decide +kernel
theorem dX52_spreadNo_8 : decode cX52_spreadNo 8 = .ok (.getfield 60, 3) := by decide +kernel
theorem dX52_spreadNo_11 : decode cX52_spreadNo 11 = .ok (.if_icmp .ge 96, 3) := by decide +kernel
theorem dX52_spreadNo_14 : decode cX52_spreadNo 14 = .ok (.aload_n 0, 1) := by decide +kernel
theorem dX52_spreadNo_15 : decode cX52_spreadNo 15 = .ok (.iload_n 1, 1) := by decide +kernel
theorem dX52_spreadNo_16 : decode cX52_spreadNo 16 = .ok (.iload 4, 2) := by decide +kernel
theorem dX52_spreadNo_18 : decode cX52_spreadNo 18 = .ok (.invokevirtual 77, 3) := by decide +kernel
theorem dX52_spreadNo_21 : decode cX52_spreadNo 21 = .ok (.ifCond .eq 80, 3) := by decide +kernel
theorem dX52_spreadNo_24 : decode cX52_spreadNo 24 = .ok (.iconst 0, 1) := by decide +kernel
theorem dX52_spreadNo_25 : decode cX52_spreadNo 25 = .ok (.istore 5, 2) := by decide +kernel
theorem dX52_spreadNo_27 : decode cX52_spreadNo 27 = .ok (.iload 5, 2) := by decide +kernel
theorem dX52_spreadNo_29 : decode cX52_spreadNo 29 = .ok (.bipush 20, 2) := by decide +kernel
theorem dX52_spreadNo_31 : decode cX52_spreadNo 31 = .ok (.if_icmp .gt 70, 3) := by decide +kernel
theorem dX52_spreadNo_34 : decode cX52_spreadNo 34 = .ok (.aload_n 0, 1) := by decide +kernel
theorem dX52_spreadNo_35 : decode cX52_spreadNo 35 = .ok (.getfield 30, 3) := by decide +kernel
theorem dX52_spreadNo_38 : decode cX52_spreadNo 38 = .ok (.bipush 21, 2) := by decide +kernel
theorem dX52_spreadNo_40 : decode cX52_spreadNo 40 = .ok (.iload 4, 2) := by decide +kernel
theorem dX52_spreadNo_42 : decode cX52_spreadNo 42 = .ok (.imul, 1) := by decide +kernel
theorem dX52_spreadNo_43 : decode cX52_spreadNo 43 = .ok (.iload 5, 2) := by decide +kernel
theorem dX52_spreadNo_45 : decode cX52_spreadNo 45 = .ok (.iadd, 1) := by decide +kernel
theorem dX52_spreadNo_46 : decode cX52_spreadNo 46 = .ok (.iaload, 1) := by decide +kernel
theorem dX52_spreadNo_47 : decode cX52_spreadNo 47 = .ok (.istore 6, 2) := by decide +kernel
theorem dX52_spreadNo_49 : decode cX52_spreadNo 49 = .ok (.aload_n 0, 1) := by decide +kernel
theorem dX52_spreadNo_50 : decode cX52_spreadNo 50 = .ok (.iload 5, 2) := by decide +kernel
theorem dX52_spreadNo_52 : decode cX52_spreadNo 52 = .ok (.invokevirtual 74, 3) := by decide +kernel
theorem dX52_spreadNo_55 : decode cX52_spreadNo 55 = .ok (.ifCond .eq 40, 3) := by decide +kernel
theorem dX52_spreadNo_58 : decode cX52_spreadNo 58 = .ok (.aload_n 0, 1) := by decide +kernel
theorem dX52_spreadNo_59 : decode cX52_spreadNo 59 = .ok (.iload 5, 2) := by decide +kernel
theorem dX52_spreadNo_61 : decode cX52_spreadNo 61 = .ok (.iload_n 2, 1) := by decide +kernel
theorem dX52_spreadNo_62 : decode cX52_spreadNo 62 = .ok (.invokevirtual 77, 3) := by decide +kernel
theorem dX52_spreadNo_65 : decode cX52_spreadNo 65 = .ok (.ifCond .eq 30, 3) := by decide +kernel
theorem dX52_spreadNo_68 : decode cX52_spreadNo 68 = .ok (.iload 6, 2) := by decide +kernel
theorem dX52_spreadNo_70 : decode cX52_spreadNo 70 = .ok (.ifCond .eq 25, 3) := by decide +kernel
theorem dX52_spreadNo_73 : decode cX52_spreadNo 73 = .ok (.iload 6, 2) := by decide +kernel
theorem dX52_spreadNo_75 : decode cX52_spreadNo 75 = .ok (.iconst 1, 1) := by decide +kernel
theorem dX52_spreadNo_76 : decode cX52_spreadNo 76 = .ok (.if_icmp .eq 19, 3) := by decide +kernel
theorem dX52_spreadNo_79 : decode cX52_spreadNo 79 = .ok (.aload_n 0, 1) := by decide +kernel
theorem dX52_spreadNo_80 : decode cX52_spreadNo 80 = .ok (.getfield 30, 3) := by decide +kernel
theorem dX52_spreadNo_83 : decode cX52_spreadNo 83 = .ok (.bipush 21, 2) := by decide +kernel
theorem dX52_spreadNo_85 : decode cX52_spreadNo 85 = .ok (.iload 4, 2) := by decide +kernel
theorem dX52_spreadNo_87 : decode cX52_spreadNo 87 = .ok (.imul, 1) := by decide +kernel
theorem dX52_spreadNo_88 : decode cX52_spreadNo 88 = .ok (.iload 5, 2) := by decide +kernel
theorem dX52_spreadNo_90 : decode cX52_spreadNo 90 = .ok (.iadd, 1) := by decide +kernel
theorem dX52_spreadNo_91 : decode cX52_spreadNo 91 = .ok (.iconst 0, 1) := by decide +kernel
theorem dX52_spreadNo_92 : decode cX52_spreadNo 92 = .ok (.iastore, 1) := by decide +kernel
theorem dX52_spreadNo_93 : decode cX52_spreadNo 93 = .ok (.iconst 1, 1) := by decide +kernel
theorem dX52_spreadNo_94 : decode cX52_spreadNo 94 = .ok (.istore_n 3, 1) := by decide +kernel
theorem dX52_spreadNo_95 : decode cX52_spreadNo 95 = .ok (.iinc 5 1, 3) := by decide +kernel
theorem dX52_spreadNo_98 : decode cX52_spreadNo 98 = .ok (.goto (-71), 3) := by decide +kernel
theorem dX52_spreadNo_101 : decode cX52_spreadNo 101 = .ok (.iinc 4 1, 3) := by decide +kernel
theorem dX52_spreadNo_104 : decode cX52_spreadNo 104 = .ok (.goto (-99), 3) := by decide +kernel
theorem dX52_spreadNo_107 : decode cX52_spreadNo 107 = .ok (.iload_n 3, 1) := by decide +kernel
theorem dX52_spreadNo_108 : decode cX52_spreadNo 108 = .ok (.ireturn, 1) := by decide +kernel
abbrev cX52_put : ByteArray := prog_81_method_38_code
def yX52_put : MethodName := ⟨RX52, "put", "(II)I"⟩
theorem dX52_put_0 : decode cX52_put 0 = .ok (.iload_n 1, 1) := by decide +kernel
theorem dX52_put_1 : decode cX52_put 1 = .ok (.ifCond .lt 19, 3) := by decide +kernel
theorem dX52_put_4 : decode cX52_put 4 = .ok (.iload_n 1, 1) := by decide +kernel
theorem dX52_put_5 : decode cX52_put 5 = .ok (.aload_n 0, 1) := by decide +kernel
theorem dX52_put_6 : decode cX52_put 6 = .ok (.getfield 104, 3) := by decide +kernel
theorem dX52_put_9 : decode cX52_put 9 = .ok (.if_icmp .ge 11, 3) := by decide +kernel
theorem dX52_put_12 : decode cX52_put 12 = .ok (.aload_n 0, 1) := by decide +kernel
theorem dX52_put_13 : decode cX52_put 13 = .ok (.iload_n 2, 1) := by decide +kernel
theorem dX52_put_14 : decode cX52_put 14 = .ok (.invokevirtual 63, 3) := by decide +kernel
theorem dX52_put_17 : decode cX52_put 17 = .ok (.ifCond .ne 5, 3) := by decide +kernel
theorem dX52_put_20 : decode cX52_put 20 = .ok (.iconst (-1), 1) := by decide +kernel
theorem dX52_put_21 : decode cX52_put 21 = .ok (.ireturn, 1) := by decide +kernel
theorem dX52_put_22 : decode cX52_put 22 = .ok (.aload_n 0, 1) := by decide +kernel
theorem dX52_put_23 : decode cX52_put 23 = .ok (.getfield 27, 3) := by decide +kernel
theorem dX52_put_26 : decode cX52_put 26 = .ok (.bipush 20, 2) := by decide +kernel
theorem dX52_put_28 : decode cX52_put 28 = .ok (.iload_n 1, 1) := by decide +kernel
theorem dX52_put_29 : decode cX52_put 29 = .ok (.imul, 1) := by decide +kernel
theorem dX52_put_30 : decode cX52_put 30 = .ok (.iload_n 2, 1) := by decide +kernel
theorem dX52_put_31 : decode cX52_put 31 = .ok (.iadd, 1) := by decide +kernel
theorem dX52_put_32 : decode cX52_put 32 = .ok (.baload, 1) := by decide +kernel
theorem dX52_put_33 : decode cX52_put 33 = .ok (.istore_n 3, 1) := by decide +kernel
theorem dX52_put_34 : decode cX52_put 34 = .ok (.aload_n 0, 1) := by decide +kernel
theorem dX52_put_35 : decode cX52_put 35 = .ok (.getfield 27, 3) := by decide +kernel
theorem dX52_put_38 : decode cX52_put 38 = .ok (.bipush 20, 2) := by decide +kernel
theorem dX52_put_40 : decode cX52_put 40 = .ok (.iload_n 1, 1) := by decide +kernel
theorem dX52_put_41 : decode cX52_put 41 = .ok (.imul, 1) := by decide +kernel
theorem dX52_put_42 : decode cX52_put 42 = .ok (.iload_n 2, 1) := by decide +kernel
theorem dX52_put_43 : decode cX52_put 43 = .ok (.iadd, 1) := by decide +kernel
theorem dX52_put_44 : decode cX52_put 44 = .ok (.iconst 1, 1) := by decide +kernel
theorem dX52_put_45 : decode cX52_put 45 = .ok (.bastore, 1) := by decide +kernel
theorem dX52_put_46 : decode cX52_put 46 = .ok (.iload_n 3, 1) := by decide +kernel
theorem dX52_put_47 : decode cX52_put 47 = .ok (.ifCond .eq 7, 3) := by decide +kernel
theorem dX52_put_50 : decode cX52_put 50 = .ok (.iconst 0, 1) := by decide +kernel
theorem dX52_put_51 : decode cX52_put 51 = .ok (.goto 4, 3) := by decide +kernel
theorem dX52_put_54 : decode cX52_put 54 = .ok (.iconst 1, 1) := by decide +kernel
theorem dX52_put_55 : decode cX52_put 55 = .ok (.ireturn, 1) := by decide +kernel
abbrev cX52_run : ByteArray := prog_81_method_30_code
def yX52_run : MethodName := ⟨RX52, "run", "()I"⟩
theorem dX52_run_0 : decode cX52_run 0 = .ok (.aload_n 0, 1) := by decide +kernel
theorem dX52_run_1 : decode cX52_run 1 = .ok (.iconst 0, 1) := by decide +kernel
theorem dX52_run_2 : decode cX52_run 2 = .ok (.putfield 125, 3) := by decide +kernel
theorem dX52_run_5 : decode cX52_run 5 = .ok (.iconst 0, 1) := by decide +kernel
theorem dX52_run_6 : decode cX52_run 6 = .ok (.istore_n 1, 1) := by decide +kernel
theorem dX52_run_7 : decode cX52_run 7 = .ok (.iload_n 1, 1) := by decide +kernel
theorem dX52_run_8 : decode cX52_run 8 = .ok (.bipush 20, 2) := by decide +kernel
theorem dX52_run_10 : decode cX52_run 10 = .ok (.if_icmp .ge 16, 3) := by decide +kernel
theorem dX52_run_13 : decode cX52_run 13 = .ok (.aload_n 0, 1) := by decide +kernel
theorem dX52_run_14 : decode cX52_run 14 = .ok (.getfield 36, 3) := by decide +kernel
theorem dX52_run_17 : decode cX52_run 17 = .ok (.iload_n 1, 1) := by decide +kernel
theorem dX52_run_18 : decode cX52_run 18 = .ok (.iconst 0, 1) := by decide +kernel
theorem dX52_run_19 : decode cX52_run 19 = .ok (.bastore, 1) := by decide +kernel
theorem dX52_run_20 : decode cX52_run 20 = .ok (.iinc 1 1, 3) := by decide +kernel
theorem dX52_run_23 : decode cX52_run 23 = .ok (.goto (-16), 3) := by decide +kernel
theorem dX52_run_26 : decode cX52_run 26 = .ok (.iconst 0, 1) := by decide +kernel
theorem dX52_run_27 : decode cX52_run 27 = .ok (.istore_n 1, 1) := by decide +kernel
theorem dX52_run_28 : decode cX52_run 28 = .ok (.iload_n 1, 1) := by decide +kernel
theorem dX52_run_29 : decode cX52_run 29 = .ok (.aload_n 0, 1) := by decide +kernel
theorem dX52_run_30 : decode cX52_run 30 = .ok (.getfield 60, 3) := by decide +kernel
theorem dX52_run_33 : decode cX52_run 33 = .ok (.if_icmp .ge 38, 3) := by decide +kernel
theorem dX52_run_36 : decode cX52_run 36 = .ok (.aload_n 0, 1) := by decide +kernel
theorem dX52_run_37 : decode cX52_run 37 = .ok (.iload_n 1, 1) := by decide +kernel
theorem dX52_run_38 : decode cX52_run 38 = .ok (.bipush 20, 2) := by decide +kernel
theorem dX52_run_40 : decode cX52_run 40 = .ok (.invokevirtual 138, 3) := by decide +kernel
theorem dX52_run_43 : decode cX52_run 43 = .ok (.ifCond .ne 22, 3) := by decide +kernel
theorem dX52_run_46 : decode cX52_run 46 = .ok (.aload_n 0, 1) := by decide +kernel
theorem dX52_run_47 : decode cX52_run 47 = .ok (.iload_n 1, 1) := by decide +kernel
theorem dX52_run_48 : decode cX52_run 48 = .ok (.iconst 1, 1) := by decide +kernel
theorem dX52_run_49 : decode cX52_run 49 = .ok (.invokevirtual 141, 3) := by decide +kernel
theorem dX52_run_52 : decode cX52_run 52 = .ok (.aload_n 0, 1) := by decide +kernel
theorem dX52_run_53 : decode cX52_run 53 = .ok (.iload_n 1, 1) := by decide +kernel
theorem dX52_run_54 : decode cX52_run 54 = .ok (.iconst 0, 1) := by decide +kernel
theorem dX52_run_55 : decode cX52_run 55 = .ok (.invokevirtual 141, 3) := by decide +kernel
theorem dX52_run_58 : decode cX52_run 58 = .ok (.aload_n 0, 1) := by decide +kernel
theorem dX52_run_59 : decode cX52_run 59 = .ok (.getfield 36, 3) := by decide +kernel
theorem dX52_run_62 : decode cX52_run 62 = .ok (.iload_n 1, 1) := by decide +kernel
theorem dX52_run_63 : decode cX52_run 63 = .ok (.iconst 1, 1) := by decide +kernel
theorem dX52_run_64 : decode cX52_run 64 = .ok (.bastore, 1) := by decide +kernel
theorem dX52_run_65 : decode cX52_run 65 = .ok (.iinc 1 1, 3) := by decide +kernel
theorem dX52_run_68 : decode cX52_run 68 = .ok (.goto (-40), 3) := by decide +kernel
theorem dX52_run_71 : decode cX52_run 71 = .ok (.aload_n 0, 1) := by decide +kernel
theorem dX52_run_72 : decode cX52_run 72 = .ok (.iconst 1, 1) := by decide +kernel
theorem dX52_run_73 : decode cX52_run 73 = .ok (.putfield 97, 3) := by decide +kernel
theorem dX52_run_76 : decode cX52_run 76 = .ok (.aload_n 0, 1) := by decide +kernel
theorem dX52_run_77 : decode cX52_run 77 = .ok (.dup, 1) := by decide +kernel
theorem dX52_run_78 : decode cX52_run 78 = .ok (.getfield 145, 3) := by decide +kernel
theorem dX52_run_81 : decode cX52_run 81 = .ok (.aload_n 0, 1) := by decide +kernel
theorem dX52_run_82 : decode cX52_run 82 = .ok (.getfield 125, 3) := by decide +kernel
theorem dX52_run_85 : decode cX52_run 85 = .ok (.iadd, 1) := by decide +kernel
theorem dX52_run_86 : decode cX52_run 86 = .ok (.putfield 145, 3) := by decide +kernel
theorem dX52_run_89 : decode cX52_run 89 = .ok (.aload_n 0, 1) := by decide +kernel
theorem dX52_run_90 : decode cX52_run 90 = .ok (.getfield 125, 3) := by decide +kernel
theorem dX52_run_93 : decode cX52_run 93 = .ok (.ireturn, 1) := by decide +kernel
abbrev cX52_look : ByteArray := prog_81_method_25_code
def yX52_look : MethodName := ⟨RX52, "look", "(II)Z"⟩
theorem dX52_look_0 : decode cX52_look 0 = .ok (.aload_n 0, 1) := by decide +kernel
theorem dX52_look_1 : decode cX52_look 1 = .ok (.getfield 30, 3) := by decide +kernel
theorem dX52_look_4 : decode cX52_look 4 = .ok (.bipush 21, 2) := by decide +kernel
theorem dX52_look_6 : decode cX52_look 6 = .ok (.iload_n 1, 1) := by decide +kernel
theorem dX52_look_7 : decode cX52_look 7 = .ok (.imul, 1) := by decide +kernel
theorem dX52_look_8 : decode cX52_look 8 = .ok (.iload_n 2, 1) := by decide +kernel
theorem dX52_look_9 : decode cX52_look 9 = .ok (.iadd, 1) := by decide +kernel
theorem dX52_look_10 : decode cX52_look 10 = .ok (.iaload, 1) := by decide +kernel
theorem dX52_look_11 : decode cX52_look 11 = .ok (.iconst 3, 1) := by decide +kernel
theorem dX52_look_12 : decode cX52_look 12 = .ok (.if_icmp .ne 34, 3) := by decide +kernel
theorem dX52_look_15 : decode cX52_look 15 = .ok (.aload_n 0, 1) := by decide +kernel
theorem dX52_look_16 : decode cX52_look 16 = .ok (.dup, 1) := by decide +kernel
theorem dX52_look_17 : decode cX52_look 17 = .ok (.getfield 125, 3) := by decide +kernel
theorem dX52_look_20 : decode cX52_look 20 = .ok (.iconst 1, 1) := by decide +kernel
theorem dX52_look_21 : decode cX52_look 21 = .ok (.iadd, 1) := by decide +kernel
theorem dX52_look_22 : decode cX52_look 22 = .ok (.putfield 125, 3) := by decide +kernel
theorem dX52_look_25 : decode cX52_look 25 = .ok (.aload_n 0, 1) := by decide +kernel
theorem dX52_look_26 : decode cX52_look 26 = .ok (.getfield 30, 3) := by decide +kernel
theorem dX52_look_29 : decode cX52_look 29 = .ok (.bipush 21, 2) := by decide +kernel
theorem dX52_look_31 : decode cX52_look 31 = .ok (.iload_n 1, 1) := by decide +kernel
theorem dX52_look_32 : decode cX52_look 32 = .ok (.imul, 1) := by decide +kernel
theorem dX52_look_33 : decode cX52_look 33 = .ok (.iload_n 2, 1) := by decide +kernel
theorem dX52_look_34 : decode cX52_look 34 = .ok (.iadd, 1) := by decide +kernel
theorem dX52_look_35 : decode cX52_look 35 = .ok (.aload_n 0, 1) := by decide +kernel
theorem dX52_look_36 : decode cX52_look 36 = .ok (.iload_n 1, 1) := by decide +kernel
theorem dX52_look_37 : decode cX52_look 37 = .ok (.iload_n 2, 1) := by decide +kernel
theorem dX52_look_38 : decode cX52_look 38 = .ok (.invokevirtual 121, 3) := by decide +kernel
theorem dX52_look_41 : decode cX52_look 41 = .ok (.iastore, 1) := by decide +kernel
theorem dX52_look_42 : decode cX52_look 42 = .ok (.aload_n 0, 1) := by decide +kernel
theorem dX52_look_43 : decode cX52_look 43 = .ok (.invokevirtual 101, 3) := by decide +kernel
theorem dX52_look_46 : decode cX52_look 46 = .ok (.aload_n 0, 1) := by decide +kernel
theorem dX52_look_47 : decode cX52_look 47 = .ok (.getfield 30, 3) := by decide +kernel
theorem dX52_look_50 : decode cX52_look 50 = .ok (.bipush 21, 2) := by decide +kernel
theorem dX52_look_52 : decode cX52_look 52 = .ok (.iload_n 1, 1) := by decide +kernel
theorem dX52_look_53 : decode cX52_look 53 = .ok (.imul, 1) := by decide +kernel
theorem dX52_look_54 : decode cX52_look 54 = .ok (.iload_n 2, 1) := by decide +kernel
theorem dX52_look_55 : decode cX52_look 55 = .ok (.iadd, 1) := by decide +kernel
theorem dX52_look_56 : decode cX52_look 56 = .ok (.iaload, 1) := by decide +kernel
theorem dX52_look_57 : decode cX52_look 57 = .ok (.iconst 1, 1) := by decide +kernel
theorem dX52_look_58 : decode cX52_look 58 = .ok (.if_icmp .ne 7, 3) := by decide +kernel
theorem dX52_look_61 : decode cX52_look 61 = .ok (.iconst 1, 1) := by decide +kernel
theorem dX52_look_62 : decode cX52_look 62 = .ok (.goto 4, 3) := by decide +kernel
theorem dX52_look_65 : decode cX52_look 65 = .ok (.iconst 0, 1) := by decide +kernel
theorem dX52_look_66 : decode cX52_look 66 = .ok (.ireturn, 1) := by decide +kernel
abbrev cX52_reasonAlone : ByteArray := prog_81_method_13_code
def yX52_reasonAlone : MethodName := ⟨RX52, "reasonAlone", "(II)I"⟩
theorem dX52_reasonAlone_0 : decode cX52_reasonAlone 0 = .ok (.iconst 0, 1) := by decide +kernel
theorem dX52_reasonAlone_1 : decode cX52_reasonAlone 1 = .ok (.istore_n 3, 1) := by decide +kernel
theorem dX52_reasonAlone_2 : decode cX52_reasonAlone 2 = .ok (.iload_n 3, 1) := by decide +kernel
theorem dX52_reasonAlone_3 : decode cX52_reasonAlone 3 = .ok (.bipush 20, 2) := by decide +kernel
theorem dX52_reasonAlone_5 : decode cX52_reasonAlone 5 = .ok (.if_icmp .gt 25, 3) := by decide +kernel
theorem dX52_reasonAlone_8 : decode cX52_reasonAlone 8 = .ok (.aload_n 0, 1) := by decide +kernel
theorem dX52_reasonAlone_9 : decode cX52_reasonAlone 9 = .ok (.getfield 42, 3) := by decide +kernel
theorem dX52_reasonAlone_12 : decode cX52_reasonAlone 12 = .ok (.iload_n 3, 1) := by decide +kernel
theorem dX52_reasonAlone_13 : decode cX52_reasonAlone 13 = .ok (.iload_n 3, 1) := by decide +kernel
theorem dX52_reasonAlone_14 : decode cX52_reasonAlone 14 = .ok (.iload_n 1, 1) := by decide +kernel
theorem dX52_reasonAlone_15 : decode cX52_reasonAlone 15 = .ok (.if_icmp .ne 7, 3) := by decide +kernel
theorem dX52_reasonAlone_18 : decode cX52_reasonAlone 18 = .ok (.iconst 1, 1) := by decide +kernel
theorem dX52_reasonAlone_19 : decode cX52_reasonAlone 19 = .ok (.goto 4, 3) := by decide +kernel
theorem dX52_reasonAlone_22 : decode cX52_reasonAlone 22 = .ok (.iconst 0, 1) := by decide +kernel
theorem dX52_reasonAlone_23 : decode cX52_reasonAlone 23 = .ok (.bastore, 1) := by decide +kernel
theorem dX52_reasonAlone_24 : decode cX52_reasonAlone 24 = .ok (.iinc 3 1, 3) := by decide +kernel
theorem dX52_reasonAlone_27 : decode cX52_reasonAlone 27 = .ok (.goto (-25), 3) := by decide +kernel
theorem dX52_reasonAlone_30 : decode cX52_reasonAlone 30 = .ok (.aload_n 0, 1) := by decide +kernel
theorem dX52_reasonAlone_31 : decode cX52_reasonAlone 31 = .ok (.iload_n 2, 1) := by decide +kernel
theorem dX52_reasonAlone_32 : decode cX52_reasonAlone 32 = .ok (.invokevirtual 93, 3) := by decide +kernel
theorem dX52_reasonAlone_35 : decode cX52_reasonAlone 35 = .ok (.ireturn, 1) := by decide +kernel
abbrev cX52_reason : ByteArray := prog_81_method_12_code
def yX52_reason : MethodName := ⟨RX52, "reason", "(I)I"⟩
theorem dX52_reason_0 : decode cX52_reason 0 = .ok (.aload_n 0, 1) := by decide +kernel
theorem dX52_reason_1 : decode cX52_reason 1 = .ok (.iconst 0, 1) := by decide +kernel
theorem dX52_reason_2 : decode cX52_reason 2 = .ok (.putfield 90, 3) := by decide +kernel
theorem dX52_reason_5 : decode cX52_reason 5 = .ok (.iconst 0, 1) := by decide +kernel
theorem dX52_reason_6 : decode cX52_reason 6 = .ok (.istore_n 2, 1) := by decide +kernel
theorem dX52_reason_7 : decode cX52_reason 7 = .ok (.iload_n 2, 1) := by decide +kernel
theorem dX52_reason_8 : decode cX52_reason 8 = .ok (.bipush 20, 2) := by decide +kernel
theorem dX52_reason_10 : decode cX52_reason 10 = .ok (.if_icmp .gt 16, 3) := by decide +kernel
theorem dX52_reason_13 : decode cX52_reason 13 = .ok (.aload_n 0, 1) := by decide +kernel
theorem dX52_reason_14 : decode cX52_reason 14 = .ok (.getfield 45, 3) := by decide +kernel
theorem dX52_reason_17 : decode cX52_reason 17 = .ok (.iload_n 2, 1) := by decide +kernel
theorem dX52_reason_18 : decode cX52_reason 18 = .ok (.iconst (-1), 1) := by decide +kernel
theorem dX52_reason_19 : decode cX52_reason 19 = .ok (.iastore, 1) := by decide +kernel
theorem dX52_reason_20 : decode cX52_reason 20 = .ok (.iinc 2 1, 3) := by decide +kernel
theorem dX52_reason_23 : decode cX52_reason 23 = .ok (.goto (-16), 3) := by decide +kernel
theorem dX52_reason_26 : decode cX52_reason 26 = .ok (.aload_n 0, 1) := by decide +kernel
theorem dX52_reason_27 : decode cX52_reason 27 = .ok (.getfield 42, 3) := by decide +kernel
theorem dX52_reason_30 : decode cX52_reason 30 = .ok (.iload_n 1, 1) := by decide +kernel
theorem dX52_reason_31 : decode cX52_reason 31 = .ok (.baload, 1) := by decide +kernel
theorem dX52_reason_32 : decode cX52_reason 32 = .ok (.ifCond .ne 176, 3) := by decide +kernel
theorem dX52_reason_35 : decode cX52_reason 35 = .ok (.aload_n 0, 1) := by decide +kernel
theorem dX52_reason_36 : decode cX52_reason 36 = .ok (.getfield 42, 3) := by decide +kernel
theorem dX52_reason_39 : decode cX52_reason 39 = .ok (.bipush 20, 2) := by decide +kernel
theorem dX52_reason_41 : decode cX52_reason 41 = .ok (.baload, 1) := by decide +kernel
theorem dX52_reason_42 : decode cX52_reason 42 = .ok (.ifCond .ne 166, 3) := by decide +kernel
theorem dX52_reason_45 : decode cX52_reason 45 = .ok (.iconst (-1), 1) := by decide +kernel
theorem dX52_reason_46 : decode cX52_reason 46 = .ok (.istore_n 2, 1) := by decide +kernel
theorem dX52_reason_47 : decode cX52_reason 47 = .ok (.aload_n 0, 1) := by decide +kernel
theorem dX52_reason_48 : decode cX52_reason 48 = .ok (.getfield 67, 3) := by decide +kernel
theorem dX52_reason_51 : decode cX52_reason 51 = .ok (.iconst 1, 1) := by decide +kernel
theorem dX52_reason_52 : decode cX52_reason 52 = .ok (.isub, 1) := by decide +kernel
theorem dX52_reason_53 : decode cX52_reason 53 = .ok (.istore_n 3, 1) := by decide +kernel
theorem dX52_reason_54 : decode cX52_reason 54 = .ok (.iload_n 3, 1) := by decide +kernel
theorem dX52_reason_55 : decode cX52_reason 55 = .ok (.ifCond .lt 87, 3) := by decide +kernel
theorem dX52_reason_58 : decode cX52_reason 58 = .ok (.aload_n 0, 1) := by decide +kernel
theorem dX52_reason_59 : decode cX52_reason 59 = .ok (.getfield 23, 3) := by decide +kernel
theorem dX52_reason_62 : decode cX52_reason 62 = .ok (.iload_n 3, 1) := by decide +kernel
theorem dX52_reason_63 : decode cX52_reason 63 = .ok (.baload, 1) := by decide +kernel
theorem dX52_reason_64 : decode cX52_reason 64 = .ok (.ifCond .eq 58, 3) := by decide +kernel
theorem dX52_reason_67 : decode cX52_reason 67 = .ok (.aload_n 0, 1) := by decide +kernel
theorem dX52_reason_68 : decode cX52_reason 68 = .ok (.getfield 42, 3) := by decide +kernel
theorem dX52_reason_71 : decode cX52_reason 71 = .ok (.aload_n 0, 1) := by decide +kernel
theorem dX52_reason_72 : decode cX52_reason 72 = .ok (.getfield 13, 3) := by decide +kernel
theorem dX52_reason_75 : decode cX52_reason 75 = .ok (.iload_n 3, 1) := by decide +kernel
theorem dX52_reason_76 : decode cX52_reason 76 = .ok (.iaload, 1) := by decide +kernel
theorem dX52_reason_77 : decode cX52_reason 77 = .ok (.baload, 1) := by decide +kernel
theorem dX52_reason_78 : decode cX52_reason 78 = .ok (.ifCond .eq 44, 3) := by decide +kernel
theorem dX52_reason_81 : decode cX52_reason 81 = .ok (.aload_n 0, 1) := by decide +kernel
theorem dX52_reason_82 : decode cX52_reason 82 = .ok (.getfield 17, 3) := by decide +kernel
theorem dX52_reason_85 : decode cX52_reason 85 = .ok (.iload_n 3, 1) := by decide +kernel
theorem dX52_reason_86 : decode cX52_reason 86 = .ok (.iaload, 1) := by decide +kernel
theorem dX52_reason_87 : decode cX52_reason 87 = .ok (.ifCond .lt 17, 3) := by decide +kernel
theorem dX52_reason_90 : decode cX52_reason 90 = .ok (.aload_n 0, 1) := by decide +kernel
theorem dX52_reason_91 : decode cX52_reason 91 = .ok (.getfield 42, 3) := by decide +kernel
theorem dX52_reason_94 : decode cX52_reason 94 = .ok (.aload_n 0, 1) := by decide +kernel
theorem dX52_reason_95 : decode cX52_reason 95 = .ok (.getfield 17, 3) := by decide +kernel
theorem dX52_reason_98 : decode cX52_reason 98 = .ok (.iload_n 3, 1) := by decide +kernel
theorem dX52_reason_99 : decode cX52_reason 99 = .ok (.iaload, 1) := by decide +kernel
theorem dX52_reason_100 : decode cX52_reason 100 = .ok (.baload, 1) := by decide +kernel
theorem dX52_reason_101 : decode cX52_reason 101 = .ok (.ifCond .eq 21, 3) := by decide +kernel
theorem dX52_reason_104 : decode cX52_reason 104 = .ok (.aload_n 0, 1) := by decide +kernel
theorem dX52_reason_105 : decode cX52_reason 105 = .ok (.getfield 42, 3) := by decide +kernel
theorem dX52_reason_108 : decode cX52_reason 108 = .ok (.aload_n 0, 1) := by decide +kernel
theorem dX52_reason_109 : decode cX52_reason 109 = .ok (.getfield 20, 3) := by decide +kernel
theorem dX52_reason_112 : decode cX52_reason 112 = .ok (.iload_n 3, 1) := by decide +kernel
theorem dX52_reason_113 : decode cX52_reason 113 = .ok (.iaload, 1) := by decide +kernel
theorem dX52_reason_114 : decode cX52_reason 114 = .ok (.baload, 1) := by decide +kernel
theorem dX52_reason_115 : decode cX52_reason 115 = .ok (.ifCond .ne 7, 3) := by decide +kernel
theorem dX52_reason_118 : decode cX52_reason 118 = .ok (.iconst 1, 1) := by decide +kernel
theorem dX52_reason_119 : decode cX52_reason 119 = .ok (.goto 4, 3) := by decide +kernel
theorem dX52_reason_122 : decode cX52_reason 122 = .ok (.iconst 0, 1) := by decide +kernel
theorem dX52_reason_123 : decode cX52_reason 123 = .ok (.istore 4, 2) := by decide +kernel
theorem dX52_reason_125 : decode cX52_reason 125 = .ok (.iload 4, 2) := by decide +kernel
theorem dX52_reason_127 : decode cX52_reason 127 = .ok (.ifCond .eq 7, 3) := by decide +kernel
theorem dX52_reason_130 : decode cX52_reason 130 = .ok (.iload_n 3, 1) := by decide +kernel
theorem dX52_reason_131 : decode cX52_reason 131 = .ok (.goto 4, 3) := by decide +kernel
theorem dX52_reason_134 : decode cX52_reason 134 = .ok (.iload_n 2, 1) := by decide +kernel
theorem dX52_reason_135 : decode cX52_reason 135 = .ok (.istore_n 2, 1) := by decide +kernel
theorem dX52_reason_136 : decode cX52_reason 136 = .ok (.iinc 3 (-1), 3) := by decide +kernel
theorem dX52_reason_139 : decode cX52_reason 139 = .ok (.goto (-85), 3) := by decide +kernel
theorem dX52_reason_142 : decode cX52_reason 142 = .ok (.iload_n 2, 1) := by decide +kernel
theorem dX52_reason_143 : decode cX52_reason 143 = .ok (.ifCond .ge 5, 3) := by decide +kernel
theorem dX52_reason_146 : decode cX52_reason 146 = .ok (.iconst 0, 1) := by decide +kernel
theorem dX52_reason_147 : decode cX52_reason 147 = .ok (.ireturn, 1) := by decide +kernel
theorem dX52_reason_148 : decode cX52_reason 148 = .ok (.aload_n 0, 1) := by decide +kernel
theorem dX52_reason_149 : decode cX52_reason 149 = .ok (.getfield 90, 3) := by decide +kernel
theorem dX52_reason_152 : decode cX52_reason 152 = .ok (.aload_n 0, 1) := by decide +kernel
theorem dX52_reason_153 : decode cX52_reason 153 = .ok (.getfield 7, 3) := by decide +kernel
theorem dX52_reason_156 : decode cX52_reason 156 = .ok (.if_icmp .ne 5, 3) := by decide +kernel
theorem dX52_reason_159 : decode cX52_reason 159 = .ok (.iconst 2, 1) := by decide +kernel
theorem dX52_reason_160 : decode cX52_reason 160 = .ok (.ireturn, 1) := by decide +kernel
theorem dX52_reason_161 : decode cX52_reason 161 = .ok (.aload_n 0, 1) := by decide +kernel
theorem dX52_reason_162 : decode cX52_reason 162 = .ok (.getfield 48, 3) := by decide +kernel
theorem dX52_reason_165 : decode cX52_reason 165 = .ok (.aload_n 0, 1) := by decide +kernel
theorem dX52_reason_166 : decode cX52_reason 166 = .ok (.getfield 90, 3) := by decide +kernel
theorem dX52_reason_169 : decode cX52_reason 169 = .ok (.iload_n 2, 1) := by decide +kernel
theorem dX52_reason_170 : decode cX52_reason 170 = .ok (.iastore, 1) := by decide +kernel
theorem dX52_reason_171 : decode cX52_reason 171 = .ok (.aload_n 0, 1) := by decide +kernel
theorem dX52_reason_172 : decode cX52_reason 172 = .ok (.dup, 1) := by decide +kernel
theorem dX52_reason_173 : decode cX52_reason 173 = .ok (.getfield 90, 3) := by decide +kernel
theorem dX52_reason_176 : decode cX52_reason 176 = .ok (.iconst 1, 1) := by decide +kernel
theorem dX52_reason_177 : decode cX52_reason 177 = .ok (.iadd, 1) := by decide +kernel
theorem dX52_reason_178 : decode cX52_reason 178 = .ok (.putfield 90, 3) := by decide +kernel
theorem dX52_reason_181 : decode cX52_reason 181 = .ok (.aload_n 0, 1) := by decide +kernel
theorem dX52_reason_182 : decode cX52_reason 182 = .ok (.getfield 42, 3) := by decide +kernel
theorem dX52_reason_185 : decode cX52_reason 185 = .ok (.aload_n 0, 1) := by decide +kernel
theorem dX52_reason_186 : decode cX52_reason 186 = .ok (.getfield 20, 3) := by decide +kernel
theorem dX52_reason_189 : decode cX52_reason 189 = .ok (.iload_n 2, 1) := by decide +kernel
theorem dX52_reason_190 : decode cX52_reason 190 = .ok (.iaload, 1) := by decide +kernel
theorem dX52_reason_191 : decode cX52_reason 191 = .ok (.iconst 1, 1) := by decide +kernel
theorem dX52_reason_192 : decode cX52_reason 192 = .ok (.bastore, 1) := by decide +kernel
theorem dX52_reason_193 : decode cX52_reason 193 = .ok (.aload_n 0, 1) := by decide +kernel
theorem dX52_reason_194 : decode cX52_reason 194 = .ok (.getfield 45, 3) := by decide +kernel
theorem dX52_reason_197 : decode cX52_reason 197 = .ok (.aload_n 0, 1) := by decide +kernel
theorem dX52_reason_198 : decode cX52_reason 198 = .ok (.getfield 20, 3) := by decide +kernel
theorem dX52_reason_201 : decode cX52_reason 201 = .ok (.iload_n 2, 1) := by decide +kernel
theorem dX52_reason_202 : decode cX52_reason 202 = .ok (.iaload, 1) := by decide +kernel
theorem dX52_reason_203 : decode cX52_reason 203 = .ok (.iload_n 2, 1) := by decide +kernel
theorem dX52_reason_204 : decode cX52_reason 204 = .ok (.iastore, 1) := by decide +kernel
theorem dX52_reason_205 : decode cX52_reason 205 = .ok (.goto (-179), 3) := by decide +kernel
theorem dX52_reason_208 : decode cX52_reason 208 = .ok (.iconst 1, 1) := by decide +kernel
theorem dX52_reason_209 : decode cX52_reason 209 = .ok (.ireturn, 1) := by decide +kernel
abbrev cX52_go : ByteArray := prog_81_method_29_code
def yX52_go : MethodName := ⟨RX52, "go", "(IZ)V"⟩
theorem dX52_go_0 : decode cX52_go 0 = .ok (.iconst 0, 1) := by decide +kernel
theorem dX52_go_1 : decode cX52_go 1 = .ok (.istore_n 3, 1) := by decide +kernel
theorem dX52_go_2 : decode cX52_go 2 = .ok (.iload_n 3, 1) := by decide +kernel
theorem dX52_go_3 : decode cX52_go 3 = .ok (.bipush 20, 2) := by decide +kernel
theorem dX52_go_5 : decode cX52_go 5 = .ok (.if_icmp .ge 16, 3) := by decide +kernel
theorem dX52_go_8 : decode cX52_go 8 = .ok (.aload_n 0, 1) := by decide +kernel
theorem dX52_go_9 : decode cX52_go 9 = .ok (.getfield 39, 3) := by decide +kernel
theorem dX52_go_12 : decode cX52_go 12 = .ok (.iload_n 3, 1) := by decide +kernel
theorem dX52_go_13 : decode cX52_go 13 = .ok (.iconst 0, 1) := by decide +kernel
theorem dX52_go_14 : decode cX52_go 14 = .ok (.bastore, 1) := by decide +kernel
theorem dX52_go_15 : decode cX52_go 15 = .ok (.iinc 3 1, 3) := by decide +kernel
theorem dX52_go_18 : decode cX52_go 18 = .ok (.goto (-16), 3) := by decide +kernel
theorem dX52_go_21 : decode cX52_go 21 = .ok (.aload_n 0, 1) := by decide +kernel
theorem dX52_go_22 : decode cX52_go 22 = .ok (.iload_n 1, 1) := by decide +kernel
theorem dX52_go_23 : decode cX52_go 23 = .ok (.iload_n 2, 1) := by decide +kernel
theorem dX52_go_24 : decode cX52_go 24 = .ok (.invokevirtual 134, 3) := by decide +kernel
theorem dX52_go_27 : decode cX52_go 27 = .ok (.istore_n 3, 1) := by decide +kernel
theorem dX52_go_28 : decode cX52_go 28 = .ok (.iload_n 3, 1) := by decide +kernel
theorem dX52_go_29 : decode cX52_go 29 = .ok (.ifCond .lt 41, 3) := by decide +kernel
theorem dX52_go_32 : decode cX52_go 32 = .ok (.aload_n 0, 1) := by decide +kernel
theorem dX52_go_33 : decode cX52_go 33 = .ok (.getfield 39, 3) := by decide +kernel
theorem dX52_go_36 : decode cX52_go 36 = .ok (.iload_n 3, 1) := by decide +kernel
theorem dX52_go_37 : decode cX52_go 37 = .ok (.iconst 1, 1) := by decide +kernel
theorem dX52_go_38 : decode cX52_go 38 = .ok (.bastore, 1) := by decide +kernel
theorem dX52_go_39 : decode cX52_go 39 = .ok (.iload_n 2, 1) := by decide +kernel
theorem dX52_go_40 : decode cX52_go 40 = .ok (.ifCond .eq 12, 3) := by decide +kernel
theorem dX52_go_43 : decode cX52_go 43 = .ok (.aload_n 0, 1) := by decide +kernel
theorem dX52_go_44 : decode cX52_go 44 = .ok (.iload_n 1, 1) := by decide +kernel
theorem dX52_go_45 : decode cX52_go 45 = .ok (.iload_n 3, 1) := by decide +kernel
theorem dX52_go_46 : decode cX52_go 46 = .ok (.invokevirtual 138, 3) := by decide +kernel
theorem dX52_go_49 : decode cX52_go 49 = .ok (.goto 9, 3) := by decide +kernel
theorem dX52_go_52 : decode cX52_go 52 = .ok (.aload_n 0, 1) := by decide +kernel
theorem dX52_go_53 : decode cX52_go 53 = .ok (.iload_n 3, 1) := by decide +kernel
theorem dX52_go_54 : decode cX52_go 54 = .ok (.iload_n 1, 1) := by decide +kernel
theorem dX52_go_55 : decode cX52_go 55 = .ok (.invokevirtual 138, 3) := by decide +kernel
theorem dX52_go_58 : decode cX52_go 58 = .ok (.istore 4, 2) := by decide +kernel
theorem dX52_go_60 : decode cX52_go 60 = .ok (.aload_n 0, 1) := by decide +kernel
theorem dX52_go_61 : decode cX52_go 61 = .ok (.iload_n 1, 1) := by decide +kernel
theorem dX52_go_62 : decode cX52_go 62 = .ok (.iload_n 2, 1) := by decide +kernel
theorem dX52_go_63 : decode cX52_go 63 = .ok (.invokevirtual 134, 3) := by decide +kernel
theorem dX52_go_66 : decode cX52_go 66 = .ok (.istore_n 3, 1) := by decide +kernel
theorem dX52_go_67 : decode cX52_go 67 = .ok (.goto (-39), 3) := by decide +kernel
theorem dX52_go_70 : decode cX52_go 70 = .ok (.return_, 1) := by decide +kernel
abbrev cX52_nextFor : ByteArray := prog_81_method_28_code
def yX52_nextFor : MethodName := ⟨RX52, "nextFor", "(IZ)I"⟩
theorem dX52_nextFor_0 : decode cX52_nextFor 0 = .ok (.iconst (-1), 1) := by decide +kernel
theorem dX52_nextFor_1 : decode cX52_nextFor 1 = .ok (.istore_n 3, 1) := by decide +kernel
theorem dX52_nextFor_2 : decode cX52_nextFor 2 = .ok (.aload_n 0, 1) := by decide +kernel
theorem dX52_nextFor_3 : decode cX52_nextFor 3 = .ok (.getfield 60, 3) := by decide +kernel
theorem dX52_nextFor_6 : decode cX52_nextFor 6 = .ok (.iconst 1, 1) := by decide +kernel
theorem dX52_nextFor_7 : decode cX52_nextFor 7 = .ok (.isub, 1) := by decide +kernel
theorem dX52_nextFor_8 : decode cX52_nextFor 8 = .ok (.istore 4, 2) := by decide +kernel
theorem dX52_nextFor_10 : decode cX52_nextFor 10 = .ok (.iload 4, 2) := by decide +kernel
theorem dX52_nextFor_12 : decode cX52_nextFor 12 = .ok (.ifCond .lt 175, 3) := by decide +kernel
theorem dX52_nextFor_15 : decode cX52_nextFor 15 = .ok (.aload_n 0, 1) := by decide +kernel
theorem dX52_nextFor_16 : decode cX52_nextFor 16 = .ok (.getfield 36, 3) := by decide +kernel
theorem dX52_nextFor_19 : decode cX52_nextFor 19 = .ok (.iload 4, 2) := by decide +kernel
theorem dX52_nextFor_21 : decode cX52_nextFor 21 = .ok (.baload, 1) := by decide +kernel
theorem dX52_nextFor_22 : decode cX52_nextFor 22 = .ok (.ifCond .eq 17, 3) := by decide +kernel
theorem dX52_nextFor_25 : decode cX52_nextFor 25 = .ok (.aload_n 0, 1) := by decide +kernel
theorem dX52_nextFor_26 : decode cX52_nextFor 26 = .ok (.getfield 39, 3) := by decide +kernel
theorem dX52_nextFor_29 : decode cX52_nextFor 29 = .ok (.iload 4, 2) := by decide +kernel
theorem dX52_nextFor_31 : decode cX52_nextFor 31 = .ok (.baload, 1) := by decide +kernel
theorem dX52_nextFor_32 : decode cX52_nextFor 32 = .ok (.ifCond .ne 7, 3) := by decide +kernel
theorem dX52_nextFor_35 : decode cX52_nextFor 35 = .ok (.iconst 1, 1) := by decide +kernel
theorem dX52_nextFor_36 : decode cX52_nextFor 36 = .ok (.goto 4, 3) := by decide +kernel
theorem dX52_nextFor_39 : decode cX52_nextFor 39 = .ok (.iconst 0, 1) := by decide +kernel
theorem dX52_nextFor_40 : decode cX52_nextFor 40 = .ok (.istore 5, 2) := by decide +kernel
theorem dX52_nextFor_42 : decode cX52_nextFor 42 = .ok (.iconst 0, 1) := by decide +kernel
theorem dX52_nextFor_43 : decode cX52_nextFor 43 = .ok (.istore 6, 2) := by decide +kernel
theorem dX52_nextFor_45 : decode cX52_nextFor 45 = .ok (.iload 6, 2) := by decide +kernel
theorem dX52_nextFor_47 : decode cX52_nextFor 47 = .ok (.aload_n 0, 1) := by decide +kernel
theorem dX52_nextFor_48 : decode cX52_nextFor 48 = .ok (.getfield 60, 3) := by decide +kernel
theorem dX52_nextFor_51 : decode cX52_nextFor 51 = .ok (.if_icmp .ge 118, 3) := by decide +kernel
theorem dX52_nextFor_54 : decode cX52_nextFor 54 = .ok (.iload 5, 2) := by decide +kernel
theorem dX52_nextFor_56 : decode cX52_nextFor 56 = .ok (.ifCond .eq 113, 3) := by decide +kernel
theorem dX52_nextFor_59 : decode cX52_nextFor 59 = .ok (.iload_n 2, 1) := by decide +kernel
theorem dX52_nextFor_60 : decode cX52_nextFor 60 = .ok (.ifCond .eq 34, 3) := by decide +kernel
theorem dX52_nextFor_63 : decode cX52_nextFor 63 = .ok (.aload_n 0, 1) := by decide +kernel
theorem dX52_nextFor_64 : decode cX52_nextFor 64 = .ok (.iload 4, 2) := by decide +kernel
theorem dX52_nextFor_66 : decode cX52_nextFor 66 = .ok (.iload 6, 2) := by decide +kernel
theorem dX52_nextFor_68 : decode cX52_nextFor 68 = .ok (.invokevirtual 131, 3) := by decide +kernel
theorem dX52_nextFor_71 : decode cX52_nextFor 71 = .ok (.ifCond .eq 13, 3) := by decide +kernel
theorem dX52_nextFor_74 : decode cX52_nextFor 74 = .ok (.aload_n 0, 1) := by decide +kernel
theorem dX52_nextFor_75 : decode cX52_nextFor 75 = .ok (.iload_n 1, 1) := by decide +kernel
theorem dX52_nextFor_76 : decode cX52_nextFor 76 = .ok (.iload 6, 2) := by decide +kernel
theorem dX52_nextFor_78 : decode cX52_nextFor 78 = .ok (.invokevirtual 77, 3) := by decide +kernel
theorem dX52_nextFor_81 : decode cX52_nextFor 81 = .ok (.ifCond .eq 7, 3) := by decide +kernel
theorem dX52_nextFor_84 : decode cX52_nextFor 84 = .ok (.iconst 1, 1) := by decide +kernel
theorem dX52_nextFor_85 : decode cX52_nextFor 85 = .ok (.goto 4, 3) := by decide +kernel
theorem dX52_nextFor_88 : decode cX52_nextFor 88 = .ok (.iconst 0, 1) := by decide +kernel
theorem dX52_nextFor_89 : decode cX52_nextFor 89 = .ok (.istore 5, 2) := by decide +kernel
theorem dX52_nextFor_91 : decode cX52_nextFor 91 = .ok (.goto 72, 3) := by decide +kernel
theorem dX52_nextFor_94 : decode cX52_nextFor 94 = .ok (.aload_n 0, 1) := by decide +kernel
theorem dX52_nextFor_95 : decode cX52_nextFor 95 = .ok (.getfield 36, 3) := by decide +kernel
theorem dX52_nextFor_98 : decode cX52_nextFor 98 = .ok (.iload 6, 2) := by decide +kernel
theorem dX52_nextFor_100 : decode cX52_nextFor 100 = .ok (.baload, 1) := by decide +kernel
theorem dX52_nextFor_101 : decode cX52_nextFor 101 = .ok (.ifCond .eq 24, 3) := by decide +kernel
theorem dX52_nextFor_104 : decode cX52_nextFor 104 = .ok (.aload_n 0, 1) := by decide +kernel
theorem dX52_nextFor_105 : decode cX52_nextFor 105 = .ok (.iload_n 1, 1) := by decide +kernel
theorem dX52_nextFor_106 : decode cX52_nextFor 106 = .ok (.iload 6, 2) := by decide +kernel
theorem dX52_nextFor_108 : decode cX52_nextFor 108 = .ok (.invokevirtual 77, 3) := by decide +kernel
theorem dX52_nextFor_111 : decode cX52_nextFor 111 = .ok (.ifCond .eq 14, 3) := by decide +kernel
theorem dX52_nextFor_114 : decode cX52_nextFor 114 = .ok (.aload_n 0, 1) := by decide +kernel
theorem dX52_nextFor_115 : decode cX52_nextFor 115 = .ok (.iload 4, 2) := by decide +kernel
theorem dX52_nextFor_117 : decode cX52_nextFor 117 = .ok (.iload 6, 2) := by decide +kernel
theorem dX52_nextFor_119 : decode cX52_nextFor 119 = .ok (.invokevirtual 77, 3) := by decide +kernel
theorem dX52_nextFor_122 : decode cX52_nextFor 122 = .ok (.ifCond .eq 38, 3) := by decide +kernel
theorem dX52_nextFor_125 : decode cX52_nextFor 125 = .ok (.aload_n 0, 1) := by decide +kernel
theorem dX52_nextFor_126 : decode cX52_nextFor 126 = .ok (.getfield 36, 3) := by decide +kernel
theorem dX52_nextFor_129 : decode cX52_nextFor 129 = .ok (.iload 6, 2) := by decide +kernel
theorem dX52_nextFor_131 : decode cX52_nextFor 131 = .ok (.baload, 1) := by decide +kernel
theorem dX52_nextFor_132 : decode cX52_nextFor 132 = .ok (.ifCond .eq 24, 3) := by decide +kernel
theorem dX52_nextFor_135 : decode cX52_nextFor 135 = .ok (.aload_n 0, 1) := by decide +kernel
theorem dX52_nextFor_136 : decode cX52_nextFor 136 = .ok (.iload 6, 2) := by decide +kernel
theorem dX52_nextFor_138 : decode cX52_nextFor 138 = .ok (.iload 4, 2) := by decide +kernel
theorem dX52_nextFor_140 : decode cX52_nextFor 140 = .ok (.invokevirtual 131, 3) := by decide +kernel
theorem dX52_nextFor_143 : decode cX52_nextFor 143 = .ok (.ifCond .eq 13, 3) := by decide +kernel
theorem dX52_nextFor_146 : decode cX52_nextFor 146 = .ok (.aload_n 0, 1) := by decide +kernel
theorem dX52_nextFor_147 : decode cX52_nextFor 147 = .ok (.iload 6, 2) := by decide +kernel
theorem dX52_nextFor_149 : decode cX52_nextFor 149 = .ok (.iload_n 1, 1) := by decide +kernel
theorem dX52_nextFor_150 : decode cX52_nextFor 150 = .ok (.invokevirtual 77, 3) := by decide +kernel
theorem dX52_nextFor_153 : decode cX52_nextFor 153 = .ok (.ifCond .eq 7, 3) := by decide +kernel
theorem dX52_nextFor_156 : decode cX52_nextFor 156 = .ok (.iconst 1, 1) := by decide +kernel
theorem dX52_nextFor_157 : decode cX52_nextFor 157 = .ok (.goto 4, 3) := by decide +kernel
theorem dX52_nextFor_160 : decode cX52_nextFor 160 = .ok (.iconst 0, 1) := by decide +kernel
theorem dX52_nextFor_161 : decode cX52_nextFor 161 = .ok (.istore 5, 2) := by decide +kernel
theorem dX52_nextFor_163 : decode cX52_nextFor 163 = .ok (.iinc 6 1, 3) := by decide +kernel
theorem dX52_nextFor_166 : decode cX52_nextFor 166 = .ok (.goto (-121), 3) := by decide +kernel
theorem dX52_nextFor_169 : decode cX52_nextFor 169 = .ok (.iload 5, 2) := by decide +kernel
theorem dX52_nextFor_171 : decode cX52_nextFor 171 = .ok (.ifCond .eq 8, 3) := by decide +kernel
theorem dX52_nextFor_174 : decode cX52_nextFor 174 = .ok (.iload 4, 2) := by decide +kernel
theorem dX52_nextFor_176 : decode cX52_nextFor 176 = .ok (.goto 4, 3) := by decide +kernel
theorem dX52_nextFor_179 : decode cX52_nextFor 179 = .ok (.iload_n 3, 1) := by decide +kernel
theorem dX52_nextFor_180 : decode cX52_nextFor 180 = .ok (.istore_n 3, 1) := by decide +kernel
theorem dX52_nextFor_181 : decode cX52_nextFor 181 = .ok (.iinc 4 (-1), 3) := by decide +kernel
theorem dX52_nextFor_184 : decode cX52_nextFor 184 = .ok (.goto (-174), 3) := by decide +kernel
theorem dX52_nextFor_187 : decode cX52_nextFor 187 = .ok (.iload_n 3, 1) := by decide +kernel
theorem dX52_nextFor_188 : decode cX52_nextFor 188 = .ok (.ireturn, 1) := by decide +kernel
abbrev cX52_isDirect : ByteArray := prog_81_method_27_code
def yX52_isDirect : MethodName := ⟨RX52, "isDirect", "(II)Z"⟩
theorem dX52_isDirect_0 : decode cX52_isDirect 0 = .ok (.aload_n 0, 1) := by decide +kernel
theorem dX52_isDirect_1 : decode cX52_isDirect 1 = .ok (.getfield 36, 3) := by decide +kernel
theorem dX52_isDirect_4 : decode cX52_isDirect 4 = .ok (.iload_n 2, 1) := by decide +kernel
theorem dX52_isDirect_5 : decode cX52_isDirect 5 = .ok (.baload, 1) := by decide +kernel
theorem dX52_isDirect_6 : decode cX52_isDirect 6 = .ok (.ifCond .eq 16, 3) := by decide +kernel
theorem dX52_isDirect_9 : decode cX52_isDirect 9 = .ok (.aload_n 0, 1) := by decide +kernel
theorem dX52_isDirect_10 : decode cX52_isDirect 10 = .ok (.iload_n 1, 1) := by decide +kernel
theorem dX52_isDirect_11 : decode cX52_isDirect 11 = .ok (.iload_n 2, 1) := by decide +kernel
theorem dX52_isDirect_12 : decode cX52_isDirect 12 = .ok (.invokevirtual 128, 3) := by decide +kernel
theorem dX52_isDirect_15 : decode cX52_isDirect 15 = .ok (.ifCond .eq 7, 3) := by decide +kernel
theorem dX52_isDirect_18 : decode cX52_isDirect 18 = .ok (.iconst 1, 1) := by decide +kernel
theorem dX52_isDirect_19 : decode cX52_isDirect 19 = .ok (.goto 4, 3) := by decide +kernel
theorem dX52_isDirect_22 : decode cX52_isDirect 22 = .ok (.iconst 0, 1) := by decide +kernel
theorem dX52_isDirect_23 : decode cX52_isDirect 23 = .ok (.istore_n 3, 1) := by decide +kernel
theorem dX52_isDirect_24 : decode cX52_isDirect 24 = .ok (.iconst 0, 1) := by decide +kernel
theorem dX52_isDirect_25 : decode cX52_isDirect 25 = .ok (.istore 4, 2) := by decide +kernel
theorem dX52_isDirect_27 : decode cX52_isDirect 27 = .ok (.iload 4, 2) := by decide +kernel
theorem dX52_isDirect_29 : decode cX52_isDirect 29 = .ok (.aload_n 0, 1) := by decide +kernel
theorem dX52_isDirect_30 : decode cX52_isDirect 30 = .ok (.getfield 60, 3) := by decide +kernel
theorem dX52_isDirect_33 : decode cX52_isDirect 33 = .ok (.if_icmp .ge 49, 3) := by decide +kernel
theorem dX52_isDirect_36 : decode cX52_isDirect 36 = .ok (.iload_n 3, 1) := by decide +kernel
theorem dX52_isDirect_37 : decode cX52_isDirect 37 = .ok (.ifCond .eq 37, 3) := by decide +kernel
theorem dX52_isDirect_40 : decode cX52_isDirect 40 = .ok (.aload_n 0, 1) := by decide +kernel
theorem dX52_isDirect_41 : decode cX52_isDirect 41 = .ok (.getfield 36, 3) := by decide +kernel
theorem dX52_isDirect_44 : decode cX52_isDirect 44 = .ok (.iload 4, 2) := by decide +kernel
theorem dX52_isDirect_46 : decode cX52_isDirect 46 = .ok (.baload, 1) := by decide +kernel
theorem dX52_isDirect_47 : decode cX52_isDirect 47 = .ok (.ifCond .eq 23, 3) := by decide +kernel
theorem dX52_isDirect_50 : decode cX52_isDirect 50 = .ok (.aload_n 0, 1) := by decide +kernel
theorem dX52_isDirect_51 : decode cX52_isDirect 51 = .ok (.iload_n 1, 1) := by decide +kernel
theorem dX52_isDirect_52 : decode cX52_isDirect 52 = .ok (.iload 4, 2) := by decide +kernel
theorem dX52_isDirect_54 : decode cX52_isDirect 54 = .ok (.invokevirtual 128, 3) := by decide +kernel
theorem dX52_isDirect_57 : decode cX52_isDirect 57 = .ok (.ifCond .eq 13, 3) := by decide +kernel
theorem dX52_isDirect_60 : decode cX52_isDirect 60 = .ok (.aload_n 0, 1) := by decide +kernel
theorem dX52_isDirect_61 : decode cX52_isDirect 61 = .ok (.iload 4, 2) := by decide +kernel
theorem dX52_isDirect_63 : decode cX52_isDirect 63 = .ok (.iload_n 2, 1) := by decide +kernel
theorem dX52_isDirect_64 : decode cX52_isDirect 64 = .ok (.invokevirtual 128, 3) := by decide +kernel
theorem dX52_isDirect_67 : decode cX52_isDirect 67 = .ok (.ifCond .ne 7, 3) := by decide +kernel
theorem dX52_isDirect_70 : decode cX52_isDirect 70 = .ok (.iconst 1, 1) := by decide +kernel
theorem dX52_isDirect_71 : decode cX52_isDirect 71 = .ok (.goto 4, 3) := by decide +kernel
theorem dX52_isDirect_74 : decode cX52_isDirect 74 = .ok (.iconst 0, 1) := by decide +kernel
theorem dX52_isDirect_75 : decode cX52_isDirect 75 = .ok (.istore_n 3, 1) := by decide +kernel
theorem dX52_isDirect_76 : decode cX52_isDirect 76 = .ok (.iinc 4 1, 3) := by decide +kernel
theorem dX52_isDirect_79 : decode cX52_isDirect 79 = .ok (.goto (-52), 3) := by decide +kernel
theorem dX52_isDirect_82 : decode cX52_isDirect 82 = .ok (.iload_n 3, 1) := by decide +kernel
theorem dX52_isDirect_83 : decode cX52_isDirect 83 = .ok (.ireturn, 1) := by decide +kernel
abbrev cX52_isUnder : ByteArray := prog_81_method_26_code
def yX52_isUnder : MethodName := ⟨RX52, "isUnder", "(II)Z"⟩
theorem dX52_isUnder_0 : decode cX52_isUnder 0 = .ok (.aload_n 0, 1) := by decide +kernel
theorem dX52_isUnder_1 : decode cX52_isUnder 1 = .ok (.iload_n 1, 1) := by decide +kernel
theorem dX52_isUnder_2 : decode cX52_isUnder 2 = .ok (.iload_n 2, 1) := by decide +kernel
theorem dX52_isUnder_3 : decode cX52_isUnder 3 = .ok (.invokevirtual 77, 3) := by decide +kernel
theorem dX52_isUnder_6 : decode cX52_isUnder 6 = .ok (.ifCond .eq 16, 3) := by decide +kernel
theorem dX52_isUnder_9 : decode cX52_isUnder 9 = .ok (.aload_n 0, 1) := by decide +kernel
theorem dX52_isUnder_10 : decode cX52_isUnder 10 = .ok (.iload_n 2, 1) := by decide +kernel
theorem dX52_isUnder_11 : decode cX52_isUnder 11 = .ok (.iload_n 1, 1) := by decide +kernel
theorem dX52_isUnder_12 : decode cX52_isUnder 12 = .ok (.invokevirtual 77, 3) := by decide +kernel
theorem dX52_isUnder_15 : decode cX52_isUnder 15 = .ok (.ifCond .ne 7, 3) := by decide +kernel
theorem dX52_isUnder_18 : decode cX52_isUnder 18 = .ok (.iconst 1, 1) := by decide +kernel
theorem dX52_isUnder_19 : decode cX52_isUnder 19 = .ok (.goto 4, 3) := by decide +kernel
theorem dX52_isUnder_22 : decode cX52_isUnder 22 = .ok (.iconst 0, 1) := by decide +kernel
theorem dX52_isUnder_23 : decode cX52_isUnder 23 = .ok (.ireturn, 1) := by decide +kernel
abbrev cX52_count : ByteArray := prog_81_method_42_code
def yX52_count : MethodName := ⟨RX52, "count", "(I)I"⟩
theorem dX52_count_0 : decode cX52_count 0 = .ok (.iconst 0, 1) := by decide +kernel
theorem dX52_count_1 : decode cX52_count 1 = .ok (.istore_n 2, 1) := by decide +kernel
theorem dX52_count_2 : decode cX52_count 2 = .ok (.iload_n 1, 1) := by decide +kernel
theorem dX52_count_3 : decode cX52_count 3 = .ok (.tableswitch 151 0 6 #[41, 46, 81, 86, 91, 96, 109], 41) := by decide +kernel
theorem dX52_count_44 : decode cX52_count 44 = .ok (.aload_n 0, 1) := by decide +kernel
theorem dX52_count_45 : decode cX52_count 45 = .ok (.getfield 60, 3) := by decide +kernel
theorem dX52_count_48 : decode cX52_count 48 = .ok (.ireturn, 1) := by decide +kernel
theorem dX52_count_49 : decode cX52_count 49 = .ok (.iconst 0, 1) := by decide +kernel
theorem dX52_count_50 : decode cX52_count 50 = .ok (.istore_n 3, 1) := by decide +kernel
theorem dX52_count_51 : decode cX52_count 51 = .ok (.iload_n 3, 1) := by decide +kernel
theorem dX52_count_52 : decode cX52_count 52 = .ok (.aload_n 0, 1) := by decide +kernel
theorem dX52_count_53 : decode cX52_count 53 = .ok (.getfield 67, 3) := by decide +kernel
theorem dX52_count_56 : decode cX52_count 56 = .ok (.if_icmp .ge 26, 3) := by decide +kernel
theorem dX52_count_59 : decode cX52_count 59 = .ok (.iload_n 2, 1) := by decide +kernel
theorem dX52_count_60 : decode cX52_count 60 = .ok (.aload_n 0, 1) := by decide +kernel
theorem dX52_count_61 : decode cX52_count 61 = .ok (.getfield 23, 3) := by decide +kernel
theorem dX52_count_64 : decode cX52_count 64 = .ok (.iload_n 3, 1) := by decide +kernel
theorem dX52_count_65 : decode cX52_count 65 = .ok (.baload, 1) := by decide +kernel
theorem dX52_count_66 : decode cX52_count 66 = .ok (.ifCond .eq 7, 3) := by decide +kernel
theorem dX52_count_69 : decode cX52_count 69 = .ok (.iconst 1, 1) := by decide +kernel
theorem dX52_count_70 : decode cX52_count 70 = .ok (.goto 4, 3) := by decide +kernel
theorem dX52_count_73 : decode cX52_count 73 = .ok (.iconst 0, 1) := by decide +kernel
theorem dX52_count_74 : decode cX52_count 74 = .ok (.iadd, 1) := by decide +kernel
theorem dX52_count_75 : decode cX52_count 75 = .ok (.istore_n 2, 1) := by decide +kernel
theorem dX52_count_76 : decode cX52_count 76 = .ok (.iinc 3 1, 3) := by decide +kernel
theorem dX52_count_79 : decode cX52_count 79 = .ok (.goto (-28), 3) := by decide +kernel
theorem dX52_count_82 : decode cX52_count 82 = .ok (.iload_n 2, 1) := by decide +kernel
theorem dX52_count_83 : decode cX52_count 83 = .ok (.ireturn, 1) := by decide +kernel
theorem dX52_count_84 : decode cX52_count 84 = .ok (.aload_n 0, 1) := by decide +kernel
theorem dX52_count_85 : decode cX52_count 85 = .ok (.getfield 104, 3) := by decide +kernel
theorem dX52_count_88 : decode cX52_count 88 = .ok (.ireturn, 1) := by decide +kernel
theorem dX52_count_89 : decode cX52_count 89 = .ok (.aload_n 0, 1) := by decide +kernel
theorem dX52_count_90 : decode cX52_count 90 = .ok (.getfield 145, 3) := by decide +kernel
theorem dX52_count_93 : decode cX52_count 93 = .ok (.ireturn, 1) := by decide +kernel
theorem dX52_count_94 : decode cX52_count 94 = .ok (.aload_n 0, 1) := by decide +kernel
theorem dX52_count_95 : decode cX52_count 95 = .ok (.invokevirtual 114, 3) := by decide +kernel
theorem dX52_count_98 : decode cX52_count 98 = .ok (.ireturn, 1) := by decide +kernel
theorem dX52_count_99 : decode cX52_count 99 = .ok (.aload_n 0, 1) := by decide +kernel
theorem dX52_count_100 : decode cX52_count 100 = .ok (.getfield 97, 3) := by decide +kernel
theorem dX52_count_103 : decode cX52_count 103 = .ok (.ifCond .eq 7, 3) := by decide +kernel
theorem dX52_count_106 : decode cX52_count 106 = .ok (.iconst 1, 1) := by decide +kernel
theorem dX52_count_107 : decode cX52_count 107 = .ok (.goto 4, 3) := by decide +kernel
theorem dX52_count_110 : decode cX52_count 110 = .ok (.iconst 0, 1) := by decide +kernel
theorem dX52_count_111 : decode cX52_count 111 = .ok (.ireturn, 1) := by decide +kernel
theorem dX52_count_112 : decode cX52_count 112 = .ok (.iconst 0, 1) := by decide +kernel
theorem dX52_count_113 : decode cX52_count 113 = .ok (.istore_n 3, 1) := by decide +kernel
theorem dX52_count_114 : decode cX52_count 114 = .ok (.iload_n 3, 1) := by decide +kernel
theorem dX52_count_115 : decode cX52_count 115 = .ok (.aload_n 0, 1) := by decide +kernel
theorem dX52_count_116 : decode cX52_count 116 = .ok (.getfield 60, 3) := by decide +kernel
theorem dX52_count_119 : decode cX52_count 119 = .ok (.if_icmp .ge 33, 3) := by decide +kernel
theorem dX52_count_122 : decode cX52_count 122 = .ok (.iload_n 2, 1) := by decide +kernel
theorem dX52_count_123 : decode cX52_count 123 = .ok (.aload_n 0, 1) := by decide +kernel
theorem dX52_count_124 : decode cX52_count 124 = .ok (.getfield 97, 3) := by decide +kernel
theorem dX52_count_127 : decode cX52_count 127 = .ok (.ifCond .eq 16, 3) := by decide +kernel
theorem dX52_count_130 : decode cX52_count 130 = .ok (.aload_n 0, 1) := by decide +kernel
theorem dX52_count_131 : decode cX52_count 131 = .ok (.getfield 36, 3) := by decide +kernel
theorem dX52_count_134 : decode cX52_count 134 = .ok (.iload_n 3, 1) := by decide +kernel
theorem dX52_count_135 : decode cX52_count 135 = .ok (.baload, 1) := by decide +kernel
theorem dX52_count_136 : decode cX52_count 136 = .ok (.ifCond .eq 7, 3) := by decide +kernel
theorem dX52_count_139 : decode cX52_count 139 = .ok (.iconst 1, 1) := by decide +kernel
theorem dX52_count_140 : decode cX52_count 140 = .ok (.goto 4, 3) := by decide +kernel
theorem dX52_count_143 : decode cX52_count 143 = .ok (.iconst 0, 1) := by decide +kernel
theorem dX52_count_144 : decode cX52_count 144 = .ok (.iadd, 1) := by decide +kernel
theorem dX52_count_145 : decode cX52_count 145 = .ok (.istore_n 2, 1) := by decide +kernel
theorem dX52_count_146 : decode cX52_count 146 = .ok (.iinc 3 1, 3) := by decide +kernel
theorem dX52_count_149 : decode cX52_count 149 = .ok (.goto (-35), 3) := by decide +kernel
theorem dX52_count_152 : decode cX52_count 152 = .ok (.iload_n 2, 1) := by decide +kernel
theorem dX52_count_153 : decode cX52_count 153 = .ok (.ireturn, 1) := by decide +kernel
theorem dX52_count_154 : decode cX52_count 154 = .ok (.bipush (-2), 2) := by decide +kernel
theorem dX52_count_156 : decode cX52_count 156 = .ok (.ireturn, 1) := by decide +kernel
abbrev cX52_openPairs : ByteArray := prog_81_method_21_code
def yX52_openPairs : MethodName := ⟨RX52, "openPairs", "()I"⟩
theorem dX52_openPairs_0 : decode cX52_openPairs 0 = .ok (.iconst 0, 1) := by decide +kernel
theorem dX52_openPairs_1 : decode cX52_openPairs 1 = .ok (.istore_n 1, 1) := by decide +kernel
theorem dX52_openPairs_2 : decode cX52_openPairs 2 = .ok (.iconst 0, 1) := by decide +kernel
theorem dX52_openPairs_3 : decode cX52_openPairs 3 = .ok (.istore_n 2, 1) := by decide +kernel
theorem dX52_openPairs_4 : decode cX52_openPairs 4 = .ok (.iload_n 2, 1) := by decide +kernel
theorem dX52_openPairs_5 : decode cX52_openPairs 5 = .ok (.sipush 420, 3) := by decide +kernel
theorem dX52_openPairs_8 : decode cX52_openPairs 8 = .ok (.if_icmp .ge 27, 3) := by decide +kernel
theorem dX52_openPairs_11 : decode cX52_openPairs 11 = .ok (.iload_n 1, 1) := by decide +kernel
theorem dX52_openPairs_12 : decode cX52_openPairs 12 = .ok (.aload_n 0, 1) := by decide +kernel
theorem dX52_openPairs_13 : decode cX52_openPairs 13 = .ok (.getfield 30, 3) := by decide +kernel
theorem dX52_openPairs_16 : decode cX52_openPairs 16 = .ok (.iload_n 2, 1) := by decide +kernel
theorem dX52_openPairs_17 : decode cX52_openPairs 17 = .ok (.iaload, 1) := by decide +kernel
theorem dX52_openPairs_18 : decode cX52_openPairs 18 = .ok (.iconst 2, 1) := by decide +kernel
theorem dX52_openPairs_19 : decode cX52_openPairs 19 = .ok (.if_icmp .ne 7, 3) := by decide +kernel
theorem dX52_openPairs_22 : decode cX52_openPairs 22 = .ok (.iconst 1, 1) := by decide +kernel
theorem dX52_openPairs_23 : decode cX52_openPairs 23 = .ok (.goto 4, 3) := by decide +kernel
theorem dX52_openPairs_26 : decode cX52_openPairs 26 = .ok (.iconst 0, 1) := by decide +kernel
theorem dX52_openPairs_27 : decode cX52_openPairs 27 = .ok (.iadd, 1) := by decide +kernel
theorem dX52_openPairs_28 : decode cX52_openPairs 28 = .ok (.istore_n 1, 1) := by decide +kernel
theorem dX52_openPairs_29 : decode cX52_openPairs 29 = .ok (.iinc 2 1, 3) := by decide +kernel
theorem dX52_openPairs_32 : decode cX52_openPairs 32 = .ok (.goto (-28), 3) := by decide +kernel
theorem dX52_openPairs_35 : decode cX52_openPairs 35 = .ok (.iload_n 1, 1) := by decide +kernel
theorem dX52_openPairs_36 : decode cX52_openPairs 36 = .ok (.ireturn, 1) := by decide +kernel
abbrev cX52_parent : ByteArray := prog_81_method_33_code
def yX52_parent : MethodName := ⟨RX52, "parent", "(II)I"⟩
theorem dX52_parent_0 : decode cX52_parent 0 = .ok (.aload_n 0, 1) := by decide +kernel
theorem dX52_parent_1 : decode cX52_parent 1 = .ok (.iload_n 1, 1) := by decide +kernel
theorem dX52_parent_2 : decode cX52_parent 2 = .ok (.invokevirtual 63, 3) := by decide +kernel
theorem dX52_parent_5 : decode cX52_parent 5 = .ok (.ifCond .ne 5, 3) := by decide +kernel
theorem dX52_parent_8 : decode cX52_parent 8 = .ok (.iconst (-1), 1) := by decide +kernel
theorem dX52_parent_9 : decode cX52_parent 9 = .ok (.ireturn, 1) := by decide +kernel
theorem dX52_parent_10 : decode cX52_parent 10 = .ok (.aload_n 0, 1) := by decide +kernel
theorem dX52_parent_11 : decode cX52_parent 11 = .ok (.getfield 97, 3) := by decide +kernel
theorem dX52_parent_14 : decode cX52_parent 14 = .ok (.ifCond .ne 6, 3) := by decide +kernel
theorem dX52_parent_17 : decode cX52_parent 17 = .ok (.bipush (-3), 2) := by decide +kernel
theorem dX52_parent_19 : decode cX52_parent 19 = .ok (.ireturn, 1) := by decide +kernel
theorem dX52_parent_20 : decode cX52_parent 20 = .ok (.iload_n 2, 1) := by decide +kernel
theorem dX52_parent_21 : decode cX52_parent 21 = .ok (.istore_n 3, 1) := by decide +kernel
theorem dX52_parent_22 : decode cX52_parent 22 = .ok (.iconst 0, 1) := by decide +kernel
theorem dX52_parent_23 : decode cX52_parent 23 = .ok (.istore 4, 2) := by decide +kernel
theorem dX52_parent_25 : decode cX52_parent 25 = .ok (.iload 4, 2) := by decide +kernel
theorem dX52_parent_27 : decode cX52_parent 27 = .ok (.aload_n 0, 1) := by decide +kernel
theorem dX52_parent_28 : decode cX52_parent 28 = .ok (.getfield 60, 3) := by decide +kernel
theorem dX52_parent_31 : decode cX52_parent 31 = .ok (.if_icmp .ge 95, 3) := by decide +kernel
theorem dX52_parent_34 : decode cX52_parent 34 = .ok (.iload_n 2, 1) := by decide +kernel
theorem dX52_parent_35 : decode cX52_parent 35 = .ok (.ifCond .lt 91, 3) := by decide +kernel
theorem dX52_parent_38 : decode cX52_parent 38 = .ok (.aload_n 0, 1) := by decide +kernel
theorem dX52_parent_39 : decode cX52_parent 39 = .ok (.getfield 36, 3) := by decide +kernel
theorem dX52_parent_42 : decode cX52_parent 42 = .ok (.iload 4, 2) := by decide +kernel
theorem dX52_parent_44 : decode cX52_parent 44 = .ok (.baload, 1) := by decide +kernel
theorem dX52_parent_45 : decode cX52_parent 45 = .ok (.ifCond .eq 47, 3) := by decide +kernel
theorem dX52_parent_48 : decode cX52_parent 48 = .ok (.aload_n 0, 1) := by decide +kernel
theorem dX52_parent_49 : decode cX52_parent 49 = .ok (.iload 4, 2) := by decide +kernel
theorem dX52_parent_51 : decode cX52_parent 51 = .ok (.invokevirtual 148, 3) := by decide +kernel
theorem dX52_parent_54 : decode cX52_parent 54 = .ok (.ifCond .ne 38, 3) := by decide +kernel
theorem dX52_parent_57 : decode cX52_parent 57 = .ok (.aload_n 0, 1) := by decide +kernel
theorem dX52_parent_58 : decode cX52_parent 58 = .ok (.getfield 36, 3) := by decide +kernel
theorem dX52_parent_61 : decode cX52_parent 61 = .ok (.iload_n 1, 1) := by decide +kernel
theorem dX52_parent_62 : decode cX52_parent 62 = .ok (.baload, 1) := by decide +kernel
theorem dX52_parent_63 : decode cX52_parent 63 = .ok (.ifCond .eq 16, 3) := by decide +kernel
theorem dX52_parent_66 : decode cX52_parent 66 = .ok (.aload_n 0, 1) := by decide +kernel
theorem dX52_parent_67 : decode cX52_parent 67 = .ok (.iload_n 1, 1) := by decide +kernel
theorem dX52_parent_68 : decode cX52_parent 68 = .ok (.iload 4, 2) := by decide +kernel
theorem dX52_parent_70 : decode cX52_parent 70 = .ok (.invokevirtual 131, 3) := by decide +kernel
theorem dX52_parent_73 : decode cX52_parent 73 = .ok (.ifCond .eq 19, 3) := by decide +kernel
theorem dX52_parent_76 : decode cX52_parent 76 = .ok (.goto 12, 3) := by decide +kernel
theorem dX52_parent_79 : decode cX52_parent 79 = .ok (.aload_n 0, 1) := by decide +kernel
theorem dX52_parent_80 : decode cX52_parent 80 = .ok (.iload 4, 2) := by decide +kernel
theorem dX52_parent_82 : decode cX52_parent 82 = .ok (.invokevirtual 151, 3) := by decide +kernel
theorem dX52_parent_85 : decode cX52_parent 85 = .ok (.ifCond .ne 7, 3) := by decide +kernel
theorem dX52_parent_88 : decode cX52_parent 88 = .ok (.iconst 1, 1) := by decide +kernel
theorem dX52_parent_89 : decode cX52_parent 89 = .ok (.goto 4, 3) := by decide +kernel
theorem dX52_parent_92 : decode cX52_parent 92 = .ok (.iconst 0, 1) := by decide +kernel
theorem dX52_parent_93 : decode cX52_parent 93 = .ok (.istore 5, 2) := by decide +kernel
theorem dX52_parent_95 : decode cX52_parent 95 = .ok (.iload 5, 2) := by decide +kernel
theorem dX52_parent_97 : decode cX52_parent 97 = .ok (.ifCond .eq 10, 3) := by decide +kernel
theorem dX52_parent_100 : decode cX52_parent 100 = .ok (.iload_n 3, 1) := by decide +kernel
theorem dX52_parent_101 : decode cX52_parent 101 = .ok (.ifCond .ne 6, 3) := by decide +kernel
theorem dX52_parent_104 : decode cX52_parent 104 = .ok (.iload 4, 2) := by decide +kernel
theorem dX52_parent_106 : decode cX52_parent 106 = .ok (.ireturn, 1) := by decide +kernel
theorem dX52_parent_107 : decode cX52_parent 107 = .ok (.iload_n 3, 1) := by decide +kernel
theorem dX52_parent_108 : decode cX52_parent 108 = .ok (.iload 5, 2) := by decide +kernel
theorem dX52_parent_110 : decode cX52_parent 110 = .ok (.ifCond .eq 7, 3) := by decide +kernel
theorem dX52_parent_113 : decode cX52_parent 113 = .ok (.iconst 1, 1) := by decide +kernel
theorem dX52_parent_114 : decode cX52_parent 114 = .ok (.goto 4, 3) := by decide +kernel
theorem dX52_parent_117 : decode cX52_parent 117 = .ok (.iconst 0, 1) := by decide +kernel
theorem dX52_parent_118 : decode cX52_parent 118 = .ok (.isub, 1) := by decide +kernel
theorem dX52_parent_119 : decode cX52_parent 119 = .ok (.istore_n 3, 1) := by decide +kernel
theorem dX52_parent_120 : decode cX52_parent 120 = .ok (.iinc 4 1, 3) := by decide +kernel
theorem dX52_parent_123 : decode cX52_parent 123 = .ok (.goto (-98), 3) := by decide +kernel
theorem dX52_parent_126 : decode cX52_parent 126 = .ok (.bipush (-6), 2) := by decide +kernel
theorem dX52_parent_128 : decode cX52_parent 128 = .ok (.ireturn, 1) := by decide +kernel
abbrev cX52_isSecond : ByteArray := prog_81_method_31_code
def yX52_isSecond : MethodName := ⟨RX52, "isSecond", "(I)Z"⟩
theorem dX52_isSecond_0 : decode cX52_isSecond 0 = .ok (.iconst 0, 1) := by decide +kernel
theorem dX52_isSecond_1 : decode cX52_isSecond 1 = .ok (.istore_n 2, 1) := by decide +kernel
theorem dX52_isSecond_2 : decode cX52_isSecond 2 = .ok (.iconst 0, 1) := by decide +kernel
theorem dX52_isSecond_3 : decode cX52_isSecond 3 = .ok (.istore_n 3, 1) := by decide +kernel
theorem dX52_isSecond_4 : decode cX52_isSecond 4 = .ok (.iload_n 3, 1) := by decide +kernel
theorem dX52_isSecond_5 : decode cX52_isSecond 5 = .ok (.iload_n 1, 1) := by decide +kernel
theorem dX52_isSecond_6 : decode cX52_isSecond 6 = .ok (.if_icmp .ge 46, 3) := by decide +kernel
theorem dX52_isSecond_9 : decode cX52_isSecond 9 = .ok (.iload_n 2, 1) := by decide +kernel
theorem dX52_isSecond_10 : decode cX52_isSecond 10 = .ok (.ifCond .ne 30, 3) := by decide +kernel
theorem dX52_isSecond_13 : decode cX52_isSecond 13 = .ok (.aload_n 0, 1) := by decide +kernel
theorem dX52_isSecond_14 : decode cX52_isSecond 14 = .ok (.getfield 36, 3) := by decide +kernel
theorem dX52_isSecond_17 : decode cX52_isSecond 17 = .ok (.iload_n 3, 1) := by decide +kernel
theorem dX52_isSecond_18 : decode cX52_isSecond 18 = .ok (.baload, 1) := by decide +kernel
theorem dX52_isSecond_19 : decode cX52_isSecond 19 = .ok (.ifCond .eq 25, 3) := by decide +kernel
theorem dX52_isSecond_22 : decode cX52_isSecond 22 = .ok (.aload_n 0, 1) := by decide +kernel
theorem dX52_isSecond_23 : decode cX52_isSecond 23 = .ok (.iload_n 3, 1) := by decide +kernel
theorem dX52_isSecond_24 : decode cX52_isSecond 24 = .ok (.iload_n 1, 1) := by decide +kernel
theorem dX52_isSecond_25 : decode cX52_isSecond 25 = .ok (.invokevirtual 77, 3) := by decide +kernel
theorem dX52_isSecond_28 : decode cX52_isSecond 28 = .ok (.ifCond .eq 16, 3) := by decide +kernel
theorem dX52_isSecond_31 : decode cX52_isSecond 31 = .ok (.aload_n 0, 1) := by decide +kernel
theorem dX52_isSecond_32 : decode cX52_isSecond 32 = .ok (.iload_n 1, 1) := by decide +kernel
theorem dX52_isSecond_33 : decode cX52_isSecond 33 = .ok (.iload_n 3, 1) := by decide +kernel
theorem dX52_isSecond_34 : decode cX52_isSecond 34 = .ok (.invokevirtual 77, 3) := by decide +kernel
theorem dX52_isSecond_37 : decode cX52_isSecond 37 = .ok (.ifCond .eq 7, 3) := by decide +kernel
theorem dX52_isSecond_40 : decode cX52_isSecond 40 = .ok (.iconst 1, 1) := by decide +kernel
theorem dX52_isSecond_41 : decode cX52_isSecond 41 = .ok (.goto 4, 3) := by decide +kernel
theorem dX52_isSecond_44 : decode cX52_isSecond 44 = .ok (.iconst 0, 1) := by decide +kernel
theorem dX52_isSecond_45 : decode cX52_isSecond 45 = .ok (.istore_n 2, 1) := by decide +kernel
theorem dX52_isSecond_46 : decode cX52_isSecond 46 = .ok (.iinc 3 1, 3) := by decide +kernel
theorem dX52_isSecond_49 : decode cX52_isSecond 49 = .ok (.goto (-45), 3) := by decide +kernel
theorem dX52_isSecond_52 : decode cX52_isSecond 52 = .ok (.iload_n 2, 1) := by decide +kernel
theorem dX52_isSecond_53 : decode cX52_isSecond 53 = .ok (.ireturn, 1) := by decide +kernel
abbrev cX52_hasBelow : ByteArray := prog_81_method_32_code
def yX52_hasBelow : MethodName := ⟨RX52, "hasBelow", "(I)Z"⟩
theorem dX52_hasBelow_0 : decode cX52_hasBelow 0 = .ok (.iconst 0, 1) := by decide +kernel
theorem dX52_hasBelow_1 : decode cX52_hasBelow 1 = .ok (.istore_n 2, 1) := by decide +kernel
theorem dX52_hasBelow_2 : decode cX52_hasBelow 2 = .ok (.iconst 0, 1) := by decide +kernel
theorem dX52_hasBelow_3 : decode cX52_hasBelow 3 = .ok (.istore_n 3, 1) := by decide +kernel
theorem dX52_hasBelow_4 : decode cX52_hasBelow 4 = .ok (.iload_n 3, 1) := by decide +kernel
theorem dX52_hasBelow_5 : decode cX52_hasBelow 5 = .ok (.aload_n 0, 1) := by decide +kernel
theorem dX52_hasBelow_6 : decode cX52_hasBelow 6 = .ok (.getfield 60, 3) := by decide +kernel
theorem dX52_hasBelow_9 : decode cX52_hasBelow 9 = .ok (.if_icmp .ge 37, 3) := by decide +kernel
theorem dX52_hasBelow_12 : decode cX52_hasBelow 12 = .ok (.iload_n 2, 1) := by decide +kernel
theorem dX52_hasBelow_13 : decode cX52_hasBelow 13 = .ok (.ifCond .ne 21, 3) := by decide +kernel
theorem dX52_hasBelow_16 : decode cX52_hasBelow 16 = .ok (.aload_n 0, 1) := by decide +kernel
theorem dX52_hasBelow_17 : decode cX52_hasBelow 17 = .ok (.getfield 36, 3) := by decide +kernel
theorem dX52_hasBelow_20 : decode cX52_hasBelow 20 = .ok (.iload_n 3, 1) := by decide +kernel
theorem dX52_hasBelow_21 : decode cX52_hasBelow 21 = .ok (.baload, 1) := by decide +kernel
theorem dX52_hasBelow_22 : decode cX52_hasBelow 22 = .ok (.ifCond .eq 16, 3) := by decide +kernel
theorem dX52_hasBelow_25 : decode cX52_hasBelow 25 = .ok (.aload_n 0, 1) := by decide +kernel
theorem dX52_hasBelow_26 : decode cX52_hasBelow 26 = .ok (.iload_n 3, 1) := by decide +kernel
theorem dX52_hasBelow_27 : decode cX52_hasBelow 27 = .ok (.iload_n 1, 1) := by decide +kernel
theorem dX52_hasBelow_28 : decode cX52_hasBelow 28 = .ok (.invokevirtual 131, 3) := by decide +kernel
theorem dX52_hasBelow_31 : decode cX52_hasBelow 31 = .ok (.ifCond .eq 7, 3) := by decide +kernel
theorem dX52_hasBelow_34 : decode cX52_hasBelow 34 = .ok (.iconst 1, 1) := by decide +kernel
theorem dX52_hasBelow_35 : decode cX52_hasBelow 35 = .ok (.goto 4, 3) := by decide +kernel
theorem dX52_hasBelow_38 : decode cX52_hasBelow 38 = .ok (.iconst 0, 1) := by decide +kernel
theorem dX52_hasBelow_39 : decode cX52_hasBelow 39 = .ok (.istore_n 2, 1) := by decide +kernel
theorem dX52_hasBelow_40 : decode cX52_hasBelow 40 = .ok (.iinc 3 1, 3) := by decide +kernel
theorem dX52_hasBelow_43 : decode cX52_hasBelow 43 = .ok (.goto (-39), 3) := by decide +kernel
theorem dX52_hasBelow_46 : decode cX52_hasBelow 46 = .ok (.iload_n 2, 1) := by decide +kernel
theorem dX52_hasBelow_47 : decode cX52_hasBelow 47 = .ok (.ireturn, 1) := by decide +kernel
abbrev cX52_class0 : ByteArray := prog_81_method_15_code
def yX52_class0 : MethodName := ⟨RX52, "class0", "()I"⟩
theorem dX52_class0_0 : decode cX52_class0 0 = .ok (.aload_n 0, 1) := by decide +kernel
theorem dX52_class0_1 : decode cX52_class0 1 = .ok (.getfield 60, 3) := by decide +kernel
theorem dX52_class0_4 : decode cX52_class0 4 = .ok (.bipush 20, 2) := by decide +kernel
theorem dX52_class0_6 : decode cX52_class0 6 = .ok (.if_icmp .ne 6, 3) := by decide +kernel
theorem dX52_class0_9 : decode cX52_class0 9 = .ok (.bipush (-4), 2) := by decide +kernel
theorem dX52_class0_11 : decode cX52_class0 11 = .ok (.ireturn, 1) := by decide +kernel
theorem dX52_class0_12 : decode cX52_class0 12 = .ok (.aload_n 0, 1) := by decide +kernel
theorem dX52_class0_13 : decode cX52_class0 13 = .ok (.dup, 1) := by decide +kernel
theorem dX52_class0_14 : decode cX52_class0 14 = .ok (.getfield 60, 3) := by decide +kernel
theorem dX52_class0_17 : decode cX52_class0 17 = .ok (.iconst 1, 1) := by decide +kernel
theorem dX52_class0_18 : decode cX52_class0 18 = .ok (.iadd, 1) := by decide +kernel
theorem dX52_class0_19 : decode cX52_class0 19 = .ok (.putfield 60, 3) := by decide +kernel
theorem dX52_class0_22 : decode cX52_class0 22 = .ok (.aload_n 0, 1) := by decide +kernel
theorem dX52_class0_23 : decode cX52_class0 23 = .ok (.iconst 0, 1) := by decide +kernel
theorem dX52_class0_24 : decode cX52_class0 24 = .ok (.putfield 97, 3) := by decide +kernel
theorem dX52_class0_27 : decode cX52_class0 27 = .ok (.aload_n 0, 1) := by decide +kernel
theorem dX52_class0_28 : decode cX52_class0 28 = .ok (.invokevirtual 101, 3) := by decide +kernel
theorem dX52_class0_31 : decode cX52_class0 31 = .ok (.aload_n 0, 1) := by decide +kernel
theorem dX52_class0_32 : decode cX52_class0 32 = .ok (.getfield 60, 3) := by decide +kernel
theorem dX52_class0_35 : decode cX52_class0 35 = .ok (.iconst 1, 1) := by decide +kernel
theorem dX52_class0_36 : decode cX52_class0 36 = .ok (.isub, 1) := by decide +kernel
theorem dX52_class0_37 : decode cX52_class0 37 = .ok (.ireturn, 1) := by decide +kernel
abbrev cX52_thing : ByteArray := prog_81_method_16_code
def yX52_thing : MethodName := ⟨RX52, "thing", "()I"⟩
theorem dX52_thing_0 : decode cX52_thing 0 = .ok (.aload_n 0, 1) := by decide +kernel
theorem dX52_thing_1 : decode cX52_thing 1 = .ok (.getfield 104, 3) := by decide +kernel
theorem dX52_thing_4 : decode cX52_thing 4 = .ok (.bipush 8, 2) := by decide +kernel
theorem dX52_thing_6 : decode cX52_thing 6 = .ok (.if_icmp .ne 6, 3) := by decide +kernel
theorem dX52_thing_9 : decode cX52_thing 9 = .ok (.bipush (-4), 2) := by decide +kernel
theorem dX52_thing_11 : decode cX52_thing 11 = .ok (.ireturn, 1) := by decide +kernel
theorem dX52_thing_12 : decode cX52_thing 12 = .ok (.aload_n 0, 1) := by decide +kernel
theorem dX52_thing_13 : decode cX52_thing 13 = .ok (.dup, 1) := by decide +kernel
theorem dX52_thing_14 : decode cX52_thing 14 = .ok (.getfield 104, 3) := by decide +kernel
theorem dX52_thing_17 : decode cX52_thing 17 = .ok (.iconst 1, 1) := by decide +kernel
theorem dX52_thing_18 : decode cX52_thing 18 = .ok (.iadd, 1) := by decide +kernel
theorem dX52_thing_19 : decode cX52_thing 19 = .ok (.putfield 104, 3) := by decide +kernel
theorem dX52_thing_22 : decode cX52_thing 22 = .ok (.aload_n 0, 1) := by decide +kernel
theorem dX52_thing_23 : decode cX52_thing 23 = .ok (.getfield 104, 3) := by decide +kernel
theorem dX52_thing_26 : decode cX52_thing 26 = .ok (.iconst 1, 1) := by decide +kernel
theorem dX52_thing_27 : decode cX52_thing 27 = .ok (.isub, 1) := by decide +kernel
theorem dX52_thing_28 : decode cX52_thing 28 = .ok (.ireturn, 1) := by decide +kernel
abbrev cX52_remove : ByteArray := prog_81_method_20_code
def yX52_remove : MethodName := ⟨RX52, "remove", "(I)I"⟩
theorem dX52_remove_0 : decode cX52_remove 0 = .ok (.iload_n 1, 1) := by decide +kernel
theorem dX52_remove_1 : decode cX52_remove 1 = .ok (.ifCond .lt 20, 3) := by decide +kernel
theorem dX52_remove_4 : decode cX52_remove 4 = .ok (.iload_n 1, 1) := by decide +kernel
theorem dX52_remove_5 : decode cX52_remove 5 = .ok (.aload_n 0, 1) := by decide +kernel
theorem dX52_remove_6 : decode cX52_remove 6 = .ok (.getfield 67, 3) := by decide +kernel
theorem dX52_remove_9 : decode cX52_remove 9 = .ok (.if_icmp .ge 12, 3) := by decide +kernel
theorem dX52_remove_12 : decode cX52_remove 12 = .ok (.aload_n 0, 1) := by decide +kernel
theorem dX52_remove_13 : decode cX52_remove 13 = .ok (.getfield 23, 3) := by decide +kernel
theorem dX52_remove_16 : decode cX52_remove 16 = .ok (.iload_n 1, 1) := by decide +kernel
theorem dX52_remove_17 : decode cX52_remove 17 = .ok (.baload, 1) := by decide +kernel
theorem dX52_remove_18 : decode cX52_remove 18 = .ok (.ifCond .ne 5, 3) := by decide +kernel
theorem dX52_remove_21 : decode cX52_remove 21 = .ok (.iconst (-1), 1) := by decide +kernel
theorem dX52_remove_22 : decode cX52_remove 22 = .ok (.ireturn, 1) := by decide +kernel
theorem dX52_remove_23 : decode cX52_remove 23 = .ok (.iconst 0, 1) := by decide +kernel
theorem dX52_remove_24 : decode cX52_remove 24 = .ok (.istore_n 2, 1) := by decide +kernel
theorem dX52_remove_25 : decode cX52_remove 25 = .ok (.iload_n 2, 1) := by decide +kernel
theorem dX52_remove_26 : decode cX52_remove 26 = .ok (.sipush 420, 3) := by decide +kernel
theorem dX52_remove_29 : decode cX52_remove 29 = .ok (.if_icmp .ge 21, 3) := by decide +kernel
theorem dX52_remove_32 : decode cX52_remove 32 = .ok (.aload_n 0, 1) := by decide +kernel
theorem dX52_remove_33 : decode cX52_remove 33 = .ok (.getfield 33, 3) := by decide +kernel
theorem dX52_remove_36 : decode cX52_remove 36 = .ok (.iload_n 2, 1) := by decide +kernel
theorem dX52_remove_37 : decode cX52_remove 37 = .ok (.aload_n 0, 1) := by decide +kernel
theorem dX52_remove_38 : decode cX52_remove 38 = .ok (.getfield 30, 3) := by decide +kernel
theorem dX52_remove_41 : decode cX52_remove 41 = .ok (.iload_n 2, 1) := by decide +kernel
theorem dX52_remove_42 : decode cX52_remove 42 = .ok (.iaload, 1) := by decide +kernel
theorem dX52_remove_43 : decode cX52_remove 43 = .ok (.iastore, 1) := by decide +kernel
theorem dX52_remove_44 : decode cX52_remove 44 = .ok (.iinc 2 1, 3) := by decide +kernel
theorem dX52_remove_47 : decode cX52_remove 47 = .ok (.goto (-22), 3) := by decide +kernel
theorem dX52_remove_50 : decode cX52_remove 50 = .ok (.aload_n 0, 1) := by decide +kernel
theorem dX52_remove_51 : decode cX52_remove 51 = .ok (.iload_n 1, 1) := by decide +kernel
theorem dX52_remove_52 : decode cX52_remove 52 = .ok (.iconst 1, 1) := by decide +kernel
theorem dX52_remove_53 : decode cX52_remove 53 = .ok (.invokevirtual 110, 3) := by decide +kernel
theorem dX52_remove_56 : decode cX52_remove 56 = .ok (.aload_n 0, 1) := by decide +kernel
theorem dX52_remove_57 : decode cX52_remove 57 = .ok (.getfield 23, 3) := by decide +kernel
theorem dX52_remove_60 : decode cX52_remove 60 = .ok (.iload_n 1, 1) := by decide +kernel
theorem dX52_remove_61 : decode cX52_remove 61 = .ok (.iconst 0, 1) := by decide +kernel
theorem dX52_remove_62 : decode cX52_remove 62 = .ok (.bastore, 1) := by decide +kernel
theorem dX52_remove_63 : decode cX52_remove 63 = .ok (.aload_n 0, 1) := by decide +kernel
theorem dX52_remove_64 : decode cX52_remove 64 = .ok (.iconst 0, 1) := by decide +kernel
theorem dX52_remove_65 : decode cX52_remove 65 = .ok (.putfield 97, 3) := by decide +kernel
theorem dX52_remove_68 : decode cX52_remove 68 = .ok (.aload_n 0, 1) := by decide +kernel
theorem dX52_remove_69 : decode cX52_remove 69 = .ok (.invokevirtual 101, 3) := by decide +kernel
theorem dX52_remove_72 : decode cX52_remove 72 = .ok (.iconst 0, 1) := by decide +kernel
theorem dX52_remove_73 : decode cX52_remove 73 = .ok (.istore_n 2, 1) := by decide +kernel
theorem dX52_remove_74 : decode cX52_remove 74 = .ok (.iconst 0, 1) := by decide +kernel
theorem dX52_remove_75 : decode cX52_remove 75 = .ok (.istore_n 3, 1) := by decide +kernel
theorem dX52_remove_76 : decode cX52_remove 76 = .ok (.iload_n 3, 1) := by decide +kernel
theorem dX52_remove_77 : decode cX52_remove 77 = .ok (.sipush 420, 3) := by decide +kernel
theorem dX52_remove_80 : decode cX52_remove 80 = .ok (.if_icmp .ge 37, 3) := by decide +kernel
theorem dX52_remove_83 : decode cX52_remove 83 = .ok (.iload_n 2, 1) := by decide +kernel
theorem dX52_remove_84 : decode cX52_remove 84 = .ok (.aload_n 0, 1) := by decide +kernel
theorem dX52_remove_85 : decode cX52_remove 85 = .ok (.getfield 33, 3) := by decide +kernel
theorem dX52_remove_88 : decode cX52_remove 88 = .ok (.iload_n 3, 1) := by decide +kernel
theorem dX52_remove_89 : decode cX52_remove 89 = .ok (.iaload, 1) := by decide +kernel
theorem dX52_remove_90 : decode cX52_remove 90 = .ok (.iconst 3, 1) := by decide +kernel
theorem dX52_remove_91 : decode cX52_remove 91 = .ok (.if_icmp .eq 17, 3) := by decide +kernel
theorem dX52_remove_94 : decode cX52_remove 94 = .ok (.aload_n 0, 1) := by decide +kernel
theorem dX52_remove_95 : decode cX52_remove 95 = .ok (.getfield 30, 3) := by decide +kernel
theorem dX52_remove_98 : decode cX52_remove 98 = .ok (.iload_n 3, 1) := by decide +kernel
theorem dX52_remove_99 : decode cX52_remove 99 = .ok (.iaload, 1) := by decide +kernel
theorem dX52_remove_100 : decode cX52_remove 100 = .ok (.iconst 3, 1) := by decide +kernel
theorem dX52_remove_101 : decode cX52_remove 101 = .ok (.if_icmp .ne 7, 3) := by decide +kernel
theorem dX52_remove_104 : decode cX52_remove 104 = .ok (.iconst 1, 1) := by decide +kernel
theorem dX52_remove_105 : decode cX52_remove 105 = .ok (.goto 4, 3) := by decide +kernel
theorem dX52_remove_108 : decode cX52_remove 108 = .ok (.iconst 0, 1) := by decide +kernel
theorem dX52_remove_109 : decode cX52_remove 109 = .ok (.iadd, 1) := by decide +kernel
theorem dX52_remove_110 : decode cX52_remove 110 = .ok (.istore_n 2, 1) := by decide +kernel
theorem dX52_remove_111 : decode cX52_remove 111 = .ok (.iinc 3 1, 3) := by decide +kernel
theorem dX52_remove_114 : decode cX52_remove 114 = .ok (.goto (-38), 3) := by decide +kernel
theorem dX52_remove_117 : decode cX52_remove 117 = .ok (.iload_n 2, 1) := by decide +kernel
theorem dX52_remove_118 : decode cX52_remove 118 = .ok (.ireturn, 1) := by decide +kernel
abbrev cX52_fuel : ByteArray := prog_81_method_22_code
def yX52_fuel : MethodName := ⟨RX52, "fuel", "(I)I"⟩
theorem dX52_fuel_0 : decode cX52_fuel 0 = .ok (.iload_n 1, 1) := by decide +kernel
theorem dX52_fuel_1 : decode cX52_fuel 1 = .ok (.ifCond .lt 9, 3) := by decide +kernel
theorem dX52_fuel_4 : decode cX52_fuel 4 = .ok (.iload_n 1, 1) := by decide +kernel
theorem dX52_fuel_5 : decode cX52_fuel 5 = .ok (.bipush 20, 2) := by decide +kernel
theorem dX52_fuel_7 : decode cX52_fuel 7 = .ok (.if_icmp .le 6, 3) := by decide +kernel
theorem dX52_fuel_10 : decode cX52_fuel 10 = .ok (.bipush (-2), 2) := by decide +kernel
theorem dX52_fuel_12 : decode cX52_fuel 12 = .ok (.ireturn, 1) := by decide +kernel
theorem dX52_fuel_13 : decode cX52_fuel 13 = .ok (.aload_n 0, 1) := by decide +kernel
theorem dX52_fuel_14 : decode cX52_fuel 14 = .ok (.invokevirtual 114, 3) := by decide +kernel
theorem dX52_fuel_17 : decode cX52_fuel 17 = .ok (.istore_n 2, 1) := by decide +kernel
theorem dX52_fuel_18 : decode cX52_fuel 18 = .ok (.iconst 0, 1) := by decide +kernel
theorem dX52_fuel_19 : decode cX52_fuel 19 = .ok (.istore_n 3, 1) := by decide +kernel
theorem dX52_fuel_20 : decode cX52_fuel 20 = .ok (.iload_n 3, 1) := by decide +kernel
theorem dX52_fuel_21 : decode cX52_fuel 21 = .ok (.sipush 420, 3) := by decide +kernel
theorem dX52_fuel_24 : decode cX52_fuel 24 = .ok (.if_icmp .ge 35, 3) := by decide +kernel
theorem dX52_fuel_27 : decode cX52_fuel 27 = .ok (.aload_n 0, 1) := by decide +kernel
theorem dX52_fuel_28 : decode cX52_fuel 28 = .ok (.getfield 30, 3) := by decide +kernel
theorem dX52_fuel_31 : decode cX52_fuel 31 = .ok (.iload_n 3, 1) := by decide +kernel
theorem dX52_fuel_32 : decode cX52_fuel 32 = .ok (.aload_n 0, 1) := by decide +kernel
theorem dX52_fuel_33 : decode cX52_fuel 33 = .ok (.getfield 30, 3) := by decide +kernel
theorem dX52_fuel_36 : decode cX52_fuel 36 = .ok (.iload_n 3, 1) := by decide +kernel
theorem dX52_fuel_37 : decode cX52_fuel 37 = .ok (.iaload, 1) := by decide +kernel
theorem dX52_fuel_38 : decode cX52_fuel 38 = .ok (.iconst 2, 1) := by decide +kernel
theorem dX52_fuel_39 : decode cX52_fuel 39 = .ok (.if_icmp .ne 7, 3) := by decide +kernel
theorem dX52_fuel_42 : decode cX52_fuel 42 = .ok (.iconst 3, 1) := by decide +kernel
theorem dX52_fuel_43 : decode cX52_fuel 43 = .ok (.goto 9, 3) := by decide +kernel
theorem dX52_fuel_46 : decode cX52_fuel 46 = .ok (.aload_n 0, 1) := by decide +kernel
theorem dX52_fuel_47 : decode cX52_fuel 47 = .ok (.getfield 30, 3) := by decide +kernel
theorem dX52_fuel_50 : decode cX52_fuel 50 = .ok (.iload_n 3, 1) := by decide +kernel
theorem dX52_fuel_51 : decode cX52_fuel 51 = .ok (.iaload, 1) := by decide +kernel
theorem dX52_fuel_52 : decode cX52_fuel 52 = .ok (.iastore, 1) := by decide +kernel
theorem dX52_fuel_53 : decode cX52_fuel 53 = .ok (.iinc 3 1, 3) := by decide +kernel
theorem dX52_fuel_56 : decode cX52_fuel 56 = .ok (.goto (-36), 3) := by decide +kernel
theorem dX52_fuel_59 : decode cX52_fuel 59 = .ok (.aload_n 0, 1) := by decide +kernel
theorem dX52_fuel_60 : decode cX52_fuel 60 = .ok (.iload_n 1, 1) := by decide +kernel
theorem dX52_fuel_61 : decode cX52_fuel 61 = .ok (.putfield 7, 3) := by decide +kernel
theorem dX52_fuel_64 : decode cX52_fuel 64 = .ok (.aload_n 0, 1) := by decide +kernel
theorem dX52_fuel_65 : decode cX52_fuel 65 = .ok (.iconst 0, 1) := by decide +kernel
theorem dX52_fuel_66 : decode cX52_fuel 66 = .ok (.putfield 97, 3) := by decide +kernel
theorem dX52_fuel_69 : decode cX52_fuel 69 = .ok (.iload_n 2, 1) := by decide +kernel
theorem dX52_fuel_70 : decode cX52_fuel 70 = .ok (.ireturn, 1) := by decide +kernel
abbrev cX52_known : ByteArray := prog_81_method_23_code
def yX52_known : MethodName := ⟨RX52, "known", "(II)I"⟩
theorem dX52_known_0 : decode cX52_known 0 = .ok (.aload_n 0, 1) := by decide +kernel
theorem dX52_known_1 : decode cX52_known 1 = .ok (.iload_n 2, 1) := by decide +kernel
theorem dX52_known_2 : decode cX52_known 2 = .ok (.invokevirtual 118, 3) := by decide +kernel
theorem dX52_known_5 : decode cX52_known 5 = .ok (.istore_n 3, 1) := by decide +kernel
theorem dX52_known_6 : decode cX52_known 6 = .ok (.aload_n 0, 1) := by decide +kernel
theorem dX52_known_7 : decode cX52_known 7 = .ok (.iload_n 1, 1) := by decide +kernel
theorem dX52_known_8 : decode cX52_known 8 = .ok (.invokevirtual 63, 3) := by decide +kernel
theorem dX52_known_11 : decode cX52_known 11 = .ok (.ifCond .eq 7, 3) := by decide +kernel
theorem dX52_known_14 : decode cX52_known 14 = .ok (.iload_n 3, 1) := by decide +kernel
theorem dX52_known_15 : decode cX52_known 15 = .ok (.ifCond .ge 7, 3) := by decide +kernel
theorem dX52_known_18 : decode cX52_known 18 = .ok (.iconst (-1), 1) := by decide +kernel
theorem dX52_known_19 : decode cX52_known 19 = .ok (.goto 14, 3) := by decide +kernel
theorem dX52_known_22 : decode cX52_known 22 = .ok (.aload_n 0, 1) := by decide +kernel
theorem dX52_known_23 : decode cX52_known 23 = .ok (.getfield 30, 3) := by decide +kernel
theorem dX52_known_26 : decode cX52_known 26 = .ok (.bipush 21, 2) := by decide +kernel
theorem dX52_known_28 : decode cX52_known 28 = .ok (.iload_n 1, 1) := by decide +kernel
theorem dX52_known_29 : decode cX52_known 29 = .ok (.imul, 1) := by decide +kernel
theorem dX52_known_30 : decode cX52_known 30 = .ok (.iload_n 3, 1) := by decide +kernel
theorem dX52_known_31 : decode cX52_known 31 = .ok (.iadd, 1) := by decide +kernel
theorem dX52_known_32 : decode cX52_known 32 = .ok (.iaload, 1) := by decide +kernel
theorem dX52_known_33 : decode cX52_known 33 = .ok (.ireturn, 1) := by decide +kernel
abbrev cX52_goalOf : ByteArray := prog_81_method_4_code
def yX52_goalOf : MethodName := ⟨RX52, "goalOf", "(I)I"⟩
theorem dX52_goalOf_0 : decode cX52_goalOf 0 = .ok (.iload_n 1, 1) := by decide +kernel
theorem dX52_goalOf_1 : decode cX52_goalOf 1 = .ok (.iconst (-1), 1) := by decide +kernel
theorem dX52_goalOf_2 : decode cX52_goalOf 2 = .ok (.if_icmp .ne 8, 3) := by decide +kernel
theorem dX52_goalOf_5 : decode cX52_goalOf 5 = .ok (.bipush 20, 2) := by decide +kernel
theorem dX52_goalOf_7 : decode cX52_goalOf 7 = .ok (.goto 16, 3) := by decide +kernel
theorem dX52_goalOf_10 : decode cX52_goalOf 10 = .ok (.aload_n 0, 1) := by decide +kernel
theorem dX52_goalOf_11 : decode cX52_goalOf 11 = .ok (.iload_n 1, 1) := by decide +kernel
theorem dX52_goalOf_12 : decode cX52_goalOf 12 = .ok (.invokevirtual 63, 3) := by decide +kernel
theorem dX52_goalOf_15 : decode cX52_goalOf 15 = .ok (.ifCond .eq 7, 3) := by decide +kernel
theorem dX52_goalOf_18 : decode cX52_goalOf 18 = .ok (.iload_n 1, 1) := by decide +kernel
theorem dX52_goalOf_19 : decode cX52_goalOf 19 = .ok (.goto 4, 3) := by decide +kernel
theorem dX52_goalOf_22 : decode cX52_goalOf 22 = .ok (.iconst (-1), 1) := by decide +kernel
theorem dX52_goalOf_23 : decode cX52_goalOf 23 = .ok (.ireturn, 1) := by decide +kernel
abbrev cX52_ask : ByteArray := prog_81_method_24_code
def yX52_ask : MethodName := ⟨RX52, "ask", "(II)I"⟩
theorem dX52_ask_0 : decode cX52_ask 0 = .ok (.aload_n 0, 1) := by decide +kernel
theorem dX52_ask_1 : decode cX52_ask 1 = .ok (.iload_n 2, 1) := by decide +kernel
theorem dX52_ask_2 : decode cX52_ask 2 = .ok (.invokevirtual 118, 3) := by decide +kernel
theorem dX52_ask_5 : decode cX52_ask 5 = .ok (.istore_n 3, 1) := by decide +kernel
theorem dX52_ask_6 : decode cX52_ask 6 = .ok (.aload_n 0, 1) := by decide +kernel
theorem dX52_ask_7 : decode cX52_ask 7 = .ok (.iload_n 1, 1) := by decide +kernel
theorem dX52_ask_8 : decode cX52_ask 8 = .ok (.invokevirtual 63, 3) := by decide +kernel
theorem dX52_ask_11 : decode cX52_ask 11 = .ok (.ifCond .eq 7, 3) := by decide +kernel
theorem dX52_ask_14 : decode cX52_ask 14 = .ok (.iload_n 3, 1) := by decide +kernel
theorem dX52_ask_15 : decode cX52_ask 15 = .ok (.ifCond .ge 7, 3) := by decide +kernel
theorem dX52_ask_18 : decode cX52_ask 18 = .ok (.iconst (-1), 1) := by decide +kernel
theorem dX52_ask_19 : decode cX52_ask 19 = .ok (.goto 9, 3) := by decide +kernel
theorem dX52_ask_22 : decode cX52_ask 22 = .ok (.aload_n 0, 1) := by decide +kernel
theorem dX52_ask_23 : decode cX52_ask 23 = .ok (.iload_n 1, 1) := by decide +kernel
theorem dX52_ask_24 : decode cX52_ask 24 = .ok (.iload_n 3, 1) := by decide +kernel
theorem dX52_ask_25 : decode cX52_ask 25 = .ok (.invokevirtual 121, 3) := by decide +kernel
theorem dX52_ask_28 : decode cX52_ask 28 = .ok (.ireturn, 1) := by decide +kernel
abbrev cX52_child : ByteArray := prog_81_method_34_code
def yX52_child : MethodName := ⟨RX52, "child", "(II)I"⟩
theorem dX52_child_0 : decode cX52_child 0 = .ok (.aload_n 0, 1) := by decide +kernel
theorem dX52_child_1 : decode cX52_child 1 = .ok (.iload_n 1, 1) := by decide +kernel
theorem dX52_child_2 : decode cX52_child 2 = .ok (.invokevirtual 63, 3) := by decide +kernel
theorem dX52_child_5 : decode cX52_child 5 = .ok (.ifCond .ne 5, 3) := by decide +kernel
theorem dX52_child_8 : decode cX52_child 8 = .ok (.iconst (-1), 1) := by decide +kernel
theorem dX52_child_9 : decode cX52_child 9 = .ok (.ireturn, 1) := by decide +kernel
theorem dX52_child_10 : decode cX52_child 10 = .ok (.aload_n 0, 1) := by decide +kernel
theorem dX52_child_11 : decode cX52_child 11 = .ok (.getfield 97, 3) := by decide +kernel
theorem dX52_child_14 : decode cX52_child 14 = .ok (.ifCond .ne 6, 3) := by decide +kernel
theorem dX52_child_17 : decode cX52_child 17 = .ok (.bipush (-3), 2) := by decide +kernel
theorem dX52_child_19 : decode cX52_child 19 = .ok (.ireturn, 1) := by decide +kernel
theorem dX52_child_20 : decode cX52_child 20 = .ok (.iload_n 2, 1) := by decide +kernel
theorem dX52_child_21 : decode cX52_child 21 = .ok (.istore_n 3, 1) := by decide +kernel
theorem dX52_child_22 : decode cX52_child 22 = .ok (.iconst 0, 1) := by decide +kernel
theorem dX52_child_23 : decode cX52_child 23 = .ok (.istore 4, 2) := by decide +kernel
theorem dX52_child_25 : decode cX52_child 25 = .ok (.iload 4, 2) := by decide +kernel
theorem dX52_child_27 : decode cX52_child 27 = .ok (.aload_n 0, 1) := by decide +kernel
theorem dX52_child_28 : decode cX52_child 28 = .ok (.getfield 60, 3) := by decide +kernel
theorem dX52_child_31 : decode cX52_child 31 = .ok (.if_icmp .ge 83, 3) := by decide +kernel
theorem dX52_child_34 : decode cX52_child 34 = .ok (.iload_n 2, 1) := by decide +kernel
theorem dX52_child_35 : decode cX52_child 35 = .ok (.ifCond .lt 79, 3) := by decide +kernel
theorem dX52_child_38 : decode cX52_child 38 = .ok (.aload_n 0, 1) := by decide +kernel
theorem dX52_child_39 : decode cX52_child 39 = .ok (.getfield 36, 3) := by decide +kernel
theorem dX52_child_42 : decode cX52_child 42 = .ok (.iload_n 1, 1) := by decide +kernel
theorem dX52_child_43 : decode cX52_child 43 = .ok (.baload, 1) := by decide +kernel
theorem dX52_child_44 : decode cX52_child 44 = .ok (.ifCond .eq 70, 3) := by decide +kernel
theorem dX52_child_47 : decode cX52_child 47 = .ok (.aload_n 0, 1) := by decide +kernel
theorem dX52_child_48 : decode cX52_child 48 = .ok (.getfield 36, 3) := by decide +kernel
theorem dX52_child_51 : decode cX52_child 51 = .ok (.iload 4, 2) := by decide +kernel
theorem dX52_child_53 : decode cX52_child 53 = .ok (.baload, 1) := by decide +kernel
theorem dX52_child_54 : decode cX52_child 54 = .ok (.ifCond .eq 26, 3) := by decide +kernel
theorem dX52_child_57 : decode cX52_child 57 = .ok (.aload_n 0, 1) := by decide +kernel
theorem dX52_child_58 : decode cX52_child 58 = .ok (.iload 4, 2) := by decide +kernel
theorem dX52_child_60 : decode cX52_child 60 = .ok (.invokevirtual 148, 3) := by decide +kernel
theorem dX52_child_63 : decode cX52_child 63 = .ok (.ifCond .ne 17, 3) := by decide +kernel
theorem dX52_child_66 : decode cX52_child 66 = .ok (.aload_n 0, 1) := by decide +kernel
theorem dX52_child_67 : decode cX52_child 67 = .ok (.iload 4, 2) := by decide +kernel
theorem dX52_child_69 : decode cX52_child 69 = .ok (.iload_n 1, 1) := by decide +kernel
theorem dX52_child_70 : decode cX52_child 70 = .ok (.invokevirtual 131, 3) := by decide +kernel
theorem dX52_child_73 : decode cX52_child 73 = .ok (.ifCond .eq 7, 3) := by decide +kernel
theorem dX52_child_76 : decode cX52_child 76 = .ok (.iconst 1, 1) := by decide +kernel
theorem dX52_child_77 : decode cX52_child 77 = .ok (.goto 4, 3) := by decide +kernel
theorem dX52_child_80 : decode cX52_child 80 = .ok (.iconst 0, 1) := by decide +kernel
theorem dX52_child_81 : decode cX52_child 81 = .ok (.istore 5, 2) := by decide +kernel
theorem dX52_child_83 : decode cX52_child 83 = .ok (.iload 5, 2) := by decide +kernel
theorem dX52_child_85 : decode cX52_child 85 = .ok (.ifCond .eq 10, 3) := by decide +kernel
theorem dX52_child_88 : decode cX52_child 88 = .ok (.iload_n 3, 1) := by decide +kernel
theorem dX52_child_89 : decode cX52_child 89 = .ok (.ifCond .ne 6, 3) := by decide +kernel
theorem dX52_child_92 : decode cX52_child 92 = .ok (.iload 4, 2) := by decide +kernel
theorem dX52_child_94 : decode cX52_child 94 = .ok (.ireturn, 1) := by decide +kernel
theorem dX52_child_95 : decode cX52_child 95 = .ok (.iload_n 3, 1) := by decide +kernel
theorem dX52_child_96 : decode cX52_child 96 = .ok (.iload 5, 2) := by decide +kernel
theorem dX52_child_98 : decode cX52_child 98 = .ok (.ifCond .eq 7, 3) := by decide +kernel
theorem dX52_child_101 : decode cX52_child 101 = .ok (.iconst 1, 1) := by decide +kernel
theorem dX52_child_102 : decode cX52_child 102 = .ok (.goto 4, 3) := by decide +kernel
theorem dX52_child_105 : decode cX52_child 105 = .ok (.iconst 0, 1) := by decide +kernel
theorem dX52_child_106 : decode cX52_child 106 = .ok (.isub, 1) := by decide +kernel
theorem dX52_child_107 : decode cX52_child 107 = .ok (.istore_n 3, 1) := by decide +kernel
theorem dX52_child_108 : decode cX52_child 108 = .ok (.iinc 4 1, 3) := by decide +kernel
theorem dX52_child_111 : decode cX52_child 111 = .ok (.goto (-86), 3) := by decide +kernel
theorem dX52_child_114 : decode cX52_child 114 = .ok (.bipush (-6), 2) := by decide +kernel
theorem dX52_child_116 : decode cX52_child 116 = .ok (.ireturn, 1) := by decide +kernel
abbrev cX52_equal : ByteArray := prog_81_method_35_code
def yX52_equal : MethodName := ⟨RX52, "equal", "(II)I"⟩
theorem dX52_equal_0 : decode cX52_equal 0 = .ok (.aload_n 0, 1) := by decide +kernel
theorem dX52_equal_1 : decode cX52_equal 1 = .ok (.iload_n 1, 1) := by decide +kernel
theorem dX52_equal_2 : decode cX52_equal 2 = .ok (.invokevirtual 63, 3) := by decide +kernel
theorem dX52_equal_5 : decode cX52_equal 5 = .ok (.ifCond .ne 5, 3) := by decide +kernel
theorem dX52_equal_8 : decode cX52_equal 8 = .ok (.iconst (-1), 1) := by decide +kernel
theorem dX52_equal_9 : decode cX52_equal 9 = .ok (.ireturn, 1) := by decide +kernel
theorem dX52_equal_10 : decode cX52_equal 10 = .ok (.aload_n 0, 1) := by decide +kernel
theorem dX52_equal_11 : decode cX52_equal 11 = .ok (.getfield 97, 3) := by decide +kernel
theorem dX52_equal_14 : decode cX52_equal 14 = .ok (.ifCond .ne 6, 3) := by decide +kernel
theorem dX52_equal_17 : decode cX52_equal 17 = .ok (.bipush (-3), 2) := by decide +kernel
theorem dX52_equal_19 : decode cX52_equal 19 = .ok (.ireturn, 1) := by decide +kernel
theorem dX52_equal_20 : decode cX52_equal 20 = .ok (.iload_n 2, 1) := by decide +kernel
theorem dX52_equal_21 : decode cX52_equal 21 = .ok (.istore_n 3, 1) := by decide +kernel
theorem dX52_equal_22 : decode cX52_equal 22 = .ok (.iconst 0, 1) := by decide +kernel
theorem dX52_equal_23 : decode cX52_equal 23 = .ok (.istore 4, 2) := by decide +kernel
theorem dX52_equal_25 : decode cX52_equal 25 = .ok (.iload 4, 2) := by decide +kernel
theorem dX52_equal_27 : decode cX52_equal 27 = .ok (.aload_n 0, 1) := by decide +kernel
theorem dX52_equal_28 : decode cX52_equal 28 = .ok (.getfield 60, 3) := by decide +kernel
theorem dX52_equal_31 : decode cX52_equal 31 = .ok (.if_icmp .ge 65, 3) := by decide +kernel
theorem dX52_equal_34 : decode cX52_equal 34 = .ok (.iload_n 2, 1) := by decide +kernel
theorem dX52_equal_35 : decode cX52_equal 35 = .ok (.ifCond .lt 61, 3) := by decide +kernel
theorem dX52_equal_38 : decode cX52_equal 38 = .ok (.aload_n 0, 1) := by decide +kernel
theorem dX52_equal_39 : decode cX52_equal 39 = .ok (.iload_n 1, 1) := by decide +kernel
theorem dX52_equal_40 : decode cX52_equal 40 = .ok (.iload 4, 2) := by decide +kernel
theorem dX52_equal_42 : decode cX52_equal 42 = .ok (.invokevirtual 77, 3) := by decide +kernel
theorem dX52_equal_45 : decode cX52_equal 45 = .ok (.ifCond .eq 17, 3) := by decide +kernel
theorem dX52_equal_48 : decode cX52_equal 48 = .ok (.aload_n 0, 1) := by decide +kernel
theorem dX52_equal_49 : decode cX52_equal 49 = .ok (.iload 4, 2) := by decide +kernel
theorem dX52_equal_51 : decode cX52_equal 51 = .ok (.iload_n 1, 1) := by decide +kernel
theorem dX52_equal_52 : decode cX52_equal 52 = .ok (.invokevirtual 77, 3) := by decide +kernel
theorem dX52_equal_55 : decode cX52_equal 55 = .ok (.ifCond .eq 7, 3) := by decide +kernel
theorem dX52_equal_58 : decode cX52_equal 58 = .ok (.iconst 1, 1) := by decide +kernel
theorem dX52_equal_59 : decode cX52_equal 59 = .ok (.goto 4, 3) := by decide +kernel
theorem dX52_equal_62 : decode cX52_equal 62 = .ok (.iconst 0, 1) := by decide +kernel
theorem dX52_equal_63 : decode cX52_equal 63 = .ok (.istore 5, 2) := by decide +kernel
theorem dX52_equal_65 : decode cX52_equal 65 = .ok (.iload 5, 2) := by decide +kernel
theorem dX52_equal_67 : decode cX52_equal 67 = .ok (.ifCond .eq 10, 3) := by decide +kernel
theorem dX52_equal_70 : decode cX52_equal 70 = .ok (.iload_n 3, 1) := by decide +kernel
theorem dX52_equal_71 : decode cX52_equal 71 = .ok (.ifCond .ne 6, 3) := by decide +kernel
theorem dX52_equal_74 : decode cX52_equal 74 = .ok (.iload 4, 2) := by decide +kernel
theorem dX52_equal_76 : decode cX52_equal 76 = .ok (.ireturn, 1) := by decide +kernel
theorem dX52_equal_77 : decode cX52_equal 77 = .ok (.iload_n 3, 1) := by decide +kernel
theorem dX52_equal_78 : decode cX52_equal 78 = .ok (.iload 5, 2) := by decide +kernel
theorem dX52_equal_80 : decode cX52_equal 80 = .ok (.ifCond .eq 7, 3) := by decide +kernel
theorem dX52_equal_83 : decode cX52_equal 83 = .ok (.iconst 1, 1) := by decide +kernel
theorem dX52_equal_84 : decode cX52_equal 84 = .ok (.goto 4, 3) := by decide +kernel
theorem dX52_equal_87 : decode cX52_equal 87 = .ok (.iconst 0, 1) := by decide +kernel
theorem dX52_equal_88 : decode cX52_equal 88 = .ok (.isub, 1) := by decide +kernel
theorem dX52_equal_89 : decode cX52_equal 89 = .ok (.istore_n 3, 1) := by decide +kernel
theorem dX52_equal_90 : decode cX52_equal 90 = .ok (.iinc 4 1, 3) := by decide +kernel
theorem dX52_equal_93 : decode cX52_equal 93 = .ok (.goto (-68), 3) := by decide +kernel
theorem dX52_equal_96 : decode cX52_equal 96 = .ok (.bipush (-6), 2) := by decide +kernel
theorem dX52_equal_98 : decode cX52_equal 98 = .ok (.ireturn, 1) := by decide +kernel
abbrev cX52_empty : ByteArray := prog_81_method_36_code
def yX52_empty : MethodName := ⟨RX52, "empty", "(I)I"⟩
theorem dX52_empty_0 : decode cX52_empty 0 = .ok (.aload_n 0, 1) := by decide +kernel
theorem dX52_empty_1 : decode cX52_empty 1 = .ok (.getfield 97, 3) := by decide +kernel
theorem dX52_empty_4 : decode cX52_empty 4 = .ok (.ifCond .ne 6, 3) := by decide +kernel
theorem dX52_empty_7 : decode cX52_empty 7 = .ok (.bipush (-3), 2) := by decide +kernel
theorem dX52_empty_9 : decode cX52_empty 9 = .ok (.ireturn, 1) := by decide +kernel
theorem dX52_empty_10 : decode cX52_empty 10 = .ok (.iload_n 1, 1) := by decide +kernel
theorem dX52_empty_11 : decode cX52_empty 11 = .ok (.istore_n 2, 1) := by decide +kernel
theorem dX52_empty_12 : decode cX52_empty 12 = .ok (.iconst 0, 1) := by decide +kernel
theorem dX52_empty_13 : decode cX52_empty 13 = .ok (.istore_n 3, 1) := by decide +kernel
theorem dX52_empty_14 : decode cX52_empty 14 = .ok (.iload_n 3, 1) := by decide +kernel
theorem dX52_empty_15 : decode cX52_empty 15 = .ok (.aload_n 0, 1) := by decide +kernel
theorem dX52_empty_16 : decode cX52_empty 16 = .ok (.getfield 60, 3) := by decide +kernel
theorem dX52_empty_19 : decode cX52_empty 19 = .ok (.if_icmp .ge 45, 3) := by decide +kernel
theorem dX52_empty_22 : decode cX52_empty 22 = .ok (.iload_n 1, 1) := by decide +kernel
theorem dX52_empty_23 : decode cX52_empty 23 = .ok (.ifCond .lt 41, 3) := by decide +kernel
theorem dX52_empty_26 : decode cX52_empty 26 = .ok (.aload_n 0, 1) := by decide +kernel
theorem dX52_empty_27 : decode cX52_empty 27 = .ok (.getfield 36, 3) := by decide +kernel
theorem dX52_empty_30 : decode cX52_empty 30 = .ok (.iload_n 3, 1) := by decide +kernel
theorem dX52_empty_31 : decode cX52_empty 31 = .ok (.baload, 1) := by decide +kernel
theorem dX52_empty_32 : decode cX52_empty 32 = .ok (.ifCond .ne 9, 3) := by decide +kernel
theorem dX52_empty_35 : decode cX52_empty 35 = .ok (.iload_n 2, 1) := by decide +kernel
theorem dX52_empty_36 : decode cX52_empty 36 = .ok (.ifCond .ne 5, 3) := by decide +kernel
theorem dX52_empty_39 : decode cX52_empty 39 = .ok (.iload_n 3, 1) := by decide +kernel
theorem dX52_empty_40 : decode cX52_empty 40 = .ok (.ireturn, 1) := by decide +kernel
theorem dX52_empty_41 : decode cX52_empty 41 = .ok (.iload_n 2, 1) := by decide +kernel
theorem dX52_empty_42 : decode cX52_empty 42 = .ok (.aload_n 0, 1) := by decide +kernel
theorem dX52_empty_43 : decode cX52_empty 43 = .ok (.getfield 36, 3) := by decide +kernel
theorem dX52_empty_46 : decode cX52_empty 46 = .ok (.iload_n 3, 1) := by decide +kernel
theorem dX52_empty_47 : decode cX52_empty 47 = .ok (.baload, 1) := by decide +kernel
theorem dX52_empty_48 : decode cX52_empty 48 = .ok (.ifCond .eq 7, 3) := by decide +kernel
theorem dX52_empty_51 : decode cX52_empty 51 = .ok (.iconst 0, 1) := by decide +kernel
theorem dX52_empty_52 : decode cX52_empty 52 = .ok (.goto 4, 3) := by decide +kernel
theorem dX52_empty_55 : decode cX52_empty 55 = .ok (.iconst 1, 1) := by decide +kernel
theorem dX52_empty_56 : decode cX52_empty 56 = .ok (.isub, 1) := by decide +kernel
theorem dX52_empty_57 : decode cX52_empty 57 = .ok (.istore_n 2, 1) := by decide +kernel
theorem dX52_empty_58 : decode cX52_empty 58 = .ok (.iinc 3 1, 3) := by decide +kernel
theorem dX52_empty_61 : decode cX52_empty 61 = .ok (.goto (-47), 3) := by decide +kernel
theorem dX52_empty_64 : decode cX52_empty 64 = .ok (.bipush (-6), 2) := by decide +kernel
theorem dX52_empty_66 : decode cX52_empty 66 = .ok (.ireturn, 1) := by decide +kernel
abbrev cX52_open : ByteArray := prog_81_method_37_code
def yX52_open : MethodName := ⟨RX52, "open", "(I)I"⟩
theorem dX52_open_0 : decode cX52_open 0 = .ok (.iload_n 1, 1) := by decide +kernel
theorem dX52_open_1 : decode cX52_open 1 = .ok (.istore_n 2, 1) := by decide +kernel
theorem dX52_open_2 : decode cX52_open 2 = .ok (.iconst 0, 1) := by decide +kernel
theorem dX52_open_3 : decode cX52_open 3 = .ok (.istore_n 3, 1) := by decide +kernel
theorem dX52_open_4 : decode cX52_open 4 = .ok (.iload_n 3, 1) := by decide +kernel
theorem dX52_open_5 : decode cX52_open 5 = .ok (.sipush 420, 3) := by decide +kernel
theorem dX52_open_8 : decode cX52_open 8 = .ok (.if_icmp .ge 79, 3) := by decide +kernel
theorem dX52_open_11 : decode cX52_open 11 = .ok (.iload_n 1, 1) := by decide +kernel
theorem dX52_open_12 : decode cX52_open 12 = .ok (.ifCond .lt 75, 3) := by decide +kernel
theorem dX52_open_15 : decode cX52_open 15 = .ok (.aload_n 0, 1) := by decide +kernel
theorem dX52_open_16 : decode cX52_open 16 = .ok (.getfield 30, 3) := by decide +kernel
theorem dX52_open_19 : decode cX52_open 19 = .ok (.iload_n 3, 1) := by decide +kernel
theorem dX52_open_20 : decode cX52_open 20 = .ok (.iaload, 1) := by decide +kernel
theorem dX52_open_21 : decode cX52_open 21 = .ok (.iconst 2, 1) := by decide +kernel
theorem dX52_open_22 : decode cX52_open 22 = .ok (.if_icmp .ne 7, 3) := by decide +kernel
theorem dX52_open_25 : decode cX52_open 25 = .ok (.iconst 1, 1) := by decide +kernel
theorem dX52_open_26 : decode cX52_open 26 = .ok (.goto 4, 3) := by decide +kernel
theorem dX52_open_29 : decode cX52_open 29 = .ok (.iconst 0, 1) := by decide +kernel
theorem dX52_open_30 : decode cX52_open 30 = .ok (.istore 4, 2) := by decide +kernel
theorem dX52_open_32 : decode cX52_open 32 = .ok (.iload 4, 2) := by decide +kernel
theorem dX52_open_34 : decode cX52_open 34 = .ok (.ifCond .eq 34, 3) := by decide +kernel
theorem dX52_open_37 : decode cX52_open 37 = .ok (.iload_n 2, 1) := by decide +kernel
theorem dX52_open_38 : decode cX52_open 38 = .ok (.ifCond .ne 30, 3) := by decide +kernel
theorem dX52_open_41 : decode cX52_open 41 = .ok (.bipush 32, 2) := by decide +kernel
theorem dX52_open_43 : decode cX52_open 43 = .ok (.iload_n 3, 1) := by decide +kernel
theorem dX52_open_44 : decode cX52_open 44 = .ok (.bipush 21, 2) := by decide +kernel
theorem dX52_open_46 : decode cX52_open 46 = .ok (.idiv, 1) := by decide +kernel
theorem dX52_open_47 : decode cX52_open 47 = .ok (.imul, 1) := by decide +kernel
theorem dX52_open_48 : decode cX52_open 48 = .ok (.iload_n 3, 1) := by decide +kernel
theorem dX52_open_49 : decode cX52_open 49 = .ok (.bipush 21, 2) := by decide +kernel
theorem dX52_open_51 : decode cX52_open 51 = .ok (.irem, 1) := by decide +kernel
theorem dX52_open_52 : decode cX52_open 52 = .ok (.bipush 20, 2) := by decide +kernel
theorem dX52_open_54 : decode cX52_open 54 = .ok (.if_icmp .ne 8, 3) := by decide +kernel
theorem dX52_open_57 : decode cX52_open 57 = .ok (.bipush 31, 2) := by decide +kernel
theorem dX52_open_59 : decode cX52_open 59 = .ok (.goto 7, 3) := by decide +kernel
theorem dX52_open_62 : decode cX52_open 62 = .ok (.iload_n 3, 1) := by decide +kernel
theorem dX52_open_63 : decode cX52_open 63 = .ok (.bipush 21, 2) := by decide +kernel
theorem dX52_open_65 : decode cX52_open 65 = .ok (.irem, 1) := by decide +kernel
theorem dX52_open_66 : decode cX52_open 66 = .ok (.iadd, 1) := by decide +kernel
theorem dX52_open_67 : decode cX52_open 67 = .ok (.ireturn, 1) := by decide +kernel
theorem dX52_open_68 : decode cX52_open 68 = .ok (.iload_n 2, 1) := by decide +kernel
theorem dX52_open_69 : decode cX52_open 69 = .ok (.iload 4, 2) := by decide +kernel
theorem dX52_open_71 : decode cX52_open 71 = .ok (.ifCond .eq 7, 3) := by decide +kernel
theorem dX52_open_74 : decode cX52_open 74 = .ok (.iconst 1, 1) := by decide +kernel
theorem dX52_open_75 : decode cX52_open 75 = .ok (.goto 4, 3) := by decide +kernel
theorem dX52_open_78 : decode cX52_open 78 = .ok (.iconst 0, 1) := by decide +kernel
theorem dX52_open_79 : decode cX52_open 79 = .ok (.isub, 1) := by decide +kernel
theorem dX52_open_80 : decode cX52_open 80 = .ok (.istore_n 2, 1) := by decide +kernel
theorem dX52_open_81 : decode cX52_open 81 = .ok (.iinc 3 1, 3) := by decide +kernel
theorem dX52_open_84 : decode cX52_open 84 = .ok (.goto (-80), 3) := by decide +kernel
theorem dX52_open_87 : decode cX52_open 87 = .ok (.bipush (-6), 2) := by decide +kernel
theorem dX52_open_89 : decode cX52_open 89 = .ok (.ireturn, 1) := by decide +kernel
abbrev cX52_type : ByteArray := prog_81_method_40_code
def yX52_type : MethodName := ⟨RX52, "type", "(II)I"⟩
theorem dX52_type_0 : decode cX52_type 0 = .ok (.iload_n 1, 1) := by decide +kernel
theorem dX52_type_1 : decode cX52_type 1 = .ok (.ifCond .lt 11, 3) := by decide +kernel
theorem dX52_type_4 : decode cX52_type 4 = .ok (.iload_n 1, 1) := by decide +kernel
theorem dX52_type_5 : decode cX52_type 5 = .ok (.aload_n 0, 1) := by decide +kernel
theorem dX52_type_6 : decode cX52_type 6 = .ok (.getfield 104, 3) := by decide +kernel
theorem dX52_type_9 : decode cX52_type 9 = .ok (.if_icmp .lt 5, 3) := by decide +kernel
theorem dX52_type_12 : decode cX52_type 12 = .ok (.iconst (-1), 1) := by decide +kernel
theorem dX52_type_13 : decode cX52_type 13 = .ok (.ireturn, 1) := by decide +kernel
theorem dX52_type_14 : decode cX52_type 14 = .ok (.aload_n 0, 1) := by decide +kernel
theorem dX52_type_15 : decode cX52_type 15 = .ok (.getfield 97, 3) := by decide +kernel
theorem dX52_type_18 : decode cX52_type 18 = .ok (.ifCond .ne 6, 3) := by decide +kernel
theorem dX52_type_21 : decode cX52_type 21 = .ok (.bipush (-3), 2) := by decide +kernel
theorem dX52_type_23 : decode cX52_type 23 = .ok (.ireturn, 1) := by decide +kernel
theorem dX52_type_24 : decode cX52_type 24 = .ok (.aload_n 0, 1) := by decide +kernel
theorem dX52_type_25 : decode cX52_type 25 = .ok (.iload_n 1, 1) := by decide +kernel
theorem dX52_type_26 : decode cX52_type 26 = .ok (.bipush 20, 2) := by decide +kernel
theorem dX52_type_28 : decode cX52_type 28 = .ok (.invokevirtual 154, 3) := by decide +kernel
theorem dX52_type_31 : decode cX52_type 31 = .ok (.iconst 1, 1) := by decide +kernel
theorem dX52_type_32 : decode cX52_type 32 = .ok (.if_icmp .ne 6, 3) := by decide +kernel
theorem dX52_type_35 : decode cX52_type 35 = .ok (.bipush (-5), 2) := by decide +kernel
theorem dX52_type_37 : decode cX52_type 37 = .ok (.ireturn, 1) := by decide +kernel
theorem dX52_type_38 : decode cX52_type 38 = .ok (.iload_n 2, 1) := by decide +kernel
theorem dX52_type_39 : decode cX52_type 39 = .ok (.istore_n 3, 1) := by decide +kernel
theorem dX52_type_40 : decode cX52_type 40 = .ok (.iconst 0, 1) := by decide +kernel
theorem dX52_type_41 : decode cX52_type 41 = .ok (.istore 4, 2) := by decide +kernel
theorem dX52_type_43 : decode cX52_type 43 = .ok (.iload 4, 2) := by decide +kernel
theorem dX52_type_45 : decode cX52_type 45 = .ok (.aload_n 0, 1) := by decide +kernel
theorem dX52_type_46 : decode cX52_type 46 = .ok (.getfield 60, 3) := by decide +kernel
theorem dX52_type_49 : decode cX52_type 49 = .ok (.if_icmp .ge 135, 3) := by decide +kernel
theorem dX52_type_52 : decode cX52_type 52 = .ok (.iload_n 2, 1) := by decide +kernel
theorem dX52_type_53 : decode cX52_type 53 = .ok (.ifCond .lt 131, 3) := by decide +kernel
theorem dX52_type_56 : decode cX52_type 56 = .ok (.aload_n 0, 1) := by decide +kernel
theorem dX52_type_57 : decode cX52_type 57 = .ok (.getfield 36, 3) := by decide +kernel
theorem dX52_type_60 : decode cX52_type 60 = .ok (.iload 4, 2) := by decide +kernel
theorem dX52_type_62 : decode cX52_type 62 = .ok (.baload, 1) := by decide +kernel
theorem dX52_type_63 : decode cX52_type 63 = .ok (.ifCond .eq 26, 3) := by decide +kernel
theorem dX52_type_66 : decode cX52_type 66 = .ok (.aload_n 0, 1) := by decide +kernel
theorem dX52_type_67 : decode cX52_type 67 = .ok (.iload 4, 2) := by decide +kernel
theorem dX52_type_69 : decode cX52_type 69 = .ok (.invokevirtual 148, 3) := by decide +kernel
theorem dX52_type_72 : decode cX52_type 72 = .ok (.ifCond .ne 17, 3) := by decide +kernel
theorem dX52_type_75 : decode cX52_type 75 = .ok (.aload_n 0, 1) := by decide +kernel
theorem dX52_type_76 : decode cX52_type 76 = .ok (.iload_n 1, 1) := by decide +kernel
theorem dX52_type_77 : decode cX52_type 77 = .ok (.iload 4, 2) := by decide +kernel
theorem dX52_type_79 : decode cX52_type 79 = .ok (.invokevirtual 157, 3) := by decide +kernel
theorem dX52_type_82 : decode cX52_type 82 = .ok (.ifCond .eq 7, 3) := by decide +kernel
theorem dX52_type_85 : decode cX52_type 85 = .ok (.iconst 1, 1) := by decide +kernel
theorem dX52_type_86 : decode cX52_type 86 = .ok (.goto 4, 3) := by decide +kernel
theorem dX52_type_89 : decode cX52_type 89 = .ok (.iconst 0, 1) := by decide +kernel
theorem dX52_type_90 : decode cX52_type 90 = .ok (.istore 5, 2) := by decide +kernel
theorem dX52_type_92 : decode cX52_type 92 = .ok (.iconst 0, 1) := by decide +kernel
theorem dX52_type_93 : decode cX52_type 93 = .ok (.istore 6, 2) := by decide +kernel
theorem dX52_type_95 : decode cX52_type 95 = .ok (.iload 6, 2) := by decide +kernel
theorem dX52_type_97 : decode cX52_type 97 = .ok (.aload_n 0, 1) := by decide +kernel
theorem dX52_type_98 : decode cX52_type 98 = .ok (.getfield 60, 3) := by decide +kernel
theorem dX52_type_101 : decode cX52_type 101 = .ok (.if_icmp .ge 52, 3) := by decide +kernel
theorem dX52_type_104 : decode cX52_type 104 = .ok (.iload 5, 2) := by decide +kernel
theorem dX52_type_106 : decode cX52_type 106 = .ok (.ifCond .eq 47, 3) := by decide +kernel
theorem dX52_type_109 : decode cX52_type 109 = .ok (.aload_n 0, 1) := by decide +kernel
theorem dX52_type_110 : decode cX52_type 110 = .ok (.getfield 36, 3) := by decide +kernel
theorem dX52_type_113 : decode cX52_type 113 = .ok (.iload 6, 2) := by decide +kernel
theorem dX52_type_115 : decode cX52_type 115 = .ok (.baload, 1) := by decide +kernel
theorem dX52_type_116 : decode cX52_type 116 = .ok (.ifCond .eq 24, 3) := by decide +kernel
theorem dX52_type_119 : decode cX52_type 119 = .ok (.aload_n 0, 1) := by decide +kernel
theorem dX52_type_120 : decode cX52_type 120 = .ok (.iload 6, 2) := by decide +kernel
theorem dX52_type_122 : decode cX52_type 122 = .ok (.iload 4, 2) := by decide +kernel
theorem dX52_type_124 : decode cX52_type 124 = .ok (.invokevirtual 131, 3) := by decide +kernel
theorem dX52_type_127 : decode cX52_type 127 = .ok (.ifCond .eq 13, 3) := by decide +kernel
theorem dX52_type_130 : decode cX52_type 130 = .ok (.aload_n 0, 1) := by decide +kernel
theorem dX52_type_131 : decode cX52_type 131 = .ok (.iload_n 1, 1) := by decide +kernel
theorem dX52_type_132 : decode cX52_type 132 = .ok (.iload 6, 2) := by decide +kernel
theorem dX52_type_134 : decode cX52_type 134 = .ok (.invokevirtual 157, 3) := by decide +kernel
theorem dX52_type_137 : decode cX52_type 137 = .ok (.ifCond .ne 7, 3) := by decide +kernel
theorem dX52_type_140 : decode cX52_type 140 = .ok (.iconst 1, 1) := by decide +kernel
theorem dX52_type_141 : decode cX52_type 141 = .ok (.goto 4, 3) := by decide +kernel
theorem dX52_type_144 : decode cX52_type 144 = .ok (.iconst 0, 1) := by decide +kernel
theorem dX52_type_145 : decode cX52_type 145 = .ok (.istore 5, 2) := by decide +kernel
theorem dX52_type_147 : decode cX52_type 147 = .ok (.iinc 6 1, 3) := by decide +kernel
theorem dX52_type_150 : decode cX52_type 150 = .ok (.goto (-55), 3) := by decide +kernel
theorem dX52_type_153 : decode cX52_type 153 = .ok (.iload 5, 2) := by decide +kernel
theorem dX52_type_155 : decode cX52_type 155 = .ok (.ifCond .eq 10, 3) := by decide +kernel
theorem dX52_type_158 : decode cX52_type 158 = .ok (.iload_n 3, 1) := by decide +kernel
theorem dX52_type_159 : decode cX52_type 159 = .ok (.ifCond .ne 6, 3) := by decide +kernel
theorem dX52_type_162 : decode cX52_type 162 = .ok (.iload 4, 2) := by decide +kernel
theorem dX52_type_164 : decode cX52_type 164 = .ok (.ireturn, 1) := by decide +kernel
theorem dX52_type_165 : decode cX52_type 165 = .ok (.iload_n 3, 1) := by decide +kernel
theorem dX52_type_166 : decode cX52_type 166 = .ok (.iload 5, 2) := by decide +kernel
theorem dX52_type_168 : decode cX52_type 168 = .ok (.ifCond .eq 7, 3) := by decide +kernel
theorem dX52_type_171 : decode cX52_type 171 = .ok (.iconst 1, 1) := by decide +kernel
theorem dX52_type_172 : decode cX52_type 172 = .ok (.goto 4, 3) := by decide +kernel
theorem dX52_type_175 : decode cX52_type 175 = .ok (.iconst 0, 1) := by decide +kernel
theorem dX52_type_176 : decode cX52_type 176 = .ok (.isub, 1) := by decide +kernel
theorem dX52_type_177 : decode cX52_type 177 = .ok (.istore_n 3, 1) := by decide +kernel
theorem dX52_type_178 : decode cX52_type 178 = .ok (.iinc 4 1, 3) := by decide +kernel
theorem dX52_type_181 : decode cX52_type 181 = .ok (.goto (-138), 3) := by decide +kernel
theorem dX52_type_184 : decode cX52_type 184 = .ok (.bipush (-6), 2) := by decide +kernel
theorem dX52_type_186 : decode cX52_type 186 = .ok (.ireturn, 1) := by decide +kernel
abbrev cX52_reasonThing : ByteArray := prog_81_method_14_code
def yX52_reasonThing : MethodName := ⟨RX52, "reasonThing", "(II)I"⟩
theorem dX52_reasonThing_0 : decode cX52_reasonThing 0 = .ok (.iconst 0, 1) := by decide +kernel
theorem dX52_reasonThing_1 : decode cX52_reasonThing 1 = .ok (.istore_n 3, 1) := by decide +kernel
theorem dX52_reasonThing_2 : decode cX52_reasonThing 2 = .ok (.iload_n 3, 1) := by decide +kernel
theorem dX52_reasonThing_3 : decode cX52_reasonThing 3 = .ok (.bipush 20, 2) := by decide +kernel
theorem dX52_reasonThing_5 : decode cX52_reasonThing 5 = .ok (.if_icmp .gt 40, 3) := by decide +kernel
theorem dX52_reasonThing_8 : decode cX52_reasonThing 8 = .ok (.aload_n 0, 1) := by decide +kernel
theorem dX52_reasonThing_9 : decode cX52_reasonThing 9 = .ok (.getfield 42, 3) := by decide +kernel
theorem dX52_reasonThing_12 : decode cX52_reasonThing 12 = .ok (.iload_n 3, 1) := by decide +kernel
theorem dX52_reasonThing_13 : decode cX52_reasonThing 13 = .ok (.iload_n 3, 1) := by decide +kernel
theorem dX52_reasonThing_14 : decode cX52_reasonThing 14 = .ok (.bipush 20, 2) := by decide +kernel
theorem dX52_reasonThing_16 : decode cX52_reasonThing 16 = .ok (.if_icmp .ge 21, 3) := by decide +kernel
theorem dX52_reasonThing_19 : decode cX52_reasonThing 19 = .ok (.aload_n 0, 1) := by decide +kernel
theorem dX52_reasonThing_20 : decode cX52_reasonThing 20 = .ok (.getfield 27, 3) := by decide +kernel
theorem dX52_reasonThing_23 : decode cX52_reasonThing 23 = .ok (.bipush 20, 2) := by decide +kernel
theorem dX52_reasonThing_25 : decode cX52_reasonThing 25 = .ok (.iload_n 1, 1) := by decide +kernel
theorem dX52_reasonThing_26 : decode cX52_reasonThing 26 = .ok (.imul, 1) := by decide +kernel
theorem dX52_reasonThing_27 : decode cX52_reasonThing 27 = .ok (.iload_n 3, 1) := by decide +kernel
theorem dX52_reasonThing_28 : decode cX52_reasonThing 28 = .ok (.iadd, 1) := by decide +kernel
theorem dX52_reasonThing_29 : decode cX52_reasonThing 29 = .ok (.baload, 1) := by decide +kernel
theorem dX52_reasonThing_30 : decode cX52_reasonThing 30 = .ok (.ifCond .eq 7, 3) := by decide +kernel
theorem dX52_reasonThing_33 : decode cX52_reasonThing 33 = .ok (.iconst 1, 1) := by decide +kernel
theorem dX52_reasonThing_34 : decode cX52_reasonThing 34 = .ok (.goto 4, 3) := by decide +kernel
theorem dX52_reasonThing_37 : decode cX52_reasonThing 37 = .ok (.iconst 0, 1) := by decide +kernel
theorem dX52_reasonThing_38 : decode cX52_reasonThing 38 = .ok (.bastore, 1) := by decide +kernel
theorem dX52_reasonThing_39 : decode cX52_reasonThing 39 = .ok (.iinc 3 1, 3) := by decide +kernel
theorem dX52_reasonThing_42 : decode cX52_reasonThing 42 = .ok (.goto (-40), 3) := by decide +kernel
theorem dX52_reasonThing_45 : decode cX52_reasonThing 45 = .ok (.aload_n 0, 1) := by decide +kernel
theorem dX52_reasonThing_46 : decode cX52_reasonThing 46 = .ok (.iload_n 2, 1) := by decide +kernel
theorem dX52_reasonThing_47 : decode cX52_reasonThing 47 = .ok (.invokevirtual 93, 3) := by decide +kernel
theorem dX52_reasonThing_50 : decode cX52_reasonThing 50 = .ok (.ireturn, 1) := by decide +kernel
abbrev cX52_isIn : ByteArray := prog_81_method_39_code
def yX52_isIn : MethodName := ⟨RX52, "isIn", "(II)Z"⟩
theorem dX52_isIn_0 : decode cX52_isIn 0 = .ok (.aload_n 0, 1) := by decide +kernel
theorem dX52_isIn_1 : decode cX52_isIn 1 = .ok (.iload_n 1, 1) := by decide +kernel
theorem dX52_isIn_2 : decode cX52_isIn 2 = .ok (.iload_n 2, 1) := by decide +kernel
theorem dX52_isIn_3 : decode cX52_isIn 3 = .ok (.invokevirtual 154, 3) := by decide +kernel
theorem dX52_isIn_6 : decode cX52_isIn 6 = .ok (.iconst 1, 1) := by decide +kernel
theorem dX52_isIn_7 : decode cX52_isIn 7 = .ok (.if_icmp .ne 7, 3) := by decide +kernel
theorem dX52_isIn_10 : decode cX52_isIn 10 = .ok (.iconst 1, 1) := by decide +kernel
theorem dX52_isIn_11 : decode cX52_isIn 11 = .ok (.goto 4, 3) := by decide +kernel
theorem dX52_isIn_14 : decode cX52_isIn 14 = .ok (.iconst 0, 1) := by decide +kernel
theorem dX52_isIn_15 : decode cX52_isIn 15 = .ok (.ireturn, 1) := by decide +kernel
abbrev cX52_trace : ByteArray := prog_81_method_41_code
def yX52_trace : MethodName := ⟨RX52, "trace", "(III)I"⟩
theorem dX52_trace_0 : decode cX52_trace 0 = .ok (.aload_n 0, 1) := by decide +kernel
theorem dX52_trace_1 : decode cX52_trace 1 = .ok (.iload_n 2, 1) := by decide +kernel
theorem dX52_trace_2 : decode cX52_trace 2 = .ok (.invokevirtual 118, 3) := by decide +kernel
theorem dX52_trace_5 : decode cX52_trace 5 = .ok (.istore 4, 2) := by decide +kernel
theorem dX52_trace_7 : decode cX52_trace 7 = .ok (.aload_n 0, 1) := by decide +kernel
theorem dX52_trace_8 : decode cX52_trace 8 = .ok (.iload_n 1, 1) := by decide +kernel
theorem dX52_trace_9 : decode cX52_trace 9 = .ok (.invokevirtual 63, 3) := by decide +kernel
theorem dX52_trace_12 : decode cX52_trace 12 = .ok (.ifCond .eq 8, 3) := by decide +kernel
theorem dX52_trace_15 : decode cX52_trace 15 = .ok (.iload 4, 2) := by decide +kernel
theorem dX52_trace_17 : decode cX52_trace 17 = .ok (.ifCond .ge 5, 3) := by decide +kernel
theorem dX52_trace_20 : decode cX52_trace 20 = .ok (.iconst (-1), 1) := by decide +kernel
theorem dX52_trace_21 : decode cX52_trace 21 = .ok (.ireturn, 1) := by decide +kernel
theorem dX52_trace_22 : decode cX52_trace 22 = .ok (.aload_n 0, 1) := by decide +kernel
theorem dX52_trace_23 : decode cX52_trace 23 = .ok (.iload_n 1, 1) := by decide +kernel
theorem dX52_trace_24 : decode cX52_trace 24 = .ok (.iload 4, 2) := by decide +kernel
theorem dX52_trace_26 : decode cX52_trace 26 = .ok (.invokevirtual 121, 3) := by decide +kernel
theorem dX52_trace_29 : decode cX52_trace 29 = .ok (.iconst 1, 1) := by decide +kernel
theorem dX52_trace_30 : decode cX52_trace 30 = .ok (.if_icmp .ne 10, 3) := by decide +kernel
theorem dX52_trace_33 : decode cX52_trace 33 = .ok (.aload_n 0, 1) := by decide +kernel
theorem dX52_trace_34 : decode cX52_trace 34 = .ok (.getfield 90, 3) := by decide +kernel
theorem dX52_trace_37 : decode cX52_trace 37 = .ok (.ifCond .ne 6, 3) := by decide +kernel
theorem dX52_trace_40 : decode cX52_trace 40 = .ok (.bipush (-6), 2) := by decide +kernel
theorem dX52_trace_42 : decode cX52_trace 42 = .ok (.ireturn, 1) := by decide +kernel
theorem dX52_trace_43 : decode cX52_trace 43 = .ok (.iconst 0, 1) := by decide +kernel
theorem dX52_trace_44 : decode cX52_trace 44 = .ok (.istore 5, 2) := by decide +kernel
theorem dX52_trace_46 : decode cX52_trace 46 = .ok (.iload 5, 2) := by decide +kernel
theorem dX52_trace_48 : decode cX52_trace 48 = .ok (.bipush 40, 2) := by decide +kernel
theorem dX52_trace_50 : decode cX52_trace 50 = .ok (.if_icmp .ge 17, 3) := by decide +kernel
theorem dX52_trace_53 : decode cX52_trace 53 = .ok (.aload_n 0, 1) := by decide +kernel
theorem dX52_trace_54 : decode cX52_trace 54 = .ok (.getfield 51, 3) := by decide +kernel
theorem dX52_trace_57 : decode cX52_trace 57 = .ok (.iload 5, 2) := by decide +kernel
theorem dX52_trace_59 : decode cX52_trace 59 = .ok (.iconst 0, 1) := by decide +kernel
theorem dX52_trace_60 : decode cX52_trace 60 = .ok (.bastore, 1) := by decide +kernel
theorem dX52_trace_61 : decode cX52_trace 61 = .ok (.iinc 5 1, 3) := by decide +kernel
theorem dX52_trace_64 : decode cX52_trace 64 = .ok (.goto (-18), 3) := by decide +kernel
theorem dX52_trace_67 : decode cX52_trace 67 = .ok (.aload_n 0, 1) := by decide +kernel
theorem dX52_trace_68 : decode cX52_trace 68 = .ok (.getfield 51, 3) := by decide +kernel
theorem dX52_trace_71 : decode cX52_trace 71 = .ok (.aload_n 0, 1) := by decide +kernel
theorem dX52_trace_72 : decode cX52_trace 72 = .ok (.getfield 48, 3) := by decide +kernel
theorem dX52_trace_75 : decode cX52_trace 75 = .ok (.aload_n 0, 1) := by decide +kernel
theorem dX52_trace_76 : decode cX52_trace 76 = .ok (.getfield 90, 3) := by decide +kernel
theorem dX52_trace_79 : decode cX52_trace 79 = .ok (.iconst 1, 1) := by decide +kernel
theorem dX52_trace_80 : decode cX52_trace 80 = .ok (.isub, 1) := by decide +kernel
theorem dX52_trace_81 : decode cX52_trace 81 = .ok (.iaload, 1) := by decide +kernel
theorem dX52_trace_82 : decode cX52_trace 82 = .ok (.iconst 1, 1) := by decide +kernel
theorem dX52_trace_83 : decode cX52_trace 83 = .ok (.bastore, 1) := by decide +kernel
theorem dX52_trace_84 : decode cX52_trace 84 = .ok (.aload_n 0, 1) := by decide +kernel
theorem dX52_trace_85 : decode cX52_trace 85 = .ok (.getfield 90, 3) := by decide +kernel
theorem dX52_trace_88 : decode cX52_trace 88 = .ok (.iconst 1, 1) := by decide +kernel
theorem dX52_trace_89 : decode cX52_trace 89 = .ok (.isub, 1) := by decide +kernel
theorem dX52_trace_90 : decode cX52_trace 90 = .ok (.istore 5, 2) := by decide +kernel
theorem dX52_trace_92 : decode cX52_trace 92 = .ok (.iload 5, 2) := by decide +kernel
theorem dX52_trace_94 : decode cX52_trace 94 = .ok (.ifCond .lt 104, 3) := by decide +kernel
theorem dX52_trace_97 : decode cX52_trace 97 = .ok (.aload_n 0, 1) := by decide +kernel
theorem dX52_trace_98 : decode cX52_trace 98 = .ok (.getfield 48, 3) := by decide +kernel
theorem dX52_trace_101 : decode cX52_trace 101 = .ok (.iload 5, 2) := by decide +kernel
theorem dX52_trace_103 : decode cX52_trace 103 = .ok (.iaload, 1) := by decide +kernel
theorem dX52_trace_104 : decode cX52_trace 104 = .ok (.istore 6, 2) := by decide +kernel
theorem dX52_trace_106 : decode cX52_trace 106 = .ok (.aload_n 0, 1) := by decide +kernel
theorem dX52_trace_107 : decode cX52_trace 107 = .ok (.getfield 51, 3) := by decide +kernel
theorem dX52_trace_110 : decode cX52_trace 110 = .ok (.iload 6, 2) := by decide +kernel
theorem dX52_trace_112 : decode cX52_trace 112 = .ok (.baload, 1) := by decide +kernel
theorem dX52_trace_113 : decode cX52_trace 113 = .ok (.ifCond .eq 79, 3) := by decide +kernel
theorem dX52_trace_116 : decode cX52_trace 116 = .ok (.aload_n 0, 1) := by decide +kernel
theorem dX52_trace_117 : decode cX52_trace 117 = .ok (.getfield 45, 3) := by decide +kernel
theorem dX52_trace_120 : decode cX52_trace 120 = .ok (.aload_n 0, 1) := by decide +kernel
theorem dX52_trace_121 : decode cX52_trace 121 = .ok (.getfield 13, 3) := by decide +kernel
theorem dX52_trace_124 : decode cX52_trace 124 = .ok (.iload 6, 2) := by decide +kernel
theorem dX52_trace_126 : decode cX52_trace 126 = .ok (.iaload, 1) := by decide +kernel
theorem dX52_trace_127 : decode cX52_trace 127 = .ok (.iaload, 1) := by decide +kernel
theorem dX52_trace_128 : decode cX52_trace 128 = .ok (.ifCond .lt 21, 3) := by decide +kernel
theorem dX52_trace_131 : decode cX52_trace 131 = .ok (.aload_n 0, 1) := by decide +kernel
theorem dX52_trace_132 : decode cX52_trace 132 = .ok (.getfield 51, 3) := by decide +kernel
theorem dX52_trace_135 : decode cX52_trace 135 = .ok (.aload_n 0, 1) := by decide +kernel
theorem dX52_trace_136 : decode cX52_trace 136 = .ok (.getfield 45, 3) := by decide +kernel
theorem dX52_trace_139 : decode cX52_trace 139 = .ok (.aload_n 0, 1) := by decide +kernel
theorem dX52_trace_140 : decode cX52_trace 140 = .ok (.getfield 13, 3) := by decide +kernel
theorem dX52_trace_143 : decode cX52_trace 143 = .ok (.iload 6, 2) := by decide +kernel
theorem dX52_trace_145 : decode cX52_trace 145 = .ok (.iaload, 1) := by decide +kernel
theorem dX52_trace_146 : decode cX52_trace 146 = .ok (.iaload, 1) := by decide +kernel
theorem dX52_trace_147 : decode cX52_trace 147 = .ok (.iconst 1, 1) := by decide +kernel
theorem dX52_trace_148 : decode cX52_trace 148 = .ok (.bastore, 1) := by decide +kernel
theorem dX52_trace_149 : decode cX52_trace 149 = .ok (.aload_n 0, 1) := by decide +kernel
theorem dX52_trace_150 : decode cX52_trace 150 = .ok (.getfield 17, 3) := by decide +kernel
theorem dX52_trace_153 : decode cX52_trace 153 = .ok (.iload 6, 2) := by decide +kernel
theorem dX52_trace_155 : decode cX52_trace 155 = .ok (.iaload, 1) := by decide +kernel
theorem dX52_trace_156 : decode cX52_trace 156 = .ok (.ifCond .lt 36, 3) := by decide +kernel
theorem dX52_trace_159 : decode cX52_trace 159 = .ok (.aload_n 0, 1) := by decide +kernel
theorem dX52_trace_160 : decode cX52_trace 160 = .ok (.getfield 45, 3) := by decide +kernel
theorem dX52_trace_163 : decode cX52_trace 163 = .ok (.aload_n 0, 1) := by decide +kernel
theorem dX52_trace_164 : decode cX52_trace 164 = .ok (.getfield 17, 3) := by decide +kernel
theorem dX52_trace_167 : decode cX52_trace 167 = .ok (.iload 6, 2) := by decide +kernel
theorem dX52_trace_169 : decode cX52_trace 169 = .ok (.iaload, 1) := by decide +kernel
theorem dX52_trace_170 : decode cX52_trace 170 = .ok (.iaload, 1) := by decide +kernel
theorem dX52_trace_171 : decode cX52_trace 171 = .ok (.ifCond .lt 21, 3) := by decide +kernel
theorem dX52_trace_174 : decode cX52_trace 174 = .ok (.aload_n 0, 1) := by decide +kernel
theorem dX52_trace_175 : decode cX52_trace 175 = .ok (.getfield 51, 3) := by decide +kernel
theorem dX52_trace_178 : decode cX52_trace 178 = .ok (.aload_n 0, 1) := by decide +kernel
theorem dX52_trace_179 : decode cX52_trace 179 = .ok (.getfield 45, 3) := by decide +kernel
theorem dX52_trace_182 : decode cX52_trace 182 = .ok (.aload_n 0, 1) := by decide +kernel
theorem dX52_trace_183 : decode cX52_trace 183 = .ok (.getfield 17, 3) := by decide +kernel
theorem dX52_trace_186 : decode cX52_trace 186 = .ok (.iload 6, 2) := by decide +kernel
theorem dX52_trace_188 : decode cX52_trace 188 = .ok (.iaload, 1) := by decide +kernel
theorem dX52_trace_189 : decode cX52_trace 189 = .ok (.iaload, 1) := by decide +kernel
theorem dX52_trace_190 : decode cX52_trace 190 = .ok (.iconst 1, 1) := by decide +kernel
theorem dX52_trace_191 : decode cX52_trace 191 = .ok (.bastore, 1) := by decide +kernel
theorem dX52_trace_192 : decode cX52_trace 192 = .ok (.iinc 5 (-1), 3) := by decide +kernel
theorem dX52_trace_195 : decode cX52_trace 195 = .ok (.goto (-103), 3) := by decide +kernel
theorem dX52_trace_198 : decode cX52_trace 198 = .ok (.iload_n 3, 1) := by decide +kernel
theorem dX52_trace_199 : decode cX52_trace 199 = .ok (.istore 5, 2) := by decide +kernel
theorem dX52_trace_201 : decode cX52_trace 201 = .ok (.iconst 0, 1) := by decide +kernel
theorem dX52_trace_202 : decode cX52_trace 202 = .ok (.istore 6, 2) := by decide +kernel
theorem dX52_trace_204 : decode cX52_trace 204 = .ok (.iload 6, 2) := by decide +kernel
theorem dX52_trace_206 : decode cX52_trace 206 = .ok (.aload_n 0, 1) := by decide +kernel
theorem dX52_trace_207 : decode cX52_trace 207 = .ok (.getfield 90, 3) := by decide +kernel
theorem dX52_trace_210 : decode cX52_trace 210 = .ok (.if_icmp .ge 60, 3) := by decide +kernel
theorem dX52_trace_213 : decode cX52_trace 213 = .ok (.iload_n 3, 1) := by decide +kernel
theorem dX52_trace_214 : decode cX52_trace 214 = .ok (.ifCond .lt 56, 3) := by decide +kernel
theorem dX52_trace_217 : decode cX52_trace 217 = .ok (.aload_n 0, 1) := by decide +kernel
theorem dX52_trace_218 : decode cX52_trace 218 = .ok (.getfield 51, 3) := by decide +kernel
theorem dX52_trace_221 : decode cX52_trace 221 = .ok (.aload_n 0, 1) := by decide +kernel
theorem dX52_trace_222 : decode cX52_trace 222 = .ok (.getfield 48, 3) := by decide +kernel
theorem dX52_trace_225 : decode cX52_trace 225 = .ok (.iload 6, 2) := by decide +kernel
theorem dX52_trace_227 : decode cX52_trace 227 = .ok (.iaload, 1) := by decide +kernel
theorem dX52_trace_228 : decode cX52_trace 228 = .ok (.baload, 1) := by decide +kernel
theorem dX52_trace_229 : decode cX52_trace 229 = .ok (.istore 7, 2) := by decide +kernel
theorem dX52_trace_231 : decode cX52_trace 231 = .ok (.iload 7, 2) := by decide +kernel
theorem dX52_trace_233 : decode cX52_trace 233 = .ok (.ifCond .eq 16, 3) := by decide +kernel
theorem dX52_trace_236 : decode cX52_trace 236 = .ok (.iload 5, 2) := by decide +kernel
theorem dX52_trace_238 : decode cX52_trace 238 = .ok (.ifCond .ne 11, 3) := by decide +kernel
theorem dX52_trace_241 : decode cX52_trace 241 = .ok (.aload_n 0, 1) := by decide +kernel
theorem dX52_trace_242 : decode cX52_trace 242 = .ok (.getfield 48, 3) := by decide +kernel
theorem dX52_trace_245 : decode cX52_trace 245 = .ok (.iload 6, 2) := by decide +kernel
theorem dX52_trace_247 : decode cX52_trace 247 = .ok (.iaload, 1) := by decide +kernel
theorem dX52_trace_248 : decode cX52_trace 248 = .ok (.ireturn, 1) := by decide +kernel
theorem dX52_trace_249 : decode cX52_trace 249 = .ok (.iload 5, 2) := by decide +kernel
theorem dX52_trace_251 : decode cX52_trace 251 = .ok (.iload 7, 2) := by decide +kernel
theorem dX52_trace_253 : decode cX52_trace 253 = .ok (.ifCond .eq 7, 3) := by decide +kernel
theorem dX52_trace_256 : decode cX52_trace 256 = .ok (.iconst 1, 1) := by decide +kernel
theorem dX52_trace_257 : decode cX52_trace 257 = .ok (.goto 4, 3) := by decide +kernel
theorem dX52_trace_260 : decode cX52_trace 260 = .ok (.iconst 0, 1) := by decide +kernel
theorem dX52_trace_261 : decode cX52_trace 261 = .ok (.isub, 1) := by decide +kernel
theorem dX52_trace_262 : decode cX52_trace 262 = .ok (.istore 5, 2) := by decide +kernel
theorem dX52_trace_264 : decode cX52_trace 264 = .ok (.iinc 6 1, 3) := by decide +kernel
theorem dX52_trace_267 : decode cX52_trace 267 = .ok (.goto (-63), 3) := by decide +kernel
theorem dX52_trace_270 : decode cX52_trace 270 = .ok (.bipush (-6), 2) := by decide +kernel
theorem dX52_trace_272 : decode cX52_trace 272 = .ok (.ireturn, 1) := by decide +kernel
theorem in_X52 : ∀ w ∈ wsX520, w ∈ lw_all := lw_in wsX520 [6404, 6406, 6408, 6410, 6412, 6414, 6416, 6418, 6420, 6422, 6424, 6426, 6428, 6430, 6432, 6434, 6436, 6438, 6440, 6442, 6444, 6446, 6448] (by decide +kernel) (by decide +kernel)
theorem q547 : (Jvm.Cond.initialized "KnowHouseModel$ClassifySortModel") ∈ lw_all := lw_g (lw_at lw_m1 69 rfl) rfl
theorem q6382 : (Jvm.Cond.fieldLink "KnowHouseModel$ClassifySortModel" (60 : Nat) "KnowHouseModel$ClassifySortModel" "classes" "I") ∈ lw_all := lw_g (lw_at lw_m25 144 rfl) rfl
theorem q6383 : (Jvm.Cond.fieldLink "KnowHouseModel$ClassifySortModel" (104 : Nat) "KnowHouseModel$ClassifySortModel" "things" "I") ∈ lw_all := lw_g (lw_at lw_m25 145 rfl) rfl
theorem q6384 : (Jvm.Cond.fieldLink "KnowHouseModel$ClassifySortModel" (67 : Nat) "KnowHouseModel$ClassifySortModel" "axioms" "I") ∈ lw_all := lw_g (lw_at lw_m25 146 rfl) rfl
theorem q6385 : (Jvm.Cond.fieldLink "KnowHouseModel$ClassifySortModel" (7 : Nat) "KnowHouseModel$ClassifySortModel" "fuel" "I") ∈ lw_all := lw_g (lw_at lw_m25 147 rfl) rfl
theorem q6386 : (Jvm.Cond.fieldLink "KnowHouseModel$ClassifySortModel" (145 : Nat) "KnowHouseModel$ClassifySortModel" "questions" "I") ∈ lw_all := lw_g (lw_at lw_m25 148 rfl) rfl
theorem q6387 : (Jvm.Cond.fieldLink "KnowHouseModel$ClassifySortModel" (97 : Nat) "KnowHouseModel$ClassifySortModel" "sorted" "Z") ∈ lw_all := lw_g (lw_at lw_m25 149 rfl) rfl
theorem q6388 : (Jvm.Cond.fieldLink "KnowHouseModel$ClassifySortModel" (13 : Nat) "KnowHouseModel$ClassifySortModel" "left" "[I") ∈ lw_all := lw_g (lw_at lw_m25 150 rfl) rfl
theorem q6389 : (Jvm.Cond.fieldLink "KnowHouseModel$ClassifySortModel" (17 : Nat) "KnowHouseModel$ClassifySortModel" "other" "[I") ∈ lw_all := lw_g (lw_at lw_m25 151 rfl) rfl
theorem q6390 : (Jvm.Cond.fieldLink "KnowHouseModel$ClassifySortModel" (20 : Nat) "KnowHouseModel$ClassifySortModel" "right" "[I") ∈ lw_all := lw_g (lw_at lw_m25 152 rfl) rfl
theorem q6391 : (Jvm.Cond.fieldLink "KnowHouseModel$ClassifySortModel" (23 : Nat) "KnowHouseModel$ClassifySortModel" "there" "[Z") ∈ lw_all := lw_g (lw_at lw_m25 153 rfl) rfl
theorem q6392 : (Jvm.Cond.fieldLink "KnowHouseModel$ClassifySortModel" (27 : Nat) "KnowHouseModel$ClassifySortModel" "member" "[Z") ∈ lw_all := lw_g (lw_at lw_m25 154 rfl) rfl
theorem q6393 : (Jvm.Cond.fieldLink "KnowHouseModel$ClassifySortModel" (30 : Nat) "KnowHouseModel$ClassifySortModel" "state" "[I") ∈ lw_all := lw_g (lw_at lw_m25 155 rfl) rfl
theorem q6394 : (Jvm.Cond.fieldLink "KnowHouseModel$ClassifySortModel" (33 : Nat) "KnowHouseModel$ClassifySortModel" "before" "[I") ∈ lw_all := lw_g (lw_at lw_m25 156 rfl) rfl
theorem q6395 : (Jvm.Cond.fieldLink "KnowHouseModel$ClassifySortModel" (36 : Nat) "KnowHouseModel$ClassifySortModel" "placed" "[Z") ∈ lw_all := lw_g (lw_at lw_m25 157 rfl) rfl
theorem q6396 : (Jvm.Cond.fieldLink "KnowHouseModel$ClassifySortModel" (39 : Nat) "KnowHouseModel$ClassifySortModel" "looked" "[Z") ∈ lw_all := lw_g (lw_at lw_m25 158 rfl) rfl
theorem q6397 : (Jvm.Cond.fieldLink "KnowHouseModel$ClassifySortModel" (42 : Nat) "KnowHouseModel$ClassifySortModel" "fact" "[Z") ∈ lw_all := lw_g (lw_at lw_m25 159 rfl) rfl
theorem q6398 : (Jvm.Cond.fieldLink "KnowHouseModel$ClassifySortModel" (45 : Nat) "KnowHouseModel$ClassifySortModel" "maker" "[I") ∈ lw_all := lw_g (lw_at lw_m25 160 rfl) rfl
theorem q6399 : (Jvm.Cond.fieldLink "KnowHouseModel$ClassifySortModel" (48 : Nat) "KnowHouseModel$ClassifySortModel" "fired" "[I") ∈ lw_all := lw_g (lw_at lw_m25 161 rfl) rfl
theorem q6400 : (Jvm.Cond.fieldLink "KnowHouseModel$ClassifySortModel" (90 : Nat) "KnowHouseModel$ClassifySortModel" "firedCount" "I") ∈ lw_all := lw_g (lw_at lw_m25 162 rfl) rfl
theorem q6401 : (Jvm.Cond.fieldLink "KnowHouseModel$ClassifySortModel" (51 : Nat) "KnowHouseModel$ClassifySortModel" "needed" "[Z") ∈ lw_all := lw_g (lw_at lw_m25 163 rfl) rfl
theorem q6402 : (Jvm.Cond.fieldLink "KnowHouseModel$ClassifySortModel" (54 : Nat) "KnowHouseModel$ClassifySortModel" "module" "[Z") ∈ lw_all := lw_g (lw_at lw_m25 164 rfl) rfl
theorem q6403 : (Jvm.Cond.fieldLink "KnowHouseModel$ClassifySortModel" (125 : Nat) "KnowHouseModel$ClassifySortModel" "asked" "I") ∈ lw_all := lw_g (lw_at lw_m25 165 rfl) rfl
theorem q7531 : (Jvm.Cond.methodLink "KnowHouseModel$ClassifySortModel" (63 : Nat) ({ cls := "KnowHouseModel$ClassifySortModel", name := "isClass", desc := "(I)Z" } : Jvm.MethodName)) ∈ lw_all := lw_g (lw_at lw_m30 93 rfl) rfl
theorem q7533 : (Jvm.Cond.instanceMethod ({ cls := "KnowHouseModel$ClassifySortModel", name := "isClass", desc := "(I)Z" } : Jvm.MethodName)) ∈ lw_all := lw_g (lw_at lw_m30 95 rfl) rfl
theorem q7534 : (Jvm.Cond.code ({ cls := "KnowHouseModel$ClassifySortModel", name := "isClass", desc := "(I)Z" } : Jvm.MethodName) prog_81_method_3_code (2 : Nat) (Option.some Jvm.ClassFile.FieldType.boolean)) ∈ lw_all := lw_g (lw_at lw_m30 96 rfl) rfl
theorem q7535 : (Jvm.Cond.methodLink "KnowHouseModel$ClassifySortModel" (110 : Nat) ({ cls := "KnowHouseModel$ClassifySortModel", name := "forget", desc := "(II)V" } : Jvm.MethodName)) ∈ lw_all := lw_g (lw_at lw_m30 97 rfl) rfl
theorem q7537 : (Jvm.Cond.instanceMethod ({ cls := "KnowHouseModel$ClassifySortModel", name := "forget", desc := "(II)V" } : Jvm.MethodName)) ∈ lw_all := lw_g (lw_at lw_m30 99 rfl) rfl
theorem q7538 : (Jvm.Cond.code ({ cls := "KnowHouseModel$ClassifySortModel", name := "forget", desc := "(II)V" } : Jvm.MethodName) prog_81_method_18_code (6 : Nat) (Option.none : Option Jvm.ClassFile.FieldType)) ∈ lw_all := lw_g (lw_at lw_m30 100 rfl) rfl
theorem q7539 : (Jvm.Cond.methodLink "KnowHouseModel$ClassifySortModel" (107 : Nat) ({ cls := "KnowHouseModel$ClassifySortModel", name := "isTouched", desc := "(II)Z" } : Jvm.MethodName)) ∈ lw_all := lw_g (lw_at lw_m30 101 rfl) rfl
theorem q7541 : (Jvm.Cond.instanceMethod ({ cls := "KnowHouseModel$ClassifySortModel", name := "isTouched", desc := "(II)Z" } : Jvm.MethodName)) ∈ lw_all := lw_g (lw_at lw_m30 103 rfl) rfl
theorem q7542 : (Jvm.Cond.code ({ cls := "KnowHouseModel$ClassifySortModel", name := "isTouched", desc := "(II)Z" } : Jvm.MethodName) prog_81_method_17_code (7 : Nat) (Option.some Jvm.ClassFile.FieldType.boolean)) ∈ lw_all := lw_g (lw_at lw_m30 104 rfl) rfl
theorem q7543 : (Jvm.Cond.methodLink "KnowHouseModel$ClassifySortModel" (101 : Nat) ({ cls := "KnowHouseModel$ClassifySortModel", name := "close", desc := "()V" } : Jvm.MethodName)) ∈ lw_all := lw_g (lw_at lw_m30 105 rfl) rfl
theorem q7545 : (Jvm.Cond.instanceMethod ({ cls := "KnowHouseModel$ClassifySortModel", name := "close", desc := "()V" } : Jvm.MethodName)) ∈ lw_all := lw_g (lw_at lw_m30 107 rfl) rfl
theorem q7546 : (Jvm.Cond.code ({ cls := "KnowHouseModel$ClassifySortModel", name := "close", desc := "()V" } : Jvm.MethodName) prog_81_method_11_code (2 : Nat) (Option.none : Option Jvm.ClassFile.FieldType)) ∈ lw_all := lw_g (lw_at lw_m30 108 rfl) rfl
theorem q7547 : (Jvm.Cond.methodLink "KnowHouseModel$ClassifySortModel" (83 : Nat) ({ cls := "KnowHouseModel$ClassifySortModel", name := "tellItself", desc := "()V" } : Jvm.MethodName)) ∈ lw_all := lw_g (lw_at lw_m30 109 rfl) rfl
theorem q7549 : (Jvm.Cond.instanceMethod ({ cls := "KnowHouseModel$ClassifySortModel", name := "tellItself", desc := "()V" } : Jvm.MethodName)) ∈ lw_all := lw_g (lw_at lw_m30 111 rfl) rfl
theorem q7550 : (Jvm.Cond.code ({ cls := "KnowHouseModel$ClassifySortModel", name := "tellItself", desc := "()V" } : Jvm.MethodName) prog_81_method_7_code (3 : Nat) (Option.none : Option Jvm.ClassFile.FieldType)) ∈ lw_all := lw_g (lw_at lw_m30 112 rfl) rfl
theorem q7551 : (Jvm.Cond.methodLink "KnowHouseModel$ClassifySortModel" (70 : Nat) ({ cls := "KnowHouseModel$ClassifySortModel", name := "isItself", desc := "(II)Z" } : Jvm.MethodName)) ∈ lw_all := lw_g (lw_at lw_m30 113 rfl) rfl
theorem q7553 : (Jvm.Cond.instanceMethod ({ cls := "KnowHouseModel$ClassifySortModel", name := "isItself", desc := "(II)Z" } : Jvm.MethodName)) ∈ lw_all := lw_g (lw_at lw_m30 115 rfl) rfl
theorem q7554 : (Jvm.Cond.code ({ cls := "KnowHouseModel$ClassifySortModel", name := "isItself", desc := "(II)Z" } : Jvm.MethodName) prog_81_method_6_code (5 : Nat) (Option.some Jvm.ClassFile.FieldType.boolean)) ∈ lw_all := lw_g (lw_at lw_m30 116 rfl) rfl
theorem q7555 : (Jvm.Cond.methodLink "KnowHouseModel$ClassifySortModel" (86 : Nat) ({ cls := "KnowHouseModel$ClassifySortModel", name := "closeOnce", desc := "()Z" } : Jvm.MethodName)) ∈ lw_all := lw_g (lw_at lw_m30 117 rfl) rfl
theorem q7557 : (Jvm.Cond.instanceMethod ({ cls := "KnowHouseModel$ClassifySortModel", name := "closeOnce", desc := "()Z" } : Jvm.MethodName)) ∈ lw_all := lw_g (lw_at lw_m30 119 rfl) rfl
theorem q7558 : (Jvm.Cond.code ({ cls := "KnowHouseModel$ClassifySortModel", name := "closeOnce", desc := "()Z" } : Jvm.MethodName) prog_81_method_9_code (5 : Nat) (Option.some Jvm.ClassFile.FieldType.boolean)) ∈ lw_all := lw_g (lw_at lw_m30 120 rfl) rfl
theorem q7559 : (Jvm.Cond.methodLink "KnowHouseModel$ClassifySortModel" (74 : Nat) ({ cls := "KnowHouseModel$ClassifySortModel", name := "isHere", desc := "(I)Z" } : Jvm.MethodName)) ∈ lw_all := lw_g (lw_at lw_m30 121 rfl) rfl
theorem q7561 : (Jvm.Cond.instanceMethod ({ cls := "KnowHouseModel$ClassifySortModel", name := "isHere", desc := "(I)Z" } : Jvm.MethodName)) ∈ lw_all := lw_g (lw_at lw_m30 123 rfl) rfl
theorem q7562 : (Jvm.Cond.code ({ cls := "KnowHouseModel$ClassifySortModel", name := "isHere", desc := "(I)Z" } : Jvm.MethodName) prog_81_method_8_code (2 : Nat) (Option.some Jvm.ClassFile.FieldType.boolean)) ∈ lw_all := lw_g (lw_at lw_m30 124 rfl) rfl
theorem q7563 : (Jvm.Cond.methodLink "KnowHouseModel$ClassifySortModel" (77 : Nat) ({ cls := "KnowHouseModel$ClassifySortModel", name := "below", desc := "(II)Z" } : Jvm.MethodName)) ∈ lw_all := lw_g (lw_at lw_m30 125 rfl) rfl
theorem q7565 : (Jvm.Cond.instanceMethod ({ cls := "KnowHouseModel$ClassifySortModel", name := "below", desc := "(II)Z" } : Jvm.MethodName)) ∈ lw_all := lw_g (lw_at lw_m30 127 rfl) rfl
theorem q7566 : (Jvm.Cond.code ({ cls := "KnowHouseModel$ClassifySortModel", name := "below", desc := "(II)Z" } : Jvm.MethodName) prog_81_method_5_code (3 : Nat) (Option.some Jvm.ClassFile.FieldType.boolean)) ∈ lw_all := lw_g (lw_at lw_m30 128 rfl) rfl
theorem q7567 : (Jvm.Cond.methodLink "KnowHouseModel$ClassifySortModel" (80 : Nat) ({ cls := "KnowHouseModel$ClassifySortModel", name := "spreadNo", desc := "(II)Z" } : Jvm.MethodName)) ∈ lw_all := lw_g (lw_at lw_m30 129 rfl) rfl
theorem q7569 : (Jvm.Cond.instanceMethod ({ cls := "KnowHouseModel$ClassifySortModel", name := "spreadNo", desc := "(II)Z" } : Jvm.MethodName)) ∈ lw_all := lw_g (lw_at lw_m30 131 rfl) rfl
theorem q7570 : (Jvm.Cond.code ({ cls := "KnowHouseModel$ClassifySortModel", name := "spreadNo", desc := "(II)Z" } : Jvm.MethodName) prog_81_method_10_code (7 : Nat) (Option.some Jvm.ClassFile.FieldType.boolean)) ∈ lw_all := lw_g (lw_at lw_m30 132 rfl) rfl
theorem q7618 : (Jvm.Cond.methodLink "KnowHouseModel$ClassifySortModel" (138 : Nat) ({ cls := "KnowHouseModel$ClassifySortModel", name := "look", desc := "(II)Z" } : Jvm.MethodName)) ∈ lw_all := lw_g (lw_at lw_m30 180 rfl) rfl
theorem q7620 : (Jvm.Cond.instanceMethod ({ cls := "KnowHouseModel$ClassifySortModel", name := "look", desc := "(II)Z" } : Jvm.MethodName)) ∈ lw_all := lw_g (lw_at lw_m30 182 rfl) rfl
theorem q7621 : (Jvm.Cond.code ({ cls := "KnowHouseModel$ClassifySortModel", name := "look", desc := "(II)Z" } : Jvm.MethodName) prog_81_method_25_code (3 : Nat) (Option.some Jvm.ClassFile.FieldType.boolean)) ∈ lw_all := lw_g (lw_at lw_m30 183 rfl) rfl
theorem q7622 : (Jvm.Cond.methodLink "KnowHouseModel$ClassifySortModel" (121 : Nat) ({ cls := "KnowHouseModel$ClassifySortModel", name := "reasonAlone", desc := "(II)I" } : Jvm.MethodName)) ∈ lw_all := lw_g (lw_at lw_m30 184 rfl) rfl
theorem q7624 : (Jvm.Cond.instanceMethod ({ cls := "KnowHouseModel$ClassifySortModel", name := "reasonAlone", desc := "(II)I" } : Jvm.MethodName)) ∈ lw_all := lw_g (lw_at lw_m30 186 rfl) rfl
theorem q7625 : (Jvm.Cond.code ({ cls := "KnowHouseModel$ClassifySortModel", name := "reasonAlone", desc := "(II)I" } : Jvm.MethodName) prog_81_method_13_code (4 : Nat) (Option.some Jvm.ClassFile.FieldType.int)) ∈ lw_all := lw_g (lw_at lw_m30 187 rfl) rfl
theorem q7626 : (Jvm.Cond.methodLink "KnowHouseModel$ClassifySortModel" (93 : Nat) ({ cls := "KnowHouseModel$ClassifySortModel", name := "reason", desc := "(I)I" } : Jvm.MethodName)) ∈ lw_all := lw_g (lw_at lw_m30 188 rfl) rfl
theorem q7628 : (Jvm.Cond.instanceMethod ({ cls := "KnowHouseModel$ClassifySortModel", name := "reason", desc := "(I)I" } : Jvm.MethodName)) ∈ lw_all := lw_g (lw_at lw_m30 190 rfl) rfl
theorem q7629 : (Jvm.Cond.code ({ cls := "KnowHouseModel$ClassifySortModel", name := "reason", desc := "(I)I" } : Jvm.MethodName) prog_81_method_12_code (5 : Nat) (Option.some Jvm.ClassFile.FieldType.int)) ∈ lw_all := lw_g (lw_at lw_m30 191 rfl) rfl
theorem q7630 : (Jvm.Cond.methodLink "KnowHouseModel$ClassifySortModel" (141 : Nat) ({ cls := "KnowHouseModel$ClassifySortModel", name := "go", desc := "(IZ)V" } : Jvm.MethodName)) ∈ lw_all := lw_g (lw_at lw_m30 192 rfl) rfl
theorem q7632 : (Jvm.Cond.instanceMethod ({ cls := "KnowHouseModel$ClassifySortModel", name := "go", desc := "(IZ)V" } : Jvm.MethodName)) ∈ lw_all := lw_g (lw_at lw_m30 194 rfl) rfl
theorem q7633 : (Jvm.Cond.code ({ cls := "KnowHouseModel$ClassifySortModel", name := "go", desc := "(IZ)V" } : Jvm.MethodName) prog_81_method_29_code (5 : Nat) (Option.none : Option Jvm.ClassFile.FieldType)) ∈ lw_all := lw_g (lw_at lw_m30 195 rfl) rfl
theorem q7634 : (Jvm.Cond.methodLink "KnowHouseModel$ClassifySortModel" (134 : Nat) ({ cls := "KnowHouseModel$ClassifySortModel", name := "nextFor", desc := "(IZ)I" } : Jvm.MethodName)) ∈ lw_all := lw_g (lw_at lw_m30 196 rfl) rfl
theorem q7636 : (Jvm.Cond.instanceMethod ({ cls := "KnowHouseModel$ClassifySortModel", name := "nextFor", desc := "(IZ)I" } : Jvm.MethodName)) ∈ lw_all := lw_g (lw_at lw_m30 198 rfl) rfl
theorem q7637 : (Jvm.Cond.code ({ cls := "KnowHouseModel$ClassifySortModel", name := "nextFor", desc := "(IZ)I" } : Jvm.MethodName) prog_81_method_28_code (7 : Nat) (Option.some Jvm.ClassFile.FieldType.int)) ∈ lw_all := lw_g (lw_at lw_m30 199 rfl) rfl
theorem q7638 : (Jvm.Cond.methodLink "KnowHouseModel$ClassifySortModel" (131 : Nat) ({ cls := "KnowHouseModel$ClassifySortModel", name := "isDirect", desc := "(II)Z" } : Jvm.MethodName)) ∈ lw_all := lw_g (lw_at lw_m30 200 rfl) rfl
theorem q7640 : (Jvm.Cond.instanceMethod ({ cls := "KnowHouseModel$ClassifySortModel", name := "isDirect", desc := "(II)Z" } : Jvm.MethodName)) ∈ lw_all := lw_g (lw_at lw_m30 202 rfl) rfl
theorem q7641 : (Jvm.Cond.code ({ cls := "KnowHouseModel$ClassifySortModel", name := "isDirect", desc := "(II)Z" } : Jvm.MethodName) prog_81_method_27_code (5 : Nat) (Option.some Jvm.ClassFile.FieldType.boolean)) ∈ lw_all := lw_g (lw_at lw_m30 203 rfl) rfl
theorem q7642 : (Jvm.Cond.methodLink "KnowHouseModel$ClassifySortModel" (128 : Nat) ({ cls := "KnowHouseModel$ClassifySortModel", name := "isUnder", desc := "(II)Z" } : Jvm.MethodName)) ∈ lw_all := lw_g (lw_at lw_m30 204 rfl) rfl
theorem q7644 : (Jvm.Cond.instanceMethod ({ cls := "KnowHouseModel$ClassifySortModel", name := "isUnder", desc := "(II)Z" } : Jvm.MethodName)) ∈ lw_all := lw_g (lw_at lw_m30 206 rfl) rfl
theorem q7645 : (Jvm.Cond.code ({ cls := "KnowHouseModel$ClassifySortModel", name := "isUnder", desc := "(II)Z" } : Jvm.MethodName) prog_81_method_26_code (3 : Nat) (Option.some Jvm.ClassFile.FieldType.boolean)) ∈ lw_all := lw_g (lw_at lw_m30 207 rfl) rfl
theorem q7650 : (Jvm.Cond.methodLink "KnowHouseModel$ClassifySortModel" (114 : Nat) ({ cls := "KnowHouseModel$ClassifySortModel", name := "openPairs", desc := "()I" } : Jvm.MethodName)) ∈ lw_all := lw_g (lw_at lw_m30 212 rfl) rfl
theorem q7652 : (Jvm.Cond.instanceMethod ({ cls := "KnowHouseModel$ClassifySortModel", name := "openPairs", desc := "()I" } : Jvm.MethodName)) ∈ lw_all := lw_g (lw_at lw_m30 214 rfl) rfl
theorem q7653 : (Jvm.Cond.code ({ cls := "KnowHouseModel$ClassifySortModel", name := "openPairs", desc := "()I" } : Jvm.MethodName) prog_81_method_21_code (3 : Nat) (Option.some Jvm.ClassFile.FieldType.int)) ∈ lw_all := lw_g (lw_at lw_m30 215 rfl) rfl
theorem q7658 : (Jvm.Cond.methodLink "KnowHouseModel$ClassifySortModel" (148 : Nat) ({ cls := "KnowHouseModel$ClassifySortModel", name := "isSecond", desc := "(I)Z" } : Jvm.MethodName)) ∈ lw_all := lw_g (lw_at lw_m30 220 rfl) rfl
theorem q7660 : (Jvm.Cond.instanceMethod ({ cls := "KnowHouseModel$ClassifySortModel", name := "isSecond", desc := "(I)Z" } : Jvm.MethodName)) ∈ lw_all := lw_g (lw_at lw_m30 222 rfl) rfl
theorem q7661 : (Jvm.Cond.code ({ cls := "KnowHouseModel$ClassifySortModel", name := "isSecond", desc := "(I)Z" } : Jvm.MethodName) prog_81_method_31_code (4 : Nat) (Option.some Jvm.ClassFile.FieldType.boolean)) ∈ lw_all := lw_g (lw_at lw_m30 223 rfl) rfl
theorem q7662 : (Jvm.Cond.methodLink "KnowHouseModel$ClassifySortModel" (151 : Nat) ({ cls := "KnowHouseModel$ClassifySortModel", name := "hasBelow", desc := "(I)Z" } : Jvm.MethodName)) ∈ lw_all := lw_g (lw_at lw_m30 224 rfl) rfl
theorem q7664 : (Jvm.Cond.instanceMethod ({ cls := "KnowHouseModel$ClassifySortModel", name := "hasBelow", desc := "(I)Z" } : Jvm.MethodName)) ∈ lw_all := lw_g (lw_at lw_m30 226 rfl) rfl
theorem q7665 : (Jvm.Cond.code ({ cls := "KnowHouseModel$ClassifySortModel", name := "hasBelow", desc := "(I)Z" } : Jvm.MethodName) prog_81_method_32_code (4 : Nat) (Option.some Jvm.ClassFile.FieldType.boolean)) ∈ lw_all := lw_g (lw_at lw_m30 227 rfl) rfl
theorem q8561 : (Jvm.Cond.methodLink "KnowHouseModel$ClassifySortModel" (118 : Nat) ({ cls := "KnowHouseModel$ClassifySortModel", name := "goalOf", desc := "(I)I" } : Jvm.MethodName)) ∈ lw_all := lw_g (lw_at lw_m34 163 rfl) rfl
theorem q8563 : (Jvm.Cond.instanceMethod ({ cls := "KnowHouseModel$ClassifySortModel", name := "goalOf", desc := "(I)I" } : Jvm.MethodName)) ∈ lw_all := lw_g (lw_at lw_m34 165 rfl) rfl
theorem q8564 : (Jvm.Cond.code ({ cls := "KnowHouseModel$ClassifySortModel", name := "goalOf", desc := "(I)I" } : Jvm.MethodName) prog_81_method_4_code (2 : Nat) (Option.some Jvm.ClassFile.FieldType.int)) ∈ lw_all := lw_g (lw_at lw_m34 166 rfl) rfl
theorem q8589 : (Jvm.Cond.methodLink "KnowHouseModel$ClassifySortModel" (154 : Nat) ({ cls := "KnowHouseModel$ClassifySortModel", name := "reasonThing", desc := "(II)I" } : Jvm.MethodName)) ∈ lw_all := lw_g (lw_at lw_m34 191 rfl) rfl
theorem q8591 : (Jvm.Cond.instanceMethod ({ cls := "KnowHouseModel$ClassifySortModel", name := "reasonThing", desc := "(II)I" } : Jvm.MethodName)) ∈ lw_all := lw_g (lw_at lw_m34 193 rfl) rfl
theorem q8592 : (Jvm.Cond.code ({ cls := "KnowHouseModel$ClassifySortModel", name := "reasonThing", desc := "(II)I" } : Jvm.MethodName) prog_81_method_14_code (4 : Nat) (Option.some Jvm.ClassFile.FieldType.int)) ∈ lw_all := lw_g (lw_at lw_m34 194 rfl) rfl
theorem q8593 : (Jvm.Cond.methodLink "KnowHouseModel$ClassifySortModel" (157 : Nat) ({ cls := "KnowHouseModel$ClassifySortModel", name := "isIn", desc := "(II)Z" } : Jvm.MethodName)) ∈ lw_all := lw_g (lw_at lw_m34 195 rfl) rfl
theorem q8595 : (Jvm.Cond.instanceMethod ({ cls := "KnowHouseModel$ClassifySortModel", name := "isIn", desc := "(II)Z" } : Jvm.MethodName)) ∈ lw_all := lw_g (lw_at lw_m34 197 rfl) rfl
theorem q8596 : (Jvm.Cond.code ({ cls := "KnowHouseModel$ClassifySortModel", name := "isIn", desc := "(II)Z" } : Jvm.MethodName) prog_81_method_39_code (3 : Nat) (Option.some Jvm.ClassFile.FieldType.boolean)) ∈ lw_all := lw_g (lw_at lw_m34 198 rfl) rfl
theorem gX52_63 : GoodIn lw_all (wsV RX52 63 RX52 yX52_isClass (ws_ yX52_isClass cX52_isClass 2 (Option.some Jvm.ClassFile.FieldType.boolean))) := lw_V q7531 q7533 qs286 q547 q7534
theorem gX52_70 : GoodIn lw_all (wsV RX52 70 RX52 yX52_isItself (ws_ yX52_isItself cX52_isItself 5 (Option.some Jvm.ClassFile.FieldType.boolean))) := lw_V q7551 q7553 qs291 q547 q7554
theorem gX52_74 : GoodIn lw_all (wsV RX52 74 RX52 yX52_isHere (ws_ yX52_isHere cX52_isHere 2 (Option.some Jvm.ClassFile.FieldType.boolean))) := lw_V q7559 q7561 qs293 q547 q7562
theorem gX52_77 : GoodIn lw_all (wsV RX52 77 RX52 yX52_below (ws_ yX52_below cX52_below 3 (Option.some Jvm.ClassFile.FieldType.boolean))) := lw_V q7563 q7565 qs294 q547 q7566
theorem gX52_80 : GoodIn lw_all (wsV RX52 80 RX52 yX52_spreadNo (ws_ yX52_spreadNo cX52_spreadNo 7 (Option.some Jvm.ClassFile.FieldType.boolean))) := lw_V q7567 q7569 qs295 q547 q7570
theorem gX52_83 : GoodIn lw_all (wsV RX52 83 RX52 yX52_tellItself (ws_ yX52_tellItself cX52_tellItself 3 (Option.none : Option Jvm.ClassFile.FieldType))) := lw_V q7547 q7549 qs290 q547 q7550
theorem gX52_86 : GoodIn lw_all (wsV RX52 86 RX52 yX52_closeOnce (ws_ yX52_closeOnce cX52_closeOnce 5 (Option.some Jvm.ClassFile.FieldType.boolean))) := lw_V q7555 q7557 qs292 q547 q7558
theorem gX52_93 : GoodIn lw_all (wsV RX52 93 RX52 yX52_reason (ws_ yX52_reason cX52_reason 5 (Option.some Jvm.ClassFile.FieldType.int))) := lw_V q7626 q7628 qs302 q547 q7629
theorem gX52_101 : GoodIn lw_all (wsV RX52 101 RX52 yX52_close (ws_ yX52_close cX52_close 2 (Option.none : Option Jvm.ClassFile.FieldType))) := lw_V q7543 q7545 qs289 q547 q7546
theorem gX52_107 : GoodIn lw_all (wsV RX52 107 RX52 yX52_isTouched (ws_ yX52_isTouched cX52_isTouched 7 (Option.some Jvm.ClassFile.FieldType.boolean))) := lw_V q7539 q7541 qs288 q547 q7542
theorem gX52_110 : GoodIn lw_all (wsV RX52 110 RX52 yX52_forget (ws_ yX52_forget cX52_forget 6 (Option.none : Option Jvm.ClassFile.FieldType))) := lw_V q7535 q7537 qs287 q547 q7538
theorem gX52_114 : GoodIn lw_all (wsV RX52 114 RX52 yX52_openPairs (ws_ yX52_openPairs cX52_openPairs 3 (Option.some Jvm.ClassFile.FieldType.int))) := lw_V q7650 q7652 qs307 q547 q7653
theorem gX52_118 : GoodIn lw_all (wsV RX52 118 RX52 yX52_goalOf (ws_ yX52_goalOf cX52_goalOf 2 (Option.some Jvm.ClassFile.FieldType.int))) := lw_V q8561 q8563 qs433 q547 q8564
theorem gX52_121 : GoodIn lw_all (wsV RX52 121 RX52 yX52_reasonAlone (ws_ yX52_reasonAlone cX52_reasonAlone 4 (Option.some Jvm.ClassFile.FieldType.int))) := lw_V q7622 q7624 qs301 q547 q7625
theorem gX52_128 : GoodIn lw_all (wsV RX52 128 RX52 yX52_isUnder (ws_ yX52_isUnder cX52_isUnder 3 (Option.some Jvm.ClassFile.FieldType.boolean))) := lw_V q7642 q7644 qs306 q547 q7645
theorem gX52_131 : GoodIn lw_all (wsV RX52 131 RX52 yX52_isDirect (ws_ yX52_isDirect cX52_isDirect 5 (Option.some Jvm.ClassFile.FieldType.boolean))) := lw_V q7638 q7640 qs305 q547 q7641
theorem gX52_134 : GoodIn lw_all (wsV RX52 134 RX52 yX52_nextFor (ws_ yX52_nextFor cX52_nextFor 7 (Option.some Jvm.ClassFile.FieldType.int))) := lw_V q7634 q7636 qs304 q547 q7637
theorem gX52_138 : GoodIn lw_all (wsV RX52 138 RX52 yX52_look (ws_ yX52_look cX52_look 3 (Option.some Jvm.ClassFile.FieldType.boolean))) := lw_V q7618 q7620 qs300 q547 q7621
theorem gX52_141 : GoodIn lw_all (wsV RX52 141 RX52 yX52_go (ws_ yX52_go cX52_go 5 (Option.none : Option Jvm.ClassFile.FieldType))) := lw_V q7630 q7632 qs303 q547 q7633
theorem gX52_148 : GoodIn lw_all (wsV RX52 148 RX52 yX52_isSecond (ws_ yX52_isSecond cX52_isSecond 4 (Option.some Jvm.ClassFile.FieldType.boolean))) := lw_V q7658 q7660 qs308 q547 q7661
theorem gX52_151 : GoodIn lw_all (wsV RX52 151 RX52 yX52_hasBelow (ws_ yX52_hasBelow cX52_hasBelow 4 (Option.some Jvm.ClassFile.FieldType.boolean))) := lw_V q7662 q7664 qs309 q547 q7665
theorem gX52_154 : GoodIn lw_all (wsV RX52 154 RX52 yX52_reasonThing (ws_ yX52_reasonThing cX52_reasonThing 4 (Option.some Jvm.ClassFile.FieldType.int))) := lw_V q8589 q8591 qs434 q547 q8592
theorem gX52_157 : GoodIn lw_all (wsV RX52 157 RX52 yX52_isIn (ws_ yX52_isIn cX52_isIn 3 (Option.some Jvm.ClassFile.FieldType.boolean))) := lw_V q8593 q8595 qs435 q547 q8596
theorem hX52_below : yX52_below.cls = RX52 ∧ yX52_below.cls ≠ "java/lang/invoke/MethodHandle" ∧ yX52_below.cls ≠ "java/lang/invoke/VarHandle" ∧ (parseMethodDescriptor yX52_below.desc).map (fun d => d.parameters.length) = some 2 := by decide +kernel
theorem hX52_close : yX52_close.cls = RX52 ∧ yX52_close.cls ≠ "java/lang/invoke/MethodHandle" ∧ yX52_close.cls ≠ "java/lang/invoke/VarHandle" ∧ (parseMethodDescriptor yX52_close.desc).map (fun d => d.parameters.length) = some 0 := by decide +kernel
theorem hX52_closeOnce : yX52_closeOnce.cls = RX52 ∧ yX52_closeOnce.cls ≠ "java/lang/invoke/MethodHandle" ∧ yX52_closeOnce.cls ≠ "java/lang/invoke/VarHandle" ∧ (parseMethodDescriptor yX52_closeOnce.desc).map (fun d => d.parameters.length) = some 0 := by decide +kernel
theorem hX52_forget : yX52_forget.cls = RX52 ∧ yX52_forget.cls ≠ "java/lang/invoke/MethodHandle" ∧ yX52_forget.cls ≠ "java/lang/invoke/VarHandle" ∧ (parseMethodDescriptor yX52_forget.desc).map (fun d => d.parameters.length) = some 2 := by decide +kernel
theorem hX52_go : yX52_go.cls = RX52 ∧ yX52_go.cls ≠ "java/lang/invoke/MethodHandle" ∧ yX52_go.cls ≠ "java/lang/invoke/VarHandle" ∧ (parseMethodDescriptor yX52_go.desc).map (fun d => d.parameters.length) = some 2 := by decide +kernel
theorem hX52_goalOf : yX52_goalOf.cls = RX52 ∧ yX52_goalOf.cls ≠ "java/lang/invoke/MethodHandle" ∧ yX52_goalOf.cls ≠ "java/lang/invoke/VarHandle" ∧ (parseMethodDescriptor yX52_goalOf.desc).map (fun d => d.parameters.length) = some 1 := by decide +kernel
theorem hX52_hasBelow : yX52_hasBelow.cls = RX52 ∧ yX52_hasBelow.cls ≠ "java/lang/invoke/MethodHandle" ∧ yX52_hasBelow.cls ≠ "java/lang/invoke/VarHandle" ∧ (parseMethodDescriptor yX52_hasBelow.desc).map (fun d => d.parameters.length) = some 1 := by decide +kernel
theorem hX52_isClass : yX52_isClass.cls = RX52 ∧ yX52_isClass.cls ≠ "java/lang/invoke/MethodHandle" ∧ yX52_isClass.cls ≠ "java/lang/invoke/VarHandle" ∧ (parseMethodDescriptor yX52_isClass.desc).map (fun d => d.parameters.length) = some 1 := by decide +kernel
theorem hX52_isDirect : yX52_isDirect.cls = RX52 ∧ yX52_isDirect.cls ≠ "java/lang/invoke/MethodHandle" ∧ yX52_isDirect.cls ≠ "java/lang/invoke/VarHandle" ∧ (parseMethodDescriptor yX52_isDirect.desc).map (fun d => d.parameters.length) = some 2 := by decide +kernel
theorem hX52_isHere : yX52_isHere.cls = RX52 ∧ yX52_isHere.cls ≠ "java/lang/invoke/MethodHandle" ∧ yX52_isHere.cls ≠ "java/lang/invoke/VarHandle" ∧ (parseMethodDescriptor yX52_isHere.desc).map (fun d => d.parameters.length) = some 1 := by decide +kernel
theorem hX52_isIn : yX52_isIn.cls = RX52 ∧ yX52_isIn.cls ≠ "java/lang/invoke/MethodHandle" ∧ yX52_isIn.cls ≠ "java/lang/invoke/VarHandle" ∧ (parseMethodDescriptor yX52_isIn.desc).map (fun d => d.parameters.length) = some 2 := by decide +kernel
theorem hX52_isItself : yX52_isItself.cls = RX52 ∧ yX52_isItself.cls ≠ "java/lang/invoke/MethodHandle" ∧ yX52_isItself.cls ≠ "java/lang/invoke/VarHandle" ∧ (parseMethodDescriptor yX52_isItself.desc).map (fun d => d.parameters.length) = some 2 := by decide +kernel
theorem hX52_isSecond : yX52_isSecond.cls = RX52 ∧ yX52_isSecond.cls ≠ "java/lang/invoke/MethodHandle" ∧ yX52_isSecond.cls ≠ "java/lang/invoke/VarHandle" ∧ (parseMethodDescriptor yX52_isSecond.desc).map (fun d => d.parameters.length) = some 1 := by decide +kernel
theorem hX52_isTouched : yX52_isTouched.cls = RX52 ∧ yX52_isTouched.cls ≠ "java/lang/invoke/MethodHandle" ∧ yX52_isTouched.cls ≠ "java/lang/invoke/VarHandle" ∧ (parseMethodDescriptor yX52_isTouched.desc).map (fun d => d.parameters.length) = some 2 := by decide +kernel
theorem hX52_isUnder : yX52_isUnder.cls = RX52 ∧ yX52_isUnder.cls ≠ "java/lang/invoke/MethodHandle" ∧ yX52_isUnder.cls ≠ "java/lang/invoke/VarHandle" ∧ (parseMethodDescriptor yX52_isUnder.desc).map (fun d => d.parameters.length) = some 2 := by decide +kernel
theorem hX52_look : yX52_look.cls = RX52 ∧ yX52_look.cls ≠ "java/lang/invoke/MethodHandle" ∧ yX52_look.cls ≠ "java/lang/invoke/VarHandle" ∧ (parseMethodDescriptor yX52_look.desc).map (fun d => d.parameters.length) = some 2 := by decide +kernel
theorem hX52_nextFor : yX52_nextFor.cls = RX52 ∧ yX52_nextFor.cls ≠ "java/lang/invoke/MethodHandle" ∧ yX52_nextFor.cls ≠ "java/lang/invoke/VarHandle" ∧ (parseMethodDescriptor yX52_nextFor.desc).map (fun d => d.parameters.length) = some 2 := by decide +kernel
theorem hX52_openPairs : yX52_openPairs.cls = RX52 ∧ yX52_openPairs.cls ≠ "java/lang/invoke/MethodHandle" ∧ yX52_openPairs.cls ≠ "java/lang/invoke/VarHandle" ∧ (parseMethodDescriptor yX52_openPairs.desc).map (fun d => d.parameters.length) = some 0 := by decide +kernel
theorem hX52_reason : yX52_reason.cls = RX52 ∧ yX52_reason.cls ≠ "java/lang/invoke/MethodHandle" ∧ yX52_reason.cls ≠ "java/lang/invoke/VarHandle" ∧ (parseMethodDescriptor yX52_reason.desc).map (fun d => d.parameters.length) = some 1 := by decide +kernel
theorem hX52_reasonAlone : yX52_reasonAlone.cls = RX52 ∧ yX52_reasonAlone.cls ≠ "java/lang/invoke/MethodHandle" ∧ yX52_reasonAlone.cls ≠ "java/lang/invoke/VarHandle" ∧ (parseMethodDescriptor yX52_reasonAlone.desc).map (fun d => d.parameters.length) = some 2 := by decide +kernel
theorem hX52_reasonThing : yX52_reasonThing.cls = RX52 ∧ yX52_reasonThing.cls ≠ "java/lang/invoke/MethodHandle" ∧ yX52_reasonThing.cls ≠ "java/lang/invoke/VarHandle" ∧ (parseMethodDescriptor yX52_reasonThing.desc).map (fun d => d.parameters.length) = some 2 := by decide +kernel
theorem hX52_spreadNo : yX52_spreadNo.cls = RX52 ∧ yX52_spreadNo.cls ≠ "java/lang/invoke/MethodHandle" ∧ yX52_spreadNo.cls ≠ "java/lang/invoke/VarHandle" ∧ (parseMethodDescriptor yX52_spreadNo.desc).map (fun d => d.parameters.length) = some 2 := by decide +kernel
theorem hX52_tellItself : yX52_tellItself.cls = RX52 ∧ yX52_tellItself.cls ≠ "java/lang/invoke/MethodHandle" ∧ yX52_tellItself.cls ≠ "java/lang/invoke/VarHandle" ∧ (parseMethodDescriptor yX52_tellItself.desc).map (fun d => d.parameters.length) = some 0 := by decide +kernel
