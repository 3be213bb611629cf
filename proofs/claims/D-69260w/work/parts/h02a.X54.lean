/-! KnowHouseModel$VirtualRewriteModel (printed by tools/zgen.py) -/
set_option maxRecDepth 100000
def RX54 : String := "KnowHouseModel$VirtualRewriteModel"
def TX54 : u_T := fun k => match k with
  | 0 => ("KnowHouseModel$VirtualRewriteModel", "thrown", "I", false)
  | 1 => ("KnowHouseModel$VirtualRewriteModel", "cells", "[I", true)
  | 2 => ("KnowHouseModel$VirtualRewriteModel", "sizes", "[I", true)
  | 3 => ("KnowHouseModel$VirtualRewriteModel", "keys", "[Z", true)
  | 4 => ("KnowHouseModel$VirtualRewriteModel", "maps", "[I", true)
  | 5 => ("KnowHouseModel$VirtualRewriteModel", "mapCount", "I", false)
  | 6 => ("KnowHouseModel$VirtualRewriteModel", "atoms", "[I", true)
  | 7 => ("KnowHouseModel$VirtualRewriteModel", "atomCount", "I", false)
  | 8 => ("KnowHouseModel$VirtualRewriteModel", "spans", "[I", true)
  | 9 => ("KnowHouseModel$VirtualRewriteModel", "spanCount", "I", false)
  | 10 => ("KnowHouseModel$VirtualRewriteModel", "unions", "[I", true)
  | 11 => ("KnowHouseModel$VirtualRewriteModel", "unionCount", "I", false)
  | 12 => ("KnowHouseModel$VirtualRewriteModel", "isLarge", "Z", false)
  | 13 => ("KnowHouseModel$VirtualRewriteModel", "trial", "[I", true)
  | 14 => ("KnowHouseModel$VirtualRewriteModel", "rowAt", "[I", true)
  | 15 => ("KnowHouseModel$VirtualRewriteModel", "answers", "[I", true)
  | 16 => ("KnowHouseModel$VirtualRewriteModel", "foundBy", "[I", true)
  | 17 => ("KnowHouseModel$VirtualRewriteModel", "firstBy", "[I", true)
  | 18 => ("KnowHouseModel$VirtualRewriteModel", "lastBy", "[I", true)
  | 19 => ("KnowHouseModel$VirtualRewriteModel", "order", "[I", true)
  | 20 => ("KnowHouseModel$VirtualRewriteModel", "answerCount", "I", false)
  | 21 => ("KnowHouseModel$VirtualRewriteModel", "asked", "[Z", true)
  | _ => ("KnowHouseModel$VirtualRewriteModel", "tooMany", "Z", false)
def tyX54 : Nat → FieldType := fun k => match k with
  | 0 => .int
  | 1 => .array .int
  | 2 => .array .int
  | 3 => .array .boolean
  | 4 => .array .int
  | 5 => .int
  | 6 => .array .int
  | 7 => .int
  | 8 => .array .int
  | 9 => .int
  | 10 => .array .int
  | 11 => .int
  | 12 => .boolean
  | 13 => .array .int
  | 14 => .array .int
  | 15 => .array .int
  | 16 => .array .int
  | 17 => .array .int
  | 18 => .array .int
  | 19 => .array .int
  | 20 => .int
  | 21 => .array .boolean
  | _ => .boolean
abbrev wsX540 : List Cond := u_ws RX54 TX54 23
theorem nmX54 : ∀ a, a < 23 → ∀ b, b < 23 → a ≠ b → (TX54 a).2.1 ≠ (TX54 b).2.1 := by decide +kernel
theorem tyX54_ok : ∀ k, k < 23 → parseFieldDescriptor (TX54 k).2.2.1 = some (tyX54 k) := by decide +kernel
abbrev cX54_init : ByteArray := prog_90_method_1_code
def yX54_init : MethodName := ⟨RX54, "<init>", "()V"⟩
abbrev cX54_run : ByteArray := prog_90_method_37_code
def yX54_run : MethodName := ⟨RX54, "run", "()I"⟩
theorem dX54_run_0 : decode cX54_run 0 = .ok (.aload_n 0, 1) := by decide +kernel
theorem dX54_run_1 : decode cX54_run 1 = .ok (.iconst 0, 1) := by decide +kernel
theorem dX54_run_2 : decode cX54_run 2 = .ok (.putfield 144, 3) := by decide +kernel
theorem dX54_run_5 : decode cX54_run 5 = .ok (.aload_n 0, 1) := by decide +kernel
theorem dX54_run_6 : decode cX54_run 6 = .ok (.iconst 0, 1) := by decide +kernel
theorem dX54_run_7 : decode cX54_run 7 = .ok (.putfield 131, 3) := by decide +kernel
theorem dX54_run_10 : decode cX54_run 10 = .ok (.aload_n 0, 1) := by decide +kernel
theorem dX54_run_11 : decode cX54_run 11 = .ok (.invokevirtual 121, 3) := by decide +kernel
theorem dX54_run_14 : decode cX54_run 14 = .ok (.istore_n 1, 1) := by decide +kernel
theorem dX54_run_15 : decode cX54_run 15 = .ok (.iload_n 1, 1) := by decide +kernel
theorem dX54_run_16 : decode cX54_run 16 = .ok (.ifCond .ge 5, 3) := by decide +kernel
theorem dX54_run_19 : decode cX54_run 19 = .ok (.iload_n 1, 1) := by decide +kernel
theorem dX54_run_20 : decode cX54_run 20 = .ok (.ireturn, 1) := by decide +kernel
theorem dX54_run_21 : decode cX54_run 21 = .ok (.iconst 0, 1) := by decide +kernel
theorem dX54_run_22 : decode cX54_run 22 = .ok (.istore_n 2, 1) := by decide +kernel
theorem dX54_run_23 : decode cX54_run 23 = .ok (.iload_n 2, 1) := by decide +kernel
theorem dX54_run_24 : decode cX54_run 24 = .ok (.bipush 6, 2) := by decide +kernel
theorem dX54_run_26 : decode cX54_run 26 = .ok (.if_icmp .ge 16, 3) := by decide +kernel
theorem dX54_run_29 : decode cX54_run 29 = .ok (.aload_n 0, 1) := by decide +kernel
theorem dX54_run_30 : decode cX54_run 30 = .ok (.getfield 53, 3) := by decide +kernel
theorem dX54_run_33 : decode cX54_run 33 = .ok (.iload_n 2, 1) := by decide +kernel
theorem dX54_run_34 : decode cX54_run 34 = .ok (.iconst 0, 1) := by decide +kernel
theorem dX54_run_35 : decode cX54_run 35 = .ok (.bastore, 1) := by decide +kernel
theorem dX54_run_36 : decode cX54_run 36 = .ok (.iinc 2 1, 3) := by decide +kernel
theorem dX54_run_39 : decode cX54_run 39 = .ok (.goto (-16), 3) := by decide +kernel
theorem dX54_run_42 : decode cX54_run 42 = .ok (.iconst 0, 1) := by decide +kernel
theorem dX54_run_43 : decode cX54_run 43 = .ok (.istore_n 2, 1) := by decide +kernel
theorem dX54_run_44 : decode cX54_run 44 = .ok (.iload_n 2, 1) := by decide +kernel
theorem dX54_run_45 : decode cX54_run 45 = .ok (.iconst 2, 1) := by decide +kernel
theorem dX54_run_46 : decode cX54_run 46 = .ok (.aload_n 0, 1) := by decide +kernel
theorem dX54_run_47 : decode cX54_run 47 = .ok (.getfield 89, 3) := by decide +kernel
theorem dX54_run_50 : decode cX54_run 50 = .ok (.imul, 1) := by decide +kernel
theorem dX54_run_51 : decode cX54_run 51 = .ok (.if_icmp .ge 40, 3) := by decide +kernel
theorem dX54_run_54 : decode cX54_run 54 = .ok (.aload_n 0, 1) := by decide +kernel
theorem dX54_run_55 : decode cX54_run 55 = .ok (.iload_n 2, 1) := by decide +kernel
theorem dX54_run_56 : decode cX54_run 56 = .ok (.iconst 2, 1) := by decide +kernel
theorem dX54_run_57 : decode cX54_run 57 = .ok (.idiv, 1) := by decide +kernel
theorem dX54_run_58 : decode cX54_run 58 = .ok (.iload_n 2, 1) := by decide +kernel
theorem dX54_run_59 : decode cX54_run 59 = .ok (.iconst 2, 1) := by decide +kernel
theorem dX54_run_60 : decode cX54_run 60 = .ok (.irem, 1) := by decide +kernel
theorem dX54_run_61 : decode cX54_run 61 = .ok (.invokevirtual 95, 3) := by decide +kernel
theorem dX54_run_64 : decode cX54_run 64 = .ok (.ifCond .ge 21, 3) := by decide +kernel
theorem dX54_run_67 : decode cX54_run 67 = .ok (.aload_n 0, 1) := by decide +kernel
theorem dX54_run_68 : decode cX54_run 68 = .ok (.getfield 53, 3) := by decide +kernel
theorem dX54_run_71 : decode cX54_run 71 = .ok (.iconst (-1), 1) := by decide +kernel
theorem dX54_run_72 : decode cX54_run 72 = .ok (.aload_n 0, 1) := by decide +kernel
theorem dX54_run_73 : decode cX54_run 73 = .ok (.iload_n 2, 1) := by decide +kernel
theorem dX54_run_74 : decode cX54_run 74 = .ok (.iconst 2, 1) := by decide +kernel
theorem dX54_run_75 : decode cX54_run 75 = .ok (.idiv, 1) := by decide +kernel
theorem dX54_run_76 : decode cX54_run 76 = .ok (.iload_n 2, 1) := by decide +kernel
theorem dX54_run_77 : decode cX54_run 77 = .ok (.iconst 2, 1) := by decide +kernel
theorem dX54_run_78 : decode cX54_run 78 = .ok (.irem, 1) := by decide +kernel
theorem dX54_run_79 : decode cX54_run 79 = .ok (.invokevirtual 95, 3) := by decide +kernel
theorem dX54_run_82 : decode cX54_run 82 = .ok (.isub, 1) := by decide +kernel
theorem dX54_run_83 : decode cX54_run 83 = .ok (.iconst 1, 1) := by decide +kernel
theorem dX54_run_84 : decode cX54_run 84 = .ok (.bastore, 1) := by decide +kernel
theorem dX54_run_85 : decode cX54_run 85 = .ok (.iinc 2 1, 3) := by decide +kernel
theorem dX54_run_88 : decode cX54_run 88 = .ok (.goto (-44), 3) := by decide +kernel
theorem dX54_run_91 : decode cX54_run 91 = .ok (.iconst 0, 1) := by decide +kernel
theorem dX54_run_92 : decode cX54_run 92 = .ok (.istore_n 2, 1) := by decide +kernel
theorem dX54_run_93 : decode cX54_run 93 = .ok (.iload_n 2, 1) := by decide +kernel
theorem dX54_run_94 : decode cX54_run 94 = .ok (.aload_n 0, 1) := by decide +kernel
theorem dX54_run_95 : decode cX54_run 95 = .ok (.getfield 98, 3) := by decide +kernel
theorem dX54_run_98 : decode cX54_run 98 = .ok (.if_icmp .ge 21, 3) := by decide +kernel
theorem dX54_run_101 : decode cX54_run 101 = .ok (.aload_n 0, 1) := by decide +kernel
theorem dX54_run_102 : decode cX54_run 102 = .ok (.getfield 131, 3) := by decide +kernel
theorem dX54_run_105 : decode cX54_run 105 = .ok (.ifCond .ne 14, 3) := by decide +kernel
theorem dX54_run_108 : decode cX54_run 108 = .ok (.aload_n 0, 1) := by decide +kernel
theorem dX54_run_109 : decode cX54_run 109 = .ok (.iload_n 2, 1) := by decide +kernel
theorem dX54_run_110 : decode cX54_run 110 = .ok (.invokevirtual 153, 3) := by decide +kernel
theorem dX54_run_113 : decode cX54_run 113 = .ok (.iinc 2 1, 3) := by decide +kernel
theorem dX54_run_116 : decode cX54_run 116 = .ok (.goto (-23), 3) := by decide +kernel
theorem dX54_run_119 : decode cX54_run 119 = .ok (.aload_n 0, 1) := by decide +kernel
theorem dX54_run_120 : decode cX54_run 120 = .ok (.getfield 131, 3) := by decide +kernel
theorem dX54_run_123 : decode cX54_run 123 = .ok (.ifCond .eq 8, 3) := by decide +kernel
theorem dX54_run_126 : decode cX54_run 126 = .ok (.aload_n 0, 1) := by decide +kernel
theorem dX54_run_127 : decode cX54_run 127 = .ok (.iconst 0, 1) := by decide +kernel
theorem dX54_run_128 : decode cX54_run 128 = .ok (.putfield 144, 3) := by decide +kernel
theorem dX54_run_131 : decode cX54_run 131 = .ok (.aload_n 0, 1) := by decide +kernel
theorem dX54_run_132 : decode cX54_run 132 = .ok (.invokevirtual 156, 3) := by decide +kernel
theorem dX54_run_135 : decode cX54_run 135 = .ok (.aload_n 0, 1) := by decide +kernel
theorem dX54_run_136 : decode cX54_run 136 = .ok (.getfield 131, 3) := by decide +kernel
theorem dX54_run_139 : decode cX54_run 139 = .ok (.ifCond .eq 8, 3) := by decide +kernel
theorem dX54_run_142 : decode cX54_run 142 = .ok (.bipush (-3), 2) := by decide +kernel
theorem dX54_run_144 : decode cX54_run 144 = .ok (.goto 7, 3) := by decide +kernel
theorem dX54_run_147 : decode cX54_run 147 = .ok (.aload_n 0, 1) := by decide +kernel
theorem dX54_run_148 : decode cX54_run 148 = .ok (.getfield 144, 3) := by decide +kernel
theorem dX54_run_151 : decode cX54_run 151 = .ok (.ireturn, 1) := by decide +kernel
abbrev cX54_ready : ByteArray := prog_90_method_24_code
def yX54_ready : MethodName := ⟨RX54, "ready", "()I"⟩
theorem dX54_ready_0 : decode cX54_ready 0 = .ok (.aload_n 0, 1) := by decide +kernel
theorem dX54_ready_1 : decode cX54_ready 1 = .ok (.iconst 0, 1) := by decide +kernel
theorem dX54_ready_2 : decode cX54_ready 2 = .ok (.putfield 56, 3) := by decide +kernel
theorem dX54_ready_5 : decode cX54_ready 5 = .ok (.aload_n 0, 1) := by decide +kernel
theorem dX54_ready_6 : decode cX54_ready 6 = .ok (.getfield 89, 3) := by decide +kernel
theorem dX54_ready_9 : decode cX54_ready 9 = .ok (.ifCond .ne 5, 3) := by decide +kernel
theorem dX54_ready_12 : decode cX54_ready 12 = .ok (.iconst (-1), 1) := by decide +kernel
theorem dX54_ready_13 : decode cX54_ready 13 = .ok (.ireturn, 1) := by decide +kernel
theorem dX54_ready_14 : decode cX54_ready 14 = .ok (.aload_n 0, 1) := by decide +kernel
theorem dX54_ready_15 : decode cX54_ready 15 = .ok (.invokevirtual 118, 3) := by decide +kernel
theorem dX54_ready_18 : decode cX54_ready 18 = .ok (.aload_n 0, 1) := by decide +kernel
theorem dX54_ready_19 : decode cX54_ready 19 = .ok (.getfield 104, 3) := by decide +kernel
theorem dX54_ready_22 : decode cX54_ready 22 = .ok (.ifCond .eq 8, 3) := by decide +kernel
theorem dX54_ready_25 : decode cX54_ready 25 = .ok (.bipush (-3), 2) := by decide +kernel
theorem dX54_ready_27 : decode cX54_ready 27 = .ok (.goto 4, 3) := by decide +kernel
theorem dX54_ready_30 : decode cX54_ready 30 = .ok (.iconst 1, 1) := by decide +kernel
theorem dX54_ready_31 : decode cX54_ready 31 = .ok (.ireturn, 1) := by decide +kernel
abbrev cX54_find : ByteArray := prog_90_method_23_code
def yX54_find : MethodName := ⟨RX54, "find", "()V"⟩
theorem dX54_find_0 : decode cX54_find 0 = .ok (.aload_n 0, 1) := by decide +kernel
theorem dX54_find_1 : decode cX54_find 1 = .ok (.iconst 0, 1) := by decide +kernel
theorem dX54_find_2 : decode cX54_find 2 = .ok (.putfield 98, 3) := by decide +kernel
theorem dX54_find_5 : decode cX54_find 5 = .ok (.aload_n 0, 1) := by decide +kernel
theorem dX54_find_6 : decode cX54_find 6 = .ok (.iconst 0, 1) := by decide +kernel
theorem dX54_find_7 : decode cX54_find 7 = .ok (.putfield 104, 3) := by decide +kernel
theorem dX54_find_10 : decode cX54_find 10 = .ok (.iconst 0, 1) := by decide +kernel
theorem dX54_find_11 : decode cX54_find 11 = .ok (.istore_n 1, 1) := by decide +kernel
theorem dX54_find_12 : decode cX54_find 12 = .ok (.iload_n 1, 1) := by decide +kernel
theorem dX54_find_13 : decode cX54_find 13 = .ok (.iconst 4, 1) := by decide +kernel
theorem dX54_find_14 : decode cX54_find 14 = .ok (.if_icmp .ge 16, 3) := by decide +kernel
theorem dX54_find_17 : decode cX54_find 17 = .ok (.aload_n 0, 1) := by decide +kernel
theorem dX54_find_18 : decode cX54_find 18 = .ok (.getfield 32, 3) := by decide +kernel
theorem dX54_find_21 : decode cX54_find 21 = .ok (.iload_n 1, 1) := by decide +kernel
theorem dX54_find_22 : decode cX54_find 22 = .ok (.iconst 0, 1) := by decide +kernel
theorem dX54_find_23 : decode cX54_find 23 = .ok (.iastore, 1) := by decide +kernel
theorem dX54_find_24 : decode cX54_find 24 = .ok (.iinc 1 1, 3) := by decide +kernel
theorem dX54_find_27 : decode cX54_find 27 = .ok (.goto (-15), 3) := by decide +kernel
theorem dX54_find_30 : decode cX54_find 30 = .ok (.aload_n 0, 1) := by decide +kernel
theorem dX54_find_31 : decode cX54_find 31 = .ok (.getfield 75, 3) := by decide +kernel
theorem dX54_find_34 : decode cX54_find 34 = .ok (.ifCond .le 7, 3) := by decide +kernel
theorem dX54_find_37 : decode cX54_find 37 = .ok (.iconst 1, 1) := by decide +kernel
theorem dX54_find_38 : decode cX54_find 38 = .ok (.goto 4, 3) := by decide +kernel
theorem dX54_find_41 : decode cX54_find 41 = .ok (.iconst 0, 1) := by decide +kernel
theorem dX54_find_42 : decode cX54_find 42 = .ok (.istore_n 1, 1) := by decide +kernel
theorem dX54_find_43 : decode cX54_find 43 = .ok (.iload_n 1, 1) := by decide +kernel
theorem dX54_find_44 : decode cX54_find 44 = .ok (.ifCond .eq 38, 3) := by decide +kernel
theorem dX54_find_47 : decode cX54_find 47 = .ok (.aload_n 0, 1) := by decide +kernel
theorem dX54_find_48 : decode cX54_find 48 = .ok (.invokevirtual 108, 3) := by decide +kernel
theorem dX54_find_51 : decode cX54_find 51 = .ok (.ifCond .eq 23, 3) := by decide +kernel
theorem dX54_find_54 : decode cX54_find 54 = .ok (.aload_n 0, 1) := by decide +kernel
theorem dX54_find_55 : decode cX54_find 55 = .ok (.getfield 98, 3) := by decide +kernel
theorem dX54_find_58 : decode cX54_find 58 = .ok (.sipush 150, 3) := by decide +kernel
theorem dX54_find_61 : decode cX54_find 61 = .ok (.if_icmp .ne 9, 3) := by decide +kernel
theorem dX54_find_64 : decode cX54_find 64 = .ok (.aload_n 0, 1) := by decide +kernel
theorem dX54_find_65 : decode cX54_find 65 = .ok (.iconst 1, 1) := by decide +kernel
theorem dX54_find_66 : decode cX54_find 66 = .ok (.putfield 104, 3) := by decide +kernel
theorem dX54_find_69 : decode cX54_find 69 = .ok (.return_, 1) := by decide +kernel
theorem dX54_find_70 : decode cX54_find 70 = .ok (.aload_n 0, 1) := by decide +kernel
theorem dX54_find_71 : decode cX54_find 71 = .ok (.invokevirtual 112, 3) := by decide +kernel
theorem dX54_find_74 : decode cX54_find 74 = .ok (.aload_n 0, 1) := by decide +kernel
theorem dX54_find_75 : decode cX54_find 75 = .ok (.invokevirtual 115, 3) := by decide +kernel
theorem dX54_find_78 : decode cX54_find 78 = .ok (.istore_n 1, 1) := by decide +kernel
theorem dX54_find_79 : decode cX54_find 79 = .ok (.goto (-36), 3) := by decide +kernel
theorem dX54_find_82 : decode cX54_find 82 = .ok (.return_, 1) := by decide +kernel
abbrev cX54_isGood : ByteArray := prog_90_method_20_code
def yX54_isGood : MethodName := ⟨RX54, "isGood", "()Z"⟩
theorem dX54_isGood_0 : decode cX54_isGood 0 = .ok (.iconst 0, 1) := by decide +kernel
theorem dX54_isGood_1 : decode cX54_isGood 1 = .ok (.istore_n 1, 1) := by decide +kernel
theorem dX54_isGood_2 : decode cX54_isGood 2 = .ok (.iload_n 1, 1) := by decide +kernel
theorem dX54_isGood_3 : decode cX54_isGood 3 = .ok (.aload_n 0, 1) := by decide +kernel
theorem dX54_isGood_4 : decode cX54_isGood 4 = .ok (.getfield 89, 3) := by decide +kernel
theorem dX54_isGood_7 : decode cX54_isGood 7 = .ok (.if_icmp .ge 38, 3) := by decide +kernel
theorem dX54_isGood_10 : decode cX54_isGood 10 = .ok (.aload_n 0, 1) := by decide +kernel
theorem dX54_isGood_11 : decode cX54_isGood 11 = .ok (.getfield 20, 3) := by decide +kernel
theorem dX54_isGood_14 : decode cX54_isGood 14 = .ok (.bipush 6, 2) := by decide +kernel
theorem dX54_isGood_16 : decode cX54_isGood 16 = .ok (.aload_n 0, 1) := by decide +kernel
theorem dX54_isGood_17 : decode cX54_isGood 17 = .ok (.getfield 32, 3) := by decide +kernel
theorem dX54_isGood_20 : decode cX54_isGood 20 = .ok (.iload_n 1, 1) := by decide +kernel
theorem dX54_isGood_21 : decode cX54_isGood 21 = .ok (.iaload, 1) := by decide +kernel
theorem dX54_isGood_22 : decode cX54_isGood 22 = .ok (.imul, 1) := by decide +kernel
theorem dX54_isGood_23 : decode cX54_isGood 23 = .ok (.iconst 1, 1) := by decide +kernel
theorem dX54_isGood_24 : decode cX54_isGood 24 = .ok (.iadd, 1) := by decide +kernel
theorem dX54_isGood_25 : decode cX54_isGood 25 = .ok (.iaload, 1) := by decide +kernel
theorem dX54_isGood_26 : decode cX54_isGood 26 = .ok (.aload_n 0, 1) := by decide +kernel
theorem dX54_isGood_27 : decode cX54_isGood 27 = .ok (.getfield 23, 3) := by decide +kernel
theorem dX54_isGood_30 : decode cX54_isGood 30 = .ok (.iconst 3, 1) := by decide +kernel
theorem dX54_isGood_31 : decode cX54_isGood 31 = .ok (.iload_n 1, 1) := by decide +kernel
theorem dX54_isGood_32 : decode cX54_isGood 32 = .ok (.imul, 1) := by decide +kernel
theorem dX54_isGood_33 : decode cX54_isGood 33 = .ok (.iaload, 1) := by decide +kernel
theorem dX54_isGood_34 : decode cX54_isGood 34 = .ok (.if_icmp .eq 5, 3) := by decide +kernel
theorem dX54_isGood_37 : decode cX54_isGood 37 = .ok (.iconst 0, 1) := by decide +kernel
theorem dX54_isGood_38 : decode cX54_isGood 38 = .ok (.ireturn, 1) := by decide +kernel
theorem dX54_isGood_39 : decode cX54_isGood 39 = .ok (.iinc 1 1, 3) := by decide +kernel
theorem dX54_isGood_42 : decode cX54_isGood 42 = .ok (.goto (-40), 3) := by decide +kernel
theorem dX54_isGood_45 : decode cX54_isGood 45 = .ok (.iconst 0, 1) := by decide +kernel
theorem dX54_isGood_46 : decode cX54_isGood 46 = .ok (.istore_n 1, 1) := by decide +kernel
theorem dX54_isGood_47 : decode cX54_isGood 47 = .ok (.iload_n 1, 1) := by decide +kernel
theorem dX54_isGood_48 : decode cX54_isGood 48 = .ok (.iconst 2, 1) := by decide +kernel
theorem dX54_isGood_49 : decode cX54_isGood 49 = .ok (.aload_n 0, 1) := by decide +kernel
theorem dX54_isGood_50 : decode cX54_isGood 50 = .ok (.getfield 89, 3) := by decide +kernel
theorem dX54_isGood_53 : decode cX54_isGood 53 = .ok (.imul, 1) := by decide +kernel
theorem dX54_isGood_54 : decode cX54_isGood 54 = .ok (.if_icmp .ge 109, 3) := by decide +kernel
theorem dX54_isGood_57 : decode cX54_isGood 57 = .ok (.aload_n 0, 1) := by decide +kernel
theorem dX54_isGood_58 : decode cX54_isGood 58 = .ok (.iload_n 1, 1) := by decide +kernel
theorem dX54_isGood_59 : decode cX54_isGood 59 = .ok (.iconst 2, 1) := by decide +kernel
theorem dX54_isGood_60 : decode cX54_isGood 60 = .ok (.idiv, 1) := by decide +kernel
theorem dX54_isGood_61 : decode cX54_isGood 61 = .ok (.iload_n 1, 1) := by decide +kernel
theorem dX54_isGood_62 : decode cX54_isGood 62 = .ok (.iconst 2, 1) := by decide +kernel
theorem dX54_isGood_63 : decode cX54_isGood 63 = .ok (.irem, 1) := by decide +kernel
theorem dX54_isGood_64 : decode cX54_isGood 64 = .ok (.invokevirtual 95, 3) := by decide +kernel
theorem dX54_isGood_67 : decode cX54_isGood 67 = .ok (.istore_n 2, 1) := by decide +kernel
theorem dX54_isGood_68 : decode cX54_isGood 68 = .ok (.aload_n 0, 1) := by decide +kernel
theorem dX54_isGood_69 : decode cX54_isGood 69 = .ok (.aload_n 0, 1) := by decide +kernel
theorem dX54_isGood_70 : decode cX54_isGood 70 = .ok (.getfield 32, 3) := by decide +kernel
theorem dX54_isGood_73 : decode cX54_isGood 73 = .ok (.iload_n 1, 1) := by decide +kernel
theorem dX54_isGood_74 : decode cX54_isGood 74 = .ok (.iconst 2, 1) := by decide +kernel
theorem dX54_isGood_75 : decode cX54_isGood 75 = .ok (.idiv, 1) := by decide +kernel
theorem dX54_isGood_76 : decode cX54_isGood 76 = .ok (.iaload, 1) := by decide +kernel
theorem dX54_isGood_77 : decode cX54_isGood 77 = .ok (.iload_n 1, 1) := by decide +kernel
theorem dX54_isGood_78 : decode cX54_isGood 78 = .ok (.iconst 2, 1) := by decide +kernel
theorem dX54_isGood_79 : decode cX54_isGood 79 = .ok (.irem, 1) := by decide +kernel
theorem dX54_isGood_80 : decode cX54_isGood 80 = .ok (.invokevirtual 78, 3) := by decide +kernel
theorem dX54_isGood_83 : decode cX54_isGood 83 = .ok (.istore_n 3, 1) := by decide +kernel
theorem dX54_isGood_84 : decode cX54_isGood 84 = .ok (.iload_n 2, 1) := by decide +kernel
theorem dX54_isGood_85 : decode cX54_isGood 85 = .ok (.ifCond .lt 14, 3) := by decide +kernel
theorem dX54_isGood_88 : decode cX54_isGood 88 = .ok (.iload_n 2, 1) := by decide +kernel
theorem dX54_isGood_89 : decode cX54_isGood 89 = .ok (.sipush 10000, 3) := by decide +kernel
theorem dX54_isGood_92 : decode cX54_isGood 92 = .ok (.idiv, 1) := by decide +kernel
theorem dX54_isGood_93 : decode cX54_isGood 93 = .ok (.iload_n 3, 1) := by decide +kernel
theorem dX54_isGood_94 : decode cX54_isGood 94 = .ok (.if_icmp .eq 5, 3) := by decide +kernel
theorem dX54_isGood_97 : decode cX54_isGood 97 = .ok (.iconst 0, 1) := by decide +kernel
theorem dX54_isGood_98 : decode cX54_isGood 98 = .ok (.ireturn, 1) := by decide +kernel
theorem dX54_isGood_99 : decode cX54_isGood 99 = .ok (.iconst 0, 1) := by decide +kernel
theorem dX54_isGood_100 : decode cX54_isGood 100 = .ok (.istore 4, 2) := by decide +kernel
theorem dX54_isGood_102 : decode cX54_isGood 102 = .ok (.iload 4, 2) := by decide +kernel
theorem dX54_isGood_104 : decode cX54_isGood 104 = .ok (.iload_n 1, 1) := by decide +kernel
theorem dX54_isGood_105 : decode cX54_isGood 105 = .ok (.if_icmp .ge 52, 3) := by decide +kernel
theorem dX54_isGood_108 : decode cX54_isGood 108 = .ok (.iload_n 2, 1) := by decide +kernel
theorem dX54_isGood_109 : decode cX54_isGood 109 = .ok (.ifCond .ge 42, 3) := by decide +kernel
theorem dX54_isGood_112 : decode cX54_isGood 112 = .ok (.aload_n 0, 1) := by decide +kernel
theorem dX54_isGood_113 : decode cX54_isGood 113 = .ok (.iload 4, 2) := by decide +kernel
theorem dX54_isGood_115 : decode cX54_isGood 115 = .ok (.iconst 2, 1) := by decide +kernel
theorem dX54_isGood_116 : decode cX54_isGood 116 = .ok (.idiv, 1) := by decide +kernel
theorem dX54_isGood_117 : decode cX54_isGood 117 = .ok (.iload 4, 2) := by decide +kernel
theorem dX54_isGood_119 : decode cX54_isGood 119 = .ok (.iconst 2, 1) := by decide +kernel
theorem dX54_isGood_120 : decode cX54_isGood 120 = .ok (.irem, 1) := by decide +kernel
theorem dX54_isGood_121 : decode cX54_isGood 121 = .ok (.invokevirtual 95, 3) := by decide +kernel
theorem dX54_isGood_124 : decode cX54_isGood 124 = .ok (.iload_n 2, 1) := by decide +kernel
theorem dX54_isGood_125 : decode cX54_isGood 125 = .ok (.if_icmp .ne 26, 3) := by decide +kernel
theorem dX54_isGood_128 : decode cX54_isGood 128 = .ok (.aload_n 0, 1) := by decide +kernel
theorem dX54_isGood_129 : decode cX54_isGood 129 = .ok (.aload_n 0, 1) := by decide +kernel
theorem dX54_isGood_130 : decode cX54_isGood 130 = .ok (.getfield 32, 3) := by decide +kernel
theorem dX54_isGood_133 : decode cX54_isGood 133 = .ok (.iload 4, 2) := by decide +kernel
theorem dX54_isGood_135 : decode cX54_isGood 135 = .ok (.iconst 2, 1) := by decide +kernel
theorem dX54_isGood_136 : decode cX54_isGood 136 = .ok (.idiv, 1) := by decide +kernel
theorem dX54_isGood_137 : decode cX54_isGood 137 = .ok (.iaload, 1) := by decide +kernel
theorem dX54_isGood_138 : decode cX54_isGood 138 = .ok (.iload 4, 2) := by decide +kernel
theorem dX54_isGood_140 : decode cX54_isGood 140 = .ok (.iconst 2, 1) := by decide +kernel
theorem dX54_isGood_141 : decode cX54_isGood 141 = .ok (.irem, 1) := by decide +kernel
theorem dX54_isGood_142 : decode cX54_isGood 142 = .ok (.invokevirtual 78, 3) := by decide +kernel
theorem dX54_isGood_145 : decode cX54_isGood 145 = .ok (.iload_n 3, 1) := by decide +kernel
theorem dX54_isGood_146 : decode cX54_isGood 146 = .ok (.if_icmp .eq 5, 3) := by decide +kernel
theorem dX54_isGood_149 : decode cX54_isGood 149 = .ok (.iconst 0, 1) := by decide +kernel
theorem dX54_isGood_150 : decode cX54_isGood 150 = .ok (.ireturn, 1) := by decide +kernel
theorem dX54_isGood_151 : decode cX54_isGood 151 = .ok (.iinc 4 1, 3) := by decide +kernel
theorem dX54_isGood_154 : decode cX54_isGood 154 = .ok (.goto (-52), 3) := by decide +kernel
theorem dX54_isGood_157 : decode cX54_isGood 157 = .ok (.iinc 1 1, 3) := by decide +kernel
theorem dX54_isGood_160 : decode cX54_isGood 160 = .ok (.goto (-113), 3) := by decide +kernel
theorem dX54_isGood_163 : decode cX54_isGood 163 = .ok (.iconst 1, 1) := by decide +kernel
theorem dX54_isGood_164 : decode cX54_isGood 164 = .ok (.ireturn, 1) := by decide +kernel
abbrev cX54_placeOf : ByteArray := prog_90_method_18_code
def yX54_placeOf : MethodName := ⟨RX54, "placeOf", "(II)I"⟩
theorem dX54_placeOf_0 : decode cX54_placeOf 0 = .ok (.aload_n 0, 1) := by decide +kernel
theorem dX54_placeOf_1 : decode cX54_placeOf 1 = .ok (.getfield 23, 3) := by decide +kernel
theorem dX54_placeOf_4 : decode cX54_placeOf 4 = .ok (.iconst 3, 1) := by decide +kernel
theorem dX54_placeOf_5 : decode cX54_placeOf 5 = .ok (.iload_n 1, 1) := by decide +kernel
theorem dX54_placeOf_6 : decode cX54_placeOf 6 = .ok (.imul, 1) := by decide +kernel
theorem dX54_placeOf_7 : decode cX54_placeOf 7 = .ok (.iconst 1, 1) := by decide +kernel
theorem dX54_placeOf_8 : decode cX54_placeOf 8 = .ok (.iadd, 1) := by decide +kernel
theorem dX54_placeOf_9 : decode cX54_placeOf 9 = .ok (.iload_n 2, 1) := by decide +kernel
theorem dX54_placeOf_10 : decode cX54_placeOf 10 = .ok (.iadd, 1) := by decide +kernel
theorem dX54_placeOf_11 : decode cX54_placeOf 11 = .ok (.iaload, 1) := by decide +kernel
theorem dX54_placeOf_12 : decode cX54_placeOf 12 = .ok (.ireturn, 1) := by decide +kernel
abbrev cX54_templateOf : ByteArray := prog_90_method_11_code
def yX54_templateOf : MethodName := ⟨RX54, "templateOf", "(II)I"⟩
theorem dX54_templateOf_0 : decode cX54_templateOf 0 = .ok (.aload_n 0, 1) := by decide +kernel
theorem dX54_templateOf_1 : decode cX54_templateOf 1 = .ok (.getfield 20, 3) := by decide +kernel
theorem dX54_templateOf_4 : decode cX54_templateOf 4 = .ok (.bipush 6, 2) := by decide +kernel
theorem dX54_templateOf_6 : decode cX54_templateOf 6 = .ok (.iload_n 1, 1) := by decide +kernel
theorem dX54_templateOf_7 : decode cX54_templateOf 7 = .ok (.imul, 1) := by decide +kernel
theorem dX54_templateOf_8 : decode cX54_templateOf 8 = .ok (.iconst 2, 1) := by decide +kernel
theorem dX54_templateOf_9 : decode cX54_templateOf 9 = .ok (.iadd, 1) := by decide +kernel
theorem dX54_templateOf_10 : decode cX54_templateOf 10 = .ok (.iconst 2, 1) := by decide +kernel
theorem dX54_templateOf_11 : decode cX54_templateOf 11 = .ok (.iload_n 2, 1) := by decide +kernel
theorem dX54_templateOf_12 : decode cX54_templateOf 12 = .ok (.imul, 1) := by decide +kernel
theorem dX54_templateOf_13 : decode cX54_templateOf 13 = .ok (.iadd, 1) := by decide +kernel
theorem dX54_templateOf_14 : decode cX54_templateOf 14 = .ok (.iaload, 1) := by decide +kernel
theorem dX54_templateOf_15 : decode cX54_templateOf 15 = .ok (.ireturn, 1) := by decide +kernel
abbrev cX54_keep : ByteArray := prog_90_method_22_code
def yX54_keep : MethodName := ⟨RX54, "keep", "()V"⟩
theorem dX54_keep_0 : decode cX54_keep 0 = .ok (.bipush 9, 2) := by decide +kernel
theorem dX54_keep_2 : decode cX54_keep 2 = .ok (.aload_n 0, 1) := by decide +kernel
theorem dX54_keep_3 : decode cX54_keep 3 = .ok (.getfield 98, 3) := by decide +kernel
theorem dX54_keep_6 : decode cX54_keep 6 = .ok (.imul, 1) := by decide +kernel
theorem dX54_keep_7 : decode cX54_keep 7 = .ok (.istore_n 1, 1) := by decide +kernel
theorem dX54_keep_8 : decode cX54_keep 8 = .ok (.iconst 0, 1) := by decide +kernel
theorem dX54_keep_9 : decode cX54_keep 9 = .ok (.istore_n 2, 1) := by decide +kernel
theorem dX54_keep_10 : decode cX54_keep 10 = .ok (.iconst 0, 1) := by decide +kernel
theorem dX54_keep_11 : decode cX54_keep 11 = .ok (.istore_n 3, 1) := by decide +kernel
theorem dX54_keep_12 : decode cX54_keep 12 = .ok (.iload_n 3, 1) := by decide +kernel
theorem dX54_keep_13 : decode cX54_keep 13 = .ok (.aload_n 0, 1) := by decide +kernel
theorem dX54_keep_14 : decode cX54_keep 14 = .ok (.getfield 89, 3) := by decide +kernel
theorem dX54_keep_17 : decode cX54_keep 17 = .ok (.if_icmp .ge 107, 3) := by decide +kernel
theorem dX54_keep_20 : decode cX54_keep 20 = .ok (.aload_n 0, 1) := by decide +kernel
theorem dX54_keep_21 : decode cX54_keep 21 = .ok (.getfield 29, 3) := by decide +kernel
theorem dX54_keep_24 : decode cX54_keep 24 = .ok (.iload_n 1, 1) := by decide +kernel
theorem dX54_keep_25 : decode cX54_keep 25 = .ok (.iload_n 3, 1) := by decide +kernel
theorem dX54_keep_26 : decode cX54_keep 26 = .ok (.iadd, 1) := by decide +kernel
theorem dX54_keep_27 : decode cX54_keep 27 = .ok (.aload_n 0, 1) := by decide +kernel
theorem dX54_keep_28 : decode cX54_keep 28 = .ok (.getfield 32, 3) := by decide +kernel
theorem dX54_keep_31 : decode cX54_keep 31 = .ok (.iload_n 3, 1) := by decide +kernel
theorem dX54_keep_32 : decode cX54_keep 32 = .ok (.iaload, 1) := by decide +kernel
theorem dX54_keep_33 : decode cX54_keep 33 = .ok (.iastore, 1) := by decide +kernel
theorem dX54_keep_34 : decode cX54_keep 34 = .ok (.iconst (-1), 1) := by decide +kernel
theorem dX54_keep_35 : decode cX54_keep 35 = .ok (.istore 4, 2) := by decide +kernel
theorem dX54_keep_37 : decode cX54_keep 37 = .ok (.iconst 0, 1) := by decide +kernel
theorem dX54_keep_38 : decode cX54_keep 38 = .ok (.istore 5, 2) := by decide +kernel
theorem dX54_keep_40 : decode cX54_keep 40 = .ok (.iload 5, 2) := by decide +kernel
theorem dX54_keep_42 : decode cX54_keep 42 = .ok (.iload_n 3, 1) := by decide +kernel
theorem dX54_keep_43 : decode cX54_keep 43 = .ok (.if_icmp .ge 41, 3) := by decide +kernel
theorem dX54_keep_46 : decode cX54_keep 46 = .ok (.iload 4, 2) := by decide +kernel
theorem dX54_keep_48 : decode cX54_keep 48 = .ok (.ifCond .ge 36, 3) := by decide +kernel
theorem dX54_keep_51 : decode cX54_keep 51 = .ok (.aload_n 0, 1) := by decide +kernel
theorem dX54_keep_52 : decode cX54_keep 52 = .ok (.iload 5, 2) := by decide +kernel
theorem dX54_keep_54 : decode cX54_keep 54 = .ok (.iload_n 3, 1) := by decide +kernel
theorem dX54_keep_55 : decode cX54_keep 55 = .ok (.invokevirtual 101, 3) := by decide +kernel
theorem dX54_keep_58 : decode cX54_keep 58 = .ok (.ifCond .eq 17, 3) := by decide +kernel
theorem dX54_keep_61 : decode cX54_keep 61 = .ok (.aload_n 0, 1) := by decide +kernel
theorem dX54_keep_62 : decode cX54_keep 62 = .ok (.getfield 29, 3) := by decide +kernel
theorem dX54_keep_65 : decode cX54_keep 65 = .ok (.iload_n 1, 1) := by decide +kernel
theorem dX54_keep_66 : decode cX54_keep 66 = .ok (.iconst 4, 1) := by decide +kernel
theorem dX54_keep_67 : decode cX54_keep 67 = .ok (.iadd, 1) := by decide +kernel
theorem dX54_keep_68 : decode cX54_keep 68 = .ok (.iload 5, 2) := by decide +kernel
theorem dX54_keep_70 : decode cX54_keep 70 = .ok (.iadd, 1) := by decide +kernel
theorem dX54_keep_71 : decode cX54_keep 71 = .ok (.iaload, 1) := by decide +kernel
theorem dX54_keep_72 : decode cX54_keep 72 = .ok (.goto 4, 3) := by decide +kernel
theorem dX54_keep_75 : decode cX54_keep 75 = .ok (.iconst (-1), 1) := by decide +kernel
theorem dX54_keep_76 : decode cX54_keep 76 = .ok (.istore 4, 2) := by decide +kernel
theorem dX54_keep_78 : decode cX54_keep 78 = .ok (.iinc 5 1, 3) := by decide +kernel
theorem dX54_keep_81 : decode cX54_keep 81 = .ok (.goto (-41), 3) := by decide +kernel
theorem dX54_keep_84 : decode cX54_keep 84 = .ok (.aload_n 0, 1) := by decide +kernel
theorem dX54_keep_85 : decode cX54_keep 85 = .ok (.getfield 29, 3) := by decide +kernel
theorem dX54_keep_88 : decode cX54_keep 88 = .ok (.iload_n 1, 1) := by decide +kernel
theorem dX54_keep_89 : decode cX54_keep 89 = .ok (.iconst 4, 1) := by decide +kernel
theorem dX54_keep_90 : decode cX54_keep 90 = .ok (.iadd, 1) := by decide +kernel
theorem dX54_keep_91 : decode cX54_keep 91 = .ok (.iload_n 3, 1) := by decide +kernel
theorem dX54_keep_92 : decode cX54_keep 92 = .ok (.iadd, 1) := by decide +kernel
theorem dX54_keep_93 : decode cX54_keep 93 = .ok (.iload 4, 2) := by decide +kernel
theorem dX54_keep_95 : decode cX54_keep 95 = .ok (.ifCond .ge 7, 3) := by decide +kernel
theorem dX54_keep_98 : decode cX54_keep 98 = .ok (.iload_n 2, 1) := by decide +kernel
theorem dX54_keep_99 : decode cX54_keep 99 = .ok (.goto 5, 3) := by decide +kernel
theorem dX54_keep_102 : decode cX54_keep 102 = .ok (.iload 4, 2) := by decide +kernel
theorem dX54_keep_104 : decode cX54_keep 104 = .ok (.iastore, 1) := by decide +kernel
theorem dX54_keep_105 : decode cX54_keep 105 = .ok (.iload_n 2, 1) := by decide +kernel
theorem dX54_keep_106 : decode cX54_keep 106 = .ok (.iload 4, 2) := by decide +kernel
theorem dX54_keep_108 : decode cX54_keep 108 = .ok (.ifCond .ge 7, 3) := by decide +kernel
theorem dX54_keep_111 : decode cX54_keep 111 = .ok (.iconst 1, 1) := by decide +kernel
theorem dX54_keep_112 : decode cX54_keep 112 = .ok (.goto 4, 3) := by decide +kernel
theorem dX54_keep_115 : decode cX54_keep 115 = .ok (.iconst 0, 1) := by decide +kernel
theorem dX54_keep_116 : decode cX54_keep 116 = .ok (.iadd, 1) := by decide +kernel
theorem dX54_keep_117 : decode cX54_keep 117 = .ok (.istore_n 2, 1) := by decide +kernel
theorem dX54_keep_118 : decode cX54_keep 118 = .ok (.iinc 3 1, 3) := by decide +kernel
theorem dX54_keep_121 : decode cX54_keep 121 = .ok (.goto (-109), 3) := by decide +kernel
theorem dX54_keep_124 : decode cX54_keep 124 = .ok (.aload_n 0, 1) := by decide +kernel
theorem dX54_keep_125 : decode cX54_keep 125 = .ok (.getfield 29, 3) := by decide +kernel
theorem dX54_keep_128 : decode cX54_keep 128 = .ok (.iload_n 1, 1) := by decide +kernel
theorem dX54_keep_129 : decode cX54_keep 129 = .ok (.bipush 8, 2) := by decide +kernel
theorem dX54_keep_131 : decode cX54_keep 131 = .ok (.iadd, 1) := by decide +kernel
theorem dX54_keep_132 : decode cX54_keep 132 = .ok (.iload_n 2, 1) := by decide +kernel
theorem dX54_keep_133 : decode cX54_keep 133 = .ok (.iastore, 1) := by decide +kernel
theorem dX54_keep_134 : decode cX54_keep 134 = .ok (.aload_n 0, 1) := by decide +kernel
theorem dX54_keep_135 : decode cX54_keep 135 = .ok (.dup, 1) := by decide +kernel
theorem dX54_keep_136 : decode cX54_keep 136 = .ok (.getfield 98, 3) := by decide +kernel
theorem dX54_keep_139 : decode cX54_keep 139 = .ok (.iconst 1, 1) := by decide +kernel
theorem dX54_keep_140 : decode cX54_keep 140 = .ok (.iadd, 1) := by decide +kernel
theorem dX54_keep_141 : decode cX54_keep 141 = .ok (.putfield 98, 3) := by decide +kernel
theorem dX54_keep_144 : decode cX54_keep 144 = .ok (.return_, 1) := by decide +kernel
abbrev cX54_areOne : ByteArray := prog_90_method_21_code
def yX54_areOne : MethodName := ⟨RX54, "areOne", "(II)Z"⟩
theorem dX54_areOne_0 : decode cX54_areOne 0 = .ok (.aload_n 0, 1) := by decide +kernel
theorem dX54_areOne_1 : decode cX54_areOne 1 = .ok (.getfield 20, 3) := by decide +kernel
theorem dX54_areOne_4 : decode cX54_areOne 4 = .ok (.bipush 6, 2) := by decide +kernel
theorem dX54_areOne_6 : decode cX54_areOne 6 = .ok (.aload_n 0, 1) := by decide +kernel
theorem dX54_areOne_7 : decode cX54_areOne 7 = .ok (.getfield 32, 3) := by decide +kernel
theorem dX54_areOne_10 : decode cX54_areOne 10 = .ok (.iload_n 1, 1) := by decide +kernel
theorem dX54_areOne_11 : decode cX54_areOne 11 = .ok (.iaload, 1) := by decide +kernel
theorem dX54_areOne_12 : decode cX54_areOne 12 = .ok (.imul, 1) := by decide +kernel
theorem dX54_areOne_13 : decode cX54_areOne 13 = .ok (.iaload, 1) := by decide +kernel
theorem dX54_areOne_14 : decode cX54_areOne 14 = .ok (.istore_n 3, 1) := by decide +kernel
theorem dX54_areOne_15 : decode cX54_areOne 15 = .ok (.aload_n 0, 1) := by decide +kernel
theorem dX54_areOne_16 : decode cX54_areOne 16 = .ok (.getfield 20, 3) := by decide +kernel
theorem dX54_areOne_19 : decode cX54_areOne 19 = .ok (.bipush 6, 2) := by decide +kernel
theorem dX54_areOne_21 : decode cX54_areOne 21 = .ok (.aload_n 0, 1) := by decide +kernel
theorem dX54_areOne_22 : decode cX54_areOne 22 = .ok (.getfield 32, 3) := by decide +kernel
theorem dX54_areOne_25 : decode cX54_areOne 25 = .ok (.iload_n 2, 1) := by decide +kernel
theorem dX54_areOne_26 : decode cX54_areOne 26 = .ok (.iaload, 1) := by decide +kernel
theorem dX54_areOne_27 : decode cX54_areOne 27 = .ok (.imul, 1) := by decide +kernel
theorem dX54_areOne_28 : decode cX54_areOne 28 = .ok (.iaload, 1) := by decide +kernel
theorem dX54_areOne_29 : decode cX54_areOne 29 = .ok (.iload_n 3, 1) := by decide +kernel
theorem dX54_areOne_30 : decode cX54_areOne 30 = .ok (.if_icmp .eq 5, 3) := by decide +kernel
theorem dX54_areOne_33 : decode cX54_areOne 33 = .ok (.iconst 0, 1) := by decide +kernel
theorem dX54_areOne_34 : decode cX54_areOne 34 = .ok (.ireturn, 1) := by decide +kernel
theorem dX54_areOne_35 : decode cX54_areOne 35 = .ok (.iconst 0, 1) := by decide +kernel
theorem dX54_areOne_36 : decode cX54_areOne 36 = .ok (.istore 4, 2) := by decide +kernel
theorem dX54_areOne_38 : decode cX54_areOne 38 = .ok (.iload 4, 2) := by decide +kernel
theorem dX54_areOne_40 : decode cX54_areOne 40 = .ok (.iconst 4, 1) := by decide +kernel
theorem dX54_areOne_41 : decode cX54_areOne 41 = .ok (.if_icmp .ge 85, 3) := by decide +kernel
theorem dX54_areOne_44 : decode cX54_areOne 44 = .ok (.iload 4, 2) := by decide +kernel
theorem dX54_areOne_46 : decode cX54_areOne 46 = .ok (.iconst 2, 1) := by decide +kernel
theorem dX54_areOne_47 : decode cX54_areOne 47 = .ok (.idiv, 1) := by decide +kernel
theorem dX54_areOne_48 : decode cX54_areOne 48 = .ok (.istore 5, 2) := by decide +kernel
theorem dX54_areOne_50 : decode cX54_areOne 50 = .ok (.iload 4, 2) := by decide +kernel
theorem dX54_areOne_52 : decode cX54_areOne 52 = .ok (.iconst 2, 1) := by decide +kernel
theorem dX54_areOne_53 : decode cX54_areOne 53 = .ok (.irem, 1) := by decide +kernel
theorem dX54_areOne_54 : decode cX54_areOne 54 = .ok (.istore 6, 2) := by decide +kernel
theorem dX54_areOne_56 : decode cX54_areOne 56 = .ok (.aload_n 0, 1) := by decide +kernel
theorem dX54_areOne_57 : decode cX54_areOne 57 = .ok (.aload_n 0, 1) := by decide +kernel
theorem dX54_areOne_58 : decode cX54_areOne 58 = .ok (.getfield 32, 3) := by decide +kernel
theorem dX54_areOne_61 : decode cX54_areOne 61 = .ok (.iload_n 1, 1) := by decide +kernel
theorem dX54_areOne_62 : decode cX54_areOne 62 = .ok (.iaload, 1) := by decide +kernel
theorem dX54_areOne_63 : decode cX54_areOne 63 = .ok (.iload 5, 2) := by decide +kernel
theorem dX54_areOne_65 : decode cX54_areOne 65 = .ok (.invokevirtual 82, 3) := by decide +kernel
theorem dX54_areOne_68 : decode cX54_areOne 68 = .ok (.istore 7, 2) := by decide +kernel
theorem dX54_areOne_70 : decode cX54_areOne 70 = .ok (.aload_n 0, 1) := by decide +kernel
theorem dX54_areOne_71 : decode cX54_areOne 71 = .ok (.getfield 16, 3) := by decide +kernel
theorem dX54_areOne_74 : decode cX54_areOne 74 = .ok (.iconst 3, 1) := by decide +kernel
theorem dX54_areOne_75 : decode cX54_areOne 75 = .ok (.iload_n 3, 1) := by decide +kernel
theorem dX54_areOne_76 : decode cX54_areOne 76 = .ok (.imul, 1) := by decide +kernel
theorem dX54_areOne_77 : decode cX54_areOne 77 = .ok (.iload 7, 2) := by decide +kernel
theorem dX54_areOne_79 : decode cX54_areOne 79 = .ok (.iadd, 1) := by decide +kernel
theorem dX54_areOne_80 : decode cX54_areOne 80 = .ok (.baload, 1) := by decide +kernel
theorem dX54_areOne_81 : decode cX54_areOne 81 = .ok (.ifCond .eq 39, 3) := by decide +kernel
theorem dX54_areOne_84 : decode cX54_areOne 84 = .ok (.aload_n 0, 1) := by decide +kernel
theorem dX54_areOne_85 : decode cX54_areOne 85 = .ok (.aload_n 0, 1) := by decide +kernel
theorem dX54_areOne_86 : decode cX54_areOne 86 = .ok (.getfield 32, 3) := by decide +kernel
theorem dX54_areOne_89 : decode cX54_areOne 89 = .ok (.iload_n 2, 1) := by decide +kernel
theorem dX54_areOne_90 : decode cX54_areOne 90 = .ok (.iaload, 1) := by decide +kernel
theorem dX54_areOne_91 : decode cX54_areOne 91 = .ok (.iload 6, 2) := by decide +kernel
theorem dX54_areOne_93 : decode cX54_areOne 93 = .ok (.invokevirtual 82, 3) := by decide +kernel
theorem dX54_areOne_96 : decode cX54_areOne 96 = .ok (.iload 7, 2) := by decide +kernel
theorem dX54_areOne_98 : decode cX54_areOne 98 = .ok (.if_icmp .ne 22, 3) := by decide +kernel
theorem dX54_areOne_101 : decode cX54_areOne 101 = .ok (.aload_n 0, 1) := by decide +kernel
theorem dX54_areOne_102 : decode cX54_areOne 102 = .ok (.iload_n 1, 1) := by decide +kernel
theorem dX54_areOne_103 : decode cX54_areOne 103 = .ok (.iload 5, 2) := by decide +kernel
theorem dX54_areOne_105 : decode cX54_areOne 105 = .ok (.invokevirtual 95, 3) := by decide +kernel
theorem dX54_areOne_108 : decode cX54_areOne 108 = .ok (.aload_n 0, 1) := by decide +kernel
theorem dX54_areOne_109 : decode cX54_areOne 109 = .ok (.iload_n 2, 1) := by decide +kernel
theorem dX54_areOne_110 : decode cX54_areOne 110 = .ok (.iload 6, 2) := by decide +kernel
theorem dX54_areOne_112 : decode cX54_areOne 112 = .ok (.invokevirtual 95, 3) := by decide +kernel
theorem dX54_areOne_115 : decode cX54_areOne 115 = .ok (.if_icmp .ne 5, 3) := by decide +kernel
theorem dX54_areOne_118 : decode cX54_areOne 118 = .ok (.iconst 1, 1) := by decide +kernel
theorem dX54_areOne_119 : decode cX54_areOne 119 = .ok (.ireturn, 1) := by decide +kernel
theorem dX54_areOne_120 : decode cX54_areOne 120 = .ok (.iinc 4 1, 3) := by decide +kernel
theorem dX54_areOne_123 : decode cX54_areOne 123 = .ok (.goto (-85), 3) := by decide +kernel
theorem dX54_areOne_126 : decode cX54_areOne 126 = .ok (.iconst 0, 1) := by decide +kernel
theorem dX54_areOne_127 : decode cX54_areOne 127 = .ok (.ireturn, 1) := by decide +kernel
abbrev cX54_columnOf : ByteArray := prog_90_method_12_code
def yX54_columnOf : MethodName := ⟨RX54, "columnOf", "(II)I"⟩
theorem dX54_columnOf_0 : decode cX54_columnOf 0 = .ok (.aload_n 0, 1) := by decide +kernel
theorem dX54_columnOf_1 : decode cX54_columnOf 1 = .ok (.getfield 20, 3) := by decide +kernel
theorem dX54_columnOf_4 : decode cX54_columnOf 4 = .ok (.bipush 6, 2) := by decide +kernel
theorem dX54_columnOf_6 : decode cX54_columnOf 6 = .ok (.iload_n 1, 1) := by decide +kernel
theorem dX54_columnOf_7 : decode cX54_columnOf 7 = .ok (.imul, 1) := by decide +kernel
theorem dX54_columnOf_8 : decode cX54_columnOf 8 = .ok (.iconst 3, 1) := by decide +kernel
theorem dX54_columnOf_9 : decode cX54_columnOf 9 = .ok (.iadd, 1) := by decide +kernel
theorem dX54_columnOf_10 : decode cX54_columnOf 10 = .ok (.iconst 2, 1) := by decide +kernel
theorem dX54_columnOf_11 : decode cX54_columnOf 11 = .ok (.iload_n 2, 1) := by decide +kernel
theorem dX54_columnOf_12 : decode cX54_columnOf 12 = .ok (.imul, 1) := by decide +kernel
theorem dX54_columnOf_13 : decode cX54_columnOf 13 = .ok (.iadd, 1) := by decide +kernel
theorem dX54_columnOf_14 : decode cX54_columnOf 14 = .ok (.iaload, 1) := by decide +kernel
theorem dX54_columnOf_15 : decode cX54_columnOf 15 = .ok (.ireturn, 1) := by decide +kernel
abbrev cX54_next : ByteArray := prog_90_method_19_code
def yX54_next : MethodName := ⟨RX54, "next", "()Z"⟩
theorem dX54_next_0 : decode cX54_next 0 = .ok (.aload_n 0, 1) := by decide +kernel
theorem dX54_next_1 : decode cX54_next 1 = .ok (.getfield 89, 3) := by decide +kernel
theorem dX54_next_4 : decode cX54_next 4 = .ok (.iconst 1, 1) := by decide +kernel
theorem dX54_next_5 : decode cX54_next 5 = .ok (.isub, 1) := by decide +kernel
theorem dX54_next_6 : decode cX54_next 6 = .ok (.istore_n 1, 1) := by decide +kernel
theorem dX54_next_7 : decode cX54_next 7 = .ok (.iload_n 1, 1) := by decide +kernel
theorem dX54_next_8 : decode cX54_next 8 = .ok (.ifCond .lt 31, 3) := by decide +kernel
theorem dX54_next_11 : decode cX54_next 11 = .ok (.aload_n 0, 1) := by decide +kernel
theorem dX54_next_12 : decode cX54_next 12 = .ok (.getfield 32, 3) := by decide +kernel
theorem dX54_next_15 : decode cX54_next 15 = .ok (.iload_n 1, 1) := by decide +kernel
theorem dX54_next_16 : decode cX54_next 16 = .ok (.iaload, 1) := by decide +kernel
theorem dX54_next_17 : decode cX54_next 17 = .ok (.aload_n 0, 1) := by decide +kernel
theorem dX54_next_18 : decode cX54_next 18 = .ok (.getfield 75, 3) := by decide +kernel
theorem dX54_next_21 : decode cX54_next 21 = .ok (.iconst 1, 1) := by decide +kernel
theorem dX54_next_22 : decode cX54_next 22 = .ok (.isub, 1) := by decide +kernel
theorem dX54_next_23 : decode cX54_next 23 = .ok (.if_icmp .ne 16, 3) := by decide +kernel
theorem dX54_next_26 : decode cX54_next 26 = .ok (.aload_n 0, 1) := by decide +kernel
theorem dX54_next_27 : decode cX54_next 27 = .ok (.getfield 32, 3) := by decide +kernel
theorem dX54_next_30 : decode cX54_next 30 = .ok (.iload_n 1, 1) := by decide +kernel
theorem dX54_next_31 : decode cX54_next 31 = .ok (.iconst 0, 1) := by decide +kernel
theorem dX54_next_32 : decode cX54_next 32 = .ok (.iastore, 1) := by decide +kernel
theorem dX54_next_33 : decode cX54_next 33 = .ok (.iinc 1 (-1), 3) := by decide +kernel
theorem dX54_next_36 : decode cX54_next 36 = .ok (.goto (-29), 3) := by decide +kernel
theorem dX54_next_39 : decode cX54_next 39 = .ok (.iload_n 1, 1) := by decide +kernel
theorem dX54_next_40 : decode cX54_next 40 = .ok (.ifCond .ge 5, 3) := by decide +kernel
theorem dX54_next_43 : decode cX54_next 43 = .ok (.iconst 0, 1) := by decide +kernel
theorem dX54_next_44 : decode cX54_next 44 = .ok (.ireturn, 1) := by decide +kernel
theorem dX54_next_45 : decode cX54_next 45 = .ok (.aload_n 0, 1) := by decide +kernel
theorem dX54_next_46 : decode cX54_next 46 = .ok (.getfield 32, 3) := by decide +kernel
theorem dX54_next_49 : decode cX54_next 49 = .ok (.iload_n 1, 1) := by decide +kernel
theorem dX54_next_50 : decode cX54_next 50 = .ok (.dup2, 1) := by decide +kernel
theorem dX54_next_51 : decode cX54_next 51 = .ok (.iaload, 1) := by decide +kernel
theorem dX54_next_52 : decode cX54_next 52 = .ok (.iconst 1, 1) := by decide +kernel
theorem dX54_next_53 : decode cX54_next 53 = .ok (.iadd, 1) := by decide +kernel
theorem dX54_next_54 : decode cX54_next 54 = .ok (.iastore, 1) := by decide +kernel
theorem dX54_next_55 : decode cX54_next 55 = .ok (.iconst 1, 1) := by decide +kernel
theorem dX54_next_56 : decode cX54_next 56 = .ok (.ireturn, 1) := by decide +kernel
abbrev cX54_look : ByteArray := prog_90_method_32_code
def yX54_look : MethodName := ⟨RX54, "look", "(I)V"⟩
theorem dX54_look_0 : decode cX54_look 0 = .ok (.iconst 0, 1) := by decide +kernel
theorem dX54_look_1 : decode cX54_look 1 = .ok (.istore_n 2, 1) := by decide +kernel
theorem dX54_look_2 : decode cX54_look 2 = .ok (.aload_n 0, 1) := by decide +kernel
theorem dX54_look_3 : decode cX54_look 3 = .ok (.getfield 35, 3) := by decide +kernel
theorem dX54_look_6 : decode cX54_look 6 = .ok (.iconst 0, 1) := by decide +kernel
theorem dX54_look_7 : decode cX54_look 7 = .ok (.iconst (-1), 1) := by decide +kernel
theorem dX54_look_8 : decode cX54_look 8 = .ok (.iastore, 1) := by decide +kernel
theorem dX54_look_9 : decode cX54_look 9 = .ok (.iload_n 2, 1) := by decide +kernel
theorem dX54_look_10 : decode cX54_look 10 = .ok (.ifCond .lt 154, 3) := by decide +kernel
theorem dX54_look_13 : decode cX54_look 13 = .ok (.aload_n 0, 1) := by decide +kernel
theorem dX54_look_14 : decode cX54_look 14 = .ok (.getfield 131, 3) := by decide +kernel
theorem dX54_look_17 : decode cX54_look 17 = .ok (.ifCond .ne 147, 3) := by decide +kernel
theorem dX54_look_20 : decode cX54_look 20 = .ok (.aload_n 0, 1) := by decide +kernel
theorem dX54_look_21 : decode cX54_look 21 = .ok (.iload_n 1, 1) := by decide +kernel
theorem dX54_look_22 : decode cX54_look 22 = .ok (.iload_n 2, 1) := by decide +kernel
theorem dX54_look_23 : decode cX54_look 23 = .ok (.invokevirtual 134, 3) := by decide +kernel
theorem dX54_look_26 : decode cX54_look 26 = .ok (.istore_n 3, 1) := by decide +kernel
theorem dX54_look_27 : decode cX54_look 27 = .ok (.iload_n 3, 1) := by decide +kernel
theorem dX54_look_28 : decode cX54_look 28 = .ok (.iload_n 2, 1) := by decide +kernel
theorem dX54_look_29 : decode cX54_look 29 = .ok (.if_icmp .ge 34, 3) := by decide +kernel
theorem dX54_look_32 : decode cX54_look 32 = .ok (.aload_n 0, 1) := by decide +kernel
theorem dX54_look_33 : decode cX54_look 33 = .ok (.getfield 35, 3) := by decide +kernel
theorem dX54_look_36 : decode cX54_look 36 = .ok (.iload_n 2, 1) := by decide +kernel
theorem dX54_look_37 : decode cX54_look 37 = .ok (.iaload, 1) := by decide +kernel
theorem dX54_look_38 : decode cX54_look 38 = .ok (.ifCond .ge 7, 3) := by decide +kernel
theorem dX54_look_41 : decode cX54_look 41 = .ok (.iconst 1, 1) := by decide +kernel
theorem dX54_look_42 : decode cX54_look 42 = .ok (.goto 4, 3) := by decide +kernel
theorem dX54_look_45 : decode cX54_look 45 = .ok (.iconst 0, 1) := by decide +kernel
theorem dX54_look_46 : decode cX54_look 46 = .ok (.istore 4, 2) := by decide +kernel
theorem dX54_look_48 : decode cX54_look 48 = .ok (.aload_n 0, 1) := by decide +kernel
theorem dX54_look_49 : decode cX54_look 49 = .ok (.getfield 35, 3) := by decide +kernel
theorem dX54_look_52 : decode cX54_look 52 = .ok (.iload_n 2, 1) := by decide +kernel
theorem dX54_look_53 : decode cX54_look 53 = .ok (.aload_n 0, 1) := by decide +kernel
theorem dX54_look_54 : decode cX54_look 54 = .ok (.getfield 35, 3) := by decide +kernel
theorem dX54_look_57 : decode cX54_look 57 = .ok (.iload_n 3, 1) := by decide +kernel
theorem dX54_look_58 : decode cX54_look 58 = .ok (.iaload, 1) := by decide +kernel
theorem dX54_look_59 : decode cX54_look 59 = .ok (.iastore, 1) := by decide +kernel
theorem dX54_look_60 : decode cX54_look 60 = .ok (.goto 53, 3) := by decide +kernel
theorem dX54_look_63 : decode cX54_look 63 = .ok (.aload_n 0, 1) := by decide +kernel
theorem dX54_look_64 : decode cX54_look 64 = .ok (.getfield 35, 3) := by decide +kernel
theorem dX54_look_67 : decode cX54_look 67 = .ok (.iload_n 2, 1) := by decide +kernel
theorem dX54_look_68 : decode cX54_look 68 = .ok (.dup2, 1) := by decide +kernel
theorem dX54_look_69 : decode cX54_look 69 = .ok (.iaload, 1) := by decide +kernel
theorem dX54_look_70 : decode cX54_look 70 = .ok (.iconst 1, 1) := by decide +kernel
theorem dX54_look_71 : decode cX54_look 71 = .ok (.iadd, 1) := by decide +kernel
theorem dX54_look_72 : decode cX54_look 72 = .ok (.iastore, 1) := by decide +kernel
theorem dX54_look_73 : decode cX54_look 73 = .ok (.aload_n 0, 1) := by decide +kernel
theorem dX54_look_74 : decode cX54_look 74 = .ok (.getfield 35, 3) := by decide +kernel
theorem dX54_look_77 : decode cX54_look 77 = .ok (.iload_n 2, 1) := by decide +kernel
theorem dX54_look_78 : decode cX54_look 78 = .ok (.iaload, 1) := by decide +kernel
theorem dX54_look_79 : decode cX54_look 79 = .ok (.aload_n 0, 1) := by decide +kernel
theorem dX54_look_80 : decode cX54_look 80 = .ok (.getfield 13, 3) := by decide +kernel
theorem dX54_look_83 : decode cX54_look 83 = .ok (.aload_n 0, 1) := by decide +kernel
theorem dX54_look_84 : decode cX54_look 84 = .ok (.getfield 20, 3) := by decide +kernel
theorem dX54_look_87 : decode cX54_look 87 = .ok (.bipush 6, 2) := by decide +kernel
theorem dX54_look_89 : decode cX54_look 89 = .ok (.aload_n 0, 1) := by decide +kernel
theorem dX54_look_90 : decode cX54_look 90 = .ok (.getfield 29, 3) := by decide +kernel
theorem dX54_look_93 : decode cX54_look 93 = .ok (.bipush 9, 2) := by decide +kernel
theorem dX54_look_95 : decode cX54_look 95 = .ok (.iload_n 1, 1) := by decide +kernel
theorem dX54_look_96 : decode cX54_look 96 = .ok (.imul, 1) := by decide +kernel
theorem dX54_look_97 : decode cX54_look 97 = .ok (.iload_n 2, 1) := by decide +kernel
theorem dX54_look_98 : decode cX54_look 98 = .ok (.iadd, 1) := by decide +kernel
theorem dX54_look_99 : decode cX54_look 99 = .ok (.iaload, 1) := by decide +kernel
theorem dX54_look_100 : decode cX54_look 100 = .ok (.imul, 1) := by decide +kernel
theorem dX54_look_101 : decode cX54_look 101 = .ok (.iaload, 1) := by decide +kernel
theorem dX54_look_102 : decode cX54_look 102 = .ok (.iaload, 1) := by decide +kernel
theorem dX54_look_103 : decode cX54_look 103 = .ok (.if_icmp .ge 7, 3) := by decide +kernel
theorem dX54_look_106 : decode cX54_look 106 = .ok (.iconst 1, 1) := by decide +kernel
theorem dX54_look_107 : decode cX54_look 107 = .ok (.goto 4, 3) := by decide +kernel
theorem dX54_look_110 : decode cX54_look 110 = .ok (.iconst 0, 1) := by decide +kernel
theorem dX54_look_111 : decode cX54_look 111 = .ok (.istore 4, 2) := by decide +kernel
theorem dX54_look_113 : decode cX54_look 113 = .ok (.iload 4, 2) := by decide +kernel
theorem dX54_look_115 : decode cX54_look 115 = .ok (.ifCond .ne 9, 3) := by decide +kernel
theorem dX54_look_118 : decode cX54_look 118 = .ok (.iinc 2 (-1), 3) := by decide +kernel
theorem dX54_look_121 : decode cX54_look 121 = .ok (.goto 40, 3) := by decide +kernel
theorem dX54_look_124 : decode cX54_look 124 = .ok (.aload_n 0, 1) := by decide +kernel
theorem dX54_look_125 : decode cX54_look 125 = .ok (.iload_n 1, 1) := by decide +kernel
theorem dX54_look_126 : decode cX54_look 126 = .ok (.iload_n 2, 1) := by decide +kernel
theorem dX54_look_127 : decode cX54_look 127 = .ok (.invokevirtual 137, 3) := by decide +kernel
theorem dX54_look_130 : decode cX54_look 130 = .ok (.ifCond .eq 31, 3) := by decide +kernel
theorem dX54_look_133 : decode cX54_look 133 = .ok (.iload_n 2, 1) := by decide +kernel
theorem dX54_look_134 : decode cX54_look 134 = .ok (.iconst 1, 1) := by decide +kernel
theorem dX54_look_135 : decode cX54_look 135 = .ok (.iadd, 1) := by decide +kernel
theorem dX54_look_136 : decode cX54_look 136 = .ok (.aload_n 0, 1) := by decide +kernel
theorem dX54_look_137 : decode cX54_look 137 = .ok (.getfield 89, 3) := by decide +kernel
theorem dX54_look_140 : decode cX54_look 140 = .ok (.if_icmp .ge 16, 3) := by decide +kernel
theorem dX54_look_143 : decode cX54_look 143 = .ok (.iinc 2 1, 3) := by decide +kernel
theorem dX54_look_146 : decode cX54_look 146 = .ok (.aload_n 0, 1) := by decide +kernel
theorem dX54_look_147 : decode cX54_look 147 = .ok (.getfield 35, 3) := by decide +kernel
theorem dX54_look_150 : decode cX54_look 150 = .ok (.iload_n 2, 1) := by decide +kernel
theorem dX54_look_151 : decode cX54_look 151 = .ok (.iconst (-1), 1) := by decide +kernel
theorem dX54_look_152 : decode cX54_look 152 = .ok (.iastore, 1) := by decide +kernel
theorem dX54_look_153 : decode cX54_look 153 = .ok (.goto 8, 3) := by decide +kernel
theorem dX54_look_156 : decode cX54_look 156 = .ok (.aload_n 0, 1) := by decide +kernel
theorem dX54_look_157 : decode cX54_look 157 = .ok (.iload_n 1, 1) := by decide +kernel
theorem dX54_look_158 : decode cX54_look 158 = .ok (.invokevirtual 140, 3) := by decide +kernel
theorem dX54_look_161 : decode cX54_look 161 = .ok (.goto (-152), 3) := by decide +kernel
theorem dX54_look_164 : decode cX54_look 164 = .ok (.return_, 1) := by decide +kernel
abbrev cX54_leader : ByteArray := prog_90_method_31_code
def yX54_leader : MethodName := ⟨RX54, "leader", "(II)I"⟩
theorem dX54_leader_0 : decode cX54_leader 0 = .ok (.iconst 0, 1) := by decide +kernel
theorem dX54_leader_1 : decode cX54_leader 1 = .ok (.istore_n 3, 1) := by decide +kernel
theorem dX54_leader_2 : decode cX54_leader 2 = .ok (.aload_n 0, 1) := by decide +kernel
theorem dX54_leader_3 : decode cX54_leader 3 = .ok (.getfield 29, 3) := by decide +kernel
theorem dX54_leader_6 : decode cX54_leader 6 = .ok (.bipush 9, 2) := by decide +kernel
theorem dX54_leader_8 : decode cX54_leader 8 = .ok (.iload_n 1, 1) := by decide +kernel
theorem dX54_leader_9 : decode cX54_leader 9 = .ok (.imul, 1) := by decide +kernel
theorem dX54_leader_10 : decode cX54_leader 10 = .ok (.iconst 4, 1) := by decide +kernel
theorem dX54_leader_11 : decode cX54_leader 11 = .ok (.iadd, 1) := by decide +kernel
theorem dX54_leader_12 : decode cX54_leader 12 = .ok (.iload_n 3, 1) := by decide +kernel
theorem dX54_leader_13 : decode cX54_leader 13 = .ok (.iadd, 1) := by decide +kernel
theorem dX54_leader_14 : decode cX54_leader 14 = .ok (.iaload, 1) := by decide +kernel
theorem dX54_leader_15 : decode cX54_leader 15 = .ok (.aload_n 0, 1) := by decide +kernel
theorem dX54_leader_16 : decode cX54_leader 16 = .ok (.getfield 29, 3) := by decide +kernel
theorem dX54_leader_19 : decode cX54_leader 19 = .ok (.bipush 9, 2) := by decide +kernel
theorem dX54_leader_21 : decode cX54_leader 21 = .ok (.iload_n 1, 1) := by decide +kernel
theorem dX54_leader_22 : decode cX54_leader 22 = .ok (.imul, 1) := by decide +kernel
theorem dX54_leader_23 : decode cX54_leader 23 = .ok (.iconst 4, 1) := by decide +kernel
theorem dX54_leader_24 : decode cX54_leader 24 = .ok (.iadd, 1) := by decide +kernel
theorem dX54_leader_25 : decode cX54_leader 25 = .ok (.iload_n 2, 1) := by decide +kernel
theorem dX54_leader_26 : decode cX54_leader 26 = .ok (.iadd, 1) := by decide +kernel
theorem dX54_leader_27 : decode cX54_leader 27 = .ok (.iaload, 1) := by decide +kernel
theorem dX54_leader_28 : decode cX54_leader 28 = .ok (.if_icmp .eq 9, 3) := by decide +kernel
theorem dX54_leader_31 : decode cX54_leader 31 = .ok (.iinc 3 1, 3) := by decide +kernel
theorem dX54_leader_34 : decode cX54_leader 34 = .ok (.goto (-32), 3) := by decide +kernel
theorem dX54_leader_37 : decode cX54_leader 37 = .ok (.iload_n 3, 1) := by decide +kernel
theorem dX54_leader_38 : decode cX54_leader 38 = .ok (.ireturn, 1) := by decide +kernel
abbrev cX54_goes : ByteArray := prog_90_method_30_code
def yX54_goes : MethodName := ⟨RX54, "goes", "(II)Z"⟩
theorem dX54_goes_0 : decode cX54_goes 0 = .ok (.iconst 0, 1) := by decide +kernel
theorem dX54_goes_1 : decode cX54_goes 1 = .ok (.istore_n 3, 1) := by decide +kernel
theorem dX54_goes_2 : decode cX54_goes 2 = .ok (.iload_n 3, 1) := by decide +kernel
theorem dX54_goes_3 : decode cX54_goes 3 = .ok (.iconst 2, 1) := by decide +kernel
theorem dX54_goes_4 : decode cX54_goes 4 = .ok (.if_icmp .ge 172, 3) := by decide +kernel
theorem dX54_goes_7 : decode cX54_goes 7 = .ok (.aload_n 0, 1) := by decide +kernel
theorem dX54_goes_8 : decode cX54_goes 8 = .ok (.iload_n 2, 1) := by decide +kernel
theorem dX54_goes_9 : decode cX54_goes 9 = .ok (.iload_n 3, 1) := by decide +kernel
theorem dX54_goes_10 : decode cX54_goes 10 = .ok (.invokevirtual 95, 3) := by decide +kernel
theorem dX54_goes_13 : decode cX54_goes 13 = .ok (.istore 4, 2) := by decide +kernel
theorem dX54_goes_15 : decode cX54_goes 15 = .ok (.aload_n 0, 1) := by decide +kernel
theorem dX54_goes_16 : decode cX54_goes 16 = .ok (.iload_n 1, 1) := by decide +kernel
theorem dX54_goes_17 : decode cX54_goes 17 = .ok (.iload_n 2, 1) := by decide +kernel
theorem dX54_goes_18 : decode cX54_goes 18 = .ok (.iload_n 3, 1) := by decide +kernel
theorem dX54_goes_19 : decode cX54_goes 19 = .ok (.invokevirtual 128, 3) := by decide +kernel
theorem dX54_goes_22 : decode cX54_goes 22 = .ok (.istore 5, 2) := by decide +kernel
theorem dX54_goes_24 : decode cX54_goes 24 = .ok (.iload 4, 2) := by decide +kernel
theorem dX54_goes_26 : decode cX54_goes 26 = .ok (.ifCond .lt 12, 3) := by decide +kernel
theorem dX54_goes_29 : decode cX54_goes 29 = .ok (.iload 4, 2) := by decide +kernel
theorem dX54_goes_31 : decode cX54_goes 31 = .ok (.iload 5, 2) := by decide +kernel
theorem dX54_goes_33 : decode cX54_goes 33 = .ok (.if_icmp .eq 137, 3) := by decide +kernel
theorem dX54_goes_36 : decode cX54_goes 36 = .ok (.iconst 0, 1) := by decide +kernel
theorem dX54_goes_37 : decode cX54_goes 37 = .ok (.ireturn, 1) := by decide +kernel
theorem dX54_goes_38 : decode cX54_goes 38 = .ok (.iconst 0, 1) := by decide +kernel
theorem dX54_goes_39 : decode cX54_goes 39 = .ok (.istore 6, 2) := by decide +kernel
theorem dX54_goes_41 : decode cX54_goes 41 = .ok (.iload 6, 2) := by decide +kernel
theorem dX54_goes_43 : decode cX54_goes 43 = .ok (.iconst 2, 1) := by decide +kernel
theorem dX54_goes_44 : decode cX54_goes 44 = .ok (.iload_n 2, 1) := by decide +kernel
theorem dX54_goes_45 : decode cX54_goes 45 = .ok (.imul, 1) := by decide +kernel
theorem dX54_goes_46 : decode cX54_goes 46 = .ok (.iload_n 3, 1) := by decide +kernel
theorem dX54_goes_47 : decode cX54_goes 47 = .ok (.iadd, 1) := by decide +kernel
theorem dX54_goes_48 : decode cX54_goes 48 = .ok (.if_icmp .ge 46, 3) := by decide +kernel
theorem dX54_goes_51 : decode cX54_goes 51 = .ok (.aload_n 0, 1) := by decide +kernel
theorem dX54_goes_52 : decode cX54_goes 52 = .ok (.iload 6, 2) := by decide +kernel
theorem dX54_goes_54 : decode cX54_goes 54 = .ok (.iconst 2, 1) := by decide +kernel
theorem dX54_goes_55 : decode cX54_goes 55 = .ok (.idiv, 1) := by decide +kernel
theorem dX54_goes_56 : decode cX54_goes 56 = .ok (.iload 6, 2) := by decide +kernel
theorem dX54_goes_58 : decode cX54_goes 58 = .ok (.iconst 2, 1) := by decide +kernel
theorem dX54_goes_59 : decode cX54_goes 59 = .ok (.irem, 1) := by decide +kernel
theorem dX54_goes_60 : decode cX54_goes 60 = .ok (.invokevirtual 95, 3) := by decide +kernel
theorem dX54_goes_63 : decode cX54_goes 63 = .ok (.iload 4, 2) := by decide +kernel
theorem dX54_goes_65 : decode cX54_goes 65 = .ok (.if_icmp .ne 23, 3) := by decide +kernel
theorem dX54_goes_68 : decode cX54_goes 68 = .ok (.aload_n 0, 1) := by decide +kernel
theorem dX54_goes_69 : decode cX54_goes 69 = .ok (.iload_n 1, 1) := by decide +kernel
theorem dX54_goes_70 : decode cX54_goes 70 = .ok (.iload 6, 2) := by decide +kernel
theorem dX54_goes_72 : decode cX54_goes 72 = .ok (.iconst 2, 1) := by decide +kernel
theorem dX54_goes_73 : decode cX54_goes 73 = .ok (.idiv, 1) := by decide +kernel
theorem dX54_goes_74 : decode cX54_goes 74 = .ok (.iload 6, 2) := by decide +kernel
theorem dX54_goes_76 : decode cX54_goes 76 = .ok (.iconst 2, 1) := by decide +kernel
theorem dX54_goes_77 : decode cX54_goes 77 = .ok (.irem, 1) := by decide +kernel
theorem dX54_goes_78 : decode cX54_goes 78 = .ok (.invokevirtual 128, 3) := by decide +kernel
theorem dX54_goes_81 : decode cX54_goes 81 = .ok (.iload 5, 2) := by decide +kernel
theorem dX54_goes_83 : decode cX54_goes 83 = .ok (.if_icmp .eq 5, 3) := by decide +kernel
theorem dX54_goes_86 : decode cX54_goes 86 = .ok (.iconst 0, 1) := by decide +kernel
theorem dX54_goes_87 : decode cX54_goes 87 = .ok (.ireturn, 1) := by decide +kernel
theorem dX54_goes_88 : decode cX54_goes 88 = .ok (.iinc 6 1, 3) := by decide +kernel
theorem dX54_goes_91 : decode cX54_goes 91 = .ok (.goto (-50), 3) := by decide +kernel
theorem dX54_goes_94 : decode cX54_goes 94 = .ok (.iconst 0, 1) := by decide +kernel
theorem dX54_goes_95 : decode cX54_goes 95 = .ok (.istore 6, 2) := by decide +kernel
theorem dX54_goes_97 : decode cX54_goes 97 = .ok (.iload 6, 2) := by decide +kernel
theorem dX54_goes_99 : decode cX54_goes 99 = .ok (.aload_n 0, 1) := by decide +kernel
theorem dX54_goes_100 : decode cX54_goes 100 = .ok (.getfield 92, 3) := by decide +kernel
theorem dX54_goes_103 : decode cX54_goes 103 = .ok (.if_icmp .ge 67, 3) := by decide +kernel
theorem dX54_goes_106 : decode cX54_goes 106 = .ok (.aload_n 0, 1) := by decide +kernel
theorem dX54_goes_107 : decode cX54_goes 107 = .ok (.getfield 26, 3) := by decide +kernel
theorem dX54_goes_110 : decode cX54_goes 110 = .ok (.iconst 3, 1) := by decide +kernel
theorem dX54_goes_111 : decode cX54_goes 111 = .ok (.iload 6, 2) := by decide +kernel
theorem dX54_goes_113 : decode cX54_goes 113 = .ok (.imul, 1) := by decide +kernel
theorem dX54_goes_114 : decode cX54_goes 114 = .ok (.iaload, 1) := by decide +kernel
theorem dX54_goes_115 : decode cX54_goes 115 = .ok (.iconst (-1), 1) := by decide +kernel
theorem dX54_goes_116 : decode cX54_goes 116 = .ok (.iload 4, 2) := by decide +kernel
theorem dX54_goes_118 : decode cX54_goes 118 = .ok (.isub, 1) := by decide +kernel
theorem dX54_goes_119 : decode cX54_goes 119 = .ok (.if_icmp .ne 45, 3) := by decide +kernel
theorem dX54_goes_122 : decode cX54_goes 122 = .ok (.iload 5, 2) := by decide +kernel
theorem dX54_goes_124 : decode cX54_goes 124 = .ok (.sipush 10000, 3) := by decide +kernel
theorem dX54_goes_127 : decode cX54_goes 127 = .ok (.irem, 1) := by decide +kernel
theorem dX54_goes_128 : decode cX54_goes 128 = .ok (.aload_n 0, 1) := by decide +kernel
theorem dX54_goes_129 : decode cX54_goes 129 = .ok (.getfield 26, 3) := by decide +kernel
theorem dX54_goes_132 : decode cX54_goes 132 = .ok (.iconst 3, 1) := by decide +kernel
theorem dX54_goes_133 : decode cX54_goes 133 = .ok (.iload 6, 2) := by decide +kernel
theorem dX54_goes_135 : decode cX54_goes 135 = .ok (.imul, 1) := by decide +kernel
theorem dX54_goes_136 : decode cX54_goes 136 = .ok (.iconst 1, 1) := by decide +kernel
theorem dX54_goes_137 : decode cX54_goes 137 = .ok (.iadd, 1) := by decide +kernel
theorem dX54_goes_138 : decode cX54_goes 138 = .ok (.iaload, 1) := by decide +kernel
theorem dX54_goes_139 : decode cX54_goes 139 = .ok (.if_icmp .lt 23, 3) := by decide +kernel
theorem dX54_goes_142 : decode cX54_goes 142 = .ok (.iload 5, 2) := by decide +kernel
theorem dX54_goes_144 : decode cX54_goes 144 = .ok (.sipush 10000, 3) := by decide +kernel
theorem dX54_goes_147 : decode cX54_goes 147 = .ok (.irem, 1) := by decide +kernel
theorem dX54_goes_148 : decode cX54_goes 148 = .ok (.aload_n 0, 1) := by decide +kernel
theorem dX54_goes_149 : decode cX54_goes 149 = .ok (.getfield 26, 3) := by decide +kernel
theorem dX54_goes_152 : decode cX54_goes 152 = .ok (.iconst 3, 1) := by decide +kernel
theorem dX54_goes_153 : decode cX54_goes 153 = .ok (.iload 6, 2) := by decide +kernel
theorem dX54_goes_155 : decode cX54_goes 155 = .ok (.imul, 1) := by decide +kernel
theorem dX54_goes_156 : decode cX54_goes 156 = .ok (.iconst 2, 1) := by decide +kernel
theorem dX54_goes_157 : decode cX54_goes 157 = .ok (.iadd, 1) := by decide +kernel
theorem dX54_goes_158 : decode cX54_goes 158 = .ok (.iaload, 1) := by decide +kernel
theorem dX54_goes_159 : decode cX54_goes 159 = .ok (.if_icmp .le 5, 3) := by decide +kernel
theorem dX54_goes_162 : decode cX54_goes 162 = .ok (.iconst 0, 1) := by decide +kernel
theorem dX54_goes_163 : decode cX54_goes 163 = .ok (.ireturn, 1) := by decide +kernel
theorem dX54_goes_164 : decode cX54_goes 164 = .ok (.iinc 6 1, 3) := by decide +kernel
theorem dX54_goes_167 : decode cX54_goes 167 = .ok (.goto (-70), 3) := by decide +kernel
theorem dX54_goes_170 : decode cX54_goes 170 = .ok (.iinc 3 1, 3) := by decide +kernel
theorem dX54_goes_173 : decode cX54_goes 173 = .ok (.goto (-171), 3) := by decide +kernel
theorem dX54_goes_176 : decode cX54_goes 176 = .ok (.iconst 1, 1) := by decide +kernel
theorem dX54_goes_177 : decode cX54_goes 177 = .ok (.ireturn, 1) := by decide +kernel
abbrev cX54_codeAt : ByteArray := prog_90_method_29_code
def yX54_codeAt : MethodName := ⟨RX54, "codeAt", "(III)I"⟩
theorem dX54_codeAt_0 : decode cX54_codeAt 0 = .ok (.aload_n 0, 1) := by decide +kernel
theorem dX54_codeAt_1 : decode cX54_codeAt 1 = .ok (.aload_n 0, 1) := by decide +kernel
theorem dX54_codeAt_2 : decode cX54_codeAt 2 = .ok (.getfield 29, 3) := by decide +kernel
theorem dX54_codeAt_5 : decode cX54_codeAt 5 = .ok (.bipush 9, 2) := by decide +kernel
theorem dX54_codeAt_7 : decode cX54_codeAt 7 = .ok (.iload_n 1, 1) := by decide +kernel
theorem dX54_codeAt_8 : decode cX54_codeAt 8 = .ok (.imul, 1) := by decide +kernel
theorem dX54_codeAt_9 : decode cX54_codeAt 9 = .ok (.iload_n 2, 1) := by decide +kernel
theorem dX54_codeAt_10 : decode cX54_codeAt 10 = .ok (.iadd, 1) := by decide +kernel
theorem dX54_codeAt_11 : decode cX54_codeAt 11 = .ok (.iaload, 1) := by decide +kernel
theorem dX54_codeAt_12 : decode cX54_codeAt 12 = .ok (.aload_n 0, 1) := by decide +kernel
theorem dX54_codeAt_13 : decode cX54_codeAt 13 = .ok (.getfield 35, 3) := by decide +kernel
theorem dX54_codeAt_16 : decode cX54_codeAt 16 = .ok (.iload_n 2, 1) := by decide +kernel
theorem dX54_codeAt_17 : decode cX54_codeAt 17 = .ok (.iaload, 1) := by decide +kernel
theorem dX54_codeAt_18 : decode cX54_codeAt 18 = .ok (.iload_n 3, 1) := by decide +kernel
theorem dX54_codeAt_19 : decode cX54_codeAt 19 = .ok (.invokevirtual 85, 3) := by decide +kernel
theorem dX54_codeAt_22 : decode cX54_codeAt 22 = .ok (.ireturn, 1) := by decide +kernel
abbrev cX54_codeOf : ByteArray := prog_90_method_13_code
def yX54_codeOf : MethodName := ⟨RX54, "codeOf", "(III)I"⟩
theorem dX54_codeOf_0 : decode cX54_codeOf 0 = .ok (.sipush 10000, 3) := by decide +kernel
theorem dX54_codeOf_3 : decode cX54_codeOf 3 = .ok (.aload_n 0, 1) := by decide +kernel
theorem dX54_codeOf_4 : decode cX54_codeOf 4 = .ok (.iload_n 1, 1) := by decide +kernel
theorem dX54_codeOf_5 : decode cX54_codeOf 5 = .ok (.iload_n 3, 1) := by decide +kernel
theorem dX54_codeOf_6 : decode cX54_codeOf 6 = .ok (.invokevirtual 78, 3) := by decide +kernel
theorem dX54_codeOf_9 : decode cX54_codeOf 9 = .ok (.imul, 1) := by decide +kernel
theorem dX54_codeOf_10 : decode cX54_codeOf 10 = .ok (.aload_n 0, 1) := by decide +kernel
theorem dX54_codeOf_11 : decode cX54_codeOf 11 = .ok (.aload_n 0, 1) := by decide +kernel
theorem dX54_codeOf_12 : decode cX54_codeOf 12 = .ok (.getfield 20, 3) := by decide +kernel
theorem dX54_codeOf_15 : decode cX54_codeOf 15 = .ok (.bipush 6, 2) := by decide +kernel
theorem dX54_codeOf_17 : decode cX54_codeOf 17 = .ok (.iload_n 1, 1) := by decide +kernel
theorem dX54_codeOf_18 : decode cX54_codeOf 18 = .ok (.imul, 1) := by decide +kernel
theorem dX54_codeOf_19 : decode cX54_codeOf 19 = .ok (.iaload, 1) := by decide +kernel
theorem dX54_codeOf_20 : decode cX54_codeOf 20 = .ok (.iload_n 2, 1) := by decide +kernel
theorem dX54_codeOf_21 : decode cX54_codeOf 21 = .ok (.aload_n 0, 1) := by decide +kernel
theorem dX54_codeOf_22 : decode cX54_codeOf 22 = .ok (.iload_n 1, 1) := by decide +kernel
theorem dX54_codeOf_23 : decode cX54_codeOf 23 = .ok (.iload_n 3, 1) := by decide +kernel
theorem dX54_codeOf_24 : decode cX54_codeOf 24 = .ok (.invokevirtual 82, 3) := by decide +kernel
theorem dX54_codeOf_27 : decode cX54_codeOf 27 = .ok (.invokevirtual 60, 3) := by decide +kernel
theorem dX54_codeOf_30 : decode cX54_codeOf 30 = .ok (.iadd, 1) := by decide +kernel
theorem dX54_codeOf_31 : decode cX54_codeOf 31 = .ok (.ireturn, 1) := by decide +kernel
abbrev cX54_cell : ByteArray := prog_90_method_4_code
def yX54_cell : MethodName := ⟨RX54, "cell", "(III)I"⟩
theorem dX54_cell_0 : decode cX54_cell 0 = .ok (.aload_n 0, 1) := by decide +kernel
theorem dX54_cell_1 : decode cX54_cell 1 = .ok (.getfield 7, 3) := by decide +kernel
theorem dX54_cell_4 : decode cX54_cell 4 = .ok (.bipush 60, 2) := by decide +kernel
theorem dX54_cell_6 : decode cX54_cell 6 = .ok (.iload_n 1, 1) := by decide +kernel
theorem dX54_cell_7 : decode cX54_cell 7 = .ok (.imul, 1) := by decide +kernel
theorem dX54_cell_8 : decode cX54_cell 8 = .ok (.iconst 3, 1) := by decide +kernel
theorem dX54_cell_9 : decode cX54_cell 9 = .ok (.iload_n 2, 1) := by decide +kernel
theorem dX54_cell_10 : decode cX54_cell 10 = .ok (.imul, 1) := by decide +kernel
theorem dX54_cell_11 : decode cX54_cell 11 = .ok (.iadd, 1) := by decide +kernel
theorem dX54_cell_12 : decode cX54_cell 12 = .ok (.iload_n 3, 1) := by decide +kernel
theorem dX54_cell_13 : decode cX54_cell 13 = .ok (.iadd, 1) := by decide +kernel
theorem dX54_cell_14 : decode cX54_cell 14 = .ok (.iaload, 1) := by decide +kernel
theorem dX54_cell_15 : decode cX54_cell 15 = .ok (.ireturn, 1) := by decide +kernel
abbrev cX54_note : ByteArray := prog_90_method_34_code
def yX54_note : MethodName := ⟨RX54, "note", "(I)V"⟩
theorem dX54_note_0 : decode cX54_note 0 = .ok (.iconst 0, 1) := by decide +kernel
theorem dX54_note_1 : decode cX54_note 1 = .ok (.istore_n 2, 1) := by decide +kernel
theorem dX54_note_2 : decode cX54_note 2 = .ok (.iconst 0, 1) := by decide +kernel
theorem dX54_note_3 : decode cX54_note 3 = .ok (.istore_n 3, 1) := by decide +kernel
theorem dX54_note_4 : decode cX54_note 4 = .ok (.iload_n 2, 1) := by decide +kernel
theorem dX54_note_5 : decode cX54_note 5 = .ok (.aload_n 0, 1) := by decide +kernel
theorem dX54_note_6 : decode cX54_note 6 = .ok (.getfield 144, 3) := by decide +kernel
theorem dX54_note_9 : decode cX54_note 9 = .ok (.if_icmp .ge 72, 3) := by decide +kernel
theorem dX54_note_12 : decode cX54_note 12 = .ok (.iload_n 3, 1) := by decide +kernel
theorem dX54_note_13 : decode cX54_note 13 = .ok (.ifCond .ne 68, 3) := by decide +kernel
theorem dX54_note_16 : decode cX54_note 16 = .ok (.iconst 1, 1) := by decide +kernel
theorem dX54_note_17 : decode cX54_note 17 = .ok (.istore_n 3, 1) := by decide +kernel
theorem dX54_note_18 : decode cX54_note 18 = .ok (.iconst 0, 1) := by decide +kernel
theorem dX54_note_19 : decode cX54_note 19 = .ok (.istore 4, 2) := by decide +kernel
theorem dX54_note_21 : decode cX54_note 21 = .ok (.iload 4, 2) := by decide +kernel
theorem dX54_note_23 : decode cX54_note 23 = .ok (.bipush 6, 2) := by decide +kernel
theorem dX54_note_25 : decode cX54_note 25 = .ok (.if_icmp .ge 41, 3) := by decide +kernel
theorem dX54_note_28 : decode cX54_note 28 = .ok (.iload_n 3, 1) := by decide +kernel
theorem dX54_note_29 : decode cX54_note 29 = .ok (.ifCond .eq 37, 3) := by decide +kernel
theorem dX54_note_32 : decode cX54_note 32 = .ok (.aload_n 0, 1) := by decide +kernel
theorem dX54_note_33 : decode cX54_note 33 = .ok (.getfield 38, 3) := by decide +kernel
theorem dX54_note_36 : decode cX54_note 36 = .ok (.bipush 6, 2) := by decide +kernel
theorem dX54_note_38 : decode cX54_note 38 = .ok (.iload_n 2, 1) := by decide +kernel
theorem dX54_note_39 : decode cX54_note 39 = .ok (.imul, 1) := by decide +kernel
theorem dX54_note_40 : decode cX54_note 40 = .ok (.iload 4, 2) := by decide +kernel
theorem dX54_note_42 : decode cX54_note 42 = .ok (.iadd, 1) := by decide +kernel
theorem dX54_note_43 : decode cX54_note 43 = .ok (.iaload, 1) := by decide +kernel
theorem dX54_note_44 : decode cX54_note 44 = .ok (.aload_n 0, 1) := by decide +kernel
theorem dX54_note_45 : decode cX54_note 45 = .ok (.iload_n 1, 1) := by decide +kernel
theorem dX54_note_46 : decode cX54_note 46 = .ok (.iload 4, 2) := by decide +kernel
theorem dX54_note_48 : decode cX54_note 48 = .ok (.invokevirtual 147, 3) := by decide +kernel
theorem dX54_note_51 : decode cX54_note 51 = .ok (.if_icmp .ne 7, 3) := by decide +kernel
theorem dX54_note_54 : decode cX54_note 54 = .ok (.iconst 1, 1) := by decide +kernel
theorem dX54_note_55 : decode cX54_note 55 = .ok (.goto 4, 3) := by decide +kernel
theorem dX54_note_58 : decode cX54_note 58 = .ok (.iconst 0, 1) := by decide +kernel
theorem dX54_note_59 : decode cX54_note 59 = .ok (.istore_n 3, 1) := by decide +kernel
theorem dX54_note_60 : decode cX54_note 60 = .ok (.iinc 4 1, 3) := by decide +kernel
theorem dX54_note_63 : decode cX54_note 63 = .ok (.goto (-42), 3) := by decide +kernel
theorem dX54_note_66 : decode cX54_note 66 = .ok (.iload_n 2, 1) := by decide +kernel
theorem dX54_note_67 : decode cX54_note 67 = .ok (.iload_n 3, 1) := by decide +kernel
theorem dX54_note_68 : decode cX54_note 68 = .ok (.ifCond .eq 7, 3) := by decide +kernel
theorem dX54_note_71 : decode cX54_note 71 = .ok (.iconst 0, 1) := by decide +kernel
theorem dX54_note_72 : decode cX54_note 72 = .ok (.goto 4, 3) := by decide +kernel
theorem dX54_note_75 : decode cX54_note 75 = .ok (.iconst 1, 1) := by decide +kernel
theorem dX54_note_76 : decode cX54_note 76 = .ok (.iadd, 1) := by decide +kernel
theorem dX54_note_77 : decode cX54_note 77 = .ok (.istore_n 2, 1) := by decide +kernel
theorem dX54_note_78 : decode cX54_note 78 = .ok (.goto (-74), 3) := by decide +kernel
theorem dX54_note_81 : decode cX54_note 81 = .ok (.iload_n 2, 1) := by decide +kernel
theorem dX54_note_82 : decode cX54_note 82 = .ok (.sipush 300, 3) := by decide +kernel
theorem dX54_note_85 : decode cX54_note 85 = .ok (.if_icmp .ne 9, 3) := by decide +kernel
theorem dX54_note_88 : decode cX54_note 88 = .ok (.aload_n 0, 1) := by decide +kernel
theorem dX54_note_89 : decode cX54_note 89 = .ok (.iconst 1, 1) := by decide +kernel
theorem dX54_note_90 : decode cX54_note 90 = .ok (.putfield 131, 3) := by decide +kernel
theorem dX54_note_93 : decode cX54_note 93 = .ok (.return_, 1) := by decide +kernel
theorem dX54_note_94 : decode cX54_note 94 = .ok (.iload_n 2, 1) := by decide +kernel
theorem dX54_note_95 : decode cX54_note 95 = .ok (.aload_n 0, 1) := by decide +kernel
theorem dX54_note_96 : decode cX54_note 96 = .ok (.getfield 144, 3) := by decide +kernel
theorem dX54_note_99 : decode cX54_note 99 = .ok (.if_icmp .ne 69, 3) := by decide +kernel
theorem dX54_note_102 : decode cX54_note 102 = .ok (.iconst 0, 1) := by decide +kernel
theorem dX54_note_103 : decode cX54_note 103 = .ok (.istore 4, 2) := by decide +kernel
theorem dX54_note_105 : decode cX54_note 105 = .ok (.iload 4, 2) := by decide +kernel
theorem dX54_note_107 : decode cX54_note 107 = .ok (.bipush 6, 2) := by decide +kernel
theorem dX54_note_109 : decode cX54_note 109 = .ok (.if_icmp .ge 28, 3) := by decide +kernel
theorem dX54_note_112 : decode cX54_note 112 = .ok (.aload_n 0, 1) := by decide +kernel
theorem dX54_note_113 : decode cX54_note 113 = .ok (.getfield 38, 3) := by decide +kernel
theorem dX54_note_116 : decode cX54_note 116 = .ok (.bipush 6, 2) := by decide +kernel
theorem dX54_note_118 : decode cX54_note 118 = .ok (.iload_n 2, 1) := by decide +kernel
theorem dX54_note_119 : decode cX54_note 119 = .ok (.imul, 1) := by decide +kernel
theorem dX54_note_120 : decode cX54_note 120 = .ok (.iload 4, 2) := by decide +kernel
theorem dX54_note_122 : decode cX54_note 122 = .ok (.iadd, 1) := by decide +kernel
theorem dX54_note_123 : decode cX54_note 123 = .ok (.aload_n 0, 1) := by decide +kernel
theorem dX54_note_124 : decode cX54_note 124 = .ok (.iload_n 1, 1) := by decide +kernel
theorem dX54_note_125 : decode cX54_note 125 = .ok (.iload 4, 2) := by decide +kernel
theorem dX54_note_127 : decode cX54_note 127 = .ok (.invokevirtual 147, 3) := by decide +kernel
theorem dX54_note_130 : decode cX54_note 130 = .ok (.iastore, 1) := by decide +kernel
theorem dX54_note_131 : decode cX54_note 131 = .ok (.iinc 4 1, 3) := by decide +kernel
theorem dX54_note_134 : decode cX54_note 134 = .ok (.goto (-29), 3) := by decide +kernel
theorem dX54_note_137 : decode cX54_note 137 = .ok (.aload_n 0, 1) := by decide +kernel
theorem dX54_note_138 : decode cX54_note 138 = .ok (.getfield 41, 3) := by decide +kernel
theorem dX54_note_141 : decode cX54_note 141 = .ok (.iload_n 2, 1) := by decide +kernel
theorem dX54_note_142 : decode cX54_note 142 = .ok (.iconst 0, 1) := by decide +kernel
theorem dX54_note_143 : decode cX54_note 143 = .ok (.iastore, 1) := by decide +kernel
theorem dX54_note_144 : decode cX54_note 144 = .ok (.aload_n 0, 1) := by decide +kernel
theorem dX54_note_145 : decode cX54_note 145 = .ok (.getfield 44, 3) := by decide +kernel
theorem dX54_note_148 : decode cX54_note 148 = .ok (.iload_n 2, 1) := by decide +kernel
theorem dX54_note_149 : decode cX54_note 149 = .ok (.iload_n 1, 1) := by decide +kernel
theorem dX54_note_150 : decode cX54_note 150 = .ok (.iastore, 1) := by decide +kernel
theorem dX54_note_151 : decode cX54_note 151 = .ok (.aload_n 0, 1) := by decide +kernel
theorem dX54_note_152 : decode cX54_note 152 = .ok (.getfield 47, 3) := by decide +kernel
theorem dX54_note_155 : decode cX54_note 155 = .ok (.iload_n 2, 1) := by decide +kernel
theorem dX54_note_156 : decode cX54_note 156 = .ok (.iconst (-1), 1) := by decide +kernel
theorem dX54_note_157 : decode cX54_note 157 = .ok (.iastore, 1) := by decide +kernel
theorem dX54_note_158 : decode cX54_note 158 = .ok (.aload_n 0, 1) := by decide +kernel
theorem dX54_note_159 : decode cX54_note 159 = .ok (.dup, 1) := by decide +kernel
theorem dX54_note_160 : decode cX54_note 160 = .ok (.getfield 144, 3) := by decide +kernel
theorem dX54_note_163 : decode cX54_note 163 = .ok (.iconst 1, 1) := by decide +kernel
theorem dX54_note_164 : decode cX54_note 164 = .ok (.iadd, 1) := by decide +kernel
theorem dX54_note_165 : decode cX54_note 165 = .ok (.putfield 144, 3) := by decide +kernel
theorem dX54_note_168 : decode cX54_note 168 = .ok (.aload_n 0, 1) := by decide +kernel
theorem dX54_note_169 : decode cX54_note 169 = .ok (.getfield 41, 3) := by decide +kernel
theorem dX54_note_172 : decode cX54_note 172 = .ok (.iload_n 2, 1) := by decide +kernel
theorem dX54_note_173 : decode cX54_note 173 = .ok (.dup2, 1) := by decide +kernel
theorem dX54_note_174 : decode cX54_note 174 = .ok (.iaload, 1) := by decide +kernel
theorem dX54_note_175 : decode cX54_note 175 = .ok (.aload_n 0, 1) := by decide +kernel
theorem dX54_note_176 : decode cX54_note 176 = .ok (.getfield 47, 3) := by decide +kernel
theorem dX54_note_179 : decode cX54_note 179 = .ok (.iload_n 2, 1) := by decide +kernel
theorem dX54_note_180 : decode cX54_note 180 = .ok (.iaload, 1) := by decide +kernel
theorem dX54_note_181 : decode cX54_note 181 = .ok (.iload_n 1, 1) := by decide +kernel
theorem dX54_note_182 : decode cX54_note 182 = .ok (.if_icmp .ne 7, 3) := by decide +kernel
theorem dX54_note_185 : decode cX54_note 185 = .ok (.iconst 0, 1) := by decide +kernel
theorem dX54_note_186 : decode cX54_note 186 = .ok (.goto 4, 3) := by decide +kernel
theorem dX54_note_189 : decode cX54_note 189 = .ok (.iconst 1, 1) := by decide +kernel
theorem dX54_note_190 : decode cX54_note 190 = .ok (.iadd, 1) := by decide +kernel
theorem dX54_note_191 : decode cX54_note 191 = .ok (.iastore, 1) := by decide +kernel
theorem dX54_note_192 : decode cX54_note 192 = .ok (.aload_n 0, 1) := by decide +kernel
theorem dX54_note_193 : decode cX54_note 193 = .ok (.getfield 47, 3) := by decide +kernel
theorem dX54_note_196 : decode cX54_note 196 = .ok (.iload_n 2, 1) := by decide +kernel
theorem dX54_note_197 : decode cX54_note 197 = .ok (.iload_n 1, 1) := by decide +kernel
theorem dX54_note_198 : decode cX54_note 198 = .ok (.iastore, 1) := by decide +kernel
theorem dX54_note_199 : decode cX54_note 199 = .ok (.return_, 1) := by decide +kernel
abbrev cX54_given : ByteArray := prog_90_method_33_code
def yX54_given : MethodName := ⟨RX54, "given", "(II)I"⟩
theorem dX54_given_0 : decode cX54_given 0 = .ok (.iconst 0, 1) := by decide +kernel
theorem dX54_given_1 : decode cX54_given 1 = .ok (.istore_n 3, 1) := by decide +kernel
theorem dX54_given_2 : decode cX54_given 2 = .ok (.iload_n 3, 1) := by decide +kernel
theorem dX54_given_3 : decode cX54_given 3 = .ok (.iconst 2, 1) := by decide +kernel
theorem dX54_given_4 : decode cX54_given 4 = .ok (.aload_n 0, 1) := by decide +kernel
theorem dX54_given_5 : decode cX54_given 5 = .ok (.getfield 89, 3) := by decide +kernel
theorem dX54_given_8 : decode cX54_given 8 = .ok (.imul, 1) := by decide +kernel
theorem dX54_given_9 : decode cX54_given 9 = .ok (.if_icmp .ge 37, 3) := by decide +kernel
theorem dX54_given_12 : decode cX54_given 12 = .ok (.aload_n 0, 1) := by decide +kernel
theorem dX54_given_13 : decode cX54_given 13 = .ok (.iload_n 3, 1) := by decide +kernel
theorem dX54_given_14 : decode cX54_given 14 = .ok (.iconst 2, 1) := by decide +kernel
theorem dX54_given_15 : decode cX54_given 15 = .ok (.idiv, 1) := by decide +kernel
theorem dX54_given_16 : decode cX54_given 16 = .ok (.iload_n 3, 1) := by decide +kernel
theorem dX54_given_17 : decode cX54_given 17 = .ok (.iconst 2, 1) := by decide +kernel
theorem dX54_given_18 : decode cX54_given 18 = .ok (.irem, 1) := by decide +kernel
theorem dX54_given_19 : decode cX54_given 19 = .ok (.invokevirtual 95, 3) := by decide +kernel
theorem dX54_given_22 : decode cX54_given 22 = .ok (.iconst (-1), 1) := by decide +kernel
theorem dX54_given_23 : decode cX54_given 23 = .ok (.iload_n 2, 1) := by decide +kernel
theorem dX54_given_24 : decode cX54_given 24 = .ok (.isub, 1) := by decide +kernel
theorem dX54_given_25 : decode cX54_given 25 = .ok (.if_icmp .ne 15, 3) := by decide +kernel
theorem dX54_given_28 : decode cX54_given 28 = .ok (.aload_n 0, 1) := by decide +kernel
theorem dX54_given_29 : decode cX54_given 29 = .ok (.iload_n 1, 1) := by decide +kernel
theorem dX54_given_30 : decode cX54_given 30 = .ok (.iload_n 3, 1) := by decide +kernel
theorem dX54_given_31 : decode cX54_given 31 = .ok (.iconst 2, 1) := by decide +kernel
theorem dX54_given_32 : decode cX54_given 32 = .ok (.idiv, 1) := by decide +kernel
theorem dX54_given_33 : decode cX54_given 33 = .ok (.iload_n 3, 1) := by decide +kernel
theorem dX54_given_34 : decode cX54_given 34 = .ok (.iconst 2, 1) := by decide +kernel
theorem dX54_given_35 : decode cX54_given 35 = .ok (.irem, 1) := by decide +kernel
theorem dX54_given_36 : decode cX54_given 36 = .ok (.invokevirtual 128, 3) := by decide +kernel
theorem dX54_given_39 : decode cX54_given 39 = .ok (.ireturn, 1) := by decide +kernel
theorem dX54_given_40 : decode cX54_given 40 = .ok (.iinc 3 1, 3) := by decide +kernel
theorem dX54_given_43 : decode cX54_given 43 = .ok (.goto (-41), 3) := by decide +kernel
theorem dX54_given_46 : decode cX54_given 46 = .ok (.iconst (-1), 1) := by decide +kernel
theorem dX54_given_47 : decode cX54_given 47 = .ok (.ireturn, 1) := by decide +kernel
abbrev cX54_sort : ByteArray := prog_90_method_36_code
def yX54_sort : MethodName := ⟨RX54, "sort", "()V"⟩
theorem dX54_sort_0 : decode cX54_sort 0 = .ok (.iconst 0, 1) := by decide +kernel
theorem dX54_sort_1 : decode cX54_sort 1 = .ok (.istore_n 1, 1) := by decide +kernel
theorem dX54_sort_2 : decode cX54_sort 2 = .ok (.iload_n 1, 1) := by decide +kernel
theorem dX54_sort_3 : decode cX54_sort 3 = .ok (.aload_n 0, 1) := by decide +kernel
theorem dX54_sort_4 : decode cX54_sort 4 = .ok (.getfield 144, 3) := by decide +kernel
theorem dX54_sort_7 : decode cX54_sort 7 = .ok (.if_icmp .ge 58, 3) := by decide +kernel
theorem dX54_sort_10 : decode cX54_sort 10 = .ok (.iload_n 1, 1) := by decide +kernel
theorem dX54_sort_11 : decode cX54_sort 11 = .ok (.istore_n 2, 1) := by decide +kernel
theorem dX54_sort_12 : decode cX54_sort 12 = .ok (.iload_n 2, 1) := by decide +kernel
theorem dX54_sort_13 : decode cX54_sort 13 = .ok (.ifCond .le 39, 3) := by decide +kernel
theorem dX54_sort_16 : decode cX54_sort 16 = .ok (.aload_n 0, 1) := by decide +kernel
theorem dX54_sort_17 : decode cX54_sort 17 = .ok (.iload_n 1, 1) := by decide +kernel
theorem dX54_sort_18 : decode cX54_sort 18 = .ok (.aload_n 0, 1) := by decide +kernel
theorem dX54_sort_19 : decode cX54_sort 19 = .ok (.getfield 50, 3) := by decide +kernel
theorem dX54_sort_22 : decode cX54_sort 22 = .ok (.iload_n 2, 1) := by decide +kernel
theorem dX54_sort_23 : decode cX54_sort 23 = .ok (.iconst 1, 1) := by decide +kernel
theorem dX54_sort_24 : decode cX54_sort 24 = .ok (.isub, 1) := by decide +kernel
theorem dX54_sort_25 : decode cX54_sort 25 = .ok (.iaload, 1) := by decide +kernel
theorem dX54_sort_26 : decode cX54_sort 26 = .ok (.invokevirtual 150, 3) := by decide +kernel
theorem dX54_sort_29 : decode cX54_sort 29 = .ok (.ifCond .eq 23, 3) := by decide +kernel
theorem dX54_sort_32 : decode cX54_sort 32 = .ok (.aload_n 0, 1) := by decide +kernel
theorem dX54_sort_33 : decode cX54_sort 33 = .ok (.getfield 50, 3) := by decide +kernel
theorem dX54_sort_36 : decode cX54_sort 36 = .ok (.iload_n 2, 1) := by decide +kernel
theorem dX54_sort_37 : decode cX54_sort 37 = .ok (.aload_n 0, 1) := by decide +kernel
theorem dX54_sort_38 : decode cX54_sort 38 = .ok (.getfield 50, 3) := by decide +kernel
theorem dX54_sort_41 : decode cX54_sort 41 = .ok (.iload_n 2, 1) := by decide +kernel
theorem dX54_sort_42 : decode cX54_sort 42 = .ok (.iconst 1, 1) := by decide +kernel
theorem dX54_sort_43 : decode cX54_sort 43 = .ok (.isub, 1) := by decide +kernel
theorem dX54_sort_44 : decode cX54_sort 44 = .ok (.iaload, 1) := by decide +kernel
theorem dX54_sort_45 : decode cX54_sort 45 = .ok (.iastore, 1) := by decide +kernel
theorem dX54_sort_46 : decode cX54_sort 46 = .ok (.iinc 2 (-1), 3) := by decide +kernel
theorem dX54_sort_49 : decode cX54_sort 49 = .ok (.goto (-37), 3) := by decide +kernel
theorem dX54_sort_52 : decode cX54_sort 52 = .ok (.aload_n 0, 1) := by decide +kernel
theorem dX54_sort_53 : decode cX54_sort 53 = .ok (.getfield 50, 3) := by decide +kernel
theorem dX54_sort_56 : decode cX54_sort 56 = .ok (.iload_n 2, 1) := by decide +kernel
theorem dX54_sort_57 : decode cX54_sort 57 = .ok (.iload_n 1, 1) := by decide +kernel
theorem dX54_sort_58 : decode cX54_sort 58 = .ok (.iastore, 1) := by decide +kernel
theorem dX54_sort_59 : decode cX54_sort 59 = .ok (.iinc 1 1, 3) := by decide +kernel
theorem dX54_sort_62 : decode cX54_sort 62 = .ok (.goto (-60), 3) := by decide +kernel
theorem dX54_sort_65 : decode cX54_sort 65 = .ok (.return_, 1) := by decide +kernel
abbrev cX54_isLess : ByteArray := prog_90_method_35_code
def yX54_isLess : MethodName := ⟨RX54, "isLess", "(II)Z"⟩
theorem dX54_isLess_0 : decode cX54_isLess 0 = .ok (.iconst 0, 1) := by decide +kernel
theorem dX54_isLess_1 : decode cX54_isLess 1 = .ok (.istore_n 3, 1) := by decide +kernel
theorem dX54_isLess_2 : decode cX54_isLess 2 = .ok (.iload_n 3, 1) := by decide +kernel
theorem dX54_isLess_3 : decode cX54_isLess 3 = .ok (.bipush 6, 2) := by decide +kernel
theorem dX54_isLess_5 : decode cX54_isLess 5 = .ok (.if_icmp .ge 34, 3) := by decide +kernel
theorem dX54_isLess_8 : decode cX54_isLess 8 = .ok (.aload_n 0, 1) := by decide +kernel
theorem dX54_isLess_9 : decode cX54_isLess 9 = .ok (.getfield 38, 3) := by decide +kernel
theorem dX54_isLess_12 : decode cX54_isLess 12 = .ok (.bipush 6, 2) := by decide +kernel
theorem dX54_isLess_14 : decode cX54_isLess 14 = .ok (.iload_n 1, 1) := by decide +kernel
theorem dX54_isLess_15 : decode cX54_isLess 15 = .ok (.imul, 1) := by decide +kernel
theorem dX54_isLess_16 : decode cX54_isLess 16 = .ok (.iload_n 3, 1) := by decide +kernel
theorem dX54_isLess_17 : decode cX54_isLess 17 = .ok (.iadd, 1) := by decide +kernel
theorem dX54_isLess_18 : decode cX54_isLess 18 = .ok (.iaload, 1) := by decide +kernel
theorem dX54_isLess_19 : decode cX54_isLess 19 = .ok (.aload_n 0, 1) := by decide +kernel
theorem dX54_isLess_20 : decode cX54_isLess 20 = .ok (.getfield 38, 3) := by decide +kernel
theorem dX54_isLess_23 : decode cX54_isLess 23 = .ok (.bipush 6, 2) := by decide +kernel
theorem dX54_isLess_25 : decode cX54_isLess 25 = .ok (.iload_n 2, 1) := by decide +kernel
theorem dX54_isLess_26 : decode cX54_isLess 26 = .ok (.imul, 1) := by decide +kernel
theorem dX54_isLess_27 : decode cX54_isLess 27 = .ok (.iload_n 3, 1) := by decide +kernel
theorem dX54_isLess_28 : decode cX54_isLess 28 = .ok (.iadd, 1) := by decide +kernel
theorem dX54_isLess_29 : decode cX54_isLess 29 = .ok (.iaload, 1) := by decide +kernel
theorem dX54_isLess_30 : decode cX54_isLess 30 = .ok (.if_icmp .ne 9, 3) := by decide +kernel
theorem dX54_isLess_33 : decode cX54_isLess 33 = .ok (.iinc 3 1, 3) := by decide +kernel
theorem dX54_isLess_36 : decode cX54_isLess 36 = .ok (.goto (-34), 3) := by decide +kernel
theorem dX54_isLess_39 : decode cX54_isLess 39 = .ok (.iload_n 3, 1) := by decide +kernel
theorem dX54_isLess_40 : decode cX54_isLess 40 = .ok (.bipush 6, 2) := by decide +kernel
theorem dX54_isLess_42 : decode cX54_isLess 42 = .ok (.if_icmp .ge 32, 3) := by decide +kernel
theorem dX54_isLess_45 : decode cX54_isLess 45 = .ok (.aload_n 0, 1) := by decide +kernel
theorem dX54_isLess_46 : decode cX54_isLess 46 = .ok (.getfield 38, 3) := by decide +kernel
theorem dX54_isLess_49 : decode cX54_isLess 49 = .ok (.bipush 6, 2) := by decide +kernel
theorem dX54_isLess_51 : decode cX54_isLess 51 = .ok (.iload_n 1, 1) := by decide +kernel
theorem dX54_isLess_52 : decode cX54_isLess 52 = .ok (.imul, 1) := by decide +kernel
theorem dX54_isLess_53 : decode cX54_isLess 53 = .ok (.iload_n 3, 1) := by decide +kernel
theorem dX54_isLess_54 : decode cX54_isLess 54 = .ok (.iadd, 1) := by decide +kernel
theorem dX54_isLess_55 : decode cX54_isLess 55 = .ok (.iaload, 1) := by decide +kernel
theorem dX54_isLess_56 : decode cX54_isLess 56 = .ok (.aload_n 0, 1) := by decide +kernel
theorem dX54_isLess_57 : decode cX54_isLess 57 = .ok (.getfield 38, 3) := by decide +kernel
theorem dX54_isLess_60 : decode cX54_isLess 60 = .ok (.bipush 6, 2) := by decide +kernel
theorem dX54_isLess_62 : decode cX54_isLess 62 = .ok (.iload_n 2, 1) := by decide +kernel
theorem dX54_isLess_63 : decode cX54_isLess 63 = .ok (.imul, 1) := by decide +kernel
theorem dX54_isLess_64 : decode cX54_isLess 64 = .ok (.iload_n 3, 1) := by decide +kernel
theorem dX54_isLess_65 : decode cX54_isLess 65 = .ok (.iadd, 1) := by decide +kernel
theorem dX54_isLess_66 : decode cX54_isLess 66 = .ok (.iaload, 1) := by decide +kernel
theorem dX54_isLess_67 : decode cX54_isLess 67 = .ok (.if_icmp .ge 7, 3) := by decide +kernel
theorem dX54_isLess_70 : decode cX54_isLess 70 = .ok (.iconst 1, 1) := by decide +kernel
theorem dX54_isLess_71 : decode cX54_isLess 71 = .ok (.goto 4, 3) := by decide +kernel
theorem dX54_isLess_74 : decode cX54_isLess 74 = .ok (.iconst 0, 1) := by decide +kernel
theorem dX54_isLess_75 : decode cX54_isLess 75 = .ok (.ireturn, 1) := by decide +kernel
abbrev cX54_value : ByteArray := prog_90_method_38_code
def yX54_value : MethodName := ⟨RX54, "value", "(II)I"⟩
theorem dX54_value_0 : decode cX54_value 0 = .ok (.aload_n 0, 1) := by decide +kernel
theorem dX54_value_1 : decode cX54_value 1 = .ok (.iconst 0, 1) := by decide +kernel
theorem dX54_value_2 : decode cX54_value 2 = .ok (.putfield 56, 3) := by decide +kernel
theorem dX54_value_5 : decode cX54_value 5 = .ok (.iload_n 1, 1) := by decide +kernel
theorem dX54_value_6 : decode cX54_value 6 = .ok (.aload_n 0, 1) := by decide +kernel
theorem dX54_value_7 : decode cX54_value 7 = .ok (.getfield 144, 3) := by decide +kernel
theorem dX54_value_10 : decode cX54_value 10 = .ok (.invokestatic 64, 3) := by decide +kernel
theorem dX54_value_13 : decode cX54_value 13 = .ok (.ifCond .eq 12, 3) := by decide +kernel
theorem dX54_value_16 : decode cX54_value 16 = .ok (.iload_n 2, 1) := by decide +kernel
theorem dX54_value_17 : decode cX54_value 17 = .ok (.bipush 6, 2) := by decide +kernel
theorem dX54_value_19 : decode cX54_value 19 = .ok (.invokestatic 64, 3) := by decide +kernel
theorem dX54_value_22 : decode cX54_value 22 = .ok (.ifCond .ne 5, 3) := by decide +kernel
theorem dX54_value_25 : decode cX54_value 25 = .ok (.iconst (-1), 1) := by decide +kernel
theorem dX54_value_26 : decode cX54_value 26 = .ok (.ireturn, 1) := by decide +kernel
theorem dX54_value_27 : decode cX54_value 27 = .ok (.aload_n 0, 1) := by decide +kernel
theorem dX54_value_28 : decode cX54_value 28 = .ok (.aload_n 0, 1) := by decide +kernel
theorem dX54_value_29 : decode cX54_value 29 = .ok (.getfield 53, 3) := by decide +kernel
theorem dX54_value_32 : decode cX54_value 32 = .ok (.iload_n 2, 1) := by decide +kernel
theorem dX54_value_33 : decode cX54_value 33 = .ok (.baload, 1) := by decide +kernel
theorem dX54_value_34 : decode cX54_value 34 = .ok (.ifCond .eq 7, 3) := by decide +kernel
theorem dX54_value_37 : decode cX54_value 37 = .ok (.iconst 0, 1) := by decide +kernel
theorem dX54_value_38 : decode cX54_value 38 = .ok (.goto 4, 3) := by decide +kernel
theorem dX54_value_41 : decode cX54_value 41 = .ok (.iconst 1, 1) := by decide +kernel
theorem dX54_value_42 : decode cX54_value 42 = .ok (.putfield 56, 3) := by decide +kernel
theorem dX54_value_45 : decode cX54_value 45 = .ok (.aload_n 0, 1) := by decide +kernel
theorem dX54_value_46 : decode cX54_value 46 = .ok (.getfield 56, 3) := by decide +kernel
theorem dX54_value_49 : decode cX54_value 49 = .ok (.ifCond .le 7, 3) := by decide +kernel
theorem dX54_value_52 : decode cX54_value 52 = .ok (.iconst 0, 1) := by decide +kernel
theorem dX54_value_53 : decode cX54_value 53 = .ok (.goto 19, 3) := by decide +kernel
theorem dX54_value_56 : decode cX54_value 56 = .ok (.aload_n 0, 1) := by decide +kernel
theorem dX54_value_57 : decode cX54_value 57 = .ok (.getfield 38, 3) := by decide +kernel
theorem dX54_value_60 : decode cX54_value 60 = .ok (.bipush 6, 2) := by decide +kernel
theorem dX54_value_62 : decode cX54_value 62 = .ok (.aload_n 0, 1) := by decide +kernel
theorem dX54_value_63 : decode cX54_value 63 = .ok (.getfield 50, 3) := by decide +kernel
theorem dX54_value_66 : decode cX54_value 66 = .ok (.iload_n 1, 1) := by decide +kernel
theorem dX54_value_67 : decode cX54_value 67 = .ok (.iaload, 1) := by decide +kernel
theorem dX54_value_68 : decode cX54_value 68 = .ok (.imul, 1) := by decide +kernel
theorem dX54_value_69 : decode cX54_value 69 = .ok (.iload_n 2, 1) := by decide +kernel
theorem dX54_value_70 : decode cX54_value 70 = .ok (.iadd, 1) := by decide +kernel
theorem dX54_value_71 : decode cX54_value 71 = .ok (.iaload, 1) := by decide +kernel
theorem dX54_value_72 : decode cX54_value 72 = .ok (.ireturn, 1) := by decide +kernel
abbrev cX54_isIn : ByteArray := prog_90_method_3_code
def yX54_isIn : MethodName := ⟨RX54, "isIn", "(II)Z"⟩
theorem dX54_isIn_0 : decode cX54_isIn 0 = .ok (.iload_n 0, 1) := by decide +kernel
theorem dX54_isIn_1 : decode cX54_isIn 1 = .ok (.ifCond .lt 12, 3) := by decide +kernel
theorem dX54_isIn_4 : decode cX54_isIn 4 = .ok (.iload_n 0, 1) := by decide +kernel
theorem dX54_isIn_5 : decode cX54_isIn 5 = .ok (.iload_n 1, 1) := by decide +kernel
theorem dX54_isIn_6 : decode cX54_isIn 6 = .ok (.if_icmp .ge 7, 3) := by decide +kernel
theorem dX54_isIn_9 : decode cX54_isIn 9 = .ok (.iconst 1, 1) := by decide +kernel
theorem dX54_isIn_10 : decode cX54_isIn 10 = .ok (.goto 4, 3) := by decide +kernel
theorem dX54_isIn_13 : decode cX54_isIn 13 = .ok (.iconst 0, 1) := by decide +kernel
theorem dX54_isIn_14 : decode cX54_isIn 14 = .ok (.ireturn, 1) := by decide +kernel
abbrev cX54_thrown : ByteArray := prog_90_method_2_code
def yX54_thrown : MethodName := ⟨RX54, "thrown", "()I"⟩
theorem dX54_thrown_0 : decode cX54_thrown 0 = .ok (.aload_n 0, 1) := by decide +kernel
theorem dX54_thrown_1 : decode cX54_thrown 1 = .ok (.getfield 56, 3) := by decide +kernel
theorem dX54_thrown_4 : decode cX54_thrown 4 = .ok (.ireturn, 1) := by decide +kernel
abbrev cX54_key : ByteArray := prog_90_method_7_code
def yX54_key : MethodName := ⟨RX54, "key", "(IIZ)I"⟩
theorem dX54_key_0 : decode cX54_key 0 = .ok (.aload_n 0, 1) := by decide +kernel
theorem dX54_key_1 : decode cX54_key 1 = .ok (.iconst 0, 1) := by decide +kernel
theorem dX54_key_2 : decode cX54_key 2 = .ok (.putfield 56, 3) := by decide +kernel
theorem dX54_key_5 : decode cX54_key 5 = .ok (.iload_n 1, 1) := by decide +kernel
theorem dX54_key_6 : decode cX54_key 6 = .ok (.iconst 4, 1) := by decide +kernel
theorem dX54_key_7 : decode cX54_key 7 = .ok (.invokestatic 64, 3) := by decide +kernel
theorem dX54_key_10 : decode cX54_key 10 = .ok (.ifCond .eq 11, 3) := by decide +kernel
theorem dX54_key_13 : decode cX54_key 13 = .ok (.iload_n 2, 1) := by decide +kernel
theorem dX54_key_14 : decode cX54_key 14 = .ok (.iconst 3, 1) := by decide +kernel
theorem dX54_key_15 : decode cX54_key 15 = .ok (.invokestatic 64, 3) := by decide +kernel
theorem dX54_key_18 : decode cX54_key 18 = .ok (.ifCond .ne 5, 3) := by decide +kernel
theorem dX54_key_21 : decode cX54_key 21 = .ok (.iconst (-1), 1) := by decide +kernel
theorem dX54_key_22 : decode cX54_key 22 = .ok (.ireturn, 1) := by decide +kernel
theorem dX54_key_23 : decode cX54_key 23 = .ok (.aload_n 0, 1) := by decide +kernel
theorem dX54_key_24 : decode cX54_key 24 = .ok (.getfield 16, 3) := by decide +kernel
theorem dX54_key_27 : decode cX54_key 27 = .ok (.iconst 3, 1) := by decide +kernel
theorem dX54_key_28 : decode cX54_key 28 = .ok (.iload_n 1, 1) := by decide +kernel
theorem dX54_key_29 : decode cX54_key 29 = .ok (.imul, 1) := by decide +kernel
theorem dX54_key_30 : decode cX54_key 30 = .ok (.iload_n 2, 1) := by decide +kernel
theorem dX54_key_31 : decode cX54_key 31 = .ok (.iadd, 1) := by decide +kernel
theorem dX54_key_32 : decode cX54_key 32 = .ok (.baload, 1) := by decide +kernel
theorem dX54_key_33 : decode cX54_key 33 = .ok (.iload_n 3, 1) := by decide +kernel
theorem dX54_key_34 : decode cX54_key 34 = .ok (.if_icmp .ne 5, 3) := by decide +kernel
theorem dX54_key_37 : decode cX54_key 37 = .ok (.iconst 0, 1) := by decide +kernel
theorem dX54_key_38 : decode cX54_key 38 = .ok (.ireturn, 1) := by decide +kernel
theorem dX54_key_39 : decode cX54_key 39 = .ok (.iload_n 3, 1) := by decide +kernel
theorem dX54_key_40 : decode cX54_key 40 = .ok (.ifCond .eq 15, 3) := by decide +kernel
theorem dX54_key_43 : decode cX54_key 43 = .ok (.aload_n 0, 1) := by decide +kernel
theorem dX54_key_44 : decode cX54_key 44 = .ok (.iload_n 1, 1) := by decide +kernel
theorem dX54_key_45 : decode cX54_key 45 = .ok (.iload_n 2, 1) := by decide +kernel
theorem dX54_key_46 : decode cX54_key 46 = .ok (.invokevirtual 68, 3) := by decide +kernel
theorem dX54_key_49 : decode cX54_key 49 = .ok (.ifCond .eq 6, 3) := by decide +kernel
theorem dX54_key_52 : decode cX54_key 52 = .ok (.bipush (-4), 2) := by decide +kernel
theorem dX54_key_54 : decode cX54_key 54 = .ok (.ireturn, 1) := by decide +kernel
theorem dX54_key_55 : decode cX54_key 55 = .ok (.aload_n 0, 1) := by decide +kernel
theorem dX54_key_56 : decode cX54_key 56 = .ok (.getfield 16, 3) := by decide +kernel
theorem dX54_key_59 : decode cX54_key 59 = .ok (.iconst 3, 1) := by decide +kernel
theorem dX54_key_60 : decode cX54_key 60 = .ok (.iload_n 1, 1) := by decide +kernel
theorem dX54_key_61 : decode cX54_key 61 = .ok (.imul, 1) := by decide +kernel
theorem dX54_key_62 : decode cX54_key 62 = .ok (.iload_n 2, 1) := by decide +kernel
theorem dX54_key_63 : decode cX54_key 63 = .ok (.iadd, 1) := by decide +kernel
theorem dX54_key_64 : decode cX54_key 64 = .ok (.iload_n 3, 1) := by decide +kernel
theorem dX54_key_65 : decode cX54_key 65 = .ok (.bastore, 1) := by decide +kernel
theorem dX54_key_66 : decode cX54_key 66 = .ok (.iconst 1, 1) := by decide +kernel
theorem dX54_key_67 : decode cX54_key 67 = .ok (.ireturn, 1) := by decide +kernel
abbrev cX54_repeats : ByteArray := prog_90_method_6_code
def yX54_repeats : MethodName := ⟨RX54, "repeats", "(II)Z"⟩
theorem dX54_repeats_0 : decode cX54_repeats 0 = .ok (.iconst 0, 1) := by decide +kernel
theorem dX54_repeats_1 : decode cX54_repeats 1 = .ok (.istore_n 3, 1) := by decide +kernel
theorem dX54_repeats_2 : decode cX54_repeats 2 = .ok (.iload_n 3, 1) := by decide +kernel
theorem dX54_repeats_3 : decode cX54_repeats 3 = .ok (.aload_n 0, 1) := by decide +kernel
theorem dX54_repeats_4 : decode cX54_repeats 4 = .ok (.getfield 13, 3) := by decide +kernel
theorem dX54_repeats_7 : decode cX54_repeats 7 = .ok (.iload_n 1, 1) := by decide +kernel
theorem dX54_repeats_8 : decode cX54_repeats 8 = .ok (.iaload, 1) := by decide +kernel
theorem dX54_repeats_9 : decode cX54_repeats 9 = .ok (.if_icmp .ge 44, 3) := by decide +kernel
theorem dX54_repeats_12 : decode cX54_repeats 12 = .ok (.iconst 0, 1) := by decide +kernel
theorem dX54_repeats_13 : decode cX54_repeats 13 = .ok (.istore 4, 2) := by decide +kernel
theorem dX54_repeats_15 : decode cX54_repeats 15 = .ok (.iload 4, 2) := by decide +kernel
theorem dX54_repeats_17 : decode cX54_repeats 17 = .ok (.iload_n 3, 1) := by decide +kernel
theorem dX54_repeats_18 : decode cX54_repeats 18 = .ok (.if_icmp .ge 29, 3) := by decide +kernel
theorem dX54_repeats_21 : decode cX54_repeats 21 = .ok (.aload_n 0, 1) := by decide +kernel
theorem dX54_repeats_22 : decode cX54_repeats 22 = .ok (.iload_n 1, 1) := by decide +kernel
theorem dX54_repeats_23 : decode cX54_repeats 23 = .ok (.iload_n 3, 1) := by decide +kernel
theorem dX54_repeats_24 : decode cX54_repeats 24 = .ok (.iload_n 2, 1) := by decide +kernel
theorem dX54_repeats_25 : decode cX54_repeats 25 = .ok (.invokevirtual 60, 3) := by decide +kernel
theorem dX54_repeats_28 : decode cX54_repeats 28 = .ok (.aload_n 0, 1) := by decide +kernel
theorem dX54_repeats_29 : decode cX54_repeats 29 = .ok (.iload_n 1, 1) := by decide +kernel
theorem dX54_repeats_30 : decode cX54_repeats 30 = .ok (.iload 4, 2) := by decide +kernel
theorem dX54_repeats_32 : decode cX54_repeats 32 = .ok (.iload_n 2, 1) := by decide +kernel
theorem dX54_repeats_33 : decode cX54_repeats 33 = .ok (.invokevirtual 60, 3) := by decide +kernel
theorem dX54_repeats_36 : decode cX54_repeats 36 = .ok (.if_icmp .ne 5, 3) := by decide +kernel
theorem dX54_repeats_39 : decode cX54_repeats 39 = .ok (.iconst 1, 1) := by decide +kernel
theorem dX54_repeats_40 : decode cX54_repeats 40 = .ok (.ireturn, 1) := by decide +kernel
theorem dX54_repeats_41 : decode cX54_repeats 41 = .ok (.iinc 4 1, 3) := by decide +kernel
theorem dX54_repeats_44 : decode cX54_repeats 44 = .ok (.goto (-29), 3) := by decide +kernel
theorem dX54_repeats_47 : decode cX54_repeats 47 = .ok (.iinc 3 1, 3) := by decide +kernel
theorem dX54_repeats_50 : decode cX54_repeats 50 = .ok (.goto (-48), 3) := by decide +kernel
theorem dX54_repeats_53 : decode cX54_repeats 53 = .ok (.iconst 0, 1) := by decide +kernel
theorem dX54_repeats_54 : decode cX54_repeats 54 = .ok (.ireturn, 1) := by decide +kernel
abbrev cX54_row : ByteArray := prog_90_method_8_code
def yX54_row : MethodName := ⟨RX54, "row", "(IIII)I"⟩
theorem dX54_row_0 : decode cX54_row 0 = .ok (.aload_n 0, 1) := by decide +kernel
theorem dX54_row_1 : decode cX54_row 1 = .ok (.iconst 0, 1) := by decide +kernel
theorem dX54_row_2 : decode cX54_row 2 = .ok (.putfield 56, 3) := by decide +kernel
theorem dX54_row_5 : decode cX54_row 5 = .ok (.iload_n 1, 1) := by decide +kernel
theorem dX54_row_6 : decode cX54_row 6 = .ok (.iconst 4, 1) := by decide +kernel
theorem dX54_row_7 : decode cX54_row 7 = .ok (.invokestatic 64, 3) := by decide +kernel
theorem dX54_row_10 : decode cX54_row 10 = .ok (.ifCond .eq 34, 3) := by decide +kernel
theorem dX54_row_13 : decode cX54_row 13 = .ok (.iload_n 2, 1) := by decide +kernel
theorem dX54_row_14 : decode cX54_row 14 = .ok (.sipush 10000, 3) := by decide +kernel
theorem dX54_row_17 : decode cX54_row 17 = .ok (.invokestatic 64, 3) := by decide +kernel
theorem dX54_row_20 : decode cX54_row 20 = .ok (.ifCond .eq 24, 3) := by decide +kernel
theorem dX54_row_23 : decode cX54_row 23 = .ok (.iload_n 3, 1) := by decide +kernel
theorem dX54_row_24 : decode cX54_row 24 = .ok (.sipush 10000, 3) := by decide +kernel
theorem dX54_row_27 : decode cX54_row 27 = .ok (.invokestatic 64, 3) := by decide +kernel
theorem dX54_row_30 : decode cX54_row 30 = .ok (.ifCond .eq 14, 3) := by decide +kernel
theorem dX54_row_33 : decode cX54_row 33 = .ok (.iload 4, 2) := by decide +kernel
theorem dX54_row_35 : decode cX54_row 35 = .ok (.sipush 10000, 3) := by decide +kernel
theorem dX54_row_38 : decode cX54_row 38 = .ok (.invokestatic 64, 3) := by decide +kernel
theorem dX54_row_41 : decode cX54_row 41 = .ok (.ifCond .ne 5, 3) := by decide +kernel
theorem dX54_row_44 : decode cX54_row 44 = .ok (.iconst (-1), 1) := by decide +kernel
theorem dX54_row_45 : decode cX54_row 45 = .ok (.ireturn, 1) := by decide +kernel
theorem dX54_row_46 : decode cX54_row 46 = .ok (.aload_n 0, 1) := by decide +kernel
theorem dX54_row_47 : decode cX54_row 47 = .ok (.getfield 16, 3) := by decide +kernel
theorem dX54_row_50 : decode cX54_row 50 = .ok (.iconst 3, 1) := by decide +kernel
theorem dX54_row_51 : decode cX54_row 51 = .ok (.iload_n 1, 1) := by decide +kernel
theorem dX54_row_52 : decode cX54_row 52 = .ok (.imul, 1) := by decide +kernel
theorem dX54_row_53 : decode cX54_row 53 = .ok (.baload, 1) := by decide +kernel
theorem dX54_row_54 : decode cX54_row 54 = .ok (.ifCond .eq 13, 3) := by decide +kernel
theorem dX54_row_57 : decode cX54_row 57 = .ok (.aload_n 0, 1) := by decide +kernel
theorem dX54_row_58 : decode cX54_row 58 = .ok (.iload_n 1, 1) := by decide +kernel
theorem dX54_row_59 : decode cX54_row 59 = .ok (.iconst 0, 1) := by decide +kernel
theorem dX54_row_60 : decode cX54_row 60 = .ok (.iload_n 2, 1) := by decide +kernel
theorem dX54_row_61 : decode cX54_row 61 = .ok (.invokevirtual 71, 3) := by decide +kernel
theorem dX54_row_64 : decode cX54_row 64 = .ok (.ifCond .ne 50, 3) := by decide +kernel
theorem dX54_row_67 : decode cX54_row 67 = .ok (.aload_n 0, 1) := by decide +kernel
theorem dX54_row_68 : decode cX54_row 68 = .ok (.getfield 16, 3) := by decide +kernel
theorem dX54_row_71 : decode cX54_row 71 = .ok (.iconst 3, 1) := by decide +kernel
theorem dX54_row_72 : decode cX54_row 72 = .ok (.iload_n 1, 1) := by decide +kernel
theorem dX54_row_73 : decode cX54_row 73 = .ok (.imul, 1) := by decide +kernel
theorem dX54_row_74 : decode cX54_row 74 = .ok (.iconst 1, 1) := by decide +kernel
theorem dX54_row_75 : decode cX54_row 75 = .ok (.iadd, 1) := by decide +kernel
theorem dX54_row_76 : decode cX54_row 76 = .ok (.baload, 1) := by decide +kernel
theorem dX54_row_77 : decode cX54_row 77 = .ok (.ifCond .eq 13, 3) := by decide +kernel
theorem dX54_row_80 : decode cX54_row 80 = .ok (.aload_n 0, 1) := by decide +kernel
theorem dX54_row_81 : decode cX54_row 81 = .ok (.iload_n 1, 1) := by decide +kernel
theorem dX54_row_82 : decode cX54_row 82 = .ok (.iconst 1, 1) := by decide +kernel
theorem dX54_row_83 : decode cX54_row 83 = .ok (.iload_n 3, 1) := by decide +kernel
theorem dX54_row_84 : decode cX54_row 84 = .ok (.invokevirtual 71, 3) := by decide +kernel
theorem dX54_row_87 : decode cX54_row 87 = .ok (.ifCond .ne 27, 3) := by decide +kernel
theorem dX54_row_90 : decode cX54_row 90 = .ok (.aload_n 0, 1) := by decide +kernel
theorem dX54_row_91 : decode cX54_row 91 = .ok (.getfield 16, 3) := by decide +kernel
theorem dX54_row_94 : decode cX54_row 94 = .ok (.iconst 3, 1) := by decide +kernel
theorem dX54_row_95 : decode cX54_row 95 = .ok (.iload_n 1, 1) := by decide +kernel
theorem dX54_row_96 : decode cX54_row 96 = .ok (.imul, 1) := by decide +kernel
theorem dX54_row_97 : decode cX54_row 97 = .ok (.iconst 2, 1) := by decide +kernel
theorem dX54_row_98 : decode cX54_row 98 = .ok (.iadd, 1) := by decide +kernel
theorem dX54_row_99 : decode cX54_row 99 = .ok (.baload, 1) := by decide +kernel
theorem dX54_row_100 : decode cX54_row 100 = .ok (.ifCond .eq 17, 3) := by decide +kernel
theorem dX54_row_103 : decode cX54_row 103 = .ok (.aload_n 0, 1) := by decide +kernel
theorem dX54_row_104 : decode cX54_row 104 = .ok (.iload_n 1, 1) := by decide +kernel
theorem dX54_row_105 : decode cX54_row 105 = .ok (.iconst 2, 1) := by decide +kernel
theorem dX54_row_106 : decode cX54_row 106 = .ok (.iload 4, 2) := by decide +kernel
theorem dX54_row_108 : decode cX54_row 108 = .ok (.invokevirtual 71, 3) := by decide +kernel
theorem dX54_row_111 : decode cX54_row 111 = .ok (.ifCond .eq 6, 3) := by decide +kernel
theorem dX54_row_114 : decode cX54_row 114 = .ok (.bipush (-4), 2) := by decide +kernel
theorem dX54_row_116 : decode cX54_row 116 = .ok (.ireturn, 1) := by decide +kernel
theorem dX54_row_117 : decode cX54_row 117 = .ok (.aload_n 0, 1) := by decide +kernel
theorem dX54_row_118 : decode cX54_row 118 = .ok (.getfield 13, 3) := by decide +kernel
theorem dX54_row_121 : decode cX54_row 121 = .ok (.iload_n 1, 1) := by decide +kernel
theorem dX54_row_122 : decode cX54_row 122 = .ok (.iaload, 1) := by decide +kernel
theorem dX54_row_123 : decode cX54_row 123 = .ok (.bipush 20, 2) := by decide +kernel
theorem dX54_row_125 : decode cX54_row 125 = .ok (.if_icmp .ne 6, 3) := by decide +kernel
theorem dX54_row_128 : decode cX54_row 128 = .ok (.bipush (-2), 2) := by decide +kernel
theorem dX54_row_130 : decode cX54_row 130 = .ok (.ireturn, 1) := by decide +kernel
theorem dX54_row_131 : decode cX54_row 131 = .ok (.bipush 60, 2) := by decide +kernel
theorem dX54_row_133 : decode cX54_row 133 = .ok (.iload_n 1, 1) := by decide +kernel
theorem dX54_row_134 : decode cX54_row 134 = .ok (.imul, 1) := by decide +kernel
theorem dX54_row_135 : decode cX54_row 135 = .ok (.iconst 3, 1) := by decide +kernel
theorem dX54_row_136 : decode cX54_row 136 = .ok (.aload_n 0, 1) := by decide +kernel
theorem dX54_row_137 : decode cX54_row 137 = .ok (.getfield 13, 3) := by decide +kernel
theorem dX54_row_140 : decode cX54_row 140 = .ok (.iload_n 1, 1) := by decide +kernel
theorem dX54_row_141 : decode cX54_row 141 = .ok (.iaload, 1) := by decide +kernel
theorem dX54_row_142 : decode cX54_row 142 = .ok (.imul, 1) := by decide +kernel
theorem dX54_row_143 : decode cX54_row 143 = .ok (.iadd, 1) := by decide +kernel
theorem dX54_row_144 : decode cX54_row 144 = .ok (.istore 5, 2) := by decide +kernel
theorem dX54_row_146 : decode cX54_row 146 = .ok (.aload_n 0, 1) := by decide +kernel
theorem dX54_row_147 : decode cX54_row 147 = .ok (.getfield 7, 3) := by decide +kernel
theorem dX54_row_150 : decode cX54_row 150 = .ok (.iload 5, 2) := by decide +kernel
theorem dX54_row_152 : decode cX54_row 152 = .ok (.iload_n 2, 1) := by decide +kernel
theorem dX54_row_153 : decode cX54_row 153 = .ok (.iastore, 1) := by decide +kernel
theorem dX54_row_154 : decode cX54_row 154 = .ok (.aload_n 0, 1) := by decide +kernel
theorem dX54_row_155 : decode cX54_row 155 = .ok (.getfield 7, 3) := by decide +kernel
theorem dX54_row_158 : decode cX54_row 158 = .ok (.iload 5, 2) := by decide +kernel
theorem dX54_row_160 : decode cX54_row 160 = .ok (.iconst 1, 1) := by decide +kernel
theorem dX54_row_161 : decode cX54_row 161 = .ok (.iadd, 1) := by decide +kernel
theorem dX54_row_162 : decode cX54_row 162 = .ok (.iload_n 3, 1) := by decide +kernel
theorem dX54_row_163 : decode cX54_row 163 = .ok (.iastore, 1) := by decide +kernel
theorem dX54_row_164 : decode cX54_row 164 = .ok (.aload_n 0, 1) := by decide +kernel
theorem dX54_row_165 : decode cX54_row 165 = .ok (.getfield 7, 3) := by decide +kernel
theorem dX54_row_168 : decode cX54_row 168 = .ok (.iload 5, 2) := by decide +kernel
theorem dX54_row_170 : decode cX54_row 170 = .ok (.iconst 2, 1) := by decide +kernel
theorem dX54_row_171 : decode cX54_row 171 = .ok (.iadd, 1) := by decide +kernel
theorem dX54_row_172 : decode cX54_row 172 = .ok (.iload 4, 2) := by decide +kernel
theorem dX54_row_174 : decode cX54_row 174 = .ok (.iastore, 1) := by decide +kernel
theorem dX54_row_175 : decode cX54_row 175 = .ok (.aload_n 0, 1) := by decide +kernel
theorem dX54_row_176 : decode cX54_row 176 = .ok (.getfield 13, 3) := by decide +kernel
theorem dX54_row_179 : decode cX54_row 179 = .ok (.iload_n 1, 1) := by decide +kernel
theorem dX54_row_180 : decode cX54_row 180 = .ok (.dup2, 1) := by decide +kernel
theorem dX54_row_181 : decode cX54_row 181 = .ok (.iaload, 1) := by decide +kernel
theorem dX54_row_182 : decode cX54_row 182 = .ok (.iconst 1, 1) := by decide +kernel
theorem dX54_row_183 : decode cX54_row 183 = .ok (.iadd, 1) := by decide +kernel
theorem dX54_row_184 : decode cX54_row 184 = .ok (.iastore, 1) := by decide +kernel
theorem dX54_row_185 : decode cX54_row 185 = .ok (.aload_n 0, 1) := by decide +kernel
theorem dX54_row_186 : decode cX54_row 186 = .ok (.getfield 13, 3) := by decide +kernel
theorem dX54_row_189 : decode cX54_row 189 = .ok (.iload_n 1, 1) := by decide +kernel
theorem dX54_row_190 : decode cX54_row 190 = .ok (.iaload, 1) := by decide +kernel
theorem dX54_row_191 : decode cX54_row 191 = .ok (.ireturn, 1) := by decide +kernel
abbrev cX54_isThere : ByteArray := prog_90_method_5_code
def yX54_isThere : MethodName := ⟨RX54, "isThere", "(III)Z"⟩
theorem dX54_isThere_0 : decode cX54_isThere 0 = .ok (.iconst 0, 1) := by decide +kernel
theorem dX54_isThere_1 : decode cX54_isThere 1 = .ok (.istore 4, 2) := by decide +kernel
theorem dX54_isThere_3 : decode cX54_isThere 3 = .ok (.iload 4, 2) := by decide +kernel
theorem dX54_isThere_5 : decode cX54_isThere 5 = .ok (.aload_n 0, 1) := by decide +kernel
theorem dX54_isThere_6 : decode cX54_isThere 6 = .ok (.getfield 13, 3) := by decide +kernel
theorem dX54_isThere_9 : decode cX54_isThere 9 = .ok (.iload_n 1, 1) := by decide +kernel
theorem dX54_isThere_10 : decode cX54_isThere 10 = .ok (.iaload, 1) := by decide +kernel
theorem dX54_isThere_11 : decode cX54_isThere 11 = .ok (.if_icmp .ge 23, 3) := by decide +kernel
theorem dX54_isThere_14 : decode cX54_isThere 14 = .ok (.aload_n 0, 1) := by decide +kernel
theorem dX54_isThere_15 : decode cX54_isThere 15 = .ok (.iload_n 1, 1) := by decide +kernel
theorem dX54_isThere_16 : decode cX54_isThere 16 = .ok (.iload 4, 2) := by decide +kernel
theorem dX54_isThere_18 : decode cX54_isThere 18 = .ok (.iload_n 2, 1) := by decide +kernel
theorem dX54_isThere_19 : decode cX54_isThere 19 = .ok (.invokevirtual 60, 3) := by decide +kernel
theorem dX54_isThere_22 : decode cX54_isThere 22 = .ok (.iload_n 3, 1) := by decide +kernel
theorem dX54_isThere_23 : decode cX54_isThere 23 = .ok (.if_icmp .ne 5, 3) := by decide +kernel
theorem dX54_isThere_26 : decode cX54_isThere 26 = .ok (.iconst 1, 1) := by decide +kernel
theorem dX54_isThere_27 : decode cX54_isThere 27 = .ok (.ireturn, 1) := by decide +kernel
theorem dX54_isThere_28 : decode cX54_isThere 28 = .ok (.iinc 4 1, 3) := by decide +kernel
theorem dX54_isThere_31 : decode cX54_isThere 31 = .ok (.goto (-28), 3) := by decide +kernel
theorem dX54_isThere_34 : decode cX54_isThere 34 = .ok (.iconst 0, 1) := by decide +kernel
theorem dX54_isThere_35 : decode cX54_isThere 35 = .ok (.ireturn, 1) := by decide +kernel
abbrev cX54_drop : ByteArray := prog_90_method_9_code
def yX54_drop : MethodName := ⟨RX54, "drop", "(II)I"⟩
theorem dX54_drop_0 : decode cX54_drop 0 = .ok (.aload_n 0, 1) := by decide +kernel
theorem dX54_drop_1 : decode cX54_drop 1 = .ok (.iconst 0, 1) := by decide +kernel
theorem dX54_drop_2 : decode cX54_drop 2 = .ok (.putfield 56, 3) := by decide +kernel
theorem dX54_drop_5 : decode cX54_drop 5 = .ok (.iload_n 1, 1) := by decide +kernel
theorem dX54_drop_6 : decode cX54_drop 6 = .ok (.iconst 4, 1) := by decide +kernel
theorem dX54_drop_7 : decode cX54_drop 7 = .ok (.invokestatic 64, 3) := by decide +kernel
theorem dX54_drop_10 : decode cX54_drop 10 = .ok (.ifCond .eq 16, 3) := by decide +kernel
theorem dX54_drop_13 : decode cX54_drop 13 = .ok (.iload_n 2, 1) := by decide +kernel
theorem dX54_drop_14 : decode cX54_drop 14 = .ok (.aload_n 0, 1) := by decide +kernel
theorem dX54_drop_15 : decode cX54_drop 15 = .ok (.getfield 13, 3) := by decide +kernel
theorem dX54_drop_18 : decode cX54_drop 18 = .ok (.iload_n 1, 1) := by decide +kernel
theorem dX54_drop_19 : decode cX54_drop 19 = .ok (.iaload, 1) := by decide +kernel
theorem dX54_drop_20 : decode cX54_drop 20 = .ok (.invokestatic 64, 3) := by decide +kernel
theorem dX54_drop_23 : decode cX54_drop 23 = .ok (.ifCond .ne 5, 3) := by decide +kernel
theorem dX54_drop_26 : decode cX54_drop 26 = .ok (.iconst (-1), 1) := by decide +kernel
theorem dX54_drop_27 : decode cX54_drop 27 = .ok (.ireturn, 1) := by decide +kernel
theorem dX54_drop_28 : decode cX54_drop 28 = .ok (.aload_n 0, 1) := by decide +kernel
theorem dX54_drop_29 : decode cX54_drop 29 = .ok (.getfield 13, 3) := by decide +kernel
theorem dX54_drop_32 : decode cX54_drop 32 = .ok (.iload_n 1, 1) := by decide +kernel
theorem dX54_drop_33 : decode cX54_drop 33 = .ok (.dup2, 1) := by decide +kernel
theorem dX54_drop_34 : decode cX54_drop 34 = .ok (.iaload, 1) := by decide +kernel
theorem dX54_drop_35 : decode cX54_drop 35 = .ok (.iconst 1, 1) := by decide +kernel
theorem dX54_drop_36 : decode cX54_drop 36 = .ok (.isub, 1) := by decide +kernel
theorem dX54_drop_37 : decode cX54_drop 37 = .ok (.iastore, 1) := by decide +kernel
theorem dX54_drop_38 : decode cX54_drop 38 = .ok (.iconst 3, 1) := by decide +kernel
theorem dX54_drop_39 : decode cX54_drop 39 = .ok (.iload_n 2, 1) := by decide +kernel
theorem dX54_drop_40 : decode cX54_drop 40 = .ok (.imul, 1) := by decide +kernel
theorem dX54_drop_41 : decode cX54_drop 41 = .ok (.istore_n 3, 1) := by decide +kernel
theorem dX54_drop_42 : decode cX54_drop 42 = .ok (.iload_n 3, 1) := by decide +kernel
theorem dX54_drop_43 : decode cX54_drop 43 = .ok (.iconst 3, 1) := by decide +kernel
theorem dX54_drop_44 : decode cX54_drop 44 = .ok (.aload_n 0, 1) := by decide +kernel
theorem dX54_drop_45 : decode cX54_drop 45 = .ok (.getfield 13, 3) := by decide +kernel
theorem dX54_drop_48 : decode cX54_drop 48 = .ok (.iload_n 1, 1) := by decide +kernel
theorem dX54_drop_49 : decode cX54_drop 49 = .ok (.iaload, 1) := by decide +kernel
theorem dX54_drop_50 : decode cX54_drop 50 = .ok (.imul, 1) := by decide +kernel
theorem dX54_drop_51 : decode cX54_drop 51 = .ok (.if_icmp .ge 33, 3) := by decide +kernel
theorem dX54_drop_54 : decode cX54_drop 54 = .ok (.aload_n 0, 1) := by decide +kernel
theorem dX54_drop_55 : decode cX54_drop 55 = .ok (.getfield 7, 3) := by decide +kernel
theorem dX54_drop_58 : decode cX54_drop 58 = .ok (.bipush 60, 2) := by decide +kernel
theorem dX54_drop_60 : decode cX54_drop 60 = .ok (.iload_n 1, 1) := by decide +kernel
theorem dX54_drop_61 : decode cX54_drop 61 = .ok (.imul, 1) := by decide +kernel
theorem dX54_drop_62 : decode cX54_drop 62 = .ok (.iload_n 3, 1) := by decide +kernel
theorem dX54_drop_63 : decode cX54_drop 63 = .ok (.iadd, 1) := by decide +kernel
theorem dX54_drop_64 : decode cX54_drop 64 = .ok (.aload_n 0, 1) := by decide +kernel
theorem dX54_drop_65 : decode cX54_drop 65 = .ok (.getfield 7, 3) := by decide +kernel
theorem dX54_drop_68 : decode cX54_drop 68 = .ok (.bipush 60, 2) := by decide +kernel
theorem dX54_drop_70 : decode cX54_drop 70 = .ok (.iload_n 1, 1) := by decide +kernel
theorem dX54_drop_71 : decode cX54_drop 71 = .ok (.imul, 1) := by decide +kernel
theorem dX54_drop_72 : decode cX54_drop 72 = .ok (.iload_n 3, 1) := by decide +kernel
theorem dX54_drop_73 : decode cX54_drop 73 = .ok (.iadd, 1) := by decide +kernel
theorem dX54_drop_74 : decode cX54_drop 74 = .ok (.iconst 3, 1) := by decide +kernel
theorem dX54_drop_75 : decode cX54_drop 75 = .ok (.iadd, 1) := by decide +kernel
theorem dX54_drop_76 : decode cX54_drop 76 = .ok (.iaload, 1) := by decide +kernel
theorem dX54_drop_77 : decode cX54_drop 77 = .ok (.iastore, 1) := by decide +kernel
theorem dX54_drop_78 : decode cX54_drop 78 = .ok (.iinc 3 1, 3) := by decide +kernel
theorem dX54_drop_81 : decode cX54_drop 81 = .ok (.goto (-39), 3) := by decide +kernel
theorem dX54_drop_84 : decode cX54_drop 84 = .ok (.aload_n 0, 1) := by decide +kernel
theorem dX54_drop_85 : decode cX54_drop 85 = .ok (.getfield 13, 3) := by decide +kernel
theorem dX54_drop_88 : decode cX54_drop 88 = .ok (.iload_n 1, 1) := by decide +kernel
theorem dX54_drop_89 : decode cX54_drop 89 = .ok (.iaload, 1) := by decide +kernel
theorem dX54_drop_90 : decode cX54_drop 90 = .ok (.ireturn, 1) := by decide +kernel
abbrev cX54_mapping : ByteArray := prog_90_method_10_code
def yX54_mapping : MethodName := ⟨RX54, "mapping", "(IIIIII)I"⟩
theorem dX54_mapping_0 : decode cX54_mapping 0 = .ok (.aload_n 0, 1) := by decide +kernel
theorem dX54_mapping_1 : decode cX54_mapping 1 = .ok (.iconst 0, 1) := by decide +kernel
theorem dX54_mapping_2 : decode cX54_mapping 2 = .ok (.putfield 56, 3) := by decide +kernel
theorem dX54_mapping_5 : decode cX54_mapping 5 = .ok (.iload_n 1, 1) := by decide +kernel
theorem dX54_mapping_6 : decode cX54_mapping 6 = .ok (.iconst 4, 1) := by decide +kernel
theorem dX54_mapping_7 : decode cX54_mapping 7 = .ok (.invokestatic 64, 3) := by decide +kernel
theorem dX54_mapping_10 : decode cX54_mapping 10 = .ok (.ifCond .eq 49, 3) := by decide +kernel
theorem dX54_mapping_13 : decode cX54_mapping 13 = .ok (.iload_n 2, 1) := by decide +kernel
theorem dX54_mapping_14 : decode cX54_mapping 14 = .ok (.bipush 8, 2) := by decide +kernel
theorem dX54_mapping_16 : decode cX54_mapping 16 = .ok (.invokestatic 64, 3) := by decide +kernel
theorem dX54_mapping_19 : decode cX54_mapping 19 = .ok (.ifCond .eq 40, 3) := by decide +kernel
theorem dX54_mapping_22 : decode cX54_mapping 22 = .ok (.iload_n 3, 1) := by decide +kernel
theorem dX54_mapping_23 : decode cX54_mapping 23 = .ok (.bipush 6, 2) := by decide +kernel
theorem dX54_mapping_25 : decode cX54_mapping 25 = .ok (.invokestatic 64, 3) := by decide +kernel
theorem dX54_mapping_28 : decode cX54_mapping 28 = .ok (.ifCond .eq 31, 3) := by decide +kernel
theorem dX54_mapping_31 : decode cX54_mapping 31 = .ok (.iload 4, 2) := by decide +kernel
theorem dX54_mapping_33 : decode cX54_mapping 33 = .ok (.iconst 3, 1) := by decide +kernel
theorem dX54_mapping_34 : decode cX54_mapping 34 = .ok (.invokestatic 64, 3) := by decide +kernel
theorem dX54_mapping_37 : decode cX54_mapping 37 = .ok (.ifCond .eq 22, 3) := by decide +kernel
theorem dX54_mapping_40 : decode cX54_mapping 40 = .ok (.iload 5, 2) := by decide +kernel
theorem dX54_mapping_42 : decode cX54_mapping 42 = .ok (.bipush 6, 2) := by decide +kernel
theorem dX54_mapping_44 : decode cX54_mapping 44 = .ok (.invokestatic 64, 3) := by decide +kernel
theorem dX54_mapping_47 : decode cX54_mapping 47 = .ok (.ifCond .eq 12, 3) := by decide +kernel
theorem dX54_mapping_50 : decode cX54_mapping 50 = .ok (.iload 6, 2) := by decide +kernel
theorem dX54_mapping_52 : decode cX54_mapping 52 = .ok (.iconst 3, 1) := by decide +kernel
theorem dX54_mapping_53 : decode cX54_mapping 53 = .ok (.invokestatic 64, 3) := by decide +kernel
theorem dX54_mapping_56 : decode cX54_mapping 56 = .ok (.ifCond .ne 5, 3) := by decide +kernel
theorem dX54_mapping_59 : decode cX54_mapping 59 = .ok (.iconst (-1), 1) := by decide +kernel
theorem dX54_mapping_60 : decode cX54_mapping 60 = .ok (.ireturn, 1) := by decide +kernel
theorem dX54_mapping_61 : decode cX54_mapping 61 = .ok (.aload_n 0, 1) := by decide +kernel
theorem dX54_mapping_62 : decode cX54_mapping 62 = .ok (.getfield 75, 3) := by decide +kernel
theorem dX54_mapping_65 : decode cX54_mapping 65 = .ok (.bipush 12, 2) := by decide +kernel
theorem dX54_mapping_67 : decode cX54_mapping 67 = .ok (.if_icmp .ne 6, 3) := by decide +kernel
theorem dX54_mapping_70 : decode cX54_mapping 70 = .ok (.bipush (-2), 2) := by decide +kernel
theorem dX54_mapping_72 : decode cX54_mapping 72 = .ok (.ireturn, 1) := by decide +kernel
theorem dX54_mapping_73 : decode cX54_mapping 73 = .ok (.bipush 6, 2) := by decide +kernel
theorem dX54_mapping_75 : decode cX54_mapping 75 = .ok (.aload_n 0, 1) := by decide +kernel
theorem dX54_mapping_76 : decode cX54_mapping 76 = .ok (.getfield 75, 3) := by decide +kernel
theorem dX54_mapping_79 : decode cX54_mapping 79 = .ok (.imul, 1) := by decide +kernel
theorem dX54_mapping_80 : decode cX54_mapping 80 = .ok (.istore 7, 2) := by decide +kernel
theorem dX54_mapping_82 : decode cX54_mapping 82 = .ok (.aload_n 0, 1) := by decide +kernel
theorem dX54_mapping_83 : decode cX54_mapping 83 = .ok (.getfield 20, 3) := by decide +kernel
theorem dX54_mapping_86 : decode cX54_mapping 86 = .ok (.iload 7, 2) := by decide +kernel
theorem dX54_mapping_88 : decode cX54_mapping 88 = .ok (.iload_n 1, 1) := by decide +kernel
theorem dX54_mapping_89 : decode cX54_mapping 89 = .ok (.iastore, 1) := by decide +kernel
theorem dX54_mapping_90 : decode cX54_mapping 90 = .ok (.aload_n 0, 1) := by decide +kernel
theorem dX54_mapping_91 : decode cX54_mapping 91 = .ok (.getfield 20, 3) := by decide +kernel
theorem dX54_mapping_94 : decode cX54_mapping 94 = .ok (.iload 7, 2) := by decide +kernel
theorem dX54_mapping_96 : decode cX54_mapping 96 = .ok (.iconst 1, 1) := by decide +kernel
theorem dX54_mapping_97 : decode cX54_mapping 97 = .ok (.iadd, 1) := by decide +kernel
theorem dX54_mapping_98 : decode cX54_mapping 98 = .ok (.iload_n 2, 1) := by decide +kernel
theorem dX54_mapping_99 : decode cX54_mapping 99 = .ok (.iastore, 1) := by decide +kernel
theorem dX54_mapping_100 : decode cX54_mapping 100 = .ok (.aload_n 0, 1) := by decide +kernel
theorem dX54_mapping_101 : decode cX54_mapping 101 = .ok (.getfield 20, 3) := by decide +kernel
theorem dX54_mapping_104 : decode cX54_mapping 104 = .ok (.iload 7, 2) := by decide +kernel
theorem dX54_mapping_106 : decode cX54_mapping 106 = .ok (.iconst 2, 1) := by decide +kernel
theorem dX54_mapping_107 : decode cX54_mapping 107 = .ok (.iadd, 1) := by decide +kernel
theorem dX54_mapping_108 : decode cX54_mapping 108 = .ok (.iload_n 3, 1) := by decide +kernel
theorem dX54_mapping_109 : decode cX54_mapping 109 = .ok (.iastore, 1) := by decide +kernel
theorem dX54_mapping_110 : decode cX54_mapping 110 = .ok (.aload_n 0, 1) := by decide +kernel
theorem dX54_mapping_111 : decode cX54_mapping 111 = .ok (.getfield 20, 3) := by decide +kernel
theorem dX54_mapping_114 : decode cX54_mapping 114 = .ok (.iload 7, 2) := by decide +kernel
theorem dX54_mapping_116 : decode cX54_mapping 116 = .ok (.iconst 3, 1) := by decide +kernel
theorem dX54_mapping_117 : decode cX54_mapping 117 = .ok (.iadd, 1) := by decide +kernel
theorem dX54_mapping_118 : decode cX54_mapping 118 = .ok (.iload 4, 2) := by decide +kernel
theorem dX54_mapping_120 : decode cX54_mapping 120 = .ok (.iastore, 1) := by decide +kernel
theorem dX54_mapping_121 : decode cX54_mapping 121 = .ok (.aload_n 0, 1) := by decide +kernel
theorem dX54_mapping_122 : decode cX54_mapping 122 = .ok (.getfield 20, 3) := by decide +kernel
theorem dX54_mapping_125 : decode cX54_mapping 125 = .ok (.iload 7, 2) := by decide +kernel
theorem dX54_mapping_127 : decode cX54_mapping 127 = .ok (.iconst 4, 1) := by decide +kernel
theorem dX54_mapping_128 : decode cX54_mapping 128 = .ok (.iadd, 1) := by decide +kernel
theorem dX54_mapping_129 : decode cX54_mapping 129 = .ok (.iload 5, 2) := by decide +kernel
theorem dX54_mapping_131 : decode cX54_mapping 131 = .ok (.iastore, 1) := by decide +kernel
theorem dX54_mapping_132 : decode cX54_mapping 132 = .ok (.aload_n 0, 1) := by decide +kernel
theorem dX54_mapping_133 : decode cX54_mapping 133 = .ok (.getfield 20, 3) := by decide +kernel
theorem dX54_mapping_136 : decode cX54_mapping 136 = .ok (.iload 7, 2) := by decide +kernel
theorem dX54_mapping_138 : decode cX54_mapping 138 = .ok (.iconst 5, 1) := by decide +kernel
theorem dX54_mapping_139 : decode cX54_mapping 139 = .ok (.iadd, 1) := by decide +kernel
theorem dX54_mapping_140 : decode cX54_mapping 140 = .ok (.iload 6, 2) := by decide +kernel
theorem dX54_mapping_142 : decode cX54_mapping 142 = .ok (.iastore, 1) := by decide +kernel
theorem dX54_mapping_143 : decode cX54_mapping 143 = .ok (.aload_n 0, 1) := by decide +kernel
theorem dX54_mapping_144 : decode cX54_mapping 144 = .ok (.dup, 1) := by decide +kernel
theorem dX54_mapping_145 : decode cX54_mapping 145 = .ok (.getfield 75, 3) := by decide +kernel
theorem dX54_mapping_148 : decode cX54_mapping 148 = .ok (.iconst 1, 1) := by decide +kernel
theorem dX54_mapping_149 : decode cX54_mapping 149 = .ok (.iadd, 1) := by decide +kernel
theorem dX54_mapping_150 : decode cX54_mapping 150 = .ok (.putfield 75, 3) := by decide +kernel
theorem dX54_mapping_153 : decode cX54_mapping 153 = .ok (.aload_n 0, 1) := by decide +kernel
theorem dX54_mapping_154 : decode cX54_mapping 154 = .ok (.getfield 75, 3) := by decide +kernel
theorem dX54_mapping_157 : decode cX54_mapping 157 = .ok (.iconst 1, 1) := by decide +kernel
theorem dX54_mapping_158 : decode cX54_mapping 158 = .ok (.isub, 1) := by decide +kernel
theorem dX54_mapping_159 : decode cX54_mapping 159 = .ok (.ireturn, 1) := by decide +kernel
abbrev cX54_triples : ByteArray := prog_90_method_14_code
def yX54_triples : MethodName := ⟨RX54, "triples", "()I"⟩
theorem dX54_triples_0 : decode cX54_triples 0 = .ok (.aload_n 0, 1) := by decide +kernel
theorem dX54_triples_1 : decode cX54_triples 1 = .ok (.iconst 0, 1) := by decide +kernel
theorem dX54_triples_2 : decode cX54_triples 2 = .ok (.putfield 56, 3) := by decide +kernel
theorem dX54_triples_5 : decode cX54_triples 5 = .ok (.iconst 0, 1) := by decide +kernel
theorem dX54_triples_6 : decode cX54_triples 6 = .ok (.istore_n 1, 1) := by decide +kernel
theorem dX54_triples_7 : decode cX54_triples 7 = .ok (.iconst 0, 1) := by decide +kernel
theorem dX54_triples_8 : decode cX54_triples 8 = .ok (.istore_n 2, 1) := by decide +kernel
theorem dX54_triples_9 : decode cX54_triples 9 = .ok (.iload_n 2, 1) := by decide +kernel
theorem dX54_triples_10 : decode cX54_triples 10 = .ok (.aload_n 0, 1) := by decide +kernel
theorem dX54_triples_11 : decode cX54_triples 11 = .ok (.getfield 75, 3) := by decide +kernel
theorem dX54_triples_14 : decode cX54_triples 14 = .ok (.if_icmp .ge 209, 3) := by decide +kernel
theorem dX54_triples_17 : decode cX54_triples 17 = .ok (.iconst 0, 1) := by decide +kernel
theorem dX54_triples_18 : decode cX54_triples 18 = .ok (.istore_n 3, 1) := by decide +kernel
theorem dX54_triples_19 : decode cX54_triples 19 = .ok (.iload_n 3, 1) := by decide +kernel
theorem dX54_triples_20 : decode cX54_triples 20 = .ok (.aload_n 0, 1) := by decide +kernel
theorem dX54_triples_21 : decode cX54_triples 21 = .ok (.getfield 13, 3) := by decide +kernel
theorem dX54_triples_24 : decode cX54_triples 24 = .ok (.aload_n 0, 1) := by decide +kernel
theorem dX54_triples_25 : decode cX54_triples 25 = .ok (.getfield 20, 3) := by decide +kernel
theorem dX54_triples_28 : decode cX54_triples 28 = .ok (.bipush 6, 2) := by decide +kernel
theorem dX54_triples_30 : decode cX54_triples 30 = .ok (.iload_n 2, 1) := by decide +kernel
theorem dX54_triples_31 : decode cX54_triples 31 = .ok (.imul, 1) := by decide +kernel
theorem dX54_triples_32 : decode cX54_triples 32 = .ok (.iaload, 1) := by decide +kernel
theorem dX54_triples_33 : decode cX54_triples 33 = .ok (.iaload, 1) := by decide +kernel
theorem dX54_triples_34 : decode cX54_triples 34 = .ok (.if_icmp .ge 183, 3) := by decide +kernel
theorem dX54_triples_37 : decode cX54_triples 37 = .ok (.iconst 0, 1) := by decide +kernel
theorem dX54_triples_38 : decode cX54_triples 38 = .ok (.istore 4, 2) := by decide +kernel
theorem dX54_triples_40 : decode cX54_triples 40 = .ok (.iconst 0, 1) := by decide +kernel
theorem dX54_triples_41 : decode cX54_triples 41 = .ok (.istore 5, 2) := by decide +kernel
theorem dX54_triples_43 : decode cX54_triples 43 = .ok (.iload 5, 2) := by decide +kernel
theorem dX54_triples_45 : decode cX54_triples 45 = .ok (.aload_n 0, 1) := by decide +kernel
theorem dX54_triples_46 : decode cX54_triples 46 = .ok (.getfield 75, 3) := by decide +kernel
theorem dX54_triples_49 : decode cX54_triples 49 = .ok (.if_icmp .ge 149, 3) := by decide +kernel
theorem dX54_triples_52 : decode cX54_triples 52 = .ok (.iload 4, 2) := by decide +kernel
theorem dX54_triples_54 : decode cX54_triples 54 = .ok (.ifCond .ne 144, 3) := by decide +kernel
theorem dX54_triples_57 : decode cX54_triples 57 = .ok (.iconst 0, 1) := by decide +kernel
theorem dX54_triples_58 : decode cX54_triples 58 = .ok (.istore 6, 2) := by decide +kernel
theorem dX54_triples_60 : decode cX54_triples 60 = .ok (.iload 6, 2) := by decide +kernel
theorem dX54_triples_62 : decode cX54_triples 62 = .ok (.aload_n 0, 1) := by decide +kernel
theorem dX54_triples_63 : decode cX54_triples 63 = .ok (.getfield 13, 3) := by decide +kernel
theorem dX54_triples_66 : decode cX54_triples 66 = .ok (.aload_n 0, 1) := by decide +kernel
theorem dX54_triples_67 : decode cX54_triples 67 = .ok (.getfield 20, 3) := by decide +kernel
theorem dX54_triples_70 : decode cX54_triples 70 = .ok (.bipush 6, 2) := by decide +kernel
theorem dX54_triples_72 : decode cX54_triples 72 = .ok (.iload 5, 2) := by decide +kernel
theorem dX54_triples_74 : decode cX54_triples 74 = .ok (.imul, 1) := by decide +kernel
theorem dX54_triples_75 : decode cX54_triples 75 = .ok (.iaload, 1) := by decide +kernel
theorem dX54_triples_76 : decode cX54_triples 76 = .ok (.iaload, 1) := by decide +kernel
theorem dX54_triples_77 : decode cX54_triples 77 = .ok (.if_icmp .ge 115, 3) := by decide +kernel
theorem dX54_triples_80 : decode cX54_triples 80 = .ok (.iload 4, 2) := by decide +kernel
theorem dX54_triples_82 : decode cX54_triples 82 = .ok (.ifCond .ne 110, 3) := by decide +kernel
theorem dX54_triples_85 : decode cX54_triples 85 = .ok (.iload 5, 2) := by decide +kernel
theorem dX54_triples_87 : decode cX54_triples 87 = .ok (.iload_n 2, 1) := by decide +kernel
theorem dX54_triples_88 : decode cX54_triples 88 = .ok (.if_icmp .lt 15, 3) := by decide +kernel
theorem dX54_triples_91 : decode cX54_triples 91 = .ok (.iload 5, 2) := by decide +kernel
theorem dX54_triples_93 : decode cX54_triples 93 = .ok (.iload_n 2, 1) := by decide +kernel
theorem dX54_triples_94 : decode cX54_triples 94 = .ok (.if_icmp .ne 13, 3) := by decide +kernel
theorem dX54_triples_97 : decode cX54_triples 97 = .ok (.iload 6, 2) := by decide +kernel
theorem dX54_triples_99 : decode cX54_triples 99 = .ok (.iload_n 3, 1) := by decide +kernel
theorem dX54_triples_100 : decode cX54_triples 100 = .ok (.if_icmp .ge 7, 3) := by decide +kernel
theorem dX54_triples_103 : decode cX54_triples 103 = .ok (.iconst 1, 1) := by decide +kernel
theorem dX54_triples_104 : decode cX54_triples 104 = .ok (.goto 4, 3) := by decide +kernel
theorem dX54_triples_107 : decode cX54_triples 107 = .ok (.iconst 0, 1) := by decide +kernel
theorem dX54_triples_108 : decode cX54_triples 108 = .ok (.istore 7, 2) := by decide +kernel
theorem dX54_triples_110 : decode cX54_triples 110 = .ok (.iload 7, 2) := by decide +kernel
theorem dX54_triples_112 : decode cX54_triples 112 = .ok (.ifCond .eq 71, 3) := by decide +kernel
theorem dX54_triples_115 : decode cX54_triples 115 = .ok (.aload_n 0, 1) := by decide +kernel
theorem dX54_triples_116 : decode cX54_triples 116 = .ok (.getfield 20, 3) := by decide +kernel
theorem dX54_triples_119 : decode cX54_triples 119 = .ok (.bipush 6, 2) := by decide +kernel
theorem dX54_triples_121 : decode cX54_triples 121 = .ok (.iload 5, 2) := by decide +kernel
theorem dX54_triples_123 : decode cX54_triples 123 = .ok (.imul, 1) := by decide +kernel
theorem dX54_triples_124 : decode cX54_triples 124 = .ok (.iconst 1, 1) := by decide +kernel
theorem dX54_triples_125 : decode cX54_triples 125 = .ok (.iadd, 1) := by decide +kernel
theorem dX54_triples_126 : decode cX54_triples 126 = .ok (.iaload, 1) := by decide +kernel
theorem dX54_triples_127 : decode cX54_triples 127 = .ok (.aload_n 0, 1) := by decide +kernel
theorem dX54_triples_128 : decode cX54_triples 128 = .ok (.getfield 20, 3) := by decide +kernel
theorem dX54_triples_131 : decode cX54_triples 131 = .ok (.bipush 6, 2) := by decide +kernel
theorem dX54_triples_133 : decode cX54_triples 133 = .ok (.iload_n 2, 1) := by decide +kernel
theorem dX54_triples_134 : decode cX54_triples 134 = .ok (.imul, 1) := by decide +kernel
theorem dX54_triples_135 : decode cX54_triples 135 = .ok (.iconst 1, 1) := by decide +kernel
theorem dX54_triples_136 : decode cX54_triples 136 = .ok (.iadd, 1) := by decide +kernel
theorem dX54_triples_137 : decode cX54_triples 137 = .ok (.iaload, 1) := by decide +kernel
theorem dX54_triples_138 : decode cX54_triples 138 = .ok (.if_icmp .ne 45, 3) := by decide +kernel
theorem dX54_triples_141 : decode cX54_triples 141 = .ok (.aload_n 0, 1) := by decide +kernel
theorem dX54_triples_142 : decode cX54_triples 142 = .ok (.iload 5, 2) := by decide +kernel
theorem dX54_triples_144 : decode cX54_triples 144 = .ok (.iload 6, 2) := by decide +kernel
theorem dX54_triples_146 : decode cX54_triples 146 = .ok (.iconst 0, 1) := by decide +kernel
theorem dX54_triples_147 : decode cX54_triples 147 = .ok (.invokevirtual 85, 3) := by decide +kernel
theorem dX54_triples_150 : decode cX54_triples 150 = .ok (.aload_n 0, 1) := by decide +kernel
theorem dX54_triples_151 : decode cX54_triples 151 = .ok (.iload_n 2, 1) := by decide +kernel
theorem dX54_triples_152 : decode cX54_triples 152 = .ok (.iload_n 3, 1) := by decide +kernel
theorem dX54_triples_153 : decode cX54_triples 153 = .ok (.iconst 0, 1) := by decide +kernel
theorem dX54_triples_154 : decode cX54_triples 154 = .ok (.invokevirtual 85, 3) := by decide +kernel
theorem dX54_triples_157 : decode cX54_triples 157 = .ok (.if_icmp .ne 26, 3) := by decide +kernel
theorem dX54_triples_160 : decode cX54_triples 160 = .ok (.aload_n 0, 1) := by decide +kernel
theorem dX54_triples_161 : decode cX54_triples 161 = .ok (.iload 5, 2) := by decide +kernel
theorem dX54_triples_163 : decode cX54_triples 163 = .ok (.iload 6, 2) := by decide +kernel
theorem dX54_triples_165 : decode cX54_triples 165 = .ok (.iconst 1, 1) := by decide +kernel
theorem dX54_triples_166 : decode cX54_triples 166 = .ok (.invokevirtual 85, 3) := by decide +kernel
theorem dX54_triples_169 : decode cX54_triples 169 = .ok (.aload_n 0, 1) := by decide +kernel
theorem dX54_triples_170 : decode cX54_triples 170 = .ok (.iload_n 2, 1) := by decide +kernel
theorem dX54_triples_171 : decode cX54_triples 171 = .ok (.iload_n 3, 1) := by decide +kernel
theorem dX54_triples_172 : decode cX54_triples 172 = .ok (.iconst 1, 1) := by decide +kernel
theorem dX54_triples_173 : decode cX54_triples 173 = .ok (.invokevirtual 85, 3) := by decide +kernel
theorem dX54_triples_176 : decode cX54_triples 176 = .ok (.if_icmp .ne 7, 3) := by decide +kernel
theorem dX54_triples_179 : decode cX54_triples 179 = .ok (.iconst 1, 1) := by decide +kernel
theorem dX54_triples_180 : decode cX54_triples 180 = .ok (.goto 4, 3) := by decide +kernel
theorem dX54_triples_183 : decode cX54_triples 183 = .ok (.iconst 0, 1) := by decide +kernel
theorem dX54_triples_184 : decode cX54_triples 184 = .ok (.istore 4, 2) := by decide +kernel
theorem dX54_triples_186 : decode cX54_triples 186 = .ok (.iinc 6 1, 3) := by decide +kernel
theorem dX54_triples_189 : decode cX54_triples 189 = .ok (.goto (-129), 3) := by decide +kernel
theorem dX54_triples_192 : decode cX54_triples 192 = .ok (.iinc 5 1, 3) := by decide +kernel
theorem dX54_triples_195 : decode cX54_triples 195 = .ok (.goto (-152), 3) := by decide +kernel
theorem dX54_triples_198 : decode cX54_triples 198 = .ok (.iload_n 1, 1) := by decide +kernel
theorem dX54_triples_199 : decode cX54_triples 199 = .ok (.iload 4, 2) := by decide +kernel
theorem dX54_triples_201 : decode cX54_triples 201 = .ok (.ifCond .eq 7, 3) := by decide +kernel
theorem dX54_triples_204 : decode cX54_triples 204 = .ok (.iconst 0, 1) := by decide +kernel
theorem dX54_triples_205 : decode cX54_triples 205 = .ok (.goto 4, 3) := by decide +kernel
theorem dX54_triples_208 : decode cX54_triples 208 = .ok (.iconst 1, 1) := by decide +kernel
theorem dX54_triples_209 : decode cX54_triples 209 = .ok (.iadd, 1) := by decide +kernel
theorem dX54_triples_210 : decode cX54_triples 210 = .ok (.istore_n 1, 1) := by decide +kernel
theorem dX54_triples_211 : decode cX54_triples 211 = .ok (.iinc 3 1, 3) := by decide +kernel
theorem dX54_triples_214 : decode cX54_triples 214 = .ok (.goto (-195), 3) := by decide +kernel
theorem dX54_triples_217 : decode cX54_triples 217 = .ok (.iinc 2 1, 3) := by decide +kernel
theorem dX54_triples_220 : decode cX54_triples 220 = .ok (.goto (-211), 3) := by decide +kernel
theorem dX54_triples_223 : decode cX54_triples 223 = .ok (.iload_n 1, 1) := by decide +kernel
theorem dX54_triples_224 : decode cX54_triples 224 = .ok (.ireturn, 1) := by decide +kernel
abbrev cX54_atom : ByteArray := prog_90_method_15_code
def yX54_atom : MethodName := ⟨RX54, "atom", "(III)I"⟩
theorem dX54_atom_0 : decode cX54_atom 0 = .ok (.aload_n 0, 1) := by decide +kernel
theorem dX54_atom_1 : decode cX54_atom 1 = .ok (.iconst 0, 1) := by decide +kernel
theorem dX54_atom_2 : decode cX54_atom 2 = .ok (.putfield 56, 3) := by decide +kernel
theorem dX54_atom_5 : decode cX54_atom 5 = .ok (.iload_n 1, 1) := by decide +kernel
theorem dX54_atom_6 : decode cX54_atom 6 = .ok (.bipush 8, 2) := by decide +kernel
theorem dX54_atom_8 : decode cX54_atom 8 = .ok (.invokestatic 64, 3) := by decide +kernel
theorem dX54_atom_11 : decode cX54_atom 11 = .ok (.ifCond .eq 27, 3) := by decide +kernel
theorem dX54_atom_14 : decode cX54_atom 14 = .ok (.iload_n 2, 1) := by decide +kernel
theorem dX54_atom_15 : decode cX54_atom 15 = .ok (.bipush (-6), 2) := by decide +kernel
theorem dX54_atom_17 : decode cX54_atom 17 = .ok (.if_icmp .lt 21, 3) := by decide +kernel
theorem dX54_atom_20 : decode cX54_atom 20 = .ok (.iload_n 2, 1) := by decide +kernel
theorem dX54_atom_21 : decode cX54_atom 21 = .ok (.ldc 88, 2) := by decide +kernel
theorem dX54_atom_23 : decode cX54_atom 23 = .ok (.if_icmp .ge 15, 3) := by decide +kernel
theorem dX54_atom_26 : decode cX54_atom 26 = .ok (.iload_n 3, 1) := by decide +kernel
theorem dX54_atom_27 : decode cX54_atom 27 = .ok (.bipush (-6), 2) := by decide +kernel
theorem dX54_atom_29 : decode cX54_atom 29 = .ok (.if_icmp .lt 9, 3) := by decide +kernel
theorem dX54_atom_32 : decode cX54_atom 32 = .ok (.iload_n 3, 1) := by decide +kernel
theorem dX54_atom_33 : decode cX54_atom 33 = .ok (.ldc 88, 2) := by decide +kernel
theorem dX54_atom_35 : decode cX54_atom 35 = .ok (.if_icmp .lt 5, 3) := by decide +kernel
theorem dX54_atom_38 : decode cX54_atom 38 = .ok (.iconst (-1), 1) := by decide +kernel
theorem dX54_atom_39 : decode cX54_atom 39 = .ok (.ireturn, 1) := by decide +kernel
theorem dX54_atom_40 : decode cX54_atom 40 = .ok (.aload_n 0, 1) := by decide +kernel
theorem dX54_atom_41 : decode cX54_atom 41 = .ok (.getfield 89, 3) := by decide +kernel
theorem dX54_atom_44 : decode cX54_atom 44 = .ok (.iconst 4, 1) := by decide +kernel
theorem dX54_atom_45 : decode cX54_atom 45 = .ok (.if_icmp .ne 6, 3) := by decide +kernel
theorem dX54_atom_48 : decode cX54_atom 48 = .ok (.bipush (-2), 2) := by decide +kernel
theorem dX54_atom_50 : decode cX54_atom 50 = .ok (.ireturn, 1) := by decide +kernel
theorem dX54_atom_51 : decode cX54_atom 51 = .ok (.aload_n 0, 1) := by decide +kernel
theorem dX54_atom_52 : decode cX54_atom 52 = .ok (.getfield 23, 3) := by decide +kernel
theorem dX54_atom_55 : decode cX54_atom 55 = .ok (.iconst 3, 1) := by decide +kernel
theorem dX54_atom_56 : decode cX54_atom 56 = .ok (.aload_n 0, 1) := by decide +kernel
theorem dX54_atom_57 : decode cX54_atom 57 = .ok (.getfield 89, 3) := by decide +kernel
theorem dX54_atom_60 : decode cX54_atom 60 = .ok (.imul, 1) := by decide +kernel
theorem dX54_atom_61 : decode cX54_atom 61 = .ok (.iload_n 1, 1) := by decide +kernel
theorem dX54_atom_62 : decode cX54_atom 62 = .ok (.iastore, 1) := by decide +kernel
theorem dX54_atom_63 : decode cX54_atom 63 = .ok (.aload_n 0, 1) := by decide +kernel
theorem dX54_atom_64 : decode cX54_atom 64 = .ok (.getfield 23, 3) := by decide +kernel
theorem dX54_atom_67 : decode cX54_atom 67 = .ok (.iconst 3, 1) := by decide +kernel
theorem dX54_atom_68 : decode cX54_atom 68 = .ok (.aload_n 0, 1) := by decide +kernel
theorem dX54_atom_69 : decode cX54_atom 69 = .ok (.getfield 89, 3) := by decide +kernel
theorem dX54_atom_72 : decode cX54_atom 72 = .ok (.imul, 1) := by decide +kernel
theorem dX54_atom_73 : decode cX54_atom 73 = .ok (.iconst 1, 1) := by decide +kernel
theorem dX54_atom_74 : decode cX54_atom 74 = .ok (.iadd, 1) := by decide +kernel
theorem dX54_atom_75 : decode cX54_atom 75 = .ok (.iload_n 2, 1) := by decide +kernel
theorem dX54_atom_76 : decode cX54_atom 76 = .ok (.iastore, 1) := by decide +kernel
theorem dX54_atom_77 : decode cX54_atom 77 = .ok (.aload_n 0, 1) := by decide +kernel
theorem dX54_atom_78 : decode cX54_atom 78 = .ok (.getfield 23, 3) := by decide +kernel
theorem dX54_atom_81 : decode cX54_atom 81 = .ok (.iconst 3, 1) := by decide +kernel
theorem dX54_atom_82 : decode cX54_atom 82 = .ok (.aload_n 0, 1) := by decide +kernel
theorem dX54_atom_83 : decode cX54_atom 83 = .ok (.getfield 89, 3) := by decide +kernel
theorem dX54_atom_86 : decode cX54_atom 86 = .ok (.imul, 1) := by decide +kernel
theorem dX54_atom_87 : decode cX54_atom 87 = .ok (.iconst 2, 1) := by decide +kernel
theorem dX54_atom_88 : decode cX54_atom 88 = .ok (.iadd, 1) := by decide +kernel
theorem dX54_atom_89 : decode cX54_atom 89 = .ok (.iload_n 3, 1) := by decide +kernel
theorem dX54_atom_90 : decode cX54_atom 90 = .ok (.iastore, 1) := by decide +kernel
theorem dX54_atom_91 : decode cX54_atom 91 = .ok (.aload_n 0, 1) := by decide +kernel
theorem dX54_atom_92 : decode cX54_atom 92 = .ok (.dup, 1) := by decide +kernel
theorem dX54_atom_93 : decode cX54_atom 93 = .ok (.getfield 89, 3) := by decide +kernel
theorem dX54_atom_96 : decode cX54_atom 96 = .ok (.iconst 1, 1) := by decide +kernel
theorem dX54_atom_97 : decode cX54_atom 97 = .ok (.iadd, 1) := by decide +kernel
theorem dX54_atom_98 : decode cX54_atom 98 = .ok (.putfield 89, 3) := by decide +kernel
theorem dX54_atom_101 : decode cX54_atom 101 = .ok (.aload_n 0, 1) := by decide +kernel
theorem dX54_atom_102 : decode cX54_atom 102 = .ok (.getfield 89, 3) := by decide +kernel
theorem dX54_atom_105 : decode cX54_atom 105 = .ok (.ireturn, 1) := by decide +kernel
abbrev cX54_span : ByteArray := prog_90_method_16_code
def yX54_span : MethodName := ⟨RX54, "span", "(III)I"⟩
theorem dX54_span_0 : decode cX54_span 0 = .ok (.aload_n 0, 1) := by decide +kernel
theorem dX54_span_1 : decode cX54_span 1 = .ok (.iconst 0, 1) := by decide +kernel
theorem dX54_span_2 : decode cX54_span 2 = .ok (.putfield 56, 3) := by decide +kernel
theorem dX54_span_5 : decode cX54_span 5 = .ok (.iload_n 1, 1) := by decide +kernel
theorem dX54_span_6 : decode cX54_span 6 = .ok (.bipush 6, 2) := by decide +kernel
theorem dX54_span_8 : decode cX54_span 8 = .ok (.invokestatic 64, 3) := by decide +kernel
theorem dX54_span_11 : decode cX54_span 11 = .ok (.ifCond .ne 5, 3) := by decide +kernel
theorem dX54_span_14 : decode cX54_span 14 = .ok (.iconst (-1), 1) := by decide +kernel
theorem dX54_span_15 : decode cX54_span 15 = .ok (.ireturn, 1) := by decide +kernel
theorem dX54_span_16 : decode cX54_span 16 = .ok (.aload_n 0, 1) := by decide +kernel
theorem dX54_span_17 : decode cX54_span 17 = .ok (.getfield 92, 3) := by decide +kernel
theorem dX54_span_20 : decode cX54_span 20 = .ok (.iconst 4, 1) := by decide +kernel
theorem dX54_span_21 : decode cX54_span 21 = .ok (.if_icmp .ne 6, 3) := by decide +kernel
theorem dX54_span_24 : decode cX54_span 24 = .ok (.bipush (-2), 2) := by decide +kernel
theorem dX54_span_26 : decode cX54_span 26 = .ok (.ireturn, 1) := by decide +kernel
theorem dX54_span_27 : decode cX54_span 27 = .ok (.aload_n 0, 1) := by decide +kernel
theorem dX54_span_28 : decode cX54_span 28 = .ok (.getfield 26, 3) := by decide +kernel
theorem dX54_span_31 : decode cX54_span 31 = .ok (.iconst 3, 1) := by decide +kernel
theorem dX54_span_32 : decode cX54_span 32 = .ok (.aload_n 0, 1) := by decide +kernel
theorem dX54_span_33 : decode cX54_span 33 = .ok (.getfield 92, 3) := by decide +kernel
theorem dX54_span_36 : decode cX54_span 36 = .ok (.imul, 1) := by decide +kernel
theorem dX54_span_37 : decode cX54_span 37 = .ok (.iload_n 1, 1) := by decide +kernel
theorem dX54_span_38 : decode cX54_span 38 = .ok (.iastore, 1) := by decide +kernel
theorem dX54_span_39 : decode cX54_span 39 = .ok (.aload_n 0, 1) := by decide +kernel
theorem dX54_span_40 : decode cX54_span 40 = .ok (.getfield 26, 3) := by decide +kernel
theorem dX54_span_43 : decode cX54_span 43 = .ok (.iconst 3, 1) := by decide +kernel
theorem dX54_span_44 : decode cX54_span 44 = .ok (.aload_n 0, 1) := by decide +kernel
theorem dX54_span_45 : decode cX54_span 45 = .ok (.getfield 92, 3) := by decide +kernel
theorem dX54_span_48 : decode cX54_span 48 = .ok (.imul, 1) := by decide +kernel
theorem dX54_span_49 : decode cX54_span 49 = .ok (.iconst 1, 1) := by decide +kernel
theorem dX54_span_50 : decode cX54_span 50 = .ok (.iadd, 1) := by decide +kernel
theorem dX54_span_51 : decode cX54_span 51 = .ok (.iload_n 2, 1) := by decide +kernel
theorem dX54_span_52 : decode cX54_span 52 = .ok (.iastore, 1) := by decide +kernel
theorem dX54_span_53 : decode cX54_span 53 = .ok (.aload_n 0, 1) := by decide +kernel
theorem dX54_span_54 : decode cX54_span 54 = .ok (.getfield 26, 3) := by decide +kernel
theorem dX54_span_57 : decode cX54_span 57 = .ok (.iconst 3, 1) := by decide +kernel
theorem dX54_span_58 : decode cX54_span 58 = .ok (.aload_n 0, 1) := by decide +kernel
theorem dX54_span_59 : decode cX54_span 59 = .ok (.getfield 92, 3) := by decide +kernel
theorem dX54_span_62 : decode cX54_span 62 = .ok (.imul, 1) := by decide +kernel
theorem dX54_span_63 : decode cX54_span 63 = .ok (.iconst 2, 1) := by decide +kernel
theorem dX54_span_64 : decode cX54_span 64 = .ok (.iadd, 1) := by decide +kernel
theorem dX54_span_65 : decode cX54_span 65 = .ok (.iload_n 3, 1) := by decide +kernel
theorem dX54_span_66 : decode cX54_span 66 = .ok (.iastore, 1) := by decide +kernel
theorem dX54_span_67 : decode cX54_span 67 = .ok (.aload_n 0, 1) := by decide +kernel
theorem dX54_span_68 : decode cX54_span 68 = .ok (.dup, 1) := by decide +kernel
theorem dX54_span_69 : decode cX54_span 69 = .ok (.getfield 92, 3) := by decide +kernel
theorem dX54_span_72 : decode cX54_span 72 = .ok (.iconst 1, 1) := by decide +kernel
theorem dX54_span_73 : decode cX54_span 73 = .ok (.iadd, 1) := by decide +kernel
theorem dX54_span_74 : decode cX54_span 74 = .ok (.putfield 92, 3) := by decide +kernel
theorem dX54_span_77 : decode cX54_span 77 = .ok (.aload_n 0, 1) := by decide +kernel
theorem dX54_span_78 : decode cX54_span 78 = .ok (.getfield 92, 3) := by decide +kernel
theorem dX54_span_81 : decode cX54_span 81 = .ok (.ireturn, 1) := by decide +kernel
abbrev cX54_clear : ByteArray := prog_90_method_17_code
def yX54_clear : MethodName := ⟨RX54, "clear", "()I"⟩
theorem dX54_clear_0 : decode cX54_clear 0 = .ok (.aload_n 0, 1) := by decide +kernel
theorem dX54_clear_1 : decode cX54_clear 1 = .ok (.iconst 0, 1) := by decide +kernel
theorem dX54_clear_2 : decode cX54_clear 2 = .ok (.putfield 56, 3) := by decide +kernel
theorem dX54_clear_5 : decode cX54_clear 5 = .ok (.aload_n 0, 1) := by decide +kernel
theorem dX54_clear_6 : decode cX54_clear 6 = .ok (.getfield 89, 3) := by decide +kernel
theorem dX54_clear_9 : decode cX54_clear 9 = .ok (.istore_n 1, 1) := by decide +kernel
theorem dX54_clear_10 : decode cX54_clear 10 = .ok (.aload_n 0, 1) := by decide +kernel
theorem dX54_clear_11 : decode cX54_clear 11 = .ok (.iconst 0, 1) := by decide +kernel
theorem dX54_clear_12 : decode cX54_clear 12 = .ok (.putfield 89, 3) := by decide +kernel
theorem dX54_clear_15 : decode cX54_clear 15 = .ok (.aload_n 0, 1) := by decide +kernel
theorem dX54_clear_16 : decode cX54_clear 16 = .ok (.iconst 0, 1) := by decide +kernel
theorem dX54_clear_17 : decode cX54_clear 17 = .ok (.putfield 92, 3) := by decide +kernel
theorem dX54_clear_20 : decode cX54_clear 20 = .ok (.iload_n 1, 1) := by decide +kernel
theorem dX54_clear_21 : decode cX54_clear 21 = .ok (.ireturn, 1) := by decide +kernel
abbrev cX54_unions : ByteArray := prog_90_method_25_code
def yX54_unions : MethodName := ⟨RX54, "unions", "()I"⟩
theorem dX54_unions_0 : decode cX54_unions 0 = .ok (.aload_n 0, 1) := by decide +kernel
theorem dX54_unions_1 : decode cX54_unions 1 = .ok (.invokevirtual 121, 3) := by decide +kernel
theorem dX54_unions_4 : decode cX54_unions 4 = .ok (.istore_n 1, 1) := by decide +kernel
theorem dX54_unions_5 : decode cX54_unions 5 = .ok (.iload_n 1, 1) := by decide +kernel
theorem dX54_unions_6 : decode cX54_unions 6 = .ok (.ifCond .ge 7, 3) := by decide +kernel
theorem dX54_unions_9 : decode cX54_unions 9 = .ok (.iload_n 1, 1) := by decide +kernel
theorem dX54_unions_10 : decode cX54_unions 10 = .ok (.goto 7, 3) := by decide +kernel
theorem dX54_unions_13 : decode cX54_unions 13 = .ok (.aload_n 0, 1) := by decide +kernel
theorem dX54_unions_14 : decode cX54_unions 14 = .ok (.getfield 98, 3) := by decide +kernel
theorem dX54_unions_17 : decode cX54_unions 17 = .ok (.ireturn, 1) := by decide +kernel
abbrev cX54_union : ByteArray := prog_90_method_26_code
def yX54_union : MethodName := ⟨RX54, "union", "(II)I"⟩
theorem dX54_union_0 : decode cX54_union 0 = .ok (.aload_n 0, 1) := by decide +kernel
theorem dX54_union_1 : decode cX54_union 1 = .ok (.invokevirtual 121, 3) := by decide +kernel
theorem dX54_union_4 : decode cX54_union 4 = .ok (.istore_n 3, 1) := by decide +kernel
theorem dX54_union_5 : decode cX54_union 5 = .ok (.iload_n 3, 1) := by decide +kernel
theorem dX54_union_6 : decode cX54_union 6 = .ok (.ifCond .ge 5, 3) := by decide +kernel
theorem dX54_union_9 : decode cX54_union 9 = .ok (.iload_n 3, 1) := by decide +kernel
theorem dX54_union_10 : decode cX54_union 10 = .ok (.ireturn, 1) := by decide +kernel
theorem dX54_union_11 : decode cX54_union 11 = .ok (.iload_n 1, 1) := by decide +kernel
theorem dX54_union_12 : decode cX54_union 12 = .ok (.aload_n 0, 1) := by decide +kernel
theorem dX54_union_13 : decode cX54_union 13 = .ok (.getfield 98, 3) := by decide +kernel
theorem dX54_union_16 : decode cX54_union 16 = .ok (.invokestatic 64, 3) := by decide +kernel
theorem dX54_union_19 : decode cX54_union 19 = .ok (.ifCond .eq 12, 3) := by decide +kernel
theorem dX54_union_22 : decode cX54_union 22 = .ok (.iload_n 2, 1) := by decide +kernel
theorem dX54_union_23 : decode cX54_union 23 = .ok (.bipush 9, 2) := by decide +kernel
theorem dX54_union_25 : decode cX54_union 25 = .ok (.invokestatic 64, 3) := by decide +kernel
theorem dX54_union_28 : decode cX54_union 28 = .ok (.ifCond .ne 5, 3) := by decide +kernel
theorem dX54_union_31 : decode cX54_union 31 = .ok (.iconst (-1), 1) := by decide +kernel
theorem dX54_union_32 : decode cX54_union 32 = .ok (.ireturn, 1) := by decide +kernel
theorem dX54_union_33 : decode cX54_union 33 = .ok (.iload_n 2, 1) := by decide +kernel
theorem dX54_union_34 : decode cX54_union 34 = .ok (.bipush 8, 2) := by decide +kernel
theorem dX54_union_36 : decode cX54_union 36 = .ok (.if_icmp .ge 15, 3) := by decide +kernel
theorem dX54_union_39 : decode cX54_union 39 = .ok (.iload_n 2, 1) := by decide +kernel
theorem dX54_union_40 : decode cX54_union 40 = .ok (.iconst 4, 1) := by decide +kernel
theorem dX54_union_41 : decode cX54_union 41 = .ok (.irem, 1) := by decide +kernel
theorem dX54_union_42 : decode cX54_union 42 = .ok (.aload_n 0, 1) := by decide +kernel
theorem dX54_union_43 : decode cX54_union 43 = .ok (.getfield 89, 3) := by decide +kernel
theorem dX54_union_46 : decode cX54_union 46 = .ok (.if_icmp .lt 5, 3) := by decide +kernel
theorem dX54_union_49 : decode cX54_union 49 = .ok (.iconst (-1), 1) := by decide +kernel
theorem dX54_union_50 : decode cX54_union 50 = .ok (.ireturn, 1) := by decide +kernel
theorem dX54_union_51 : decode cX54_union 51 = .ok (.aload_n 0, 1) := by decide +kernel
theorem dX54_union_52 : decode cX54_union 52 = .ok (.getfield 29, 3) := by decide +kernel
theorem dX54_union_55 : decode cX54_union 55 = .ok (.bipush 9, 2) := by decide +kernel
theorem dX54_union_57 : decode cX54_union 57 = .ok (.iload_n 1, 1) := by decide +kernel
theorem dX54_union_58 : decode cX54_union 58 = .ok (.imul, 1) := by decide +kernel
theorem dX54_union_59 : decode cX54_union 59 = .ok (.iload_n 2, 1) := by decide +kernel
theorem dX54_union_60 : decode cX54_union 60 = .ok (.iadd, 1) := by decide +kernel
theorem dX54_union_61 : decode cX54_union 61 = .ok (.iaload, 1) := by decide +kernel
theorem dX54_union_62 : decode cX54_union 62 = .ok (.ireturn, 1) := by decide +kernel
abbrev cX54_estimate : ByteArray := prog_90_method_28_code
def yX54_estimate : MethodName := ⟨RX54, "estimate", "(I)I"⟩
theorem dX54_estimate_0 : decode cX54_estimate 0 = .ok (.aload_n 0, 1) := by decide +kernel
theorem dX54_estimate_1 : decode cX54_estimate 1 = .ok (.invokevirtual 121, 3) := by decide +kernel
theorem dX54_estimate_4 : decode cX54_estimate 4 = .ok (.istore_n 2, 1) := by decide +kernel
theorem dX54_estimate_5 : decode cX54_estimate 5 = .ok (.iload_n 2, 1) := by decide +kernel
theorem dX54_estimate_6 : decode cX54_estimate 6 = .ok (.ifCond .ge 5, 3) := by decide +kernel
theorem dX54_estimate_9 : decode cX54_estimate 9 = .ok (.iload_n 2, 1) := by decide +kernel
theorem dX54_estimate_10 : decode cX54_estimate 10 = .ok (.ireturn, 1) := by decide +kernel
theorem dX54_estimate_11 : decode cX54_estimate 11 = .ok (.iload_n 1, 1) := by decide +kernel
theorem dX54_estimate_12 : decode cX54_estimate 12 = .ok (.aload_n 0, 1) := by decide +kernel
theorem dX54_estimate_13 : decode cX54_estimate 13 = .ok (.getfield 98, 3) := by decide +kernel
theorem dX54_estimate_16 : decode cX54_estimate 16 = .ok (.invokestatic 64, 3) := by decide +kernel
theorem dX54_estimate_19 : decode cX54_estimate 19 = .ok (.ifCond .ne 5, 3) := by decide +kernel
theorem dX54_estimate_22 : decode cX54_estimate 22 = .ok (.iconst (-1), 1) := by decide +kernel
theorem dX54_estimate_23 : decode cX54_estimate 23 = .ok (.ireturn, 1) := by decide +kernel
theorem dX54_estimate_24 : decode cX54_estimate 24 = .ok (.iconst 1, 1) := by decide +kernel
theorem dX54_estimate_25 : decode cX54_estimate 25 = .ok (.istore_n 3, 1) := by decide +kernel
theorem dX54_estimate_26 : decode cX54_estimate 26 = .ok (.iconst 0, 1) := by decide +kernel
theorem dX54_estimate_27 : decode cX54_estimate 27 = .ok (.istore 4, 2) := by decide +kernel
theorem dX54_estimate_29 : decode cX54_estimate 29 = .ok (.iload 4, 2) := by decide +kernel
theorem dX54_estimate_31 : decode cX54_estimate 31 = .ok (.aload_n 0, 1) := by decide +kernel
theorem dX54_estimate_32 : decode cX54_estimate 32 = .ok (.getfield 89, 3) := by decide +kernel
theorem dX54_estimate_35 : decode cX54_estimate 35 = .ok (.if_icmp .ge 51, 3) := by decide +kernel
theorem dX54_estimate_38 : decode cX54_estimate 38 = .ok (.aload_n 0, 1) := by decide +kernel
theorem dX54_estimate_39 : decode cX54_estimate 39 = .ok (.iload_n 1, 1) := by decide +kernel
theorem dX54_estimate_40 : decode cX54_estimate 40 = .ok (.iload 4, 2) := by decide +kernel
theorem dX54_estimate_42 : decode cX54_estimate 42 = .ok (.invokevirtual 125, 3) := by decide +kernel
theorem dX54_estimate_45 : decode cX54_estimate 45 = .ok (.ifCond .eq 33, 3) := by decide +kernel
theorem dX54_estimate_48 : decode cX54_estimate 48 = .ok (.iload_n 3, 1) := by decide +kernel
theorem dX54_estimate_49 : decode cX54_estimate 49 = .ok (.aload_n 0, 1) := by decide +kernel
theorem dX54_estimate_50 : decode cX54_estimate 50 = .ok (.getfield 13, 3) := by decide +kernel
theorem dX54_estimate_53 : decode cX54_estimate 53 = .ok (.aload_n 0, 1) := by decide +kernel
theorem dX54_estimate_54 : decode cX54_estimate 54 = .ok (.getfield 20, 3) := by decide +kernel
theorem dX54_estimate_57 : decode cX54_estimate 57 = .ok (.bipush 6, 2) := by decide +kernel
theorem dX54_estimate_59 : decode cX54_estimate 59 = .ok (.aload_n 0, 1) := by decide +kernel
theorem dX54_estimate_60 : decode cX54_estimate 60 = .ok (.getfield 29, 3) := by decide +kernel
theorem dX54_estimate_63 : decode cX54_estimate 63 = .ok (.bipush 9, 2) := by decide +kernel
theorem dX54_estimate_65 : decode cX54_estimate 65 = .ok (.iload_n 1, 1) := by decide +kernel
theorem dX54_estimate_66 : decode cX54_estimate 66 = .ok (.imul, 1) := by decide +kernel
theorem dX54_estimate_67 : decode cX54_estimate 67 = .ok (.iload 4, 2) := by decide +kernel
theorem dX54_estimate_69 : decode cX54_estimate 69 = .ok (.iadd, 1) := by decide +kernel
theorem dX54_estimate_70 : decode cX54_estimate 70 = .ok (.iaload, 1) := by decide +kernel
theorem dX54_estimate_71 : decode cX54_estimate 71 = .ok (.imul, 1) := by decide +kernel
theorem dX54_estimate_72 : decode cX54_estimate 72 = .ok (.iaload, 1) := by decide +kernel
theorem dX54_estimate_73 : decode cX54_estimate 73 = .ok (.iaload, 1) := by decide +kernel
theorem dX54_estimate_74 : decode cX54_estimate 74 = .ok (.imul, 1) := by decide +kernel
theorem dX54_estimate_75 : decode cX54_estimate 75 = .ok (.goto 4, 3) := by decide +kernel
theorem dX54_estimate_78 : decode cX54_estimate 78 = .ok (.iload_n 3, 1) := by decide +kernel
theorem dX54_estimate_79 : decode cX54_estimate 79 = .ok (.istore_n 3, 1) := by decide +kernel
theorem dX54_estimate_80 : decode cX54_estimate 80 = .ok (.iinc 4 1, 3) := by decide +kernel
theorem dX54_estimate_83 : decode cX54_estimate 83 = .ok (.goto (-54), 3) := by decide +kernel
theorem dX54_estimate_86 : decode cX54_estimate 86 = .ok (.iload_n 3, 1) := by decide +kernel
theorem dX54_estimate_87 : decode cX54_estimate 87 = .ok (.ireturn, 1) := by decide +kernel
abbrev cX54_isFirst : ByteArray := prog_90_method_27_code
def yX54_isFirst : MethodName := ⟨RX54, "isFirst", "(II)Z"⟩
theorem dX54_isFirst_0 : decode cX54_isFirst 0 = .ok (.iconst 0, 1) := by decide +kernel
theorem dX54_isFirst_1 : decode cX54_isFirst 1 = .ok (.istore_n 3, 1) := by decide +kernel
theorem dX54_isFirst_2 : decode cX54_isFirst 2 = .ok (.iload_n 3, 1) := by decide +kernel
theorem dX54_isFirst_3 : decode cX54_isFirst 3 = .ok (.iload_n 2, 1) := by decide +kernel
theorem dX54_isFirst_4 : decode cX54_isFirst 4 = .ok (.if_icmp .ge 40, 3) := by decide +kernel
theorem dX54_isFirst_7 : decode cX54_isFirst 7 = .ok (.aload_n 0, 1) := by decide +kernel
theorem dX54_isFirst_8 : decode cX54_isFirst 8 = .ok (.getfield 29, 3) := by decide +kernel
theorem dX54_isFirst_11 : decode cX54_isFirst 11 = .ok (.bipush 9, 2) := by decide +kernel
theorem dX54_isFirst_13 : decode cX54_isFirst 13 = .ok (.iload_n 1, 1) := by decide +kernel
theorem dX54_isFirst_14 : decode cX54_isFirst 14 = .ok (.imul, 1) := by decide +kernel
theorem dX54_isFirst_15 : decode cX54_isFirst 15 = .ok (.iconst 4, 1) := by decide +kernel
theorem dX54_isFirst_16 : decode cX54_isFirst 16 = .ok (.iadd, 1) := by decide +kernel
theorem dX54_isFirst_17 : decode cX54_isFirst 17 = .ok (.iload_n 3, 1) := by decide +kernel
theorem dX54_isFirst_18 : decode cX54_isFirst 18 = .ok (.iadd, 1) := by decide +kernel
theorem dX54_isFirst_19 : decode cX54_isFirst 19 = .ok (.iaload, 1) := by decide +kernel
theorem dX54_isFirst_20 : decode cX54_isFirst 20 = .ok (.aload_n 0, 1) := by decide +kernel
theorem dX54_isFirst_21 : decode cX54_isFirst 21 = .ok (.getfield 29, 3) := by decide +kernel
theorem dX54_isFirst_24 : decode cX54_isFirst 24 = .ok (.bipush 9, 2) := by decide +kernel
theorem dX54_isFirst_26 : decode cX54_isFirst 26 = .ok (.iload_n 1, 1) := by decide +kernel
theorem dX54_isFirst_27 : decode cX54_isFirst 27 = .ok (.imul, 1) := by decide +kernel
theorem dX54_isFirst_28 : decode cX54_isFirst 28 = .ok (.iconst 4, 1) := by decide +kernel
theorem dX54_isFirst_29 : decode cX54_isFirst 29 = .ok (.iadd, 1) := by decide +kernel
theorem dX54_isFirst_30 : decode cX54_isFirst 30 = .ok (.iload_n 2, 1) := by decide +kernel
theorem dX54_isFirst_31 : decode cX54_isFirst 31 = .ok (.iadd, 1) := by decide +kernel
theorem dX54_isFirst_32 : decode cX54_isFirst 32 = .ok (.iaload, 1) := by decide +kernel
theorem dX54_isFirst_33 : decode cX54_isFirst 33 = .ok (.if_icmp .ne 5, 3) := by decide +kernel
theorem dX54_isFirst_36 : decode cX54_isFirst 36 = .ok (.iconst 0, 1) := by decide +kernel
theorem dX54_isFirst_37 : decode cX54_isFirst 37 = .ok (.ireturn, 1) := by decide +kernel
theorem dX54_isFirst_38 : decode cX54_isFirst 38 = .ok (.iinc 3 1, 3) := by decide +kernel
theorem dX54_isFirst_41 : decode cX54_isFirst 41 = .ok (.goto (-39), 3) := by decide +kernel
theorem dX54_isFirst_44 : decode cX54_isFirst 44 = .ok (.iconst 1, 1) := by decide +kernel
theorem dX54_isFirst_45 : decode cX54_isFirst 45 = .ok (.ireturn, 1) := by decide +kernel
abbrev cX54_found : ByteArray := prog_90_method_39_code
def yX54_found : MethodName := ⟨RX54, "found", "(II)I"⟩
theorem dX54_found_0 : decode cX54_found 0 = .ok (.aload_n 0, 1) := by decide +kernel
theorem dX54_found_1 : decode cX54_found 1 = .ok (.iconst 0, 1) := by decide +kernel
theorem dX54_found_2 : decode cX54_found 2 = .ok (.putfield 56, 3) := by decide +kernel
theorem dX54_found_5 : decode cX54_found 5 = .ok (.iload_n 1, 1) := by decide +kernel
theorem dX54_found_6 : decode cX54_found 6 = .ok (.aload_n 0, 1) := by decide +kernel
theorem dX54_found_7 : decode cX54_found 7 = .ok (.getfield 144, 3) := by decide +kernel
theorem dX54_found_10 : decode cX54_found 10 = .ok (.invokestatic 64, 3) := by decide +kernel
theorem dX54_found_13 : decode cX54_found 13 = .ok (.ifCond .eq 11, 3) := by decide +kernel
theorem dX54_found_16 : decode cX54_found 16 = .ok (.iload_n 2, 1) := by decide +kernel
theorem dX54_found_17 : decode cX54_found 17 = .ok (.iconst 2, 1) := by decide +kernel
theorem dX54_found_18 : decode cX54_found 18 = .ok (.invokestatic 64, 3) := by decide +kernel
theorem dX54_found_21 : decode cX54_found 21 = .ok (.ifCond .ne 5, 3) := by decide +kernel
theorem dX54_found_24 : decode cX54_found 24 = .ok (.iconst (-1), 1) := by decide +kernel
theorem dX54_found_25 : decode cX54_found 25 = .ok (.ireturn, 1) := by decide +kernel
theorem dX54_found_26 : decode cX54_found 26 = .ok (.iload_n 2, 1) := by decide +kernel
theorem dX54_found_27 : decode cX54_found 27 = .ok (.ifCond .ne 17, 3) := by decide +kernel
theorem dX54_found_30 : decode cX54_found 30 = .ok (.aload_n 0, 1) := by decide +kernel
theorem dX54_found_31 : decode cX54_found 31 = .ok (.getfield 41, 3) := by decide +kernel
theorem dX54_found_34 : decode cX54_found 34 = .ok (.aload_n 0, 1) := by decide +kernel
theorem dX54_found_35 : decode cX54_found 35 = .ok (.getfield 50, 3) := by decide +kernel
theorem dX54_found_38 : decode cX54_found 38 = .ok (.iload_n 1, 1) := by decide +kernel
theorem dX54_found_39 : decode cX54_found 39 = .ok (.iaload, 1) := by decide +kernel
theorem dX54_found_40 : decode cX54_found 40 = .ok (.iaload, 1) := by decide +kernel
theorem dX54_found_41 : decode cX54_found 41 = .ok (.goto 14, 3) := by decide +kernel
theorem dX54_found_44 : decode cX54_found 44 = .ok (.aload_n 0, 1) := by decide +kernel
theorem dX54_found_45 : decode cX54_found 45 = .ok (.getfield 44, 3) := by decide +kernel
theorem dX54_found_48 : decode cX54_found 48 = .ok (.aload_n 0, 1) := by decide +kernel
theorem dX54_found_49 : decode cX54_found 49 = .ok (.getfield 50, 3) := by decide +kernel
theorem dX54_found_52 : decode cX54_found 52 = .ok (.iload_n 1, 1) := by decide +kernel
theorem dX54_found_53 : decode cX54_found 53 = .ok (.iaload, 1) := by decide +kernel
theorem dX54_found_54 : decode cX54_found 54 = .ok (.iaload, 1) := by decide +kernel
theorem dX54_found_55 : decode cX54_found 55 = .ok (.ireturn, 1) := by decide +kernel
theorem in_X54 : ∀ w ∈ wsX540, w ∈ lw_all := lw_in wsX540 [6523, 6525, 6527, 6529, 6531, 6533, 6535, 6537, 6539, 6541, 6543, 6545, 6547, 6549, 6551, 6553, 6555, 6557, 6559, 6561, 6563, 6565, 6567] (by decide +kernel) (by decide +kernel)
theorem q549 : (Jvm.Cond.initialized "KnowHouseModel$VirtualRewriteModel") ∈ lw_all := lw_g (lw_at lw_m1 71 rfl) rfl
theorem q6500 : (Jvm.Cond.fieldLink "KnowHouseModel$VirtualRewriteModel" (56 : Nat) "KnowHouseModel$VirtualRewriteModel" "thrown" "I") ∈ lw_all := lw_g (lw_at lw_m26 22 rfl) rfl
theorem q6501 : (Jvm.Cond.fieldLink "KnowHouseModel$VirtualRewriteModel" (7 : Nat) "KnowHouseModel$VirtualRewriteModel" "cells" "[I") ∈ lw_all := lw_g (lw_at lw_m26 23 rfl) rfl
theorem q6502 : (Jvm.Cond.fieldLink "KnowHouseModel$VirtualRewriteModel" (13 : Nat) "KnowHouseModel$VirtualRewriteModel" "sizes" "[I") ∈ lw_all := lw_g (lw_at lw_m26 24 rfl) rfl
theorem q6503 : (Jvm.Cond.fieldLink "KnowHouseModel$VirtualRewriteModel" (16 : Nat) "KnowHouseModel$VirtualRewriteModel" "keys" "[Z") ∈ lw_all := lw_g (lw_at lw_m26 25 rfl) rfl
theorem q6504 : (Jvm.Cond.fieldLink "KnowHouseModel$VirtualRewriteModel" (20 : Nat) "KnowHouseModel$VirtualRewriteModel" "maps" "[I") ∈ lw_all := lw_g (lw_at lw_m26 26 rfl) rfl
theorem q6505 : (Jvm.Cond.fieldLink "KnowHouseModel$VirtualRewriteModel" (75 : Nat) "KnowHouseModel$VirtualRewriteModel" "mapCount" "I") ∈ lw_all := lw_g (lw_at lw_m26 27 rfl) rfl
theorem q6506 : (Jvm.Cond.fieldLink "KnowHouseModel$VirtualRewriteModel" (23 : Nat) "KnowHouseModel$VirtualRewriteModel" "atoms" "[I") ∈ lw_all := lw_g (lw_at lw_m26 28 rfl) rfl
theorem q6507 : (Jvm.Cond.fieldLink "KnowHouseModel$VirtualRewriteModel" (89 : Nat) "KnowHouseModel$VirtualRewriteModel" "atomCount" "I") ∈ lw_all := lw_g (lw_at lw_m26 29 rfl) rfl
theorem q6508 : (Jvm.Cond.fieldLink "KnowHouseModel$VirtualRewriteModel" (26 : Nat) "KnowHouseModel$VirtualRewriteModel" "spans" "[I") ∈ lw_all := lw_g (lw_at lw_m26 30 rfl) rfl
theorem q6509 : (Jvm.Cond.fieldLink "KnowHouseModel$VirtualRewriteModel" (92 : Nat) "KnowHouseModel$VirtualRewriteModel" "spanCount" "I") ∈ lw_all := lw_g (lw_at lw_m26 31 rfl) rfl
theorem q6510 : (Jvm.Cond.fieldLink "KnowHouseModel$VirtualRewriteModel" (29 : Nat) "KnowHouseModel$VirtualRewriteModel" "unions" "[I") ∈ lw_all := lw_g (lw_at lw_m26 32 rfl) rfl
theorem q6511 : (Jvm.Cond.fieldLink "KnowHouseModel$VirtualRewriteModel" (98 : Nat) "KnowHouseModel$VirtualRewriteModel" "unionCount" "I") ∈ lw_all := lw_g (lw_at lw_m26 33 rfl) rfl
theorem q6512 : (Jvm.Cond.fieldLink "KnowHouseModel$VirtualRewriteModel" (104 : Nat) "KnowHouseModel$VirtualRewriteModel" "isLarge" "Z") ∈ lw_all := lw_g (lw_at lw_m26 34 rfl) rfl
theorem q6513 : (Jvm.Cond.fieldLink "KnowHouseModel$VirtualRewriteModel" (32 : Nat) "KnowHouseModel$VirtualRewriteModel" "trial" "[I") ∈ lw_all := lw_g (lw_at lw_m26 35 rfl) rfl
theorem q6514 : (Jvm.Cond.fieldLink "KnowHouseModel$VirtualRewriteModel" (35 : Nat) "KnowHouseModel$VirtualRewriteModel" "rowAt" "[I") ∈ lw_all := lw_g (lw_at lw_m26 36 rfl) rfl
theorem q6515 : (Jvm.Cond.fieldLink "KnowHouseModel$VirtualRewriteModel" (38 : Nat) "KnowHouseModel$VirtualRewriteModel" "answers" "[I") ∈ lw_all := lw_g (lw_at lw_m26 37 rfl) rfl
theorem q6516 : (Jvm.Cond.fieldLink "KnowHouseModel$VirtualRewriteModel" (41 : Nat) "KnowHouseModel$VirtualRewriteModel" "foundBy" "[I") ∈ lw_all := lw_g (lw_at lw_m26 38 rfl) rfl
theorem q6517 : (Jvm.Cond.fieldLink "KnowHouseModel$VirtualRewriteModel" (44 : Nat) "KnowHouseModel$VirtualRewriteModel" "firstBy" "[I") ∈ lw_all := lw_g (lw_at lw_m26 39 rfl) rfl
theorem q6518 : (Jvm.Cond.fieldLink "KnowHouseModel$VirtualRewriteModel" (47 : Nat) "KnowHouseModel$VirtualRewriteModel" "lastBy" "[I") ∈ lw_all := lw_g (lw_at lw_m26 40 rfl) rfl
theorem q6519 : (Jvm.Cond.fieldLink "KnowHouseModel$VirtualRewriteModel" (50 : Nat) "KnowHouseModel$VirtualRewriteModel" "order" "[I") ∈ lw_all := lw_g (lw_at lw_m26 41 rfl) rfl
theorem q6520 : (Jvm.Cond.fieldLink "KnowHouseModel$VirtualRewriteModel" (144 : Nat) "KnowHouseModel$VirtualRewriteModel" "answerCount" "I") ∈ lw_all := lw_g (lw_at lw_m26 42 rfl) rfl
theorem q6521 : (Jvm.Cond.fieldLink "KnowHouseModel$VirtualRewriteModel" (53 : Nat) "KnowHouseModel$VirtualRewriteModel" "asked" "[Z") ∈ lw_all := lw_g (lw_at lw_m26 43 rfl) rfl
theorem q6522 : (Jvm.Cond.fieldLink "KnowHouseModel$VirtualRewriteModel" (131 : Nat) "KnowHouseModel$VirtualRewriteModel" "tooMany" "Z") ∈ lw_all := lw_g (lw_at lw_m26 44 rfl) rfl
theorem q7674 : (Jvm.Cond.methodLink "KnowHouseModel$VirtualRewriteModel" (121 : Nat) ({ cls := "KnowHouseModel$VirtualRewriteModel", name := "ready", desc := "()I" } : Jvm.MethodName)) ∈ lw_all := lw_g (lw_at lw_m30 236 rfl) rfl
theorem q7676 : (Jvm.Cond.instanceMethod ({ cls := "KnowHouseModel$VirtualRewriteModel", name := "ready", desc := "()I" } : Jvm.MethodName)) ∈ lw_all := lw_g (lw_at lw_m30 238 rfl) rfl
theorem q7677 : (Jvm.Cond.code ({ cls := "KnowHouseModel$VirtualRewriteModel", name := "ready", desc := "()I" } : Jvm.MethodName) prog_90_method_24_code (1 : Nat) (Option.some Jvm.ClassFile.FieldType.int)) ∈ lw_all := lw_g (lw_at lw_m30 239 rfl) rfl
theorem q7678 : (Jvm.Cond.methodLink "KnowHouseModel$VirtualRewriteModel" (118 : Nat) ({ cls := "KnowHouseModel$VirtualRewriteModel", name := "find", desc := "()V" } : Jvm.MethodName)) ∈ lw_all := lw_g (lw_at lw_m31 0 rfl) rfl
theorem q7680 : (Jvm.Cond.instanceMethod ({ cls := "KnowHouseModel$VirtualRewriteModel", name := "find", desc := "()V" } : Jvm.MethodName)) ∈ lw_all := lw_g (lw_at lw_m31 2 rfl) rfl
theorem q7681 : (Jvm.Cond.code ({ cls := "KnowHouseModel$VirtualRewriteModel", name := "find", desc := "()V" } : Jvm.MethodName) prog_90_method_23_code (2 : Nat) (Option.none : Option Jvm.ClassFile.FieldType)) ∈ lw_all := lw_g (lw_at lw_m31 3 rfl) rfl
theorem q7682 : (Jvm.Cond.methodLink "KnowHouseModel$VirtualRewriteModel" (108 : Nat) ({ cls := "KnowHouseModel$VirtualRewriteModel", name := "isGood", desc := "()Z" } : Jvm.MethodName)) ∈ lw_all := lw_g (lw_at lw_m31 4 rfl) rfl
theorem q7684 : (Jvm.Cond.instanceMethod ({ cls := "KnowHouseModel$VirtualRewriteModel", name := "isGood", desc := "()Z" } : Jvm.MethodName)) ∈ lw_all := lw_g (lw_at lw_m31 6 rfl) rfl
theorem q7685 : (Jvm.Cond.code ({ cls := "KnowHouseModel$VirtualRewriteModel", name := "isGood", desc := "()Z" } : Jvm.MethodName) prog_90_method_20_code (5 : Nat) (Option.some Jvm.ClassFile.FieldType.boolean)) ∈ lw_all := lw_g (lw_at lw_m31 7 rfl) rfl
theorem q7686 : (Jvm.Cond.methodLink "KnowHouseModel$VirtualRewriteModel" (95 : Nat) ({ cls := "KnowHouseModel$VirtualRewriteModel", name := "placeOf", desc := "(II)I" } : Jvm.MethodName)) ∈ lw_all := lw_g (lw_at lw_m31 8 rfl) rfl
theorem q7688 : (Jvm.Cond.instanceMethod ({ cls := "KnowHouseModel$VirtualRewriteModel", name := "placeOf", desc := "(II)I" } : Jvm.MethodName)) ∈ lw_all := lw_g (lw_at lw_m31 10 rfl) rfl
theorem q7689 : (Jvm.Cond.code ({ cls := "KnowHouseModel$VirtualRewriteModel", name := "placeOf", desc := "(II)I" } : Jvm.MethodName) prog_90_method_18_code (3 : Nat) (Option.some Jvm.ClassFile.FieldType.int)) ∈ lw_all := lw_g (lw_at lw_m31 11 rfl) rfl
theorem q7690 : (Jvm.Cond.methodLink "KnowHouseModel$VirtualRewriteModel" (78 : Nat) ({ cls := "KnowHouseModel$VirtualRewriteModel", name := "templateOf", desc := "(II)I" } : Jvm.MethodName)) ∈ lw_all := lw_g (lw_at lw_m31 12 rfl) rfl
theorem q7692 : (Jvm.Cond.instanceMethod ({ cls := "KnowHouseModel$VirtualRewriteModel", name := "templateOf", desc := "(II)I" } : Jvm.MethodName)) ∈ lw_all := lw_g (lw_at lw_m31 14 rfl) rfl
theorem q7693 : (Jvm.Cond.code ({ cls := "KnowHouseModel$VirtualRewriteModel", name := "templateOf", desc := "(II)I" } : Jvm.MethodName) prog_90_method_11_code (3 : Nat) (Option.some Jvm.ClassFile.FieldType.int)) ∈ lw_all := lw_g (lw_at lw_m31 15 rfl) rfl
theorem q7694 : (Jvm.Cond.methodLink "KnowHouseModel$VirtualRewriteModel" (112 : Nat) ({ cls := "KnowHouseModel$VirtualRewriteModel", name := "keep", desc := "()V" } : Jvm.MethodName)) ∈ lw_all := lw_g (lw_at lw_m31 16 rfl) rfl
theorem q7696 : (Jvm.Cond.instanceMethod ({ cls := "KnowHouseModel$VirtualRewriteModel", name := "keep", desc := "()V" } : Jvm.MethodName)) ∈ lw_all := lw_g (lw_at lw_m31 18 rfl) rfl
theorem q7697 : (Jvm.Cond.code ({ cls := "KnowHouseModel$VirtualRewriteModel", name := "keep", desc := "()V" } : Jvm.MethodName) prog_90_method_22_code (6 : Nat) (Option.none : Option Jvm.ClassFile.FieldType)) ∈ lw_all := lw_g (lw_at lw_m31 19 rfl) rfl
theorem q7698 : (Jvm.Cond.methodLink "KnowHouseModel$VirtualRewriteModel" (101 : Nat) ({ cls := "KnowHouseModel$VirtualRewriteModel", name := "areOne", desc := "(II)Z" } : Jvm.MethodName)) ∈ lw_all := lw_g (lw_at lw_m31 20 rfl) rfl
theorem q7700 : (Jvm.Cond.instanceMethod ({ cls := "KnowHouseModel$VirtualRewriteModel", name := "areOne", desc := "(II)Z" } : Jvm.MethodName)) ∈ lw_all := lw_g (lw_at lw_m31 22 rfl) rfl
theorem q7701 : (Jvm.Cond.code ({ cls := "KnowHouseModel$VirtualRewriteModel", name := "areOne", desc := "(II)Z" } : Jvm.MethodName) prog_90_method_21_code (8 : Nat) (Option.some Jvm.ClassFile.FieldType.boolean)) ∈ lw_all := lw_g (lw_at lw_m31 23 rfl) rfl
theorem q7702 : (Jvm.Cond.methodLink "KnowHouseModel$VirtualRewriteModel" (82 : Nat) ({ cls := "KnowHouseModel$VirtualRewriteModel", name := "columnOf", desc := "(II)I" } : Jvm.MethodName)) ∈ lw_all := lw_g (lw_at lw_m31 24 rfl) rfl
theorem q7704 : (Jvm.Cond.instanceMethod ({ cls := "KnowHouseModel$VirtualRewriteModel", name := "columnOf", desc := "(II)I" } : Jvm.MethodName)) ∈ lw_all := lw_g (lw_at lw_m31 26 rfl) rfl
theorem q7705 : (Jvm.Cond.code ({ cls := "KnowHouseModel$VirtualRewriteModel", name := "columnOf", desc := "(II)I" } : Jvm.MethodName) prog_90_method_12_code (3 : Nat) (Option.some Jvm.ClassFile.FieldType.int)) ∈ lw_all := lw_g (lw_at lw_m31 27 rfl) rfl
theorem q7706 : (Jvm.Cond.methodLink "KnowHouseModel$VirtualRewriteModel" (115 : Nat) ({ cls := "KnowHouseModel$VirtualRewriteModel", name := "next", desc := "()Z" } : Jvm.MethodName)) ∈ lw_all := lw_g (lw_at lw_m31 28 rfl) rfl
theorem q7708 : (Jvm.Cond.instanceMethod ({ cls := "KnowHouseModel$VirtualRewriteModel", name := "next", desc := "()Z" } : Jvm.MethodName)) ∈ lw_all := lw_g (lw_at lw_m31 30 rfl) rfl
theorem q7709 : (Jvm.Cond.code ({ cls := "KnowHouseModel$VirtualRewriteModel", name := "next", desc := "()Z" } : Jvm.MethodName) prog_90_method_19_code (2 : Nat) (Option.some Jvm.ClassFile.FieldType.boolean)) ∈ lw_all := lw_g (lw_at lw_m31 31 rfl) rfl
theorem q7710 : (Jvm.Cond.methodLink "KnowHouseModel$VirtualRewriteModel" (153 : Nat) ({ cls := "KnowHouseModel$VirtualRewriteModel", name := "look", desc := "(I)V" } : Jvm.MethodName)) ∈ lw_all := lw_g (lw_at lw_m31 32 rfl) rfl
theorem q7712 : (Jvm.Cond.instanceMethod ({ cls := "KnowHouseModel$VirtualRewriteModel", name := "look", desc := "(I)V" } : Jvm.MethodName)) ∈ lw_all := lw_g (lw_at lw_m31 34 rfl) rfl
theorem q7713 : (Jvm.Cond.code ({ cls := "KnowHouseModel$VirtualRewriteModel", name := "look", desc := "(I)V" } : Jvm.MethodName) prog_90_method_32_code (5 : Nat) (Option.none : Option Jvm.ClassFile.FieldType)) ∈ lw_all := lw_g (lw_at lw_m31 35 rfl) rfl
theorem q7714 : (Jvm.Cond.methodLink "KnowHouseModel$VirtualRewriteModel" (134 : Nat) ({ cls := "KnowHouseModel$VirtualRewriteModel", name := "leader", desc := "(II)I" } : Jvm.MethodName)) ∈ lw_all := lw_g (lw_at lw_m31 36 rfl) rfl
theorem q7716 : (Jvm.Cond.instanceMethod ({ cls := "KnowHouseModel$VirtualRewriteModel", name := "leader", desc := "(II)I" } : Jvm.MethodName)) ∈ lw_all := lw_g (lw_at lw_m31 38 rfl) rfl
theorem q7717 : (Jvm.Cond.code ({ cls := "KnowHouseModel$VirtualRewriteModel", name := "leader", desc := "(II)I" } : Jvm.MethodName) prog_90_method_31_code (4 : Nat) (Option.some Jvm.ClassFile.FieldType.int)) ∈ lw_all := lw_g (lw_at lw_m31 39 rfl) rfl
theorem q7718 : (Jvm.Cond.methodLink "KnowHouseModel$VirtualRewriteModel" (137 : Nat) ({ cls := "KnowHouseModel$VirtualRewriteModel", name := "goes", desc := "(II)Z" } : Jvm.MethodName)) ∈ lw_all := lw_g (lw_at lw_m31 40 rfl) rfl
theorem q7720 : (Jvm.Cond.instanceMethod ({ cls := "KnowHouseModel$VirtualRewriteModel", name := "goes", desc := "(II)Z" } : Jvm.MethodName)) ∈ lw_all := lw_g (lw_at lw_m31 42 rfl) rfl
theorem q7721 : (Jvm.Cond.code ({ cls := "KnowHouseModel$VirtualRewriteModel", name := "goes", desc := "(II)Z" } : Jvm.MethodName) prog_90_method_30_code (7 : Nat) (Option.some Jvm.ClassFile.FieldType.boolean)) ∈ lw_all := lw_g (lw_at lw_m31 43 rfl) rfl
theorem q7722 : (Jvm.Cond.methodLink "KnowHouseModel$VirtualRewriteModel" (128 : Nat) ({ cls := "KnowHouseModel$VirtualRewriteModel", name := "codeAt", desc := "(III)I" } : Jvm.MethodName)) ∈ lw_all := lw_g (lw_at lw_m31 44 rfl) rfl
theorem q7724 : (Jvm.Cond.instanceMethod ({ cls := "KnowHouseModel$VirtualRewriteModel", name := "codeAt", desc := "(III)I" } : Jvm.MethodName)) ∈ lw_all := lw_g (lw_at lw_m31 46 rfl) rfl
theorem q7725 : (Jvm.Cond.code ({ cls := "KnowHouseModel$VirtualRewriteModel", name := "codeAt", desc := "(III)I" } : Jvm.MethodName) prog_90_method_29_code (4 : Nat) (Option.some Jvm.ClassFile.FieldType.int)) ∈ lw_all := lw_g (lw_at lw_m31 47 rfl) rfl
theorem q7726 : (Jvm.Cond.methodLink "KnowHouseModel$VirtualRewriteModel" (85 : Nat) ({ cls := "KnowHouseModel$VirtualRewriteModel", name := "codeOf", desc := "(III)I" } : Jvm.MethodName)) ∈ lw_all := lw_g (lw_at lw_m31 48 rfl) rfl
theorem q7728 : (Jvm.Cond.instanceMethod ({ cls := "KnowHouseModel$VirtualRewriteModel", name := "codeOf", desc := "(III)I" } : Jvm.MethodName)) ∈ lw_all := lw_g (lw_at lw_m31 50 rfl) rfl
theorem q7729 : (Jvm.Cond.code ({ cls := "KnowHouseModel$VirtualRewriteModel", name := "codeOf", desc := "(III)I" } : Jvm.MethodName) prog_90_method_13_code (4 : Nat) (Option.some Jvm.ClassFile.FieldType.int)) ∈ lw_all := lw_g (lw_at lw_m31 51 rfl) rfl
theorem q7730 : (Jvm.Cond.methodLink "KnowHouseModel$VirtualRewriteModel" (60 : Nat) ({ cls := "KnowHouseModel$VirtualRewriteModel", name := "cell", desc := "(III)I" } : Jvm.MethodName)) ∈ lw_all := lw_g (lw_at lw_m31 52 rfl) rfl
theorem q7732 : (Jvm.Cond.instanceMethod ({ cls := "KnowHouseModel$VirtualRewriteModel", name := "cell", desc := "(III)I" } : Jvm.MethodName)) ∈ lw_all := lw_g (lw_at lw_m31 54 rfl) rfl
theorem q7733 : (Jvm.Cond.code ({ cls := "KnowHouseModel$VirtualRewriteModel", name := "cell", desc := "(III)I" } : Jvm.MethodName) prog_90_method_4_code (4 : Nat) (Option.some Jvm.ClassFile.FieldType.int)) ∈ lw_all := lw_g (lw_at lw_m31 55 rfl) rfl
theorem q7734 : (Jvm.Cond.methodLink "KnowHouseModel$VirtualRewriteModel" (140 : Nat) ({ cls := "KnowHouseModel$VirtualRewriteModel", name := "note", desc := "(I)V" } : Jvm.MethodName)) ∈ lw_all := lw_g (lw_at lw_m31 56 rfl) rfl
theorem q7736 : (Jvm.Cond.instanceMethod ({ cls := "KnowHouseModel$VirtualRewriteModel", name := "note", desc := "(I)V" } : Jvm.MethodName)) ∈ lw_all := lw_g (lw_at lw_m31 58 rfl) rfl
theorem q7737 : (Jvm.Cond.code ({ cls := "KnowHouseModel$VirtualRewriteModel", name := "note", desc := "(I)V" } : Jvm.MethodName) prog_90_method_34_code (5 : Nat) (Option.none : Option Jvm.ClassFile.FieldType)) ∈ lw_all := lw_g (lw_at lw_m31 59 rfl) rfl
theorem q7738 : (Jvm.Cond.methodLink "KnowHouseModel$VirtualRewriteModel" (147 : Nat) ({ cls := "KnowHouseModel$VirtualRewriteModel", name := "given", desc := "(II)I" } : Jvm.MethodName)) ∈ lw_all := lw_g (lw_at lw_m31 60 rfl) rfl
theorem q7740 : (Jvm.Cond.instanceMethod ({ cls := "KnowHouseModel$VirtualRewriteModel", name := "given", desc := "(II)I" } : Jvm.MethodName)) ∈ lw_all := lw_g (lw_at lw_m31 62 rfl) rfl
theorem q7741 : (Jvm.Cond.code ({ cls := "KnowHouseModel$VirtualRewriteModel", name := "given", desc := "(II)I" } : Jvm.MethodName) prog_90_method_33_code (4 : Nat) (Option.some Jvm.ClassFile.FieldType.int)) ∈ lw_all := lw_g (lw_at lw_m31 63 rfl) rfl
theorem q7742 : (Jvm.Cond.methodLink "KnowHouseModel$VirtualRewriteModel" (156 : Nat) ({ cls := "KnowHouseModel$VirtualRewriteModel", name := "sort", desc := "()V" } : Jvm.MethodName)) ∈ lw_all := lw_g (lw_at lw_m31 64 rfl) rfl
theorem q7744 : (Jvm.Cond.instanceMethod ({ cls := "KnowHouseModel$VirtualRewriteModel", name := "sort", desc := "()V" } : Jvm.MethodName)) ∈ lw_all := lw_g (lw_at lw_m31 66 rfl) rfl
theorem q7745 : (Jvm.Cond.code ({ cls := "KnowHouseModel$VirtualRewriteModel", name := "sort", desc := "()V" } : Jvm.MethodName) prog_90_method_36_code (3 : Nat) (Option.none : Option Jvm.ClassFile.FieldType)) ∈ lw_all := lw_g (lw_at lw_m31 67 rfl) rfl
theorem q7746 : (Jvm.Cond.methodLink "KnowHouseModel$VirtualRewriteModel" (150 : Nat) ({ cls := "KnowHouseModel$VirtualRewriteModel", name := "isLess", desc := "(II)Z" } : Jvm.MethodName)) ∈ lw_all := lw_g (lw_at lw_m31 68 rfl) rfl
theorem q7748 : (Jvm.Cond.instanceMethod ({ cls := "KnowHouseModel$VirtualRewriteModel", name := "isLess", desc := "(II)Z" } : Jvm.MethodName)) ∈ lw_all := lw_g (lw_at lw_m31 70 rfl) rfl
theorem q7749 : (Jvm.Cond.code ({ cls := "KnowHouseModel$VirtualRewriteModel", name := "isLess", desc := "(II)Z" } : Jvm.MethodName) prog_90_method_35_code (4 : Nat) (Option.some Jvm.ClassFile.FieldType.boolean)) ∈ lw_all := lw_g (lw_at lw_m31 71 rfl) rfl
theorem q7754 : (Jvm.Cond.methodLink "KnowHouseModel$VirtualRewriteModel" (64 : Nat) ({ cls := "KnowHouseModel$VirtualRewriteModel", name := "isIn", desc := "(II)Z" } : Jvm.MethodName)) ∈ lw_all := lw_g (lw_at lw_m31 76 rfl) rfl
theorem q7755 : (Jvm.Cond.static ({ cls := "KnowHouseModel$VirtualRewriteModel", name := "isIn", desc := "(II)Z" } : Jvm.MethodName)) ∈ lw_all := lw_g (lw_at lw_m31 77 rfl) rfl
theorem q7756 : (Jvm.Cond.code ({ cls := "KnowHouseModel$VirtualRewriteModel", name := "isIn", desc := "(II)Z" } : Jvm.MethodName) prog_90_method_3_code (2 : Nat) (Option.some Jvm.ClassFile.FieldType.boolean)) ∈ lw_all := lw_g (lw_at lw_m31 78 rfl) rfl
theorem q8653 : (Jvm.Cond.methodLink "KnowHouseModel$VirtualRewriteModel" (68 : Nat) ({ cls := "KnowHouseModel$VirtualRewriteModel", name := "repeats", desc := "(II)Z" } : Jvm.MethodName)) ∈ lw_all := lw_g (lw_at lw_m35 15 rfl) rfl
theorem q8655 : (Jvm.Cond.instanceMethod ({ cls := "KnowHouseModel$VirtualRewriteModel", name := "repeats", desc := "(II)Z" } : Jvm.MethodName)) ∈ lw_all := lw_g (lw_at lw_m35 17 rfl) rfl
theorem q8656 : (Jvm.Cond.code ({ cls := "KnowHouseModel$VirtualRewriteModel", name := "repeats", desc := "(II)Z" } : Jvm.MethodName) prog_90_method_6_code (5 : Nat) (Option.some Jvm.ClassFile.FieldType.boolean)) ∈ lw_all := lw_g (lw_at lw_m35 18 rfl) rfl
theorem q8661 : (Jvm.Cond.methodLink "KnowHouseModel$VirtualRewriteModel" (71 : Nat) ({ cls := "KnowHouseModel$VirtualRewriteModel", name := "isThere", desc := "(III)Z" } : Jvm.MethodName)) ∈ lw_all := lw_g (lw_at lw_m35 23 rfl) rfl
theorem q8663 : (Jvm.Cond.instanceMethod ({ cls := "KnowHouseModel$VirtualRewriteModel", name := "isThere", desc := "(III)Z" } : Jvm.MethodName)) ∈ lw_all := lw_g (lw_at lw_m35 25 rfl) rfl
theorem q8664 : (Jvm.Cond.code ({ cls := "KnowHouseModel$VirtualRewriteModel", name := "isThere", desc := "(III)Z" } : Jvm.MethodName) prog_90_method_5_code (5 : Nat) (Option.some Jvm.ClassFile.FieldType.boolean)) ∈ lw_all := lw_g (lw_at lw_m35 26 rfl) rfl
theorem q8681 : (Jvm.Cond.constant "KnowHouseModel$VirtualRewriteModel" (88 : Nat) (60000 : Int32)) ∈ lw_all := lw_g (lw_at lw_m35 43 rfl) rfl
theorem q8702 : (Jvm.Cond.methodLink "KnowHouseModel$VirtualRewriteModel" (125 : Nat) ({ cls := "KnowHouseModel$VirtualRewriteModel", name := "isFirst", desc := "(II)Z" } : Jvm.MethodName)) ∈ lw_all := lw_g (lw_at lw_m35 64 rfl) rfl
theorem q8704 : (Jvm.Cond.instanceMethod ({ cls := "KnowHouseModel$VirtualRewriteModel", name := "isFirst", desc := "(II)Z" } : Jvm.MethodName)) ∈ lw_all := lw_g (lw_at lw_m35 66 rfl) rfl
theorem q8705 : (Jvm.Cond.code ({ cls := "KnowHouseModel$VirtualRewriteModel", name := "isFirst", desc := "(II)Z" } : Jvm.MethodName) prog_90_method_27_code (4 : Nat) (Option.some Jvm.ClassFile.FieldType.boolean)) ∈ lw_all := lw_g (lw_at lw_m35 67 rfl) rfl
theorem gX54_60 : GoodIn lw_all (wsV RX54 60 RX54 yX54_cell (ws_ yX54_cell cX54_cell 4 (Option.some Jvm.ClassFile.FieldType.int))) := lw_V q7730 q7732 qs325 q549 q7733
theorem gX54_64 : GoodIn lw_all (va_wsS RX54 64 yX54_isIn (ws_ yX54_isIn cX54_isIn 2 (Option.some Jvm.ClassFile.FieldType.boolean))) := lw_S q7754 q7755 q549 q7756
theorem gX54_68 : GoodIn lw_all (wsV RX54 68 RX54 yX54_repeats (ws_ yX54_repeats cX54_repeats 5 (Option.some Jvm.ClassFile.FieldType.boolean))) := lw_V q8653 q8655 qs440 q549 q8656
theorem gX54_71 : GoodIn lw_all (wsV RX54 71 RX54 yX54_isThere (ws_ yX54_isThere cX54_isThere 5 (Option.some Jvm.ClassFile.FieldType.boolean))) := lw_V q8661 q8663 qs441 q549 q8664
theorem gX54_78 : GoodIn lw_all (wsV RX54 78 RX54 yX54_templateOf (ws_ yX54_templateOf cX54_templateOf 3 (Option.some Jvm.ClassFile.FieldType.int))) := lw_V q7690 q7692 qs315 q549 q7693
theorem gX54_82 : GoodIn lw_all (wsV RX54 82 RX54 yX54_columnOf (ws_ yX54_columnOf cX54_columnOf 3 (Option.some Jvm.ClassFile.FieldType.int))) := lw_V q7702 q7704 qs318 q549 q7705
theorem gX54_85 : GoodIn lw_all (wsV RX54 85 RX54 yX54_codeOf (ws_ yX54_codeOf cX54_codeOf 4 (Option.some Jvm.ClassFile.FieldType.int))) := lw_V q7726 q7728 qs324 q549 q7729
theorem gX54_95 : GoodIn lw_all (wsV RX54 95 RX54 yX54_placeOf (ws_ yX54_placeOf cX54_placeOf 3 (Option.some Jvm.ClassFile.FieldType.int))) := lw_V q7686 q7688 qs314 q549 q7689
theorem gX54_101 : GoodIn lw_all (wsV RX54 101 RX54 yX54_areOne (ws_ yX54_areOne cX54_areOne 8 (Option.some Jvm.ClassFile.FieldType.boolean))) := lw_V q7698 q7700 qs317 q549 q7701
theorem gX54_108 : GoodIn lw_all (wsV RX54 108 RX54 yX54_isGood (ws_ yX54_isGood cX54_isGood 5 (Option.some Jvm.ClassFile.FieldType.boolean))) := lw_V q7682 q7684 qs313 q549 q7685
theorem gX54_112 : GoodIn lw_all (wsV RX54 112 RX54 yX54_keep (ws_ yX54_keep cX54_keep 6 (Option.none : Option Jvm.ClassFile.FieldType))) := lw_V q7694 q7696 qs316 q549 q7697
theorem gX54_115 : GoodIn lw_all (wsV RX54 115 RX54 yX54_next (ws_ yX54_next cX54_next 2 (Option.some Jvm.ClassFile.FieldType.boolean))) := lw_V q7706 q7708 qs319 q549 q7709
theorem gX54_118 : GoodIn lw_all (wsV RX54 118 RX54 yX54_find (ws_ yX54_find cX54_find 2 (Option.none : Option Jvm.ClassFile.FieldType))) := lw_V q7678 q7680 qs312 q549 q7681
theorem gX54_121 : GoodIn lw_all (wsV RX54 121 RX54 yX54_ready (ws_ yX54_ready cX54_ready 1 (Option.some Jvm.ClassFile.FieldType.int))) := lw_V q7674 q7676 qs311 q549 q7677
theorem gX54_125 : GoodIn lw_all (wsV RX54 125 RX54 yX54_isFirst (ws_ yX54_isFirst cX54_isFirst 4 (Option.some Jvm.ClassFile.FieldType.boolean))) := lw_V q8702 q8704 qs442 q549 q8705
theorem gX54_128 : GoodIn lw_all (wsV RX54 128 RX54 yX54_codeAt (ws_ yX54_codeAt cX54_codeAt 4 (Option.some Jvm.ClassFile.FieldType.int))) := lw_V q7722 q7724 qs323 q549 q7725
theorem gX54_134 : GoodIn lw_all (wsV RX54 134 RX54 yX54_leader (ws_ yX54_leader cX54_leader 4 (Option.some Jvm.ClassFile.FieldType.int))) := lw_V q7714 q7716 qs321 q549 q7717
theorem gX54_137 : GoodIn lw_all (wsV RX54 137 RX54 yX54_goes (ws_ yX54_goes cX54_goes 7 (Option.some Jvm.ClassFile.FieldType.boolean))) := lw_V q7718 q7720 qs322 q549 q7721
theorem gX54_140 : GoodIn lw_all (wsV RX54 140 RX54 yX54_note (ws_ yX54_note cX54_note 5 (Option.none : Option Jvm.ClassFile.FieldType))) := lw_V q7734 q7736 qs326 q549 q7737
theorem gX54_147 : GoodIn lw_all (wsV RX54 147 RX54 yX54_given (ws_ yX54_given cX54_given 4 (Option.some Jvm.ClassFile.FieldType.int))) := lw_V q7738 q7740 qs327 q549 q7741
theorem gX54_150 : GoodIn lw_all (wsV RX54 150 RX54 yX54_isLess (ws_ yX54_isLess cX54_isLess 4 (Option.some Jvm.ClassFile.FieldType.boolean))) := lw_V q7746 q7748 qs329 q549 q7749
theorem gX54_153 : GoodIn lw_all (wsV RX54 153 RX54 yX54_look (ws_ yX54_look cX54_look 5 (Option.none : Option Jvm.ClassFile.FieldType))) := lw_V q7710 q7712 qs320 q549 q7713
theorem gX54_156 : GoodIn lw_all (wsV RX54 156 RX54 yX54_sort (ws_ yX54_sort cX54_sort 3 (Option.none : Option Jvm.ClassFile.FieldType))) := lw_V q7742 q7744 qs328 q549 q7745
theorem hX54_areOne : yX54_areOne.cls = RX54 ∧ yX54_areOne.cls ≠ "java/lang/invoke/MethodHandle" ∧ yX54_areOne.cls ≠ "java/lang/invoke/VarHandle" ∧ (parseMethodDescriptor yX54_areOne.desc).map (fun d => d.parameters.length) = some 2 := by decide +kernel
theorem hX54_cell : yX54_cell.cls = RX54 ∧ yX54_cell.cls ≠ "java/lang/invoke/MethodHandle" ∧ yX54_cell.cls ≠ "java/lang/invoke/VarHandle" ∧ (parseMethodDescriptor yX54_cell.desc).map (fun d => d.parameters.length) = some 3 := by decide +kernel
theorem hX54_codeAt : yX54_codeAt.cls = RX54 ∧ yX54_codeAt.cls ≠ "java/lang/invoke/MethodHandle" ∧ yX54_codeAt.cls ≠ "java/lang/invoke/VarHandle" ∧ (parseMethodDescriptor yX54_codeAt.desc).map (fun d => d.parameters.length) = some 3 := by decide +kernel
theorem hX54_codeOf : yX54_codeOf.cls = RX54 ∧ yX54_codeOf.cls ≠ "java/lang/invoke/MethodHandle" ∧ yX54_codeOf.cls ≠ "java/lang/invoke/VarHandle" ∧ (parseMethodDescriptor yX54_codeOf.desc).map (fun d => d.parameters.length) = some 3 := by decide +kernel
theorem hX54_columnOf : yX54_columnOf.cls = RX54 ∧ yX54_columnOf.cls ≠ "java/lang/invoke/MethodHandle" ∧ yX54_columnOf.cls ≠ "java/lang/invoke/VarHandle" ∧ (parseMethodDescriptor yX54_columnOf.desc).map (fun d => d.parameters.length) = some 2 := by decide +kernel
theorem hX54_find : yX54_find.cls = RX54 ∧ yX54_find.cls ≠ "java/lang/invoke/MethodHandle" ∧ yX54_find.cls ≠ "java/lang/invoke/VarHandle" ∧ (parseMethodDescriptor yX54_find.desc).map (fun d => d.parameters.length) = some 0 := by decide +kernel
theorem hX54_given : yX54_given.cls = RX54 ∧ yX54_given.cls ≠ "java/lang/invoke/MethodHandle" ∧ yX54_given.cls ≠ "java/lang/invoke/VarHandle" ∧ (parseMethodDescriptor yX54_given.desc).map (fun d => d.parameters.length) = some 2 := by decide +kernel
theorem hX54_goes : yX54_goes.cls = RX54 ∧ yX54_goes.cls ≠ "java/lang/invoke/MethodHandle" ∧ yX54_goes.cls ≠ "java/lang/invoke/VarHandle" ∧ (parseMethodDescriptor yX54_goes.desc).map (fun d => d.parameters.length) = some 2 := by decide +kernel
theorem hX54_isFirst : yX54_isFirst.cls = RX54 ∧ yX54_isFirst.cls ≠ "java/lang/invoke/MethodHandle" ∧ yX54_isFirst.cls ≠ "java/lang/invoke/VarHandle" ∧ (parseMethodDescriptor yX54_isFirst.desc).map (fun d => d.parameters.length) = some 2 := by decide +kernel
theorem hX54_isGood : yX54_isGood.cls = RX54 ∧ yX54_isGood.cls ≠ "java/lang/invoke/MethodHandle" ∧ yX54_isGood.cls ≠ "java/lang/invoke/VarHandle" ∧ (parseMethodDescriptor yX54_isGood.desc).map (fun d => d.parameters.length) = some 0 := by decide +kernel
theorem hX54_isIn : yX54_isIn.cls ≠ "java/lang/invoke/MethodHandle" ∧ yX54_isIn.cls ≠ "java/lang/invoke/VarHandle" ∧ (parseMethodDescriptor yX54_isIn.desc).map (fun d => d.parameters.length) = some 2 := by decide +kernel
theorem hX54_isLess : yX54_isLess.cls = RX54 ∧ yX54_isLess.cls ≠ "java/lang/invoke/MethodHandle" ∧ yX54_isLess.cls ≠ "java/lang/invoke/VarHandle" ∧ (parseMethodDescriptor yX54_isLess.desc).map (fun d => d.parameters.length) = some 2 := by decide +kernel
theorem hX54_isThere : yX54_isThere.cls = RX54 ∧ yX54_isThere.cls ≠ "java/lang/invoke/MethodHandle" ∧ yX54_isThere.cls ≠ "java/lang/invoke/VarHandle" ∧ (parseMethodDescriptor yX54_isThere.desc).map (fun d => d.parameters.length) = some 3 := by decide +kernel
theorem hX54_keep : yX54_keep.cls = RX54 ∧ yX54_keep.cls ≠ "java/lang/invoke/MethodHandle" ∧ yX54_keep.cls ≠ "java/lang/invoke/VarHandle" ∧ (parseMethodDescriptor yX54_keep.desc).map (fun d => d.parameters.length) = some 0 := by decide +kernel
theorem hX54_leader : yX54_leader.cls = RX54 ∧ yX54_leader.cls ≠ "java/lang/invoke/MethodHandle" ∧ yX54_leader.cls ≠ "java/lang/invoke/VarHandle" ∧ (parseMethodDescriptor yX54_leader.desc).map (fun d => d.parameters.length) = some 2 := by decide +kernel
theorem hX54_look : yX54_look.cls = RX54 ∧ yX54_look.cls ≠ "java/lang/invoke/MethodHandle" ∧ yX54_look.cls ≠ "java/lang/invoke/VarHandle" ∧ (parseMethodDescriptor yX54_look.desc).map (fun d => d.parameters.length) = some 1 := by decide +kernel
theorem hX54_next : yX54_next.cls = RX54 ∧ yX54_next.cls ≠ "java/lang/invoke/MethodHandle" ∧ yX54_next.cls ≠ "java/lang/invoke/VarHandle" ∧ (parseMethodDescriptor yX54_next.desc).map (fun d => d.parameters.length) = some 0 := by decide +kernel
theorem hX54_note : yX54_note.cls = RX54 ∧ yX54_note.cls ≠ "java/lang/invoke/MethodHandle" ∧ yX54_note.cls ≠ "java/lang/invoke/VarHandle" ∧ (parseMethodDescriptor yX54_note.desc).map (fun d => d.parameters.length) = some 1 := by decide +kernel
theorem hX54_placeOf : yX54_placeOf.cls = RX54 ∧ yX54_placeOf.cls ≠ "java/lang/invoke/MethodHandle" ∧ yX54_placeOf.cls ≠ "java/lang/invoke/VarHandle" ∧ (parseMethodDescriptor yX54_placeOf.desc).map (fun d => d.parameters.length) = some 2 := by decide +kernel
theorem hX54_ready : yX54_ready.cls = RX54 ∧ yX54_ready.cls ≠ "java/lang/invoke/MethodHandle" ∧ yX54_ready.cls ≠ "java/lang/invoke/VarHandle" ∧ (parseMethodDescriptor yX54_ready.desc).map (fun d => d.parameters.length) = some 0 := by decide +kernel
theorem hX54_repeats : yX54_repeats.cls = RX54 ∧ yX54_repeats.cls ≠ "java/lang/invoke/MethodHandle" ∧ yX54_repeats.cls ≠ "java/lang/invoke/VarHandle" ∧ (parseMethodDescriptor yX54_repeats.desc).map (fun d => d.parameters.length) = some 2 := by decide +kernel
theorem hX54_sort : yX54_sort.cls = RX54 ∧ yX54_sort.cls ≠ "java/lang/invoke/MethodHandle" ∧ yX54_sort.cls ≠ "java/lang/invoke/VarHandle" ∧ (parseMethodDescriptor yX54_sort.desc).map (fun d => d.parameters.length) = some 0 := by decide +kernel
theorem hX54_templateOf : yX54_templateOf.cls = RX54 ∧ yX54_templateOf.cls ≠ "java/lang/invoke/MethodHandle" ∧ yX54_templateOf.cls ≠ "java/lang/invoke/VarHandle" ∧ (parseMethodDescriptor yX54_templateOf.desc).map (fun d => d.parameters.length) = some 2 := by decide +kernel
