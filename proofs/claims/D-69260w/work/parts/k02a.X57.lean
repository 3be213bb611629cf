/-! KnowHouseModel$KnowDiskModel (printed by tools/zgen.py) -/
set_option maxRecDepth 100000
def RX57 : String := "KnowHouseModel$KnowDiskModel"
def TX57 : u_T := fun k => match k with
  | 0 => ("KnowHouseModel$KnowDiskModel", "count", "I", true)
  | 1 => ("KnowHouseModel$KnowDiskModel", "runs", "Z", false)
  | 2 => ("KnowHouseModel$KnowDiskModel", "full", "Z", false)
  | 3 => ("KnowHouseModel$KnowDiskModel", "disk", "[I", true)
  | 4 => ("KnowHouseModel$KnowDiskModel", "later", "[I", true)
  | 5 => ("KnowHouseModel$KnowDiskModel", "open", "[I", true)
  | 6 => ("KnowHouseModel$KnowDiskModel", "laid", "[Z", true)
  | 7 => ("KnowHouseModel$KnowDiskModel", "places", "[I", true)
  | 8 => ("KnowHouseModel$KnowDiskModel", "changed", "Z", false)
  | 9 => ("KnowHouseModel$KnowDiskModel", "targets", "[I", true)
  | 10 => ("KnowHouseModel$KnowDiskModel", "bytes", "[I", true)
  | 11 => ("KnowHouseModel$KnowDiskModel", "first", "I", false)
  | 12 => ("KnowHouseModel$KnowDiskModel", "behind", "I", false)
  | 13 => ("KnowHouseModel$KnowDiskModel", "numbers", "[I", true)
  | 14 => ("KnowHouseModel$KnowDiskModel", "sectors", "[J", true)
  | 15 => ("KnowHouseModel$KnowDiskModel", "oldest", "I", false)
  | 16 => ("KnowHouseModel$KnowDiskModel", "newest", "I", false)
  | 17 => ("KnowHouseModel$KnowDiskModel", "keptNumbers", "[I", true)
  | 18 => ("KnowHouseModel$KnowDiskModel", "keptSectors", "[J", true)
  | 19 => ("KnowHouseModel$KnowDiskModel", "kept", "I", false)
  | 20 => ("KnowHouseModel$KnowDiskModel", "thrown", "Z", false)
  | _ => ("KnowHouseModel$KnowDiskModel", "head", "[I", true)
def tyX57 : Nat → FieldType := fun k => match k with
  | 0 => .int
  | 1 => .boolean
  | 2 => .boolean
  | 3 => .array .int
  | 4 => .array .int
  | 5 => .array .int
  | 6 => .array .boolean
  | 7 => .array .int
  | 8 => .boolean
  | 9 => .array .int
  | 10 => .array .int
  | 11 => .int
  | 12 => .int
  | 13 => .array .int
  | 14 => .array .long
  | 15 => .int
  | 16 => .int
  | 17 => .array .int
  | 18 => .array .long
  | 19 => .int
  | 20 => .boolean
  | _ => .array .int
abbrev wsX570 : List Cond := u_ws RX57 TX57 22
theorem nmX57 : ∀ a, a < 22 → ∀ b, b < 22 → a ≠ b → (TX57 a).2.1 ≠ (TX57 b).2.1 := by decide +kernel
theorem tyX57_ok : ∀ k, k < 22 → parseFieldDescriptor (TX57 k).2.2.1 = some (tyX57 k) := by decide +kernel
abbrev cX57_init : ByteArray := prog_84_method_1_code
def yX57_init : MethodName := ⟨RX57, "<init>", "(I)V"⟩
abbrev cX57_begin : ByteArray := prog_84_method_2_code
def yX57_begin : MethodName := ⟨RX57, "begin", "(IJ)V"⟩
theorem dX57_begin_0 : decode cX57_begin 0 = .ok (.aload_n 0, 1) := by decide +kernel
theorem dX57_begin_1 : decode cX57_begin 1 = .ok (.iconst 0, 1) := by decide +kernel
theorem dX57_begin_2 : decode cX57_begin 2 = .ok (.putfield 61, 3) := by decide +kernel
theorem dX57_begin_5 : decode cX57_begin 5 = .ok (.aload_n 0, 1) := by decide +kernel
theorem dX57_begin_6 : decode cX57_begin 6 = .ok (.iconst 0, 1) := by decide +kernel
theorem dX57_begin_7 : decode cX57_begin 7 = .ok (.putfield 64, 3) := by decide +kernel
theorem dX57_begin_10 : decode cX57_begin 10 = .ok (.aload_n 0, 1) := by decide +kernel
theorem dX57_begin_11 : decode cX57_begin 11 = .ok (.getfield 37, 3) := by decide +kernel
theorem dX57_begin_14 : decode cX57_begin 14 = .ok (.iconst 0, 1) := by decide +kernel
theorem dX57_begin_15 : decode cX57_begin 15 = .ok (.iload_n 1, 1) := by decide +kernel
theorem dX57_begin_16 : decode cX57_begin 16 = .ok (.iastore, 1) := by decide +kernel
theorem dX57_begin_17 : decode cX57_begin 17 = .ok (.aload_n 0, 1) := by decide +kernel
theorem dX57_begin_18 : decode cX57_begin 18 = .ok (.getfield 40, 3) := by decide +kernel
theorem dX57_begin_21 : decode cX57_begin 21 = .ok (.iconst 0, 1) := by decide +kernel
theorem dX57_begin_22 : decode cX57_begin 22 = .ok (.lload_n 2, 1) := by decide +kernel
theorem dX57_begin_23 : decode cX57_begin 23 = .ok (.lastore, 1) := by decide +kernel
theorem dX57_begin_24 : decode cX57_begin 24 = .ok (.aload_n 0, 1) := by decide +kernel
theorem dX57_begin_25 : decode cX57_begin 25 = .ok (.iconst 0, 1) := by decide +kernel
theorem dX57_begin_26 : decode cX57_begin 26 = .ok (.putfield 67, 3) := by decide +kernel
theorem dX57_begin_29 : decode cX57_begin 29 = .ok (.aload_n 0, 1) := by decide +kernel
theorem dX57_begin_30 : decode cX57_begin 30 = .ok (.iconst 0, 1) := by decide +kernel
theorem dX57_begin_31 : decode cX57_begin 31 = .ok (.putfield 70, 3) := by decide +kernel
theorem dX57_begin_34 : decode cX57_begin 34 = .ok (.aload_n 0, 1) := by decide +kernel
theorem dX57_begin_35 : decode cX57_begin 35 = .ok (.iconst 0, 1) := by decide +kernel
theorem dX57_begin_36 : decode cX57_begin 36 = .ok (.putfield 73, 3) := by decide +kernel
theorem dX57_begin_39 : decode cX57_begin 39 = .ok (.aload_n 0, 1) := by decide +kernel
theorem dX57_begin_40 : decode cX57_begin 40 = .ok (.iconst 0, 1) := by decide +kernel
theorem dX57_begin_41 : decode cX57_begin 41 = .ok (.putfield 76, 3) := by decide +kernel
theorem dX57_begin_44 : decode cX57_begin 44 = .ok (.iconst 0, 1) := by decide +kernel
theorem dX57_begin_45 : decode cX57_begin 45 = .ok (.istore 4, 2) := by decide +kernel
theorem dX57_begin_47 : decode cX57_begin 47 = .ok (.iload 4, 2) := by decide +kernel
theorem dX57_begin_49 : decode cX57_begin 49 = .ok (.bipush 30, 2) := by decide +kernel
theorem dX57_begin_51 : decode cX57_begin 51 = .ok (.if_icmp .ge 17, 3) := by decide +kernel
theorem dX57_begin_54 : decode cX57_begin 54 = .ok (.aload_n 0, 1) := by decide +kernel
theorem dX57_begin_55 : decode cX57_begin 55 = .ok (.getfield 27, 3) := by decide +kernel
theorem dX57_begin_58 : decode cX57_begin 58 = .ok (.iload 4, 2) := by decide +kernel
theorem dX57_begin_60 : decode cX57_begin 60 = .ok (.iconst (-1), 1) := by decide +kernel
theorem dX57_begin_61 : decode cX57_begin 61 = .ok (.iastore, 1) := by decide +kernel
theorem dX57_begin_62 : decode cX57_begin 62 = .ok (.iinc 4 1, 3) := by decide +kernel
theorem dX57_begin_65 : decode cX57_begin 65 = .ok (.goto (-18), 3) := by decide +kernel
theorem dX57_begin_68 : decode cX57_begin 68 = .ok (.iconst 0, 1) := by decide +kernel
theorem dX57_begin_69 : decode cX57_begin 69 = .ok (.istore 4, 2) := by decide +kernel
theorem dX57_begin_71 : decode cX57_begin 71 = .ok (.iload 4, 2) := by decide +kernel
theorem dX57_begin_73 : decode cX57_begin 73 = .ok (.bipush 64, 2) := by decide +kernel
theorem dX57_begin_75 : decode cX57_begin 75 = .ok (.if_icmp .ge 17, 3) := by decide +kernel
theorem dX57_begin_78 : decode cX57_begin 78 = .ok (.aload_n 0, 1) := by decide +kernel
theorem dX57_begin_79 : decode cX57_begin 79 = .ok (.getfield 23, 3) := by decide +kernel
theorem dX57_begin_82 : decode cX57_begin 82 = .ok (.iload 4, 2) := by decide +kernel
theorem dX57_begin_84 : decode cX57_begin 84 = .ok (.iconst 0, 1) := by decide +kernel
theorem dX57_begin_85 : decode cX57_begin 85 = .ok (.bastore, 1) := by decide +kernel
theorem dX57_begin_86 : decode cX57_begin 86 = .ok (.iinc 4 1, 3) := by decide +kernel
theorem dX57_begin_89 : decode cX57_begin 89 = .ok (.goto (-18), 3) := by decide +kernel
theorem dX57_begin_92 : decode cX57_begin 92 = .ok (.iconst 0, 1) := by decide +kernel
theorem dX57_begin_93 : decode cX57_begin 93 = .ok (.istore 4, 2) := by decide +kernel
theorem dX57_begin_95 : decode cX57_begin 95 = .ok (.iload 4, 2) := by decide +kernel
theorem dX57_begin_97 : decode cX57_begin 97 = .ok (.sipush 2048, 3) := by decide +kernel
theorem dX57_begin_100 : decode cX57_begin 100 = .ok (.if_icmp .ge 23, 3) := by decide +kernel
theorem dX57_begin_103 : decode cX57_begin 103 = .ok (.aload_n 0, 1) := by decide +kernel
theorem dX57_begin_104 : decode cX57_begin 104 = .ok (.getfield 17, 3) := by decide +kernel
theorem dX57_begin_107 : decode cX57_begin 107 = .ok (.iload 4, 2) := by decide +kernel
theorem dX57_begin_109 : decode cX57_begin 109 = .ok (.aload_n 0, 1) := by decide +kernel
theorem dX57_begin_110 : decode cX57_begin 110 = .ok (.getfield 13, 3) := by decide +kernel
theorem dX57_begin_113 : decode cX57_begin 113 = .ok (.iload 4, 2) := by decide +kernel
theorem dX57_begin_115 : decode cX57_begin 115 = .ok (.iaload, 1) := by decide +kernel
theorem dX57_begin_116 : decode cX57_begin 116 = .ok (.iastore, 1) := by decide +kernel
theorem dX57_begin_117 : decode cX57_begin 117 = .ok (.iinc 4 1, 3) := by decide +kernel
theorem dX57_begin_120 : decode cX57_begin 120 = .ok (.goto (-25), 3) := by decide +kernel
theorem dX57_begin_123 : decode cX57_begin 123 = .ok (.return_, 1) := by decide +kernel
abbrev cX57_page : ByteArray := prog_84_method_21_code
def yX57_page : MethodName := ⟨RX57, "page", "(IIJ)I"⟩
theorem dX57_page_0 : decode cX57_page 0 = .ok (.aload_n 0, 1) := by decide +kernel
theorem dX57_page_1 : decode cX57_page 1 = .ok (.getfield 7, 3) := by decide +kernel
theorem dX57_page_4 : decode cX57_page 4 = .ok (.ifCond .ne 6, 3) := by decide +kernel
theorem dX57_page_7 : decode cX57_page 7 = .ok (.bipush (-3), 2) := by decide +kernel
theorem dX57_page_9 : decode cX57_page 9 = .ok (.ireturn, 1) := by decide +kernel
theorem dX57_page_10 : decode cX57_page 10 = .ok (.iload_n 1, 1) := by decide +kernel
theorem dX57_page_11 : decode cX57_page 11 = .ok (.ifCond .lt 8, 3) := by decide +kernel
theorem dX57_page_14 : decode cX57_page 14 = .ok (.iload_n 1, 1) := by decide +kernel
theorem dX57_page_15 : decode cX57_page 15 = .ok (.iconst 3, 1) := by decide +kernel
theorem dX57_page_16 : decode cX57_page 16 = .ok (.if_icmp .le 6, 3) := by decide +kernel
theorem dX57_page_19 : decode cX57_page 19 = .ok (.bipush (-2), 2) := by decide +kernel
theorem dX57_page_21 : decode cX57_page 21 = .ok (.ireturn, 1) := by decide +kernel
theorem dX57_page_22 : decode cX57_page 22 = .ok (.iload_n 2, 1) := by decide +kernel
theorem dX57_page_23 : decode cX57_page 23 = .ok (.iconst (-1), 1) := by decide +kernel
theorem dX57_page_24 : decode cX57_page 24 = .ok (.if_icmp .ne 17, 3) := by decide +kernel
theorem dX57_page_27 : decode cX57_page 27 = .ok (.iload_n 1, 1) := by decide +kernel
theorem dX57_page_28 : decode cX57_page 28 = .ok (.iconst 1, 1) := by decide +kernel
theorem dX57_page_29 : decode cX57_page 29 = .ok (.if_icmp .eq 8, 3) := by decide +kernel
theorem dX57_page_32 : decode cX57_page 32 = .ok (.iload_n 1, 1) := by decide +kernel
theorem dX57_page_33 : decode cX57_page 33 = .ok (.iconst 2, 1) := by decide +kernel
theorem dX57_page_34 : decode cX57_page 34 = .ok (.if_icmp .ne 7, 3) := by decide +kernel
theorem dX57_page_37 : decode cX57_page 37 = .ok (.iconst 1, 1) := by decide +kernel
theorem dX57_page_38 : decode cX57_page 38 = .ok (.goto 4, 3) := by decide +kernel
theorem dX57_page_41 : decode cX57_page 41 = .ok (.iconst 0, 1) := by decide +kernel
theorem dX57_page_42 : decode cX57_page 42 = .ok (.istore 5, 2) := by decide +kernel
theorem dX57_page_44 : decode cX57_page 44 = .ok (.iload 5, 2) := by decide +kernel
theorem dX57_page_46 : decode cX57_page 46 = .ok (.ifCond .ne 13, 3) := by decide +kernel
theorem dX57_page_49 : decode cX57_page 49 = .ok (.aload_n 0, 1) := by decide +kernel
theorem dX57_page_50 : decode cX57_page 50 = .ok (.iload_n 2, 1) := by decide +kernel
theorem dX57_page_51 : decode cX57_page 51 = .ok (.invokevirtual 128, 3) := by decide +kernel
theorem dX57_page_54 : decode cX57_page 54 = .ok (.ifCond .ne 5, 3) := by decide +kernel
theorem dX57_page_57 : decode cX57_page 57 = .ok (.iconst (-1), 1) := by decide +kernel
theorem dX57_page_58 : decode cX57_page 58 = .ok (.ireturn, 1) := by decide +kernel
theorem dX57_page_59 : decode cX57_page 59 = .ok (.iload_n 1, 1) := by decide +kernel
theorem dX57_page_60 : decode cX57_page 60 = .ok (.iconst 3, 1) := by decide +kernel
theorem dX57_page_61 : decode cX57_page 61 = .ok (.if_icmp .ne 45, 3) := by decide +kernel
theorem dX57_page_64 : decode cX57_page 64 = .ok (.aload_n 0, 1) := by decide +kernel
theorem dX57_page_65 : decode cX57_page 65 = .ok (.aload_n 0, 1) := by decide +kernel
theorem dX57_page_66 : decode cX57_page 66 = .ok (.getfield 27, 3) := by decide +kernel
theorem dX57_page_69 : decode cX57_page 69 = .ok (.iload_n 2, 1) := by decide +kernel
theorem dX57_page_70 : decode cX57_page 70 = .ok (.iaload, 1) := by decide +kernel
theorem dX57_page_71 : decode cX57_page 71 = .ok (.invokevirtual 131, 3) := by decide +kernel
theorem dX57_page_74 : decode cX57_page 74 = .ok (.iconst 3, 1) := by decide +kernel
theorem dX57_page_75 : decode cX57_page 75 = .ok (.if_icmp .ne 7, 3) := by decide +kernel
theorem dX57_page_78 : decode cX57_page 78 = .ok (.iconst (-1), 1) := by decide +kernel
theorem dX57_page_79 : decode cX57_page 79 = .ok (.goto 26, 3) := by decide +kernel
theorem dX57_page_82 : decode cX57_page 82 = .ok (.aload_n 0, 1) := by decide +kernel
theorem dX57_page_83 : decode cX57_page 83 = .ok (.iconst 3, 1) := by decide +kernel
theorem dX57_page_84 : decode cX57_page 84 = .ok (.aload_n 0, 1) := by decide +kernel
theorem dX57_page_85 : decode cX57_page 85 = .ok (.invokevirtual 135, 3) := by decide +kernel
theorem dX57_page_88 : decode cX57_page 88 = .ok (.iload_n 2, 1) := by decide +kernel
theorem dX57_page_89 : decode cX57_page 89 = .ok (.aload_n 0, 1) := by decide +kernel
theorem dX57_page_90 : decode cX57_page 90 = .ok (.aload_n 0, 1) := by decide +kernel
theorem dX57_page_91 : decode cX57_page 91 = .ok (.getfield 27, 3) := by decide +kernel
theorem dX57_page_94 : decode cX57_page 94 = .ok (.iload_n 2, 1) := by decide +kernel
theorem dX57_page_95 : decode cX57_page 95 = .ok (.iaload, 1) := by decide +kernel
theorem dX57_page_96 : decode cX57_page 96 = .ok (.invokevirtual 138, 3) := by decide +kernel
theorem dX57_page_99 : decode cX57_page 99 = .ok (.invokestatic 142, 3) := by decide +kernel
theorem dX57_page_102 : decode cX57_page 102 = .ok (.invokevirtual 146, 3) := by decide +kernel
theorem dX57_page_105 : decode cX57_page 105 = .ok (.ireturn, 1) := by decide +kernel
theorem dX57_page_106 : decode cX57_page 106 = .ok (.iload_n 1, 1) := by decide +kernel
theorem dX57_page_107 : decode cX57_page 107 = .ok (.ifCond .le 26, 3) := by decide +kernel
theorem dX57_page_110 : decode cX57_page 110 = .ok (.aload_n 0, 1) := by decide +kernel
theorem dX57_page_111 : decode cX57_page 111 = .ok (.iload_n 1, 1) := by decide +kernel
theorem dX57_page_112 : decode cX57_page 112 = .ok (.iload 5, 2) := by decide +kernel
theorem dX57_page_114 : decode cX57_page 114 = .ok (.ifCond .eq 10, 3) := by decide +kernel
theorem dX57_page_117 : decode cX57_page 117 = .ok (.aload_n 0, 1) := by decide +kernel
theorem dX57_page_118 : decode cX57_page 118 = .ok (.invokevirtual 135, 3) := by decide +kernel
theorem dX57_page_121 : decode cX57_page 121 = .ok (.goto 4, 3) := by decide +kernel
theorem dX57_page_124 : decode cX57_page 124 = .ok (.iload_n 2, 1) := by decide +kernel
theorem dX57_page_125 : decode cX57_page 125 = .ok (.sipush 255, 3) := by decide +kernel
theorem dX57_page_128 : decode cX57_page 128 = .ok (.lload_n 3, 1) := by decide +kernel
theorem dX57_page_129 : decode cX57_page 129 = .ok (.invokevirtual 146, 3) := by decide +kernel
theorem dX57_page_132 : decode cX57_page 132 = .ok (.ireturn, 1) := by decide +kernel
theorem dX57_page_133 : decode cX57_page 133 = .ok (.aload_n 0, 1) := by decide +kernel
theorem dX57_page_134 : decode cX57_page 134 = .ok (.getfield 23, 3) := by decide +kernel
theorem dX57_page_137 : decode cX57_page 137 = .ok (.aload_n 0, 1) := by decide +kernel
theorem dX57_page_138 : decode cX57_page 138 = .ok (.getfield 27, 3) := by decide +kernel
theorem dX57_page_141 : decode cX57_page 141 = .ok (.iload_n 2, 1) := by decide +kernel
theorem dX57_page_142 : decode cX57_page 142 = .ok (.iaload, 1) := by decide +kernel
theorem dX57_page_143 : decode cX57_page 143 = .ok (.iconst 0, 1) := by decide +kernel
theorem dX57_page_144 : decode cX57_page 144 = .ok (.bastore, 1) := by decide +kernel
theorem dX57_page_145 : decode cX57_page 145 = .ok (.aload_n 0, 1) := by decide +kernel
theorem dX57_page_146 : decode cX57_page 146 = .ok (.getfield 27, 3) := by decide +kernel
theorem dX57_page_149 : decode cX57_page 149 = .ok (.iload_n 2, 1) := by decide +kernel
theorem dX57_page_150 : decode cX57_page 150 = .ok (.iconst (-1), 1) := by decide +kernel
theorem dX57_page_151 : decode cX57_page 151 = .ok (.iastore, 1) := by decide +kernel
theorem dX57_page_152 : decode cX57_page 152 = .ok (.aload_n 0, 1) := by decide +kernel
theorem dX57_page_153 : decode cX57_page 153 = .ok (.iconst 1, 1) := by decide +kernel
theorem dX57_page_154 : decode cX57_page 154 = .ok (.putfield 76, 3) := by decide +kernel
theorem dX57_page_157 : decode cX57_page 157 = .ok (.iload_n 2, 1) := by decide +kernel
theorem dX57_page_158 : decode cX57_page 158 = .ok (.ireturn, 1) := by decide +kernel
abbrev cX57_isPage : ByteArray := prog_84_method_13_code
def yX57_isPage : MethodName := ⟨RX57, "isPage", "(I)Z"⟩
theorem dX57_isPage_0 : decode cX57_isPage 0 = .ok (.iload_n 1, 1) := by decide +kernel
theorem dX57_isPage_1 : decode cX57_isPage 1 = .ok (.ifCond .lt 23, 3) := by decide +kernel
theorem dX57_isPage_4 : decode cX57_isPage 4 = .ok (.iload_n 1, 1) := by decide +kernel
theorem dX57_isPage_5 : decode cX57_isPage 5 = .ok (.bipush 30, 2) := by decide +kernel
theorem dX57_isPage_7 : decode cX57_isPage 7 = .ok (.if_icmp .ge 17, 3) := by decide +kernel
theorem dX57_isPage_10 : decode cX57_isPage 10 = .ok (.aload_n 0, 1) := by decide +kernel
theorem dX57_isPage_11 : decode cX57_isPage 11 = .ok (.getfield 27, 3) := by decide +kernel
theorem dX57_isPage_14 : decode cX57_isPage 14 = .ok (.iload_n 1, 1) := by decide +kernel
theorem dX57_isPage_15 : decode cX57_isPage 15 = .ok (.iaload, 1) := by decide +kernel
theorem dX57_isPage_16 : decode cX57_isPage 16 = .ok (.iconst (-1), 1) := by decide +kernel
theorem dX57_isPage_17 : decode cX57_isPage 17 = .ok (.if_icmp .eq 7, 3) := by decide +kernel
theorem dX57_isPage_20 : decode cX57_isPage 20 = .ok (.iconst 1, 1) := by decide +kernel
theorem dX57_isPage_21 : decode cX57_isPage 21 = .ok (.goto 4, 3) := by decide +kernel
theorem dX57_isPage_24 : decode cX57_isPage 24 = .ok (.iconst 0, 1) := by decide +kernel
theorem dX57_isPage_25 : decode cX57_isPage 25 = .ok (.ireturn, 1) := by decide +kernel
abbrev cX57_kindOf : ByteArray := prog_84_method_12_code
def yX57_kindOf : MethodName := ⟨RX57, "kindOf", "(I)I"⟩
theorem dX57_kindOf_0 : decode cX57_kindOf 0 = .ok (.aload_n 0, 1) := by decide +kernel
theorem dX57_kindOf_1 : decode cX57_kindOf 1 = .ok (.iload_n 1, 1) := by decide +kernel
theorem dX57_kindOf_2 : decode cX57_kindOf 2 = .ok (.iconst 4, 1) := by decide +kernel
theorem dX57_kindOf_3 : decode cX57_kindOf 3 = .ok (.invokevirtual 97, 3) := by decide +kernel
theorem dX57_kindOf_6 : decode cX57_kindOf 6 = .ok (.istore_n 2, 1) := by decide +kernel
theorem dX57_kindOf_7 : decode cX57_kindOf 7 = .ok (.iload_n 2, 1) := by decide +kernel
theorem dX57_kindOf_8 : decode cX57_kindOf 8 = .ok (.bipush 127, 2) := by decide +kernel
theorem dX57_kindOf_10 : decode cX57_kindOf 10 = .ok (.if_icmp .le 11, 3) := by decide +kernel
theorem dX57_kindOf_13 : decode cX57_kindOf 13 = .ok (.iload_n 2, 1) := by decide +kernel
theorem dX57_kindOf_14 : decode cX57_kindOf 14 = .ok (.sipush 256, 3) := by decide +kernel
theorem dX57_kindOf_17 : decode cX57_kindOf 17 = .ok (.isub, 1) := by decide +kernel
theorem dX57_kindOf_18 : decode cX57_kindOf 18 = .ok (.goto 4, 3) := by decide +kernel
theorem dX57_kindOf_21 : decode cX57_kindOf 21 = .ok (.iload_n 2, 1) := by decide +kernel
theorem dX57_kindOf_22 : decode cX57_kindOf 22 = .ok (.ireturn, 1) := by decide +kernel
abbrev cX57_byteOf : ByteArray := prog_84_method_10_code
def yX57_byteOf : MethodName := ⟨RX57, "byteOf", "(II)I"⟩
theorem dX57_byteOf_0 : decode cX57_byteOf 0 = .ok (.aload_n 0, 1) := by decide +kernel
theorem dX57_byteOf_1 : decode cX57_byteOf 1 = .ok (.getfield 23, 3) := by decide +kernel
theorem dX57_byteOf_4 : decode cX57_byteOf 4 = .ok (.iload_n 1, 1) := by decide +kernel
theorem dX57_byteOf_5 : decode cX57_byteOf 5 = .ok (.baload, 1) := by decide +kernel
theorem dX57_byteOf_6 : decode cX57_byteOf 6 = .ok (.ifCond .eq 17, 3) := by decide +kernel
theorem dX57_byteOf_9 : decode cX57_byteOf 9 = .ok (.aload_n 0, 1) := by decide +kernel
theorem dX57_byteOf_10 : decode cX57_byteOf 10 = .ok (.getfield 20, 3) := by decide +kernel
theorem dX57_byteOf_13 : decode cX57_byteOf 13 = .ok (.bipush 32, 2) := by decide +kernel
theorem dX57_byteOf_15 : decode cX57_byteOf 15 = .ok (.iload_n 1, 1) := by decide +kernel
theorem dX57_byteOf_16 : decode cX57_byteOf 16 = .ok (.imul, 1) := by decide +kernel
theorem dX57_byteOf_17 : decode cX57_byteOf 17 = .ok (.iload_n 2, 1) := by decide +kernel
theorem dX57_byteOf_18 : decode cX57_byteOf 18 = .ok (.iadd, 1) := by decide +kernel
theorem dX57_byteOf_19 : decode cX57_byteOf 19 = .ok (.iaload, 1) := by decide +kernel
theorem dX57_byteOf_20 : decode cX57_byteOf 20 = .ok (.goto 14, 3) := by decide +kernel
theorem dX57_byteOf_23 : decode cX57_byteOf 23 = .ok (.aload_n 0, 1) := by decide +kernel
theorem dX57_byteOf_24 : decode cX57_byteOf 24 = .ok (.getfield 17, 3) := by decide +kernel
theorem dX57_byteOf_27 : decode cX57_byteOf 27 = .ok (.bipush 32, 2) := by decide +kernel
theorem dX57_byteOf_29 : decode cX57_byteOf 29 = .ok (.iload_n 1, 1) := by decide +kernel
theorem dX57_byteOf_30 : decode cX57_byteOf 30 = .ok (.imul, 1) := by decide +kernel
theorem dX57_byteOf_31 : decode cX57_byteOf 31 = .ok (.iload_n 2, 1) := by decide +kernel
theorem dX57_byteOf_32 : decode cX57_byteOf 32 = .ok (.iadd, 1) := by decide +kernel
theorem dX57_byteOf_33 : decode cX57_byteOf 33 = .ok (.iaload, 1) := by decide +kernel
theorem dX57_byteOf_34 : decode cX57_byteOf 34 = .ok (.ireturn, 1) := by decide +kernel
abbrev cX57_freePage : ByteArray := prog_84_method_18_code
def yX57_freePage : MethodName := ⟨RX57, "freePage", "()I"⟩
theorem dX57_freePage_0 : decode cX57_freePage 0 = .ok (.iconst 0, 1) := by decide +kernel
theorem dX57_freePage_1 : decode cX57_freePage 1 = .ok (.istore_n 1, 1) := by decide +kernel
theorem dX57_freePage_2 : decode cX57_freePage 2 = .ok (.iload_n 1, 1) := by decide +kernel
theorem dX57_freePage_3 : decode cX57_freePage 3 = .ok (.bipush 30, 2) := by decide +kernel
theorem dX57_freePage_5 : decode cX57_freePage 5 = .ok (.if_icmp .ge 19, 3) := by decide +kernel
theorem dX57_freePage_8 : decode cX57_freePage 8 = .ok (.aload_n 0, 1) := by decide +kernel
theorem dX57_freePage_9 : decode cX57_freePage 9 = .ok (.getfield 27, 3) := by decide +kernel
theorem dX57_freePage_12 : decode cX57_freePage 12 = .ok (.iload_n 1, 1) := by decide +kernel
theorem dX57_freePage_13 : decode cX57_freePage 13 = .ok (.iaload, 1) := by decide +kernel
theorem dX57_freePage_14 : decode cX57_freePage 14 = .ok (.iconst (-1), 1) := by decide +kernel
theorem dX57_freePage_15 : decode cX57_freePage 15 = .ok (.if_icmp .eq 9, 3) := by decide +kernel
theorem dX57_freePage_18 : decode cX57_freePage 18 = .ok (.iinc 1 1, 3) := by decide +kernel
theorem dX57_freePage_21 : decode cX57_freePage 21 = .ok (.goto (-19), 3) := by decide +kernel
theorem dX57_freePage_24 : decode cX57_freePage 24 = .ok (.iload_n 1, 1) := by decide +kernel
theorem dX57_freePage_25 : decode cX57_freePage 25 = .ok (.bipush 30, 2) := by decide +kernel
theorem dX57_freePage_27 : decode cX57_freePage 27 = .ok (.if_icmp .ge 7, 3) := by decide +kernel
theorem dX57_freePage_30 : decode cX57_freePage 30 = .ok (.iload_n 1, 1) := by decide +kernel
theorem dX57_freePage_31 : decode cX57_freePage 31 = .ok (.goto 4, 3) := by decide +kernel
theorem dX57_freePage_34 : decode cX57_freePage 34 = .ok (.iconst (-1), 1) := by decide +kernel
theorem dX57_freePage_35 : decode cX57_freePage 35 = .ok (.ireturn, 1) := by decide +kernel
abbrev cX57_valueOf : ByteArray := prog_84_method_11_code
def yX57_valueOf : MethodName := ⟨RX57, "valueOf", "(I)J"⟩
theorem dX57_valueOf_0 : decode cX57_valueOf 0 = .ok (.aload_n 0, 1) := by decide +kernel
theorem dX57_valueOf_1 : decode cX57_valueOf 1 = .ok (.getfield 23, 3) := by decide +kernel
theorem dX57_valueOf_4 : decode cX57_valueOf 4 = .ok (.iload_n 1, 1) := by decide +kernel
theorem dX57_valueOf_5 : decode cX57_valueOf 5 = .ok (.baload, 1) := by decide +kernel
theorem dX57_valueOf_6 : decode cX57_valueOf 6 = .ok (.ifCond .eq 20, 3) := by decide +kernel
theorem dX57_valueOf_9 : decode cX57_valueOf 9 = .ok (.aload_n 0, 1) := by decide +kernel
theorem dX57_valueOf_10 : decode cX57_valueOf 10 = .ok (.getfield 20, 3) := by decide +kernel
theorem dX57_valueOf_13 : decode cX57_valueOf 13 = .ok (.bipush 32, 2) := by decide +kernel
theorem dX57_valueOf_15 : decode cX57_valueOf 15 = .ok (.iload_n 1, 1) := by decide +kernel
theorem dX57_valueOf_16 : decode cX57_valueOf 16 = .ok (.imul, 1) := by decide +kernel
theorem dX57_valueOf_17 : decode cX57_valueOf 17 = .ok (.bipush 8, 2) := by decide +kernel
theorem dX57_valueOf_19 : decode cX57_valueOf 19 = .ok (.iadd, 1) := by decide +kernel
theorem dX57_valueOf_20 : decode cX57_valueOf 20 = .ok (.invokestatic 93, 3) := by decide +kernel
theorem dX57_valueOf_23 : decode cX57_valueOf 23 = .ok (.goto 17, 3) := by decide +kernel
theorem dX57_valueOf_26 : decode cX57_valueOf 26 = .ok (.aload_n 0, 1) := by decide +kernel
theorem dX57_valueOf_27 : decode cX57_valueOf 27 = .ok (.getfield 17, 3) := by decide +kernel
theorem dX57_valueOf_30 : decode cX57_valueOf 30 = .ok (.bipush 32, 2) := by decide +kernel
theorem dX57_valueOf_32 : decode cX57_valueOf 32 = .ok (.iload_n 1, 1) := by decide +kernel
theorem dX57_valueOf_33 : decode cX57_valueOf 33 = .ok (.imul, 1) := by decide +kernel
theorem dX57_valueOf_34 : decode cX57_valueOf 34 = .ok (.bipush 8, 2) := by decide +kernel
theorem dX57_valueOf_36 : decode cX57_valueOf 36 = .ok (.iadd, 1) := by decide +kernel
theorem dX57_valueOf_37 : decode cX57_valueOf 37 = .ok (.invokestatic 93, 3) := by decide +kernel
theorem dX57_valueOf_40 : decode cX57_valueOf 40 = .ok (.lreturn, 1) := by decide +kernel
abbrev cX57_wide : ByteArray := prog_84_method_8_code
def yX57_wide : MethodName := ⟨RX57, "wide", "([II)J"⟩
theorem dX57_wide_0 : decode cX57_wide 0 = .ok (.aload_n 0, 1) := by decide +kernel
theorem dX57_wide_1 : decode cX57_wide 1 = .ok (.iload_n 1, 1) := by decide +kernel
theorem dX57_wide_2 : decode cX57_wide 2 = .ok (.invokestatic 88, 3) := by decide +kernel
theorem dX57_wide_5 : decode cX57_wide 5 = .ok (.i2l, 1) := by decide +kernel
theorem dX57_wide_6 : decode cX57_wide 6 = .ok (.bipush 32, 2) := by decide +kernel
theorem dX57_wide_8 : decode cX57_wide 8 = .ok (.lshl, 1) := by decide +kernel
theorem dX57_wide_9 : decode cX57_wide 9 = .ok (.aload_n 0, 1) := by decide +kernel
theorem dX57_wide_10 : decode cX57_wide 10 = .ok (.iload_n 1, 1) := by decide +kernel
theorem dX57_wide_11 : decode cX57_wide 11 = .ok (.iconst 4, 1) := by decide +kernel
theorem dX57_wide_12 : decode cX57_wide 12 = .ok (.iadd, 1) := by decide +kernel
theorem dX57_wide_13 : decode cX57_wide 13 = .ok (.invokestatic 88, 3) := by decide +kernel
theorem dX57_wide_16 : decode cX57_wide 16 = .ok (.i2l, 1) := by decide +kernel
theorem dX57_wide_17 : decode cX57_wide 17 = .ok (.ldc2_w 91, 3) := by decide +kernel
theorem dX57_wide_20 : decode cX57_wide 20 = .ok (.land, 1) := by decide +kernel
theorem dX57_wide_21 : decode cX57_wide 21 = .ok (.lor, 1) := by decide +kernel
theorem dX57_wide_22 : decode cX57_wide 22 = .ok (.lreturn, 1) := by decide +kernel
abbrev cX57_number : ByteArray := prog_84_method_3_code
def yX57_number : MethodName := ⟨RX57, "number", "([II)I"⟩
theorem dX57_number_0 : decode cX57_number 0 = .ok (.aload_n 0, 1) := by decide +kernel
theorem dX57_number_1 : decode cX57_number 1 = .ok (.iload_n 1, 1) := by decide +kernel
theorem dX57_number_2 : decode cX57_number 2 = .ok (.iaload, 1) := by decide +kernel
theorem dX57_number_3 : decode cX57_number 3 = .ok (.bipush 24, 2) := by decide +kernel
theorem dX57_number_5 : decode cX57_number 5 = .ok (.ishl, 1) := by decide +kernel
theorem dX57_number_6 : decode cX57_number 6 = .ok (.aload_n 0, 1) := by decide +kernel
theorem dX57_number_7 : decode cX57_number 7 = .ok (.iload_n 1, 1) := by decide +kernel
theorem dX57_number_8 : decode cX57_number 8 = .ok (.iconst 1, 1) := by decide +kernel
theorem dX57_number_9 : decode cX57_number 9 = .ok (.iadd, 1) := by decide +kernel
theorem dX57_number_10 : decode cX57_number 10 = .ok (.iaload, 1) := by decide +kernel
theorem dX57_number_11 : decode cX57_number 11 = .ok (.bipush 16, 2) := by decide +kernel
theorem dX57_number_13 : decode cX57_number 13 = .ok (.ishl, 1) := by decide +kernel
theorem dX57_number_14 : decode cX57_number 14 = .ok (.ior, 1) := by decide +kernel
theorem dX57_number_15 : decode cX57_number 15 = .ok (.aload_n 0, 1) := by decide +kernel
theorem dX57_number_16 : decode cX57_number 16 = .ok (.iload_n 1, 1) := by decide +kernel
theorem dX57_number_17 : decode cX57_number 17 = .ok (.iconst 2, 1) := by decide +kernel
theorem dX57_number_18 : decode cX57_number 18 = .ok (.iadd, 1) := by decide +kernel
theorem dX57_number_19 : decode cX57_number 19 = .ok (.iaload, 1) := by decide +kernel
theorem dX57_number_20 : decode cX57_number 20 = .ok (.bipush 8, 2) := by decide +kernel
theorem dX57_number_22 : decode cX57_number 22 = .ok (.ishl, 1) := by decide +kernel
theorem dX57_number_23 : decode cX57_number 23 = .ok (.ior, 1) := by decide +kernel
theorem dX57_number_24 : decode cX57_number 24 = .ok (.aload_n 0, 1) := by decide +kernel
theorem dX57_number_25 : decode cX57_number 25 = .ok (.iload_n 1, 1) := by decide +kernel
theorem dX57_number_26 : decode cX57_number 26 = .ok (.iconst 3, 1) := by decide +kernel
theorem dX57_number_27 : decode cX57_number 27 = .ok (.iadd, 1) := by decide +kernel
theorem dX57_number_28 : decode cX57_number 28 = .ok (.iaload, 1) := by decide +kernel
theorem dX57_number_29 : decode cX57_number 29 = .ok (.ior, 1) := by decide +kernel
theorem dX57_number_30 : decode cX57_number 30 = .ok (.ireturn, 1) := by decide +kernel
abbrev cX57_turned : ByteArray := prog_84_method_19_code
def yX57_turned : MethodName := ⟨RX57, "turned", "(J)J"⟩
theorem dX57_turned_0 : decode cX57_turned 0 = .ok (.lload_n 0, 1) := by decide +kernel
theorem dX57_turned_1 : decode cX57_turned 1 = .ok (.bipush 9, 2) := by decide +kernel
theorem dX57_turned_3 : decode cX57_turned 3 = .ok (.lshl, 1) := by decide +kernel
theorem dX57_turned_4 : decode cX57_turned 4 = .ok (.lload_n 0, 1) := by decide +kernel
theorem dX57_turned_5 : decode cX57_turned 5 = .ok (.bipush 55, 2) := by decide +kernel
theorem dX57_turned_7 : decode cX57_turned 7 = .ok (.lushr, 1) := by decide +kernel
theorem dX57_turned_8 : decode cX57_turned 8 = .ok (.lor, 1) := by decide +kernel
theorem dX57_turned_9 : decode cX57_turned 9 = .ok (.ldc2_w 111, 3) := by decide +kernel
theorem dX57_turned_12 : decode cX57_turned 12 = .ok (.lxor, 1) := by decide +kernel
theorem dX57_turned_13 : decode cX57_turned 13 = .ok (.lreturn, 1) := by decide +kernel
abbrev cX57_lay : ByteArray := prog_84_method_20_code
def yX57_lay : MethodName := ⟨RX57, "lay", "(IIIJ)I"⟩
theorem dX57_lay_0 : decode cX57_lay 0 = .ok (.aload_n 0, 1) := by decide +kernel
theorem dX57_lay_1 : decode cX57_lay 1 = .ok (.invokevirtual 113, 3) := by decide +kernel
theorem dX57_lay_4 : decode cX57_lay 4 = .ok (.istore 6, 2) := by decide +kernel
theorem dX57_lay_6 : decode cX57_lay 6 = .ok (.iload_n 2, 1) := by decide +kernel
theorem dX57_lay_7 : decode cX57_lay 7 = .ok (.iconst (-1), 1) := by decide +kernel
theorem dX57_lay_8 : decode cX57_lay 8 = .ok (.if_icmp .eq 16, 3) := by decide +kernel
theorem dX57_lay_11 : decode cX57_lay 11 = .ok (.iload 6, 2) := by decide +kernel
theorem dX57_lay_13 : decode cX57_lay 13 = .ok (.iconst (-1), 1) := by decide +kernel
theorem dX57_lay_14 : decode cX57_lay 14 = .ok (.if_icmp .eq 10, 3) := by decide +kernel
theorem dX57_lay_17 : decode cX57_lay 17 = .ok (.aload_n 0, 1) := by decide +kernel
theorem dX57_lay_18 : decode cX57_lay 18 = .ok (.getfield 117, 3) := by decide +kernel
theorem dX57_lay_21 : decode cX57_lay 21 = .ok (.ifCond .eq 6, 3) := by decide +kernel
theorem dX57_lay_24 : decode cX57_lay 24 = .ok (.bipush (-4), 2) := by decide +kernel
theorem dX57_lay_26 : decode cX57_lay 26 = .ok (.ireturn, 1) := by decide +kernel
theorem dX57_lay_27 : decode cX57_lay 27 = .ok (.iconst 0, 1) := by decide +kernel
theorem dX57_lay_28 : decode cX57_lay 28 = .ok (.istore 7, 2) := by decide +kernel
theorem dX57_lay_30 : decode cX57_lay 30 = .ok (.iload 7, 2) := by decide +kernel
theorem dX57_lay_32 : decode cX57_lay 32 = .ok (.bipush 32, 2) := by decide +kernel
theorem dX57_lay_34 : decode cX57_lay 34 = .ok (.if_icmp .ge 23, 3) := by decide +kernel
theorem dX57_lay_37 : decode cX57_lay 37 = .ok (.aload_n 0, 1) := by decide +kernel
theorem dX57_lay_38 : decode cX57_lay 38 = .ok (.getfield 20, 3) := by decide +kernel
theorem dX57_lay_41 : decode cX57_lay 41 = .ok (.bipush 32, 2) := by decide +kernel
theorem dX57_lay_43 : decode cX57_lay 43 = .ok (.iload 6, 2) := by decide +kernel
theorem dX57_lay_45 : decode cX57_lay 45 = .ok (.imul, 1) := by decide +kernel
theorem dX57_lay_46 : decode cX57_lay 46 = .ok (.iload 7, 2) := by decide +kernel
theorem dX57_lay_48 : decode cX57_lay 48 = .ok (.iadd, 1) := by decide +kernel
theorem dX57_lay_49 : decode cX57_lay 49 = .ok (.iconst 0, 1) := by decide +kernel
theorem dX57_lay_50 : decode cX57_lay 50 = .ok (.iastore, 1) := by decide +kernel
theorem dX57_lay_51 : decode cX57_lay 51 = .ok (.iinc 7 1, 3) := by decide +kernel
theorem dX57_lay_54 : decode cX57_lay 54 = .ok (.goto (-24), 3) := by decide +kernel
theorem dX57_lay_57 : decode cX57_lay 57 = .ok (.aload_n 0, 1) := by decide +kernel
theorem dX57_lay_58 : decode cX57_lay 58 = .ok (.getfield 20, 3) := by decide +kernel
theorem dX57_lay_61 : decode cX57_lay 61 = .ok (.bipush 32, 2) := by decide +kernel
theorem dX57_lay_63 : decode cX57_lay 63 = .ok (.iload 6, 2) := by decide +kernel
theorem dX57_lay_65 : decode cX57_lay 65 = .ok (.imul, 1) := by decide +kernel
theorem dX57_lay_66 : decode cX57_lay 66 = .ok (.iconst 4, 1) := by decide +kernel
theorem dX57_lay_67 : decode cX57_lay 67 = .ok (.iadd, 1) := by decide +kernel
theorem dX57_lay_68 : decode cX57_lay 68 = .ok (.iload_n 1, 1) := by decide +kernel
theorem dX57_lay_69 : decode cX57_lay 69 = .ok (.iastore, 1) := by decide +kernel
theorem dX57_lay_70 : decode cX57_lay 70 = .ok (.aload_n 0, 1) := by decide +kernel
theorem dX57_lay_71 : decode cX57_lay 71 = .ok (.getfield 20, 3) := by decide +kernel
theorem dX57_lay_74 : decode cX57_lay 74 = .ok (.bipush 32, 2) := by decide +kernel
theorem dX57_lay_76 : decode cX57_lay 76 = .ok (.iload 6, 2) := by decide +kernel
theorem dX57_lay_78 : decode cX57_lay 78 = .ok (.imul, 1) := by decide +kernel
theorem dX57_lay_79 : decode cX57_lay 79 = .ok (.iconst 5, 1) := by decide +kernel
theorem dX57_lay_80 : decode cX57_lay 80 = .ok (.iadd, 1) := by decide +kernel
theorem dX57_lay_81 : decode cX57_lay 81 = .ok (.iload_n 2, 1) := by decide +kernel
theorem dX57_lay_82 : decode cX57_lay 82 = .ok (.iastore, 1) := by decide +kernel
theorem dX57_lay_83 : decode cX57_lay 83 = .ok (.aload_n 0, 1) := by decide +kernel
theorem dX57_lay_84 : decode cX57_lay 84 = .ok (.getfield 20, 3) := by decide +kernel
theorem dX57_lay_87 : decode cX57_lay 87 = .ok (.bipush 32, 2) := by decide +kernel
theorem dX57_lay_89 : decode cX57_lay 89 = .ok (.iload 6, 2) := by decide +kernel
theorem dX57_lay_91 : decode cX57_lay 91 = .ok (.imul, 1) := by decide +kernel
theorem dX57_lay_92 : decode cX57_lay 92 = .ok (.bipush 6, 2) := by decide +kernel
theorem dX57_lay_94 : decode cX57_lay 94 = .ok (.iadd, 1) := by decide +kernel
theorem dX57_lay_95 : decode cX57_lay 95 = .ok (.iload_n 3, 1) := by decide +kernel
theorem dX57_lay_96 : decode cX57_lay 96 = .ok (.iastore, 1) := by decide +kernel
theorem dX57_lay_97 : decode cX57_lay 97 = .ok (.aload_n 0, 1) := by decide +kernel
theorem dX57_lay_98 : decode cX57_lay 98 = .ok (.getfield 20, 3) := by decide +kernel
theorem dX57_lay_101 : decode cX57_lay 101 = .ok (.bipush 32, 2) := by decide +kernel
theorem dX57_lay_103 : decode cX57_lay 103 = .ok (.iload 6, 2) := by decide +kernel
theorem dX57_lay_105 : decode cX57_lay 105 = .ok (.imul, 1) := by decide +kernel
theorem dX57_lay_106 : decode cX57_lay 106 = .ok (.bipush 8, 2) := by decide +kernel
theorem dX57_lay_108 : decode cX57_lay 108 = .ok (.iadd, 1) := by decide +kernel
theorem dX57_lay_109 : decode cX57_lay 109 = .ok (.lload 4, 2) := by decide +kernel
theorem dX57_lay_111 : decode cX57_lay 111 = .ok (.invokestatic 120, 3) := by decide +kernel
theorem dX57_lay_114 : decode cX57_lay 114 = .ok (.aload_n 0, 1) := by decide +kernel
theorem dX57_lay_115 : decode cX57_lay 115 = .ok (.getfield 20, 3) := by decide +kernel
theorem dX57_lay_118 : decode cX57_lay 118 = .ok (.iload 6, 2) := by decide +kernel
theorem dX57_lay_120 : decode cX57_lay 120 = .ok (.invokestatic 124, 3) := by decide +kernel
theorem dX57_lay_123 : decode cX57_lay 123 = .ok (.aload_n 0, 1) := by decide +kernel
theorem dX57_lay_124 : decode cX57_lay 124 = .ok (.getfield 27, 3) := by decide +kernel
theorem dX57_lay_127 : decode cX57_lay 127 = .ok (.iload_n 2, 1) := by decide +kernel
theorem dX57_lay_128 : decode cX57_lay 128 = .ok (.iaload, 1) := by decide +kernel
theorem dX57_lay_129 : decode cX57_lay 129 = .ok (.iconst (-1), 1) := by decide +kernel
theorem dX57_lay_130 : decode cX57_lay 130 = .ok (.if_icmp .eq 15, 3) := by decide +kernel
theorem dX57_lay_133 : decode cX57_lay 133 = .ok (.aload_n 0, 1) := by decide +kernel
theorem dX57_lay_134 : decode cX57_lay 134 = .ok (.getfield 23, 3) := by decide +kernel
theorem dX57_lay_137 : decode cX57_lay 137 = .ok (.aload_n 0, 1) := by decide +kernel
theorem dX57_lay_138 : decode cX57_lay 138 = .ok (.getfield 27, 3) := by decide +kernel
theorem dX57_lay_141 : decode cX57_lay 141 = .ok (.iload_n 2, 1) := by decide +kernel
theorem dX57_lay_142 : decode cX57_lay 142 = .ok (.iaload, 1) := by decide +kernel
theorem dX57_lay_143 : decode cX57_lay 143 = .ok (.iconst 0, 1) := by decide +kernel
theorem dX57_lay_144 : decode cX57_lay 144 = .ok (.bastore, 1) := by decide +kernel
theorem dX57_lay_145 : decode cX57_lay 145 = .ok (.aload_n 0, 1) := by decide +kernel
theorem dX57_lay_146 : decode cX57_lay 146 = .ok (.getfield 23, 3) := by decide +kernel
theorem dX57_lay_149 : decode cX57_lay 149 = .ok (.iload 6, 2) := by decide +kernel
theorem dX57_lay_151 : decode cX57_lay 151 = .ok (.iconst 1, 1) := by decide +kernel
theorem dX57_lay_152 : decode cX57_lay 152 = .ok (.bastore, 1) := by decide +kernel
theorem dX57_lay_153 : decode cX57_lay 153 = .ok (.aload_n 0, 1) := by decide +kernel
theorem dX57_lay_154 : decode cX57_lay 154 = .ok (.getfield 27, 3) := by decide +kernel
theorem dX57_lay_157 : decode cX57_lay 157 = .ok (.iload_n 2, 1) := by decide +kernel
theorem dX57_lay_158 : decode cX57_lay 158 = .ok (.iload 6, 2) := by decide +kernel
theorem dX57_lay_160 : decode cX57_lay 160 = .ok (.iastore, 1) := by decide +kernel
theorem dX57_lay_161 : decode cX57_lay 161 = .ok (.aload_n 0, 1) := by decide +kernel
theorem dX57_lay_162 : decode cX57_lay 162 = .ok (.iconst 1, 1) := by decide +kernel
theorem dX57_lay_163 : decode cX57_lay 163 = .ok (.putfield 76, 3) := by decide +kernel
theorem dX57_lay_166 : decode cX57_lay 166 = .ok (.iload_n 2, 1) := by decide +kernel
theorem dX57_lay_167 : decode cX57_lay 167 = .ok (.ireturn, 1) := by decide +kernel
abbrev cX57_freeSector : ByteArray := prog_84_method_17_code
def yX57_freeSector : MethodName := ⟨RX57, "freeSector", "()I"⟩
theorem dX57_freeSector_0 : decode cX57_freeSector 0 = .ok (.iconst 2, 1) := by decide +kernel
theorem dX57_freeSector_1 : decode cX57_freeSector 1 = .ok (.istore_n 1, 1) := by decide +kernel
theorem dX57_freeSector_2 : decode cX57_freeSector 2 = .ok (.iload_n 1, 1) := by decide +kernel
theorem dX57_freeSector_3 : decode cX57_freeSector 3 = .ok (.aload_n 0, 1) := by decide +kernel
theorem dX57_freeSector_4 : decode cX57_freeSector 4 = .ok (.getfield 53, 3) := by decide +kernel
theorem dX57_freeSector_7 : decode cX57_freeSector 7 = .ok (.if_icmp .ge 17, 3) := by decide +kernel
theorem dX57_freeSector_10 : decode cX57_freeSector 10 = .ok (.aload_n 0, 1) := by decide +kernel
theorem dX57_freeSector_11 : decode cX57_freeSector 11 = .ok (.iload_n 1, 1) := by decide +kernel
theorem dX57_freeSector_12 : decode cX57_freeSector 12 = .ok (.invokevirtual 108, 3) := by decide +kernel
theorem dX57_freeSector_15 : decode cX57_freeSector 15 = .ok (.ifCond .eq 9, 3) := by decide +kernel
theorem dX57_freeSector_18 : decode cX57_freeSector 18 = .ok (.iinc 1 1, 3) := by decide +kernel
theorem dX57_freeSector_21 : decode cX57_freeSector 21 = .ok (.goto (-19), 3) := by decide +kernel
theorem dX57_freeSector_24 : decode cX57_freeSector 24 = .ok (.iload_n 1, 1) := by decide +kernel
theorem dX57_freeSector_25 : decode cX57_freeSector 25 = .ok (.aload_n 0, 1) := by decide +kernel
theorem dX57_freeSector_26 : decode cX57_freeSector 26 = .ok (.getfield 53, 3) := by decide +kernel
theorem dX57_freeSector_29 : decode cX57_freeSector 29 = .ok (.if_icmp .ge 7, 3) := by decide +kernel
theorem dX57_freeSector_32 : decode cX57_freeSector 32 = .ok (.iload_n 1, 1) := by decide +kernel
theorem dX57_freeSector_33 : decode cX57_freeSector 33 = .ok (.goto 4, 3) := by decide +kernel
theorem dX57_freeSector_36 : decode cX57_freeSector 36 = .ok (.iconst (-1), 1) := by decide +kernel
theorem dX57_freeSector_37 : decode cX57_freeSector 37 = .ok (.ireturn, 1) := by decide +kernel
abbrev cX57_isHeld : ByteArray := prog_84_method_16_code
def yX57_isHeld : MethodName := ⟨RX57, "isHeld", "(I)Z"⟩
theorem dX57_isHeld_0 : decode cX57_isHeld 0 = .ok (.aload_n 0, 1) := by decide +kernel
theorem dX57_isHeld_1 : decode cX57_isHeld 1 = .ok (.iload_n 1, 1) := by decide +kernel
theorem dX57_isHeld_2 : decode cX57_isHeld 2 = .ok (.invokevirtual 101, 3) := by decide +kernel
theorem dX57_isHeld_5 : decode cX57_isHeld 5 = .ok (.ifCond .ne 11, 3) := by decide +kernel
theorem dX57_isHeld_8 : decode cX57_isHeld 8 = .ok (.aload_n 0, 1) := by decide +kernel
theorem dX57_isHeld_9 : decode cX57_isHeld 9 = .ok (.iload_n 1, 1) := by decide +kernel
theorem dX57_isHeld_10 : decode cX57_isHeld 10 = .ok (.invokevirtual 105, 3) := by decide +kernel
theorem dX57_isHeld_13 : decode cX57_isHeld 13 = .ok (.ifCond .eq 7, 3) := by decide +kernel
theorem dX57_isHeld_16 : decode cX57_isHeld 16 = .ok (.iconst 1, 1) := by decide +kernel
theorem dX57_isHeld_17 : decode cX57_isHeld 17 = .ok (.goto 4, 3) := by decide +kernel
theorem dX57_isHeld_20 : decode cX57_isHeld 20 = .ok (.iconst 0, 1) := by decide +kernel
theorem dX57_isHeld_21 : decode cX57_isHeld 21 = .ok (.istore_n 2, 1) := by decide +kernel
theorem dX57_isHeld_22 : decode cX57_isHeld 22 = .ok (.aload_n 0, 1) := by decide +kernel
theorem dX57_isHeld_23 : decode cX57_isHeld 23 = .ok (.getfield 61, 3) := by decide +kernel
theorem dX57_isHeld_26 : decode cX57_isHeld 26 = .ok (.istore_n 3, 1) := by decide +kernel
theorem dX57_isHeld_27 : decode cX57_isHeld 27 = .ok (.iload_n 3, 1) := by decide +kernel
theorem dX57_isHeld_28 : decode cX57_isHeld 28 = .ok (.aload_n 0, 1) := by decide +kernel
theorem dX57_isHeld_29 : decode cX57_isHeld 29 = .ok (.getfield 64, 3) := by decide +kernel
theorem dX57_isHeld_32 : decode cX57_isHeld 32 = .ok (.if_icmp .gt 34, 3) := by decide +kernel
theorem dX57_isHeld_35 : decode cX57_isHeld 35 = .ok (.iload_n 2, 1) := by decide +kernel
theorem dX57_isHeld_36 : decode cX57_isHeld 36 = .ok (.ifCond .ne 18, 3) := by decide +kernel
theorem dX57_isHeld_39 : decode cX57_isHeld 39 = .ok (.aload_n 0, 1) := by decide +kernel
theorem dX57_isHeld_40 : decode cX57_isHeld 40 = .ok (.getfield 40, 3) := by decide +kernel
theorem dX57_isHeld_43 : decode cX57_isHeld 43 = .ok (.iload_n 3, 1) := by decide +kernel
theorem dX57_isHeld_44 : decode cX57_isHeld 44 = .ok (.laload, 1) := by decide +kernel
theorem dX57_isHeld_45 : decode cX57_isHeld 45 = .ok (.iload_n 1, 1) := by decide +kernel
theorem dX57_isHeld_46 : decode cX57_isHeld 46 = .ok (.lshr, 1) := by decide +kernel
theorem dX57_isHeld_47 : decode cX57_isHeld 47 = .ok (.lconst 1, 1) := by decide +kernel
theorem dX57_isHeld_48 : decode cX57_isHeld 48 = .ok (.land, 1) := by decide +kernel
theorem dX57_isHeld_49 : decode cX57_isHeld 49 = .ok (.lconst 1, 1) := by decide +kernel
theorem dX57_isHeld_50 : decode cX57_isHeld 50 = .ok (.lcmp, 1) := by decide +kernel
theorem dX57_isHeld_51 : decode cX57_isHeld 51 = .ok (.ifCond .ne 7, 3) := by decide +kernel
theorem dX57_isHeld_54 : decode cX57_isHeld 54 = .ok (.iconst 1, 1) := by decide +kernel
theorem dX57_isHeld_55 : decode cX57_isHeld 55 = .ok (.goto 4, 3) := by decide +kernel
theorem dX57_isHeld_58 : decode cX57_isHeld 58 = .ok (.iconst 0, 1) := by decide +kernel
theorem dX57_isHeld_59 : decode cX57_isHeld 59 = .ok (.istore_n 2, 1) := by decide +kernel
theorem dX57_isHeld_60 : decode cX57_isHeld 60 = .ok (.iinc 3 1, 3) := by decide +kernel
theorem dX57_isHeld_63 : decode cX57_isHeld 63 = .ok (.goto (-36), 3) := by decide +kernel
theorem dX57_isHeld_66 : decode cX57_isHeld 66 = .ok (.iconst 0, 1) := by decide +kernel
theorem dX57_isHeld_67 : decode cX57_isHeld 67 = .ok (.istore_n 3, 1) := by decide +kernel
theorem dX57_isHeld_68 : decode cX57_isHeld 68 = .ok (.iload_n 3, 1) := by decide +kernel
theorem dX57_isHeld_69 : decode cX57_isHeld 69 = .ok (.aload_n 0, 1) := by decide +kernel
theorem dX57_isHeld_70 : decode cX57_isHeld 70 = .ok (.getfield 67, 3) := by decide +kernel
theorem dX57_isHeld_73 : decode cX57_isHeld 73 = .ok (.if_icmp .ge 34, 3) := by decide +kernel
theorem dX57_isHeld_76 : decode cX57_isHeld 76 = .ok (.iload_n 2, 1) := by decide +kernel
theorem dX57_isHeld_77 : decode cX57_isHeld 77 = .ok (.ifCond .ne 18, 3) := by decide +kernel
theorem dX57_isHeld_80 : decode cX57_isHeld 80 = .ok (.aload_n 0, 1) := by decide +kernel
theorem dX57_isHeld_81 : decode cX57_isHeld 81 = .ok (.getfield 47, 3) := by decide +kernel
theorem dX57_isHeld_84 : decode cX57_isHeld 84 = .ok (.iload_n 3, 1) := by decide +kernel
theorem dX57_isHeld_85 : decode cX57_isHeld 85 = .ok (.laload, 1) := by decide +kernel
theorem dX57_isHeld_86 : decode cX57_isHeld 86 = .ok (.iload_n 1, 1) := by decide +kernel
theorem dX57_isHeld_87 : decode cX57_isHeld 87 = .ok (.lshr, 1) := by decide +kernel
theorem dX57_isHeld_88 : decode cX57_isHeld 88 = .ok (.lconst 1, 1) := by decide +kernel
theorem dX57_isHeld_89 : decode cX57_isHeld 89 = .ok (.land, 1) := by decide +kernel
theorem dX57_isHeld_90 : decode cX57_isHeld 90 = .ok (.lconst 1, 1) := by decide +kernel
theorem dX57_isHeld_91 : decode cX57_isHeld 91 = .ok (.lcmp, 1) := by decide +kernel
theorem dX57_isHeld_92 : decode cX57_isHeld 92 = .ok (.ifCond .ne 7, 3) := by decide +kernel
theorem dX57_isHeld_95 : decode cX57_isHeld 95 = .ok (.iconst 1, 1) := by decide +kernel
theorem dX57_isHeld_96 : decode cX57_isHeld 96 = .ok (.goto 4, 3) := by decide +kernel
theorem dX57_isHeld_99 : decode cX57_isHeld 99 = .ok (.iconst 0, 1) := by decide +kernel
theorem dX57_isHeld_100 : decode cX57_isHeld 100 = .ok (.istore_n 2, 1) := by decide +kernel
theorem dX57_isHeld_101 : decode cX57_isHeld 101 = .ok (.iinc 3 1, 3) := by decide +kernel
theorem dX57_isHeld_104 : decode cX57_isHeld 104 = .ok (.goto (-36), 3) := by decide +kernel
theorem dX57_isHeld_107 : decode cX57_isHeld 107 = .ok (.iload_n 2, 1) := by decide +kernel
theorem dX57_isHeld_108 : decode cX57_isHeld 108 = .ok (.ireturn, 1) := by decide +kernel
abbrev cX57_isOpen : ByteArray := prog_84_method_14_code
def yX57_isOpen : MethodName := ⟨RX57, "isOpen", "(I)Z"⟩
theorem dX57_isOpen_0 : decode cX57_isOpen 0 = .ok (.iconst 0, 1) := by decide +kernel
theorem dX57_isOpen_1 : decode cX57_isOpen 1 = .ok (.istore_n 2, 1) := by decide +kernel
theorem dX57_isOpen_2 : decode cX57_isOpen 2 = .ok (.iconst 0, 1) := by decide +kernel
theorem dX57_isOpen_3 : decode cX57_isOpen 3 = .ok (.istore_n 3, 1) := by decide +kernel
theorem dX57_isOpen_4 : decode cX57_isOpen 4 = .ok (.iload_n 3, 1) := by decide +kernel
theorem dX57_isOpen_5 : decode cX57_isOpen 5 = .ok (.bipush 30, 2) := by decide +kernel
theorem dX57_isOpen_7 : decode cX57_isOpen 7 = .ok (.if_icmp .ge 29, 3) := by decide +kernel
theorem dX57_isOpen_10 : decode cX57_isOpen 10 = .ok (.iload_n 2, 1) := by decide +kernel
theorem dX57_isOpen_11 : decode cX57_isOpen 11 = .ok (.ifCond .ne 13, 3) := by decide +kernel
theorem dX57_isOpen_14 : decode cX57_isOpen 14 = .ok (.aload_n 0, 1) := by decide +kernel
theorem dX57_isOpen_15 : decode cX57_isOpen 15 = .ok (.getfield 27, 3) := by decide +kernel
theorem dX57_isOpen_18 : decode cX57_isOpen 18 = .ok (.iload_n 3, 1) := by decide +kernel
theorem dX57_isOpen_19 : decode cX57_isOpen 19 = .ok (.iaload, 1) := by decide +kernel
theorem dX57_isOpen_20 : decode cX57_isOpen 20 = .ok (.iload_n 1, 1) := by decide +kernel
theorem dX57_isOpen_21 : decode cX57_isOpen 21 = .ok (.if_icmp .ne 7, 3) := by decide +kernel
theorem dX57_isOpen_24 : decode cX57_isOpen 24 = .ok (.iconst 1, 1) := by decide +kernel
theorem dX57_isOpen_25 : decode cX57_isOpen 25 = .ok (.goto 4, 3) := by decide +kernel
theorem dX57_isOpen_28 : decode cX57_isOpen 28 = .ok (.iconst 0, 1) := by decide +kernel
theorem dX57_isOpen_29 : decode cX57_isOpen 29 = .ok (.istore_n 2, 1) := by decide +kernel
theorem dX57_isOpen_30 : decode cX57_isOpen 30 = .ok (.iinc 3 1, 3) := by decide +kernel
theorem dX57_isOpen_33 : decode cX57_isOpen 33 = .ok (.goto (-29), 3) := by decide +kernel
theorem dX57_isOpen_36 : decode cX57_isOpen 36 = .ok (.iload_n 2, 1) := by decide +kernel
theorem dX57_isOpen_37 : decode cX57_isOpen 37 = .ok (.ireturn, 1) := by decide +kernel
abbrev cX57_isWaiting : ByteArray := prog_84_method_15_code
def yX57_isWaiting : MethodName := ⟨RX57, "isWaiting", "(I)Z"⟩
theorem dX57_isWaiting_0 : decode cX57_isWaiting 0 = .ok (.iconst 0, 1) := by decide +kernel
theorem dX57_isWaiting_1 : decode cX57_isWaiting 1 = .ok (.istore_n 2, 1) := by decide +kernel
theorem dX57_isWaiting_2 : decode cX57_isWaiting 2 = .ok (.aload_n 0, 1) := by decide +kernel
theorem dX57_isWaiting_3 : decode cX57_isWaiting 3 = .ok (.getfield 70, 3) := by decide +kernel
theorem dX57_isWaiting_6 : decode cX57_isWaiting 6 = .ok (.istore_n 3, 1) := by decide +kernel
theorem dX57_isWaiting_7 : decode cX57_isWaiting 7 = .ok (.iload_n 3, 1) := by decide +kernel
theorem dX57_isWaiting_8 : decode cX57_isWaiting 8 = .ok (.aload_n 0, 1) := by decide +kernel
theorem dX57_isWaiting_9 : decode cX57_isWaiting 9 = .ok (.getfield 73, 3) := by decide +kernel
theorem dX57_isWaiting_12 : decode cX57_isWaiting 12 = .ok (.if_icmp .ge 29, 3) := by decide +kernel
theorem dX57_isWaiting_15 : decode cX57_isWaiting 15 = .ok (.iload_n 2, 1) := by decide +kernel
theorem dX57_isWaiting_16 : decode cX57_isWaiting 16 = .ok (.ifCond .ne 13, 3) := by decide +kernel
theorem dX57_isWaiting_19 : decode cX57_isWaiting 19 = .ok (.aload_n 0, 1) := by decide +kernel
theorem dX57_isWaiting_20 : decode cX57_isWaiting 20 = .ok (.getfield 30, 3) := by decide +kernel
theorem dX57_isWaiting_23 : decode cX57_isWaiting 23 = .ok (.iload_n 3, 1) := by decide +kernel
theorem dX57_isWaiting_24 : decode cX57_isWaiting 24 = .ok (.iaload, 1) := by decide +kernel
theorem dX57_isWaiting_25 : decode cX57_isWaiting 25 = .ok (.iload_n 1, 1) := by decide +kernel
theorem dX57_isWaiting_26 : decode cX57_isWaiting 26 = .ok (.if_icmp .ne 7, 3) := by decide +kernel
theorem dX57_isWaiting_29 : decode cX57_isWaiting 29 = .ok (.iconst 1, 1) := by decide +kernel
theorem dX57_isWaiting_30 : decode cX57_isWaiting 30 = .ok (.goto 4, 3) := by decide +kernel
theorem dX57_isWaiting_33 : decode cX57_isWaiting 33 = .ok (.iconst 0, 1) := by decide +kernel
theorem dX57_isWaiting_34 : decode cX57_isWaiting 34 = .ok (.istore_n 2, 1) := by decide +kernel
theorem dX57_isWaiting_35 : decode cX57_isWaiting 35 = .ok (.iinc 3 1, 3) := by decide +kernel
theorem dX57_isWaiting_38 : decode cX57_isWaiting 38 = .ok (.goto (-31), 3) := by decide +kernel
theorem dX57_isWaiting_41 : decode cX57_isWaiting 41 = .ok (.iload_n 2, 1) := by decide +kernel
theorem dX57_isWaiting_42 : decode cX57_isWaiting 42 = .ok (.ireturn, 1) := by decide +kernel
abbrev cX57_setWide : ByteArray := prog_84_method_9_code
def yX57_setWide : MethodName := ⟨RX57, "setWide", "([IIJ)V"⟩
theorem dX57_setWide_0 : decode cX57_setWide 0 = .ok (.aload_n 0, 1) := by decide +kernel
theorem dX57_setWide_1 : decode cX57_setWide 1 = .ok (.iload_n 1, 1) := by decide +kernel
theorem dX57_setWide_2 : decode cX57_setWide 2 = .ok (.lload_n 2, 1) := by decide +kernel
theorem dX57_setWide_3 : decode cX57_setWide 3 = .ok (.bipush 32, 2) := by decide +kernel
theorem dX57_setWide_5 : decode cX57_setWide 5 = .ok (.lshr, 1) := by decide +kernel
theorem dX57_setWide_6 : decode cX57_setWide 6 = .ok (.l2i, 1) := by decide +kernel
theorem dX57_setWide_7 : decode cX57_setWide 7 = .ok (.invokestatic 84, 3) := by decide +kernel
theorem dX57_setWide_10 : decode cX57_setWide 10 = .ok (.aload_n 0, 1) := by decide +kernel
theorem dX57_setWide_11 : decode cX57_setWide 11 = .ok (.iload_n 1, 1) := by decide +kernel
theorem dX57_setWide_12 : decode cX57_setWide 12 = .ok (.iconst 4, 1) := by decide +kernel
theorem dX57_setWide_13 : decode cX57_setWide 13 = .ok (.iadd, 1) := by decide +kernel
theorem dX57_setWide_14 : decode cX57_setWide 14 = .ok (.lload_n 2, 1) := by decide +kernel
theorem dX57_setWide_15 : decode cX57_setWide 15 = .ok (.l2i, 1) := by decide +kernel
theorem dX57_setWide_16 : decode cX57_setWide 16 = .ok (.invokestatic 84, 3) := by decide +kernel
theorem dX57_setWide_19 : decode cX57_setWide 19 = .ok (.return_, 1) := by decide +kernel
abbrev cX57_set : ByteArray := prog_84_method_4_code
def yX57_set : MethodName := ⟨RX57, "set", "([III)V"⟩
theorem dX57_set_0 : decode cX57_set 0 = .ok (.iconst 0, 1) := by decide +kernel
theorem dX57_set_1 : decode cX57_set 1 = .ok (.istore_n 3, 1) := by decide +kernel
theorem dX57_set_2 : decode cX57_set 2 = .ok (.iload_n 3, 1) := by decide +kernel
theorem dX57_set_3 : decode cX57_set 3 = .ok (.iconst 4, 1) := by decide +kernel
theorem dX57_set_4 : decode cX57_set 4 = .ok (.if_icmp .ge 27, 3) := by decide +kernel
theorem dX57_set_7 : decode cX57_set 7 = .ok (.aload_n 0, 1) := by decide +kernel
theorem dX57_set_8 : decode cX57_set 8 = .ok (.iload_n 1, 1) := by decide +kernel
theorem dX57_set_9 : decode cX57_set 9 = .ok (.iload_n 3, 1) := by decide +kernel
theorem dX57_set_10 : decode cX57_set 10 = .ok (.iadd, 1) := by decide +kernel
theorem dX57_set_11 : decode cX57_set 11 = .ok (.iload_n 2, 1) := by decide +kernel
theorem dX57_set_12 : decode cX57_set 12 = .ok (.bipush 24, 2) := by decide +kernel
theorem dX57_set_14 : decode cX57_set 14 = .ok (.bipush 8, 2) := by decide +kernel
theorem dX57_set_16 : decode cX57_set 16 = .ok (.iload_n 3, 1) := by decide +kernel
theorem dX57_set_17 : decode cX57_set 17 = .ok (.imul, 1) := by decide +kernel
theorem dX57_set_18 : decode cX57_set 18 = .ok (.isub, 1) := by decide +kernel
theorem dX57_set_19 : decode cX57_set 19 = .ok (.ishr, 1) := by decide +kernel
theorem dX57_set_20 : decode cX57_set 20 = .ok (.sipush 255, 3) := by decide +kernel
theorem dX57_set_23 : decode cX57_set 23 = .ok (.iand, 1) := by decide +kernel
theorem dX57_set_24 : decode cX57_set 24 = .ok (.iastore, 1) := by decide +kernel
theorem dX57_set_25 : decode cX57_set 25 = .ok (.iinc 3 1, 3) := by decide +kernel
theorem dX57_set_28 : decode cX57_set 28 = .ok (.goto (-26), 3) := by decide +kernel
theorem dX57_set_31 : decode cX57_set 31 = .ok (.return_, 1) := by decide +kernel
abbrev cX57_close : ByteArray := prog_84_method_6_code
def yX57_close : MethodName := ⟨RX57, "close", "([II)V"⟩
theorem dX57_close_0 : decode cX57_close 0 = .ok (.aload_n 0, 1) := by decide +kernel
theorem dX57_close_1 : decode cX57_close 1 = .ok (.bipush 32, 2) := by decide +kernel
theorem dX57_close_3 : decode cX57_close 3 = .ok (.iload_n 1, 1) := by decide +kernel
theorem dX57_close_4 : decode cX57_close 4 = .ok (.imul, 1) := by decide +kernel
theorem dX57_close_5 : decode cX57_close 5 = .ok (.aload_n 0, 1) := by decide +kernel
theorem dX57_close_6 : decode cX57_close 6 = .ok (.iload_n 1, 1) := by decide +kernel
theorem dX57_close_7 : decode cX57_close 7 = .ok (.invokestatic 80, 3) := by decide +kernel
theorem dX57_close_10 : decode cX57_close 10 = .ok (.invokestatic 84, 3) := by decide +kernel
theorem dX57_close_13 : decode cX57_close 13 = .ok (.return_, 1) := by decide +kernel
abbrev cX57_sum : ByteArray := prog_84_method_5_code
def yX57_sum : MethodName := ⟨RX57, "sum", "([II)I"⟩
theorem dX57_sum_0 : decode cX57_sum 0 = .ok (.iconst 0, 1) := by decide +kernel
theorem dX57_sum_1 : decode cX57_sum 1 = .ok (.istore_n 2, 1) := by decide +kernel
theorem dX57_sum_2 : decode cX57_sum 2 = .ok (.iconst 4, 1) := by decide +kernel
theorem dX57_sum_3 : decode cX57_sum 3 = .ok (.istore_n 3, 1) := by decide +kernel
theorem dX57_sum_4 : decode cX57_sum 4 = .ok (.iload_n 3, 1) := by decide +kernel
theorem dX57_sum_5 : decode cX57_sum 5 = .ok (.bipush 32, 2) := by decide +kernel
theorem dX57_sum_7 : decode cX57_sum 7 = .ok (.if_icmp .ge 36, 3) := by decide +kernel
theorem dX57_sum_10 : decode cX57_sum 10 = .ok (.iload_n 2, 1) := by decide +kernel
theorem dX57_sum_11 : decode cX57_sum 11 = .ok (.aload_n 0, 1) := by decide +kernel
theorem dX57_sum_12 : decode cX57_sum 12 = .ok (.bipush 32, 2) := by decide +kernel
theorem dX57_sum_14 : decode cX57_sum 14 = .ok (.iload_n 1, 1) := by decide +kernel
theorem dX57_sum_15 : decode cX57_sum 15 = .ok (.imul, 1) := by decide +kernel
theorem dX57_sum_16 : decode cX57_sum 16 = .ok (.iload_n 3, 1) := by decide +kernel
theorem dX57_sum_17 : decode cX57_sum 17 = .ok (.iadd, 1) := by decide +kernel
theorem dX57_sum_18 : decode cX57_sum 18 = .ok (.iaload, 1) := by decide +kernel
theorem dX57_sum_19 : decode cX57_sum 19 = .ok (.ixor, 1) := by decide +kernel
theorem dX57_sum_20 : decode cX57_sum 20 = .ok (.istore 4, 2) := by decide +kernel
theorem dX57_sum_22 : decode cX57_sum 22 = .ok (.iload 4, 2) := by decide +kernel
theorem dX57_sum_24 : decode cX57_sum 24 = .ok (.bipush 11, 2) := by decide +kernel
theorem dX57_sum_26 : decode cX57_sum 26 = .ok (.ishl, 1) := by decide +kernel
theorem dX57_sum_27 : decode cX57_sum 27 = .ok (.iload 4, 2) := by decide +kernel
theorem dX57_sum_29 : decode cX57_sum 29 = .ok (.bipush 21, 2) := by decide +kernel
theorem dX57_sum_31 : decode cX57_sum 31 = .ok (.iushr, 1) := by decide +kernel
theorem dX57_sum_32 : decode cX57_sum 32 = .ok (.ior, 1) := by decide +kernel
theorem dX57_sum_33 : decode cX57_sum 33 = .ok (.ldc 79, 2) := by decide +kernel
theorem dX57_sum_35 : decode cX57_sum 35 = .ok (.imul, 1) := by decide +kernel
theorem dX57_sum_36 : decode cX57_sum 36 = .ok (.istore_n 2, 1) := by decide +kernel
theorem dX57_sum_37 : decode cX57_sum 37 = .ok (.iinc 3 1, 3) := by decide +kernel
theorem dX57_sum_40 : decode cX57_sum 40 = .ok (.goto (-36), 3) := by decide +kernel
theorem dX57_sum_43 : decode cX57_sum 43 = .ok (.iload_n 2, 1) := by decide +kernel
theorem dX57_sum_44 : decode cX57_sum 44 = .ok (.ireturn, 1) := by decide +kernel
abbrev cX57_commit : ByteArray := prog_84_method_24_code
def yX57_commit : MethodName := ⟨RX57, "commit", "(I)I"⟩
theorem dX57_commit_0 : decode cX57_commit 0 = .ok (.aload_n 0, 1) := by decide +kernel
theorem dX57_commit_1 : decode cX57_commit 1 = .ok (.getfield 7, 3) := by decide +kernel
theorem dX57_commit_4 : decode cX57_commit 4 = .ok (.ifCond .eq 10, 3) := by decide +kernel
theorem dX57_commit_7 : decode cX57_commit 7 = .ok (.aload_n 0, 1) := by decide +kernel
theorem dX57_commit_8 : decode cX57_commit 8 = .ok (.getfield 76, 3) := by decide +kernel
theorem dX57_commit_11 : decode cX57_commit 11 = .ok (.ifCond .ne 6, 3) := by decide +kernel
theorem dX57_commit_14 : decode cX57_commit 14 = .ok (.bipush (-3), 2) := by decide +kernel
theorem dX57_commit_16 : decode cX57_commit 16 = .ok (.ireturn, 1) := by decide +kernel
theorem dX57_commit_17 : decode cX57_commit 17 = .ok (.iload_n 1, 1) := by decide +kernel
theorem dX57_commit_18 : decode cX57_commit 18 = .ok (.aload_n 0, 1) := by decide +kernel
theorem dX57_commit_19 : decode cX57_commit 19 = .ok (.getfield 37, 3) := by decide +kernel
theorem dX57_commit_22 : decode cX57_commit 22 = .ok (.aload_n 0, 1) := by decide +kernel
theorem dX57_commit_23 : decode cX57_commit 23 = .ok (.getfield 64, 3) := by decide +kernel
theorem dX57_commit_26 : decode cX57_commit 26 = .ok (.iaload, 1) := by decide +kernel
theorem dX57_commit_27 : decode cX57_commit 27 = .ok (.if_icmp .le 9, 3) := by decide +kernel
theorem dX57_commit_30 : decode cX57_commit 30 = .ok (.iload_n 1, 1) := by decide +kernel
theorem dX57_commit_31 : decode cX57_commit 31 = .ok (.ldc 154, 2) := by decide +kernel
theorem dX57_commit_33 : decode cX57_commit 33 = .ok (.if_icmp .le 6, 3) := by decide +kernel
theorem dX57_commit_36 : decode cX57_commit 36 = .ok (.bipush (-2), 2) := by decide +kernel
theorem dX57_commit_38 : decode cX57_commit 38 = .ok (.ireturn, 1) := by decide +kernel
theorem dX57_commit_39 : decode cX57_commit 39 = .ok (.aload_n 0, 1) := by decide +kernel
theorem dX57_commit_40 : decode cX57_commit 40 = .ok (.getfield 73, 3) := by decide +kernel
theorem dX57_commit_43 : decode cX57_commit 43 = .ok (.istore_n 2, 1) := by decide +kernel
theorem dX57_commit_44 : decode cX57_commit 44 = .ok (.iconst 2, 1) := by decide +kernel
theorem dX57_commit_45 : decode cX57_commit 45 = .ok (.istore_n 3, 1) := by decide +kernel
theorem dX57_commit_46 : decode cX57_commit 46 = .ok (.iload_n 3, 1) := by decide +kernel
theorem dX57_commit_47 : decode cX57_commit 47 = .ok (.aload_n 0, 1) := by decide +kernel
theorem dX57_commit_48 : decode cX57_commit 48 = .ok (.getfield 53, 3) := by decide +kernel
theorem dX57_commit_51 : decode cX57_commit 51 = .ok (.if_icmp .ge 61, 3) := by decide +kernel
theorem dX57_commit_54 : decode cX57_commit 54 = .ok (.aload_n 0, 1) := by decide +kernel
theorem dX57_commit_55 : decode cX57_commit 55 = .ok (.getfield 23, 3) := by decide +kernel
theorem dX57_commit_58 : decode cX57_commit 58 = .ok (.iload_n 3, 1) := by decide +kernel
theorem dX57_commit_59 : decode cX57_commit 59 = .ok (.baload, 1) := by decide +kernel
theorem dX57_commit_60 : decode cX57_commit 60 = .ok (.ifCond .ne 6, 3) := by decide +kernel
theorem dX57_commit_63 : decode cX57_commit 63 = .ok (.goto 43, 3) := by decide +kernel
theorem dX57_commit_66 : decode cX57_commit 66 = .ok (.aload_n 0, 1) := by decide +kernel
theorem dX57_commit_67 : decode cX57_commit 67 = .ok (.getfield 20, 3) := by decide +kernel
theorem dX57_commit_70 : decode cX57_commit 70 = .ok (.bipush 32, 2) := by decide +kernel
theorem dX57_commit_72 : decode cX57_commit 72 = .ok (.iload_n 3, 1) := by decide +kernel
theorem dX57_commit_73 : decode cX57_commit 73 = .ok (.imul, 1) := by decide +kernel
theorem dX57_commit_74 : decode cX57_commit 74 = .ok (.bipush 16, 2) := by decide +kernel
theorem dX57_commit_76 : decode cX57_commit 76 = .ok (.iadd, 1) := by decide +kernel
theorem dX57_commit_77 : decode cX57_commit 77 = .ok (.iload_n 1, 1) := by decide +kernel
theorem dX57_commit_78 : decode cX57_commit 78 = .ok (.invokestatic 84, 3) := by decide +kernel
theorem dX57_commit_81 : decode cX57_commit 81 = .ok (.aload_n 0, 1) := by decide +kernel
theorem dX57_commit_82 : decode cX57_commit 82 = .ok (.getfield 20, 3) := by decide +kernel
theorem dX57_commit_85 : decode cX57_commit 85 = .ok (.iload_n 3, 1) := by decide +kernel
theorem dX57_commit_86 : decode cX57_commit 86 = .ok (.invokestatic 124, 3) := by decide +kernel
theorem dX57_commit_89 : decode cX57_commit 89 = .ok (.aload_n 0, 1) := by decide +kernel
theorem dX57_commit_90 : decode cX57_commit 90 = .ok (.getfield 23, 3) := by decide +kernel
theorem dX57_commit_93 : decode cX57_commit 93 = .ok (.iload_n 3, 1) := by decide +kernel
theorem dX57_commit_94 : decode cX57_commit 94 = .ok (.iconst 0, 1) := by decide +kernel
theorem dX57_commit_95 : decode cX57_commit 95 = .ok (.bastore, 1) := by decide +kernel
theorem dX57_commit_96 : decode cX57_commit 96 = .ok (.aload_n 0, 1) := by decide +kernel
theorem dX57_commit_97 : decode cX57_commit 97 = .ok (.aload_n 0, 1) := by decide +kernel
theorem dX57_commit_98 : decode cX57_commit 98 = .ok (.getfield 20, 3) := by decide +kernel
theorem dX57_commit_101 : decode cX57_commit 101 = .ok (.iload_n 3, 1) := by decide +kernel
theorem dX57_commit_102 : decode cX57_commit 102 = .ok (.iload_n 3, 1) := by decide +kernel
theorem dX57_commit_103 : decode cX57_commit 103 = .ok (.invokevirtual 155, 3) := by decide +kernel
theorem dX57_commit_106 : decode cX57_commit 106 = .ok (.iinc 3 1, 3) := by decide +kernel
theorem dX57_commit_109 : decode cX57_commit 109 = .ok (.goto (-63), 3) := by decide +kernel
theorem dX57_commit_112 : decode cX57_commit 112 = .ok (.lconst 0, 1) := by decide +kernel
theorem dX57_commit_113 : decode cX57_commit 113 = .ok (.lstore_n 3, 1) := by decide +kernel
theorem dX57_commit_114 : decode cX57_commit 114 = .ok (.iconst 0, 1) := by decide +kernel
theorem dX57_commit_115 : decode cX57_commit 115 = .ok (.istore 5, 2) := by decide +kernel
theorem dX57_commit_117 : decode cX57_commit 117 = .ok (.iconst 2, 1) := by decide +kernel
theorem dX57_commit_118 : decode cX57_commit 118 = .ok (.istore 6, 2) := by decide +kernel
theorem dX57_commit_120 : decode cX57_commit 120 = .ok (.iload 6, 2) := by decide +kernel
theorem dX57_commit_122 : decode cX57_commit 122 = .ok (.aload_n 0, 1) := by decide +kernel
theorem dX57_commit_123 : decode cX57_commit 123 = .ok (.getfield 53, 3) := by decide +kernel
theorem dX57_commit_126 : decode cX57_commit 126 = .ok (.if_icmp .ge 45, 3) := by decide +kernel
theorem dX57_commit_129 : decode cX57_commit 129 = .ok (.aload_n 0, 1) := by decide +kernel
theorem dX57_commit_130 : decode cX57_commit 130 = .ok (.iload 6, 2) := by decide +kernel
theorem dX57_commit_132 : decode cX57_commit 132 = .ok (.invokevirtual 101, 3) := by decide +kernel
theorem dX57_commit_135 : decode cX57_commit 135 = .ok (.ifCond .ne 6, 3) := by decide +kernel
theorem dX57_commit_138 : decode cX57_commit 138 = .ok (.goto 27, 3) := by decide +kernel
theorem dX57_commit_141 : decode cX57_commit 141 = .ok (.lload_n 3, 1) := by decide +kernel
theorem dX57_commit_142 : decode cX57_commit 142 = .ok (.lconst 1, 1) := by decide +kernel
theorem dX57_commit_143 : decode cX57_commit 143 = .ok (.iload 6, 2) := by decide +kernel
theorem dX57_commit_145 : decode cX57_commit 145 = .ok (.lshl, 1) := by decide +kernel
theorem dX57_commit_146 : decode cX57_commit 146 = .ok (.lor, 1) := by decide +kernel
theorem dX57_commit_147 : decode cX57_commit 147 = .ok (.lstore_n 3, 1) := by decide +kernel
theorem dX57_commit_148 : decode cX57_commit 148 = .ok (.iload 5, 2) := by decide +kernel
theorem dX57_commit_150 : decode cX57_commit 150 = .ok (.aload_n 0, 1) := by decide +kernel
theorem dX57_commit_151 : decode cX57_commit 151 = .ok (.getfield 17, 3) := by decide +kernel
theorem dX57_commit_154 : decode cX57_commit 154 = .ok (.bipush 32, 2) := by decide +kernel
theorem dX57_commit_156 : decode cX57_commit 156 = .ok (.iload 6, 2) := by decide +kernel
theorem dX57_commit_158 : decode cX57_commit 158 = .ok (.imul, 1) := by decide +kernel
theorem dX57_commit_159 : decode cX57_commit 159 = .ok (.invokestatic 88, 3) := by decide +kernel
theorem dX57_commit_162 : decode cX57_commit 162 = .ok (.ixor, 1) := by decide +kernel
theorem dX57_commit_163 : decode cX57_commit 163 = .ok (.istore 5, 2) := by decide +kernel
theorem dX57_commit_165 : decode cX57_commit 165 = .ok (.iinc 6 1, 3) := by decide +kernel
theorem dX57_commit_168 : decode cX57_commit 168 = .ok (.goto (-48), 3) := by decide +kernel
theorem dX57_commit_171 : decode cX57_commit 171 = .ok (.iconst 0, 1) := by decide +kernel
theorem dX57_commit_172 : decode cX57_commit 172 = .ok (.istore 6, 2) := by decide +kernel
theorem dX57_commit_174 : decode cX57_commit 174 = .ok (.iload 6, 2) := by decide +kernel
theorem dX57_commit_176 : decode cX57_commit 176 = .ok (.bipush 32, 2) := by decide +kernel
theorem dX57_commit_178 : decode cX57_commit 178 = .ok (.if_icmp .ge 17, 3) := by decide +kernel
theorem dX57_commit_181 : decode cX57_commit 181 = .ok (.aload_n 0, 1) := by decide +kernel
theorem dX57_commit_182 : decode cX57_commit 182 = .ok (.getfield 50, 3) := by decide +kernel
theorem dX57_commit_185 : decode cX57_commit 185 = .ok (.iload 6, 2) := by decide +kernel
theorem dX57_commit_187 : decode cX57_commit 187 = .ok (.iconst 0, 1) := by decide +kernel
theorem dX57_commit_188 : decode cX57_commit 188 = .ok (.iastore, 1) := by decide +kernel
theorem dX57_commit_189 : decode cX57_commit 189 = .ok (.iinc 6 1, 3) := by decide +kernel
theorem dX57_commit_192 : decode cX57_commit 192 = .ok (.goto (-18), 3) := by decide +kernel
theorem dX57_commit_195 : decode cX57_commit 195 = .ok (.aload_n 0, 1) := by decide +kernel
theorem dX57_commit_196 : decode cX57_commit 196 = .ok (.getfield 50, 3) := by decide +kernel
theorem dX57_commit_199 : decode cX57_commit 199 = .ok (.iconst 4, 1) := by decide +kernel
theorem dX57_commit_200 : decode cX57_commit 200 = .ok (.bipush 9, 2) := by decide +kernel
theorem dX57_commit_202 : decode cX57_commit 202 = .ok (.iastore, 1) := by decide +kernel
theorem dX57_commit_203 : decode cX57_commit 203 = .ok (.aload_n 0, 1) := by decide +kernel
theorem dX57_commit_204 : decode cX57_commit 204 = .ok (.getfield 50, 3) := by decide +kernel
theorem dX57_commit_207 : decode cX57_commit 207 = .ok (.bipush 8, 2) := by decide +kernel
theorem dX57_commit_209 : decode cX57_commit 209 = .ok (.lload_n 3, 1) := by decide +kernel
theorem dX57_commit_210 : decode cX57_commit 210 = .ok (.invokestatic 120, 3) := by decide +kernel
theorem dX57_commit_213 : decode cX57_commit 213 = .ok (.aload_n 0, 1) := by decide +kernel
theorem dX57_commit_214 : decode cX57_commit 214 = .ok (.getfield 50, 3) := by decide +kernel
theorem dX57_commit_217 : decode cX57_commit 217 = .ok (.bipush 16, 2) := by decide +kernel
theorem dX57_commit_219 : decode cX57_commit 219 = .ok (.iload_n 1, 1) := by decide +kernel
theorem dX57_commit_220 : decode cX57_commit 220 = .ok (.invokestatic 84, 3) := by decide +kernel
theorem dX57_commit_223 : decode cX57_commit 223 = .ok (.aload_n 0, 1) := by decide +kernel
theorem dX57_commit_224 : decode cX57_commit 224 = .ok (.getfield 50, 3) := by decide +kernel
theorem dX57_commit_227 : decode cX57_commit 227 = .ok (.bipush 20, 2) := by decide +kernel
theorem dX57_commit_229 : decode cX57_commit 229 = .ok (.iload 5, 2) := by decide +kernel
theorem dX57_commit_231 : decode cX57_commit 231 = .ok (.invokestatic 84, 3) := by decide +kernel
theorem dX57_commit_234 : decode cX57_commit 234 = .ok (.aload_n 0, 1) := by decide +kernel
theorem dX57_commit_235 : decode cX57_commit 235 = .ok (.getfield 50, 3) := by decide +kernel
theorem dX57_commit_238 : decode cX57_commit 238 = .ok (.iconst 0, 1) := by decide +kernel
theorem dX57_commit_239 : decode cX57_commit 239 = .ok (.invokestatic 124, 3) := by decide +kernel
theorem dX57_commit_242 : decode cX57_commit 242 = .ok (.aload_n 0, 1) := by decide +kernel
theorem dX57_commit_243 : decode cX57_commit 243 = .ok (.aload_n 0, 1) := by decide +kernel
theorem dX57_commit_244 : decode cX57_commit 244 = .ok (.getfield 50, 3) := by decide +kernel
theorem dX57_commit_247 : decode cX57_commit 247 = .ok (.iconst 0, 1) := by decide +kernel
theorem dX57_commit_248 : decode cX57_commit 248 = .ok (.iload_n 1, 1) := by decide +kernel
theorem dX57_commit_249 : decode cX57_commit 249 = .ok (.iconst 2, 1) := by decide +kernel
theorem dX57_commit_250 : decode cX57_commit 250 = .ok (.irem, 1) := by decide +kernel
theorem dX57_commit_251 : decode cX57_commit 251 = .ok (.invokevirtual 155, 3) := by decide +kernel
theorem dX57_commit_254 : decode cX57_commit 254 = .ok (.aload_n 0, 1) := by decide +kernel
theorem dX57_commit_255 : decode cX57_commit 255 = .ok (.dup, 1) := by decide +kernel
theorem dX57_commit_256 : decode cX57_commit 256 = .ok (.getfield 64, 3) := by decide +kernel
theorem dX57_commit_259 : decode cX57_commit 259 = .ok (.iconst 1, 1) := by decide +kernel
theorem dX57_commit_260 : decode cX57_commit 260 = .ok (.iadd, 1) := by decide +kernel
theorem dX57_commit_261 : decode cX57_commit 261 = .ok (.putfield 64, 3) := by decide +kernel
theorem dX57_commit_264 : decode cX57_commit 264 = .ok (.aload_n 0, 1) := by decide +kernel
theorem dX57_commit_265 : decode cX57_commit 265 = .ok (.getfield 37, 3) := by decide +kernel
theorem dX57_commit_268 : decode cX57_commit 268 = .ok (.aload_n 0, 1) := by decide +kernel
theorem dX57_commit_269 : decode cX57_commit 269 = .ok (.getfield 64, 3) := by decide +kernel
theorem dX57_commit_272 : decode cX57_commit 272 = .ok (.iload_n 1, 1) := by decide +kernel
theorem dX57_commit_273 : decode cX57_commit 273 = .ok (.iastore, 1) := by decide +kernel
theorem dX57_commit_274 : decode cX57_commit 274 = .ok (.aload_n 0, 1) := by decide +kernel
theorem dX57_commit_275 : decode cX57_commit 275 = .ok (.getfield 40, 3) := by decide +kernel
theorem dX57_commit_278 : decode cX57_commit 278 = .ok (.aload_n 0, 1) := by decide +kernel
theorem dX57_commit_279 : decode cX57_commit 279 = .ok (.getfield 64, 3) := by decide +kernel
theorem dX57_commit_282 : decode cX57_commit 282 = .ok (.lload_n 3, 1) := by decide +kernel
theorem dX57_commit_283 : decode cX57_commit 283 = .ok (.lastore, 1) := by decide +kernel
theorem dX57_commit_284 : decode cX57_commit 284 = .ok (.aload_n 0, 1) := by decide +kernel
theorem dX57_commit_285 : decode cX57_commit 285 = .ok (.iconst 0, 1) := by decide +kernel
theorem dX57_commit_286 : decode cX57_commit 286 = .ok (.putfield 76, 3) := by decide +kernel
theorem dX57_commit_289 : decode cX57_commit 289 = .ok (.aload_n 0, 1) := by decide +kernel
theorem dX57_commit_290 : decode cX57_commit 290 = .ok (.getfield 73, 3) := by decide +kernel
theorem dX57_commit_293 : decode cX57_commit 293 = .ok (.iload_n 2, 1) := by decide +kernel
theorem dX57_commit_294 : decode cX57_commit 294 = .ok (.isub, 1) := by decide +kernel
theorem dX57_commit_295 : decode cX57_commit 295 = .ok (.ireturn, 1) := by decide +kernel
abbrev cX57_queue : ByteArray := prog_84_method_23_code
def yX57_queue : MethodName := ⟨RX57, "queue", "([III)V"⟩
theorem dX57_queue_0 : decode cX57_queue 0 = .ok (.aload_n 0, 1) := by decide +kernel
theorem dX57_queue_1 : decode cX57_queue 1 = .ok (.getfield 30, 3) := by decide +kernel
theorem dX57_queue_4 : decode cX57_queue 4 = .ok (.aload_n 0, 1) := by decide +kernel
theorem dX57_queue_5 : decode cX57_queue 5 = .ok (.getfield 73, 3) := by decide +kernel
theorem dX57_queue_8 : decode cX57_queue 8 = .ok (.iload_n 3, 1) := by decide +kernel
theorem dX57_queue_9 : decode cX57_queue 9 = .ok (.iastore, 1) := by decide +kernel
theorem dX57_queue_10 : decode cX57_queue 10 = .ok (.iconst 0, 1) := by decide +kernel
theorem dX57_queue_11 : decode cX57_queue 11 = .ok (.istore 4, 2) := by decide +kernel
theorem dX57_queue_13 : decode cX57_queue 13 = .ok (.iload 4, 2) := by decide +kernel
theorem dX57_queue_15 : decode cX57_queue 15 = .ok (.bipush 32, 2) := by decide +kernel
theorem dX57_queue_17 : decode cX57_queue 17 = .ok (.if_icmp .ge 54, 3) := by decide +kernel
theorem dX57_queue_20 : decode cX57_queue 20 = .ok (.aload_n 0, 1) := by decide +kernel
theorem dX57_queue_21 : decode cX57_queue 21 = .ok (.getfield 34, 3) := by decide +kernel
theorem dX57_queue_24 : decode cX57_queue 24 = .ok (.bipush 32, 2) := by decide +kernel
theorem dX57_queue_26 : decode cX57_queue 26 = .ok (.aload_n 0, 1) := by decide +kernel
theorem dX57_queue_27 : decode cX57_queue 27 = .ok (.getfield 73, 3) := by decide +kernel
theorem dX57_queue_30 : decode cX57_queue 30 = .ok (.imul, 1) := by decide +kernel
theorem dX57_queue_31 : decode cX57_queue 31 = .ok (.iload 4, 2) := by decide +kernel
theorem dX57_queue_33 : decode cX57_queue 33 = .ok (.iadd, 1) := by decide +kernel
theorem dX57_queue_34 : decode cX57_queue 34 = .ok (.aload_n 1, 1) := by decide +kernel
theorem dX57_queue_35 : decode cX57_queue 35 = .ok (.bipush 32, 2) := by decide +kernel
theorem dX57_queue_37 : decode cX57_queue 37 = .ok (.iload_n 2, 1) := by decide +kernel
theorem dX57_queue_38 : decode cX57_queue 38 = .ok (.imul, 1) := by decide +kernel
theorem dX57_queue_39 : decode cX57_queue 39 = .ok (.iload 4, 2) := by decide +kernel
theorem dX57_queue_41 : decode cX57_queue 41 = .ok (.iadd, 1) := by decide +kernel
theorem dX57_queue_42 : decode cX57_queue 42 = .ok (.iaload, 1) := by decide +kernel
theorem dX57_queue_43 : decode cX57_queue 43 = .ok (.iastore, 1) := by decide +kernel
theorem dX57_queue_44 : decode cX57_queue 44 = .ok (.aload_n 0, 1) := by decide +kernel
theorem dX57_queue_45 : decode cX57_queue 45 = .ok (.getfield 17, 3) := by decide +kernel
theorem dX57_queue_48 : decode cX57_queue 48 = .ok (.bipush 32, 2) := by decide +kernel
theorem dX57_queue_50 : decode cX57_queue 50 = .ok (.iload_n 3, 1) := by decide +kernel
theorem dX57_queue_51 : decode cX57_queue 51 = .ok (.imul, 1) := by decide +kernel
theorem dX57_queue_52 : decode cX57_queue 52 = .ok (.iload 4, 2) := by decide +kernel
theorem dX57_queue_54 : decode cX57_queue 54 = .ok (.iadd, 1) := by decide +kernel
theorem dX57_queue_55 : decode cX57_queue 55 = .ok (.aload_n 1, 1) := by decide +kernel
theorem dX57_queue_56 : decode cX57_queue 56 = .ok (.bipush 32, 2) := by decide +kernel
theorem dX57_queue_58 : decode cX57_queue 58 = .ok (.iload_n 2, 1) := by decide +kernel
theorem dX57_queue_59 : decode cX57_queue 59 = .ok (.imul, 1) := by decide +kernel
theorem dX57_queue_60 : decode cX57_queue 60 = .ok (.iload 4, 2) := by decide +kernel
theorem dX57_queue_62 : decode cX57_queue 62 = .ok (.iadd, 1) := by decide +kernel
theorem dX57_queue_63 : decode cX57_queue 63 = .ok (.iaload, 1) := by decide +kernel
theorem dX57_queue_64 : decode cX57_queue 64 = .ok (.iastore, 1) := by decide +kernel
theorem dX57_queue_65 : decode cX57_queue 65 = .ok (.iinc 4 1, 3) := by decide +kernel
theorem dX57_queue_68 : decode cX57_queue 68 = .ok (.goto (-55), 3) := by decide +kernel
theorem dX57_queue_71 : decode cX57_queue 71 = .ok (.aload_n 0, 1) := by decide +kernel
theorem dX57_queue_72 : decode cX57_queue 72 = .ok (.dup, 1) := by decide +kernel
theorem dX57_queue_73 : decode cX57_queue 73 = .ok (.getfield 73, 3) := by decide +kernel
theorem dX57_queue_76 : decode cX57_queue 76 = .ok (.iconst 1, 1) := by decide +kernel
theorem dX57_queue_77 : decode cX57_queue 77 = .ok (.iadd, 1) := by decide +kernel
theorem dX57_queue_78 : decode cX57_queue 78 = .ok (.putfield 73, 3) := by decide +kernel
theorem dX57_queue_81 : decode cX57_queue 81 = .ok (.return_, 1) := by decide +kernel
abbrev cX57_sync : ByteArray := prog_84_method_27_code
def yX57_sync : MethodName := ⟨RX57, "sync", "()I"⟩
theorem dX57_sync_0 : decode cX57_sync 0 = .ok (.aload_n 0, 1) := by decide +kernel
theorem dX57_sync_1 : decode cX57_sync 1 = .ok (.getfield 7, 3) := by decide +kernel
theorem dX57_sync_4 : decode cX57_sync 4 = .ok (.ifCond .ne 6, 3) := by decide +kernel
theorem dX57_sync_7 : decode cX57_sync 7 = .ok (.bipush (-3), 2) := by decide +kernel
theorem dX57_sync_9 : decode cX57_sync 9 = .ok (.ireturn, 1) := by decide +kernel
theorem dX57_sync_10 : decode cX57_sync 10 = .ok (.aload_n 0, 1) := by decide +kernel
theorem dX57_sync_11 : decode cX57_sync 11 = .ok (.getfield 70, 3) := by decide +kernel
theorem dX57_sync_14 : decode cX57_sync 14 = .ok (.aload_n 0, 1) := by decide +kernel
theorem dX57_sync_15 : decode cX57_sync 15 = .ok (.getfield 73, 3) := by decide +kernel
theorem dX57_sync_18 : decode cX57_sync 18 = .ok (.if_icmp .ge 12, 3) := by decide +kernel
theorem dX57_sync_21 : decode cX57_sync 21 = .ok (.aload_n 0, 1) := by decide +kernel
theorem dX57_sync_22 : decode cX57_sync 22 = .ok (.bipush 32, 2) := by decide +kernel
theorem dX57_sync_24 : decode cX57_sync 24 = .ok (.invokevirtual 158, 3) := by decide +kernel
theorem dX57_sync_27 : decode cX57_sync 27 = .ok (.goto (-17), 3) := by decide +kernel
theorem dX57_sync_30 : decode cX57_sync 30 = .ok (.aload_n 0, 1) := by decide +kernel
theorem dX57_sync_31 : decode cX57_sync 31 = .ok (.invokevirtual 162, 3) := by decide +kernel
theorem dX57_sync_34 : decode cX57_sync 34 = .ok (.aload_n 0, 1) := by decide +kernel
theorem dX57_sync_35 : decode cX57_sync 35 = .ok (.getfield 37, 3) := by decide +kernel
theorem dX57_sync_38 : decode cX57_sync 38 = .ok (.aload_n 0, 1) := by decide +kernel
theorem dX57_sync_39 : decode cX57_sync 39 = .ok (.getfield 64, 3) := by decide +kernel
theorem dX57_sync_42 : decode cX57_sync 42 = .ok (.iaload, 1) := by decide +kernel
theorem dX57_sync_43 : decode cX57_sync 43 = .ok (.ireturn, 1) := by decide +kernel
abbrev cX57_write : ByteArray := prog_84_method_25_code
def yX57_write : MethodName := ⟨RX57, "write", "(I)V"⟩
theorem dX57_write_0 : decode cX57_write 0 = .ok (.iconst 0, 1) := by decide +kernel
theorem dX57_write_1 : decode cX57_write 1 = .ok (.istore_n 2, 1) := by decide +kernel
theorem dX57_write_2 : decode cX57_write 2 = .ok (.iload_n 2, 1) := by decide +kernel
theorem dX57_write_3 : decode cX57_write 3 = .ok (.iload_n 1, 1) := by decide +kernel
theorem dX57_write_4 : decode cX57_write 4 = .ok (.if_icmp .ge 42, 3) := by decide +kernel
theorem dX57_write_7 : decode cX57_write 7 = .ok (.aload_n 0, 1) := by decide +kernel
theorem dX57_write_8 : decode cX57_write 8 = .ok (.getfield 13, 3) := by decide +kernel
theorem dX57_write_11 : decode cX57_write 11 = .ok (.bipush 32, 2) := by decide +kernel
theorem dX57_write_13 : decode cX57_write 13 = .ok (.aload_n 0, 1) := by decide +kernel
theorem dX57_write_14 : decode cX57_write 14 = .ok (.getfield 30, 3) := by decide +kernel
theorem dX57_write_17 : decode cX57_write 17 = .ok (.aload_n 0, 1) := by decide +kernel
theorem dX57_write_18 : decode cX57_write 18 = .ok (.getfield 70, 3) := by decide +kernel
theorem dX57_write_21 : decode cX57_write 21 = .ok (.iaload, 1) := by decide +kernel
theorem dX57_write_22 : decode cX57_write 22 = .ok (.imul, 1) := by decide +kernel
theorem dX57_write_23 : decode cX57_write 23 = .ok (.iload_n 2, 1) := by decide +kernel
theorem dX57_write_24 : decode cX57_write 24 = .ok (.iadd, 1) := by decide +kernel
theorem dX57_write_25 : decode cX57_write 25 = .ok (.aload_n 0, 1) := by decide +kernel
theorem dX57_write_26 : decode cX57_write 26 = .ok (.getfield 34, 3) := by decide +kernel
theorem dX57_write_29 : decode cX57_write 29 = .ok (.bipush 32, 2) := by decide +kernel
theorem dX57_write_31 : decode cX57_write 31 = .ok (.aload_n 0, 1) := by decide +kernel
theorem dX57_write_32 : decode cX57_write 32 = .ok (.getfield 70, 3) := by decide +kernel
theorem dX57_write_35 : decode cX57_write 35 = .ok (.imul, 1) := by decide +kernel
theorem dX57_write_36 : decode cX57_write 36 = .ok (.iload_n 2, 1) := by decide +kernel
theorem dX57_write_37 : decode cX57_write 37 = .ok (.iadd, 1) := by decide +kernel
theorem dX57_write_38 : decode cX57_write 38 = .ok (.iaload, 1) := by decide +kernel
theorem dX57_write_39 : decode cX57_write 39 = .ok (.iastore, 1) := by decide +kernel
theorem dX57_write_40 : decode cX57_write 40 = .ok (.iinc 2 1, 3) := by decide +kernel
theorem dX57_write_43 : decode cX57_write 43 = .ok (.goto (-41), 3) := by decide +kernel
theorem dX57_write_46 : decode cX57_write 46 = .ok (.aload_n 0, 1) := by decide +kernel
theorem dX57_write_47 : decode cX57_write 47 = .ok (.dup, 1) := by decide +kernel
theorem dX57_write_48 : decode cX57_write 48 = .ok (.getfield 70, 3) := by decide +kernel
theorem dX57_write_51 : decode cX57_write 51 = .ok (.iconst 1, 1) := by decide +kernel
theorem dX57_write_52 : decode cX57_write 52 = .ok (.iadd, 1) := by decide +kernel
theorem dX57_write_53 : decode cX57_write 53 = .ok (.putfield 70, 3) := by decide +kernel
theorem dX57_write_56 : decode cX57_write 56 = .ok (.return_, 1) := by decide +kernel
abbrev cX57_settle : ByteArray := prog_84_method_26_code
def yX57_settle : MethodName := ⟨RX57, "settle", "()V"⟩
theorem dX57_settle_0 : decode cX57_settle 0 = .ok (.aload_n 0, 1) := by decide +kernel
theorem dX57_settle_1 : decode cX57_settle 1 = .ok (.getfield 70, 3) := by decide +kernel
theorem dX57_settle_4 : decode cX57_settle 4 = .ok (.aload_n 0, 1) := by decide +kernel
theorem dX57_settle_5 : decode cX57_settle 5 = .ok (.getfield 73, 3) := by decide +kernel
theorem dX57_settle_8 : decode cX57_settle 8 = .ok (.if_icmp .ne 13, 3) := by decide +kernel
theorem dX57_settle_11 : decode cX57_settle 11 = .ok (.aload_n 0, 1) := by decide +kernel
theorem dX57_settle_12 : decode cX57_settle 12 = .ok (.iconst 0, 1) := by decide +kernel
theorem dX57_settle_13 : decode cX57_settle 13 = .ok (.putfield 70, 3) := by decide +kernel
theorem dX57_settle_16 : decode cX57_settle 16 = .ok (.aload_n 0, 1) := by decide +kernel
theorem dX57_settle_17 : decode cX57_settle 17 = .ok (.iconst 0, 1) := by decide +kernel
theorem dX57_settle_18 : decode cX57_settle 18 = .ok (.putfield 73, 3) := by decide +kernel
theorem dX57_settle_21 : decode cX57_settle 21 = .ok (.aload_n 0, 1) := by decide +kernel
theorem dX57_settle_22 : decode cX57_settle 22 = .ok (.getfield 37, 3) := by decide +kernel
theorem dX57_settle_25 : decode cX57_settle 25 = .ok (.iconst 0, 1) := by decide +kernel
theorem dX57_settle_26 : decode cX57_settle 26 = .ok (.aload_n 0, 1) := by decide +kernel
theorem dX57_settle_27 : decode cX57_settle 27 = .ok (.getfield 37, 3) := by decide +kernel
theorem dX57_settle_30 : decode cX57_settle 30 = .ok (.aload_n 0, 1) := by decide +kernel
theorem dX57_settle_31 : decode cX57_settle 31 = .ok (.getfield 64, 3) := by decide +kernel
theorem dX57_settle_34 : decode cX57_settle 34 = .ok (.iaload, 1) := by decide +kernel
theorem dX57_settle_35 : decode cX57_settle 35 = .ok (.iastore, 1) := by decide +kernel
theorem dX57_settle_36 : decode cX57_settle 36 = .ok (.aload_n 0, 1) := by decide +kernel
theorem dX57_settle_37 : decode cX57_settle 37 = .ok (.getfield 40, 3) := by decide +kernel
theorem dX57_settle_40 : decode cX57_settle 40 = .ok (.iconst 0, 1) := by decide +kernel
theorem dX57_settle_41 : decode cX57_settle 41 = .ok (.aload_n 0, 1) := by decide +kernel
theorem dX57_settle_42 : decode cX57_settle 42 = .ok (.getfield 40, 3) := by decide +kernel
theorem dX57_settle_45 : decode cX57_settle 45 = .ok (.aload_n 0, 1) := by decide +kernel
theorem dX57_settle_46 : decode cX57_settle 46 = .ok (.getfield 64, 3) := by decide +kernel
theorem dX57_settle_49 : decode cX57_settle 49 = .ok (.laload, 1) := by decide +kernel
theorem dX57_settle_50 : decode cX57_settle 50 = .ok (.lastore, 1) := by decide +kernel
theorem dX57_settle_51 : decode cX57_settle 51 = .ok (.aload_n 0, 1) := by decide +kernel
theorem dX57_settle_52 : decode cX57_settle 52 = .ok (.iconst 0, 1) := by decide +kernel
theorem dX57_settle_53 : decode cX57_settle 53 = .ok (.putfield 61, 3) := by decide +kernel
theorem dX57_settle_56 : decode cX57_settle 56 = .ok (.aload_n 0, 1) := by decide +kernel
theorem dX57_settle_57 : decode cX57_settle 57 = .ok (.iconst 0, 1) := by decide +kernel
theorem dX57_settle_58 : decode cX57_settle 58 = .ok (.putfield 64, 3) := by decide +kernel
theorem dX57_settle_61 : decode cX57_settle 61 = .ok (.return_, 1) := by decide +kernel
abbrev cX57_cut : ByteArray := prog_84_method_28_code
def yX57_cut : MethodName := ⟨RX57, "cut", "(II)V"⟩
theorem dX57_cut_0 : decode cX57_cut 0 = .ok (.aload_n 0, 1) := by decide +kernel
theorem dX57_cut_1 : decode cX57_cut 1 = .ok (.getfield 7, 3) := by decide +kernel
theorem dX57_cut_4 : decode cX57_cut 4 = .ok (.ifCond .ne 4, 3) := by decide +kernel
theorem dX57_cut_7 : decode cX57_cut 7 = .ok (.return_, 1) := by decide +kernel
theorem dX57_cut_8 : decode cX57_cut 8 = .ok (.iconst 0, 1) := by decide +kernel
theorem dX57_cut_9 : decode cX57_cut 9 = .ok (.istore_n 3, 1) := by decide +kernel
theorem dX57_cut_10 : decode cX57_cut 10 = .ok (.iload_n 3, 1) := by decide +kernel
theorem dX57_cut_11 : decode cX57_cut 11 = .ok (.iload_n 1, 1) := by decide +kernel
theorem dX57_cut_12 : decode cX57_cut 12 = .ok (.if_icmp .ge 26, 3) := by decide +kernel
theorem dX57_cut_15 : decode cX57_cut 15 = .ok (.aload_n 0, 1) := by decide +kernel
theorem dX57_cut_16 : decode cX57_cut 16 = .ok (.getfield 70, 3) := by decide +kernel
theorem dX57_cut_19 : decode cX57_cut 19 = .ok (.aload_n 0, 1) := by decide +kernel
theorem dX57_cut_20 : decode cX57_cut 20 = .ok (.getfield 73, 3) := by decide +kernel
theorem dX57_cut_23 : decode cX57_cut 23 = .ok (.if_icmp .ge 15, 3) := by decide +kernel
theorem dX57_cut_26 : decode cX57_cut 26 = .ok (.aload_n 0, 1) := by decide +kernel
theorem dX57_cut_27 : decode cX57_cut 27 = .ok (.bipush 32, 2) := by decide +kernel
theorem dX57_cut_29 : decode cX57_cut 29 = .ok (.invokevirtual 158, 3) := by decide +kernel
theorem dX57_cut_32 : decode cX57_cut 32 = .ok (.iinc 3 1, 3) := by decide +kernel
theorem dX57_cut_35 : decode cX57_cut 35 = .ok (.goto (-25), 3) := by decide +kernel
theorem dX57_cut_38 : decode cX57_cut 38 = .ok (.aload_n 0, 1) := by decide +kernel
theorem dX57_cut_39 : decode cX57_cut 39 = .ok (.getfield 70, 3) := by decide +kernel
theorem dX57_cut_42 : decode cX57_cut 42 = .ok (.aload_n 0, 1) := by decide +kernel
theorem dX57_cut_43 : decode cX57_cut 43 = .ok (.getfield 73, 3) := by decide +kernel
theorem dX57_cut_46 : decode cX57_cut 46 = .ok (.if_icmp .ge 27, 3) := by decide +kernel
theorem dX57_cut_49 : decode cX57_cut 49 = .ok (.aload_n 0, 1) := by decide +kernel
theorem dX57_cut_50 : decode cX57_cut 50 = .ok (.iload_n 2, 1) := by decide +kernel
theorem dX57_cut_51 : decode cX57_cut 51 = .ok (.ifCond .ge 7, 3) := by decide +kernel
theorem dX57_cut_54 : decode cX57_cut 54 = .ok (.iconst 0, 1) := by decide +kernel
theorem dX57_cut_55 : decode cX57_cut 55 = .ok (.goto 15, 3) := by decide +kernel
theorem dX57_cut_58 : decode cX57_cut 58 = .ok (.iload_n 2, 1) := by decide +kernel
theorem dX57_cut_59 : decode cX57_cut 59 = .ok (.bipush 32, 2) := by decide +kernel
theorem dX57_cut_61 : decode cX57_cut 61 = .ok (.if_icmp .le 8, 3) := by decide +kernel
theorem dX57_cut_64 : decode cX57_cut 64 = .ok (.bipush 32, 2) := by decide +kernel
theorem dX57_cut_66 : decode cX57_cut 66 = .ok (.goto 4, 3) := by decide +kernel
theorem dX57_cut_69 : decode cX57_cut 69 = .ok (.iload_n 2, 1) := by decide +kernel
theorem dX57_cut_70 : decode cX57_cut 70 = .ok (.invokevirtual 158, 3) := by decide +kernel
theorem dX57_cut_73 : decode cX57_cut 73 = .ok (.aload_n 0, 1) := by decide +kernel
theorem dX57_cut_74 : decode cX57_cut 74 = .ok (.iconst 0, 1) := by decide +kernel
theorem dX57_cut_75 : decode cX57_cut 75 = .ok (.putfield 7, 3) := by decide +kernel
theorem dX57_cut_78 : decode cX57_cut 78 = .ok (.aload_n 0, 1) := by decide +kernel
theorem dX57_cut_79 : decode cX57_cut 79 = .ok (.iconst 0, 1) := by decide +kernel
theorem dX57_cut_80 : decode cX57_cut 80 = .ok (.lconst 0, 1) := by decide +kernel
theorem dX57_cut_81 : decode cX57_cut 81 = .ok (.invokevirtual 57, 3) := by decide +kernel
theorem dX57_cut_84 : decode cX57_cut 84 = .ok (.return_, 1) := by decide +kernel
abbrev cX57_start : ByteArray := prog_84_method_30_code
def yX57_start : MethodName := ⟨RX57, "start", "()I"⟩
theorem dX57_start_0 : decode cX57_start 0 = .ok (.aload_n 0, 1) := by decide +kernel
theorem dX57_start_1 : decode cX57_start 1 = .ok (.getfield 7, 3) := by decide +kernel
theorem dX57_start_4 : decode cX57_start 4 = .ok (.ifCond .eq 6, 3) := by decide +kernel
theorem dX57_start_7 : decode cX57_start 7 = .ok (.bipush (-3), 2) := by decide +kernel
theorem dX57_start_9 : decode cX57_start 9 = .ok (.ireturn, 1) := by decide +kernel
theorem dX57_start_10 : decode cX57_start 10 = .ok (.aload_n 0, 1) := by decide +kernel
theorem dX57_start_11 : decode cX57_start 11 = .ok (.iconst 0, 1) := by decide +kernel
theorem dX57_start_12 : decode cX57_start 12 = .ok (.invokevirtual 165, 3) := by decide +kernel
theorem dX57_start_15 : decode cX57_start 15 = .ok (.istore_n 1, 1) := by decide +kernel
theorem dX57_start_16 : decode cX57_start 16 = .ok (.aload_n 0, 1) := by decide +kernel
theorem dX57_start_17 : decode cX57_start 17 = .ok (.iconst 1, 1) := by decide +kernel
theorem dX57_start_18 : decode cX57_start 18 = .ok (.invokevirtual 165, 3) := by decide +kernel
theorem dX57_start_21 : decode cX57_start 21 = .ok (.istore_n 2, 1) := by decide +kernel
theorem dX57_start_22 : decode cX57_start 22 = .ok (.aload_n 0, 1) := by decide +kernel
theorem dX57_start_23 : decode cX57_start 23 = .ok (.getfield 13, 3) := by decide +kernel
theorem dX57_start_26 : decode cX57_start 26 = .ok (.bipush 16, 2) := by decide +kernel
theorem dX57_start_28 : decode cX57_start 28 = .ok (.invokestatic 88, 3) := by decide +kernel
theorem dX57_start_31 : decode cX57_start 31 = .ok (.istore_n 3, 1) := by decide +kernel
theorem dX57_start_32 : decode cX57_start 32 = .ok (.aload_n 0, 1) := by decide +kernel
theorem dX57_start_33 : decode cX57_start 33 = .ok (.getfield 13, 3) := by decide +kernel
theorem dX57_start_36 : decode cX57_start 36 = .ok (.bipush 48, 2) := by decide +kernel
theorem dX57_start_38 : decode cX57_start 38 = .ok (.invokestatic 88, 3) := by decide +kernel
theorem dX57_start_41 : decode cX57_start 41 = .ok (.istore 4, 2) := by decide +kernel
theorem dX57_start_43 : decode cX57_start 43 = .ok (.iload_n 1, 1) := by decide +kernel
theorem dX57_start_44 : decode cX57_start 44 = .ok (.ifCond .eq 17, 3) := by decide +kernel
theorem dX57_start_47 : decode cX57_start 47 = .ok (.iload_n 2, 1) := by decide +kernel
theorem dX57_start_48 : decode cX57_start 48 = .ok (.ifCond .eq 9, 3) := by decide +kernel
theorem dX57_start_51 : decode cX57_start 51 = .ok (.iload_n 3, 1) := by decide +kernel
theorem dX57_start_52 : decode cX57_start 52 = .ok (.iload 4, 2) := by decide +kernel
theorem dX57_start_54 : decode cX57_start 54 = .ok (.if_icmp .lt 7, 3) := by decide +kernel
theorem dX57_start_57 : decode cX57_start 57 = .ok (.iconst 0, 1) := by decide +kernel
theorem dX57_start_58 : decode cX57_start 58 = .ok (.goto 12, 3) := by decide +kernel
theorem dX57_start_61 : decode cX57_start 61 = .ok (.iload_n 2, 1) := by decide +kernel
theorem dX57_start_62 : decode cX57_start 62 = .ok (.ifCond .eq 7, 3) := by decide +kernel
theorem dX57_start_65 : decode cX57_start 65 = .ok (.iconst 1, 1) := by decide +kernel
theorem dX57_start_66 : decode cX57_start 66 = .ok (.goto 4, 3) := by decide +kernel
theorem dX57_start_69 : decode cX57_start 69 = .ok (.iconst (-1), 1) := by decide +kernel
theorem dX57_start_70 : decode cX57_start 70 = .ok (.istore 5, 2) := by decide +kernel
theorem dX57_start_72 : decode cX57_start 72 = .ok (.aload_n 0, 1) := by decide +kernel
theorem dX57_start_73 : decode cX57_start 73 = .ok (.iload 5, 2) := by decide +kernel
theorem dX57_start_75 : decode cX57_start 75 = .ok (.iconst (-1), 1) := by decide +kernel
theorem dX57_start_76 : decode cX57_start 76 = .ok (.if_icmp .ne 7, 3) := by decide +kernel
theorem dX57_start_79 : decode cX57_start 79 = .ok (.iconst 0, 1) := by decide +kernel
theorem dX57_start_80 : decode cX57_start 80 = .ok (.goto 18, 3) := by decide +kernel
theorem dX57_start_83 : decode cX57_start 83 = .ok (.aload_n 0, 1) := by decide +kernel
theorem dX57_start_84 : decode cX57_start 84 = .ok (.getfield 13, 3) := by decide +kernel
theorem dX57_start_87 : decode cX57_start 87 = .ok (.bipush 32, 2) := by decide +kernel
theorem dX57_start_89 : decode cX57_start 89 = .ok (.iload 5, 2) := by decide +kernel
theorem dX57_start_91 : decode cX57_start 91 = .ok (.imul, 1) := by decide +kernel
theorem dX57_start_92 : decode cX57_start 92 = .ok (.bipush 16, 2) := by decide +kernel
theorem dX57_start_94 : decode cX57_start 94 = .ok (.iadd, 1) := by decide +kernel
theorem dX57_start_95 : decode cX57_start 95 = .ok (.invokestatic 88, 3) := by decide +kernel
theorem dX57_start_98 : decode cX57_start 98 = .ok (.iload 5, 2) := by decide +kernel
theorem dX57_start_100 : decode cX57_start 100 = .ok (.iconst (-1), 1) := by decide +kernel
theorem dX57_start_101 : decode cX57_start 101 = .ok (.if_icmp .ne 7, 3) := by decide +kernel
theorem dX57_start_104 : decode cX57_start 104 = .ok (.lconst 0, 1) := by decide +kernel
theorem dX57_start_105 : decode cX57_start 105 = .ok (.goto 18, 3) := by decide +kernel
theorem dX57_start_108 : decode cX57_start 108 = .ok (.aload_n 0, 1) := by decide +kernel
theorem dX57_start_109 : decode cX57_start 109 = .ok (.getfield 13, 3) := by decide +kernel
theorem dX57_start_112 : decode cX57_start 112 = .ok (.bipush 32, 2) := by decide +kernel
theorem dX57_start_114 : decode cX57_start 114 = .ok (.iload 5, 2) := by decide +kernel
theorem dX57_start_116 : decode cX57_start 116 = .ok (.imul, 1) := by decide +kernel
theorem dX57_start_117 : decode cX57_start 117 = .ok (.bipush 8, 2) := by decide +kernel
theorem dX57_start_119 : decode cX57_start 119 = .ok (.iadd, 1) := by decide +kernel
theorem dX57_start_120 : decode cX57_start 120 = .ok (.invokestatic 93, 3) := by decide +kernel
theorem dX57_start_123 : decode cX57_start 123 = .ok (.invokevirtual 57, 3) := by decide +kernel
theorem dX57_start_126 : decode cX57_start 126 = .ok (.aload_n 0, 1) := by decide +kernel
theorem dX57_start_127 : decode cX57_start 127 = .ok (.iconst 1, 1) := by decide +kernel
theorem dX57_start_128 : decode cX57_start 128 = .ok (.putfield 7, 3) := by decide +kernel
theorem dX57_start_131 : decode cX57_start 131 = .ok (.iconst 0, 1) := by decide +kernel
theorem dX57_start_132 : decode cX57_start 132 = .ok (.istore 6, 2) := by decide +kernel
theorem dX57_start_134 : decode cX57_start 134 = .ok (.iload 6, 2) := by decide +kernel
theorem dX57_start_136 : decode cX57_start 136 = .ok (.bipush 64, 2) := by decide +kernel
theorem dX57_start_138 : decode cX57_start 138 = .ok (.if_icmp .ge 47, 3) := by decide +kernel
theorem dX57_start_141 : decode cX57_start 141 = .ok (.aload_n 0, 1) := by decide +kernel
theorem dX57_start_142 : decode cX57_start 142 = .ok (.getfield 40, 3) := by decide +kernel
theorem dX57_start_145 : decode cX57_start 145 = .ok (.aload_n 0, 1) := by decide +kernel
theorem dX57_start_146 : decode cX57_start 146 = .ok (.getfield 64, 3) := by decide +kernel
theorem dX57_start_149 : decode cX57_start 149 = .ok (.laload, 1) := by decide +kernel
theorem dX57_start_150 : decode cX57_start 150 = .ok (.iload 6, 2) := by decide +kernel
theorem dX57_start_152 : decode cX57_start 152 = .ok (.lshr, 1) := by decide +kernel
theorem dX57_start_153 : decode cX57_start 153 = .ok (.lconst 1, 1) := by decide +kernel
theorem dX57_start_154 : decode cX57_start 154 = .ok (.land, 1) := by decide +kernel
theorem dX57_start_155 : decode cX57_start 155 = .ok (.lconst 1, 1) := by decide +kernel
theorem dX57_start_156 : decode cX57_start 156 = .ok (.lcmp, 1) := by decide +kernel
theorem dX57_start_157 : decode cX57_start 157 = .ok (.ifCond .ne 22, 3) := by decide +kernel
theorem dX57_start_160 : decode cX57_start 160 = .ok (.aload_n 0, 1) := by decide +kernel
theorem dX57_start_161 : decode cX57_start 161 = .ok (.getfield 27, 3) := by decide +kernel
theorem dX57_start_164 : decode cX57_start 164 = .ok (.aload_n 0, 1) := by decide +kernel
theorem dX57_start_165 : decode cX57_start 165 = .ok (.getfield 13, 3) := by decide +kernel
theorem dX57_start_168 : decode cX57_start 168 = .ok (.bipush 32, 2) := by decide +kernel
theorem dX57_start_170 : decode cX57_start 170 = .ok (.iload 6, 2) := by decide +kernel
theorem dX57_start_172 : decode cX57_start 172 = .ok (.imul, 1) := by decide +kernel
theorem dX57_start_173 : decode cX57_start 173 = .ok (.iconst 5, 1) := by decide +kernel
theorem dX57_start_174 : decode cX57_start 174 = .ok (.iadd, 1) := by decide +kernel
theorem dX57_start_175 : decode cX57_start 175 = .ok (.iaload, 1) := by decide +kernel
theorem dX57_start_176 : decode cX57_start 176 = .ok (.iload 6, 2) := by decide +kernel
theorem dX57_start_178 : decode cX57_start 178 = .ok (.iastore, 1) := by decide +kernel
theorem dX57_start_179 : decode cX57_start 179 = .ok (.iinc 6 1, 3) := by decide +kernel
theorem dX57_start_182 : decode cX57_start 182 = .ok (.goto (-48), 3) := by decide +kernel
theorem dX57_start_185 : decode cX57_start 185 = .ok (.aload_n 0, 1) := by decide +kernel
theorem dX57_start_186 : decode cX57_start 186 = .ok (.getfield 37, 3) := by decide +kernel
theorem dX57_start_189 : decode cX57_start 189 = .ok (.aload_n 0, 1) := by decide +kernel
theorem dX57_start_190 : decode cX57_start 190 = .ok (.getfield 64, 3) := by decide +kernel
theorem dX57_start_193 : decode cX57_start 193 = .ok (.iaload, 1) := by decide +kernel
theorem dX57_start_194 : decode cX57_start 194 = .ok (.ireturn, 1) := by decide +kernel
abbrev cX57_isWhole : ByteArray := prog_84_method_29_code
def yX57_isWhole : MethodName := ⟨RX57, "isWhole", "(I)Z"⟩
theorem dX57_isWhole_0 : decode cX57_isWhole 0 = .ok (.bipush 32, 2) := by decide +kernel
theorem dX57_isWhole_2 : decode cX57_isWhole 2 = .ok (.iload_n 1, 1) := by decide +kernel
theorem dX57_isWhole_3 : decode cX57_isWhole 3 = .ok (.imul, 1) := by decide +kernel
theorem dX57_isWhole_4 : decode cX57_isWhole 4 = .ok (.istore_n 2, 1) := by decide +kernel
theorem dX57_isWhole_5 : decode cX57_isWhole 5 = .ok (.aload_n 0, 1) := by decide +kernel
theorem dX57_isWhole_6 : decode cX57_isWhole 6 = .ok (.getfield 13, 3) := by decide +kernel
theorem dX57_isWhole_9 : decode cX57_isWhole 9 = .ok (.iload_n 2, 1) := by decide +kernel
theorem dX57_isWhole_10 : decode cX57_isWhole 10 = .ok (.iconst 4, 1) := by decide +kernel
theorem dX57_isWhole_11 : decode cX57_isWhole 11 = .ok (.iadd, 1) := by decide +kernel
theorem dX57_isWhole_12 : decode cX57_isWhole 12 = .ok (.iaload, 1) := by decide +kernel
theorem dX57_isWhole_13 : decode cX57_isWhole 13 = .ok (.bipush 9, 2) := by decide +kernel
theorem dX57_isWhole_15 : decode cX57_isWhole 15 = .ok (.if_icmp .ne 14, 3) := by decide +kernel
theorem dX57_isWhole_18 : decode cX57_isWhole 18 = .ok (.aload_n 0, 1) := by decide +kernel
theorem dX57_isWhole_19 : decode cX57_isWhole 19 = .ok (.getfield 13, 3) := by decide +kernel
theorem dX57_isWhole_22 : decode cX57_isWhole 22 = .ok (.iload_n 1, 1) := by decide +kernel
theorem dX57_isWhole_23 : decode cX57_isWhole 23 = .ok (.invokestatic 150, 3) := by decide +kernel
theorem dX57_isWhole_26 : decode cX57_isWhole 26 = .ok (.ifCond .ne 5, 3) := by decide +kernel
theorem dX57_isWhole_29 : decode cX57_isWhole 29 = .ok (.iconst 0, 1) := by decide +kernel
theorem dX57_isWhole_30 : decode cX57_isWhole 30 = .ok (.ireturn, 1) := by decide +kernel
theorem dX57_isWhole_31 : decode cX57_isWhole 31 = .ok (.aload_n 0, 1) := by decide +kernel
theorem dX57_isWhole_32 : decode cX57_isWhole 32 = .ok (.getfield 13, 3) := by decide +kernel
theorem dX57_isWhole_35 : decode cX57_isWhole 35 = .ok (.iload_n 2, 1) := by decide +kernel
theorem dX57_isWhole_36 : decode cX57_isWhole 36 = .ok (.bipush 8, 2) := by decide +kernel
theorem dX57_isWhole_38 : decode cX57_isWhole 38 = .ok (.iadd, 1) := by decide +kernel
theorem dX57_isWhole_39 : decode cX57_isWhole 39 = .ok (.invokestatic 93, 3) := by decide +kernel
theorem dX57_isWhole_42 : decode cX57_isWhole 42 = .ok (.lstore_n 3, 1) := by decide +kernel
theorem dX57_isWhole_43 : decode cX57_isWhole 43 = .ok (.iconst 0, 1) := by decide +kernel
theorem dX57_isWhole_44 : decode cX57_isWhole 44 = .ok (.istore 5, 2) := by decide +kernel
theorem dX57_isWhole_46 : decode cX57_isWhole 46 = .ok (.iconst 0, 1) := by decide +kernel
theorem dX57_isWhole_47 : decode cX57_isWhole 47 = .ok (.istore 6, 2) := by decide +kernel
theorem dX57_isWhole_49 : decode cX57_isWhole 49 = .ok (.iconst 1, 1) := by decide +kernel
theorem dX57_isWhole_50 : decode cX57_isWhole 50 = .ok (.istore 7, 2) := by decide +kernel
theorem dX57_isWhole_52 : decode cX57_isWhole 52 = .ok (.iconst 0, 1) := by decide +kernel
theorem dX57_isWhole_53 : decode cX57_isWhole 53 = .ok (.istore 8, 2) := by decide +kernel
theorem dX57_isWhole_55 : decode cX57_isWhole 55 = .ok (.iload 8, 2) := by decide +kernel
theorem dX57_isWhole_57 : decode cX57_isWhole 57 = .ok (.bipush 64, 2) := by decide +kernel
theorem dX57_isWhole_59 : decode cX57_isWhole 59 = .ok (.if_icmp .ge 155, 3) := by decide +kernel
theorem dX57_isWhole_62 : decode cX57_isWhole 62 = .ok (.iload 7, 2) := by decide +kernel
theorem dX57_isWhole_64 : decode cX57_isWhole 64 = .ok (.ifCond .eq 150, 3) := by decide +kernel
theorem dX57_isWhole_67 : decode cX57_isWhole 67 = .ok (.lload_n 3, 1) := by decide +kernel
theorem dX57_isWhole_68 : decode cX57_isWhole 68 = .ok (.iload 8, 2) := by decide +kernel
theorem dX57_isWhole_70 : decode cX57_isWhole 70 = .ok (.lshr, 1) := by decide +kernel
theorem dX57_isWhole_71 : decode cX57_isWhole 71 = .ok (.lconst 1, 1) := by decide +kernel
theorem dX57_isWhole_72 : decode cX57_isWhole 72 = .ok (.land, 1) := by decide +kernel
theorem dX57_isWhole_73 : decode cX57_isWhole 73 = .ok (.lconst 0, 1) := by decide +kernel
theorem dX57_isWhole_74 : decode cX57_isWhole 74 = .ok (.lcmp, 1) := by decide +kernel
theorem dX57_isWhole_75 : decode cX57_isWhole 75 = .ok (.ifCond .ne 6, 3) := by decide +kernel
theorem dX57_isWhole_78 : decode cX57_isWhole 78 = .ok (.goto 130, 3) := by decide +kernel
theorem dX57_isWhole_81 : decode cX57_isWhole 81 = .ok (.aload_n 0, 1) := by decide +kernel
theorem dX57_isWhole_82 : decode cX57_isWhole 82 = .ok (.getfield 13, 3) := by decide +kernel
theorem dX57_isWhole_85 : decode cX57_isWhole 85 = .ok (.bipush 32, 2) := by decide +kernel
theorem dX57_isWhole_87 : decode cX57_isWhole 87 = .ok (.iload 8, 2) := by decide +kernel
theorem dX57_isWhole_89 : decode cX57_isWhole 89 = .ok (.imul, 1) := by decide +kernel
theorem dX57_isWhole_90 : decode cX57_isWhole 90 = .ok (.iconst 5, 1) := by decide +kernel
theorem dX57_isWhole_91 : decode cX57_isWhole 91 = .ok (.iadd, 1) := by decide +kernel
theorem dX57_isWhole_92 : decode cX57_isWhole 92 = .ok (.iaload, 1) := by decide +kernel
theorem dX57_isWhole_93 : decode cX57_isWhole 93 = .ok (.istore 9, 2) := by decide +kernel
theorem dX57_isWhole_95 : decode cX57_isWhole 95 = .ok (.iload 8, 2) := by decide +kernel
theorem dX57_isWhole_97 : decode cX57_isWhole 97 = .ok (.iconst 1, 1) := by decide +kernel
theorem dX57_isWhole_98 : decode cX57_isWhole 98 = .ok (.if_icmp .le 76, 3) := by decide +kernel
theorem dX57_isWhole_101 : decode cX57_isWhole 101 = .ok (.iload 8, 2) := by decide +kernel
theorem dX57_isWhole_103 : decode cX57_isWhole 103 = .ok (.aload_n 0, 1) := by decide +kernel
theorem dX57_isWhole_104 : decode cX57_isWhole 104 = .ok (.getfield 53, 3) := by decide +kernel
theorem dX57_isWhole_107 : decode cX57_isWhole 107 = .ok (.if_icmp .ge 67, 3) := by decide +kernel
theorem dX57_isWhole_110 : decode cX57_isWhole 110 = .ok (.aload_n 0, 1) := by decide +kernel
theorem dX57_isWhole_111 : decode cX57_isWhole 111 = .ok (.getfield 13, 3) := by decide +kernel
theorem dX57_isWhole_114 : decode cX57_isWhole 114 = .ok (.iload 8, 2) := by decide +kernel
theorem dX57_isWhole_116 : decode cX57_isWhole 116 = .ok (.invokestatic 150, 3) := by decide +kernel
theorem dX57_isWhole_119 : decode cX57_isWhole 119 = .ok (.ifCond .eq 55, 3) := by decide +kernel
theorem dX57_isWhole_122 : decode cX57_isWhole 122 = .ok (.aload_n 0, 1) := by decide +kernel
theorem dX57_isWhole_123 : decode cX57_isWhole 123 = .ok (.getfield 13, 3) := by decide +kernel
theorem dX57_isWhole_126 : decode cX57_isWhole 126 = .ok (.bipush 32, 2) := by decide +kernel
theorem dX57_isWhole_128 : decode cX57_isWhole 128 = .ok (.iload 8, 2) := by decide +kernel
theorem dX57_isWhole_130 : decode cX57_isWhole 130 = .ok (.imul, 1) := by decide +kernel
theorem dX57_isWhole_131 : decode cX57_isWhole 131 = .ok (.iconst 4, 1) := by decide +kernel
theorem dX57_isWhole_132 : decode cX57_isWhole 132 = .ok (.iadd, 1) := by decide +kernel
theorem dX57_isWhole_133 : decode cX57_isWhole 133 = .ok (.iaload, 1) := by decide +kernel
theorem dX57_isWhole_134 : decode cX57_isWhole 134 = .ok (.ifCond .le 40, 3) := by decide +kernel
theorem dX57_isWhole_137 : decode cX57_isWhole 137 = .ok (.aload_n 0, 1) := by decide +kernel
theorem dX57_isWhole_138 : decode cX57_isWhole 138 = .ok (.getfield 13, 3) := by decide +kernel
theorem dX57_isWhole_141 : decode cX57_isWhole 141 = .ok (.bipush 32, 2) := by decide +kernel
theorem dX57_isWhole_143 : decode cX57_isWhole 143 = .ok (.iload 8, 2) := by decide +kernel
theorem dX57_isWhole_145 : decode cX57_isWhole 145 = .ok (.imul, 1) := by decide +kernel
theorem dX57_isWhole_146 : decode cX57_isWhole 146 = .ok (.iconst 4, 1) := by decide +kernel
theorem dX57_isWhole_147 : decode cX57_isWhole 147 = .ok (.iadd, 1) := by decide +kernel
theorem dX57_isWhole_148 : decode cX57_isWhole 148 = .ok (.iaload, 1) := by decide +kernel
theorem dX57_isWhole_149 : decode cX57_isWhole 149 = .ok (.iconst 4, 1) := by decide +kernel
theorem dX57_isWhole_150 : decode cX57_isWhole 150 = .ok (.if_icmp .ge 24, 3) := by decide +kernel
theorem dX57_isWhole_153 : decode cX57_isWhole 153 = .ok (.iload 9, 2) := by decide +kernel
theorem dX57_isWhole_155 : decode cX57_isWhole 155 = .ok (.bipush 30, 2) := by decide +kernel
theorem dX57_isWhole_157 : decode cX57_isWhole 157 = .ok (.if_icmp .ge 17, 3) := by decide +kernel
theorem dX57_isWhole_160 : decode cX57_isWhole 160 = .ok (.iload 6, 2) := by decide +kernel
theorem dX57_isWhole_162 : decode cX57_isWhole 162 = .ok (.iload 9, 2) := by decide +kernel
theorem dX57_isWhole_164 : decode cX57_isWhole 164 = .ok (.ishr, 1) := by decide +kernel
theorem dX57_isWhole_165 : decode cX57_isWhole 165 = .ok (.iconst 1, 1) := by decide +kernel
theorem dX57_isWhole_166 : decode cX57_isWhole 166 = .ok (.iand, 1) := by decide +kernel
theorem dX57_isWhole_167 : decode cX57_isWhole 167 = .ok (.ifCond .ne 7, 3) := by decide +kernel
theorem dX57_isWhole_170 : decode cX57_isWhole 170 = .ok (.iconst 1, 1) := by decide +kernel
theorem dX57_isWhole_171 : decode cX57_isWhole 171 = .ok (.goto 4, 3) := by decide +kernel
theorem dX57_isWhole_174 : decode cX57_isWhole 174 = .ok (.iconst 0, 1) := by decide +kernel
theorem dX57_isWhole_175 : decode cX57_isWhole 175 = .ok (.istore 7, 2) := by decide +kernel
theorem dX57_isWhole_177 : decode cX57_isWhole 177 = .ok (.iload 7, 2) := by decide +kernel
theorem dX57_isWhole_179 : decode cX57_isWhole 179 = .ok (.ifCond .eq 12, 3) := by decide +kernel
theorem dX57_isWhole_182 : decode cX57_isWhole 182 = .ok (.iload 6, 2) := by decide +kernel
theorem dX57_isWhole_184 : decode cX57_isWhole 184 = .ok (.iconst 1, 1) := by decide +kernel
theorem dX57_isWhole_185 : decode cX57_isWhole 185 = .ok (.iload 9, 2) := by decide +kernel
theorem dX57_isWhole_187 : decode cX57_isWhole 187 = .ok (.ishl, 1) := by decide +kernel
theorem dX57_isWhole_188 : decode cX57_isWhole 188 = .ok (.ior, 1) := by decide +kernel
theorem dX57_isWhole_189 : decode cX57_isWhole 189 = .ok (.istore 6, 2) := by decide +kernel
theorem dX57_isWhole_191 : decode cX57_isWhole 191 = .ok (.iload 5, 2) := by decide +kernel
theorem dX57_isWhole_193 : decode cX57_isWhole 193 = .ok (.aload_n 0, 1) := by decide +kernel
theorem dX57_isWhole_194 : decode cX57_isWhole 194 = .ok (.getfield 13, 3) := by decide +kernel
theorem dX57_isWhole_197 : decode cX57_isWhole 197 = .ok (.bipush 32, 2) := by decide +kernel
theorem dX57_isWhole_199 : decode cX57_isWhole 199 = .ok (.iload 8, 2) := by decide +kernel
theorem dX57_isWhole_201 : decode cX57_isWhole 201 = .ok (.imul, 1) := by decide +kernel
theorem dX57_isWhole_202 : decode cX57_isWhole 202 = .ok (.invokestatic 88, 3) := by decide +kernel
theorem dX57_isWhole_205 : decode cX57_isWhole 205 = .ok (.ixor, 1) := by decide +kernel
theorem dX57_isWhole_206 : decode cX57_isWhole 206 = .ok (.istore 5, 2) := by decide +kernel
theorem dX57_isWhole_208 : decode cX57_isWhole 208 = .ok (.iinc 8 1, 3) := by decide +kernel
theorem dX57_isWhole_211 : decode cX57_isWhole 211 = .ok (.goto (-156), 3) := by decide +kernel
theorem dX57_isWhole_214 : decode cX57_isWhole 214 = .ok (.iload 7, 2) := by decide +kernel
theorem dX57_isWhole_216 : decode cX57_isWhole 216 = .ok (.ifCond .eq 23, 3) := by decide +kernel
theorem dX57_isWhole_219 : decode cX57_isWhole 219 = .ok (.iload 5, 2) := by decide +kernel
theorem dX57_isWhole_221 : decode cX57_isWhole 221 = .ok (.aload_n 0, 1) := by decide +kernel
theorem dX57_isWhole_222 : decode cX57_isWhole 222 = .ok (.getfield 13, 3) := by decide +kernel
theorem dX57_isWhole_225 : decode cX57_isWhole 225 = .ok (.iload_n 2, 1) := by decide +kernel
theorem dX57_isWhole_226 : decode cX57_isWhole 226 = .ok (.bipush 20, 2) := by decide +kernel
theorem dX57_isWhole_228 : decode cX57_isWhole 228 = .ok (.iadd, 1) := by decide +kernel
theorem dX57_isWhole_229 : decode cX57_isWhole 229 = .ok (.invokestatic 88, 3) := by decide +kernel
theorem dX57_isWhole_232 : decode cX57_isWhole 232 = .ok (.if_icmp .ne 7, 3) := by decide +kernel
theorem dX57_isWhole_235 : decode cX57_isWhole 235 = .ok (.iconst 1, 1) := by decide +kernel
theorem dX57_isWhole_236 : decode cX57_isWhole 236 = .ok (.goto 4, 3) := by decide +kernel
theorem dX57_isWhole_239 : decode cX57_isWhole 239 = .ok (.iconst 0, 1) := by decide +kernel
theorem dX57_isWhole_240 : decode cX57_isWhole 240 = .ok (.ireturn, 1) := by decide +kernel
abbrev cX57_isRight : ByteArray := prog_84_method_7_code
def yX57_isRight : MethodName := ⟨RX57, "isRight", "([II)Z"⟩
theorem dX57_isRight_0 : decode cX57_isRight 0 = .ok (.aload_n 0, 1) := by decide +kernel
theorem dX57_isRight_1 : decode cX57_isRight 1 = .ok (.bipush 32, 2) := by decide +kernel
theorem dX57_isRight_3 : decode cX57_isRight 3 = .ok (.iload_n 1, 1) := by decide +kernel
theorem dX57_isRight_4 : decode cX57_isRight 4 = .ok (.imul, 1) := by decide +kernel
theorem dX57_isRight_5 : decode cX57_isRight 5 = .ok (.invokestatic 88, 3) := by decide +kernel
theorem dX57_isRight_8 : decode cX57_isRight 8 = .ok (.aload_n 0, 1) := by decide +kernel
theorem dX57_isRight_9 : decode cX57_isRight 9 = .ok (.iload_n 1, 1) := by decide +kernel
theorem dX57_isRight_10 : decode cX57_isRight 10 = .ok (.invokestatic 80, 3) := by decide +kernel
theorem dX57_isRight_13 : decode cX57_isRight 13 = .ok (.if_icmp .ne 7, 3) := by decide +kernel
theorem dX57_isRight_16 : decode cX57_isRight 16 = .ok (.iconst 1, 1) := by decide +kernel
theorem dX57_isRight_17 : decode cX57_isRight 17 = .ok (.goto 4, 3) := by decide +kernel
theorem dX57_isRight_20 : decode cX57_isRight 20 = .ok (.iconst 0, 1) := by decide +kernel
theorem dX57_isRight_21 : decode cX57_isRight 21 = .ok (.ireturn, 1) := by decide +kernel
abbrev cX57_poke : ByteArray := prog_84_method_33_code
def yX57_poke : MethodName := ⟨RX57, "poke", "(III)I"⟩
theorem dX57_poke_0 : decode cX57_poke 0 = .ok (.aload_n 0, 1) := by decide +kernel
theorem dX57_poke_1 : decode cX57_poke 1 = .ok (.getfield 7, 3) := by decide +kernel
theorem dX57_poke_4 : decode cX57_poke 4 = .ok (.ifCond .ne 6, 3) := by decide +kernel
theorem dX57_poke_7 : decode cX57_poke 7 = .ok (.bipush (-3), 2) := by decide +kernel
theorem dX57_poke_9 : decode cX57_poke 9 = .ok (.ireturn, 1) := by decide +kernel
theorem dX57_poke_10 : decode cX57_poke 10 = .ok (.aload_n 0, 1) := by decide +kernel
theorem dX57_poke_11 : decode cX57_poke 11 = .ok (.iload_n 1, 1) := by decide +kernel
theorem dX57_poke_12 : decode cX57_poke 12 = .ok (.invokevirtual 128, 3) := by decide +kernel
theorem dX57_poke_15 : decode cX57_poke 15 = .ok (.ifCond .ne 5, 3) := by decide +kernel
theorem dX57_poke_18 : decode cX57_poke 18 = .ok (.iconst (-1), 1) := by decide +kernel
theorem dX57_poke_19 : decode cX57_poke 19 = .ok (.ireturn, 1) := by decide +kernel
theorem dX57_poke_20 : decode cX57_poke 20 = .ok (.iload_n 2, 1) := by decide +kernel
theorem dX57_poke_21 : decode cX57_poke 21 = .ok (.ifCond .lt 21, 3) := by decide +kernel
theorem dX57_poke_24 : decode cX57_poke 24 = .ok (.iload_n 2, 1) := by decide +kernel
theorem dX57_poke_25 : decode cX57_poke 25 = .ok (.bipush 32, 2) := by decide +kernel
theorem dX57_poke_27 : decode cX57_poke 27 = .ok (.if_icmp .ge 15, 3) := by decide +kernel
theorem dX57_poke_30 : decode cX57_poke 30 = .ok (.iload_n 3, 1) := by decide +kernel
theorem dX57_poke_31 : decode cX57_poke 31 = .ok (.iconst 1, 1) := by decide +kernel
theorem dX57_poke_32 : decode cX57_poke 32 = .ok (.if_icmp .lt 10, 3) := by decide +kernel
theorem dX57_poke_35 : decode cX57_poke 35 = .ok (.iload_n 3, 1) := by decide +kernel
theorem dX57_poke_36 : decode cX57_poke 36 = .ok (.sipush 255, 3) := by decide +kernel
theorem dX57_poke_39 : decode cX57_poke 39 = .ok (.if_icmp .le 6, 3) := by decide +kernel
theorem dX57_poke_42 : decode cX57_poke 42 = .ok (.bipush (-2), 2) := by decide +kernel
theorem dX57_poke_44 : decode cX57_poke 44 = .ok (.ireturn, 1) := by decide +kernel
theorem dX57_poke_45 : decode cX57_poke 45 = .ok (.aload_n 0, 1) := by decide +kernel
theorem dX57_poke_46 : decode cX57_poke 46 = .ok (.getfield 27, 3) := by decide +kernel
theorem dX57_poke_49 : decode cX57_poke 49 = .ok (.iload_n 1, 1) := by decide +kernel
theorem dX57_poke_50 : decode cX57_poke 50 = .ok (.iaload, 1) := by decide +kernel
theorem dX57_poke_51 : decode cX57_poke 51 = .ok (.istore 4, 2) := by decide +kernel
theorem dX57_poke_53 : decode cX57_poke 53 = .ok (.aload_n 0, 1) := by decide +kernel
theorem dX57_poke_54 : decode cX57_poke 54 = .ok (.getfield 23, 3) := by decide +kernel
theorem dX57_poke_57 : decode cX57_poke 57 = .ok (.iload 4, 2) := by decide +kernel
theorem dX57_poke_59 : decode cX57_poke 59 = .ok (.baload, 1) := by decide +kernel
theorem dX57_poke_60 : decode cX57_poke 60 = .ok (.ifCond .ne 12, 3) := by decide +kernel
theorem dX57_poke_63 : decode cX57_poke 63 = .ok (.aload_n 0, 1) := by decide +kernel
theorem dX57_poke_64 : decode cX57_poke 64 = .ok (.iload 4, 2) := by decide +kernel
theorem dX57_poke_66 : decode cX57_poke 66 = .ok (.invokevirtual 105, 3) := by decide +kernel
theorem dX57_poke_69 : decode cX57_poke 69 = .ok (.ifCond .eq 6, 3) := by decide +kernel
theorem dX57_poke_72 : decode cX57_poke 72 = .ok (.bipush (-3), 2) := by decide +kernel
theorem dX57_poke_74 : decode cX57_poke 74 = .ok (.ireturn, 1) := by decide +kernel
theorem dX57_poke_75 : decode cX57_poke 75 = .ok (.aload_n 0, 1) := by decide +kernel
theorem dX57_poke_76 : decode cX57_poke 76 = .ok (.getfield 13, 3) := by decide +kernel
theorem dX57_poke_79 : decode cX57_poke 79 = .ok (.bipush 32, 2) := by decide +kernel
theorem dX57_poke_81 : decode cX57_poke 81 = .ok (.iload 4, 2) := by decide +kernel
theorem dX57_poke_83 : decode cX57_poke 83 = .ok (.imul, 1) := by decide +kernel
theorem dX57_poke_84 : decode cX57_poke 84 = .ok (.iload_n 2, 1) := by decide +kernel
theorem dX57_poke_85 : decode cX57_poke 85 = .ok (.iadd, 1) := by decide +kernel
theorem dX57_poke_86 : decode cX57_poke 86 = .ok (.dup2, 1) := by decide +kernel
theorem dX57_poke_87 : decode cX57_poke 87 = .ok (.iaload, 1) := by decide +kernel
theorem dX57_poke_88 : decode cX57_poke 88 = .ok (.iload_n 3, 1) := by decide +kernel
theorem dX57_poke_89 : decode cX57_poke 89 = .ok (.ixor, 1) := by decide +kernel
theorem dX57_poke_90 : decode cX57_poke 90 = .ok (.iastore, 1) := by decide +kernel
theorem dX57_poke_91 : decode cX57_poke 91 = .ok (.aload_n 0, 1) := by decide +kernel
theorem dX57_poke_92 : decode cX57_poke 92 = .ok (.getfield 17, 3) := by decide +kernel
theorem dX57_poke_95 : decode cX57_poke 95 = .ok (.bipush 32, 2) := by decide +kernel
theorem dX57_poke_97 : decode cX57_poke 97 = .ok (.iload 4, 2) := by decide +kernel
theorem dX57_poke_99 : decode cX57_poke 99 = .ok (.imul, 1) := by decide +kernel
theorem dX57_poke_100 : decode cX57_poke 100 = .ok (.iload_n 2, 1) := by decide +kernel
theorem dX57_poke_101 : decode cX57_poke 101 = .ok (.iadd, 1) := by decide +kernel
theorem dX57_poke_102 : decode cX57_poke 102 = .ok (.aload_n 0, 1) := by decide +kernel
theorem dX57_poke_103 : decode cX57_poke 103 = .ok (.getfield 13, 3) := by decide +kernel
theorem dX57_poke_106 : decode cX57_poke 106 = .ok (.bipush 32, 2) := by decide +kernel
theorem dX57_poke_108 : decode cX57_poke 108 = .ok (.iload 4, 2) := by decide +kernel
theorem dX57_poke_110 : decode cX57_poke 110 = .ok (.imul, 1) := by decide +kernel
theorem dX57_poke_111 : decode cX57_poke 111 = .ok (.iload_n 2, 1) := by decide +kernel
theorem dX57_poke_112 : decode cX57_poke 112 = .ok (.iadd, 1) := by decide +kernel
theorem dX57_poke_113 : decode cX57_poke 113 = .ok (.iaload, 1) := by decide +kernel
theorem dX57_poke_114 : decode cX57_poke 114 = .ok (.iastore, 1) := by decide +kernel
theorem dX57_poke_115 : decode cX57_poke 115 = .ok (.aload_n 0, 1) := by decide +kernel
theorem dX57_poke_116 : decode cX57_poke 116 = .ok (.getfield 13, 3) := by decide +kernel
theorem dX57_poke_119 : decode cX57_poke 119 = .ok (.bipush 32, 2) := by decide +kernel
theorem dX57_poke_121 : decode cX57_poke 121 = .ok (.iload 4, 2) := by decide +kernel
theorem dX57_poke_123 : decode cX57_poke 123 = .ok (.imul, 1) := by decide +kernel
theorem dX57_poke_124 : decode cX57_poke 124 = .ok (.iload_n 2, 1) := by decide +kernel
theorem dX57_poke_125 : decode cX57_poke 125 = .ok (.iadd, 1) := by decide +kernel
theorem dX57_poke_126 : decode cX57_poke 126 = .ok (.iaload, 1) := by decide +kernel
theorem dX57_poke_127 : decode cX57_poke 127 = .ok (.ireturn, 1) := by decide +kernel
abbrev cX57_wrong : ByteArray := prog_84_method_34_code
def yX57_wrong : MethodName := ⟨RX57, "wrong", "(I)I"⟩
theorem dX57_wrong_0 : decode cX57_wrong 0 = .ok (.aload_n 0, 1) := by decide +kernel
theorem dX57_wrong_1 : decode cX57_wrong 1 = .ok (.getfield 7, 3) := by decide +kernel
theorem dX57_wrong_4 : decode cX57_wrong 4 = .ok (.ifCond .ne 6, 3) := by decide +kernel
theorem dX57_wrong_7 : decode cX57_wrong 7 = .ok (.bipush (-3), 2) := by decide +kernel
theorem dX57_wrong_9 : decode cX57_wrong 9 = .ok (.ireturn, 1) := by decide +kernel
theorem dX57_wrong_10 : decode cX57_wrong 10 = .ok (.iload_n 1, 1) := by decide +kernel
theorem dX57_wrong_11 : decode cX57_wrong 11 = .ok (.ifCond .lt 8, 3) := by decide +kernel
theorem dX57_wrong_14 : decode cX57_wrong 14 = .ok (.iload_n 1, 1) := by decide +kernel
theorem dX57_wrong_15 : decode cX57_wrong 15 = .ok (.iconst 2, 1) := by decide +kernel
theorem dX57_wrong_16 : decode cX57_wrong 16 = .ok (.if_icmp .le 6, 3) := by decide +kernel
theorem dX57_wrong_19 : decode cX57_wrong 19 = .ok (.bipush (-2), 2) := by decide +kernel
theorem dX57_wrong_21 : decode cX57_wrong 21 = .ok (.ireturn, 1) := by decide +kernel
theorem dX57_wrong_22 : decode cX57_wrong 22 = .ok (.iconst 0, 1) := by decide +kernel
theorem dX57_wrong_23 : decode cX57_wrong 23 = .ok (.istore_n 2, 1) := by decide +kernel
theorem dX57_wrong_24 : decode cX57_wrong 24 = .ok (.iconst (-1), 1) := by decide +kernel
theorem dX57_wrong_25 : decode cX57_wrong 25 = .ok (.istore_n 3, 1) := by decide +kernel
theorem dX57_wrong_26 : decode cX57_wrong 26 = .ok (.iconst 0, 1) := by decide +kernel
theorem dX57_wrong_27 : decode cX57_wrong 27 = .ok (.istore 4, 2) := by decide +kernel
theorem dX57_wrong_29 : decode cX57_wrong 29 = .ok (.iload 4, 2) := by decide +kernel
theorem dX57_wrong_31 : decode cX57_wrong 31 = .ok (.bipush 30, 2) := by decide +kernel
theorem dX57_wrong_33 : decode cX57_wrong 33 = .ok (.if_icmp .ge 66, 3) := by decide +kernel
theorem dX57_wrong_36 : decode cX57_wrong 36 = .ok (.aload_n 0, 1) := by decide +kernel
theorem dX57_wrong_37 : decode cX57_wrong 37 = .ok (.getfield 27, 3) := by decide +kernel
theorem dX57_wrong_40 : decode cX57_wrong 40 = .ok (.iload 4, 2) := by decide +kernel
theorem dX57_wrong_42 : decode cX57_wrong 42 = .ok (.iaload, 1) := by decide +kernel
theorem dX57_wrong_43 : decode cX57_wrong 43 = .ok (.iconst (-1), 1) := by decide +kernel
theorem dX57_wrong_44 : decode cX57_wrong 44 = .ok (.if_icmp .eq 49, 3) := by decide +kernel
theorem dX57_wrong_47 : decode cX57_wrong 47 = .ok (.aload_n 0, 1) := by decide +kernel
theorem dX57_wrong_48 : decode cX57_wrong 48 = .ok (.getfield 23, 3) := by decide +kernel
theorem dX57_wrong_51 : decode cX57_wrong 51 = .ok (.aload_n 0, 1) := by decide +kernel
theorem dX57_wrong_52 : decode cX57_wrong 52 = .ok (.getfield 27, 3) := by decide +kernel
theorem dX57_wrong_55 : decode cX57_wrong 55 = .ok (.iload 4, 2) := by decide +kernel
theorem dX57_wrong_57 : decode cX57_wrong 57 = .ok (.iaload, 1) := by decide +kernel
theorem dX57_wrong_58 : decode cX57_wrong 58 = .ok (.baload, 1) := by decide +kernel
theorem dX57_wrong_59 : decode cX57_wrong 59 = .ok (.ifCond .ne 34, 3) := by decide +kernel
theorem dX57_wrong_62 : decode cX57_wrong 62 = .ok (.aload_n 0, 1) := by decide +kernel
theorem dX57_wrong_63 : decode cX57_wrong 63 = .ok (.getfield 17, 3) := by decide +kernel
theorem dX57_wrong_66 : decode cX57_wrong 66 = .ok (.aload_n 0, 1) := by decide +kernel
theorem dX57_wrong_67 : decode cX57_wrong 67 = .ok (.getfield 27, 3) := by decide +kernel
theorem dX57_wrong_70 : decode cX57_wrong 70 = .ok (.iload 4, 2) := by decide +kernel
theorem dX57_wrong_72 : decode cX57_wrong 72 = .ok (.iaload, 1) := by decide +kernel
theorem dX57_wrong_73 : decode cX57_wrong 73 = .ok (.invokestatic 150, 3) := by decide +kernel
theorem dX57_wrong_76 : decode cX57_wrong 76 = .ok (.ifCond .eq 6, 3) := by decide +kernel
theorem dX57_wrong_79 : decode cX57_wrong 79 = .ok (.goto 14, 3) := by decide +kernel
theorem dX57_wrong_82 : decode cX57_wrong 82 = .ok (.iinc 2 1, 3) := by decide +kernel
theorem dX57_wrong_85 : decode cX57_wrong 85 = .ok (.iload_n 3, 1) := by decide +kernel
theorem dX57_wrong_86 : decode cX57_wrong 86 = .ok (.iconst (-1), 1) := by decide +kernel
theorem dX57_wrong_87 : decode cX57_wrong 87 = .ok (.if_icmp .ne 6, 3) := by decide +kernel
theorem dX57_wrong_90 : decode cX57_wrong 90 = .ok (.iload 4, 2) := by decide +kernel
theorem dX57_wrong_92 : decode cX57_wrong 92 = .ok (.istore_n 3, 1) := by decide +kernel
theorem dX57_wrong_93 : decode cX57_wrong 93 = .ok (.iinc 4 1, 3) := by decide +kernel
theorem dX57_wrong_96 : decode cX57_wrong 96 = .ok (.goto (-67), 3) := by decide +kernel
theorem dX57_wrong_99 : decode cX57_wrong 99 = .ok (.iload_n 1, 1) := by decide +kernel
theorem dX57_wrong_100 : decode cX57_wrong 100 = .ok (.ifCond .ne 7, 3) := by decide +kernel
theorem dX57_wrong_103 : decode cX57_wrong 103 = .ok (.iload_n 2, 1) := by decide +kernel
theorem dX57_wrong_104 : decode cX57_wrong 104 = .ok (.goto 27, 3) := by decide +kernel
theorem dX57_wrong_107 : decode cX57_wrong 107 = .ok (.iload_n 3, 1) := by decide +kernel
theorem dX57_wrong_108 : decode cX57_wrong 108 = .ok (.iconst (-1), 1) := by decide +kernel
theorem dX57_wrong_109 : decode cX57_wrong 109 = .ok (.if_icmp .ne 7, 3) := by decide +kernel
theorem dX57_wrong_112 : decode cX57_wrong 112 = .ok (.iconst (-1), 1) := by decide +kernel
theorem dX57_wrong_113 : decode cX57_wrong 113 = .ok (.goto 18, 3) := by decide +kernel
theorem dX57_wrong_116 : decode cX57_wrong 116 = .ok (.iload_n 1, 1) := by decide +kernel
theorem dX57_wrong_117 : decode cX57_wrong 117 = .ok (.iconst 1, 1) := by decide +kernel
theorem dX57_wrong_118 : decode cX57_wrong 118 = .ok (.if_icmp .ne 7, 3) := by decide +kernel
theorem dX57_wrong_121 : decode cX57_wrong 121 = .ok (.iload_n 3, 1) := by decide +kernel
theorem dX57_wrong_122 : decode cX57_wrong 122 = .ok (.goto 9, 3) := by decide +kernel
theorem dX57_wrong_125 : decode cX57_wrong 125 = .ok (.aload_n 0, 1) := by decide +kernel
theorem dX57_wrong_126 : decode cX57_wrong 126 = .ok (.getfield 27, 3) := by decide +kernel
theorem dX57_wrong_129 : decode cX57_wrong 129 = .ok (.iload_n 3, 1) := by decide +kernel
theorem dX57_wrong_130 : decode cX57_wrong 130 = .ok (.iaload, 1) := by decide +kernel
theorem dX57_wrong_131 : decode cX57_wrong 131 = .ok (.ireturn, 1) := by decide +kernel
abbrev cX57_backup : ByteArray := prog_84_method_36_code
def yX57_backup : MethodName := ⟨RX57, "backup", "(I)I"⟩
theorem dX57_backup_0 : decode cX57_backup 0 = .ok (.aload_n 0, 1) := by decide +kernel
theorem dX57_backup_1 : decode cX57_backup 1 = .ok (.getfield 7, 3) := by decide +kernel
theorem dX57_backup_4 : decode cX57_backup 4 = .ok (.ifCond .ne 6, 3) := by decide +kernel
theorem dX57_backup_7 : decode cX57_backup 7 = .ok (.bipush (-3), 2) := by decide +kernel
theorem dX57_backup_9 : decode cX57_backup 9 = .ok (.ireturn, 1) := by decide +kernel
theorem dX57_backup_10 : decode cX57_backup 10 = .ok (.aload_n 0, 1) := by decide +kernel
theorem dX57_backup_11 : decode cX57_backup 11 = .ok (.getfield 37, 3) := by decide +kernel
theorem dX57_backup_14 : decode cX57_backup 14 = .ok (.aload_n 0, 1) := by decide +kernel
theorem dX57_backup_15 : decode cX57_backup 15 = .ok (.getfield 64, 3) := by decide +kernel
theorem dX57_backup_18 : decode cX57_backup 18 = .ok (.iaload, 1) := by decide +kernel
theorem dX57_backup_19 : decode cX57_backup 19 = .ok (.iload_n 1, 1) := by decide +kernel
theorem dX57_backup_20 : decode cX57_backup 20 = .ok (.if_icmp .eq 5, 3) := by decide +kernel
theorem dX57_backup_23 : decode cX57_backup 23 = .ok (.iconst (-1), 1) := by decide +kernel
theorem dX57_backup_24 : decode cX57_backup 24 = .ok (.ireturn, 1) := by decide +kernel
theorem dX57_backup_25 : decode cX57_backup 25 = .ok (.aload_n 0, 1) := by decide +kernel
theorem dX57_backup_26 : decode cX57_backup 26 = .ok (.getfield 67, 3) := by decide +kernel
theorem dX57_backup_29 : decode cX57_backup 29 = .ok (.iconst 4, 1) := by decide +kernel
theorem dX57_backup_30 : decode cX57_backup 30 = .ok (.if_icmp .ne 6, 3) := by decide +kernel
theorem dX57_backup_33 : decode cX57_backup 33 = .ok (.bipush (-4), 2) := by decide +kernel
theorem dX57_backup_35 : decode cX57_backup 35 = .ok (.ireturn, 1) := by decide +kernel
theorem dX57_backup_36 : decode cX57_backup 36 = .ok (.aload_n 0, 1) := by decide +kernel
theorem dX57_backup_37 : decode cX57_backup 37 = .ok (.getfield 44, 3) := by decide +kernel
theorem dX57_backup_40 : decode cX57_backup 40 = .ok (.aload_n 0, 1) := by decide +kernel
theorem dX57_backup_41 : decode cX57_backup 41 = .ok (.getfield 67, 3) := by decide +kernel
theorem dX57_backup_44 : decode cX57_backup 44 = .ok (.iload_n 1, 1) := by decide +kernel
theorem dX57_backup_45 : decode cX57_backup 45 = .ok (.iastore, 1) := by decide +kernel
theorem dX57_backup_46 : decode cX57_backup 46 = .ok (.aload_n 0, 1) := by decide +kernel
theorem dX57_backup_47 : decode cX57_backup 47 = .ok (.getfield 47, 3) := by decide +kernel
theorem dX57_backup_50 : decode cX57_backup 50 = .ok (.aload_n 0, 1) := by decide +kernel
theorem dX57_backup_51 : decode cX57_backup 51 = .ok (.getfield 67, 3) := by decide +kernel
theorem dX57_backup_54 : decode cX57_backup 54 = .ok (.aload_n 0, 1) := by decide +kernel
theorem dX57_backup_55 : decode cX57_backup 55 = .ok (.getfield 40, 3) := by decide +kernel
theorem dX57_backup_58 : decode cX57_backup 58 = .ok (.aload_n 0, 1) := by decide +kernel
theorem dX57_backup_59 : decode cX57_backup 59 = .ok (.getfield 64, 3) := by decide +kernel
theorem dX57_backup_62 : decode cX57_backup 62 = .ok (.laload, 1) := by decide +kernel
theorem dX57_backup_63 : decode cX57_backup 63 = .ok (.lastore, 1) := by decide +kernel
theorem dX57_backup_64 : decode cX57_backup 64 = .ok (.aload_n 0, 1) := by decide +kernel
theorem dX57_backup_65 : decode cX57_backup 65 = .ok (.dup, 1) := by decide +kernel
theorem dX57_backup_66 : decode cX57_backup 66 = .ok (.getfield 67, 3) := by decide +kernel
theorem dX57_backup_69 : decode cX57_backup 69 = .ok (.iconst 1, 1) := by decide +kernel
theorem dX57_backup_70 : decode cX57_backup 70 = .ok (.iadd, 1) := by decide +kernel
theorem dX57_backup_71 : decode cX57_backup 71 = .ok (.putfield 67, 3) := by decide +kernel
theorem dX57_backup_74 : decode cX57_backup 74 = .ok (.aload_n 0, 1) := by decide +kernel
theorem dX57_backup_75 : decode cX57_backup 75 = .ok (.getfield 40, 3) := by decide +kernel
theorem dX57_backup_78 : decode cX57_backup 78 = .ok (.aload_n 0, 1) := by decide +kernel
theorem dX57_backup_79 : decode cX57_backup 79 = .ok (.getfield 64, 3) := by decide +kernel
theorem dX57_backup_82 : decode cX57_backup 82 = .ok (.laload, 1) := by decide +kernel
theorem dX57_backup_83 : decode cX57_backup 83 = .ok (.invokestatic 171, 3) := by decide +kernel
theorem dX57_backup_86 : decode cX57_backup 86 = .ok (.ireturn, 1) := by decide +kernel
abbrev cX57_bits : ByteArray := prog_84_method_35_code
def yX57_bits : MethodName := ⟨RX57, "bits", "(J)I"⟩
theorem dX57_bits_0 : decode cX57_bits 0 = .ok (.iconst 0, 1) := by decide +kernel
theorem dX57_bits_1 : decode cX57_bits 1 = .ok (.istore_n 2, 1) := by decide +kernel
theorem dX57_bits_2 : decode cX57_bits 2 = .ok (.iconst 0, 1) := by decide +kernel
theorem dX57_bits_3 : decode cX57_bits 3 = .ok (.istore_n 3, 1) := by decide +kernel
theorem dX57_bits_4 : decode cX57_bits 4 = .ok (.iload_n 3, 1) := by decide +kernel
theorem dX57_bits_5 : decode cX57_bits 5 = .ok (.bipush 64, 2) := by decide +kernel
theorem dX57_bits_7 : decode cX57_bits 7 = .ok (.if_icmp .ge 18, 3) := by decide +kernel
theorem dX57_bits_10 : decode cX57_bits 10 = .ok (.iload_n 2, 1) := by decide +kernel
theorem dX57_bits_11 : decode cX57_bits 11 = .ok (.lload_n 0, 1) := by decide +kernel
theorem dX57_bits_12 : decode cX57_bits 12 = .ok (.iload_n 3, 1) := by decide +kernel
theorem dX57_bits_13 : decode cX57_bits 13 = .ok (.lshr, 1) := by decide +kernel
theorem dX57_bits_14 : decode cX57_bits 14 = .ok (.lconst 1, 1) := by decide +kernel
theorem dX57_bits_15 : decode cX57_bits 15 = .ok (.land, 1) := by decide +kernel
theorem dX57_bits_16 : decode cX57_bits 16 = .ok (.l2i, 1) := by decide +kernel
theorem dX57_bits_17 : decode cX57_bits 17 = .ok (.iadd, 1) := by decide +kernel
theorem dX57_bits_18 : decode cX57_bits 18 = .ok (.istore_n 2, 1) := by decide +kernel
theorem dX57_bits_19 : decode cX57_bits 19 = .ok (.iinc 3 1, 3) := by decide +kernel
theorem dX57_bits_22 : decode cX57_bits 22 = .ok (.goto (-18), 3) := by decide +kernel
theorem dX57_bits_25 : decode cX57_bits 25 = .ok (.iload_n 2, 1) := by decide +kernel
theorem dX57_bits_26 : decode cX57_bits 26 = .ok (.ireturn, 1) := by decide +kernel
abbrev cX57_drop : ByteArray := prog_84_method_38_code
def yX57_drop : MethodName := ⟨RX57, "drop", "(I)I"⟩
theorem dX57_drop_0 : decode cX57_drop 0 = .ok (.aload_n 0, 1) := by decide +kernel
theorem dX57_drop_1 : decode cX57_drop 1 = .ok (.getfield 7, 3) := by decide +kernel
theorem dX57_drop_4 : decode cX57_drop 4 = .ok (.ifCond .ne 6, 3) := by decide +kernel
theorem dX57_drop_7 : decode cX57_drop 7 = .ok (.bipush (-3), 2) := by decide +kernel
theorem dX57_drop_9 : decode cX57_drop 9 = .ok (.ireturn, 1) := by decide +kernel
theorem dX57_drop_10 : decode cX57_drop 10 = .ok (.iconst 0, 1) := by decide +kernel
theorem dX57_drop_11 : decode cX57_drop 11 = .ok (.istore_n 2, 1) := by decide +kernel
theorem dX57_drop_12 : decode cX57_drop 12 = .ok (.iload_n 2, 1) := by decide +kernel
theorem dX57_drop_13 : decode cX57_drop 13 = .ok (.aload_n 0, 1) := by decide +kernel
theorem dX57_drop_14 : decode cX57_drop 14 = .ok (.getfield 67, 3) := by decide +kernel
theorem dX57_drop_17 : decode cX57_drop 17 = .ok (.if_icmp .ge 19, 3) := by decide +kernel
theorem dX57_drop_20 : decode cX57_drop 20 = .ok (.aload_n 0, 1) := by decide +kernel
theorem dX57_drop_21 : decode cX57_drop 21 = .ok (.getfield 44, 3) := by decide +kernel
theorem dX57_drop_24 : decode cX57_drop 24 = .ok (.iload_n 2, 1) := by decide +kernel
theorem dX57_drop_25 : decode cX57_drop 25 = .ok (.iaload, 1) := by decide +kernel
theorem dX57_drop_26 : decode cX57_drop 26 = .ok (.iload_n 1, 1) := by decide +kernel
theorem dX57_drop_27 : decode cX57_drop 27 = .ok (.if_icmp .eq 9, 3) := by decide +kernel
theorem dX57_drop_30 : decode cX57_drop 30 = .ok (.iinc 2 1, 3) := by decide +kernel
theorem dX57_drop_33 : decode cX57_drop 33 = .ok (.goto (-21), 3) := by decide +kernel
theorem dX57_drop_36 : decode cX57_drop 36 = .ok (.iload_n 2, 1) := by decide +kernel
theorem dX57_drop_37 : decode cX57_drop 37 = .ok (.aload_n 0, 1) := by decide +kernel
theorem dX57_drop_38 : decode cX57_drop 38 = .ok (.getfield 67, 3) := by decide +kernel
theorem dX57_drop_41 : decode cX57_drop 41 = .ok (.if_icmp .ne 5, 3) := by decide +kernel
theorem dX57_drop_44 : decode cX57_drop 44 = .ok (.iconst (-1), 1) := by decide +kernel
theorem dX57_drop_45 : decode cX57_drop 45 = .ok (.ireturn, 1) := by decide +kernel
theorem dX57_drop_46 : decode cX57_drop 46 = .ok (.aload_n 0, 1) := by decide +kernel
theorem dX57_drop_47 : decode cX57_drop 47 = .ok (.invokevirtual 175, 3) := by decide +kernel
theorem dX57_drop_50 : decode cX57_drop 50 = .ok (.istore_n 3, 1) := by decide +kernel
theorem dX57_drop_51 : decode cX57_drop 51 = .ok (.aload_n 0, 1) := by decide +kernel
theorem dX57_drop_52 : decode cX57_drop 52 = .ok (.dup, 1) := by decide +kernel
theorem dX57_drop_53 : decode cX57_drop 53 = .ok (.getfield 67, 3) := by decide +kernel
theorem dX57_drop_56 : decode cX57_drop 56 = .ok (.iconst 1, 1) := by decide +kernel
theorem dX57_drop_57 : decode cX57_drop 57 = .ok (.isub, 1) := by decide +kernel
theorem dX57_drop_58 : decode cX57_drop 58 = .ok (.putfield 67, 3) := by decide +kernel
theorem dX57_drop_61 : decode cX57_drop 61 = .ok (.iload_n 2, 1) := by decide +kernel
theorem dX57_drop_62 : decode cX57_drop 62 = .ok (.istore 4, 2) := by decide +kernel
theorem dX57_drop_64 : decode cX57_drop 64 = .ok (.iload 4, 2) := by decide +kernel
theorem dX57_drop_66 : decode cX57_drop 66 = .ok (.aload_n 0, 1) := by decide +kernel
theorem dX57_drop_67 : decode cX57_drop 67 = .ok (.getfield 67, 3) := by decide +kernel
theorem dX57_drop_70 : decode cX57_drop 70 = .ok (.if_icmp .ge 41, 3) := by decide +kernel
theorem dX57_drop_73 : decode cX57_drop 73 = .ok (.aload_n 0, 1) := by decide +kernel
theorem dX57_drop_74 : decode cX57_drop 74 = .ok (.getfield 44, 3) := by decide +kernel
theorem dX57_drop_77 : decode cX57_drop 77 = .ok (.iload 4, 2) := by decide +kernel
theorem dX57_drop_79 : decode cX57_drop 79 = .ok (.aload_n 0, 1) := by decide +kernel
theorem dX57_drop_80 : decode cX57_drop 80 = .ok (.getfield 44, 3) := by decide +kernel
theorem dX57_drop_83 : decode cX57_drop 83 = .ok (.iload 4, 2) := by decide +kernel
theorem dX57_drop_85 : decode cX57_drop 85 = .ok (.iconst 1, 1) := by decide +kernel
theorem dX57_drop_86 : decode cX57_drop 86 = .ok (.iadd, 1) := by decide +kernel
theorem dX57_drop_87 : decode cX57_drop 87 = .ok (.iaload, 1) := by decide +kernel
theorem dX57_drop_88 : decode cX57_drop 88 = .ok (.iastore, 1) := by decide +kernel
theorem dX57_drop_89 : decode cX57_drop 89 = .ok (.aload_n 0, 1) := by decide +kernel
theorem dX57_drop_90 : decode cX57_drop 90 = .ok (.getfield 47, 3) := by decide +kernel
theorem dX57_drop_93 : decode cX57_drop 93 = .ok (.iload 4, 2) := by decide +kernel
theorem dX57_drop_95 : decode cX57_drop 95 = .ok (.aload_n 0, 1) := by decide +kernel
theorem dX57_drop_96 : decode cX57_drop 96 = .ok (.getfield 47, 3) := by decide +kernel
theorem dX57_drop_99 : decode cX57_drop 99 = .ok (.iload 4, 2) := by decide +kernel
theorem dX57_drop_101 : decode cX57_drop 101 = .ok (.iconst 1, 1) := by decide +kernel
theorem dX57_drop_102 : decode cX57_drop 102 = .ok (.iadd, 1) := by decide +kernel
theorem dX57_drop_103 : decode cX57_drop 103 = .ok (.laload, 1) := by decide +kernel
theorem dX57_drop_104 : decode cX57_drop 104 = .ok (.lastore, 1) := by decide +kernel
theorem dX57_drop_105 : decode cX57_drop 105 = .ok (.iinc 4 1, 3) := by decide +kernel
theorem dX57_drop_108 : decode cX57_drop 108 = .ok (.goto (-44), 3) := by decide +kernel
theorem dX57_drop_111 : decode cX57_drop 111 = .ok (.iload_n 3, 1) := by decide +kernel
theorem dX57_drop_112 : decode cX57_drop 112 = .ok (.aload_n 0, 1) := by decide +kernel
theorem dX57_drop_113 : decode cX57_drop 113 = .ok (.invokevirtual 175, 3) := by decide +kernel
theorem dX57_drop_116 : decode cX57_drop 116 = .ok (.isub, 1) := by decide +kernel
theorem dX57_drop_117 : decode cX57_drop 117 = .ok (.ireturn, 1) := by decide +kernel
abbrev cX57_heldCount : ByteArray := prog_84_method_37_code
def yX57_heldCount : MethodName := ⟨RX57, "heldCount", "()I"⟩
theorem dX57_heldCount_0 : decode cX57_heldCount 0 = .ok (.iconst 0, 1) := by decide +kernel
theorem dX57_heldCount_1 : decode cX57_heldCount 1 = .ok (.istore_n 1, 1) := by decide +kernel
theorem dX57_heldCount_2 : decode cX57_heldCount 2 = .ok (.iconst 2, 1) := by decide +kernel
theorem dX57_heldCount_3 : decode cX57_heldCount 3 = .ok (.istore_n 2, 1) := by decide +kernel
theorem dX57_heldCount_4 : decode cX57_heldCount 4 = .ok (.iload_n 2, 1) := by decide +kernel
theorem dX57_heldCount_5 : decode cX57_heldCount 5 = .ok (.bipush 64, 2) := by decide +kernel
theorem dX57_heldCount_7 : decode cX57_heldCount 7 = .ok (.if_icmp .ge 25, 3) := by decide +kernel
theorem dX57_heldCount_10 : decode cX57_heldCount 10 = .ok (.iload_n 1, 1) := by decide +kernel
theorem dX57_heldCount_11 : decode cX57_heldCount 11 = .ok (.aload_n 0, 1) := by decide +kernel
theorem dX57_heldCount_12 : decode cX57_heldCount 12 = .ok (.iload_n 2, 1) := by decide +kernel
theorem dX57_heldCount_13 : decode cX57_heldCount 13 = .ok (.invokevirtual 108, 3) := by decide +kernel
theorem dX57_heldCount_16 : decode cX57_heldCount 16 = .ok (.ifCond .eq 7, 3) := by decide +kernel
theorem dX57_heldCount_19 : decode cX57_heldCount 19 = .ok (.iconst 1, 1) := by decide +kernel
theorem dX57_heldCount_20 : decode cX57_heldCount 20 = .ok (.goto 4, 3) := by decide +kernel
theorem dX57_heldCount_23 : decode cX57_heldCount 23 = .ok (.iconst 0, 1) := by decide +kernel
theorem dX57_heldCount_24 : decode cX57_heldCount 24 = .ok (.iadd, 1) := by decide +kernel
theorem dX57_heldCount_25 : decode cX57_heldCount 25 = .ok (.istore_n 1, 1) := by decide +kernel
theorem dX57_heldCount_26 : decode cX57_heldCount 26 = .ok (.iinc 2 1, 3) := by decide +kernel
theorem dX57_heldCount_29 : decode cX57_heldCount 29 = .ok (.goto (-25), 3) := by decide +kernel
theorem dX57_heldCount_32 : decode cX57_heldCount 32 = .ok (.iload_n 1, 1) := by decide +kernel
theorem dX57_heldCount_33 : decode cX57_heldCount 33 = .ok (.ireturn, 1) := by decide +kernel
abbrev cX57_derived : ByteArray := prog_84_method_22_code
def yX57_derived : MethodName := ⟨RX57, "derived", "(I)I"⟩
theorem dX57_derived_0 : decode cX57_derived 0 = .ok (.aload_n 0, 1) := by decide +kernel
theorem dX57_derived_1 : decode cX57_derived 1 = .ok (.getfield 7, 3) := by decide +kernel
theorem dX57_derived_4 : decode cX57_derived 4 = .ok (.ifCond .ne 6, 3) := by decide +kernel
theorem dX57_derived_7 : decode cX57_derived 7 = .ok (.bipush (-3), 2) := by decide +kernel
theorem dX57_derived_9 : decode cX57_derived 9 = .ok (.ireturn, 1) := by decide +kernel
theorem dX57_derived_10 : decode cX57_derived 10 = .ok (.aload_n 0, 1) := by decide +kernel
theorem dX57_derived_11 : decode cX57_derived 11 = .ok (.iload_n 1, 1) := by decide +kernel
theorem dX57_derived_12 : decode cX57_derived 12 = .ok (.invokevirtual 128, 3) := by decide +kernel
theorem dX57_derived_15 : decode cX57_derived 15 = .ok (.ifCond .eq 17, 3) := by decide +kernel
theorem dX57_derived_18 : decode cX57_derived 18 = .ok (.aload_n 0, 1) := by decide +kernel
theorem dX57_derived_19 : decode cX57_derived 19 = .ok (.aload_n 0, 1) := by decide +kernel
theorem dX57_derived_20 : decode cX57_derived 20 = .ok (.getfield 27, 3) := by decide +kernel
theorem dX57_derived_23 : decode cX57_derived 23 = .ok (.iload_n 1, 1) := by decide +kernel
theorem dX57_derived_24 : decode cX57_derived 24 = .ok (.iaload, 1) := by decide +kernel
theorem dX57_derived_25 : decode cX57_derived 25 = .ok (.invokevirtual 131, 3) := by decide +kernel
theorem dX57_derived_28 : decode cX57_derived 28 = .ok (.iconst 3, 1) := by decide +kernel
theorem dX57_derived_29 : decode cX57_derived 29 = .ok (.if_icmp .eq 5, 3) := by decide +kernel
theorem dX57_derived_32 : decode cX57_derived 32 = .ok (.iconst (-1), 1) := by decide +kernel
theorem dX57_derived_33 : decode cX57_derived 33 = .ok (.ireturn, 1) := by decide +kernel
theorem dX57_derived_34 : decode cX57_derived 34 = .ok (.aload_n 0, 1) := by decide +kernel
theorem dX57_derived_35 : decode cX57_derived 35 = .ok (.getfield 27, 3) := by decide +kernel
theorem dX57_derived_38 : decode cX57_derived 38 = .ok (.iload_n 1, 1) := by decide +kernel
theorem dX57_derived_39 : decode cX57_derived 39 = .ok (.iaload, 1) := by decide +kernel
theorem dX57_derived_40 : decode cX57_derived 40 = .ok (.istore_n 2, 1) := by decide +kernel
theorem dX57_derived_41 : decode cX57_derived 41 = .ok (.aload_n 0, 1) := by decide +kernel
theorem dX57_derived_42 : decode cX57_derived 42 = .ok (.iload_n 2, 1) := by decide +kernel
theorem dX57_derived_43 : decode cX57_derived 43 = .ok (.bipush 6, 2) := by decide +kernel
theorem dX57_derived_45 : decode cX57_derived 45 = .ok (.invokevirtual 97, 3) := by decide +kernel
theorem dX57_derived_48 : decode cX57_derived 48 = .ok (.istore_n 3, 1) := by decide +kernel
theorem dX57_derived_49 : decode cX57_derived 49 = .ok (.aload_n 0, 1) := by decide +kernel
theorem dX57_derived_50 : decode cX57_derived 50 = .ok (.iload_n 3, 1) := by decide +kernel
theorem dX57_derived_51 : decode cX57_derived 51 = .ok (.invokevirtual 128, 3) := by decide +kernel
theorem dX57_derived_54 : decode cX57_derived 54 = .ok (.ifCond .ne 5, 3) := by decide +kernel
theorem dX57_derived_57 : decode cX57_derived 57 = .ok (.iconst 0, 1) := by decide +kernel
theorem dX57_derived_58 : decode cX57_derived 58 = .ok (.ireturn, 1) := by decide +kernel
theorem dX57_derived_59 : decode cX57_derived 59 = .ok (.aload_n 0, 1) := by decide +kernel
theorem dX57_derived_60 : decode cX57_derived 60 = .ok (.aload_n 0, 1) := by decide +kernel
theorem dX57_derived_61 : decode cX57_derived 61 = .ok (.getfield 27, 3) := by decide +kernel
theorem dX57_derived_64 : decode cX57_derived 64 = .ok (.iload_n 3, 1) := by decide +kernel
theorem dX57_derived_65 : decode cX57_derived 65 = .ok (.iaload, 1) := by decide +kernel
theorem dX57_derived_66 : decode cX57_derived 66 = .ok (.invokevirtual 138, 3) := by decide +kernel
theorem dX57_derived_69 : decode cX57_derived 69 = .ok (.invokestatic 142, 3) := by decide +kernel
theorem dX57_derived_72 : decode cX57_derived 72 = .ok (.lstore 4, 2) := by decide +kernel
theorem dX57_derived_74 : decode cX57_derived 74 = .ok (.aload_n 0, 1) := by decide +kernel
theorem dX57_derived_75 : decode cX57_derived 75 = .ok (.getfield 23, 3) := by decide +kernel
theorem dX57_derived_78 : decode cX57_derived 78 = .ok (.iload_n 2, 1) := by decide +kernel
theorem dX57_derived_79 : decode cX57_derived 79 = .ok (.baload, 1) := by decide +kernel
theorem dX57_derived_80 : decode cX57_derived 80 = .ok (.ifCond .ne 14, 3) := by decide +kernel
theorem dX57_derived_83 : decode cX57_derived 83 = .ok (.aload_n 0, 1) := by decide +kernel
theorem dX57_derived_84 : decode cX57_derived 84 = .ok (.getfield 17, 3) := by decide +kernel
theorem dX57_derived_87 : decode cX57_derived 87 = .ok (.iload_n 2, 1) := by decide +kernel
theorem dX57_derived_88 : decode cX57_derived 88 = .ok (.invokestatic 150, 3) := by decide +kernel
theorem dX57_derived_91 : decode cX57_derived 91 = .ok (.ifCond .eq 7, 3) := by decide +kernel
theorem dX57_derived_94 : decode cX57_derived 94 = .ok (.iconst 1, 1) := by decide +kernel
theorem dX57_derived_95 : decode cX57_derived 95 = .ok (.goto 4, 3) := by decide +kernel
theorem dX57_derived_98 : decode cX57_derived 98 = .ok (.iconst 0, 1) := by decide +kernel
theorem dX57_derived_99 : decode cX57_derived 99 = .ok (.istore 6, 2) := by decide +kernel
theorem dX57_derived_101 : decode cX57_derived 101 = .ok (.iload 6, 2) := by decide +kernel
theorem dX57_derived_103 : decode cX57_derived 103 = .ok (.ifCond .eq 16, 3) := by decide +kernel
theorem dX57_derived_106 : decode cX57_derived 106 = .ok (.aload_n 0, 1) := by decide +kernel
theorem dX57_derived_107 : decode cX57_derived 107 = .ok (.iload_n 2, 1) := by decide +kernel
theorem dX57_derived_108 : decode cX57_derived 108 = .ok (.invokevirtual 138, 3) := by decide +kernel
theorem dX57_derived_111 : decode cX57_derived 111 = .ok (.lload 4, 2) := by decide +kernel
theorem dX57_derived_113 : decode cX57_derived 113 = .ok (.lcmp, 1) := by decide +kernel
theorem dX57_derived_114 : decode cX57_derived 114 = .ok (.ifCond .ne 5, 3) := by decide +kernel
theorem dX57_derived_117 : decode cX57_derived 117 = .ok (.iconst 0, 1) := by decide +kernel
theorem dX57_derived_118 : decode cX57_derived 118 = .ok (.ireturn, 1) := by decide +kernel
theorem dX57_derived_119 : decode cX57_derived 119 = .ok (.aload_n 0, 1) := by decide +kernel
theorem dX57_derived_120 : decode cX57_derived 120 = .ok (.iconst 3, 1) := by decide +kernel
theorem dX57_derived_121 : decode cX57_derived 121 = .ok (.iload_n 1, 1) := by decide +kernel
theorem dX57_derived_122 : decode cX57_derived 122 = .ok (.iload_n 3, 1) := by decide +kernel
theorem dX57_derived_123 : decode cX57_derived 123 = .ok (.lload 4, 2) := by decide +kernel
theorem dX57_derived_125 : decode cX57_derived 125 = .ok (.invokevirtual 146, 3) := by decide +kernel
theorem dX57_derived_128 : decode cX57_derived 128 = .ok (.bipush (-4), 2) := by decide +kernel
theorem dX57_derived_130 : decode cX57_derived 130 = .ok (.if_icmp .ne 8, 3) := by decide +kernel
theorem dX57_derived_133 : decode cX57_derived 133 = .ok (.bipush (-4), 2) := by decide +kernel
theorem dX57_derived_135 : decode cX57_derived 135 = .ok (.goto 4, 3) := by decide +kernel
theorem dX57_derived_138 : decode cX57_derived 138 = .ok (.iconst 1, 1) := by decide +kernel
theorem dX57_derived_139 : decode cX57_derived 139 = .ok (.ireturn, 1) := by decide +kernel
abbrev cX57_full : ByteArray := prog_84_method_39_code
def yX57_full : MethodName := ⟨RX57, "full", "(Z)Z"⟩
theorem dX57_full_0 : decode cX57_full 0 = .ok (.aload_n 0, 1) := by decide +kernel
theorem dX57_full_1 : decode cX57_full 1 = .ok (.getfield 117, 3) := by decide +kernel
theorem dX57_full_4 : decode cX57_full 4 = .ok (.istore_n 2, 1) := by decide +kernel
theorem dX57_full_5 : decode cX57_full 5 = .ok (.aload_n 0, 1) := by decide +kernel
theorem dX57_full_6 : decode cX57_full 6 = .ok (.iload_n 1, 1) := by decide +kernel
theorem dX57_full_7 : decode cX57_full 7 = .ok (.putfield 117, 3) := by decide +kernel
theorem dX57_full_10 : decode cX57_full 10 = .ok (.iload_n 2, 1) := by decide +kernel
theorem dX57_full_11 : decode cX57_full 11 = .ok (.ireturn, 1) := by decide +kernel
theorem in_X57 : ∀ w ∈ wsX570, w ∈ lw_all := lw_in wsX570 [6811, 6813, 6815, 6817, 6819, 6821, 6823, 6825, 6827, 6829, 6831, 6833, 6835, 6837, 6839, 6841, 6843, 6845, 6847, 6849, 6851, 6853] (by decide +kernel) (by decide +kernel)
theorem q552 : (Jvm.Cond.initialized "KnowHouseModel$KnowDiskModel") ∈ lw_all := lw_g (lw_at lw_m1 74 rfl) rfl
theorem q6786 : (Jvm.Cond.methodLink "KnowHouseModel$KnowDiskModel" (57 : Nat) ({ cls := "KnowHouseModel$KnowDiskModel", name := "begin", desc := "(IJ)V" } : Jvm.MethodName)) ∈ lw_all := lw_g (lw_at lw_m27 68 rfl) rfl
theorem q6788 : (Jvm.Cond.instanceMethod ({ cls := "KnowHouseModel$KnowDiskModel", name := "begin", desc := "(IJ)V" } : Jvm.MethodName)) ∈ lw_all := lw_g (lw_at lw_m27 70 rfl) rfl
theorem q6789 : (Jvm.Cond.code ({ cls := "KnowHouseModel$KnowDiskModel", name := "begin", desc := "(IJ)V" } : Jvm.MethodName) prog_84_method_2_code (5 : Nat) (Option.none : Option Jvm.ClassFile.FieldType)) ∈ lw_all := lw_g (lw_at lw_m27 71 rfl) rfl
theorem q6790 : (Jvm.Cond.fieldLink "KnowHouseModel$KnowDiskModel" (53 : Nat) "KnowHouseModel$KnowDiskModel" "count" "I") ∈ lw_all := lw_g (lw_at lw_m27 72 rfl) rfl
theorem q6791 : (Jvm.Cond.fieldLink "KnowHouseModel$KnowDiskModel" (7 : Nat) "KnowHouseModel$KnowDiskModel" "runs" "Z") ∈ lw_all := lw_g (lw_at lw_m27 73 rfl) rfl
theorem q6792 : (Jvm.Cond.fieldLink "KnowHouseModel$KnowDiskModel" (117 : Nat) "KnowHouseModel$KnowDiskModel" "full" "Z") ∈ lw_all := lw_g (lw_at lw_m27 74 rfl) rfl
theorem q6793 : (Jvm.Cond.fieldLink "KnowHouseModel$KnowDiskModel" (13 : Nat) "KnowHouseModel$KnowDiskModel" "disk" "[I") ∈ lw_all := lw_g (lw_at lw_m27 75 rfl) rfl
theorem q6794 : (Jvm.Cond.fieldLink "KnowHouseModel$KnowDiskModel" (17 : Nat) "KnowHouseModel$KnowDiskModel" "later" "[I") ∈ lw_all := lw_g (lw_at lw_m27 76 rfl) rfl
theorem q6795 : (Jvm.Cond.fieldLink "KnowHouseModel$KnowDiskModel" (20 : Nat) "KnowHouseModel$KnowDiskModel" "open" "[I") ∈ lw_all := lw_g (lw_at lw_m27 77 rfl) rfl
theorem q6796 : (Jvm.Cond.fieldLink "KnowHouseModel$KnowDiskModel" (23 : Nat) "KnowHouseModel$KnowDiskModel" "laid" "[Z") ∈ lw_all := lw_g (lw_at lw_m27 78 rfl) rfl
theorem q6797 : (Jvm.Cond.fieldLink "KnowHouseModel$KnowDiskModel" (27 : Nat) "KnowHouseModel$KnowDiskModel" "places" "[I") ∈ lw_all := lw_g (lw_at lw_m27 79 rfl) rfl
theorem q6798 : (Jvm.Cond.fieldLink "KnowHouseModel$KnowDiskModel" (76 : Nat) "KnowHouseModel$KnowDiskModel" "changed" "Z") ∈ lw_all := lw_g (lw_at lw_m27 80 rfl) rfl
theorem q6799 : (Jvm.Cond.fieldLink "KnowHouseModel$KnowDiskModel" (30 : Nat) "KnowHouseModel$KnowDiskModel" "targets" "[I") ∈ lw_all := lw_g (lw_at lw_m27 81 rfl) rfl
theorem q6800 : (Jvm.Cond.fieldLink "KnowHouseModel$KnowDiskModel" (34 : Nat) "KnowHouseModel$KnowDiskModel" "bytes" "[I") ∈ lw_all := lw_g (lw_at lw_m27 82 rfl) rfl
theorem q6801 : (Jvm.Cond.fieldLink "KnowHouseModel$KnowDiskModel" (70 : Nat) "KnowHouseModel$KnowDiskModel" "first" "I") ∈ lw_all := lw_g (lw_at lw_m27 83 rfl) rfl
theorem q6802 : (Jvm.Cond.fieldLink "KnowHouseModel$KnowDiskModel" (73 : Nat) "KnowHouseModel$KnowDiskModel" "behind" "I") ∈ lw_all := lw_g (lw_at lw_m27 84 rfl) rfl
theorem q6803 : (Jvm.Cond.fieldLink "KnowHouseModel$KnowDiskModel" (37 : Nat) "KnowHouseModel$KnowDiskModel" "numbers" "[I") ∈ lw_all := lw_g (lw_at lw_m27 85 rfl) rfl
theorem q6804 : (Jvm.Cond.fieldLink "KnowHouseModel$KnowDiskModel" (40 : Nat) "KnowHouseModel$KnowDiskModel" "sectors" "[J") ∈ lw_all := lw_g (lw_at lw_m27 86 rfl) rfl
theorem q6805 : (Jvm.Cond.fieldLink "KnowHouseModel$KnowDiskModel" (61 : Nat) "KnowHouseModel$KnowDiskModel" "oldest" "I") ∈ lw_all := lw_g (lw_at lw_m27 87 rfl) rfl
theorem q6806 : (Jvm.Cond.fieldLink "KnowHouseModel$KnowDiskModel" (64 : Nat) "KnowHouseModel$KnowDiskModel" "newest" "I") ∈ lw_all := lw_g (lw_at lw_m27 88 rfl) rfl
theorem q6807 : (Jvm.Cond.fieldLink "KnowHouseModel$KnowDiskModel" (44 : Nat) "KnowHouseModel$KnowDiskModel" "keptNumbers" "[I") ∈ lw_all := lw_g (lw_at lw_m27 89 rfl) rfl
theorem q6808 : (Jvm.Cond.fieldLink "KnowHouseModel$KnowDiskModel" (47 : Nat) "KnowHouseModel$KnowDiskModel" "keptSectors" "[J") ∈ lw_all := lw_g (lw_at lw_m27 90 rfl) rfl
theorem q6809 : (Jvm.Cond.fieldLink "KnowHouseModel$KnowDiskModel" (67 : Nat) "KnowHouseModel$KnowDiskModel" "kept" "I") ∈ lw_all := lw_g (lw_at lw_m27 91 rfl) rfl
theorem q6810 : (Jvm.Cond.fieldLink "KnowHouseModel$KnowDiskModel" (50 : Nat) "KnowHouseModel$KnowDiskModel" "head" "[I") ∈ lw_all := lw_g (lw_at lw_m27 92 rfl) rfl
theorem q7794 : (Jvm.Cond.methodLink "KnowHouseModel$KnowDiskModel" (128 : Nat) ({ cls := "KnowHouseModel$KnowDiskModel", name := "isPage", desc := "(I)Z" } : Jvm.MethodName)) ∈ lw_all := lw_g (lw_at lw_m31 116 rfl) rfl
theorem q7796 : (Jvm.Cond.instanceMethod ({ cls := "KnowHouseModel$KnowDiskModel", name := "isPage", desc := "(I)Z" } : Jvm.MethodName)) ∈ lw_all := lw_g (lw_at lw_m31 118 rfl) rfl
theorem q7797 : (Jvm.Cond.code ({ cls := "KnowHouseModel$KnowDiskModel", name := "isPage", desc := "(I)Z" } : Jvm.MethodName) prog_84_method_13_code (2 : Nat) (Option.some Jvm.ClassFile.FieldType.boolean)) ∈ lw_all := lw_g (lw_at lw_m31 119 rfl) rfl
theorem q7798 : (Jvm.Cond.methodLink "KnowHouseModel$KnowDiskModel" (131 : Nat) ({ cls := "KnowHouseModel$KnowDiskModel", name := "kindOf", desc := "(I)I" } : Jvm.MethodName)) ∈ lw_all := lw_g (lw_at lw_m31 120 rfl) rfl
theorem q7800 : (Jvm.Cond.instanceMethod ({ cls := "KnowHouseModel$KnowDiskModel", name := "kindOf", desc := "(I)I" } : Jvm.MethodName)) ∈ lw_all := lw_g (lw_at lw_m31 122 rfl) rfl
theorem q7801 : (Jvm.Cond.code ({ cls := "KnowHouseModel$KnowDiskModel", name := "kindOf", desc := "(I)I" } : Jvm.MethodName) prog_84_method_12_code (3 : Nat) (Option.some Jvm.ClassFile.FieldType.int)) ∈ lw_all := lw_g (lw_at lw_m31 123 rfl) rfl
theorem q7802 : (Jvm.Cond.methodLink "KnowHouseModel$KnowDiskModel" (97 : Nat) ({ cls := "KnowHouseModel$KnowDiskModel", name := "byteOf", desc := "(II)I" } : Jvm.MethodName)) ∈ lw_all := lw_g (lw_at lw_m31 124 rfl) rfl
theorem q7804 : (Jvm.Cond.instanceMethod ({ cls := "KnowHouseModel$KnowDiskModel", name := "byteOf", desc := "(II)I" } : Jvm.MethodName)) ∈ lw_all := lw_g (lw_at lw_m31 126 rfl) rfl
theorem q7805 : (Jvm.Cond.code ({ cls := "KnowHouseModel$KnowDiskModel", name := "byteOf", desc := "(II)I" } : Jvm.MethodName) prog_84_method_10_code (3 : Nat) (Option.some Jvm.ClassFile.FieldType.int)) ∈ lw_all := lw_g (lw_at lw_m31 127 rfl) rfl
theorem q7806 : (Jvm.Cond.methodLink "KnowHouseModel$KnowDiskModel" (135 : Nat) ({ cls := "KnowHouseModel$KnowDiskModel", name := "freePage", desc := "()I" } : Jvm.MethodName)) ∈ lw_all := lw_g (lw_at lw_m31 128 rfl) rfl
theorem q7808 : (Jvm.Cond.instanceMethod ({ cls := "KnowHouseModel$KnowDiskModel", name := "freePage", desc := "()I" } : Jvm.MethodName)) ∈ lw_all := lw_g (lw_at lw_m31 130 rfl) rfl
theorem q7809 : (Jvm.Cond.code ({ cls := "KnowHouseModel$KnowDiskModel", name := "freePage", desc := "()I" } : Jvm.MethodName) prog_84_method_18_code (2 : Nat) (Option.some Jvm.ClassFile.FieldType.int)) ∈ lw_all := lw_g (lw_at lw_m31 131 rfl) rfl
theorem q7810 : (Jvm.Cond.methodLink "KnowHouseModel$KnowDiskModel" (138 : Nat) ({ cls := "KnowHouseModel$KnowDiskModel", name := "valueOf", desc := "(I)J" } : Jvm.MethodName)) ∈ lw_all := lw_g (lw_at lw_m31 132 rfl) rfl
theorem q7812 : (Jvm.Cond.instanceMethod ({ cls := "KnowHouseModel$KnowDiskModel", name := "valueOf", desc := "(I)J" } : Jvm.MethodName)) ∈ lw_all := lw_g (lw_at lw_m31 134 rfl) rfl
theorem q7813 : (Jvm.Cond.code ({ cls := "KnowHouseModel$KnowDiskModel", name := "valueOf", desc := "(I)J" } : Jvm.MethodName) prog_84_method_11_code (2 : Nat) (Option.some Jvm.ClassFile.FieldType.long)) ∈ lw_all := lw_g (lw_at lw_m31 135 rfl) rfl
theorem q7814 : (Jvm.Cond.methodLink "KnowHouseModel$KnowDiskModel" (93 : Nat) ({ cls := "KnowHouseModel$KnowDiskModel", name := "wide", desc := "([II)J" } : Jvm.MethodName)) ∈ lw_all := lw_g (lw_at lw_m31 136 rfl) rfl
theorem q7815 : (Jvm.Cond.static ({ cls := "KnowHouseModel$KnowDiskModel", name := "wide", desc := "([II)J" } : Jvm.MethodName)) ∈ lw_all := lw_g (lw_at lw_m31 137 rfl) rfl
theorem q7816 : (Jvm.Cond.code ({ cls := "KnowHouseModel$KnowDiskModel", name := "wide", desc := "([II)J" } : Jvm.MethodName) prog_84_method_8_code (2 : Nat) (Option.some Jvm.ClassFile.FieldType.long)) ∈ lw_all := lw_g (lw_at lw_m31 138 rfl) rfl
theorem q7817 : (Jvm.Cond.methodLink "KnowHouseModel$KnowDiskModel" (88 : Nat) ({ cls := "KnowHouseModel$KnowDiskModel", name := "number", desc := "([II)I" } : Jvm.MethodName)) ∈ lw_all := lw_g (lw_at lw_m31 139 rfl) rfl
theorem q7818 : (Jvm.Cond.static ({ cls := "KnowHouseModel$KnowDiskModel", name := "number", desc := "([II)I" } : Jvm.MethodName)) ∈ lw_all := lw_g (lw_at lw_m31 140 rfl) rfl
theorem q7819 : (Jvm.Cond.code ({ cls := "KnowHouseModel$KnowDiskModel", name := "number", desc := "([II)I" } : Jvm.MethodName) prog_84_method_3_code (2 : Nat) (Option.some Jvm.ClassFile.FieldType.int)) ∈ lw_all := lw_g (lw_at lw_m31 141 rfl) rfl
theorem q7820 : (Jvm.Cond.constantLong "KnowHouseModel$KnowDiskModel" (91 : Nat) (4294967295 : Int64)) ∈ lw_all := lw_g (lw_at lw_m31 142 rfl) rfl
theorem q7821 : (Jvm.Cond.methodLink "KnowHouseModel$KnowDiskModel" (142 : Nat) ({ cls := "KnowHouseModel$KnowDiskModel", name := "turned", desc := "(J)J" } : Jvm.MethodName)) ∈ lw_all := lw_g (lw_at lw_m31 143 rfl) rfl
theorem q7822 : (Jvm.Cond.static ({ cls := "KnowHouseModel$KnowDiskModel", name := "turned", desc := "(J)J" } : Jvm.MethodName)) ∈ lw_all := lw_g (lw_at lw_m31 144 rfl) rfl
theorem q7823 : (Jvm.Cond.code ({ cls := "KnowHouseModel$KnowDiskModel", name := "turned", desc := "(J)J" } : Jvm.MethodName) prog_84_method_19_code (2 : Nat) (Option.some Jvm.ClassFile.FieldType.long)) ∈ lw_all := lw_g (lw_at lw_m31 145 rfl) rfl
theorem q7824 : (Jvm.Cond.constantLong "KnowHouseModel$KnowDiskModel" (111 : Nat) (25214903917 : Int64)) ∈ lw_all := lw_g (lw_at lw_m31 146 rfl) rfl
theorem q7825 : (Jvm.Cond.methodLink "KnowHouseModel$KnowDiskModel" (146 : Nat) ({ cls := "KnowHouseModel$KnowDiskModel", name := "lay", desc := "(IIIJ)I" } : Jvm.MethodName)) ∈ lw_all := lw_g (lw_at lw_m31 147 rfl) rfl
theorem q7827 : (Jvm.Cond.instanceMethod ({ cls := "KnowHouseModel$KnowDiskModel", name := "lay", desc := "(IIIJ)I" } : Jvm.MethodName)) ∈ lw_all := lw_g (lw_at lw_m31 149 rfl) rfl
theorem q7828 : (Jvm.Cond.code ({ cls := "KnowHouseModel$KnowDiskModel", name := "lay", desc := "(IIIJ)I" } : Jvm.MethodName) prog_84_method_20_code (8 : Nat) (Option.some Jvm.ClassFile.FieldType.int)) ∈ lw_all := lw_g (lw_at lw_m31 150 rfl) rfl
theorem q7829 : (Jvm.Cond.methodLink "KnowHouseModel$KnowDiskModel" (113 : Nat) ({ cls := "KnowHouseModel$KnowDiskModel", name := "freeSector", desc := "()I" } : Jvm.MethodName)) ∈ lw_all := lw_g (lw_at lw_m31 151 rfl) rfl
theorem q7831 : (Jvm.Cond.instanceMethod ({ cls := "KnowHouseModel$KnowDiskModel", name := "freeSector", desc := "()I" } : Jvm.MethodName)) ∈ lw_all := lw_g (lw_at lw_m31 153 rfl) rfl
theorem q7832 : (Jvm.Cond.code ({ cls := "KnowHouseModel$KnowDiskModel", name := "freeSector", desc := "()I" } : Jvm.MethodName) prog_84_method_17_code (2 : Nat) (Option.some Jvm.ClassFile.FieldType.int)) ∈ lw_all := lw_g (lw_at lw_m31 154 rfl) rfl
theorem q7833 : (Jvm.Cond.methodLink "KnowHouseModel$KnowDiskModel" (108 : Nat) ({ cls := "KnowHouseModel$KnowDiskModel", name := "isHeld", desc := "(I)Z" } : Jvm.MethodName)) ∈ lw_all := lw_g (lw_at lw_m31 155 rfl) rfl
theorem q7835 : (Jvm.Cond.instanceMethod ({ cls := "KnowHouseModel$KnowDiskModel", name := "isHeld", desc := "(I)Z" } : Jvm.MethodName)) ∈ lw_all := lw_g (lw_at lw_m31 157 rfl) rfl
theorem q7836 : (Jvm.Cond.code ({ cls := "KnowHouseModel$KnowDiskModel", name := "isHeld", desc := "(I)Z" } : Jvm.MethodName) prog_84_method_16_code (4 : Nat) (Option.some Jvm.ClassFile.FieldType.boolean)) ∈ lw_all := lw_g (lw_at lw_m31 158 rfl) rfl
theorem q7837 : (Jvm.Cond.methodLink "KnowHouseModel$KnowDiskModel" (101 : Nat) ({ cls := "KnowHouseModel$KnowDiskModel", name := "isOpen", desc := "(I)Z" } : Jvm.MethodName)) ∈ lw_all := lw_g (lw_at lw_m31 159 rfl) rfl
theorem q7839 : (Jvm.Cond.instanceMethod ({ cls := "KnowHouseModel$KnowDiskModel", name := "isOpen", desc := "(I)Z" } : Jvm.MethodName)) ∈ lw_all := lw_g (lw_at lw_m31 161 rfl) rfl
theorem q7840 : (Jvm.Cond.code ({ cls := "KnowHouseModel$KnowDiskModel", name := "isOpen", desc := "(I)Z" } : Jvm.MethodName) prog_84_method_14_code (4 : Nat) (Option.some Jvm.ClassFile.FieldType.boolean)) ∈ lw_all := lw_g (lw_at lw_m31 162 rfl) rfl
theorem q7841 : (Jvm.Cond.methodLink "KnowHouseModel$KnowDiskModel" (105 : Nat) ({ cls := "KnowHouseModel$KnowDiskModel", name := "isWaiting", desc := "(I)Z" } : Jvm.MethodName)) ∈ lw_all := lw_g (lw_at lw_m31 163 rfl) rfl
theorem q7843 : (Jvm.Cond.instanceMethod ({ cls := "KnowHouseModel$KnowDiskModel", name := "isWaiting", desc := "(I)Z" } : Jvm.MethodName)) ∈ lw_all := lw_g (lw_at lw_m31 165 rfl) rfl
theorem q7844 : (Jvm.Cond.code ({ cls := "KnowHouseModel$KnowDiskModel", name := "isWaiting", desc := "(I)Z" } : Jvm.MethodName) prog_84_method_15_code (4 : Nat) (Option.some Jvm.ClassFile.FieldType.boolean)) ∈ lw_all := lw_g (lw_at lw_m31 166 rfl) rfl
theorem q7845 : (Jvm.Cond.methodLink "KnowHouseModel$KnowDiskModel" (120 : Nat) ({ cls := "KnowHouseModel$KnowDiskModel", name := "setWide", desc := "([IIJ)V" } : Jvm.MethodName)) ∈ lw_all := lw_g (lw_at lw_m31 167 rfl) rfl
theorem q7846 : (Jvm.Cond.static ({ cls := "KnowHouseModel$KnowDiskModel", name := "setWide", desc := "([IIJ)V" } : Jvm.MethodName)) ∈ lw_all := lw_g (lw_at lw_m31 168 rfl) rfl
theorem q7847 : (Jvm.Cond.code ({ cls := "KnowHouseModel$KnowDiskModel", name := "setWide", desc := "([IIJ)V" } : Jvm.MethodName) prog_84_method_9_code (4 : Nat) (Option.none : Option Jvm.ClassFile.FieldType)) ∈ lw_all := lw_g (lw_at lw_m31 169 rfl) rfl
theorem q7848 : (Jvm.Cond.methodLink "KnowHouseModel$KnowDiskModel" (84 : Nat) ({ cls := "KnowHouseModel$KnowDiskModel", name := "set", desc := "([III)V" } : Jvm.MethodName)) ∈ lw_all := lw_g (lw_at lw_m31 170 rfl) rfl
theorem q7849 : (Jvm.Cond.static ({ cls := "KnowHouseModel$KnowDiskModel", name := "set", desc := "([III)V" } : Jvm.MethodName)) ∈ lw_all := lw_g (lw_at lw_m31 171 rfl) rfl
theorem q7850 : (Jvm.Cond.code ({ cls := "KnowHouseModel$KnowDiskModel", name := "set", desc := "([III)V" } : Jvm.MethodName) prog_84_method_4_code (4 : Nat) (Option.none : Option Jvm.ClassFile.FieldType)) ∈ lw_all := lw_g (lw_at lw_m31 172 rfl) rfl
theorem q7851 : (Jvm.Cond.methodLink "KnowHouseModel$KnowDiskModel" (124 : Nat) ({ cls := "KnowHouseModel$KnowDiskModel", name := "close", desc := "([II)V" } : Jvm.MethodName)) ∈ lw_all := lw_g (lw_at lw_m31 173 rfl) rfl
theorem q7852 : (Jvm.Cond.static ({ cls := "KnowHouseModel$KnowDiskModel", name := "close", desc := "([II)V" } : Jvm.MethodName)) ∈ lw_all := lw_g (lw_at lw_m31 174 rfl) rfl
theorem q7853 : (Jvm.Cond.code ({ cls := "KnowHouseModel$KnowDiskModel", name := "close", desc := "([II)V" } : Jvm.MethodName) prog_84_method_6_code (2 : Nat) (Option.none : Option Jvm.ClassFile.FieldType)) ∈ lw_all := lw_g (lw_at lw_m31 175 rfl) rfl
theorem q7854 : (Jvm.Cond.methodLink "KnowHouseModel$KnowDiskModel" (80 : Nat) ({ cls := "KnowHouseModel$KnowDiskModel", name := "sum", desc := "([II)I" } : Jvm.MethodName)) ∈ lw_all := lw_g (lw_at lw_m31 176 rfl) rfl
theorem q7855 : (Jvm.Cond.static ({ cls := "KnowHouseModel$KnowDiskModel", name := "sum", desc := "([II)I" } : Jvm.MethodName)) ∈ lw_all := lw_g (lw_at lw_m31 177 rfl) rfl
theorem q7856 : (Jvm.Cond.code ({ cls := "KnowHouseModel$KnowDiskModel", name := "sum", desc := "([II)I" } : Jvm.MethodName) prog_84_method_5_code (5 : Nat) (Option.some Jvm.ClassFile.FieldType.int)) ∈ lw_all := lw_g (lw_at lw_m31 178 rfl) rfl
theorem q7857 : (Jvm.Cond.constant "KnowHouseModel$KnowDiskModel" (79 : Nat) (-2048144777 : Int32)) ∈ lw_all := lw_g (lw_at lw_m31 179 rfl) rfl
theorem q7862 : (Jvm.Cond.constant "KnowHouseModel$KnowDiskModel" (154 : Nat) (1000000 : Int32)) ∈ lw_all := lw_g (lw_at lw_m31 184 rfl) rfl
theorem q7863 : (Jvm.Cond.methodLink "KnowHouseModel$KnowDiskModel" (155 : Nat) ({ cls := "KnowHouseModel$KnowDiskModel", name := "queue", desc := "([III)V" } : Jvm.MethodName)) ∈ lw_all := lw_g (lw_at lw_m31 185 rfl) rfl
theorem q7865 : (Jvm.Cond.instanceMethod ({ cls := "KnowHouseModel$KnowDiskModel", name := "queue", desc := "([III)V" } : Jvm.MethodName)) ∈ lw_all := lw_g (lw_at lw_m31 187 rfl) rfl
theorem q7866 : (Jvm.Cond.code ({ cls := "KnowHouseModel$KnowDiskModel", name := "queue", desc := "([III)V" } : Jvm.MethodName) prog_84_method_23_code (5 : Nat) (Option.none : Option Jvm.ClassFile.FieldType)) ∈ lw_all := lw_g (lw_at lw_m31 188 rfl) rfl
theorem q7871 : (Jvm.Cond.methodLink "KnowHouseModel$KnowDiskModel" (158 : Nat) ({ cls := "KnowHouseModel$KnowDiskModel", name := "write", desc := "(I)V" } : Jvm.MethodName)) ∈ lw_all := lw_g (lw_at lw_m31 193 rfl) rfl
theorem q7873 : (Jvm.Cond.instanceMethod ({ cls := "KnowHouseModel$KnowDiskModel", name := "write", desc := "(I)V" } : Jvm.MethodName)) ∈ lw_all := lw_g (lw_at lw_m31 195 rfl) rfl
theorem q7874 : (Jvm.Cond.code ({ cls := "KnowHouseModel$KnowDiskModel", name := "write", desc := "(I)V" } : Jvm.MethodName) prog_84_method_25_code (3 : Nat) (Option.none : Option Jvm.ClassFile.FieldType)) ∈ lw_all := lw_g (lw_at lw_m31 196 rfl) rfl
theorem q7875 : (Jvm.Cond.methodLink "KnowHouseModel$KnowDiskModel" (162 : Nat) ({ cls := "KnowHouseModel$KnowDiskModel", name := "settle", desc := "()V" } : Jvm.MethodName)) ∈ lw_all := lw_g (lw_at lw_m31 197 rfl) rfl
theorem q7877 : (Jvm.Cond.instanceMethod ({ cls := "KnowHouseModel$KnowDiskModel", name := "settle", desc := "()V" } : Jvm.MethodName)) ∈ lw_all := lw_g (lw_at lw_m31 199 rfl) rfl
theorem q7878 : (Jvm.Cond.code ({ cls := "KnowHouseModel$KnowDiskModel", name := "settle", desc := "()V" } : Jvm.MethodName) prog_84_method_26_code (1 : Nat) (Option.none : Option Jvm.ClassFile.FieldType)) ∈ lw_all := lw_g (lw_at lw_m31 200 rfl) rfl
theorem q8941 : (Jvm.Cond.methodLink "KnowHouseModel$KnowDiskModel" (165 : Nat) ({ cls := "KnowHouseModel$KnowDiskModel", name := "isWhole", desc := "(I)Z" } : Jvm.MethodName)) ∈ lw_all := lw_g (lw_at lw_m36 63 rfl) rfl
theorem q8943 : (Jvm.Cond.instanceMethod ({ cls := "KnowHouseModel$KnowDiskModel", name := "isWhole", desc := "(I)Z" } : Jvm.MethodName)) ∈ lw_all := lw_g (lw_at lw_m36 65 rfl) rfl
theorem q8944 : (Jvm.Cond.code ({ cls := "KnowHouseModel$KnowDiskModel", name := "isWhole", desc := "(I)Z" } : Jvm.MethodName) prog_84_method_29_code (10 : Nat) (Option.some Jvm.ClassFile.FieldType.boolean)) ∈ lw_all := lw_g (lw_at lw_m36 66 rfl) rfl
theorem q8945 : (Jvm.Cond.methodLink "KnowHouseModel$KnowDiskModel" (150 : Nat) ({ cls := "KnowHouseModel$KnowDiskModel", name := "isRight", desc := "([II)Z" } : Jvm.MethodName)) ∈ lw_all := lw_g (lw_at lw_m36 67 rfl) rfl
theorem q8946 : (Jvm.Cond.static ({ cls := "KnowHouseModel$KnowDiskModel", name := "isRight", desc := "([II)Z" } : Jvm.MethodName)) ∈ lw_all := lw_g (lw_at lw_m36 68 rfl) rfl
theorem q8947 : (Jvm.Cond.code ({ cls := "KnowHouseModel$KnowDiskModel", name := "isRight", desc := "([II)Z" } : Jvm.MethodName) prog_84_method_7_code (2 : Nat) (Option.some Jvm.ClassFile.FieldType.boolean)) ∈ lw_all := lw_g (lw_at lw_m36 69 rfl) rfl
theorem q8960 : (Jvm.Cond.methodLink "KnowHouseModel$KnowDiskModel" (171 : Nat) ({ cls := "KnowHouseModel$KnowDiskModel", name := "bits", desc := "(J)I" } : Jvm.MethodName)) ∈ lw_all := lw_g (lw_at lw_m36 82 rfl) rfl
theorem q8961 : (Jvm.Cond.static ({ cls := "KnowHouseModel$KnowDiskModel", name := "bits", desc := "(J)I" } : Jvm.MethodName)) ∈ lw_all := lw_g (lw_at lw_m36 83 rfl) rfl
theorem q8962 : (Jvm.Cond.code ({ cls := "KnowHouseModel$KnowDiskModel", name := "bits", desc := "(J)I" } : Jvm.MethodName) prog_84_method_35_code (4 : Nat) (Option.some Jvm.ClassFile.FieldType.int)) ∈ lw_all := lw_g (lw_at lw_m36 84 rfl) rfl
theorem q8967 : (Jvm.Cond.methodLink "KnowHouseModel$KnowDiskModel" (175 : Nat) ({ cls := "KnowHouseModel$KnowDiskModel", name := "heldCount", desc := "()I" } : Jvm.MethodName)) ∈ lw_all := lw_g (lw_at lw_m36 89 rfl) rfl
theorem q8969 : (Jvm.Cond.instanceMethod ({ cls := "KnowHouseModel$KnowDiskModel", name := "heldCount", desc := "()I" } : Jvm.MethodName)) ∈ lw_all := lw_g (lw_at lw_m36 91 rfl) rfl
theorem q8970 : (Jvm.Cond.code ({ cls := "KnowHouseModel$KnowDiskModel", name := "heldCount", desc := "()I" } : Jvm.MethodName) prog_84_method_37_code (3 : Nat) (Option.some Jvm.ClassFile.FieldType.int)) ∈ lw_all := lw_g (lw_at lw_m36 92 rfl) rfl
theorem gX57_57 : GoodIn lw_all (wsV RX57 57 RX57 yX57_begin (ws_ yX57_begin cX57_begin 5 (Option.none : Option Jvm.ClassFile.FieldType))) := lw_V q6786 q6788 qs228 q552 q6789
theorem gX57_80 : GoodIn lw_all (va_wsS RX57 80 yX57_sum (ws_ yX57_sum cX57_sum 5 (Option.some Jvm.ClassFile.FieldType.int))) := lw_S q7854 q7855 q552 q7856
theorem gX57_84 : GoodIn lw_all (va_wsS RX57 84 yX57_set (ws_ yX57_set cX57_set 4 (Option.none : Option Jvm.ClassFile.FieldType))) := lw_S q7848 q7849 q552 q7850
theorem gX57_88 : GoodIn lw_all (va_wsS RX57 88 yX57_number (ws_ yX57_number cX57_number 2 (Option.some Jvm.ClassFile.FieldType.int))) := lw_S q7817 q7818 q552 q7819
theorem gX57_93 : GoodIn lw_all (va_wsS RX57 93 yX57_wide (ws_ yX57_wide cX57_wide 2 (Option.some Jvm.ClassFile.FieldType.long))) := lw_S q7814 q7815 q552 q7816
theorem gX57_97 : GoodIn lw_all (wsV RX57 97 RX57 yX57_byteOf (ws_ yX57_byteOf cX57_byteOf 3 (Option.some Jvm.ClassFile.FieldType.int))) := lw_V q7802 q7804 qs336 q552 q7805
theorem gX57_101 : GoodIn lw_all (wsV RX57 101 RX57 yX57_isOpen (ws_ yX57_isOpen cX57_isOpen 4 (Option.some Jvm.ClassFile.FieldType.boolean))) := lw_V q7837 q7839 qs342 q552 q7840
theorem gX57_105 : GoodIn lw_all (wsV RX57 105 RX57 yX57_isWaiting (ws_ yX57_isWaiting cX57_isWaiting 4 (Option.some Jvm.ClassFile.FieldType.boolean))) := lw_V q7841 q7843 qs343 q552 q7844
theorem gX57_108 : GoodIn lw_all (wsV RX57 108 RX57 yX57_isHeld (ws_ yX57_isHeld cX57_isHeld 4 (Option.some Jvm.ClassFile.FieldType.boolean))) := lw_V q7833 q7835 qs341 q552 q7836
theorem gX57_113 : GoodIn lw_all (wsV RX57 113 RX57 yX57_freeSector (ws_ yX57_freeSector cX57_freeSector 2 (Option.some Jvm.ClassFile.FieldType.int))) := lw_V q7829 q7831 qs340 q552 q7832
theorem gX57_120 : GoodIn lw_all (va_wsS RX57 120 yX57_setWide (ws_ yX57_setWide cX57_setWide 4 (Option.none : Option Jvm.ClassFile.FieldType))) := lw_S q7845 q7846 q552 q7847
theorem gX57_124 : GoodIn lw_all (va_wsS RX57 124 yX57_close (ws_ yX57_close cX57_close 2 (Option.none : Option Jvm.ClassFile.FieldType))) := lw_S q7851 q7852 q552 q7853
theorem gX57_128 : GoodIn lw_all (wsV RX57 128 RX57 yX57_isPage (ws_ yX57_isPage cX57_isPage 2 (Option.some Jvm.ClassFile.FieldType.boolean))) := lw_V q7794 q7796 qs334 q552 q7797
theorem gX57_131 : GoodIn lw_all (wsV RX57 131 RX57 yX57_kindOf (ws_ yX57_kindOf cX57_kindOf 3 (Option.some Jvm.ClassFile.FieldType.int))) := lw_V q7798 q7800 qs335 q552 q7801
theorem gX57_135 : GoodIn lw_all (wsV RX57 135 RX57 yX57_freePage (ws_ yX57_freePage cX57_freePage 2 (Option.some Jvm.ClassFile.FieldType.int))) := lw_V q7806 q7808 qs337 q552 q7809
theorem gX57_138 : GoodIn lw_all (wsV RX57 138 RX57 yX57_valueOf (ws_ yX57_valueOf cX57_valueOf 2 (Option.some Jvm.ClassFile.FieldType.long))) := lw_V q7810 q7812 qs338 q552 q7813
theorem gX57_142 : GoodIn lw_all (va_wsS RX57 142 yX57_turned (ws_ yX57_turned cX57_turned 2 (Option.some Jvm.ClassFile.FieldType.long))) := lw_S q7821 q7822 q552 q7823
theorem gX57_146 : GoodIn lw_all (wsV RX57 146 RX57 yX57_lay (ws_ yX57_lay cX57_lay 8 (Option.some Jvm.ClassFile.FieldType.int))) := lw_V q7825 q7827 qs339 q552 q7828
theorem gX57_150 : GoodIn lw_all (va_wsS RX57 150 yX57_isRight (ws_ yX57_isRight cX57_isRight 2 (Option.some Jvm.ClassFile.FieldType.boolean))) := lw_S q8945 q8946 q552 q8947
theorem gX57_155 : GoodIn lw_all (wsV RX57 155 RX57 yX57_queue (ws_ yX57_queue cX57_queue 5 (Option.none : Option Jvm.ClassFile.FieldType))) := lw_V q7863 q7865 qs344 q552 q7866
theorem gX57_158 : GoodIn lw_all (wsV RX57 158 RX57 yX57_write (ws_ yX57_write cX57_write 3 (Option.none : Option Jvm.ClassFile.FieldType))) := lw_V q7871 q7873 qs345 q552 q7874
theorem gX57_162 : GoodIn lw_all (wsV RX57 162 RX57 yX57_settle (ws_ yX57_settle cX57_settle 1 (Option.none : Option Jvm.ClassFile.FieldType))) := lw_V q7875 q7877 qs346 q552 q7878
theorem gX57_165 : GoodIn lw_all (wsV RX57 165 RX57 yX57_isWhole (ws_ yX57_isWhole cX57_isWhole 10 (Option.some Jvm.ClassFile.FieldType.boolean))) := lw_V q8941 q8943 qs475 q552 q8944
theorem gX57_171 : GoodIn lw_all (va_wsS RX57 171 yX57_bits (ws_ yX57_bits cX57_bits 4 (Option.some Jvm.ClassFile.FieldType.int))) := lw_S q8960 q8961 q552 q8962
theorem gX57_175 : GoodIn lw_all (wsV RX57 175 RX57 yX57_heldCount (ws_ yX57_heldCount cX57_heldCount 3 (Option.some Jvm.ClassFile.FieldType.int))) := lw_V q8967 q8969 qs476 q552 q8970
theorem hX57_begin : yX57_begin.cls = RX57 ∧ yX57_begin.cls ≠ "java/lang/invoke/MethodHandle" ∧ yX57_begin.cls ≠ "java/lang/invoke/VarHandle" ∧ (parseMethodDescriptor yX57_begin.desc).map (fun d => d.parameters.length) = some 2 := by decide +kernel
theorem hX57_bits : yX57_bits.cls ≠ "java/lang/invoke/MethodHandle" ∧ yX57_bits.cls ≠ "java/lang/invoke/VarHandle" ∧ (parseMethodDescriptor yX57_bits.desc).map (fun d => d.parameters.length) = some 1 := by decide +kernel
theorem hX57_byteOf : yX57_byteOf.cls = RX57 ∧ yX57_byteOf.cls ≠ "java/lang/invoke/MethodHandle" ∧ yX57_byteOf.cls ≠ "java/lang/invoke/VarHandle" ∧ (parseMethodDescriptor yX57_byteOf.desc).map (fun d => d.parameters.length) = some 2 := by decide +kernel
theorem hX57_close : yX57_close.cls ≠ "java/lang/invoke/MethodHandle" ∧ yX57_close.cls ≠ "java/lang/invoke/VarHandle" ∧ (parseMethodDescriptor yX57_close.desc).map (fun d => d.parameters.length) = some 2 := by decide +kernel
theorem hX57_freePage : yX57_freePage.cls = RX57 ∧ yX57_freePage.cls ≠ "java/lang/invoke/MethodHandle" ∧ yX57_freePage.cls ≠ "java/lang/invoke/VarHandle" ∧ (parseMethodDescriptor yX57_freePage.desc).map (fun d => d.parameters.length) = some 0 := by decide +kernel
theorem hX57_freeSector : yX57_freeSector.cls = RX57 ∧ yX57_freeSector.cls ≠ "java/lang/invoke/MethodHandle" ∧ yX57_freeSector.cls ≠ "java/lang/invoke/VarHandle" ∧ (parseMethodDescriptor yX57_freeSector.desc).map (fun d => d.parameters.length) = some 0 := by decide +kernel
theorem hX57_heldCount : yX57_heldCount.cls = RX57 ∧ yX57_heldCount.cls ≠ "java/lang/invoke/MethodHandle" ∧ yX57_heldCount.cls ≠ "java/lang/invoke/VarHandle" ∧ (parseMethodDescriptor yX57_heldCount.desc).map (fun d => d.parameters.length) = some 0 := by decide +kernel
theorem hX57_isHeld : yX57_isHeld.cls = RX57 ∧ yX57_isHeld.cls ≠ "java/lang/invoke/MethodHandle" ∧ yX57_isHeld.cls ≠ "java/lang/invoke/VarHandle" ∧ (parseMethodDescriptor yX57_isHeld.desc).map (fun d => d.parameters.length) = some 1 := by decide +kernel
theorem hX57_isOpen : yX57_isOpen.cls = RX57 ∧ yX57_isOpen.cls ≠ "java/lang/invoke/MethodHandle" ∧ yX57_isOpen.cls ≠ "java/lang/invoke/VarHandle" ∧ (parseMethodDescriptor yX57_isOpen.desc).map (fun d => d.parameters.length) = some 1 := by decide +kernel
theorem hX57_isPage : yX57_isPage.cls = RX57 ∧ yX57_isPage.cls ≠ "java/lang/invoke/MethodHandle" ∧ yX57_isPage.cls ≠ "java/lang/invoke/VarHandle" ∧ (parseMethodDescriptor yX57_isPage.desc).map (fun d => d.parameters.length) = some 1 := by decide +kernel
theorem hX57_isRight : yX57_isRight.cls ≠ "java/lang/invoke/MethodHandle" ∧ yX57_isRight.cls ≠ "java/lang/invoke/VarHandle" ∧ (parseMethodDescriptor yX57_isRight.desc).map (fun d => d.parameters.length) = some 2 := by decide +kernel
theorem hX57_isWaiting : yX57_isWaiting.cls = RX57 ∧ yX57_isWaiting.cls ≠ "java/lang/invoke/MethodHandle" ∧ yX57_isWaiting.cls ≠ "java/lang/invoke/VarHandle" ∧ (parseMethodDescriptor yX57_isWaiting.desc).map (fun d => d.parameters.length) = some 1 := by decide +kernel
theorem hX57_isWhole : yX57_isWhole.cls = RX57 ∧ yX57_isWhole.cls ≠ "java/lang/invoke/MethodHandle" ∧ yX57_isWhole.cls ≠ "java/lang/invoke/VarHandle" ∧ (parseMethodDescriptor yX57_isWhole.desc).map (fun d => d.parameters.length) = some 1 := by decide +kernel
theorem hX57_kindOf : yX57_kindOf.cls = RX57 ∧ yX57_kindOf.cls ≠ "java/lang/invoke/MethodHandle" ∧ yX57_kindOf.cls ≠ "java/lang/invoke/VarHandle" ∧ (parseMethodDescriptor yX57_kindOf.desc).map (fun d => d.parameters.length) = some 1 := by decide +kernel
theorem hX57_lay : yX57_lay.cls = RX57 ∧ yX57_lay.cls ≠ "java/lang/invoke/MethodHandle" ∧ yX57_lay.cls ≠ "java/lang/invoke/VarHandle" ∧ (parseMethodDescriptor yX57_lay.desc).map (fun d => d.parameters.length) = some 4 := by decide +kernel
theorem hX57_number : yX57_number.cls ≠ "java/lang/invoke/MethodHandle" ∧ yX57_number.cls ≠ "java/lang/invoke/VarHandle" ∧ (parseMethodDescriptor yX57_number.desc).map (fun d => d.parameters.length) = some 2 := by decide +kernel
theorem hX57_queue : yX57_queue.cls = RX57 ∧ yX57_queue.cls ≠ "java/lang/invoke/MethodHandle" ∧ yX57_queue.cls ≠ "java/lang/invoke/VarHandle" ∧ (parseMethodDescriptor yX57_queue.desc).map (fun d => d.parameters.length) = some 3 := by decide +kernel
theorem hX57_set : yX57_set.cls ≠ "java/lang/invoke/MethodHandle" ∧ yX57_set.cls ≠ "java/lang/invoke/VarHandle" ∧ (parseMethodDescriptor yX57_set.desc).map (fun d => d.parameters.length) = some 3 := by decide +kernel
theorem hX57_setWide : yX57_setWide.cls ≠ "java/lang/invoke/MethodHandle" ∧ yX57_setWide.cls ≠ "java/lang/invoke/VarHandle" ∧ (parseMethodDescriptor yX57_setWide.desc).map (fun d => d.parameters.length) = some 3 := by decide +kernel
theorem hX57_settle : yX57_settle.cls = RX57 ∧ yX57_settle.cls ≠ "java/lang/invoke/MethodHandle" ∧ yX57_settle.cls ≠ "java/lang/invoke/VarHandle" ∧ (parseMethodDescriptor yX57_settle.desc).map (fun d => d.parameters.length) = some 0 := by decide +kernel
theorem hX57_sum : yX57_sum.cls ≠ "java/lang/invoke/MethodHandle" ∧ yX57_sum.cls ≠ "java/lang/invoke/VarHandle" ∧ (parseMethodDescriptor yX57_sum.desc).map (fun d => d.parameters.length) = some 2 := by decide +kernel
theorem hX57_turned : yX57_turned.cls ≠ "java/lang/invoke/MethodHandle" ∧ yX57_turned.cls ≠ "java/lang/invoke/VarHandle" ∧ (parseMethodDescriptor yX57_turned.desc).map (fun d => d.parameters.length) = some 1 := by decide +kernel
theorem hX57_valueOf : yX57_valueOf.cls = RX57 ∧ yX57_valueOf.cls ≠ "java/lang/invoke/MethodHandle" ∧ yX57_valueOf.cls ≠ "java/lang/invoke/VarHandle" ∧ (parseMethodDescriptor yX57_valueOf.desc).map (fun d => d.parameters.length) = some 1 := by decide +kernel
theorem hX57_wide : yX57_wide.cls ≠ "java/lang/invoke/MethodHandle" ∧ yX57_wide.cls ≠ "java/lang/invoke/VarHandle" ∧ (parseMethodDescriptor yX57_wide.desc).map (fun d => d.parameters.length) = some 2 := by decide +kernel
theorem hX57_write : yX57_write.cls = RX57 ∧ yX57_write.cls ≠ "java/lang/invoke/MethodHandle" ∧ yX57_write.cls ≠ "java/lang/invoke/VarHandle" ∧ (parseMethodDescriptor yX57_write.desc).map (fun d => d.parameters.length) = some 1 := by decide +kernel
