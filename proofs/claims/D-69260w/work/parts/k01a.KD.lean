/-! room KD (printed by tools/zgen2.py) -/
set_option maxRecDepth 100000
def RX42 : String := "KnowHouse$KnowDisk"
def TX42 : u_T := fun k => match k with
  | 0 => ("KnowHouse$KnowDisk", "disk", "[B", true)
  | 1 => ("KnowHouse$KnowDisk", "count", "I", true)
  | 2 => ("KnowHouse$KnowDisk", "runs", "Z", false)
  | 3 => ("KnowHouse$KnowDisk", "isFull", "Z", false)
  | 4 => ("KnowHouse$KnowDisk", "places", "[I", true)
  | 5 => ("KnowHouse$KnowDisk", "laid", "[LKnowHouse$KnowDisk$Sector;", true)
  | 6 => ("KnowHouse$KnowDisk", "changed", "Z", false)
  | 7 => ("KnowHouse$KnowDisk", "waiting", "Ljava/util/ArrayDeque;", true)
  | 8 => ("KnowHouse$KnowDisk", "states", "Ljava/util/ArrayDeque;", true)
  | _ => ("KnowHouse$KnowDisk", "kept", "Ljava/util/ArrayList;", true)
def tyX42 : Nat → FieldType := fun k => match k with
  | 0 => .array .byte
  | 1 => .int
  | 2 => .boolean
  | 3 => .boolean
  | 4 => .array .int
  | 5 => .array (.object "KnowHouse$KnowDisk$Sector")
  | 6 => .boolean
  | 7 => .object "java/util/ArrayDeque"
  | 8 => .object "java/util/ArrayDeque"
  | _ => .object "java/util/ArrayList"
abbrev wsX420 : List Cond := u_ws RX42 TX42 10
theorem nmX42 : ∀ a, a < 10 → ∀ b, b < 10 → a ≠ b → (TX42 a).2.1 ≠ (TX42 b).2.1 := by decide +kernel
theorem tyX42_ok : ∀ k, k < 10 → parseFieldDescriptor (TX42 k).2.2.1 = some (tyX42 k) := by decide +kernel
abbrev cX42_init : ByteArray := prog_21_method_1_code
def yX42_init : MethodName := ⟨RX42, "<init>", "(I)V"⟩
theorem dX42_init_0 : decode cX42_init 0 = .ok (.aload_n 0, 1) := by decide +kernel
theorem dX42_init_1 : decode cX42_init 1 = .ok (.invokespecial 1, 3) := by decide +kernel
theorem dX42_init_4 : decode cX42_init 4 = .ok (.aload_n 0, 1) := by decide +kernel
theorem dX42_init_5 : decode cX42_init 5 = .ok (.iconst 1, 1) := by decide +kernel
theorem dX42_init_6 : decode cX42_init 6 = .ok (.putfield 7, 3) := by decide +kernel
theorem dX42_init_9 : decode cX42_init 9 = .ok (.aload_n 0, 1) := by decide +kernel
theorem dX42_init_10 : decode cX42_init 10 = .ok (.bipush 30, 2) := by decide +kernel
theorem dX42_init_12 : decode cX42_init 12 = .ok (.newarray .int, 2) := by decide +kernel
theorem dX42_init_14 : decode cX42_init 14 = .ok (.putfield 13, 3) := by decide +kernel
theorem dX42_init_17 : decode cX42_init 17 = .ok (.aload_n 0, 1) := by decide +kernel
theorem dX42_init_18 : decode cX42_init 18 = .ok (.bipush 64, 2) := by decide +kernel
theorem dX42_init_20 : decode cX42_init 20 = .ok (.anewarray 17, 3) := by decide +kernel
theorem dX42_init_23 : decode cX42_init 23 = .ok (.putfield 19, 3) := by decide +kernel
theorem dX42_init_26 : decode cX42_init 26 = .ok (.aload_n 0, 1) := by decide +kernel
theorem dX42_init_27 : decode cX42_init 27 = .ok (.new 23, 3) := by decide +kernel
theorem dX42_init_30 : decode cX42_init 30 = .ok (.dup, 1) := by decide +kernel
theorem dX42_init_31 : decode cX42_init 31 = .ok (.invokespecial 25, 3) := by decide +kernel
theorem dX42_init_34 : decode cX42_init 34 = .ok (.putfield 26, 3) := by decide +kernel
theorem dX42_init_37 : decode cX42_init 37 = .ok (.aload_n 0, 1) := by decide +kernel
theorem dX42_init_38 : decode cX42_init 38 = .ok (.new 23, 3) := by decide +kernel
theorem dX42_init_41 : decode cX42_init 41 = .ok (.dup, 1) := by decide +kernel
theorem dX42_init_42 : decode cX42_init 42 = .ok (.invokespecial 25, 3) := by decide +kernel
theorem dX42_init_45 : decode cX42_init 45 = .ok (.putfield 30, 3) := by decide +kernel
theorem dX42_init_48 : decode cX42_init 48 = .ok (.aload_n 0, 1) := by decide +kernel
theorem dX42_init_49 : decode cX42_init 49 = .ok (.new 33, 3) := by decide +kernel
theorem dX42_init_52 : decode cX42_init 52 = .ok (.dup, 1) := by decide +kernel
theorem dX42_init_53 : decode cX42_init 53 = .ok (.invokespecial 35, 3) := by decide +kernel
theorem dX42_init_56 : decode cX42_init 56 = .ok (.putfield 36, 3) := by decide +kernel
theorem dX42_init_59 : decode cX42_init 59 = .ok (.aload_n 0, 1) := by decide +kernel
theorem dX42_init_60 : decode cX42_init 60 = .ok (.bipush 8, 2) := by decide +kernel
theorem dX42_init_62 : decode cX42_init 62 = .ok (.iload_n 1, 1) := by decide +kernel
theorem dX42_init_63 : decode cX42_init 63 = .ok (.bipush 57, 2) := by decide +kernel
theorem dX42_init_65 : decode cX42_init 65 = .ok (.invokestatic 40, 3) := by decide +kernel
theorem dX42_init_68 : decode cX42_init 68 = .ok (.iadd, 1) := by decide +kernel
theorem dX42_init_69 : decode cX42_init 69 = .ok (.putfield 46, 3) := by decide +kernel
theorem dX42_init_72 : decode cX42_init 72 = .ok (.aload_n 0, 1) := by decide +kernel
theorem dX42_init_73 : decode cX42_init 73 = .ok (.bipush 32, 2) := by decide +kernel
theorem dX42_init_75 : decode cX42_init 75 = .ok (.aload_n 0, 1) := by decide +kernel
theorem dX42_init_76 : decode cX42_init 76 = .ok (.getfield 46, 3) := by decide +kernel
theorem dX42_init_79 : decode cX42_init 79 = .ok (.imul, 1) := by decide +kernel
theorem dX42_init_80 : decode cX42_init 80 = .ok (.newarray .byte, 2) := by decide +kernel
theorem dX42_init_82 : decode cX42_init 82 = .ok (.putfield 50, 3) := by decide +kernel
theorem dX42_init_85 : decode cX42_init 85 = .ok (.aload_n 0, 1) := by decide +kernel
theorem dX42_init_86 : decode cX42_init 86 = .ok (.new 54, 3) := by decide +kernel
theorem dX42_init_89 : decode cX42_init 89 = .ok (.dup, 1) := by decide +kernel
theorem dX42_init_90 : decode cX42_init 90 = .ok (.iconst 0, 1) := by decide +kernel
theorem dX42_init_91 : decode cX42_init 91 = .ok (.lconst 0, 1) := by decide +kernel
theorem dX42_init_92 : decode cX42_init 92 = .ok (.invokespecial 56, 3) := by decide +kernel
theorem dX42_init_95 : decode cX42_init 95 = .ok (.invokevirtual 59, 3) := by decide +kernel
theorem dX42_init_98 : decode cX42_init 98 = .ok (.return_, 1) := by decide +kernel
abbrev cX42_begin : ByteArray := prog_21_method_2_code
def yX42_begin : MethodName := ⟨RX42, "begin", "(LKnowHouse$KnowDisk$State;)V"⟩
theorem dX42_begin_0 : decode cX42_begin 0 = .ok (.aload_n 0, 1) := by decide +kernel
theorem dX42_begin_1 : decode cX42_begin 1 = .ok (.getfield 30, 3) := by decide +kernel
theorem dX42_begin_4 : decode cX42_begin 4 = .ok (.invokevirtual 63, 3) := by decide +kernel
theorem dX42_begin_7 : decode cX42_begin 7 = .ok (.aload_n 0, 1) := by decide +kernel
theorem dX42_begin_8 : decode cX42_begin 8 = .ok (.getfield 30, 3) := by decide +kernel
theorem dX42_begin_11 : decode cX42_begin 11 = .ok (.aload_n 1, 1) := by decide +kernel
theorem dX42_begin_12 : decode cX42_begin 12 = .ok (.invokevirtual 66, 3) := by decide +kernel
theorem dX42_begin_15 : decode cX42_begin 15 = .ok (.pop, 1) := by decide +kernel
theorem dX42_begin_16 : decode cX42_begin 16 = .ok (.aload_n 0, 1) := by decide +kernel
theorem dX42_begin_17 : decode cX42_begin 17 = .ok (.getfield 36, 3) := by decide +kernel
theorem dX42_begin_20 : decode cX42_begin 20 = .ok (.invokevirtual 70, 3) := by decide +kernel
theorem dX42_begin_23 : decode cX42_begin 23 = .ok (.aload_n 0, 1) := by decide +kernel
theorem dX42_begin_24 : decode cX42_begin 24 = .ok (.getfield 26, 3) := by decide +kernel
theorem dX42_begin_27 : decode cX42_begin 27 = .ok (.invokevirtual 63, 3) := by decide +kernel
theorem dX42_begin_30 : decode cX42_begin 30 = .ok (.iconst 0, 1) := by decide +kernel
theorem dX42_begin_31 : decode cX42_begin 31 = .ok (.istore_n 2, 1) := by decide +kernel
theorem dX42_begin_32 : decode cX42_begin 32 = .ok (.iload_n 2, 1) := by decide +kernel
theorem dX42_begin_33 : decode cX42_begin 33 = .ok (.bipush 30, 2) := by decide +kernel
theorem dX42_begin_35 : decode cX42_begin 35 = .ok (.if_icmp .ge 16, 3) := by decide +kernel
theorem dX42_begin_38 : decode cX42_begin 38 = .ok (.aload_n 0, 1) := by decide +kernel
theorem dX42_begin_39 : decode cX42_begin 39 = .ok (.getfield 13, 3) := by decide +kernel
theorem dX42_begin_42 : decode cX42_begin 42 = .ok (.iload_n 2, 1) := by decide +kernel
theorem dX42_begin_43 : decode cX42_begin 43 = .ok (.iconst (-1), 1) := by decide +kernel
theorem dX42_begin_44 : decode cX42_begin 44 = .ok (.iastore, 1) := by decide +kernel
theorem dX42_begin_45 : decode cX42_begin 45 = .ok (.iinc 2 1, 3) := by decide +kernel
theorem dX42_begin_48 : decode cX42_begin 48 = .ok (.goto (-16), 3) := by decide +kernel
theorem dX42_begin_51 : decode cX42_begin 51 = .ok (.iconst 0, 1) := by decide +kernel
theorem dX42_begin_52 : decode cX42_begin 52 = .ok (.istore_n 2, 1) := by decide +kernel
theorem dX42_begin_53 : decode cX42_begin 53 = .ok (.iload_n 2, 1) := by decide +kernel
theorem dX42_begin_54 : decode cX42_begin 54 = .ok (.bipush 64, 2) := by decide +kernel
theorem dX42_begin_56 : decode cX42_begin 56 = .ok (.if_icmp .ge 16, 3) := by decide +kernel
theorem dX42_begin_59 : decode cX42_begin 59 = .ok (.aload_n 0, 1) := by decide +kernel
theorem dX42_begin_60 : decode cX42_begin 60 = .ok (.getfield 19, 3) := by decide +kernel
theorem dX42_begin_63 : decode cX42_begin 63 = .ok (.iload_n 2, 1) := by decide +kernel
theorem dX42_begin_64 : decode cX42_begin 64 = .ok (.aconst_null, 1) := by decide +kernel
theorem dX42_begin_65 : decode cX42_begin 65 = .ok (.aastore, 1) := by decide +kernel
theorem dX42_begin_66 : decode cX42_begin 66 = .ok (.iinc 2 1, 3) := by decide +kernel
theorem dX42_begin_69 : decode cX42_begin 69 = .ok (.goto (-16), 3) := by decide +kernel
theorem dX42_begin_72 : decode cX42_begin 72 = .ok (.aload_n 0, 1) := by decide +kernel
theorem dX42_begin_73 : decode cX42_begin 73 = .ok (.iconst 0, 1) := by decide +kernel
theorem dX42_begin_74 : decode cX42_begin 74 = .ok (.putfield 71, 3) := by decide +kernel
theorem dX42_begin_77 : decode cX42_begin 77 = .ok (.return_, 1) := by decide +kernel
abbrev cX42_page : ByteArray := prog_21_method_14_code
def yX42_page : MethodName := ⟨RX42, "page", "(IIJ)I"⟩
theorem dX42_page_0 : decode cX42_page 0 = .ok (.aload_n 0, 1) := by decide +kernel
theorem dX42_page_1 : decode cX42_page 1 = .ok (.getfield 7, 3) := by decide +kernel
theorem dX42_page_4 : decode cX42_page 4 = .ok (.ifCond .ne 6, 3) := by decide +kernel
theorem dX42_page_7 : decode cX42_page 7 = .ok (.bipush (-3), 2) := by decide +kernel
theorem dX42_page_9 : decode cX42_page 9 = .ok (.ireturn, 1) := by decide +kernel
theorem dX42_page_10 : decode cX42_page 10 = .ok (.iload_n 1, 1) := by decide +kernel
theorem dX42_page_11 : decode cX42_page 11 = .ok (.ifCond .lt 8, 3) := by decide +kernel
theorem dX42_page_14 : decode cX42_page 14 = .ok (.iload_n 1, 1) := by decide +kernel
theorem dX42_page_15 : decode cX42_page 15 = .ok (.iconst 3, 1) := by decide +kernel
theorem dX42_page_16 : decode cX42_page 16 = .ok (.if_icmp .le 6, 3) := by decide +kernel
theorem dX42_page_19 : decode cX42_page 19 = .ok (.bipush (-2), 2) := by decide +kernel
theorem dX42_page_21 : decode cX42_page 21 = .ok (.ireturn, 1) := by decide +kernel
theorem dX42_page_22 : decode cX42_page 22 = .ok (.iload_n 2, 1) := by decide +kernel
theorem dX42_page_23 : decode cX42_page 23 = .ok (.iconst (-1), 1) := by decide +kernel
theorem dX42_page_24 : decode cX42_page 24 = .ok (.if_icmp .ne 16, 3) := by decide +kernel
theorem dX42_page_27 : decode cX42_page 27 = .ok (.iload_n 1, 1) := by decide +kernel
theorem dX42_page_28 : decode cX42_page 28 = .ok (.ifCond .le 12, 3) := by decide +kernel
theorem dX42_page_31 : decode cX42_page 31 = .ok (.iload_n 1, 1) := by decide +kernel
theorem dX42_page_32 : decode cX42_page 32 = .ok (.iconst 3, 1) := by decide +kernel
theorem dX42_page_33 : decode cX42_page 33 = .ok (.if_icmp .ge 7, 3) := by decide +kernel
theorem dX42_page_36 : decode cX42_page 36 = .ok (.iconst 1, 1) := by decide +kernel
theorem dX42_page_37 : decode cX42_page 37 = .ok (.goto 4, 3) := by decide +kernel
theorem dX42_page_40 : decode cX42_page 40 = .ok (.iconst 0, 1) := by decide +kernel
theorem dX42_page_41 : decode cX42_page 41 = .ok (.istore 5, 2) := by decide +kernel
theorem dX42_page_43 : decode cX42_page 43 = .ok (.iload 5, 2) := by decide +kernel
theorem dX42_page_45 : decode cX42_page 45 = .ok (.ifCond .ne 11, 3) := by decide +kernel
theorem dX42_page_48 : decode cX42_page 48 = .ok (.aload_n 0, 1) := by decide +kernel
theorem dX42_page_49 : decode cX42_page 49 = .ok (.iload_n 2, 1) := by decide +kernel
theorem dX42_page_50 : decode cX42_page 50 = .ok (.invokevirtual 143, 3) := by decide +kernel
theorem dX42_page_53 : decode cX42_page 53 = .ok (.ifCond .eq 20, 3) := by decide +kernel
theorem dX42_page_56 : decode cX42_page 56 = .ok (.iload_n 1, 1) := by decide +kernel
theorem dX42_page_57 : decode cX42_page 57 = .ok (.iconst 3, 1) := by decide +kernel
theorem dX42_page_58 : decode cX42_page 58 = .ok (.if_icmp .ne 17, 3) := by decide +kernel
theorem dX42_page_61 : decode cX42_page 61 = .ok (.aload_n 0, 1) := by decide +kernel
theorem dX42_page_62 : decode cX42_page 62 = .ok (.iload_n 2, 1) := by decide +kernel
theorem dX42_page_63 : decode cX42_page 63 = .ok (.invokevirtual 147, 3) := by decide +kernel
theorem dX42_page_66 : decode cX42_page 66 = .ok (.invokevirtual 150, 3) := by decide +kernel
theorem dX42_page_69 : decode cX42_page 69 = .ok (.iconst 3, 1) := by decide +kernel
theorem dX42_page_70 : decode cX42_page 70 = .ok (.if_icmp .ne 5, 3) := by decide +kernel
theorem dX42_page_73 : decode cX42_page 73 = .ok (.iconst (-1), 1) := by decide +kernel
theorem dX42_page_74 : decode cX42_page 74 = .ok (.ireturn, 1) := by decide +kernel
theorem dX42_page_75 : decode cX42_page 75 = .ok (.iload_n 1, 1) := by decide +kernel
theorem dX42_page_76 : decode cX42_page 76 = .ok (.iconst 3, 1) := by decide +kernel
theorem dX42_page_77 : decode cX42_page 77 = .ok (.if_icmp .ne 25, 3) := by decide +kernel
theorem dX42_page_80 : decode cX42_page 80 = .ok (.aload_n 0, 1) := by decide +kernel
theorem dX42_page_81 : decode cX42_page 81 = .ok (.iconst 3, 1) := by decide +kernel
theorem dX42_page_82 : decode cX42_page 82 = .ok (.aload_n 0, 1) := by decide +kernel
theorem dX42_page_83 : decode cX42_page 83 = .ok (.invokevirtual 153, 3) := by decide +kernel
theorem dX42_page_86 : decode cX42_page 86 = .ok (.iload_n 2, 1) := by decide +kernel
theorem dX42_page_87 : decode cX42_page 87 = .ok (.aload_n 0, 1) := by decide +kernel
theorem dX42_page_88 : decode cX42_page 88 = .ok (.iload_n 2, 1) := by decide +kernel
theorem dX42_page_89 : decode cX42_page 89 = .ok (.invokevirtual 147, 3) := by decide +kernel
theorem dX42_page_92 : decode cX42_page 92 = .ok (.invokevirtual 156, 3) := by decide +kernel
theorem dX42_page_95 : decode cX42_page 95 = .ok (.invokestatic 159, 3) := by decide +kernel
theorem dX42_page_98 : decode cX42_page 98 = .ok (.invokevirtual 163, 3) := by decide +kernel
theorem dX42_page_101 : decode cX42_page 101 = .ok (.ireturn, 1) := by decide +kernel
theorem dX42_page_102 : decode cX42_page 102 = .ok (.iload_n 1, 1) := by decide +kernel
theorem dX42_page_103 : decode cX42_page 103 = .ok (.ifCond .le 26, 3) := by decide +kernel
theorem dX42_page_106 : decode cX42_page 106 = .ok (.aload_n 0, 1) := by decide +kernel
theorem dX42_page_107 : decode cX42_page 107 = .ok (.iload_n 1, 1) := by decide +kernel
theorem dX42_page_108 : decode cX42_page 108 = .ok (.iload 5, 2) := by decide +kernel
theorem dX42_page_110 : decode cX42_page 110 = .ok (.ifCond .eq 10, 3) := by decide +kernel
theorem dX42_page_113 : decode cX42_page 113 = .ok (.aload_n 0, 1) := by decide +kernel
theorem dX42_page_114 : decode cX42_page 114 = .ok (.invokevirtual 153, 3) := by decide +kernel
theorem dX42_page_117 : decode cX42_page 117 = .ok (.goto 4, 3) := by decide +kernel
theorem dX42_page_120 : decode cX42_page 120 = .ok (.iload_n 2, 1) := by decide +kernel
theorem dX42_page_121 : decode cX42_page 121 = .ok (.sipush 255, 3) := by decide +kernel
theorem dX42_page_124 : decode cX42_page 124 = .ok (.lload_n 3, 1) := by decide +kernel
theorem dX42_page_125 : decode cX42_page 125 = .ok (.invokevirtual 163, 3) := by decide +kernel
theorem dX42_page_128 : decode cX42_page 128 = .ok (.ireturn, 1) := by decide +kernel
theorem dX42_page_129 : decode cX42_page 129 = .ok (.aload_n 0, 1) := by decide +kernel
theorem dX42_page_130 : decode cX42_page 130 = .ok (.getfield 19, 3) := by decide +kernel
theorem dX42_page_133 : decode cX42_page 133 = .ok (.aload_n 0, 1) := by decide +kernel
theorem dX42_page_134 : decode cX42_page 134 = .ok (.getfield 13, 3) := by decide +kernel
theorem dX42_page_137 : decode cX42_page 137 = .ok (.iload_n 2, 1) := by decide +kernel
theorem dX42_page_138 : decode cX42_page 138 = .ok (.iaload, 1) := by decide +kernel
theorem dX42_page_139 : decode cX42_page 139 = .ok (.aconst_null, 1) := by decide +kernel
theorem dX42_page_140 : decode cX42_page 140 = .ok (.aastore, 1) := by decide +kernel
theorem dX42_page_141 : decode cX42_page 141 = .ok (.aload_n 0, 1) := by decide +kernel
theorem dX42_page_142 : decode cX42_page 142 = .ok (.getfield 13, 3) := by decide +kernel
theorem dX42_page_145 : decode cX42_page 145 = .ok (.iload_n 2, 1) := by decide +kernel
theorem dX42_page_146 : decode cX42_page 146 = .ok (.iconst (-1), 1) := by decide +kernel
theorem dX42_page_147 : decode cX42_page 147 = .ok (.iastore, 1) := by decide +kernel
theorem dX42_page_148 : decode cX42_page 148 = .ok (.aload_n 0, 1) := by decide +kernel
theorem dX42_page_149 : decode cX42_page 149 = .ok (.iconst 1, 1) := by decide +kernel
theorem dX42_page_150 : decode cX42_page 150 = .ok (.putfield 71, 3) := by decide +kernel
theorem dX42_page_153 : decode cX42_page 153 = .ok (.iload_n 2, 1) := by decide +kernel
theorem dX42_page_154 : decode cX42_page 154 = .ok (.ireturn, 1) := by decide +kernel
abbrev cX42_isPage : ByteArray := prog_21_method_6_code
def yX42_isPage : MethodName := ⟨RX42, "isPage", "(I)Z"⟩
theorem dX42_isPage_0 : decode cX42_isPage 0 = .ok (.iload_n 1, 1) := by decide +kernel
theorem dX42_isPage_1 : decode cX42_isPage 1 = .ok (.ifCond .lt 23, 3) := by decide +kernel
theorem dX42_isPage_4 : decode cX42_isPage 4 = .ok (.iload_n 1, 1) := by decide +kernel
theorem dX42_isPage_5 : decode cX42_isPage 5 = .ok (.bipush 30, 2) := by decide +kernel
theorem dX42_isPage_7 : decode cX42_isPage 7 = .ok (.if_icmp .ge 17, 3) := by decide +kernel
theorem dX42_isPage_10 : decode cX42_isPage 10 = .ok (.aload_n 0, 1) := by decide +kernel
theorem dX42_isPage_11 : decode cX42_isPage 11 = .ok (.getfield 13, 3) := by decide +kernel
theorem dX42_isPage_14 : decode cX42_isPage 14 = .ok (.iload_n 1, 1) := by decide +kernel
theorem dX42_isPage_15 : decode cX42_isPage 15 = .ok (.iaload, 1) := by decide +kernel
theorem dX42_isPage_16 : decode cX42_isPage 16 = .ok (.iconst (-1), 1) := by decide +kernel
theorem dX42_isPage_17 : decode cX42_isPage 17 = .ok (.if_icmp .eq 7, 3) := by decide +kernel
theorem dX42_isPage_20 : decode cX42_isPage 20 = .ok (.iconst 1, 1) := by decide +kernel
theorem dX42_isPage_21 : decode cX42_isPage 21 = .ok (.goto 4, 3) := by decide +kernel
theorem dX42_isPage_24 : decode cX42_isPage 24 = .ok (.iconst 0, 1) := by decide +kernel
theorem dX42_isPage_25 : decode cX42_isPage 25 = .ok (.ireturn, 1) := by decide +kernel
abbrev cX42_pageAt : ByteArray := prog_21_method_13_code
def yX42_pageAt : MethodName := ⟨RX42, "pageAt", "(I)LKnowHouse$KnowDisk$Sector;"⟩
theorem dX42_pageAt_0 : decode cX42_pageAt 0 = .ok (.aload_n 0, 1) := by decide +kernel
theorem dX42_pageAt_1 : decode cX42_pageAt 1 = .ok (.aload_n 0, 1) := by decide +kernel
theorem dX42_pageAt_2 : decode cX42_pageAt 2 = .ok (.getfield 13, 3) := by decide +kernel
theorem dX42_pageAt_5 : decode cX42_pageAt 5 = .ok (.iload_n 1, 1) := by decide +kernel
theorem dX42_pageAt_6 : decode cX42_pageAt 6 = .ok (.iaload, 1) := by decide +kernel
theorem dX42_pageAt_7 : decode cX42_pageAt 7 = .ok (.invokevirtual 141, 3) := by decide +kernel
theorem dX42_pageAt_10 : decode cX42_pageAt 10 = .ok (.areturn, 1) := by decide +kernel
abbrev cX42_sector : ByteArray := prog_21_method_4_code
def yX42_sector : MethodName := ⟨RX42, "sector", "(I)LKnowHouse$KnowDisk$Sector;"⟩
theorem dX42_sector_0 : decode cX42_sector 0 = .ok (.aload_n 0, 1) := by decide +kernel
theorem dX42_sector_1 : decode cX42_sector 1 = .ok (.getfield 19, 3) := by decide +kernel
theorem dX42_sector_4 : decode cX42_sector 4 = .ok (.iload_n 1, 1) := by decide +kernel
theorem dX42_sector_5 : decode cX42_sector 5 = .ok (.aaload, 1) := by decide +kernel
theorem dX42_sector_6 : decode cX42_sector 6 = .ok (.ifnull 10, 3) := by decide +kernel
theorem dX42_sector_9 : decode cX42_sector 9 = .ok (.aload_n 0, 1) := by decide +kernel
theorem dX42_sector_10 : decode cX42_sector 10 = .ok (.getfield 19, 3) := by decide +kernel
theorem dX42_sector_13 : decode cX42_sector 13 = .ok (.iload_n 1, 1) := by decide +kernel
theorem dX42_sector_14 : decode cX42_sector 14 = .ok (.aaload, 1) := by decide +kernel
theorem dX42_sector_15 : decode cX42_sector 15 = .ok (.areturn, 1) := by decide +kernel
theorem dX42_sector_16 : decode cX42_sector 16 = .ok (.aconst_null, 1) := by decide +kernel
theorem dX42_sector_17 : decode cX42_sector 17 = .ok (.astore_n 2, 1) := by decide +kernel
theorem dX42_sector_18 : decode cX42_sector 18 = .ok (.aload_n 0, 1) := by decide +kernel
theorem dX42_sector_19 : decode cX42_sector 19 = .ok (.getfield 26, 3) := by decide +kernel
theorem dX42_sector_22 : decode cX42_sector 22 = .ok (.invokevirtual 84, 3) := by decide +kernel
theorem dX42_sector_25 : decode cX42_sector 25 = .ok (.astore_n 3, 1) := by decide +kernel
theorem dX42_sector_26 : decode cX42_sector 26 = .ok (.aload_n 3, 1) := by decide +kernel
theorem dX42_sector_27 : decode cX42_sector 27 = .ok (.invokeinterface 88 1, 5) := by decide +kernel
theorem dX42_sector_32 : decode cX42_sector 32 = .ok (.ifCond .eq 32, 3) := by decide +kernel
theorem dX42_sector_35 : decode cX42_sector 35 = .ok (.aload_n 3, 1) := by decide +kernel
theorem dX42_sector_36 : decode cX42_sector 36 = .ok (.invokeinterface 94 1, 5) := by decide +kernel
theorem dX42_sector_41 : decode cX42_sector 41 = .ok (.checkcast 98, 3) := by decide +kernel
theorem dX42_sector_44 : decode cX42_sector 44 = .ok (.astore 4, 2) := by decide +kernel
theorem dX42_sector_46 : decode cX42_sector 46 = .ok (.aload 4, 2) := by decide +kernel
theorem dX42_sector_48 : decode cX42_sector 48 = .ok (.invokevirtual 100, 3) := by decide +kernel
theorem dX42_sector_51 : decode cX42_sector 51 = .ok (.iload_n 1, 1) := by decide +kernel
theorem dX42_sector_52 : decode cX42_sector 52 = .ok (.if_icmp .ne 9, 3) := by decide +kernel
theorem dX42_sector_55 : decode cX42_sector 55 = .ok (.aload 4, 2) := by decide +kernel
theorem dX42_sector_57 : decode cX42_sector 57 = .ok (.invokevirtual 104, 3) := by decide +kernel
theorem dX42_sector_60 : decode cX42_sector 60 = .ok (.astore_n 2, 1) := by decide +kernel
theorem dX42_sector_61 : decode cX42_sector 61 = .ok (.goto (-35), 3) := by decide +kernel
theorem dX42_sector_64 : decode cX42_sector 64 = .ok (.aload_n 2, 1) := by decide +kernel
theorem dX42_sector_65 : decode cX42_sector 65 = .ok (.ifnonnull 11, 3) := by decide +kernel
theorem dX42_sector_68 : decode cX42_sector 68 = .ok (.aload_n 0, 1) := by decide +kernel
theorem dX42_sector_69 : decode cX42_sector 69 = .ok (.iload_n 1, 1) := by decide +kernel
theorem dX42_sector_70 : decode cX42_sector 70 = .ok (.invokevirtual 108, 3) := by decide +kernel
theorem dX42_sector_73 : decode cX42_sector 73 = .ok (.goto 4, 3) := by decide +kernel
theorem dX42_sector_76 : decode cX42_sector 76 = .ok (.aload_n 2, 1) := by decide +kernel
theorem dX42_sector_77 : decode cX42_sector 77 = .ok (.areturn, 1) := by decide +kernel
abbrev cX42_read : ByteArray := prog_21_method_3_code
def yX42_read : MethodName := ⟨RX42, "read", "(I)LKnowHouse$KnowDisk$Sector;"⟩
theorem dX42_read_0 : decode cX42_read 0 = .ok (.new 17, 3) := by decide +kernel
theorem dX42_read_3 : decode cX42_read 3 = .ok (.dup, 1) := by decide +kernel
theorem dX42_read_4 : decode cX42_read 4 = .ok (.invokespecial 74, 3) := by decide +kernel
theorem dX42_read_7 : decode cX42_read 7 = .ok (.astore_n 2, 1) := by decide +kernel
theorem dX42_read_8 : decode cX42_read 8 = .ok (.aload_n 0, 1) := by decide +kernel
theorem dX42_read_9 : decode cX42_read 9 = .ok (.getfield 50, 3) := by decide +kernel
theorem dX42_read_12 : decode cX42_read 12 = .ok (.bipush 32, 2) := by decide +kernel
theorem dX42_read_14 : decode cX42_read 14 = .ok (.iload_n 1, 1) := by decide +kernel
theorem dX42_read_15 : decode cX42_read 15 = .ok (.imul, 1) := by decide +kernel
theorem dX42_read_16 : decode cX42_read 16 = .ok (.aload_n 2, 1) := by decide +kernel
theorem dX42_read_17 : decode cX42_read 17 = .ok (.getfield 75, 3) := by decide +kernel
theorem dX42_read_20 : decode cX42_read 20 = .ok (.iconst 0, 1) := by decide +kernel
theorem dX42_read_21 : decode cX42_read 21 = .ok (.bipush 32, 2) := by decide +kernel
theorem dX42_read_23 : decode cX42_read 23 = .ok (.invokestatic 78, 3) := by decide +kernel
theorem dX42_read_26 : decode cX42_read 26 = .ok (.aload_n 2, 1) := by decide +kernel
theorem dX42_read_27 : decode cX42_read 27 = .ok (.areturn, 1) := by decide +kernel
abbrev cX42_freePage : ByteArray := prog_21_method_10_code
def yX42_freePage : MethodName := ⟨RX42, "freePage", "()I"⟩
theorem dX42_freePage_0 : decode cX42_freePage 0 = .ok (.iconst 0, 1) := by decide +kernel
theorem dX42_freePage_1 : decode cX42_freePage 1 = .ok (.istore_n 1, 1) := by decide +kernel
theorem dX42_freePage_2 : decode cX42_freePage 2 = .ok (.iload_n 1, 1) := by decide +kernel
theorem dX42_freePage_3 : decode cX42_freePage 3 = .ok (.bipush 30, 2) := by decide +kernel
theorem dX42_freePage_5 : decode cX42_freePage 5 = .ok (.if_icmp .ge 19, 3) := by decide +kernel
theorem dX42_freePage_8 : decode cX42_freePage 8 = .ok (.aload_n 0, 1) := by decide +kernel
theorem dX42_freePage_9 : decode cX42_freePage 9 = .ok (.getfield 13, 3) := by decide +kernel
theorem dX42_freePage_12 : decode cX42_freePage 12 = .ok (.iload_n 1, 1) := by decide +kernel
theorem dX42_freePage_13 : decode cX42_freePage 13 = .ok (.iaload, 1) := by decide +kernel
theorem dX42_freePage_14 : decode cX42_freePage 14 = .ok (.iconst (-1), 1) := by decide +kernel
theorem dX42_freePage_15 : decode cX42_freePage 15 = .ok (.if_icmp .eq 9, 3) := by decide +kernel
theorem dX42_freePage_18 : decode cX42_freePage 18 = .ok (.iinc 1 1, 3) := by decide +kernel
theorem dX42_freePage_21 : decode cX42_freePage 21 = .ok (.goto (-19), 3) := by decide +kernel
theorem dX42_freePage_24 : decode cX42_freePage 24 = .ok (.iload_n 1, 1) := by decide +kernel
theorem dX42_freePage_25 : decode cX42_freePage 25 = .ok (.bipush 30, 2) := by decide +kernel
theorem dX42_freePage_27 : decode cX42_freePage 27 = .ok (.if_icmp .ge 7, 3) := by decide +kernel
theorem dX42_freePage_30 : decode cX42_freePage 30 = .ok (.iload_n 1, 1) := by decide +kernel
theorem dX42_freePage_31 : decode cX42_freePage 31 = .ok (.goto 4, 3) := by decide +kernel
theorem dX42_freePage_34 : decode cX42_freePage 34 = .ok (.iconst (-1), 1) := by decide +kernel
theorem dX42_freePage_35 : decode cX42_freePage 35 = .ok (.ireturn, 1) := by decide +kernel
abbrev cX42_derivedFrom : ByteArray := prog_21_method_11_code
def yX42_derivedFrom : MethodName := ⟨RX42, "derivedFrom", "(J)J"⟩
theorem dX42_derivedFrom_0 : decode cX42_derivedFrom 0 = .ok (.lload_n 0, 1) := by decide +kernel
theorem dX42_derivedFrom_1 : decode cX42_derivedFrom 1 = .ok (.bipush 9, 2) := by decide +kernel
theorem dX42_derivedFrom_3 : decode cX42_derivedFrom 3 = .ok (.invokestatic 123, 3) := by decide +kernel
theorem dX42_derivedFrom_6 : decode cX42_derivedFrom 6 = .ok (.ldc2_w 129, 3) := by decide +kernel
theorem dX42_derivedFrom_9 : decode cX42_derivedFrom 9 = .ok (.lxor, 1) := by decide +kernel
theorem dX42_derivedFrom_10 : decode cX42_derivedFrom 10 = .ok (.lreturn, 1) := by decide +kernel
abbrev cX42_lay : ByteArray := prog_21_method_12_code
def yX42_lay : MethodName := ⟨RX42, "lay", "(IIIJ)I"⟩
theorem dX42_lay_0 : decode cX42_lay 0 = .ok (.aload_n 0, 1) := by decide +kernel
theorem dX42_lay_1 : decode cX42_lay 1 = .ok (.invokevirtual 131, 3) := by decide +kernel
theorem dX42_lay_4 : decode cX42_lay 4 = .ok (.istore 6, 2) := by decide +kernel
theorem dX42_lay_6 : decode cX42_lay 6 = .ok (.iload_n 2, 1) := by decide +kernel
theorem dX42_lay_7 : decode cX42_lay 7 = .ok (.iconst (-1), 1) := by decide +kernel
theorem dX42_lay_8 : decode cX42_lay 8 = .ok (.if_icmp .eq 16, 3) := by decide +kernel
theorem dX42_lay_11 : decode cX42_lay 11 = .ok (.iload 6, 2) := by decide +kernel
theorem dX42_lay_13 : decode cX42_lay 13 = .ok (.iconst (-1), 1) := by decide +kernel
theorem dX42_lay_14 : decode cX42_lay 14 = .ok (.if_icmp .eq 10, 3) := by decide +kernel
theorem dX42_lay_17 : decode cX42_lay 17 = .ok (.aload_n 0, 1) := by decide +kernel
theorem dX42_lay_18 : decode cX42_lay 18 = .ok (.getfield 134, 3) := by decide +kernel
theorem dX42_lay_21 : decode cX42_lay 21 = .ok (.ifCond .eq 6, 3) := by decide +kernel
theorem dX42_lay_24 : decode cX42_lay 24 = .ok (.bipush (-4), 2) := by decide +kernel
theorem dX42_lay_26 : decode cX42_lay 26 = .ok (.ireturn, 1) := by decide +kernel
theorem dX42_lay_27 : decode cX42_lay 27 = .ok (.aload_n 0, 1) := by decide +kernel
theorem dX42_lay_28 : decode cX42_lay 28 = .ok (.getfield 19, 3) := by decide +kernel
theorem dX42_lay_31 : decode cX42_lay 31 = .ok (.iload 6, 2) := by decide +kernel
theorem dX42_lay_33 : decode cX42_lay 33 = .ok (.iload_n 1, 1) := by decide +kernel
theorem dX42_lay_34 : decode cX42_lay 34 = .ok (.iload_n 2, 1) := by decide +kernel
theorem dX42_lay_35 : decode cX42_lay 35 = .ok (.iload_n 3, 1) := by decide +kernel
theorem dX42_lay_36 : decode cX42_lay 36 = .ok (.lload 4, 2) := by decide +kernel
theorem dX42_lay_38 : decode cX42_lay 38 = .ok (.iconst 0, 1) := by decide +kernel
theorem dX42_lay_39 : decode cX42_lay 39 = .ok (.invokestatic 137, 3) := by decide +kernel
theorem dX42_lay_42 : decode cX42_lay 42 = .ok (.aastore, 1) := by decide +kernel
theorem dX42_lay_43 : decode cX42_lay 43 = .ok (.aload_n 0, 1) := by decide +kernel
theorem dX42_lay_44 : decode cX42_lay 44 = .ok (.getfield 13, 3) := by decide +kernel
theorem dX42_lay_47 : decode cX42_lay 47 = .ok (.iload_n 2, 1) := by decide +kernel
theorem dX42_lay_48 : decode cX42_lay 48 = .ok (.iaload, 1) := by decide +kernel
theorem dX42_lay_49 : decode cX42_lay 49 = .ok (.iconst (-1), 1) := by decide +kernel
theorem dX42_lay_50 : decode cX42_lay 50 = .ok (.if_icmp .eq 15, 3) := by decide +kernel
theorem dX42_lay_53 : decode cX42_lay 53 = .ok (.aload_n 0, 1) := by decide +kernel
theorem dX42_lay_54 : decode cX42_lay 54 = .ok (.getfield 19, 3) := by decide +kernel
theorem dX42_lay_57 : decode cX42_lay 57 = .ok (.aload_n 0, 1) := by decide +kernel
theorem dX42_lay_58 : decode cX42_lay 58 = .ok (.getfield 13, 3) := by decide +kernel
theorem dX42_lay_61 : decode cX42_lay 61 = .ok (.iload_n 2, 1) := by decide +kernel
theorem dX42_lay_62 : decode cX42_lay 62 = .ok (.iaload, 1) := by decide +kernel
theorem dX42_lay_63 : decode cX42_lay 63 = .ok (.aconst_null, 1) := by decide +kernel
theorem dX42_lay_64 : decode cX42_lay 64 = .ok (.aastore, 1) := by decide +kernel
theorem dX42_lay_65 : decode cX42_lay 65 = .ok (.aload_n 0, 1) := by decide +kernel
theorem dX42_lay_66 : decode cX42_lay 66 = .ok (.getfield 13, 3) := by decide +kernel
theorem dX42_lay_69 : decode cX42_lay 69 = .ok (.iload_n 2, 1) := by decide +kernel
theorem dX42_lay_70 : decode cX42_lay 70 = .ok (.iload 6, 2) := by decide +kernel
theorem dX42_lay_72 : decode cX42_lay 72 = .ok (.iastore, 1) := by decide +kernel
theorem dX42_lay_73 : decode cX42_lay 73 = .ok (.aload_n 0, 1) := by decide +kernel
theorem dX42_lay_74 : decode cX42_lay 74 = .ok (.iconst 1, 1) := by decide +kernel
theorem dX42_lay_75 : decode cX42_lay 75 = .ok (.putfield 71, 3) := by decide +kernel
theorem dX42_lay_78 : decode cX42_lay 78 = .ok (.iload_n 2, 1) := by decide +kernel
theorem dX42_lay_79 : decode cX42_lay 79 = .ok (.ireturn, 1) := by decide +kernel
abbrev cX42_free : ByteArray := prog_21_method_9_code
def yX42_free : MethodName := ⟨RX42, "free", "()I"⟩
theorem dX42_free_0 : decode cX42_free 0 = .ok (.aload_n 0, 1) := by decide +kernel
theorem dX42_free_1 : decode cX42_free 1 = .ok (.invokevirtual 120, 3) := by decide +kernel
theorem dX42_free_4 : decode cX42_free 4 = .ok (.lstore_n 1, 1) := by decide +kernel
theorem dX42_free_5 : decode cX42_free 5 = .ok (.iconst 2, 1) := by decide +kernel
theorem dX42_free_6 : decode cX42_free 6 = .ok (.istore_n 3, 1) := by decide +kernel
theorem dX42_free_7 : decode cX42_free 7 = .ok (.iload_n 3, 1) := by decide +kernel
theorem dX42_free_8 : decode cX42_free 8 = .ok (.aload_n 0, 1) := by decide +kernel
theorem dX42_free_9 : decode cX42_free 9 = .ok (.getfield 46, 3) := by decide +kernel
theorem dX42_free_12 : decode cX42_free 12 = .ok (.if_icmp .ge 19, 3) := by decide +kernel
theorem dX42_free_15 : decode cX42_free 15 = .ok (.lload_n 1, 1) := by decide +kernel
theorem dX42_free_16 : decode cX42_free 16 = .ok (.iload_n 3, 1) := by decide +kernel
theorem dX42_free_17 : decode cX42_free 17 = .ok (.lshr, 1) := by decide +kernel
theorem dX42_free_18 : decode cX42_free 18 = .ok (.lconst 1, 1) := by decide +kernel
theorem dX42_free_19 : decode cX42_free 19 = .ok (.land, 1) := by decide +kernel
theorem dX42_free_20 : decode cX42_free 20 = .ok (.lconst 1, 1) := by decide +kernel
theorem dX42_free_21 : decode cX42_free 21 = .ok (.lcmp, 1) := by decide +kernel
theorem dX42_free_22 : decode cX42_free 22 = .ok (.ifCond .ne 9, 3) := by decide +kernel
theorem dX42_free_25 : decode cX42_free 25 = .ok (.iinc 3 1, 3) := by decide +kernel
theorem dX42_free_28 : decode cX42_free 28 = .ok (.goto (-21), 3) := by decide +kernel
theorem dX42_free_31 : decode cX42_free 31 = .ok (.iload_n 3, 1) := by decide +kernel
theorem dX42_free_32 : decode cX42_free 32 = .ok (.aload_n 0, 1) := by decide +kernel
theorem dX42_free_33 : decode cX42_free 33 = .ok (.getfield 46, 3) := by decide +kernel
theorem dX42_free_36 : decode cX42_free 36 = .ok (.if_icmp .ge 7, 3) := by decide +kernel
theorem dX42_free_39 : decode cX42_free 39 = .ok (.iload_n 3, 1) := by decide +kernel
theorem dX42_free_40 : decode cX42_free 40 = .ok (.goto 4, 3) := by decide +kernel
theorem dX42_free_43 : decode cX42_free 43 = .ok (.iconst (-1), 1) := by decide +kernel
theorem dX42_free_44 : decode cX42_free 44 = .ok (.ireturn, 1) := by decide +kernel
abbrev cX42_held : ByteArray := prog_21_method_8_code
def yX42_held : MethodName := ⟨RX42, "held", "()J"⟩
theorem dX42_held_0 : decode cX42_held 0 = .ok (.aload_n 0, 1) := by decide +kernel
theorem dX42_held_1 : decode cX42_held 1 = .ok (.invokevirtual 112, 3) := by decide +kernel
theorem dX42_held_4 : decode cX42_held 4 = .ok (.lstore_n 1, 1) := by decide +kernel
theorem dX42_held_5 : decode cX42_held 5 = .ok (.aload_n 0, 1) := by decide +kernel
theorem dX42_held_6 : decode cX42_held 6 = .ok (.getfield 30, 3) := by decide +kernel
theorem dX42_held_9 : decode cX42_held 9 = .ok (.invokevirtual 84, 3) := by decide +kernel
theorem dX42_held_12 : decode cX42_held 12 = .ok (.astore_n 3, 1) := by decide +kernel
theorem dX42_held_13 : decode cX42_held 13 = .ok (.aload_n 3, 1) := by decide +kernel
theorem dX42_held_14 : decode cX42_held 14 = .ok (.invokeinterface 88 1, 5) := by decide +kernel
theorem dX42_held_19 : decode cX42_held 19 = .ok (.ifCond .eq 25, 3) := by decide +kernel
theorem dX42_held_22 : decode cX42_held 22 = .ok (.aload_n 3, 1) := by decide +kernel
theorem dX42_held_23 : decode cX42_held 23 = .ok (.invokeinterface 94 1, 5) := by decide +kernel
theorem dX42_held_28 : decode cX42_held 28 = .ok (.checkcast 54, 3) := by decide +kernel
theorem dX42_held_31 : decode cX42_held 31 = .ok (.astore 4, 2) := by decide +kernel
theorem dX42_held_33 : decode cX42_held 33 = .ok (.lload_n 1, 1) := by decide +kernel
theorem dX42_held_34 : decode cX42_held 34 = .ok (.aload 4, 2) := by decide +kernel
theorem dX42_held_36 : decode cX42_held 36 = .ok (.invokevirtual 116, 3) := by decide +kernel
theorem dX42_held_39 : decode cX42_held 39 = .ok (.lor, 1) := by decide +kernel
theorem dX42_held_40 : decode cX42_held 40 = .ok (.lstore_n 1, 1) := by decide +kernel
theorem dX42_held_41 : decode cX42_held 41 = .ok (.goto (-28), 3) := by decide +kernel
theorem dX42_held_44 : decode cX42_held 44 = .ok (.aload_n 0, 1) := by decide +kernel
theorem dX42_held_45 : decode cX42_held 45 = .ok (.getfield 36, 3) := by decide +kernel
theorem dX42_held_48 : decode cX42_held 48 = .ok (.invokevirtual 119, 3) := by decide +kernel
theorem dX42_held_51 : decode cX42_held 51 = .ok (.astore_n 3, 1) := by decide +kernel
theorem dX42_held_52 : decode cX42_held 52 = .ok (.aload_n 3, 1) := by decide +kernel
theorem dX42_held_53 : decode cX42_held 53 = .ok (.invokeinterface 88 1, 5) := by decide +kernel
theorem dX42_held_58 : decode cX42_held 58 = .ok (.ifCond .eq 25, 3) := by decide +kernel
theorem dX42_held_61 : decode cX42_held 61 = .ok (.aload_n 3, 1) := by decide +kernel
theorem dX42_held_62 : decode cX42_held 62 = .ok (.invokeinterface 94 1, 5) := by decide +kernel
theorem dX42_held_67 : decode cX42_held 67 = .ok (.checkcast 54, 3) := by decide +kernel
theorem dX42_held_70 : decode cX42_held 70 = .ok (.astore 4, 2) := by decide +kernel
theorem dX42_held_72 : decode cX42_held 72 = .ok (.lload_n 1, 1) := by decide +kernel
theorem dX42_held_73 : decode cX42_held 73 = .ok (.aload 4, 2) := by decide +kernel
theorem dX42_held_75 : decode cX42_held 75 = .ok (.invokevirtual 116, 3) := by decide +kernel
theorem dX42_held_78 : decode cX42_held 78 = .ok (.lor, 1) := by decide +kernel
theorem dX42_held_79 : decode cX42_held 79 = .ok (.lstore_n 1, 1) := by decide +kernel
theorem dX42_held_80 : decode cX42_held 80 = .ok (.goto (-28), 3) := by decide +kernel
theorem dX42_held_83 : decode cX42_held 83 = .ok (.aload_n 0, 1) := by decide +kernel
theorem dX42_held_84 : decode cX42_held 84 = .ok (.getfield 26, 3) := by decide +kernel
theorem dX42_held_87 : decode cX42_held 87 = .ok (.invokevirtual 84, 3) := by decide +kernel
theorem dX42_held_90 : decode cX42_held 90 = .ok (.astore_n 3, 1) := by decide +kernel
theorem dX42_held_91 : decode cX42_held 91 = .ok (.aload_n 3, 1) := by decide +kernel
theorem dX42_held_92 : decode cX42_held 92 = .ok (.invokeinterface 88 1, 5) := by decide +kernel
theorem dX42_held_97 : decode cX42_held 97 = .ok (.ifCond .eq 27, 3) := by decide +kernel
theorem dX42_held_100 : decode cX42_held 100 = .ok (.aload_n 3, 1) := by decide +kernel
theorem dX42_held_101 : decode cX42_held 101 = .ok (.invokeinterface 94 1, 5) := by decide +kernel
theorem dX42_held_106 : decode cX42_held 106 = .ok (.checkcast 98, 3) := by decide +kernel
theorem dX42_held_109 : decode cX42_held 109 = .ok (.astore 4, 2) := by decide +kernel
theorem dX42_held_111 : decode cX42_held 111 = .ok (.lload_n 1, 1) := by decide +kernel
theorem dX42_held_112 : decode cX42_held 112 = .ok (.lconst 1, 1) := by decide +kernel
theorem dX42_held_113 : decode cX42_held 113 = .ok (.aload 4, 2) := by decide +kernel
theorem dX42_held_115 : decode cX42_held 115 = .ok (.invokevirtual 100, 3) := by decide +kernel
theorem dX42_held_118 : decode cX42_held 118 = .ok (.lshl, 1) := by decide +kernel
theorem dX42_held_119 : decode cX42_held 119 = .ok (.lor, 1) := by decide +kernel
theorem dX42_held_120 : decode cX42_held 120 = .ok (.lstore_n 1, 1) := by decide +kernel
theorem dX42_held_121 : decode cX42_held 121 = .ok (.goto (-30), 3) := by decide +kernel
theorem dX42_held_124 : decode cX42_held 124 = .ok (.lload_n 1, 1) := by decide +kernel
theorem dX42_held_125 : decode cX42_held 125 = .ok (.lreturn, 1) := by decide +kernel
abbrev cX42_open : ByteArray := prog_21_method_7_code
def yX42_open : MethodName := ⟨RX42, "open", "()J"⟩
theorem dX42_open_0 : decode cX42_open 0 = .ok (.lconst 0, 1) := by decide +kernel
theorem dX42_open_1 : decode cX42_open 1 = .ok (.lstore_n 1, 1) := by decide +kernel
theorem dX42_open_2 : decode cX42_open 2 = .ok (.aload_n 0, 1) := by decide +kernel
theorem dX42_open_3 : decode cX42_open 3 = .ok (.getfield 13, 3) := by decide +kernel
theorem dX42_open_6 : decode cX42_open 6 = .ok (.astore_n 3, 1) := by decide +kernel
theorem dX42_open_7 : decode cX42_open 7 = .ok (.aload_n 3, 1) := by decide +kernel
theorem dX42_open_8 : decode cX42_open 8 = .ok (.arraylength, 1) := by decide +kernel
theorem dX42_open_9 : decode cX42_open 9 = .ok (.istore 4, 2) := by decide +kernel
theorem dX42_open_11 : decode cX42_open 11 = .ok (.iconst 0, 1) := by decide +kernel
theorem dX42_open_12 : decode cX42_open 12 = .ok (.istore 5, 2) := by decide +kernel
theorem dX42_open_14 : decode cX42_open 14 = .ok (.iload 5, 2) := by decide +kernel
theorem dX42_open_16 : decode cX42_open 16 = .ok (.iload 4, 2) := by decide +kernel
theorem dX42_open_18 : decode cX42_open 18 = .ok (.if_icmp .ge 28, 3) := by decide +kernel
theorem dX42_open_21 : decode cX42_open 21 = .ok (.aload_n 3, 1) := by decide +kernel
theorem dX42_open_22 : decode cX42_open 22 = .ok (.iload 5, 2) := by decide +kernel
theorem dX42_open_24 : decode cX42_open 24 = .ok (.iaload, 1) := by decide +kernel
theorem dX42_open_25 : decode cX42_open 25 = .ok (.istore 6, 2) := by decide +kernel
theorem dX42_open_27 : decode cX42_open 27 = .ok (.iload 6, 2) := by decide +kernel
theorem dX42_open_29 : decode cX42_open 29 = .ok (.iconst (-1), 1) := by decide +kernel
theorem dX42_open_30 : decode cX42_open 30 = .ok (.if_icmp .eq 10, 3) := by decide +kernel
theorem dX42_open_33 : decode cX42_open 33 = .ok (.lload_n 1, 1) := by decide +kernel
theorem dX42_open_34 : decode cX42_open 34 = .ok (.lconst 1, 1) := by decide +kernel
theorem dX42_open_35 : decode cX42_open 35 = .ok (.iload 6, 2) := by decide +kernel
theorem dX42_open_37 : decode cX42_open 37 = .ok (.lshl, 1) := by decide +kernel
theorem dX42_open_38 : decode cX42_open 38 = .ok (.lor, 1) := by decide +kernel
theorem dX42_open_39 : decode cX42_open 39 = .ok (.lstore_n 1, 1) := by decide +kernel
theorem dX42_open_40 : decode cX42_open 40 = .ok (.iinc 5 1, 3) := by decide +kernel
theorem dX42_open_43 : decode cX42_open 43 = .ok (.goto (-29), 3) := by decide +kernel
theorem dX42_open_46 : decode cX42_open 46 = .ok (.lload_n 1, 1) := by decide +kernel
theorem dX42_open_47 : decode cX42_open 47 = .ok (.lreturn, 1) := by decide +kernel
abbrev cX42_commit : ByteArray := prog_21_method_17_code
def yX42_commit : MethodName := ⟨RX42, "commit", "(I)I"⟩
theorem dX42_commit_0 : decode cX42_commit 0 = .ok (.aload_n 0, 1) := by decide +kernel
theorem dX42_commit_1 : decode cX42_commit 1 = .ok (.getfield 7, 3) := by decide +kernel
theorem dX42_commit_4 : decode cX42_commit 4 = .ok (.ifCond .eq 10, 3) := by decide +kernel
theorem dX42_commit_7 : decode cX42_commit 7 = .ok (.aload_n 0, 1) := by decide +kernel
theorem dX42_commit_8 : decode cX42_commit 8 = .ok (.getfield 71, 3) := by decide +kernel
theorem dX42_commit_11 : decode cX42_commit 11 = .ok (.ifCond .ne 6, 3) := by decide +kernel
theorem dX42_commit_14 : decode cX42_commit 14 = .ok (.bipush (-3), 2) := by decide +kernel
theorem dX42_commit_16 : decode cX42_commit 16 = .ok (.ireturn, 1) := by decide +kernel
theorem dX42_commit_17 : decode cX42_commit 17 = .ok (.iload_n 1, 1) := by decide +kernel
theorem dX42_commit_18 : decode cX42_commit 18 = .ok (.aload_n 0, 1) := by decide +kernel
theorem dX42_commit_19 : decode cX42_commit 19 = .ok (.invokevirtual 176, 3) := by decide +kernel
theorem dX42_commit_22 : decode cX42_commit 22 = .ok (.invokevirtual 180, 3) := by decide +kernel
theorem dX42_commit_25 : decode cX42_commit 25 = .ok (.if_icmp .le 9, 3) := by decide +kernel
theorem dX42_commit_28 : decode cX42_commit 28 = .ok (.iload_n 1, 1) := by decide +kernel
theorem dX42_commit_29 : decode cX42_commit 29 = .ok (.ldc 183, 2) := by decide +kernel
theorem dX42_commit_31 : decode cX42_commit 31 = .ok (.if_icmp .le 6, 3) := by decide +kernel
theorem dX42_commit_34 : decode cX42_commit 34 = .ok (.bipush (-2), 2) := by decide +kernel
theorem dX42_commit_36 : decode cX42_commit 36 = .ok (.ireturn, 1) := by decide +kernel
theorem dX42_commit_37 : decode cX42_commit 37 = .ok (.aload_n 0, 1) := by decide +kernel
theorem dX42_commit_38 : decode cX42_commit 38 = .ok (.getfield 26, 3) := by decide +kernel
theorem dX42_commit_41 : decode cX42_commit 41 = .ok (.invokevirtual 184, 3) := by decide +kernel
theorem dX42_commit_44 : decode cX42_commit 44 = .ok (.istore_n 2, 1) := by decide +kernel
theorem dX42_commit_45 : decode cX42_commit 45 = .ok (.iconst 2, 1) := by decide +kernel
theorem dX42_commit_46 : decode cX42_commit 46 = .ok (.istore_n 3, 1) := by decide +kernel
theorem dX42_commit_47 : decode cX42_commit 47 = .ok (.iload_n 3, 1) := by decide +kernel
theorem dX42_commit_48 : decode cX42_commit 48 = .ok (.aload_n 0, 1) := by decide +kernel
theorem dX42_commit_49 : decode cX42_commit 49 = .ok (.getfield 46, 3) := by decide +kernel
theorem dX42_commit_52 : decode cX42_commit 52 = .ok (.if_icmp .ge 71, 3) := by decide +kernel
theorem dX42_commit_55 : decode cX42_commit 55 = .ok (.aload_n 0, 1) := by decide +kernel
theorem dX42_commit_56 : decode cX42_commit 56 = .ok (.getfield 19, 3) := by decide +kernel
theorem dX42_commit_59 : decode cX42_commit 59 = .ok (.iload_n 3, 1) := by decide +kernel
theorem dX42_commit_60 : decode cX42_commit 60 = .ok (.aaload, 1) := by decide +kernel
theorem dX42_commit_61 : decode cX42_commit 61 = .ok (.ifnonnull 6, 3) := by decide +kernel
theorem dX42_commit_64 : decode cX42_commit 64 = .ok (.goto 53, 3) := by decide +kernel
theorem dX42_commit_67 : decode cX42_commit 67 = .ok (.aload_n 0, 1) := by decide +kernel
theorem dX42_commit_68 : decode cX42_commit 68 = .ok (.getfield 19, 3) := by decide +kernel
theorem dX42_commit_71 : decode cX42_commit 71 = .ok (.iload_n 3, 1) := by decide +kernel
theorem dX42_commit_72 : decode cX42_commit 72 = .ok (.aaload, 1) := by decide +kernel
theorem dX42_commit_73 : decode cX42_commit 73 = .ok (.bipush 16, 2) := by decide +kernel
theorem dX42_commit_75 : decode cX42_commit 75 = .ok (.iload_n 1, 1) := by decide +kernel
theorem dX42_commit_76 : decode cX42_commit 76 = .ok (.invokevirtual 187, 3) := by decide +kernel
theorem dX42_commit_79 : decode cX42_commit 79 = .ok (.aload_n 0, 1) := by decide +kernel
theorem dX42_commit_80 : decode cX42_commit 80 = .ok (.getfield 19, 3) := by decide +kernel
theorem dX42_commit_83 : decode cX42_commit 83 = .ok (.iload_n 3, 1) := by decide +kernel
theorem dX42_commit_84 : decode cX42_commit 84 = .ok (.aaload, 1) := by decide +kernel
theorem dX42_commit_85 : decode cX42_commit 85 = .ok (.invokevirtual 191, 3) := by decide +kernel
theorem dX42_commit_88 : decode cX42_commit 88 = .ok (.aload_n 0, 1) := by decide +kernel
theorem dX42_commit_89 : decode cX42_commit 89 = .ok (.getfield 26, 3) := by decide +kernel
theorem dX42_commit_92 : decode cX42_commit 92 = .ok (.new 98, 3) := by decide +kernel
theorem dX42_commit_95 : decode cX42_commit 95 = .ok (.dup, 1) := by decide +kernel
theorem dX42_commit_96 : decode cX42_commit 96 = .ok (.iload_n 3, 1) := by decide +kernel
theorem dX42_commit_97 : decode cX42_commit 97 = .ok (.aload_n 0, 1) := by decide +kernel
theorem dX42_commit_98 : decode cX42_commit 98 = .ok (.getfield 19, 3) := by decide +kernel
theorem dX42_commit_101 : decode cX42_commit 101 = .ok (.iload_n 3, 1) := by decide +kernel
theorem dX42_commit_102 : decode cX42_commit 102 = .ok (.aaload, 1) := by decide +kernel
theorem dX42_commit_103 : decode cX42_commit 103 = .ok (.invokespecial 194, 3) := by decide +kernel
theorem dX42_commit_106 : decode cX42_commit 106 = .ok (.invokevirtual 66, 3) := by decide +kernel
theorem dX42_commit_109 : decode cX42_commit 109 = .ok (.pop, 1) := by decide +kernel
theorem dX42_commit_110 : decode cX42_commit 110 = .ok (.aload_n 0, 1) := by decide +kernel
theorem dX42_commit_111 : decode cX42_commit 111 = .ok (.getfield 19, 3) := by decide +kernel
theorem dX42_commit_114 : decode cX42_commit 114 = .ok (.iload_n 3, 1) := by decide +kernel
theorem dX42_commit_115 : decode cX42_commit 115 = .ok (.aconst_null, 1) := by decide +kernel
theorem dX42_commit_116 : decode cX42_commit 116 = .ok (.aastore, 1) := by decide +kernel
theorem dX42_commit_117 : decode cX42_commit 117 = .ok (.iinc 3 1, 3) := by decide +kernel
theorem dX42_commit_120 : decode cX42_commit 120 = .ok (.goto (-73), 3) := by decide +kernel
theorem dX42_commit_123 : decode cX42_commit 123 = .ok (.aload_n 0, 1) := by decide +kernel
theorem dX42_commit_124 : decode cX42_commit 124 = .ok (.invokevirtual 112, 3) := by decide +kernel
theorem dX42_commit_127 : decode cX42_commit 127 = .ok (.lstore_n 3, 1) := by decide +kernel
theorem dX42_commit_128 : decode cX42_commit 128 = .ok (.iconst 0, 1) := by decide +kernel
theorem dX42_commit_129 : decode cX42_commit 129 = .ok (.istore 5, 2) := by decide +kernel
theorem dX42_commit_131 : decode cX42_commit 131 = .ok (.iconst 2, 1) := by decide +kernel
theorem dX42_commit_132 : decode cX42_commit 132 = .ok (.istore 6, 2) := by decide +kernel
theorem dX42_commit_134 : decode cX42_commit 134 = .ok (.iload 6, 2) := by decide +kernel
theorem dX42_commit_136 : decode cX42_commit 136 = .ok (.aload_n 0, 1) := by decide +kernel
theorem dX42_commit_137 : decode cX42_commit 137 = .ok (.getfield 46, 3) := by decide +kernel
theorem dX42_commit_140 : decode cX42_commit 140 = .ok (.if_icmp .ge 35, 3) := by decide +kernel
theorem dX42_commit_143 : decode cX42_commit 143 = .ok (.lload_n 3, 1) := by decide +kernel
theorem dX42_commit_144 : decode cX42_commit 144 = .ok (.iload 6, 2) := by decide +kernel
theorem dX42_commit_146 : decode cX42_commit 146 = .ok (.lshr, 1) := by decide +kernel
theorem dX42_commit_147 : decode cX42_commit 147 = .ok (.lconst 1, 1) := by decide +kernel
theorem dX42_commit_148 : decode cX42_commit 148 = .ok (.land, 1) := by decide +kernel
theorem dX42_commit_149 : decode cX42_commit 149 = .ok (.lconst 1, 1) := by decide +kernel
theorem dX42_commit_150 : decode cX42_commit 150 = .ok (.lcmp, 1) := by decide +kernel
theorem dX42_commit_151 : decode cX42_commit 151 = .ok (.ifCond .ne 18, 3) := by decide +kernel
theorem dX42_commit_154 : decode cX42_commit 154 = .ok (.iload 5, 2) := by decide +kernel
theorem dX42_commit_156 : decode cX42_commit 156 = .ok (.aload_n 0, 1) := by decide +kernel
theorem dX42_commit_157 : decode cX42_commit 157 = .ok (.iload 6, 2) := by decide +kernel
theorem dX42_commit_159 : decode cX42_commit 159 = .ok (.invokevirtual 141, 3) := by decide +kernel
theorem dX42_commit_162 : decode cX42_commit 162 = .ok (.iconst 0, 1) := by decide +kernel
theorem dX42_commit_163 : decode cX42_commit 163 = .ok (.invokevirtual 197, 3) := by decide +kernel
theorem dX42_commit_166 : decode cX42_commit 166 = .ok (.ixor, 1) := by decide +kernel
theorem dX42_commit_167 : decode cX42_commit 167 = .ok (.istore 5, 2) := by decide +kernel
theorem dX42_commit_169 : decode cX42_commit 169 = .ok (.iinc 6 1, 3) := by decide +kernel
theorem dX42_commit_172 : decode cX42_commit 172 = .ok (.goto (-38), 3) := by decide +kernel
theorem dX42_commit_175 : decode cX42_commit 175 = .ok (.new 17, 3) := by decide +kernel
theorem dX42_commit_178 : decode cX42_commit 178 = .ok (.dup, 1) := by decide +kernel
theorem dX42_commit_179 : decode cX42_commit 179 = .ok (.invokespecial 74, 3) := by decide +kernel
theorem dX42_commit_182 : decode cX42_commit 182 = .ok (.astore 6, 2) := by decide +kernel
theorem dX42_commit_184 : decode cX42_commit 184 = .ok (.aload 6, 2) := by decide +kernel
theorem dX42_commit_186 : decode cX42_commit 186 = .ok (.getfield 75, 3) := by decide +kernel
theorem dX42_commit_189 : decode cX42_commit 189 = .ok (.iconst 4, 1) := by decide +kernel
theorem dX42_commit_190 : decode cX42_commit 190 = .ok (.bipush 9, 2) := by decide +kernel
theorem dX42_commit_192 : decode cX42_commit 192 = .ok (.bastore, 1) := by decide +kernel
theorem dX42_commit_193 : decode cX42_commit 193 = .ok (.aload 6, 2) := by decide +kernel
theorem dX42_commit_195 : decode cX42_commit 195 = .ok (.bipush 8, 2) := by decide +kernel
theorem dX42_commit_197 : decode cX42_commit 197 = .ok (.lload_n 3, 1) := by decide +kernel
theorem dX42_commit_198 : decode cX42_commit 198 = .ok (.invokevirtual 200, 3) := by decide +kernel
theorem dX42_commit_201 : decode cX42_commit 201 = .ok (.aload 6, 2) := by decide +kernel
theorem dX42_commit_203 : decode cX42_commit 203 = .ok (.bipush 16, 2) := by decide +kernel
theorem dX42_commit_205 : decode cX42_commit 205 = .ok (.iload_n 1, 1) := by decide +kernel
theorem dX42_commit_206 : decode cX42_commit 206 = .ok (.invokevirtual 187, 3) := by decide +kernel
theorem dX42_commit_209 : decode cX42_commit 209 = .ok (.aload 6, 2) := by decide +kernel
theorem dX42_commit_211 : decode cX42_commit 211 = .ok (.bipush 20, 2) := by decide +kernel
theorem dX42_commit_213 : decode cX42_commit 213 = .ok (.iload 5, 2) := by decide +kernel
theorem dX42_commit_215 : decode cX42_commit 215 = .ok (.invokevirtual 187, 3) := by decide +kernel
theorem dX42_commit_218 : decode cX42_commit 218 = .ok (.aload 6, 2) := by decide +kernel
theorem dX42_commit_220 : decode cX42_commit 220 = .ok (.invokevirtual 191, 3) := by decide +kernel
theorem dX42_commit_223 : decode cX42_commit 223 = .ok (.aload_n 0, 1) := by decide +kernel
theorem dX42_commit_224 : decode cX42_commit 224 = .ok (.getfield 26, 3) := by decide +kernel
theorem dX42_commit_227 : decode cX42_commit 227 = .ok (.new 98, 3) := by decide +kernel
theorem dX42_commit_230 : decode cX42_commit 230 = .ok (.dup, 1) := by decide +kernel
theorem dX42_commit_231 : decode cX42_commit 231 = .ok (.iload_n 1, 1) := by decide +kernel
theorem dX42_commit_232 : decode cX42_commit 232 = .ok (.iconst 1, 1) := by decide +kernel
theorem dX42_commit_233 : decode cX42_commit 233 = .ok (.iand, 1) := by decide +kernel
theorem dX42_commit_234 : decode cX42_commit 234 = .ok (.aload 6, 2) := by decide +kernel
theorem dX42_commit_236 : decode cX42_commit 236 = .ok (.invokespecial 194, 3) := by decide +kernel
theorem dX42_commit_239 : decode cX42_commit 239 = .ok (.invokevirtual 66, 3) := by decide +kernel
theorem dX42_commit_242 : decode cX42_commit 242 = .ok (.pop, 1) := by decide +kernel
theorem dX42_commit_243 : decode cX42_commit 243 = .ok (.aload_n 0, 1) := by decide +kernel
theorem dX42_commit_244 : decode cX42_commit 244 = .ok (.getfield 30, 3) := by decide +kernel
theorem dX42_commit_247 : decode cX42_commit 247 = .ok (.new 54, 3) := by decide +kernel
theorem dX42_commit_250 : decode cX42_commit 250 = .ok (.dup, 1) := by decide +kernel
theorem dX42_commit_251 : decode cX42_commit 251 = .ok (.iload_n 1, 1) := by decide +kernel
theorem dX42_commit_252 : decode cX42_commit 252 = .ok (.lload_n 3, 1) := by decide +kernel
theorem dX42_commit_253 : decode cX42_commit 253 = .ok (.invokespecial 56, 3) := by decide +kernel
theorem dX42_commit_256 : decode cX42_commit 256 = .ok (.invokevirtual 66, 3) := by decide +kernel
theorem dX42_commit_259 : decode cX42_commit 259 = .ok (.pop, 1) := by decide +kernel
theorem dX42_commit_260 : decode cX42_commit 260 = .ok (.aload_n 0, 1) := by decide +kernel
theorem dX42_commit_261 : decode cX42_commit 261 = .ok (.iconst 0, 1) := by decide +kernel
theorem dX42_commit_262 : decode cX42_commit 262 = .ok (.putfield 71, 3) := by decide +kernel
theorem dX42_commit_265 : decode cX42_commit 265 = .ok (.aload_n 0, 1) := by decide +kernel
theorem dX42_commit_266 : decode cX42_commit 266 = .ok (.getfield 26, 3) := by decide +kernel
theorem dX42_commit_269 : decode cX42_commit 269 = .ok (.invokevirtual 184, 3) := by decide +kernel
theorem dX42_commit_272 : decode cX42_commit 272 = .ok (.iload_n 2, 1) := by decide +kernel
theorem dX42_commit_273 : decode cX42_commit 273 = .ok (.isub, 1) := by decide +kernel
theorem dX42_commit_274 : decode cX42_commit 274 = .ok (.ireturn, 1) := by decide +kernel
abbrev cX42_latest : ByteArray := prog_21_method_16_code
def yX42_latest : MethodName := ⟨RX42, "latest", "()LKnowHouse$KnowDisk$State;"⟩
theorem dX42_latest_0 : decode cX42_latest 0 = .ok (.aload_n 0, 1) := by decide +kernel
theorem dX42_latest_1 : decode cX42_latest 1 = .ok (.getfield 30, 3) := by decide +kernel
theorem dX42_latest_4 : decode cX42_latest 4 = .ok (.invokevirtual 173, 3) := by decide +kernel
theorem dX42_latest_7 : decode cX42_latest 7 = .ok (.checkcast 54, 3) := by decide +kernel
theorem dX42_latest_10 : decode cX42_latest 10 = .ok (.areturn, 1) := by decide +kernel
abbrev cX42_sync : ByteArray := prog_21_method_19_code
def yX42_sync : MethodName := ⟨RX42, "sync", "()I"⟩
theorem dX42_sync_0 : decode cX42_sync 0 = .ok (.aload_n 0, 1) := by decide +kernel
theorem dX42_sync_1 : decode cX42_sync 1 = .ok (.getfield 7, 3) := by decide +kernel
theorem dX42_sync_4 : decode cX42_sync 4 = .ok (.ifCond .ne 6, 3) := by decide +kernel
theorem dX42_sync_7 : decode cX42_sync 7 = .ok (.bipush (-3), 2) := by decide +kernel
theorem dX42_sync_9 : decode cX42_sync 9 = .ok (.ireturn, 1) := by decide +kernel
theorem dX42_sync_10 : decode cX42_sync 10 = .ok (.aload_n 0, 1) := by decide +kernel
theorem dX42_sync_11 : decode cX42_sync 11 = .ok (.getfield 26, 3) := by decide +kernel
theorem dX42_sync_14 : decode cX42_sync 14 = .ok (.invokevirtual 203, 3) := by decide +kernel
theorem dX42_sync_17 : decode cX42_sync 17 = .ok (.ifCond .ne 22, 3) := by decide +kernel
theorem dX42_sync_20 : decode cX42_sync 20 = .ok (.aload_n 0, 1) := by decide +kernel
theorem dX42_sync_21 : decode cX42_sync 21 = .ok (.aload_n 0, 1) := by decide +kernel
theorem dX42_sync_22 : decode cX42_sync 22 = .ok (.getfield 26, 3) := by decide +kernel
theorem dX42_sync_25 : decode cX42_sync 25 = .ok (.invokevirtual 206, 3) := by decide +kernel
theorem dX42_sync_28 : decode cX42_sync 28 = .ok (.checkcast 98, 3) := by decide +kernel
theorem dX42_sync_31 : decode cX42_sync 31 = .ok (.bipush 32, 2) := by decide +kernel
theorem dX42_sync_33 : decode cX42_sync 33 = .ok (.invokevirtual 209, 3) := by decide +kernel
theorem dX42_sync_36 : decode cX42_sync 36 = .ok (.goto (-26), 3) := by decide +kernel
theorem dX42_sync_39 : decode cX42_sync 39 = .ok (.aload_n 0, 1) := by decide +kernel
theorem dX42_sync_40 : decode cX42_sync 40 = .ok (.getfield 30, 3) := by decide +kernel
theorem dX42_sync_43 : decode cX42_sync 43 = .ok (.invokevirtual 184, 3) := by decide +kernel
theorem dX42_sync_46 : decode cX42_sync 46 = .ok (.iconst 1, 1) := by decide +kernel
theorem dX42_sync_47 : decode cX42_sync 47 = .ok (.if_icmp .le 14, 3) := by decide +kernel
theorem dX42_sync_50 : decode cX42_sync 50 = .ok (.aload_n 0, 1) := by decide +kernel
theorem dX42_sync_51 : decode cX42_sync 51 = .ok (.getfield 30, 3) := by decide +kernel
theorem dX42_sync_54 : decode cX42_sync 54 = .ok (.invokevirtual 206, 3) := by decide +kernel
theorem dX42_sync_57 : decode cX42_sync 57 = .ok (.pop, 1) := by decide +kernel
theorem dX42_sync_58 : decode cX42_sync 58 = .ok (.goto (-19), 3) := by decide +kernel
theorem dX42_sync_61 : decode cX42_sync 61 = .ok (.aload_n 0, 1) := by decide +kernel
theorem dX42_sync_62 : decode cX42_sync 62 = .ok (.invokevirtual 176, 3) := by decide +kernel
theorem dX42_sync_65 : decode cX42_sync 65 = .ok (.invokevirtual 180, 3) := by decide +kernel
theorem dX42_sync_68 : decode cX42_sync 68 = .ok (.ireturn, 1) := by decide +kernel
abbrev cX42_write : ByteArray := prog_21_method_18_code
def yX42_write : MethodName := ⟨RX42, "write", "(LKnowHouse$KnowDisk$Write;I)V"⟩
theorem dX42_write_0 : decode cX42_write 0 = .ok (.aload_n 1, 1) := by decide +kernel
theorem dX42_write_1 : decode cX42_write 1 = .ok (.invokevirtual 104, 3) := by decide +kernel
theorem dX42_write_4 : decode cX42_write 4 = .ok (.getfield 75, 3) := by decide +kernel
theorem dX42_write_7 : decode cX42_write 7 = .ok (.iconst 0, 1) := by decide +kernel
theorem dX42_write_8 : decode cX42_write 8 = .ok (.aload_n 0, 1) := by decide +kernel
theorem dX42_write_9 : decode cX42_write 9 = .ok (.getfield 50, 3) := by decide +kernel
theorem dX42_write_12 : decode cX42_write 12 = .ok (.bipush 32, 2) := by decide +kernel
theorem dX42_write_14 : decode cX42_write 14 = .ok (.aload_n 1, 1) := by decide +kernel
theorem dX42_write_15 : decode cX42_write 15 = .ok (.invokevirtual 100, 3) := by decide +kernel
theorem dX42_write_18 : decode cX42_write 18 = .ok (.imul, 1) := by decide +kernel
theorem dX42_write_19 : decode cX42_write 19 = .ok (.iload_n 2, 1) := by decide +kernel
theorem dX42_write_20 : decode cX42_write 20 = .ok (.invokestatic 78, 3) := by decide +kernel
theorem dX42_write_23 : decode cX42_write 23 = .ok (.return_, 1) := by decide +kernel
abbrev cX42_cut : ByteArray := prog_21_method_20_code
def yX42_cut : MethodName := ⟨RX42, "cut", "(II)V"⟩
theorem dX42_cut_0 : decode cX42_cut 0 = .ok (.aload_n 0, 1) := by decide +kernel
theorem dX42_cut_1 : decode cX42_cut 1 = .ok (.getfield 7, 3) := by decide +kernel
theorem dX42_cut_4 : decode cX42_cut 4 = .ok (.ifCond .ne 4, 3) := by decide +kernel
theorem dX42_cut_7 : decode cX42_cut 7 = .ok (.return_, 1) := by decide +kernel
theorem dX42_cut_8 : decode cX42_cut 8 = .ok (.iconst 0, 1) := by decide +kernel
theorem dX42_cut_9 : decode cX42_cut 9 = .ok (.istore_n 3, 1) := by decide +kernel
theorem dX42_cut_10 : decode cX42_cut 10 = .ok (.iload_n 3, 1) := by decide +kernel
theorem dX42_cut_11 : decode cX42_cut 11 = .ok (.iload_n 1, 1) := by decide +kernel
theorem dX42_cut_12 : decode cX42_cut 12 = .ok (.if_icmp .ge 35, 3) := by decide +kernel
theorem dX42_cut_15 : decode cX42_cut 15 = .ok (.aload_n 0, 1) := by decide +kernel
theorem dX42_cut_16 : decode cX42_cut 16 = .ok (.getfield 26, 3) := by decide +kernel
theorem dX42_cut_19 : decode cX42_cut 19 = .ok (.invokevirtual 203, 3) := by decide +kernel
theorem dX42_cut_22 : decode cX42_cut 22 = .ok (.ifCond .ne 25, 3) := by decide +kernel
theorem dX42_cut_25 : decode cX42_cut 25 = .ok (.aload_n 0, 1) := by decide +kernel
theorem dX42_cut_26 : decode cX42_cut 26 = .ok (.aload_n 0, 1) := by decide +kernel
theorem dX42_cut_27 : decode cX42_cut 27 = .ok (.getfield 26, 3) := by decide +kernel
theorem dX42_cut_30 : decode cX42_cut 30 = .ok (.invokevirtual 206, 3) := by decide +kernel
theorem dX42_cut_33 : decode cX42_cut 33 = .ok (.checkcast 98, 3) := by decide +kernel
theorem dX42_cut_36 : decode cX42_cut 36 = .ok (.bipush 32, 2) := by decide +kernel
theorem dX42_cut_38 : decode cX42_cut 38 = .ok (.invokevirtual 209, 3) := by decide +kernel
theorem dX42_cut_41 : decode cX42_cut 41 = .ok (.iinc 3 1, 3) := by decide +kernel
theorem dX42_cut_44 : decode cX42_cut 44 = .ok (.goto (-34), 3) := by decide +kernel
theorem dX42_cut_47 : decode cX42_cut 47 = .ok (.aload_n 0, 1) := by decide +kernel
theorem dX42_cut_48 : decode cX42_cut 48 = .ok (.getfield 26, 3) := by decide +kernel
theorem dX42_cut_51 : decode cX42_cut 51 = .ok (.invokevirtual 203, 3) := by decide +kernel
theorem dX42_cut_54 : decode cX42_cut 54 = .ok (.ifCond .ne 27, 3) := by decide +kernel
theorem dX42_cut_57 : decode cX42_cut 57 = .ok (.aload_n 0, 1) := by decide +kernel
theorem dX42_cut_58 : decode cX42_cut 58 = .ok (.aload_n 0, 1) := by decide +kernel
theorem dX42_cut_59 : decode cX42_cut 59 = .ok (.getfield 26, 3) := by decide +kernel
theorem dX42_cut_62 : decode cX42_cut 62 = .ok (.invokevirtual 206, 3) := by decide +kernel
theorem dX42_cut_65 : decode cX42_cut 65 = .ok (.checkcast 98, 3) := by decide +kernel
theorem dX42_cut_68 : decode cX42_cut 68 = .ok (.iconst 0, 1) := by decide +kernel
theorem dX42_cut_69 : decode cX42_cut 69 = .ok (.iload_n 2, 1) := by decide +kernel
theorem dX42_cut_70 : decode cX42_cut 70 = .ok (.bipush 32, 2) := by decide +kernel
theorem dX42_cut_72 : decode cX42_cut 72 = .ok (.invokestatic 213, 3) := by decide +kernel
theorem dX42_cut_75 : decode cX42_cut 75 = .ok (.invokestatic 216, 3) := by decide +kernel
theorem dX42_cut_78 : decode cX42_cut 78 = .ok (.invokevirtual 209, 3) := by decide +kernel
theorem dX42_cut_81 : decode cX42_cut 81 = .ok (.aload_n 0, 1) := by decide +kernel
theorem dX42_cut_82 : decode cX42_cut 82 = .ok (.iconst 0, 1) := by decide +kernel
theorem dX42_cut_83 : decode cX42_cut 83 = .ok (.putfield 7, 3) := by decide +kernel
theorem dX42_cut_86 : decode cX42_cut 86 = .ok (.aload_n 0, 1) := by decide +kernel
theorem dX42_cut_87 : decode cX42_cut 87 = .ok (.new 54, 3) := by decide +kernel
theorem dX42_cut_90 : decode cX42_cut 90 = .ok (.dup, 1) := by decide +kernel
theorem dX42_cut_91 : decode cX42_cut 91 = .ok (.iconst 0, 1) := by decide +kernel
theorem dX42_cut_92 : decode cX42_cut 92 = .ok (.lconst 0, 1) := by decide +kernel
theorem dX42_cut_93 : decode cX42_cut 93 = .ok (.invokespecial 56, 3) := by decide +kernel
theorem dX42_cut_96 : decode cX42_cut 96 = .ok (.invokevirtual 59, 3) := by decide +kernel
theorem dX42_cut_99 : decode cX42_cut 99 = .ok (.return_, 1) := by decide +kernel
abbrev cX42_start : ByteArray := prog_21_method_22_code
def yX42_start : MethodName := ⟨RX42, "start", "()I"⟩
theorem dX42_start_0 : decode cX42_start 0 = .ok (.aload_n 0, 1) := by decide +kernel
theorem dX42_start_1 : decode cX42_start 1 = .ok (.getfield 7, 3) := by decide +kernel
theorem dX42_start_4 : decode cX42_start 4 = .ok (.ifCond .eq 6, 3) := by decide +kernel
theorem dX42_start_7 : decode cX42_start 7 = .ok (.bipush (-3), 2) := by decide +kernel
theorem dX42_start_9 : decode cX42_start 9 = .ok (.ireturn, 1) := by decide +kernel
theorem dX42_start_10 : decode cX42_start 10 = .ok (.aload_n 0, 1) := by decide +kernel
theorem dX42_start_11 : decode cX42_start 11 = .ok (.iconst 0, 1) := by decide +kernel
theorem dX42_start_12 : decode cX42_start 12 = .ok (.invokevirtual 232, 3) := by decide +kernel
theorem dX42_start_15 : decode cX42_start 15 = .ok (.astore_n 1, 1) := by decide +kernel
theorem dX42_start_16 : decode cX42_start 16 = .ok (.aload_n 0, 1) := by decide +kernel
theorem dX42_start_17 : decode cX42_start 17 = .ok (.iconst 1, 1) := by decide +kernel
theorem dX42_start_18 : decode cX42_start 18 = .ok (.invokevirtual 232, 3) := by decide +kernel
theorem dX42_start_21 : decode cX42_start 21 = .ok (.astore_n 2, 1) := by decide +kernel
theorem dX42_start_22 : decode cX42_start 22 = .ok (.aload_n 1, 1) := by decide +kernel
theorem dX42_start_23 : decode cX42_start 23 = .ok (.ifnonnull 7, 3) := by decide +kernel
theorem dX42_start_26 : decode cX42_start 26 = .ok (.aload_n 2, 1) := by decide +kernel
theorem dX42_start_27 : decode cX42_start 27 = .ok (.goto 23, 3) := by decide +kernel
theorem dX42_start_30 : decode cX42_start 30 = .ok (.aload_n 2, 1) := by decide +kernel
theorem dX42_start_31 : decode cX42_start 31 = .ok (.ifnull 14, 3) := by decide +kernel
theorem dX42_start_34 : decode cX42_start 34 = .ok (.aload_n 1, 1) := by decide +kernel
theorem dX42_start_35 : decode cX42_start 35 = .ok (.invokevirtual 180, 3) := by decide +kernel
theorem dX42_start_38 : decode cX42_start 38 = .ok (.aload_n 2, 1) := by decide +kernel
theorem dX42_start_39 : decode cX42_start 39 = .ok (.invokevirtual 180, 3) := by decide +kernel
theorem dX42_start_42 : decode cX42_start 42 = .ok (.if_icmp .lt 7, 3) := by decide +kernel
theorem dX42_start_45 : decode cX42_start 45 = .ok (.aload_n 1, 1) := by decide +kernel
theorem dX42_start_46 : decode cX42_start 46 = .ok (.goto 4, 3) := by decide +kernel
theorem dX42_start_49 : decode cX42_start 49 = .ok (.aload_n 2, 1) := by decide +kernel
theorem dX42_start_50 : decode cX42_start 50 = .ok (.astore_n 3, 1) := by decide +kernel
theorem dX42_start_51 : decode cX42_start 51 = .ok (.aload_n 0, 1) := by decide +kernel
theorem dX42_start_52 : decode cX42_start 52 = .ok (.aload_n 3, 1) := by decide +kernel
theorem dX42_start_53 : decode cX42_start 53 = .ok (.ifnonnull 15, 3) := by decide +kernel
theorem dX42_start_56 : decode cX42_start 56 = .ok (.new 54, 3) := by decide +kernel
theorem dX42_start_59 : decode cX42_start 59 = .ok (.dup, 1) := by decide +kernel
theorem dX42_start_60 : decode cX42_start 60 = .ok (.iconst 0, 1) := by decide +kernel
theorem dX42_start_61 : decode cX42_start 61 = .ok (.lconst 0, 1) := by decide +kernel
theorem dX42_start_62 : decode cX42_start 62 = .ok (.invokespecial 56, 3) := by decide +kernel
theorem dX42_start_65 : decode cX42_start 65 = .ok (.goto 4, 3) := by decide +kernel
theorem dX42_start_68 : decode cX42_start 68 = .ok (.aload_n 3, 1) := by decide +kernel
theorem dX42_start_69 : decode cX42_start 69 = .ok (.invokevirtual 59, 3) := by decide +kernel
theorem dX42_start_72 : decode cX42_start 72 = .ok (.aload_n 0, 1) := by decide +kernel
theorem dX42_start_73 : decode cX42_start 73 = .ok (.iconst 1, 1) := by decide +kernel
theorem dX42_start_74 : decode cX42_start 74 = .ok (.putfield 7, 3) := by decide +kernel
theorem dX42_start_77 : decode cX42_start 77 = .ok (.aload_n 0, 1) := by decide +kernel
theorem dX42_start_78 : decode cX42_start 78 = .ok (.invokevirtual 176, 3) := by decide +kernel
theorem dX42_start_81 : decode cX42_start 81 = .ok (.invokevirtual 116, 3) := by decide +kernel
theorem dX42_start_84 : decode cX42_start 84 = .ok (.lstore 4, 2) := by decide +kernel
theorem dX42_start_86 : decode cX42_start 86 = .ok (.lload 4, 2) := by decide +kernel
theorem dX42_start_88 : decode cX42_start 88 = .ok (.lconst 0, 1) := by decide +kernel
theorem dX42_start_89 : decode cX42_start 89 = .ok (.lcmp, 1) := by decide +kernel
theorem dX42_start_90 : decode cX42_start 90 = .ok (.ifCond .eq 38, 3) := by decide +kernel
theorem dX42_start_93 : decode cX42_start 93 = .ok (.lload 4, 2) := by decide +kernel
theorem dX42_start_95 : decode cX42_start 95 = .ok (.invokestatic 225, 3) := by decide +kernel
theorem dX42_start_98 : decode cX42_start 98 = .ok (.istore 6, 2) := by decide +kernel
theorem dX42_start_100 : decode cX42_start 100 = .ok (.aload_n 0, 1) := by decide +kernel
theorem dX42_start_101 : decode cX42_start 101 = .ok (.getfield 13, 3) := by decide +kernel
theorem dX42_start_104 : decode cX42_start 104 = .ok (.aload_n 0, 1) := by decide +kernel
theorem dX42_start_105 : decode cX42_start 105 = .ok (.iload 6, 2) := by decide +kernel
theorem dX42_start_107 : decode cX42_start 107 = .ok (.invokevirtual 108, 3) := by decide +kernel
theorem dX42_start_110 : decode cX42_start 110 = .ok (.invokevirtual 229, 3) := by decide +kernel
theorem dX42_start_113 : decode cX42_start 113 = .ok (.iload 6, 2) := by decide +kernel
theorem dX42_start_115 : decode cX42_start 115 = .ok (.iastore, 1) := by decide +kernel
theorem dX42_start_116 : decode cX42_start 116 = .ok (.lload 4, 2) := by decide +kernel
theorem dX42_start_118 : decode cX42_start 118 = .ok (.lload 4, 2) := by decide +kernel
theorem dX42_start_120 : decode cX42_start 120 = .ok (.lconst 1, 1) := by decide +kernel
theorem dX42_start_121 : decode cX42_start 121 = .ok (.lsub, 1) := by decide +kernel
theorem dX42_start_122 : decode cX42_start 122 = .ok (.land, 1) := by decide +kernel
theorem dX42_start_123 : decode cX42_start 123 = .ok (.lstore 4, 2) := by decide +kernel
theorem dX42_start_125 : decode cX42_start 125 = .ok (.goto (-39), 3) := by decide +kernel
theorem dX42_start_128 : decode cX42_start 128 = .ok (.aload_n 0, 1) := by decide +kernel
theorem dX42_start_129 : decode cX42_start 129 = .ok (.invokevirtual 176, 3) := by decide +kernel
theorem dX42_start_132 : decode cX42_start 132 = .ok (.invokevirtual 180, 3) := by decide +kernel
theorem dX42_start_135 : decode cX42_start 135 = .ok (.ireturn, 1) := by decide +kernel
abbrev cX42_whole : ByteArray := prog_21_method_21_code
def yX42_whole : MethodName := ⟨RX42, "whole", "(I)LKnowHouse$KnowDisk$State;"⟩
theorem dX42_whole_0 : decode cX42_whole 0 = .ok (.aload_n 0, 1) := by decide +kernel
theorem dX42_whole_1 : decode cX42_whole 1 = .ok (.iload_n 1, 1) := by decide +kernel
theorem dX42_whole_2 : decode cX42_whole 2 = .ok (.invokevirtual 108, 3) := by decide +kernel
theorem dX42_whole_5 : decode cX42_whole 5 = .ok (.astore_n 2, 1) := by decide +kernel
theorem dX42_whole_6 : decode cX42_whole 6 = .ok (.aload_n 2, 1) := by decide +kernel
theorem dX42_whole_7 : decode cX42_whole 7 = .ok (.invokevirtual 150, 3) := by decide +kernel
theorem dX42_whole_10 : decode cX42_whole 10 = .ok (.bipush 9, 2) := by decide +kernel
theorem dX42_whole_12 : decode cX42_whole 12 = .ok (.if_icmp .ne 10, 3) := by decide +kernel
theorem dX42_whole_15 : decode cX42_whole 15 = .ok (.aload_n 2, 1) := by decide +kernel
theorem dX42_whole_16 : decode cX42_whole 16 = .ok (.invokevirtual 170, 3) := by decide +kernel
theorem dX42_whole_19 : decode cX42_whole 19 = .ok (.ifCond .ne 5, 3) := by decide +kernel
theorem dX42_whole_22 : decode cX42_whole 22 = .ok (.aconst_null, 1) := by decide +kernel
theorem dX42_whole_23 : decode cX42_whole 23 = .ok (.areturn, 1) := by decide +kernel
theorem dX42_whole_24 : decode cX42_whole 24 = .ok (.aload_n 2, 1) := by decide +kernel
theorem dX42_whole_25 : decode cX42_whole 25 = .ok (.bipush 8, 2) := by decide +kernel
theorem dX42_whole_27 : decode cX42_whole 27 = .ok (.invokevirtual 219, 3) := by decide +kernel
theorem dX42_whole_30 : decode cX42_whole 30 = .ok (.lstore_n 3, 1) := by decide +kernel
theorem dX42_whole_31 : decode cX42_whole 31 = .ok (.lload_n 3, 1) := by decide +kernel
theorem dX42_whole_32 : decode cX42_whole 32 = .ok (.ldc2_w 223, 3) := by decide +kernel
theorem dX42_whole_35 : decode cX42_whole 35 = .ok (.land, 1) := by decide +kernel
theorem dX42_whole_36 : decode cX42_whole 36 = .ok (.lconst 0, 1) := by decide +kernel
theorem dX42_whole_37 : decode cX42_whole 37 = .ok (.lcmp, 1) := by decide +kernel
theorem dX42_whole_38 : decode cX42_whole 38 = .ok (.ifCond .ne 23, 3) := by decide +kernel
theorem dX42_whole_41 : decode cX42_whole 41 = .ok (.aload_n 0, 1) := by decide +kernel
theorem dX42_whole_42 : decode cX42_whole 42 = .ok (.getfield 46, 3) := by decide +kernel
theorem dX42_whole_45 : decode cX42_whole 45 = .ok (.bipush 64, 2) := by decide +kernel
theorem dX42_whole_47 : decode cX42_whole 47 = .ok (.if_icmp .ge 16, 3) := by decide +kernel
theorem dX42_whole_50 : decode cX42_whole 50 = .ok (.lload_n 3, 1) := by decide +kernel
theorem dX42_whole_51 : decode cX42_whole 51 = .ok (.aload_n 0, 1) := by decide +kernel
theorem dX42_whole_52 : decode cX42_whole 52 = .ok (.getfield 46, 3) := by decide +kernel
theorem dX42_whole_55 : decode cX42_whole 55 = .ok (.lushr, 1) := by decide +kernel
theorem dX42_whole_56 : decode cX42_whole 56 = .ok (.lconst 0, 1) := by decide +kernel
theorem dX42_whole_57 : decode cX42_whole 57 = .ok (.lcmp, 1) := by decide +kernel
theorem dX42_whole_58 : decode cX42_whole 58 = .ok (.ifCond .eq 5, 3) := by decide +kernel
theorem dX42_whole_61 : decode cX42_whole 61 = .ok (.aconst_null, 1) := by decide +kernel
theorem dX42_whole_62 : decode cX42_whole 62 = .ok (.areturn, 1) := by decide +kernel
theorem dX42_whole_63 : decode cX42_whole 63 = .ok (.lconst 0, 1) := by decide +kernel
theorem dX42_whole_64 : decode cX42_whole 64 = .ok (.lstore 5, 2) := by decide +kernel
theorem dX42_whole_66 : decode cX42_whole 66 = .ok (.iconst 0, 1) := by decide +kernel
theorem dX42_whole_67 : decode cX42_whole 67 = .ok (.istore 7, 2) := by decide +kernel
theorem dX42_whole_69 : decode cX42_whole 69 = .ok (.lload_n 3, 1) := by decide +kernel
theorem dX42_whole_70 : decode cX42_whole 70 = .ok (.lstore 8, 2) := by decide +kernel
theorem dX42_whole_72 : decode cX42_whole 72 = .ok (.lload 8, 2) := by decide +kernel
theorem dX42_whole_74 : decode cX42_whole 74 = .ok (.lconst 0, 1) := by decide +kernel
theorem dX42_whole_75 : decode cX42_whole 75 = .ok (.lcmp, 1) := by decide +kernel
theorem dX42_whole_76 : decode cX42_whole 76 = .ok (.ifCond .eq 114, 3) := by decide +kernel
theorem dX42_whole_79 : decode cX42_whole 79 = .ok (.aload_n 0, 1) := by decide +kernel
theorem dX42_whole_80 : decode cX42_whole 80 = .ok (.lload 8, 2) := by decide +kernel
theorem dX42_whole_82 : decode cX42_whole 82 = .ok (.invokestatic 225, 3) := by decide +kernel
theorem dX42_whole_85 : decode cX42_whole 85 = .ok (.invokevirtual 108, 3) := by decide +kernel
theorem dX42_whole_88 : decode cX42_whole 88 = .ok (.astore 10, 2) := by decide +kernel
theorem dX42_whole_90 : decode cX42_whole 90 = .ok (.aload 10, 2) := by decide +kernel
theorem dX42_whole_92 : decode cX42_whole 92 = .ok (.invokevirtual 170, 3) := by decide +kernel
theorem dX42_whole_95 : decode cX42_whole 95 = .ok (.ifCond .eq 50, 3) := by decide +kernel
theorem dX42_whole_98 : decode cX42_whole 98 = .ok (.aload 10, 2) := by decide +kernel
theorem dX42_whole_100 : decode cX42_whole 100 = .ok (.invokevirtual 150, 3) := by decide +kernel
theorem dX42_whole_103 : decode cX42_whole 103 = .ok (.iconst 1, 1) := by decide +kernel
theorem dX42_whole_104 : decode cX42_whole 104 = .ok (.if_icmp .lt 41, 3) := by decide +kernel
theorem dX42_whole_107 : decode cX42_whole 107 = .ok (.aload 10, 2) := by decide +kernel
theorem dX42_whole_109 : decode cX42_whole 109 = .ok (.invokevirtual 150, 3) := by decide +kernel
theorem dX42_whole_112 : decode cX42_whole 112 = .ok (.iconst 3, 1) := by decide +kernel
theorem dX42_whole_113 : decode cX42_whole 113 = .ok (.if_icmp .gt 32, 3) := by decide +kernel
theorem dX42_whole_116 : decode cX42_whole 116 = .ok (.aload 10, 2) := by decide +kernel
theorem dX42_whole_118 : decode cX42_whole 118 = .ok (.invokevirtual 229, 3) := by decide +kernel
theorem dX42_whole_121 : decode cX42_whole 121 = .ok (.bipush 30, 2) := by decide +kernel
theorem dX42_whole_123 : decode cX42_whole 123 = .ok (.if_icmp .ge 22, 3) := by decide +kernel
theorem dX42_whole_126 : decode cX42_whole 126 = .ok (.lload 5, 2) := by decide +kernel
theorem dX42_whole_128 : decode cX42_whole 128 = .ok (.aload 10, 2) := by decide +kernel
theorem dX42_whole_130 : decode cX42_whole 130 = .ok (.invokevirtual 229, 3) := by decide +kernel
theorem dX42_whole_133 : decode cX42_whole 133 = .ok (.lshr, 1) := by decide +kernel
theorem dX42_whole_134 : decode cX42_whole 134 = .ok (.lconst 1, 1) := by decide +kernel
theorem dX42_whole_135 : decode cX42_whole 135 = .ok (.land, 1) := by decide +kernel
theorem dX42_whole_136 : decode cX42_whole 136 = .ok (.lconst 0, 1) := by decide +kernel
theorem dX42_whole_137 : decode cX42_whole 137 = .ok (.lcmp, 1) := by decide +kernel
theorem dX42_whole_138 : decode cX42_whole 138 = .ok (.ifCond .ne 7, 3) := by decide +kernel
theorem dX42_whole_141 : decode cX42_whole 141 = .ok (.iconst 1, 1) := by decide +kernel
theorem dX42_whole_142 : decode cX42_whole 142 = .ok (.goto 4, 3) := by decide +kernel
theorem dX42_whole_145 : decode cX42_whole 145 = .ok (.iconst 0, 1) := by decide +kernel
theorem dX42_whole_146 : decode cX42_whole 146 = .ok (.istore 11, 2) := by decide +kernel
theorem dX42_whole_148 : decode cX42_whole 148 = .ok (.iload 11, 2) := by decide +kernel
theorem dX42_whole_150 : decode cX42_whole 150 = .ok (.ifCond .ne 5, 3) := by decide +kernel
theorem dX42_whole_153 : decode cX42_whole 153 = .ok (.aconst_null, 1) := by decide +kernel
theorem dX42_whole_154 : decode cX42_whole 154 = .ok (.areturn, 1) := by decide +kernel
theorem dX42_whole_155 : decode cX42_whole 155 = .ok (.lload 5, 2) := by decide +kernel
theorem dX42_whole_157 : decode cX42_whole 157 = .ok (.lconst 1, 1) := by decide +kernel
theorem dX42_whole_158 : decode cX42_whole 158 = .ok (.aload 10, 2) := by decide +kernel
theorem dX42_whole_160 : decode cX42_whole 160 = .ok (.invokevirtual 229, 3) := by decide +kernel
theorem dX42_whole_163 : decode cX42_whole 163 = .ok (.lshl, 1) := by decide +kernel
theorem dX42_whole_164 : decode cX42_whole 164 = .ok (.lor, 1) := by decide +kernel
theorem dX42_whole_165 : decode cX42_whole 165 = .ok (.lstore 5, 2) := by decide +kernel
theorem dX42_whole_167 : decode cX42_whole 167 = .ok (.iload 7, 2) := by decide +kernel
theorem dX42_whole_169 : decode cX42_whole 169 = .ok (.aload 10, 2) := by decide +kernel
theorem dX42_whole_171 : decode cX42_whole 171 = .ok (.iconst 0, 1) := by decide +kernel
theorem dX42_whole_172 : decode cX42_whole 172 = .ok (.invokevirtual 197, 3) := by decide +kernel
theorem dX42_whole_175 : decode cX42_whole 175 = .ok (.ixor, 1) := by decide +kernel
theorem dX42_whole_176 : decode cX42_whole 176 = .ok (.istore 7, 2) := by decide +kernel
theorem dX42_whole_178 : decode cX42_whole 178 = .ok (.lload 8, 2) := by decide +kernel
theorem dX42_whole_180 : decode cX42_whole 180 = .ok (.lload 8, 2) := by decide +kernel
theorem dX42_whole_182 : decode cX42_whole 182 = .ok (.lconst 1, 1) := by decide +kernel
theorem dX42_whole_183 : decode cX42_whole 183 = .ok (.lsub, 1) := by decide +kernel
theorem dX42_whole_184 : decode cX42_whole 184 = .ok (.land, 1) := by decide +kernel
theorem dX42_whole_185 : decode cX42_whole 185 = .ok (.lstore 8, 2) := by decide +kernel
theorem dX42_whole_187 : decode cX42_whole 187 = .ok (.goto (-115), 3) := by decide +kernel
theorem dX42_whole_190 : decode cX42_whole 190 = .ok (.iload 7, 2) := by decide +kernel
theorem dX42_whole_192 : decode cX42_whole 192 = .ok (.aload_n 2, 1) := by decide +kernel
theorem dX42_whole_193 : decode cX42_whole 193 = .ok (.bipush 20, 2) := by decide +kernel
theorem dX42_whole_195 : decode cX42_whole 195 = .ok (.invokevirtual 197, 3) := by decide +kernel
theorem dX42_whole_198 : decode cX42_whole 198 = .ok (.if_icmp .ne 20, 3) := by decide +kernel
theorem dX42_whole_201 : decode cX42_whole 201 = .ok (.new 54, 3) := by decide +kernel
theorem dX42_whole_204 : decode cX42_whole 204 = .ok (.dup, 1) := by decide +kernel
theorem dX42_whole_205 : decode cX42_whole 205 = .ok (.aload_n 2, 1) := by decide +kernel
theorem dX42_whole_206 : decode cX42_whole 206 = .ok (.bipush 16, 2) := by decide +kernel
theorem dX42_whole_208 : decode cX42_whole 208 = .ok (.invokevirtual 197, 3) := by decide +kernel
theorem dX42_whole_211 : decode cX42_whole 211 = .ok (.lload_n 3, 1) := by decide +kernel
theorem dX42_whole_212 : decode cX42_whole 212 = .ok (.invokespecial 56, 3) := by decide +kernel
theorem dX42_whole_215 : decode cX42_whole 215 = .ok (.goto 4, 3) := by decide +kernel
theorem dX42_whole_218 : decode cX42_whole 218 = .ok (.aconst_null, 1) := by decide +kernel
theorem dX42_whole_219 : decode cX42_whole 219 = .ok (.areturn, 1) := by decide +kernel
abbrev cX42_poke : ByteArray := prog_21_method_25_code
def yX42_poke : MethodName := ⟨RX42, "poke", "(III)I"⟩
theorem dX42_poke_0 : decode cX42_poke 0 = .ok (.aload_n 0, 1) := by decide +kernel
theorem dX42_poke_1 : decode cX42_poke 1 = .ok (.getfield 7, 3) := by decide +kernel
theorem dX42_poke_4 : decode cX42_poke 4 = .ok (.ifCond .ne 6, 3) := by decide +kernel
theorem dX42_poke_7 : decode cX42_poke 7 = .ok (.bipush (-3), 2) := by decide +kernel
theorem dX42_poke_9 : decode cX42_poke 9 = .ok (.ireturn, 1) := by decide +kernel
theorem dX42_poke_10 : decode cX42_poke 10 = .ok (.aload_n 0, 1) := by decide +kernel
theorem dX42_poke_11 : decode cX42_poke 11 = .ok (.iload_n 1, 1) := by decide +kernel
theorem dX42_poke_12 : decode cX42_poke 12 = .ok (.invokevirtual 143, 3) := by decide +kernel
theorem dX42_poke_15 : decode cX42_poke 15 = .ok (.ifCond .ne 5, 3) := by decide +kernel
theorem dX42_poke_18 : decode cX42_poke 18 = .ok (.iconst (-1), 1) := by decide +kernel
theorem dX42_poke_19 : decode cX42_poke 19 = .ok (.ireturn, 1) := by decide +kernel
theorem dX42_poke_20 : decode cX42_poke 20 = .ok (.iload_n 2, 1) := by decide +kernel
theorem dX42_poke_21 : decode cX42_poke 21 = .ok (.ifCond .lt 21, 3) := by decide +kernel
theorem dX42_poke_24 : decode cX42_poke 24 = .ok (.iload_n 2, 1) := by decide +kernel
theorem dX42_poke_25 : decode cX42_poke 25 = .ok (.bipush 32, 2) := by decide +kernel
theorem dX42_poke_27 : decode cX42_poke 27 = .ok (.if_icmp .ge 15, 3) := by decide +kernel
theorem dX42_poke_30 : decode cX42_poke 30 = .ok (.iload_n 3, 1) := by decide +kernel
theorem dX42_poke_31 : decode cX42_poke 31 = .ok (.iconst 1, 1) := by decide +kernel
theorem dX42_poke_32 : decode cX42_poke 32 = .ok (.if_icmp .lt 10, 3) := by decide +kernel
theorem dX42_poke_35 : decode cX42_poke 35 = .ok (.iload_n 3, 1) := by decide +kernel
theorem dX42_poke_36 : decode cX42_poke 36 = .ok (.sipush 255, 3) := by decide +kernel
theorem dX42_poke_39 : decode cX42_poke 39 = .ok (.if_icmp .le 6, 3) := by decide +kernel
theorem dX42_poke_42 : decode cX42_poke 42 = .ok (.bipush (-2), 2) := by decide +kernel
theorem dX42_poke_44 : decode cX42_poke 44 = .ok (.ireturn, 1) := by decide +kernel
theorem dX42_poke_45 : decode cX42_poke 45 = .ok (.aload_n 0, 1) := by decide +kernel
theorem dX42_poke_46 : decode cX42_poke 46 = .ok (.getfield 13, 3) := by decide +kernel
theorem dX42_poke_49 : decode cX42_poke 49 = .ok (.iload_n 1, 1) := by decide +kernel
theorem dX42_poke_50 : decode cX42_poke 50 = .ok (.iaload, 1) := by decide +kernel
theorem dX42_poke_51 : decode cX42_poke 51 = .ok (.istore 4, 2) := by decide +kernel
theorem dX42_poke_53 : decode cX42_poke 53 = .ok (.aload_n 0, 1) := by decide +kernel
theorem dX42_poke_54 : decode cX42_poke 54 = .ok (.getfield 19, 3) := by decide +kernel
theorem dX42_poke_57 : decode cX42_poke 57 = .ok (.iload 4, 2) := by decide +kernel
theorem dX42_poke_59 : decode cX42_poke 59 = .ok (.aaload, 1) := by decide +kernel
theorem dX42_poke_60 : decode cX42_poke 60 = .ok (.ifnonnull 12, 3) := by decide +kernel
theorem dX42_poke_63 : decode cX42_poke 63 = .ok (.aload_n 0, 1) := by decide +kernel
theorem dX42_poke_64 : decode cX42_poke 64 = .ok (.iload 4, 2) := by decide +kernel
theorem dX42_poke_66 : decode cX42_poke 66 = .ok (.invokevirtual 240, 3) := by decide +kernel
theorem dX42_poke_69 : decode cX42_poke 69 = .ok (.ifCond .eq 6, 3) := by decide +kernel
theorem dX42_poke_72 : decode cX42_poke 72 = .ok (.bipush (-3), 2) := by decide +kernel
theorem dX42_poke_74 : decode cX42_poke 74 = .ok (.ireturn, 1) := by decide +kernel
theorem dX42_poke_75 : decode cX42_poke 75 = .ok (.aload_n 0, 1) := by decide +kernel
theorem dX42_poke_76 : decode cX42_poke 76 = .ok (.getfield 50, 3) := by decide +kernel
theorem dX42_poke_79 : decode cX42_poke 79 = .ok (.bipush 32, 2) := by decide +kernel
theorem dX42_poke_81 : decode cX42_poke 81 = .ok (.iload 4, 2) := by decide +kernel
theorem dX42_poke_83 : decode cX42_poke 83 = .ok (.imul, 1) := by decide +kernel
theorem dX42_poke_84 : decode cX42_poke 84 = .ok (.iload_n 2, 1) := by decide +kernel
theorem dX42_poke_85 : decode cX42_poke 85 = .ok (.iadd, 1) := by decide +kernel
theorem dX42_poke_86 : decode cX42_poke 86 = .ok (.dup2, 1) := by decide +kernel
theorem dX42_poke_87 : decode cX42_poke 87 = .ok (.baload, 1) := by decide +kernel
theorem dX42_poke_88 : decode cX42_poke 88 = .ok (.iload_n 3, 1) := by decide +kernel
theorem dX42_poke_89 : decode cX42_poke 89 = .ok (.i2b, 1) := by decide +kernel
theorem dX42_poke_90 : decode cX42_poke 90 = .ok (.ixor, 1) := by decide +kernel
theorem dX42_poke_91 : decode cX42_poke 91 = .ok (.i2b, 1) := by decide +kernel
theorem dX42_poke_92 : decode cX42_poke 92 = .ok (.bastore, 1) := by decide +kernel
theorem dX42_poke_93 : decode cX42_poke 93 = .ok (.aload_n 0, 1) := by decide +kernel
theorem dX42_poke_94 : decode cX42_poke 94 = .ok (.getfield 50, 3) := by decide +kernel
theorem dX42_poke_97 : decode cX42_poke 97 = .ok (.bipush 32, 2) := by decide +kernel
theorem dX42_poke_99 : decode cX42_poke 99 = .ok (.iload 4, 2) := by decide +kernel
theorem dX42_poke_101 : decode cX42_poke 101 = .ok (.imul, 1) := by decide +kernel
theorem dX42_poke_102 : decode cX42_poke 102 = .ok (.iload_n 2, 1) := by decide +kernel
theorem dX42_poke_103 : decode cX42_poke 103 = .ok (.iadd, 1) := by decide +kernel
theorem dX42_poke_104 : decode cX42_poke 104 = .ok (.baload, 1) := by decide +kernel
theorem dX42_poke_105 : decode cX42_poke 105 = .ok (.sipush 255, 3) := by decide +kernel
theorem dX42_poke_108 : decode cX42_poke 108 = .ok (.iand, 1) := by decide +kernel
theorem dX42_poke_109 : decode cX42_poke 109 = .ok (.ireturn, 1) := by decide +kernel
abbrev cX42_isWaiting : ByteArray := prog_21_method_5_code
def yX42_isWaiting : MethodName := ⟨RX42, "isWaiting", "(I)Z"⟩
theorem dX42_isWaiting_0 : decode cX42_isWaiting 0 = .ok (.aload_n 0, 1) := by decide +kernel
theorem dX42_isWaiting_1 : decode cX42_isWaiting 1 = .ok (.getfield 26, 3) := by decide +kernel
theorem dX42_isWaiting_4 : decode cX42_isWaiting 4 = .ok (.invokevirtual 84, 3) := by decide +kernel
theorem dX42_isWaiting_7 : decode cX42_isWaiting 7 = .ok (.astore_n 2, 1) := by decide +kernel
theorem dX42_isWaiting_8 : decode cX42_isWaiting 8 = .ok (.aload_n 2, 1) := by decide +kernel
theorem dX42_isWaiting_9 : decode cX42_isWaiting 9 = .ok (.invokeinterface 88 1, 5) := by decide +kernel
theorem dX42_isWaiting_14 : decode cX42_isWaiting 14 = .ok (.ifCond .eq 26, 3) := by decide +kernel
theorem dX42_isWaiting_17 : decode cX42_isWaiting 17 = .ok (.aload_n 2, 1) := by decide +kernel
theorem dX42_isWaiting_18 : decode cX42_isWaiting 18 = .ok (.invokeinterface 94 1, 5) := by decide +kernel
theorem dX42_isWaiting_23 : decode cX42_isWaiting 23 = .ok (.checkcast 98, 3) := by decide +kernel
theorem dX42_isWaiting_26 : decode cX42_isWaiting 26 = .ok (.astore_n 3, 1) := by decide +kernel
theorem dX42_isWaiting_27 : decode cX42_isWaiting 27 = .ok (.aload_n 3, 1) := by decide +kernel
theorem dX42_isWaiting_28 : decode cX42_isWaiting 28 = .ok (.invokevirtual 100, 3) := by decide +kernel
theorem dX42_isWaiting_31 : decode cX42_isWaiting 31 = .ok (.iload_n 1, 1) := by decide +kernel
theorem dX42_isWaiting_32 : decode cX42_isWaiting 32 = .ok (.if_icmp .ne 5, 3) := by decide +kernel
theorem dX42_isWaiting_35 : decode cX42_isWaiting 35 = .ok (.iconst 1, 1) := by decide +kernel
theorem dX42_isWaiting_36 : decode cX42_isWaiting 36 = .ok (.ireturn, 1) := by decide +kernel
theorem dX42_isWaiting_37 : decode cX42_isWaiting 37 = .ok (.goto (-29), 3) := by decide +kernel
theorem dX42_isWaiting_40 : decode cX42_isWaiting 40 = .ok (.iconst 0, 1) := by decide +kernel
theorem dX42_isWaiting_41 : decode cX42_isWaiting 41 = .ok (.ireturn, 1) := by decide +kernel
abbrev cX42_wrong : ByteArray := prog_21_method_26_code
def yX42_wrong : MethodName := ⟨RX42, "wrong", "(I)I"⟩
theorem dX42_wrong_0 : decode cX42_wrong 0 = .ok (.aload_n 0, 1) := by decide +kernel
theorem dX42_wrong_1 : decode cX42_wrong 1 = .ok (.getfield 7, 3) := by decide +kernel
theorem dX42_wrong_4 : decode cX42_wrong 4 = .ok (.ifCond .ne 6, 3) := by decide +kernel
theorem dX42_wrong_7 : decode cX42_wrong 7 = .ok (.bipush (-3), 2) := by decide +kernel
theorem dX42_wrong_9 : decode cX42_wrong 9 = .ok (.ireturn, 1) := by decide +kernel
theorem dX42_wrong_10 : decode cX42_wrong 10 = .ok (.iload_n 1, 1) := by decide +kernel
theorem dX42_wrong_11 : decode cX42_wrong 11 = .ok (.ifCond .lt 8, 3) := by decide +kernel
theorem dX42_wrong_14 : decode cX42_wrong 14 = .ok (.iload_n 1, 1) := by decide +kernel
theorem dX42_wrong_15 : decode cX42_wrong 15 = .ok (.iconst 2, 1) := by decide +kernel
theorem dX42_wrong_16 : decode cX42_wrong 16 = .ok (.if_icmp .le 6, 3) := by decide +kernel
theorem dX42_wrong_19 : decode cX42_wrong 19 = .ok (.bipush (-2), 2) := by decide +kernel
theorem dX42_wrong_21 : decode cX42_wrong 21 = .ok (.ireturn, 1) := by decide +kernel
theorem dX42_wrong_22 : decode cX42_wrong 22 = .ok (.iconst 0, 1) := by decide +kernel
theorem dX42_wrong_23 : decode cX42_wrong 23 = .ok (.istore_n 2, 1) := by decide +kernel
theorem dX42_wrong_24 : decode cX42_wrong 24 = .ok (.iconst (-1), 1) := by decide +kernel
theorem dX42_wrong_25 : decode cX42_wrong 25 = .ok (.istore_n 3, 1) := by decide +kernel
theorem dX42_wrong_26 : decode cX42_wrong 26 = .ok (.bipush 29, 2) := by decide +kernel
theorem dX42_wrong_28 : decode cX42_wrong 28 = .ok (.istore 4, 2) := by decide +kernel
theorem dX42_wrong_30 : decode cX42_wrong 30 = .ok (.iload 4, 2) := by decide +kernel
theorem dX42_wrong_32 : decode cX42_wrong 32 = .ok (.ifCond .lt 61, 3) := by decide +kernel
theorem dX42_wrong_35 : decode cX42_wrong 35 = .ok (.aload_n 0, 1) := by decide +kernel
theorem dX42_wrong_36 : decode cX42_wrong 36 = .ok (.getfield 13, 3) := by decide +kernel
theorem dX42_wrong_39 : decode cX42_wrong 39 = .ok (.iload 4, 2) := by decide +kernel
theorem dX42_wrong_41 : decode cX42_wrong 41 = .ok (.iaload, 1) := by decide +kernel
theorem dX42_wrong_42 : decode cX42_wrong 42 = .ok (.iconst (-1), 1) := by decide +kernel
theorem dX42_wrong_43 : decode cX42_wrong 43 = .ok (.if_icmp .eq 44, 3) := by decide +kernel
theorem dX42_wrong_46 : decode cX42_wrong 46 = .ok (.aload_n 0, 1) := by decide +kernel
theorem dX42_wrong_47 : decode cX42_wrong 47 = .ok (.getfield 19, 3) := by decide +kernel
theorem dX42_wrong_50 : decode cX42_wrong 50 = .ok (.aload_n 0, 1) := by decide +kernel
theorem dX42_wrong_51 : decode cX42_wrong 51 = .ok (.getfield 13, 3) := by decide +kernel
theorem dX42_wrong_54 : decode cX42_wrong 54 = .ok (.iload 4, 2) := by decide +kernel
theorem dX42_wrong_56 : decode cX42_wrong 56 = .ok (.iaload, 1) := by decide +kernel
theorem dX42_wrong_57 : decode cX42_wrong 57 = .ok (.aaload, 1) := by decide +kernel
theorem dX42_wrong_58 : decode cX42_wrong 58 = .ok (.ifnonnull 29, 3) := by decide +kernel
theorem dX42_wrong_61 : decode cX42_wrong 61 = .ok (.aload_n 0, 1) := by decide +kernel
theorem dX42_wrong_62 : decode cX42_wrong 62 = .ok (.aload_n 0, 1) := by decide +kernel
theorem dX42_wrong_63 : decode cX42_wrong 63 = .ok (.getfield 13, 3) := by decide +kernel
theorem dX42_wrong_66 : decode cX42_wrong 66 = .ok (.iload 4, 2) := by decide +kernel
theorem dX42_wrong_68 : decode cX42_wrong 68 = .ok (.iaload, 1) := by decide +kernel
theorem dX42_wrong_69 : decode cX42_wrong 69 = .ok (.invokevirtual 141, 3) := by decide +kernel
theorem dX42_wrong_72 : decode cX42_wrong 72 = .ok (.invokevirtual 170, 3) := by decide +kernel
theorem dX42_wrong_75 : decode cX42_wrong 75 = .ok (.ifCond .eq 6, 3) := by decide +kernel
theorem dX42_wrong_78 : decode cX42_wrong 78 = .ok (.goto 9, 3) := by decide +kernel
theorem dX42_wrong_81 : decode cX42_wrong 81 = .ok (.iinc 2 1, 3) := by decide +kernel
theorem dX42_wrong_84 : decode cX42_wrong 84 = .ok (.iload 4, 2) := by decide +kernel
theorem dX42_wrong_86 : decode cX42_wrong 86 = .ok (.istore_n 3, 1) := by decide +kernel
theorem dX42_wrong_87 : decode cX42_wrong 87 = .ok (.iinc 4 (-1), 3) := by decide +kernel
theorem dX42_wrong_90 : decode cX42_wrong 90 = .ok (.goto (-60), 3) := by decide +kernel
theorem dX42_wrong_93 : decode cX42_wrong 93 = .ok (.iload_n 1, 1) := by decide +kernel
theorem dX42_wrong_94 : decode cX42_wrong 94 = .ok (.ifCond .ne 7, 3) := by decide +kernel
theorem dX42_wrong_97 : decode cX42_wrong 97 = .ok (.iload_n 2, 1) := by decide +kernel
theorem dX42_wrong_98 : decode cX42_wrong 98 = .ok (.goto 27, 3) := by decide +kernel
theorem dX42_wrong_101 : decode cX42_wrong 101 = .ok (.iload_n 3, 1) := by decide +kernel
theorem dX42_wrong_102 : decode cX42_wrong 102 = .ok (.iconst (-1), 1) := by decide +kernel
theorem dX42_wrong_103 : decode cX42_wrong 103 = .ok (.if_icmp .ne 7, 3) := by decide +kernel
theorem dX42_wrong_106 : decode cX42_wrong 106 = .ok (.iconst (-1), 1) := by decide +kernel
theorem dX42_wrong_107 : decode cX42_wrong 107 = .ok (.goto 18, 3) := by decide +kernel
theorem dX42_wrong_110 : decode cX42_wrong 110 = .ok (.iload_n 1, 1) := by decide +kernel
theorem dX42_wrong_111 : decode cX42_wrong 111 = .ok (.iconst 1, 1) := by decide +kernel
theorem dX42_wrong_112 : decode cX42_wrong 112 = .ok (.if_icmp .ne 7, 3) := by decide +kernel
theorem dX42_wrong_115 : decode cX42_wrong 115 = .ok (.iload_n 3, 1) := by decide +kernel
theorem dX42_wrong_116 : decode cX42_wrong 116 = .ok (.goto 9, 3) := by decide +kernel
theorem dX42_wrong_119 : decode cX42_wrong 119 = .ok (.aload_n 0, 1) := by decide +kernel
theorem dX42_wrong_120 : decode cX42_wrong 120 = .ok (.getfield 13, 3) := by decide +kernel
theorem dX42_wrong_123 : decode cX42_wrong 123 = .ok (.iload_n 3, 1) := by decide +kernel
theorem dX42_wrong_124 : decode cX42_wrong 124 = .ok (.iaload, 1) := by decide +kernel
theorem dX42_wrong_125 : decode cX42_wrong 125 = .ok (.ireturn, 1) := by decide +kernel
abbrev cX42_backup : ByteArray := prog_21_method_27_code
def yX42_backup : MethodName := ⟨RX42, "backup", "(I)I"⟩
theorem dX42_backup_0 : decode cX42_backup 0 = .ok (.aload_n 0, 1) := by decide +kernel
theorem dX42_backup_1 : decode cX42_backup 1 = .ok (.getfield 7, 3) := by decide +kernel
theorem dX42_backup_4 : decode cX42_backup 4 = .ok (.ifCond .ne 6, 3) := by decide +kernel
theorem dX42_backup_7 : decode cX42_backup 7 = .ok (.bipush (-3), 2) := by decide +kernel
theorem dX42_backup_9 : decode cX42_backup 9 = .ok (.ireturn, 1) := by decide +kernel
theorem dX42_backup_10 : decode cX42_backup 10 = .ok (.aload_n 0, 1) := by decide +kernel
theorem dX42_backup_11 : decode cX42_backup 11 = .ok (.invokevirtual 176, 3) := by decide +kernel
theorem dX42_backup_14 : decode cX42_backup 14 = .ok (.invokevirtual 180, 3) := by decide +kernel
theorem dX42_backup_17 : decode cX42_backup 17 = .ok (.iload_n 1, 1) := by decide +kernel
theorem dX42_backup_18 : decode cX42_backup 18 = .ok (.if_icmp .eq 5, 3) := by decide +kernel
theorem dX42_backup_21 : decode cX42_backup 21 = .ok (.iconst (-1), 1) := by decide +kernel
theorem dX42_backup_22 : decode cX42_backup 22 = .ok (.ireturn, 1) := by decide +kernel
theorem dX42_backup_23 : decode cX42_backup 23 = .ok (.aload_n 0, 1) := by decide +kernel
theorem dX42_backup_24 : decode cX42_backup 24 = .ok (.getfield 36, 3) := by decide +kernel
theorem dX42_backup_27 : decode cX42_backup 27 = .ok (.invokevirtual 243, 3) := by decide +kernel
theorem dX42_backup_30 : decode cX42_backup 30 = .ok (.iconst 4, 1) := by decide +kernel
theorem dX42_backup_31 : decode cX42_backup 31 = .ok (.if_icmp .ne 6, 3) := by decide +kernel
theorem dX42_backup_34 : decode cX42_backup 34 = .ok (.bipush (-4), 2) := by decide +kernel
theorem dX42_backup_36 : decode cX42_backup 36 = .ok (.ireturn, 1) := by decide +kernel
theorem dX42_backup_37 : decode cX42_backup 37 = .ok (.aload_n 0, 1) := by decide +kernel
theorem dX42_backup_38 : decode cX42_backup 38 = .ok (.getfield 36, 3) := by decide +kernel
theorem dX42_backup_41 : decode cX42_backup 41 = .ok (.aload_n 0, 1) := by decide +kernel
theorem dX42_backup_42 : decode cX42_backup 42 = .ok (.invokevirtual 176, 3) := by decide +kernel
theorem dX42_backup_45 : decode cX42_backup 45 = .ok (.invokevirtual 244, 3) := by decide +kernel
theorem dX42_backup_48 : decode cX42_backup 48 = .ok (.pop, 1) := by decide +kernel
theorem dX42_backup_49 : decode cX42_backup 49 = .ok (.aload_n 0, 1) := by decide +kernel
theorem dX42_backup_50 : decode cX42_backup 50 = .ok (.invokevirtual 176, 3) := by decide +kernel
theorem dX42_backup_53 : decode cX42_backup 53 = .ok (.invokevirtual 116, 3) := by decide +kernel
theorem dX42_backup_56 : decode cX42_backup 56 = .ok (.invokestatic 245, 3) := by decide +kernel
theorem dX42_backup_59 : decode cX42_backup 59 = .ok (.ireturn, 1) := by decide +kernel
abbrev cX42_drop : ByteArray := prog_21_method_28_code
def yX42_drop : MethodName := ⟨RX42, "drop", "(I)I"⟩
theorem dX42_drop_0 : decode cX42_drop 0 = .ok (.aload_n 0, 1) := by decide +kernel
theorem dX42_drop_1 : decode cX42_drop 1 = .ok (.getfield 7, 3) := by decide +kernel
theorem dX42_drop_4 : decode cX42_drop 4 = .ok (.ifCond .ne 6, 3) := by decide +kernel
theorem dX42_drop_7 : decode cX42_drop 7 = .ok (.bipush (-3), 2) := by decide +kernel
theorem dX42_drop_9 : decode cX42_drop 9 = .ok (.ireturn, 1) := by decide +kernel
theorem dX42_drop_10 : decode cX42_drop 10 = .ok (.iconst 0, 1) := by decide +kernel
theorem dX42_drop_11 : decode cX42_drop 11 = .ok (.istore_n 2, 1) := by decide +kernel
theorem dX42_drop_12 : decode cX42_drop 12 = .ok (.iload_n 2, 1) := by decide +kernel
theorem dX42_drop_13 : decode cX42_drop 13 = .ok (.aload_n 0, 1) := by decide +kernel
theorem dX42_drop_14 : decode cX42_drop 14 = .ok (.getfield 36, 3) := by decide +kernel
theorem dX42_drop_17 : decode cX42_drop 17 = .ok (.invokevirtual 243, 3) := by decide +kernel
theorem dX42_drop_20 : decode cX42_drop 20 = .ok (.if_icmp .ge 27, 3) := by decide +kernel
theorem dX42_drop_23 : decode cX42_drop 23 = .ok (.aload_n 0, 1) := by decide +kernel
theorem dX42_drop_24 : decode cX42_drop 24 = .ok (.getfield 36, 3) := by decide +kernel
theorem dX42_drop_27 : decode cX42_drop 27 = .ok (.iload_n 2, 1) := by decide +kernel
theorem dX42_drop_28 : decode cX42_drop 28 = .ok (.invokevirtual 248, 3) := by decide +kernel
theorem dX42_drop_31 : decode cX42_drop 31 = .ok (.checkcast 54, 3) := by decide +kernel
theorem dX42_drop_34 : decode cX42_drop 34 = .ok (.invokevirtual 180, 3) := by decide +kernel
theorem dX42_drop_37 : decode cX42_drop 37 = .ok (.iload_n 1, 1) := by decide +kernel
theorem dX42_drop_38 : decode cX42_drop 38 = .ok (.if_icmp .eq 9, 3) := by decide +kernel
theorem dX42_drop_41 : decode cX42_drop 41 = .ok (.iinc 2 1, 3) := by decide +kernel
theorem dX42_drop_44 : decode cX42_drop 44 = .ok (.goto (-32), 3) := by decide +kernel
theorem dX42_drop_47 : decode cX42_drop 47 = .ok (.iload_n 2, 1) := by decide +kernel
theorem dX42_drop_48 : decode cX42_drop 48 = .ok (.aload_n 0, 1) := by decide +kernel
theorem dX42_drop_49 : decode cX42_drop 49 = .ok (.getfield 36, 3) := by decide +kernel
theorem dX42_drop_52 : decode cX42_drop 52 = .ok (.invokevirtual 243, 3) := by decide +kernel
theorem dX42_drop_55 : decode cX42_drop 55 = .ok (.if_icmp .ne 5, 3) := by decide +kernel
theorem dX42_drop_58 : decode cX42_drop 58 = .ok (.iconst (-1), 1) := by decide +kernel
theorem dX42_drop_59 : decode cX42_drop 59 = .ok (.ireturn, 1) := by decide +kernel
theorem dX42_drop_60 : decode cX42_drop 60 = .ok (.aload_n 0, 1) := by decide +kernel
theorem dX42_drop_61 : decode cX42_drop 61 = .ok (.invokevirtual 120, 3) := by decide +kernel
theorem dX42_drop_64 : decode cX42_drop 64 = .ok (.lstore_n 3, 1) := by decide +kernel
theorem dX42_drop_65 : decode cX42_drop 65 = .ok (.aload_n 0, 1) := by decide +kernel
theorem dX42_drop_66 : decode cX42_drop 66 = .ok (.getfield 36, 3) := by decide +kernel
theorem dX42_drop_69 : decode cX42_drop 69 = .ok (.iload_n 2, 1) := by decide +kernel
theorem dX42_drop_70 : decode cX42_drop 70 = .ok (.invokevirtual 252, 3) := by decide +kernel
theorem dX42_drop_73 : decode cX42_drop 73 = .ok (.pop, 1) := by decide +kernel
theorem dX42_drop_74 : decode cX42_drop 74 = .ok (.lload_n 3, 1) := by decide +kernel
theorem dX42_drop_75 : decode cX42_drop 75 = .ok (.aload_n 0, 1) := by decide +kernel
theorem dX42_drop_76 : decode cX42_drop 76 = .ok (.invokevirtual 120, 3) := by decide +kernel
theorem dX42_drop_79 : decode cX42_drop 79 = .ok (.ldc2_w 255, 3) := by decide +kernel
theorem dX42_drop_82 : decode cX42_drop 82 = .ok (.lxor, 1) := by decide +kernel
theorem dX42_drop_83 : decode cX42_drop 83 = .ok (.land, 1) := by decide +kernel
theorem dX42_drop_84 : decode cX42_drop 84 = .ok (.invokestatic 245, 3) := by decide +kernel
theorem dX42_drop_87 : decode cX42_drop 87 = .ok (.ireturn, 1) := by decide +kernel
abbrev cX42_derived : ByteArray := prog_21_method_15_code
def yX42_derived : MethodName := ⟨RX42, "derived", "(I)I"⟩
theorem dX42_derived_0 : decode cX42_derived 0 = .ok (.aload_n 0, 1) := by decide +kernel
theorem dX42_derived_1 : decode cX42_derived 1 = .ok (.getfield 7, 3) := by decide +kernel
theorem dX42_derived_4 : decode cX42_derived 4 = .ok (.ifCond .ne 6, 3) := by decide +kernel
theorem dX42_derived_7 : decode cX42_derived 7 = .ok (.bipush (-3), 2) := by decide +kernel
theorem dX42_derived_9 : decode cX42_derived 9 = .ok (.ireturn, 1) := by decide +kernel
theorem dX42_derived_10 : decode cX42_derived 10 = .ok (.aload_n 0, 1) := by decide +kernel
theorem dX42_derived_11 : decode cX42_derived 11 = .ok (.iload_n 1, 1) := by decide +kernel
theorem dX42_derived_12 : decode cX42_derived 12 = .ok (.invokevirtual 143, 3) := by decide +kernel
theorem dX42_derived_15 : decode cX42_derived 15 = .ok (.ifCond .ne 5, 3) := by decide +kernel
theorem dX42_derived_18 : decode cX42_derived 18 = .ok (.iconst (-1), 1) := by decide +kernel
theorem dX42_derived_19 : decode cX42_derived 19 = .ok (.ireturn, 1) := by decide +kernel
theorem dX42_derived_20 : decode cX42_derived 20 = .ok (.aload_n 0, 1) := by decide +kernel
theorem dX42_derived_21 : decode cX42_derived 21 = .ok (.iload_n 1, 1) := by decide +kernel
theorem dX42_derived_22 : decode cX42_derived 22 = .ok (.invokevirtual 147, 3) := by decide +kernel
theorem dX42_derived_25 : decode cX42_derived 25 = .ok (.astore_n 2, 1) := by decide +kernel
theorem dX42_derived_26 : decode cX42_derived 26 = .ok (.aload_n 2, 1) := by decide +kernel
theorem dX42_derived_27 : decode cX42_derived 27 = .ok (.invokevirtual 150, 3) := by decide +kernel
theorem dX42_derived_30 : decode cX42_derived 30 = .ok (.iconst 3, 1) := by decide +kernel
theorem dX42_derived_31 : decode cX42_derived 31 = .ok (.if_icmp .eq 5, 3) := by decide +kernel
theorem dX42_derived_34 : decode cX42_derived 34 = .ok (.iconst (-1), 1) := by decide +kernel
theorem dX42_derived_35 : decode cX42_derived 35 = .ok (.ireturn, 1) := by decide +kernel
theorem dX42_derived_36 : decode cX42_derived 36 = .ok (.aload_n 2, 1) := by decide +kernel
theorem dX42_derived_37 : decode cX42_derived 37 = .ok (.invokevirtual 167, 3) := by decide +kernel
theorem dX42_derived_40 : decode cX42_derived 40 = .ok (.istore_n 3, 1) := by decide +kernel
theorem dX42_derived_41 : decode cX42_derived 41 = .ok (.aload_n 0, 1) := by decide +kernel
theorem dX42_derived_42 : decode cX42_derived 42 = .ok (.iload_n 3, 1) := by decide +kernel
theorem dX42_derived_43 : decode cX42_derived 43 = .ok (.invokevirtual 143, 3) := by decide +kernel
theorem dX42_derived_46 : decode cX42_derived 46 = .ok (.ifCond .ne 5, 3) := by decide +kernel
theorem dX42_derived_49 : decode cX42_derived 49 = .ok (.iconst 0, 1) := by decide +kernel
theorem dX42_derived_50 : decode cX42_derived 50 = .ok (.ireturn, 1) := by decide +kernel
theorem dX42_derived_51 : decode cX42_derived 51 = .ok (.aload_n 0, 1) := by decide +kernel
theorem dX42_derived_52 : decode cX42_derived 52 = .ok (.iload_n 3, 1) := by decide +kernel
theorem dX42_derived_53 : decode cX42_derived 53 = .ok (.invokevirtual 147, 3) := by decide +kernel
theorem dX42_derived_56 : decode cX42_derived 56 = .ok (.invokevirtual 156, 3) := by decide +kernel
theorem dX42_derived_59 : decode cX42_derived 59 = .ok (.invokestatic 159, 3) := by decide +kernel
theorem dX42_derived_62 : decode cX42_derived 62 = .ok (.lstore 4, 2) := by decide +kernel
theorem dX42_derived_64 : decode cX42_derived 64 = .ok (.aload_n 0, 1) := by decide +kernel
theorem dX42_derived_65 : decode cX42_derived 65 = .ok (.getfield 19, 3) := by decide +kernel
theorem dX42_derived_68 : decode cX42_derived 68 = .ok (.aload_n 0, 1) := by decide +kernel
theorem dX42_derived_69 : decode cX42_derived 69 = .ok (.getfield 13, 3) := by decide +kernel
theorem dX42_derived_72 : decode cX42_derived 72 = .ok (.iload_n 1, 1) := by decide +kernel
theorem dX42_derived_73 : decode cX42_derived 73 = .ok (.iaload, 1) := by decide +kernel
theorem dX42_derived_74 : decode cX42_derived 74 = .ok (.aaload, 1) := by decide +kernel
theorem dX42_derived_75 : decode cX42_derived 75 = .ok (.ifnull 16, 3) := by decide +kernel
theorem dX42_derived_78 : decode cX42_derived 78 = .ok (.aload_n 2, 1) := by decide +kernel
theorem dX42_derived_79 : decode cX42_derived 79 = .ok (.invokevirtual 156, 3) := by decide +kernel
theorem dX42_derived_82 : decode cX42_derived 82 = .ok (.lload 4, 2) := by decide +kernel
theorem dX42_derived_84 : decode cX42_derived 84 = .ok (.lcmp, 1) := by decide +kernel
theorem dX42_derived_85 : decode cX42_derived 85 = .ok (.ifCond .ne 25, 3) := by decide +kernel
theorem dX42_derived_88 : decode cX42_derived 88 = .ok (.goto 20, 3) := by decide +kernel
theorem dX42_derived_91 : decode cX42_derived 91 = .ok (.aload_n 2, 1) := by decide +kernel
theorem dX42_derived_92 : decode cX42_derived 92 = .ok (.invokevirtual 170, 3) := by decide +kernel
theorem dX42_derived_95 : decode cX42_derived 95 = .ok (.ifCond .eq 15, 3) := by decide +kernel
theorem dX42_derived_98 : decode cX42_derived 98 = .ok (.aload_n 2, 1) := by decide +kernel
theorem dX42_derived_99 : decode cX42_derived 99 = .ok (.invokevirtual 156, 3) := by decide +kernel
theorem dX42_derived_102 : decode cX42_derived 102 = .ok (.lload 4, 2) := by decide +kernel
theorem dX42_derived_104 : decode cX42_derived 104 = .ok (.lcmp, 1) := by decide +kernel
theorem dX42_derived_105 : decode cX42_derived 105 = .ok (.ifCond .ne 5, 3) := by decide +kernel
theorem dX42_derived_108 : decode cX42_derived 108 = .ok (.iconst 0, 1) := by decide +kernel
theorem dX42_derived_109 : decode cX42_derived 109 = .ok (.ireturn, 1) := by decide +kernel
theorem dX42_derived_110 : decode cX42_derived 110 = .ok (.aload_n 0, 1) := by decide +kernel
theorem dX42_derived_111 : decode cX42_derived 111 = .ok (.iconst 3, 1) := by decide +kernel
theorem dX42_derived_112 : decode cX42_derived 112 = .ok (.iload_n 1, 1) := by decide +kernel
theorem dX42_derived_113 : decode cX42_derived 113 = .ok (.iload_n 3, 1) := by decide +kernel
theorem dX42_derived_114 : decode cX42_derived 114 = .ok (.lload 4, 2) := by decide +kernel
theorem dX42_derived_116 : decode cX42_derived 116 = .ok (.invokevirtual 163, 3) := by decide +kernel
theorem dX42_derived_119 : decode cX42_derived 119 = .ok (.istore 6, 2) := by decide +kernel
theorem dX42_derived_121 : decode cX42_derived 121 = .ok (.iload 6, 2) := by decide +kernel
theorem dX42_derived_123 : decode cX42_derived 123 = .ok (.bipush (-4), 2) := by decide +kernel
theorem dX42_derived_125 : decode cX42_derived 125 = .ok (.if_icmp .ne 8, 3) := by decide +kernel
theorem dX42_derived_128 : decode cX42_derived 128 = .ok (.bipush (-4), 2) := by decide +kernel
theorem dX42_derived_130 : decode cX42_derived 130 = .ok (.goto 4, 3) := by decide +kernel
theorem dX42_derived_133 : decode cX42_derived 133 = .ok (.iconst 1, 1) := by decide +kernel
theorem dX42_derived_134 : decode cX42_derived 134 = .ok (.ireturn, 1) := by decide +kernel
abbrev cX42_full : ByteArray := prog_21_method_29_code
def yX42_full : MethodName := ⟨RX42, "full", "(Z)Z"⟩
theorem dX42_full_0 : decode cX42_full 0 = .ok (.aload_n 0, 1) := by decide +kernel
theorem dX42_full_1 : decode cX42_full 1 = .ok (.getfield 134, 3) := by decide +kernel
theorem dX42_full_4 : decode cX42_full 4 = .ok (.istore_n 2, 1) := by decide +kernel
theorem dX42_full_5 : decode cX42_full 5 = .ok (.aload_n 0, 1) := by decide +kernel
theorem dX42_full_6 : decode cX42_full 6 = .ok (.iload_n 1, 1) := by decide +kernel
theorem dX42_full_7 : decode cX42_full 7 = .ok (.putfield 134, 3) := by decide +kernel
theorem dX42_full_10 : decode cX42_full 10 = .ok (.iload_n 2, 1) := by decide +kernel
theorem dX42_full_11 : decode cX42_full 11 = .ok (.ireturn, 1) := by decide +kernel
theorem in_X42 : ∀ w ∈ wsX420, w ∈ lw_all := lw_in wsX420 [2037, 2039, 2041, 2043, 2045, 2047, 2049, 2051, 2053, 2055] (by decide +kernel) (by decide +kernel)
def RX43 : String := "KnowHouse$KnowDisk$State"
def TX43 : u_T := fun k => match k with
  | 0 => ("KnowHouse$KnowDisk$State", "number", "I", true)
  | _ => ("KnowHouse$KnowDisk$State", "sectors", "J", true)
def tyX43 : Nat → FieldType := fun k => match k with
  | 0 => .int
  | _ => .long
abbrev wsX430 : List Cond := u_ws RX43 TX43 2
theorem nmX43 : ∀ a, a < 2 → ∀ b, b < 2 → a ≠ b → (TX43 a).2.1 ≠ (TX43 b).2.1 := by decide +kernel
theorem tyX43_ok : ∀ k, k < 2 → parseFieldDescriptor (TX43 k).2.2.1 = some (tyX43 k) := by decide +kernel
abbrev cX43_init : ByteArray := prog_23_method_1_code
def yX43_init : MethodName := ⟨RX43, "<init>", "(IJ)V"⟩
theorem dX43_init_0 : decode cX43_init 0 = .ok (.aload_n 0, 1) := by decide +kernel
theorem dX43_init_1 : decode cX43_init 1 = .ok (.invokespecial 1, 3) := by decide +kernel
theorem dX43_init_4 : decode cX43_init 4 = .ok (.aload_n 0, 1) := by decide +kernel
theorem dX43_init_5 : decode cX43_init 5 = .ok (.iload_n 1, 1) := by decide +kernel
theorem dX43_init_6 : decode cX43_init 6 = .ok (.putfield 7, 3) := by decide +kernel
theorem dX43_init_9 : decode cX43_init 9 = .ok (.aload_n 0, 1) := by decide +kernel
theorem dX43_init_10 : decode cX43_init 10 = .ok (.lload_n 2, 1) := by decide +kernel
theorem dX43_init_11 : decode cX43_init 11 = .ok (.putfield 13, 3) := by decide +kernel
theorem dX43_init_14 : decode cX43_init 14 = .ok (.return_, 1) := by decide +kernel
abbrev cX43_sectors : ByteArray := prog_23_method_6_code
def yX43_sectors : MethodName := ⟨RX43, "sectors", "()J"⟩
theorem dX43_sectors_0 : decode cX43_sectors 0 = .ok (.aload_n 0, 1) := by decide +kernel
theorem dX43_sectors_1 : decode cX43_sectors 1 = .ok (.getfield 13, 3) := by decide +kernel
theorem dX43_sectors_4 : decode cX43_sectors 4 = .ok (.lreturn, 1) := by decide +kernel
abbrev cX43_number : ByteArray := prog_23_method_5_code
def yX43_number : MethodName := ⟨RX43, "number", "()I"⟩
theorem dX43_number_0 : decode cX43_number 0 = .ok (.aload_n 0, 1) := by decide +kernel
theorem dX43_number_1 : decode cX43_number 1 = .ok (.getfield 7, 3) := by decide +kernel
theorem dX43_number_4 : decode cX43_number 4 = .ok (.ireturn, 1) := by decide +kernel
theorem in_X43 : ∀ w ∈ wsX430, w ∈ lw_all := lw_in wsX430 [1813, 1815] (by decide +kernel) (by decide +kernel)
def RX63 : String := "KnowHouse$KnowDisk$Sector"
def TX63 : u_T := fun k => match k with
  | _ => ("KnowHouse$KnowDisk$Sector", "bytes", "[B", true)
def tyX63 : Nat → FieldType := fun k => match k with
  | _ => .array .byte
abbrev wsX630 : List Cond := u_ws RX63 TX63 1
theorem nmX63 : ∀ a, a < 1 → ∀ b, b < 1 → a ≠ b → (TX63 a).2.1 ≠ (TX63 b).2.1 := by decide +kernel
theorem tyX63_ok : ∀ k, k < 1 → parseFieldDescriptor (TX63 k).2.2.1 = some (tyX63 k) := by decide +kernel
abbrev cX63_init : ByteArray := prog_22_method_1_code
def yX63_init : MethodName := ⟨RX63, "<init>", "()V"⟩
theorem dX63_init_0 : decode cX63_init 0 = .ok (.aload_n 0, 1) := by decide +kernel
theorem dX63_init_1 : decode cX63_init 1 = .ok (.invokespecial 3, 3) := by decide +kernel
theorem dX63_init_4 : decode cX63_init 4 = .ok (.aload_n 0, 1) := by decide +kernel
theorem dX63_init_5 : decode cX63_init 5 = .ok (.bipush 32, 2) := by decide +kernel
theorem dX63_init_7 : decode cX63_init 7 = .ok (.newarray .byte, 2) := by decide +kernel
theorem dX63_init_9 : decode cX63_init 9 = .ok (.putfield 9, 3) := by decide +kernel
theorem dX63_init_12 : decode cX63_init 12 = .ok (.return_, 1) := by decide +kernel
abbrev cX63_kind : ByteArray := prog_22_method_9_code
def yX63_kind : MethodName := ⟨RX63, "kind", "()I"⟩
theorem dX63_kind_0 : decode cX63_kind 0 = .ok (.aload_n 0, 1) := by decide +kernel
theorem dX63_kind_1 : decode cX63_kind 1 = .ok (.getfield 9, 3) := by decide +kernel
theorem dX63_kind_4 : decode cX63_kind 4 = .ok (.iconst 4, 1) := by decide +kernel
theorem dX63_kind_5 : decode cX63_kind 5 = .ok (.baload, 1) := by decide +kernel
theorem dX63_kind_6 : decode cX63_kind 6 = .ok (.ireturn, 1) := by decide +kernel
abbrev cX63_value : ByteArray := prog_22_method_12_code
def yX63_value : MethodName := ⟨RX63, "value", "()J"⟩
theorem dX63_value_0 : decode cX63_value 0 = .ok (.aload_n 0, 1) := by decide +kernel
theorem dX63_value_1 : decode cX63_value 1 = .ok (.bipush 8, 2) := by decide +kernel
theorem dX63_value_3 : decode cX63_value 3 = .ok (.invokevirtual 36, 3) := by decide +kernel
theorem dX63_value_6 : decode cX63_value 6 = .ok (.lreturn, 1) := by decide +kernel
abbrev cX63_wide : ByteArray := prog_22_method_3_code
def yX63_wide : MethodName := ⟨RX63, "wide", "(I)J"⟩
theorem dX63_wide_0 : decode cX63_wide 0 = .ok (.aload_n 0, 1) := by decide +kernel
theorem dX63_wide_1 : decode cX63_wide 1 = .ok (.iload_n 1, 1) := by decide +kernel
theorem dX63_wide_2 : decode cX63_wide 2 = .ok (.invokevirtual 15, 3) := by decide +kernel
theorem dX63_wide_5 : decode cX63_wide 5 = .ok (.i2l, 1) := by decide +kernel
theorem dX63_wide_6 : decode cX63_wide 6 = .ok (.bipush 32, 2) := by decide +kernel
theorem dX63_wide_8 : decode cX63_wide 8 = .ok (.lshl, 1) := by decide +kernel
theorem dX63_wide_9 : decode cX63_wide 9 = .ok (.aload_n 0, 1) := by decide +kernel
theorem dX63_wide_10 : decode cX63_wide 10 = .ok (.iload_n 1, 1) := by decide +kernel
theorem dX63_wide_11 : decode cX63_wide 11 = .ok (.iconst 4, 1) := by decide +kernel
theorem dX63_wide_12 : decode cX63_wide 12 = .ok (.iadd, 1) := by decide +kernel
theorem dX63_wide_13 : decode cX63_wide 13 = .ok (.invokevirtual 15, 3) := by decide +kernel
theorem dX63_wide_16 : decode cX63_wide 16 = .ok (.i2l, 1) := by decide +kernel
theorem dX63_wide_17 : decode cX63_wide 17 = .ok (.ldc2_w 19, 3) := by decide +kernel
theorem dX63_wide_20 : decode cX63_wide 20 = .ok (.land, 1) := by decide +kernel
theorem dX63_wide_21 : decode cX63_wide 21 = .ok (.lor, 1) := by decide +kernel
theorem dX63_wide_22 : decode cX63_wide 22 = .ok (.lreturn, 1) := by decide +kernel
abbrev cX63_number : ByteArray := prog_22_method_2_code
def yX63_number : MethodName := ⟨RX63, "number", "(I)I"⟩
theorem dX63_number_0 : decode cX63_number 0 = .ok (.aload_n 0, 1) := by decide +kernel
theorem dX63_number_1 : decode cX63_number 1 = .ok (.getfield 9, 3) := by decide +kernel
theorem dX63_number_4 : decode cX63_number 4 = .ok (.iload_n 1, 1) := by decide +kernel
theorem dX63_number_5 : decode cX63_number 5 = .ok (.baload, 1) := by decide +kernel
theorem dX63_number_6 : decode cX63_number 6 = .ok (.sipush 255, 3) := by decide +kernel
theorem dX63_number_9 : decode cX63_number 9 = .ok (.iand, 1) := by decide +kernel
theorem dX63_number_10 : decode cX63_number 10 = .ok (.bipush 24, 2) := by decide +kernel
theorem dX63_number_12 : decode cX63_number 12 = .ok (.ishl, 1) := by decide +kernel
theorem dX63_number_13 : decode cX63_number 13 = .ok (.aload_n 0, 1) := by decide +kernel
theorem dX63_number_14 : decode cX63_number 14 = .ok (.getfield 9, 3) := by decide +kernel
theorem dX63_number_17 : decode cX63_number 17 = .ok (.iload_n 1, 1) := by decide +kernel
theorem dX63_number_18 : decode cX63_number 18 = .ok (.iconst 1, 1) := by decide +kernel
theorem dX63_number_19 : decode cX63_number 19 = .ok (.iadd, 1) := by decide +kernel
theorem dX63_number_20 : decode cX63_number 20 = .ok (.baload, 1) := by decide +kernel
theorem dX63_number_21 : decode cX63_number 21 = .ok (.sipush 255, 3) := by decide +kernel
theorem dX63_number_24 : decode cX63_number 24 = .ok (.iand, 1) := by decide +kernel
theorem dX63_number_25 : decode cX63_number 25 = .ok (.bipush 16, 2) := by decide +kernel
theorem dX63_number_27 : decode cX63_number 27 = .ok (.ishl, 1) := by decide +kernel
theorem dX63_number_28 : decode cX63_number 28 = .ok (.ior, 1) := by decide +kernel
theorem dX63_number_29 : decode cX63_number 29 = .ok (.aload_n 0, 1) := by decide +kernel
theorem dX63_number_30 : decode cX63_number 30 = .ok (.getfield 9, 3) := by decide +kernel
theorem dX63_number_33 : decode cX63_number 33 = .ok (.iload_n 1, 1) := by decide +kernel
theorem dX63_number_34 : decode cX63_number 34 = .ok (.iconst 2, 1) := by decide +kernel
theorem dX63_number_35 : decode cX63_number 35 = .ok (.iadd, 1) := by decide +kernel
theorem dX63_number_36 : decode cX63_number 36 = .ok (.baload, 1) := by decide +kernel
theorem dX63_number_37 : decode cX63_number 37 = .ok (.sipush 255, 3) := by decide +kernel
theorem dX63_number_40 : decode cX63_number 40 = .ok (.iand, 1) := by decide +kernel
theorem dX63_number_41 : decode cX63_number 41 = .ok (.bipush 8, 2) := by decide +kernel
theorem dX63_number_43 : decode cX63_number 43 = .ok (.ishl, 1) := by decide +kernel
theorem dX63_number_44 : decode cX63_number 44 = .ok (.ior, 1) := by decide +kernel
theorem dX63_number_45 : decode cX63_number 45 = .ok (.aload_n 0, 1) := by decide +kernel
theorem dX63_number_46 : decode cX63_number 46 = .ok (.getfield 9, 3) := by decide +kernel
theorem dX63_number_49 : decode cX63_number 49 = .ok (.iload_n 1, 1) := by decide +kernel
theorem dX63_number_50 : decode cX63_number 50 = .ok (.iconst 3, 1) := by decide +kernel
theorem dX63_number_51 : decode cX63_number 51 = .ok (.iadd, 1) := by decide +kernel
theorem dX63_number_52 : decode cX63_number 52 = .ok (.baload, 1) := by decide +kernel
theorem dX63_number_53 : decode cX63_number 53 = .ok (.sipush 255, 3) := by decide +kernel
theorem dX63_number_56 : decode cX63_number 56 = .ok (.iand, 1) := by decide +kernel
theorem dX63_number_57 : decode cX63_number 57 = .ok (.ior, 1) := by decide +kernel
theorem dX63_number_58 : decode cX63_number 58 = .ok (.ireturn, 1) := by decide +kernel
abbrev cX63_of : ByteArray := prog_22_method_13_code
def yX63_of : MethodName := ⟨RX63, "of", "(IIIJI)LKnowHouse$KnowDisk$Sector;"⟩
theorem dX63_of_0 : decode cX63_of 0 = .ok (.new 10, 3) := by decide +kernel
theorem dX63_of_3 : decode cX63_of 3 = .ok (.dup, 1) := by decide +kernel
theorem dX63_of_4 : decode cX63_of 4 = .ok (.invokespecial 40, 3) := by decide +kernel
theorem dX63_of_7 : decode cX63_of 7 = .ok (.astore 6, 2) := by decide +kernel
theorem dX63_of_9 : decode cX63_of 9 = .ok (.aload 6, 2) := by decide +kernel
theorem dX63_of_11 : decode cX63_of 11 = .ok (.getfield 9, 3) := by decide +kernel
theorem dX63_of_14 : decode cX63_of 14 = .ok (.iconst 4, 1) := by decide +kernel
theorem dX63_of_15 : decode cX63_of 15 = .ok (.iload_n 0, 1) := by decide +kernel
theorem dX63_of_16 : decode cX63_of 16 = .ok (.i2b, 1) := by decide +kernel
theorem dX63_of_17 : decode cX63_of 17 = .ok (.bastore, 1) := by decide +kernel
theorem dX63_of_18 : decode cX63_of 18 = .ok (.aload 6, 2) := by decide +kernel
theorem dX63_of_20 : decode cX63_of 20 = .ok (.getfield 9, 3) := by decide +kernel
theorem dX63_of_23 : decode cX63_of 23 = .ok (.iconst 5, 1) := by decide +kernel
theorem dX63_of_24 : decode cX63_of 24 = .ok (.iload_n 1, 1) := by decide +kernel
theorem dX63_of_25 : decode cX63_of 25 = .ok (.i2b, 1) := by decide +kernel
theorem dX63_of_26 : decode cX63_of 26 = .ok (.bastore, 1) := by decide +kernel
theorem dX63_of_27 : decode cX63_of 27 = .ok (.aload 6, 2) := by decide +kernel
theorem dX63_of_29 : decode cX63_of 29 = .ok (.getfield 9, 3) := by decide +kernel
theorem dX63_of_32 : decode cX63_of 32 = .ok (.bipush 6, 2) := by decide +kernel
theorem dX63_of_34 : decode cX63_of 34 = .ok (.iload_n 2, 1) := by decide +kernel
theorem dX63_of_35 : decode cX63_of 35 = .ok (.i2b, 1) := by decide +kernel
theorem dX63_of_36 : decode cX63_of 36 = .ok (.bastore, 1) := by decide +kernel
theorem dX63_of_37 : decode cX63_of 37 = .ok (.aload 6, 2) := by decide +kernel
theorem dX63_of_39 : decode cX63_of 39 = .ok (.bipush 8, 2) := by decide +kernel
theorem dX63_of_41 : decode cX63_of 41 = .ok (.lload_n 3, 1) := by decide +kernel
theorem dX63_of_42 : decode cX63_of 42 = .ok (.invokevirtual 41, 3) := by decide +kernel
theorem dX63_of_45 : decode cX63_of 45 = .ok (.aload 6, 2) := by decide +kernel
theorem dX63_of_47 : decode cX63_of 47 = .ok (.bipush 16, 2) := by decide +kernel
theorem dX63_of_49 : decode cX63_of 49 = .ok (.iload 5, 2) := by decide +kernel
theorem dX63_of_51 : decode cX63_of 51 = .ok (.invokevirtual 21, 3) := by decide +kernel
theorem dX63_of_54 : decode cX63_of 54 = .ok (.aload 6, 2) := by decide +kernel
theorem dX63_of_56 : decode cX63_of 56 = .ok (.areturn, 1) := by decide +kernel
abbrev cX63_setWide : ByteArray := prog_22_method_5_code
def yX63_setWide : MethodName := ⟨RX63, "setWide", "(IJ)V"⟩
theorem dX63_setWide_0 : decode cX63_setWide 0 = .ok (.aload_n 0, 1) := by decide +kernel
theorem dX63_setWide_1 : decode cX63_setWide 1 = .ok (.iload_n 1, 1) := by decide +kernel
theorem dX63_setWide_2 : decode cX63_setWide 2 = .ok (.lload_n 2, 1) := by decide +kernel
theorem dX63_setWide_3 : decode cX63_setWide 3 = .ok (.bipush 32, 2) := by decide +kernel
theorem dX63_setWide_5 : decode cX63_setWide 5 = .ok (.lshr, 1) := by decide +kernel
theorem dX63_setWide_6 : decode cX63_setWide 6 = .ok (.l2i, 1) := by decide +kernel
theorem dX63_setWide_7 : decode cX63_setWide 7 = .ok (.invokevirtual 21, 3) := by decide +kernel
theorem dX63_setWide_10 : decode cX63_setWide 10 = .ok (.aload_n 0, 1) := by decide +kernel
theorem dX63_setWide_11 : decode cX63_setWide 11 = .ok (.iload_n 1, 1) := by decide +kernel
theorem dX63_setWide_12 : decode cX63_setWide 12 = .ok (.iconst 4, 1) := by decide +kernel
theorem dX63_setWide_13 : decode cX63_setWide 13 = .ok (.iadd, 1) := by decide +kernel
theorem dX63_setWide_14 : decode cX63_setWide 14 = .ok (.lload_n 2, 1) := by decide +kernel
theorem dX63_setWide_15 : decode cX63_setWide 15 = .ok (.l2i, 1) := by decide +kernel
theorem dX63_setWide_16 : decode cX63_setWide 16 = .ok (.invokevirtual 21, 3) := by decide +kernel
theorem dX63_setWide_19 : decode cX63_setWide 19 = .ok (.return_, 1) := by decide +kernel
abbrev cX63_set : ByteArray := prog_22_method_4_code
def yX63_set : MethodName := ⟨RX63, "set", "(II)V"⟩
theorem dX63_set_0 : decode cX63_set 0 = .ok (.iconst 0, 1) := by decide +kernel
theorem dX63_set_1 : decode cX63_set 1 = .ok (.istore_n 3, 1) := by decide +kernel
theorem dX63_set_2 : decode cX63_set 2 = .ok (.iload_n 3, 1) := by decide +kernel
theorem dX63_set_3 : decode cX63_set 3 = .ok (.iconst 4, 1) := by decide +kernel
theorem dX63_set_4 : decode cX63_set 4 = .ok (.if_icmp .ge 27, 3) := by decide +kernel
theorem dX63_set_7 : decode cX63_set 7 = .ok (.aload_n 0, 1) := by decide +kernel
theorem dX63_set_8 : decode cX63_set 8 = .ok (.getfield 9, 3) := by decide +kernel
theorem dX63_set_11 : decode cX63_set 11 = .ok (.iload_n 1, 1) := by decide +kernel
theorem dX63_set_12 : decode cX63_set 12 = .ok (.iload_n 3, 1) := by decide +kernel
theorem dX63_set_13 : decode cX63_set 13 = .ok (.iadd, 1) := by decide +kernel
theorem dX63_set_14 : decode cX63_set 14 = .ok (.iload_n 2, 1) := by decide +kernel
theorem dX63_set_15 : decode cX63_set 15 = .ok (.bipush 24, 2) := by decide +kernel
theorem dX63_set_17 : decode cX63_set 17 = .ok (.bipush 8, 2) := by decide +kernel
theorem dX63_set_19 : decode cX63_set 19 = .ok (.iload_n 3, 1) := by decide +kernel
theorem dX63_set_20 : decode cX63_set 20 = .ok (.imul, 1) := by decide +kernel
theorem dX63_set_21 : decode cX63_set 21 = .ok (.isub, 1) := by decide +kernel
theorem dX63_set_22 : decode cX63_set 22 = .ok (.ishr, 1) := by decide +kernel
theorem dX63_set_23 : decode cX63_set 23 = .ok (.i2b, 1) := by decide +kernel
theorem dX63_set_24 : decode cX63_set 24 = .ok (.bastore, 1) := by decide +kernel
theorem dX63_set_25 : decode cX63_set 25 = .ok (.iinc 3 1, 3) := by decide +kernel
theorem dX63_set_28 : decode cX63_set 28 = .ok (.goto (-26), 3) := by decide +kernel
theorem dX63_set_31 : decode cX63_set 31 = .ok (.return_, 1) := by decide +kernel
abbrev cX63_close : ByteArray := prog_22_method_7_code
def yX63_close : MethodName := ⟨RX63, "close", "()V"⟩
theorem dX63_close_0 : decode cX63_close 0 = .ok (.aload_n 0, 1) := by decide +kernel
theorem dX63_close_1 : decode cX63_close 1 = .ok (.iconst 0, 1) := by decide +kernel
theorem dX63_close_2 : decode cX63_close 2 = .ok (.aload_n 0, 1) := by decide +kernel
theorem dX63_close_3 : decode cX63_close 3 = .ok (.invokevirtual 32, 3) := by decide +kernel
theorem dX63_close_6 : decode cX63_close 6 = .ok (.invokevirtual 21, 3) := by decide +kernel
theorem dX63_close_9 : decode cX63_close 9 = .ok (.return_, 1) := by decide +kernel
abbrev cX63_sum : ByteArray := prog_22_method_6_code
def yX63_sum : MethodName := ⟨RX63, "sum", "()I"⟩
theorem dX63_sum_0 : decode cX63_sum 0 = .ok (.iconst 0, 1) := by decide +kernel
theorem dX63_sum_1 : decode cX63_sum 1 = .ok (.istore_n 1, 1) := by decide +kernel
theorem dX63_sum_2 : decode cX63_sum 2 = .ok (.iconst 4, 1) := by decide +kernel
theorem dX63_sum_3 : decode cX63_sum 3 = .ok (.istore_n 2, 1) := by decide +kernel
theorem dX63_sum_4 : decode cX63_sum 4 = .ok (.iload_n 2, 1) := by decide +kernel
theorem dX63_sum_5 : decode cX63_sum 5 = .ok (.bipush 32, 2) := by decide +kernel
theorem dX63_sum_7 : decode cX63_sum 7 = .ok (.if_icmp .ge 30, 3) := by decide +kernel
theorem dX63_sum_10 : decode cX63_sum 10 = .ok (.iload_n 1, 1) := by decide +kernel
theorem dX63_sum_11 : decode cX63_sum 11 = .ok (.aload_n 0, 1) := by decide +kernel
theorem dX63_sum_12 : decode cX63_sum 12 = .ok (.getfield 9, 3) := by decide +kernel
theorem dX63_sum_15 : decode cX63_sum 15 = .ok (.iload_n 2, 1) := by decide +kernel
theorem dX63_sum_16 : decode cX63_sum 16 = .ok (.baload, 1) := by decide +kernel
theorem dX63_sum_17 : decode cX63_sum 17 = .ok (.sipush 255, 3) := by decide +kernel
theorem dX63_sum_20 : decode cX63_sum 20 = .ok (.iand, 1) := by decide +kernel
theorem dX63_sum_21 : decode cX63_sum 21 = .ok (.ixor, 1) := by decide +kernel
theorem dX63_sum_22 : decode cX63_sum 22 = .ok (.bipush 11, 2) := by decide +kernel
theorem dX63_sum_24 : decode cX63_sum 24 = .ok (.invokestatic 25, 3) := by decide +kernel
theorem dX63_sum_27 : decode cX63_sum 27 = .ok (.ldc 31, 2) := by decide +kernel
theorem dX63_sum_29 : decode cX63_sum 29 = .ok (.imul, 1) := by decide +kernel
theorem dX63_sum_30 : decode cX63_sum 30 = .ok (.istore_n 1, 1) := by decide +kernel
theorem dX63_sum_31 : decode cX63_sum 31 = .ok (.iinc 2 1, 3) := by decide +kernel
theorem dX63_sum_34 : decode cX63_sum 34 = .ok (.goto (-30), 3) := by decide +kernel
theorem dX63_sum_37 : decode cX63_sum 37 = .ok (.iload_n 1, 1) := by decide +kernel
theorem dX63_sum_38 : decode cX63_sum 38 = .ok (.ireturn, 1) := by decide +kernel
abbrev cX63_isRight : ByteArray := prog_22_method_8_code
def yX63_isRight : MethodName := ⟨RX63, "isRight", "()Z"⟩
theorem dX63_isRight_0 : decode cX63_isRight 0 = .ok (.aload_n 0, 1) := by decide +kernel
theorem dX63_isRight_1 : decode cX63_isRight 1 = .ok (.iconst 0, 1) := by decide +kernel
theorem dX63_isRight_2 : decode cX63_isRight 2 = .ok (.invokevirtual 15, 3) := by decide +kernel
theorem dX63_isRight_5 : decode cX63_isRight 5 = .ok (.aload_n 0, 1) := by decide +kernel
theorem dX63_isRight_6 : decode cX63_isRight 6 = .ok (.invokevirtual 32, 3) := by decide +kernel
theorem dX63_isRight_9 : decode cX63_isRight 9 = .ok (.if_icmp .ne 7, 3) := by decide +kernel
theorem dX63_isRight_12 : decode cX63_isRight 12 = .ok (.iconst 1, 1) := by decide +kernel
theorem dX63_isRight_13 : decode cX63_isRight 13 = .ok (.goto 4, 3) := by decide +kernel
theorem dX63_isRight_16 : decode cX63_isRight 16 = .ok (.iconst 0, 1) := by decide +kernel
theorem dX63_isRight_17 : decode cX63_isRight 17 = .ok (.ireturn, 1) := by decide +kernel
abbrev cX63_page : ByteArray := prog_22_method_10_code
def yX63_page : MethodName := ⟨RX63, "page", "()I"⟩
theorem dX63_page_0 : decode cX63_page 0 = .ok (.aload_n 0, 1) := by decide +kernel
theorem dX63_page_1 : decode cX63_page 1 = .ok (.getfield 9, 3) := by decide +kernel
theorem dX63_page_4 : decode cX63_page 4 = .ok (.iconst 5, 1) := by decide +kernel
theorem dX63_page_5 : decode cX63_page 5 = .ok (.baload, 1) := by decide +kernel
theorem dX63_page_6 : decode cX63_page 6 = .ok (.sipush 255, 3) := by decide +kernel
theorem dX63_page_9 : decode cX63_page 9 = .ok (.iand, 1) := by decide +kernel
theorem dX63_page_10 : decode cX63_page 10 = .ok (.ireturn, 1) := by decide +kernel
abbrev cX63_source : ByteArray := prog_22_method_11_code
def yX63_source : MethodName := ⟨RX63, "source", "()I"⟩
theorem dX63_source_0 : decode cX63_source 0 = .ok (.aload_n 0, 1) := by decide +kernel
theorem dX63_source_1 : decode cX63_source 1 = .ok (.getfield 9, 3) := by decide +kernel
theorem dX63_source_4 : decode cX63_source 4 = .ok (.bipush 6, 2) := by decide +kernel
theorem dX63_source_6 : decode cX63_source 6 = .ok (.baload, 1) := by decide +kernel
theorem dX63_source_7 : decode cX63_source 7 = .ok (.sipush 255, 3) := by decide +kernel
theorem dX63_source_10 : decode cX63_source 10 = .ok (.iand, 1) := by decide +kernel
theorem dX63_source_11 : decode cX63_source 11 = .ok (.ireturn, 1) := by decide +kernel
theorem in_X63 : ∀ w ∈ wsX630, w ∈ lw_all := lw_in wsX630 [3548] (by decide +kernel) (by decide +kernel)
def RX64 : String := "KnowHouse$KnowDisk$Write"
def TX64 : u_T := fun k => match k with
  | 0 => ("KnowHouse$KnowDisk$Write", "to", "I", true)
  | _ => ("KnowHouse$KnowDisk$Write", "sector", "LKnowHouse$KnowDisk$Sector;", true)
def tyX64 : Nat → FieldType := fun k => match k with
  | 0 => .int
  | _ => .object "KnowHouse$KnowDisk$Sector"
abbrev wsX640 : List Cond := u_ws RX64 TX64 2
theorem nmX64 : ∀ a, a < 2 → ∀ b, b < 2 → a ≠ b → (TX64 a).2.1 ≠ (TX64 b).2.1 := by decide +kernel
theorem tyX64_ok : ∀ k, k < 2 → parseFieldDescriptor (TX64 k).2.2.1 = some (tyX64 k) := by decide +kernel
abbrev cX64_to : ByteArray := prog_24_method_5_code
def yX64_to : MethodName := ⟨RX64, "to", "()I"⟩
theorem dX64_to_0 : decode cX64_to 0 = .ok (.aload_n 0, 1) := by decide +kernel
theorem dX64_to_1 : decode cX64_to 1 = .ok (.getfield 7, 3) := by decide +kernel
theorem dX64_to_4 : decode cX64_to 4 = .ok (.ireturn, 1) := by decide +kernel
abbrev cX64_sector : ByteArray := prog_24_method_6_code
def yX64_sector : MethodName := ⟨RX64, "sector", "()LKnowHouse$KnowDisk$Sector;"⟩
theorem dX64_sector_0 : decode cX64_sector 0 = .ok (.aload_n 0, 1) := by decide +kernel
theorem dX64_sector_1 : decode cX64_sector 1 = .ok (.getfield 13, 3) := by decide +kernel
theorem dX64_sector_4 : decode cX64_sector 4 = .ok (.areturn, 1) := by decide +kernel
abbrev cX64_init : ByteArray := prog_24_method_1_code
def yX64_init : MethodName := ⟨RX64, "<init>", "(ILKnowHouse$KnowDisk$Sector;)V"⟩
theorem dX64_init_0 : decode cX64_init 0 = .ok (.aload_n 0, 1) := by decide +kernel
theorem dX64_init_1 : decode cX64_init 1 = .ok (.invokespecial 1, 3) := by decide +kernel
theorem dX64_init_4 : decode cX64_init 4 = .ok (.aload_n 0, 1) := by decide +kernel
theorem dX64_init_5 : decode cX64_init 5 = .ok (.iload_n 1, 1) := by decide +kernel
theorem dX64_init_6 : decode cX64_init 6 = .ok (.putfield 7, 3) := by decide +kernel
theorem dX64_init_9 : decode cX64_init 9 = .ok (.aload_n 0, 1) := by decide +kernel
theorem dX64_init_10 : decode cX64_init 10 = .ok (.aload_n 2, 1) := by decide +kernel
theorem dX64_init_11 : decode cX64_init 11 = .ok (.putfield 13, 3) := by decide +kernel
theorem dX64_init_14 : decode cX64_init 14 = .ok (.return_, 1) := by decide +kernel
theorem in_X64 : ∀ w ∈ wsX640, w ∈ lw_all := lw_in wsX640 [3680, 3682] (by decide +kernel) (by decide +kernel)
def RJ5 : String := "java/util/ArrayDeque"
def TJ5 : u_T := fun k => match k with
  | 0 => ("java/util/ArrayDeque", "elements", "[Ljava/lang/Object;", false)
  | 1 => ("java/util/ArrayDeque", "head", "I", false)
  | _ => ("java/util/ArrayDeque", "tail", "I", false)
def tyJ5 : Nat → FieldType := fun k => match k with
  | 0 => .array (.object "java/lang/Object")
  | 1 => .int
  | _ => .int
abbrev wsJ50 : List Cond := u_ws RJ5 TJ5 3
theorem nmJ5 : ∀ a, a < 3 → ∀ b, b < 3 → a ≠ b → (TJ5 a).2.1 ≠ (TJ5 b).2.1 := by decide +kernel
theorem tyJ5_ok : ∀ k, k < 3 → parseFieldDescriptor (TJ5 k).2.2.1 = some (tyJ5 k) := by decide +kernel
abbrev cJ5_init : ByteArray := prog_120_method_3_code
def yJ5_init : MethodName := ⟨RJ5, "<init>", "()V"⟩
theorem dJ5_init_0 : decode cJ5_init 0 = .ok (.aload_n 0, 1) := by decide +kernel
theorem dJ5_init_1 : decode cJ5_init 1 = .ok (.invokespecial 42, 3) := by decide +kernel
theorem dJ5_init_4 : decode cJ5_init 4 = .ok (.aload_n 0, 1) := by decide +kernel
theorem dJ5_init_5 : decode cJ5_init 5 = .ok (.bipush 17, 2) := by decide +kernel
theorem dJ5_init_7 : decode cJ5_init 7 = .ok (.anewarray 47, 3) := by decide +kernel
theorem dJ5_init_10 : decode cJ5_init 10 = .ok (.putfield 3, 3) := by decide +kernel
theorem dJ5_init_13 : decode cJ5_init 13 = .ok (.return_, 1) := by decide +kernel
abbrev cJ5_clear : ByteArray := prog_120_method_53_code
def yJ5_clear : MethodName := ⟨RJ5, "clear", "()V"⟩
theorem dJ5_clear_0 : decode cJ5_clear 0 = .ok (.aload_n 0, 1) := by decide +kernel
theorem dJ5_clear_1 : decode cJ5_clear 1 = .ok (.getfield 3, 3) := by decide +kernel
theorem dJ5_clear_4 : decode cJ5_clear 4 = .ok (.aload_n 0, 1) := by decide +kernel
theorem dJ5_clear_5 : decode cJ5_clear 5 = .ok (.getfield 24, 3) := by decide +kernel
theorem dJ5_clear_8 : decode cJ5_clear 8 = .ok (.aload_n 0, 1) := by decide +kernel
theorem dJ5_clear_9 : decode cJ5_clear 9 = .ok (.getfield 20, 3) := by decide +kernel
theorem dJ5_clear_12 : decode cJ5_clear 12 = .ok (.invokestatic 181, 3) := by decide +kernel
theorem dJ5_clear_15 : decode cJ5_clear 15 = .ok (.aload_n 0, 1) := by decide +kernel
theorem dJ5_clear_16 : decode cJ5_clear 16 = .ok (.aload_n 0, 1) := by decide +kernel
theorem dJ5_clear_17 : decode cJ5_clear 17 = .ok (.iconst 0, 1) := by decide +kernel
theorem dJ5_clear_18 : decode cJ5_clear 18 = .ok (.dup_x1, 1) := by decide +kernel
theorem dJ5_clear_19 : decode cJ5_clear 19 = .ok (.putfield 20, 3) := by decide +kernel
theorem dJ5_clear_22 : decode cJ5_clear 22 = .ok (.putfield 24, 3) := by decide +kernel
theorem dJ5_clear_25 : decode cJ5_clear 25 = .ok (.return_, 1) := by decide +kernel
abbrev cJ5_circularClear : ByteArray := prog_120_method_54_code
def yJ5_circularClear : MethodName := ⟨RJ5, "circularClear", "([Ljava/lang/Object;II)V"⟩
theorem dJ5_circularClear_0 : decode cJ5_circularClear 0 = .ok (.iload_n 1, 1) := by decide +kernel
theorem dJ5_circularClear_1 : decode cJ5_circularClear 1 = .ok (.iload_n 2, 1) := by decide +kernel
theorem dJ5_circularClear_2 : decode cJ5_circularClear 2 = .ok (.if_icmp .gt 7, 3) := by decide +kernel
theorem dJ5_circularClear_5 : decode cJ5_circularClear 5 = .ok (.iload_n 2, 1) := by decide +kernel
theorem dJ5_circularClear_6 : decode cJ5_circularClear 6 = .ok (.goto 5, 3) := by decide +kernel
theorem dJ5_circularClear_9 : decode cJ5_circularClear 9 = .ok (.aload_n 0, 1) := by decide +kernel
theorem dJ5_circularClear_10 : decode cJ5_circularClear 10 = .ok (.arraylength, 1) := by decide +kernel
theorem dJ5_circularClear_11 : decode cJ5_circularClear 11 = .ok (.istore_n 3, 1) := by decide +kernel
theorem dJ5_circularClear_12 : decode cJ5_circularClear 12 = .ok (.iload_n 1, 1) := by decide +kernel
theorem dJ5_circularClear_13 : decode cJ5_circularClear 13 = .ok (.iload_n 3, 1) := by decide +kernel
theorem dJ5_circularClear_14 : decode cJ5_circularClear 14 = .ok (.if_icmp .ge 13, 3) := by decide +kernel
theorem dJ5_circularClear_17 : decode cJ5_circularClear 17 = .ok (.aload_n 0, 1) := by decide +kernel
theorem dJ5_circularClear_18 : decode cJ5_circularClear 18 = .ok (.iload_n 1, 1) := by decide +kernel
theorem dJ5_circularClear_19 : decode cJ5_circularClear 19 = .ok (.aconst_null, 1) := by decide +kernel
theorem dJ5_circularClear_20 : decode cJ5_circularClear 20 = .ok (.aastore, 1) := by decide +kernel
theorem dJ5_circularClear_21 : decode cJ5_circularClear 21 = .ok (.iinc 1 1, 3) := by decide +kernel
theorem dJ5_circularClear_24 : decode cJ5_circularClear 24 = .ok (.goto (-12), 3) := by decide +kernel
theorem dJ5_circularClear_27 : decode cJ5_circularClear 27 = .ok (.iload_n 3, 1) := by decide +kernel
theorem dJ5_circularClear_28 : decode cJ5_circularClear 28 = .ok (.iload_n 2, 1) := by decide +kernel
theorem dJ5_circularClear_29 : decode cJ5_circularClear 29 = .ok (.if_icmp .ne 6, 3) := by decide +kernel
theorem dJ5_circularClear_32 : decode cJ5_circularClear 32 = .ok (.goto 10, 3) := by decide +kernel
theorem dJ5_circularClear_35 : decode cJ5_circularClear 35 = .ok (.iconst 0, 1) := by decide +kernel
theorem dJ5_circularClear_36 : decode cJ5_circularClear 36 = .ok (.istore_n 1, 1) := by decide +kernel
theorem dJ5_circularClear_37 : decode cJ5_circularClear 37 = .ok (.iload_n 2, 1) := by decide +kernel
theorem dJ5_circularClear_38 : decode cJ5_circularClear 38 = .ok (.istore_n 3, 1) := by decide +kernel
theorem dJ5_circularClear_39 : decode cJ5_circularClear 39 = .ok (.goto (-27), 3) := by decide +kernel
theorem dJ5_circularClear_42 : decode cJ5_circularClear 42 = .ok (.return_, 1) := by decide +kernel
abbrev cJ5_add : ByteArray := prog_120_method_28_code
def yJ5_add : MethodName := ⟨RJ5, "add", "(Ljava/lang/Object;)Z"⟩
theorem dJ5_add_0 : decode cJ5_add 0 = .ok (.aload_n 0, 1) := by decide +kernel
theorem dJ5_add_1 : decode cJ5_add 1 = .ok (.aload_n 1, 1) := by decide +kernel
theorem dJ5_add_2 : decode cJ5_add 2 = .ok (.invokevirtual 90, 3) := by decide +kernel
theorem dJ5_add_5 : decode cJ5_add 5 = .ok (.iconst 1, 1) := by decide +kernel
theorem dJ5_add_6 : decode cJ5_add 6 = .ok (.ireturn, 1) := by decide +kernel
abbrev cJ5_addLast : ByteArray := prog_120_method_13_code
def yJ5_addLast : MethodName := ⟨RJ5, "addLast", "(Ljava/lang/Object;)V"⟩
theorem dJ5_addLast_0 : decode cJ5_addLast 0 = .ok (.aload_n 1, 1) := by decide +kernel
theorem dJ5_addLast_1 : decode cJ5_addLast 1 = .ok (.ifnonnull 11, 3) := by decide +kernel
theorem dJ5_addLast_4 : decode cJ5_addLast 4 = .ok (.new 65, 3) := by decide +kernel
theorem dJ5_addLast_7 : decode cJ5_addLast 7 = .ok (.dup, 1) := by decide +kernel
theorem dJ5_addLast_8 : decode cJ5_addLast 8 = .ok (.invokespecial 67, 3) := by decide +kernel
theorem dJ5_addLast_11 : decode cJ5_addLast 11 = .ok (.athrow, 1) := by decide +kernel
theorem dJ5_addLast_12 : decode cJ5_addLast 12 = .ok (.aload_n 0, 1) := by decide +kernel
theorem dJ5_addLast_13 : decode cJ5_addLast 13 = .ok (.getfield 3, 3) := by decide +kernel
theorem dJ5_addLast_16 : decode cJ5_addLast 16 = .ok (.astore_n 2, 1) := by decide +kernel
theorem dJ5_addLast_17 : decode cJ5_addLast 17 = .ok (.aload_n 2, 1) := by decide +kernel
theorem dJ5_addLast_18 : decode cJ5_addLast 18 = .ok (.aload_n 0, 1) := by decide +kernel
theorem dJ5_addLast_19 : decode cJ5_addLast 19 = .ok (.getfield 20, 3) := by decide +kernel
theorem dJ5_addLast_22 : decode cJ5_addLast 22 = .ok (.aload_n 1, 1) := by decide +kernel
theorem dJ5_addLast_23 : decode cJ5_addLast 23 = .ok (.aastore, 1) := by decide +kernel
theorem dJ5_addLast_24 : decode cJ5_addLast 24 = .ok (.aload_n 0, 1) := by decide +kernel
theorem dJ5_addLast_25 : decode cJ5_addLast 25 = .ok (.getfield 24, 3) := by decide +kernel
theorem dJ5_addLast_28 : decode cJ5_addLast 28 = .ok (.aload_n 0, 1) := by decide +kernel
theorem dJ5_addLast_29 : decode cJ5_addLast 29 = .ok (.aload_n 0, 1) := by decide +kernel
theorem dJ5_addLast_30 : decode cJ5_addLast 30 = .ok (.getfield 20, 3) := by decide +kernel
theorem dJ5_addLast_33 : decode cJ5_addLast 33 = .ok (.aload_n 2, 1) := by decide +kernel
theorem dJ5_addLast_34 : decode cJ5_addLast 34 = .ok (.arraylength, 1) := by decide +kernel
theorem dJ5_addLast_35 : decode cJ5_addLast 35 = .ok (.invokestatic 74, 3) := by decide +kernel
theorem dJ5_addLast_38 : decode cJ5_addLast 38 = .ok (.dup_x1, 1) := by decide +kernel
theorem dJ5_addLast_39 : decode cJ5_addLast 39 = .ok (.putfield 20, 3) := by decide +kernel
theorem dJ5_addLast_42 : decode cJ5_addLast 42 = .ok (.if_icmp .ne 8, 3) := by decide +kernel
theorem dJ5_addLast_45 : decode cJ5_addLast 45 = .ok (.aload_n 0, 1) := by decide +kernel
theorem dJ5_addLast_46 : decode cJ5_addLast 46 = .ok (.iconst 1, 1) := by decide +kernel
theorem dJ5_addLast_47 : decode cJ5_addLast 47 = .ok (.invokevirtual 71, 3) := by decide +kernel
theorem dJ5_addLast_50 : decode cJ5_addLast 50 = .ok (.return_, 1) := by decide +kernel
abbrev cJ5_inc : ByteArray := prog_120_method_6_code
def yJ5_inc : MethodName := ⟨RJ5, "inc", "(II)I"⟩
theorem dJ5_inc_0 : decode cJ5_inc 0 = .ok (.iinc 0 1, 3) := by decide +kernel
theorem dJ5_inc_3 : decode cJ5_inc 3 = .ok (.iload_n 0, 1) := by decide +kernel
theorem dJ5_inc_4 : decode cJ5_inc 4 = .ok (.iload_n 1, 1) := by decide +kernel
theorem dJ5_inc_5 : decode cJ5_inc 5 = .ok (.if_icmp .lt 5, 3) := by decide +kernel
theorem dJ5_inc_8 : decode cJ5_inc 8 = .ok (.iconst 0, 1) := by decide +kernel
theorem dJ5_inc_9 : decode cJ5_inc 9 = .ok (.istore_n 0, 1) := by decide +kernel
theorem dJ5_inc_10 : decode cJ5_inc 10 = .ok (.iload_n 0, 1) := by decide +kernel
theorem dJ5_inc_11 : decode cJ5_inc 11 = .ok (.ireturn, 1) := by decide +kernel
abbrev cJ5_grow : ByteArray := prog_120_method_1_code
def yJ5_grow : MethodName := ⟨RJ5, "grow", "(I)V"⟩
theorem dJ5_grow_0 : decode cJ5_grow 0 = .ok (.aload_n 0, 1) := by decide +kernel
theorem dJ5_grow_1 : decode cJ5_grow 1 = .ok (.getfield 3, 3) := by decide +kernel
theorem dJ5_grow_4 : decode cJ5_grow 4 = .ok (.arraylength, 1) := by decide +kernel
theorem dJ5_grow_5 : decode cJ5_grow 5 = .ok (.istore_n 2, 1) := by decide +kernel
theorem dJ5_grow_6 : decode cJ5_grow 6 = .ok (.iload_n 2, 1) := by decide +kernel
theorem dJ5_grow_7 : decode cJ5_grow 7 = .ok (.bipush 64, 2) := by decide +kernel
theorem dJ5_grow_9 : decode cJ5_grow 9 = .ok (.if_icmp .ge 9, 3) := by decide +kernel
theorem dJ5_grow_12 : decode cJ5_grow 12 = .ok (.iload_n 2, 1) := by decide +kernel
theorem dJ5_grow_13 : decode cJ5_grow 13 = .ok (.iconst 2, 1) := by decide +kernel
theorem dJ5_grow_14 : decode cJ5_grow 14 = .ok (.iadd, 1) := by decide +kernel
theorem dJ5_grow_15 : decode cJ5_grow 15 = .ok (.goto 6, 3) := by decide +kernel
theorem dJ5_grow_18 : decode cJ5_grow 18 = .ok (.iload_n 2, 1) := by decide +kernel
theorem dJ5_grow_19 : decode cJ5_grow 19 = .ok (.iconst 1, 1) := by decide +kernel
theorem dJ5_grow_20 : decode cJ5_grow 20 = .ok (.ishr, 1) := by decide +kernel
theorem dJ5_grow_21 : decode cJ5_grow 21 = .ok (.istore 4, 2) := by decide +kernel
theorem dJ5_grow_23 : decode cJ5_grow 23 = .ok (.iload 4, 2) := by decide +kernel
theorem dJ5_grow_25 : decode cJ5_grow 25 = .ok (.iload_n 1, 1) := by decide +kernel
theorem dJ5_grow_26 : decode cJ5_grow 26 = .ok (.if_icmp .lt 15, 3) := by decide +kernel
theorem dJ5_grow_29 : decode cJ5_grow 29 = .ok (.iload_n 2, 1) := by decide +kernel
theorem dJ5_grow_30 : decode cJ5_grow 30 = .ok (.iload 4, 2) := by decide +kernel
theorem dJ5_grow_32 : decode cJ5_grow 32 = .ok (.iadd, 1) := by decide +kernel
theorem dJ5_grow_33 : decode cJ5_grow 33 = .ok (.dup, 1) := by decide +kernel
theorem dJ5_grow_34 : decode cJ5_grow 34 = .ok (.istore_n 3, 1) := by decide +kernel
theorem dJ5_grow_35 : decode cJ5_grow 35 = .ok (.ldc 9, 2) := by decide +kernel
theorem dJ5_grow_37 : decode cJ5_grow 37 = .ok (.isub, 1) := by decide +kernel
theorem dJ5_grow_38 : decode cJ5_grow 38 = .ok (.ifCond .le 11, 3) := by decide +kernel
theorem dJ5_grow_41 : decode cJ5_grow 41 = .ok (.aload_n 0, 1) := by decide +kernel
theorem dJ5_grow_42 : decode cJ5_grow 42 = .ok (.iload_n 1, 1) := by decide +kernel
theorem dJ5_grow_43 : decode cJ5_grow 43 = .ok (.iload 4, 2) := by decide +kernel
theorem dJ5_grow_45 : decode cJ5_grow 45 = .ok (.invokevirtual 10, 3) := by decide +kernel
theorem dJ5_grow_48 : decode cJ5_grow 48 = .ok (.istore_n 3, 1) := by decide +kernel
theorem dJ5_grow_49 : decode cJ5_grow 49 = .ok (.aload_n 0, 1) := by decide +kernel
theorem dJ5_grow_50 : decode cJ5_grow 50 = .ok (.aload_n 0, 1) := by decide +kernel
theorem dJ5_grow_51 : decode cJ5_grow 51 = .ok (.getfield 3, 3) := by decide +kernel
theorem dJ5_grow_54 : decode cJ5_grow 54 = .ok (.iload_n 3, 1) := by decide +kernel
theorem dJ5_grow_55 : decode cJ5_grow 55 = .ok (.invokestatic 14, 3) := by decide +kernel
theorem dJ5_grow_58 : decode cJ5_grow 58 = .ok (.dup_x1, 1) := by decide +kernel
theorem dJ5_grow_59 : decode cJ5_grow 59 = .ok (.putfield 3, 3) := by decide +kernel
theorem dJ5_grow_62 : decode cJ5_grow 62 = .ok (.astore 5, 2) := by decide +kernel
theorem dJ5_grow_64 : decode cJ5_grow 64 = .ok (.aload_n 0, 1) := by decide +kernel
theorem dJ5_grow_65 : decode cJ5_grow 65 = .ok (.getfield 20, 3) := by decide +kernel
theorem dJ5_grow_68 : decode cJ5_grow 68 = .ok (.aload_n 0, 1) := by decide +kernel
theorem dJ5_grow_69 : decode cJ5_grow 69 = .ok (.getfield 24, 3) := by decide +kernel
theorem dJ5_grow_72 : decode cJ5_grow 72 = .ok (.if_icmp .lt 24, 3) := by decide +kernel
theorem dJ5_grow_75 : decode cJ5_grow 75 = .ok (.aload_n 0, 1) := by decide +kernel
theorem dJ5_grow_76 : decode cJ5_grow 76 = .ok (.getfield 20, 3) := by decide +kernel
theorem dJ5_grow_79 : decode cJ5_grow 79 = .ok (.aload_n 0, 1) := by decide +kernel
theorem dJ5_grow_80 : decode cJ5_grow 80 = .ok (.getfield 24, 3) := by decide +kernel
theorem dJ5_grow_83 : decode cJ5_grow 83 = .ok (.if_icmp .ne 81, 3) := by decide +kernel
theorem dJ5_grow_86 : decode cJ5_grow 86 = .ok (.aload 5, 2) := by decide +kernel
theorem dJ5_grow_88 : decode cJ5_grow 88 = .ok (.aload_n 0, 1) := by decide +kernel
theorem dJ5_grow_89 : decode cJ5_grow 89 = .ok (.getfield 24, 3) := by decide +kernel
theorem dJ5_grow_92 : decode cJ5_grow 92 = .ok (.aaload, 1) := by decide +kernel
theorem dJ5_grow_93 : decode cJ5_grow 93 = .ok (.ifnull 71, 3) := by decide +kernel
theorem dJ5_grow_96 : decode cJ5_grow 96 = .ok (.iload_n 3, 1) := by decide +kernel
theorem dJ5_grow_97 : decode cJ5_grow 97 = .ok (.iload_n 2, 1) := by decide +kernel
theorem dJ5_grow_98 : decode cJ5_grow 98 = .ok (.isub, 1) := by decide +kernel
theorem dJ5_grow_99 : decode cJ5_grow 99 = .ok (.istore 6, 2) := by decide +kernel
theorem dJ5_grow_101 : decode cJ5_grow 101 = .ok (.aload 5, 2) := by decide +kernel
theorem dJ5_grow_103 : decode cJ5_grow 103 = .ok (.aload_n 0, 1) := by decide +kernel
theorem dJ5_grow_104 : decode cJ5_grow 104 = .ok (.getfield 24, 3) := by decide +kernel
theorem dJ5_grow_107 : decode cJ5_grow 107 = .ok (.aload 5, 2) := by decide +kernel
theorem dJ5_grow_109 : decode cJ5_grow 109 = .ok (.aload_n 0, 1) := by decide +kernel
theorem dJ5_grow_110 : decode cJ5_grow 110 = .ok (.getfield 24, 3) := by decide +kernel
theorem dJ5_grow_113 : decode cJ5_grow 113 = .ok (.iload 6, 2) := by decide +kernel
theorem dJ5_grow_115 : decode cJ5_grow 115 = .ok (.iadd, 1) := by decide +kernel
theorem dJ5_grow_116 : decode cJ5_grow 116 = .ok (.iload_n 2, 1) := by decide +kernel
theorem dJ5_grow_117 : decode cJ5_grow 117 = .ok (.aload_n 0, 1) := by decide +kernel
theorem dJ5_grow_118 : decode cJ5_grow 118 = .ok (.getfield 24, 3) := by decide +kernel
theorem dJ5_grow_121 : decode cJ5_grow 121 = .ok (.isub, 1) := by decide +kernel
theorem dJ5_grow_122 : decode cJ5_grow 122 = .ok (.invokestatic 27, 3) := by decide +kernel
theorem dJ5_grow_125 : decode cJ5_grow 125 = .ok (.aload_n 0, 1) := by decide +kernel
theorem dJ5_grow_126 : decode cJ5_grow 126 = .ok (.getfield 24, 3) := by decide +kernel
theorem dJ5_grow_129 : decode cJ5_grow 129 = .ok (.istore 7, 2) := by decide +kernel
theorem dJ5_grow_131 : decode cJ5_grow 131 = .ok (.aload_n 0, 1) := by decide +kernel
theorem dJ5_grow_132 : decode cJ5_grow 132 = .ok (.dup, 1) := by decide +kernel
theorem dJ5_grow_133 : decode cJ5_grow 133 = .ok (.getfield 24, 3) := by decide +kernel
theorem dJ5_grow_136 : decode cJ5_grow 136 = .ok (.iload 6, 2) := by decide +kernel
theorem dJ5_grow_138 : decode cJ5_grow 138 = .ok (.iadd, 1) := by decide +kernel
theorem dJ5_grow_139 : decode cJ5_grow 139 = .ok (.dup_x1, 1) := by decide +kernel
theorem dJ5_grow_140 : decode cJ5_grow 140 = .ok (.putfield 24, 3) := by decide +kernel
theorem dJ5_grow_143 : decode cJ5_grow 143 = .ok (.istore 8, 2) := by decide +kernel
theorem dJ5_grow_145 : decode cJ5_grow 145 = .ok (.iload 7, 2) := by decide +kernel
theorem dJ5_grow_147 : decode cJ5_grow 147 = .ok (.iload 8, 2) := by decide +kernel
theorem dJ5_grow_149 : decode cJ5_grow 149 = .ok (.if_icmp .ge 15, 3) := by decide +kernel
theorem dJ5_grow_152 : decode cJ5_grow 152 = .ok (.aload 5, 2) := by decide +kernel
theorem dJ5_grow_154 : decode cJ5_grow 154 = .ok (.iload 7, 2) := by decide +kernel
theorem dJ5_grow_156 : decode cJ5_grow 156 = .ok (.aconst_null, 1) := by decide +kernel
theorem dJ5_grow_157 : decode cJ5_grow 157 = .ok (.aastore, 1) := by decide +kernel
theorem dJ5_grow_158 : decode cJ5_grow 158 = .ok (.iinc 7 1, 3) := by decide +kernel
theorem dJ5_grow_161 : decode cJ5_grow 161 = .ok (.goto (-16), 3) := by decide +kernel
theorem dJ5_grow_164 : decode cJ5_grow 164 = .ok (.return_, 1) := by decide +kernel
abbrev cJ5_newCapacity : ByteArray := prog_120_method_2_code
def yJ5_newCapacity : MethodName := ⟨RJ5, "newCapacity", "(II)I"⟩
theorem dJ5_newCapacity_0 : decode cJ5_newCapacity 0 = .ok (.aload_n 0, 1) := by decide +kernel
theorem dJ5_newCapacity_1 : decode cJ5_newCapacity 1 = .ok (.getfield 3, 3) := by decide +kernel
theorem dJ5_newCapacity_4 : decode cJ5_newCapacity 4 = .ok (.arraylength, 1) := by decide +kernel
theorem dJ5_newCapacity_5 : decode cJ5_newCapacity 5 = .ok (.istore_n 3, 1) := by decide +kernel
theorem dJ5_newCapacity_6 : decode cJ5_newCapacity 6 = .ok (.iload_n 3, 1) := by decide +kernel
theorem dJ5_newCapacity_7 : decode cJ5_newCapacity 7 = .ok (.iload_n 1, 1) := by decide +kernel
theorem dJ5_newCapacity_8 : decode cJ5_newCapacity 8 = .ok (.iadd, 1) := by decide +kernel
theorem dJ5_newCapacity_9 : decode cJ5_newCapacity 9 = .ok (.dup, 1) := by decide +kernel
theorem dJ5_newCapacity_10 : decode cJ5_newCapacity 10 = .ok (.istore 4, 2) := by decide +kernel
theorem dJ5_newCapacity_12 : decode cJ5_newCapacity 12 = .ok (.ldc 9, 2) := by decide +kernel
theorem dJ5_newCapacity_14 : decode cJ5_newCapacity 14 = .ok (.isub, 1) := by decide +kernel
theorem dJ5_newCapacity_15 : decode cJ5_newCapacity 15 = .ok (.ifCond .le 21, 3) := by decide +kernel
theorem dJ5_newCapacity_18 : decode cJ5_newCapacity 18 = .ok (.iload 4, 2) := by decide +kernel
theorem dJ5_newCapacity_20 : decode cJ5_newCapacity 20 = .ok (.ifCond .ge 13, 3) := by decide +kernel
theorem dJ5_newCapacity_23 : decode cJ5_newCapacity 23 = .ok (.new 33, 3) := by decide +kernel
theorem dJ5_newCapacity_26 : decode cJ5_newCapacity 26 = .ok (.dup, 1) := by decide +kernel
theorem dJ5_newCapacity_27 : decode cJ5_newCapacity 27 = .ok (.ldc 35, 2) := by decide +kernel
theorem dJ5_newCapacity_29 : decode cJ5_newCapacity 29 = .ok (.invokespecial 37, 3) := by decide +kernel
theorem dJ5_newCapacity_32 : decode cJ5_newCapacity 32 = .ok (.athrow, 1) := by decide +kernel
theorem dJ5_newCapacity_33 : decode cJ5_newCapacity 33 = .ok (.ldc 41, 2) := by decide +kernel
theorem dJ5_newCapacity_35 : decode cJ5_newCapacity 35 = .ok (.ireturn, 1) := by decide +kernel
theorem dJ5_newCapacity_36 : decode cJ5_newCapacity 36 = .ok (.iload_n 1, 1) := by decide +kernel
theorem dJ5_newCapacity_37 : decode cJ5_newCapacity 37 = .ok (.iload_n 2, 1) := by decide +kernel
theorem dJ5_newCapacity_38 : decode cJ5_newCapacity 38 = .ok (.if_icmp .le 6, 3) := by decide +kernel
theorem dJ5_newCapacity_41 : decode cJ5_newCapacity 41 = .ok (.iload 4, 2) := by decide +kernel
theorem dJ5_newCapacity_43 : decode cJ5_newCapacity 43 = .ok (.ireturn, 1) := by decide +kernel
theorem dJ5_newCapacity_44 : decode cJ5_newCapacity 44 = .ok (.iload_n 3, 1) := by decide +kernel
theorem dJ5_newCapacity_45 : decode cJ5_newCapacity 45 = .ok (.iload_n 2, 1) := by decide +kernel
theorem dJ5_newCapacity_46 : decode cJ5_newCapacity 46 = .ok (.iadd, 1) := by decide +kernel
theorem dJ5_newCapacity_47 : decode cJ5_newCapacity 47 = .ok (.ldc 9, 2) := by decide +kernel
theorem dJ5_newCapacity_49 : decode cJ5_newCapacity 49 = .ok (.isub, 1) := by decide +kernel
theorem dJ5_newCapacity_50 : decode cJ5_newCapacity 50 = .ok (.ifCond .ge 9, 3) := by decide +kernel
theorem dJ5_newCapacity_53 : decode cJ5_newCapacity 53 = .ok (.iload_n 3, 1) := by decide +kernel
theorem dJ5_newCapacity_54 : decode cJ5_newCapacity 54 = .ok (.iload_n 2, 1) := by decide +kernel
theorem dJ5_newCapacity_55 : decode cJ5_newCapacity 55 = .ok (.iadd, 1) := by decide +kernel
theorem dJ5_newCapacity_56 : decode cJ5_newCapacity 56 = .ok (.goto 5, 3) := by decide +kernel
theorem dJ5_newCapacity_59 : decode cJ5_newCapacity 59 = .ok (.ldc 9, 2) := by decide +kernel
theorem dJ5_newCapacity_61 : decode cJ5_newCapacity 61 = .ok (.ireturn, 1) := by decide +kernel
abbrev cJ5_iterator : ByteArray := prog_120_method_39_code
def yJ5_iterator : MethodName := ⟨RJ5, "iterator", "()Ljava/util/Iterator;"⟩
theorem dJ5_iterator_0 : decode cJ5_iterator 0 = .ok (.new 131, 3) := by decide +kernel
theorem dJ5_iterator_3 : decode cJ5_iterator 3 = .ok (.dup, 1) := by decide +kernel
theorem dJ5_iterator_4 : decode cJ5_iterator 4 = .ok (.aload_n 0, 1) := by decide +kernel
theorem dJ5_iterator_5 : decode cJ5_iterator 5 = .ok (.invokespecial 133, 3) := by decide +kernel
theorem dJ5_iterator_8 : decode cJ5_iterator 8 = .ok (.areturn, 1) := by decide +kernel
abbrev cJ5_size : ByteArray := prog_120_method_37_code
def yJ5_size : MethodName := ⟨RJ5, "size", "()I"⟩
theorem dJ5_size_0 : decode cJ5_size 0 = .ok (.aload_n 0, 1) := by decide +kernel
theorem dJ5_size_1 : decode cJ5_size 1 = .ok (.getfield 20, 3) := by decide +kernel
theorem dJ5_size_4 : decode cJ5_size 4 = .ok (.aload_n 0, 1) := by decide +kernel
theorem dJ5_size_5 : decode cJ5_size 5 = .ok (.getfield 24, 3) := by decide +kernel
theorem dJ5_size_8 : decode cJ5_size 8 = .ok (.aload_n 0, 1) := by decide +kernel
theorem dJ5_size_9 : decode cJ5_size 9 = .ok (.getfield 3, 3) := by decide +kernel
theorem dJ5_size_12 : decode cJ5_size 12 = .ok (.arraylength, 1) := by decide +kernel
theorem dJ5_size_13 : decode cJ5_size 13 = .ok (.invokestatic 127, 3) := by decide +kernel
theorem dJ5_size_16 : decode cJ5_size 16 = .ok (.ireturn, 1) := by decide +kernel
abbrev cJ5_sub : ByteArray := prog_120_method_9_code
def yJ5_sub : MethodName := ⟨RJ5, "sub", "(III)I"⟩
theorem dJ5_sub_0 : decode cJ5_sub 0 = .ok (.iload_n 0, 1) := by decide +kernel
theorem dJ5_sub_1 : decode cJ5_sub 1 = .ok (.iload_n 1, 1) := by decide +kernel
theorem dJ5_sub_2 : decode cJ5_sub 2 = .ok (.isub, 1) := by decide +kernel
theorem dJ5_sub_3 : decode cJ5_sub 3 = .ok (.dup, 1) := by decide +kernel
theorem dJ5_sub_4 : decode cJ5_sub 4 = .ok (.istore_n 0, 1) := by decide +kernel
theorem dJ5_sub_5 : decode cJ5_sub 5 = .ok (.ifCond .ge 7, 3) := by decide +kernel
theorem dJ5_sub_8 : decode cJ5_sub 8 = .ok (.iload_n 0, 1) := by decide +kernel
theorem dJ5_sub_9 : decode cJ5_sub 9 = .ok (.iload_n 2, 1) := by decide +kernel
theorem dJ5_sub_10 : decode cJ5_sub 10 = .ok (.iadd, 1) := by decide +kernel
theorem dJ5_sub_11 : decode cJ5_sub 11 = .ok (.istore_n 0, 1) := by decide +kernel
theorem dJ5_sub_12 : decode cJ5_sub 12 = .ok (.iload_n 0, 1) := by decide +kernel
theorem dJ5_sub_13 : decode cJ5_sub 13 = .ok (.ireturn, 1) := by decide +kernel
abbrev cJ5_nonNullElementAt : ByteArray := prog_120_method_11_code
def yJ5_nonNullElementAt : MethodName := ⟨RJ5, "nonNullElementAt", "([Ljava/lang/Object;I)Ljava/lang/Object;"⟩
theorem dJ5_nonNullElementAt_0 : decode cJ5_nonNullElementAt 0 = .ok (.aload_n 0, 1) := by decide +kernel
theorem dJ5_nonNullElementAt_1 : decode cJ5_nonNullElementAt 1 = .ok (.iload_n 1, 1) := by decide +kernel
theorem dJ5_nonNullElementAt_2 : decode cJ5_nonNullElementAt 2 = .ok (.aaload, 1) := by decide +kernel
theorem dJ5_nonNullElementAt_3 : decode cJ5_nonNullElementAt 3 = .ok (.astore_n 2, 1) := by decide +kernel
theorem dJ5_nonNullElementAt_4 : decode cJ5_nonNullElementAt 4 = .ok (.aload_n 2, 1) := by decide +kernel
theorem dJ5_nonNullElementAt_5 : decode cJ5_nonNullElementAt 5 = .ok (.ifnonnull 11, 3) := by decide +kernel
theorem dJ5_nonNullElementAt_8 : decode cJ5_nonNullElementAt 8 = .ok (.new 62, 3) := by decide +kernel
theorem dJ5_nonNullElementAt_11 : decode cJ5_nonNullElementAt 11 = .ok (.dup, 1) := by decide +kernel
theorem dJ5_nonNullElementAt_12 : decode cJ5_nonNullElementAt 12 = .ok (.invokespecial 64, 3) := by decide +kernel
theorem dJ5_nonNullElementAt_15 : decode cJ5_nonNullElementAt 15 = .ok (.athrow, 1) := by decide +kernel
theorem dJ5_nonNullElementAt_16 : decode cJ5_nonNullElementAt 16 = .ok (.aload_n 2, 1) := by decide +kernel
theorem dJ5_nonNullElementAt_17 : decode cJ5_nonNullElementAt 17 = .ok (.areturn, 1) := by decide +kernel
abbrev cJ5_peekLast : ByteArray := prog_120_method_25_code
def yJ5_peekLast : MethodName := ⟨RJ5, "peekLast", "()Ljava/lang/Object;"⟩
theorem dJ5_peekLast_0 : decode cJ5_peekLast 0 = .ok (.aload_n 0, 1) := by decide +kernel
theorem dJ5_peekLast_1 : decode cJ5_peekLast 1 = .ok (.getfield 3, 3) := by decide +kernel
theorem dJ5_peekLast_4 : decode cJ5_peekLast 4 = .ok (.dup, 1) := by decide +kernel
theorem dJ5_peekLast_5 : decode cJ5_peekLast 5 = .ok (.astore_n 1, 1) := by decide +kernel
theorem dJ5_peekLast_6 : decode cJ5_peekLast 6 = .ok (.aload_n 0, 1) := by decide +kernel
theorem dJ5_peekLast_7 : decode cJ5_peekLast 7 = .ok (.getfield 20, 3) := by decide +kernel
theorem dJ5_peekLast_10 : decode cJ5_peekLast 10 = .ok (.aload_n 1, 1) := by decide +kernel
theorem dJ5_peekLast_11 : decode cJ5_peekLast 11 = .ok (.arraylength, 1) := by decide +kernel
theorem dJ5_peekLast_12 : decode cJ5_peekLast 12 = .ok (.invokestatic 68, 3) := by decide +kernel
theorem dJ5_peekLast_15 : decode cJ5_peekLast 15 = .ok (.invokestatic 103, 3) := by decide +kernel
theorem dJ5_peekLast_18 : decode cJ5_peekLast 18 = .ok (.areturn, 1) := by decide +kernel
abbrev cJ5_dec : ByteArray := prog_120_method_7_code
def yJ5_dec : MethodName := ⟨RJ5, "dec", "(II)I"⟩
theorem dJ5_dec_0 : decode cJ5_dec 0 = .ok (.iinc 0 (-1), 3) := by decide +kernel
theorem dJ5_dec_3 : decode cJ5_dec 3 = .ok (.iload_n 0, 1) := by decide +kernel
theorem dJ5_dec_4 : decode cJ5_dec 4 = .ok (.ifCond .ge 7, 3) := by decide +kernel
theorem dJ5_dec_7 : decode cJ5_dec 7 = .ok (.iload_n 1, 1) := by decide +kernel
theorem dJ5_dec_8 : decode cJ5_dec 8 = .ok (.iconst 1, 1) := by decide +kernel
theorem dJ5_dec_9 : decode cJ5_dec 9 = .ok (.isub, 1) := by decide +kernel
theorem dJ5_dec_10 : decode cJ5_dec 10 = .ok (.istore_n 0, 1) := by decide +kernel
theorem dJ5_dec_11 : decode cJ5_dec 11 = .ok (.iload_n 0, 1) := by decide +kernel
theorem dJ5_dec_12 : decode cJ5_dec 12 = .ok (.ireturn, 1) := by decide +kernel
abbrev cJ5_elementAt : ByteArray := prog_120_method_10_code
def yJ5_elementAt : MethodName := ⟨RJ5, "elementAt", "([Ljava/lang/Object;I)Ljava/lang/Object;"⟩
theorem dJ5_elementAt_0 : decode cJ5_elementAt 0 = .ok (.aload_n 0, 1) := by decide +kernel
theorem dJ5_elementAt_1 : decode cJ5_elementAt 1 = .ok (.iload_n 1, 1) := by decide +kernel
theorem dJ5_elementAt_2 : decode cJ5_elementAt 2 = .ok (.aaload, 1) := by decide +kernel
theorem dJ5_elementAt_3 : decode cJ5_elementAt 3 = .ok (.areturn, 1) := by decide +kernel
abbrev cJ5_isEmpty : ByteArray := prog_120_method_38_code
def yJ5_isEmpty : MethodName := ⟨RJ5, "isEmpty", "()Z"⟩
theorem dJ5_isEmpty_0 : decode cJ5_isEmpty 0 = .ok (.aload_n 0, 1) := by decide +kernel
theorem dJ5_isEmpty_1 : decode cJ5_isEmpty 1 = .ok (.getfield 24, 3) := by decide +kernel
theorem dJ5_isEmpty_4 : decode cJ5_isEmpty 4 = .ok (.aload_n 0, 1) := by decide +kernel
theorem dJ5_isEmpty_5 : decode cJ5_isEmpty 5 = .ok (.getfield 20, 3) := by decide +kernel
theorem dJ5_isEmpty_8 : decode cJ5_isEmpty 8 = .ok (.if_icmp .ne 7, 3) := by decide +kernel
theorem dJ5_isEmpty_11 : decode cJ5_isEmpty 11 = .ok (.iconst 1, 1) := by decide +kernel
theorem dJ5_isEmpty_12 : decode cJ5_isEmpty 12 = .ok (.goto 4, 3) := by decide +kernel
theorem dJ5_isEmpty_15 : decode cJ5_isEmpty 15 = .ok (.iconst 0, 1) := by decide +kernel
theorem dJ5_isEmpty_16 : decode cJ5_isEmpty 16 = .ok (.ireturn, 1) := by decide +kernel
abbrev cJ5_poll : ByteArray := prog_120_method_31_code
def yJ5_poll : MethodName := ⟨RJ5, "poll", "()Ljava/lang/Object;"⟩
theorem dJ5_poll_0 : decode cJ5_poll 0 = .ok (.aload_n 0, 1) := by decide +kernel
theorem dJ5_poll_1 : decode cJ5_poll 1 = .ok (.invokevirtual 93, 3) := by decide +kernel
theorem dJ5_poll_4 : decode cJ5_poll 4 = .ok (.areturn, 1) := by decide +kernel
abbrev cJ5_pollFirst : ByteArray := prog_120_method_20_code
def yJ5_pollFirst : MethodName := ⟨RJ5, "pollFirst", "()Ljava/lang/Object;"⟩
theorem dJ5_pollFirst_0 : decode cJ5_pollFirst 0 = .ok (.aload_n 0, 1) := by decide +kernel
theorem dJ5_pollFirst_1 : decode cJ5_pollFirst 1 = .ok (.getfield 3, 3) := by decide +kernel
theorem dJ5_pollFirst_4 : decode cJ5_pollFirst 4 = .ok (.dup, 1) := by decide +kernel
theorem dJ5_pollFirst_5 : decode cJ5_pollFirst 5 = .ok (.astore_n 1, 1) := by decide +kernel
theorem dJ5_pollFirst_6 : decode cJ5_pollFirst 6 = .ok (.aload_n 0, 1) := by decide +kernel
theorem dJ5_pollFirst_7 : decode cJ5_pollFirst 7 = .ok (.getfield 24, 3) := by decide +kernel
theorem dJ5_pollFirst_10 : decode cJ5_pollFirst 10 = .ok (.dup, 1) := by decide +kernel
theorem dJ5_pollFirst_11 : decode cJ5_pollFirst 11 = .ok (.istore_n 2, 1) := by decide +kernel
theorem dJ5_pollFirst_12 : decode cJ5_pollFirst 12 = .ok (.invokestatic 103, 3) := by decide +kernel
theorem dJ5_pollFirst_15 : decode cJ5_pollFirst 15 = .ok (.astore_n 3, 1) := by decide +kernel
theorem dJ5_pollFirst_16 : decode cJ5_pollFirst 16 = .ok (.aload_n 3, 1) := by decide +kernel
theorem dJ5_pollFirst_17 : decode cJ5_pollFirst 17 = .ok (.ifnull 17, 3) := by decide +kernel
theorem dJ5_pollFirst_20 : decode cJ5_pollFirst 20 = .ok (.aload_n 1, 1) := by decide +kernel
theorem dJ5_pollFirst_21 : decode cJ5_pollFirst 21 = .ok (.iload_n 2, 1) := by decide +kernel
theorem dJ5_pollFirst_22 : decode cJ5_pollFirst 22 = .ok (.aconst_null, 1) := by decide +kernel
theorem dJ5_pollFirst_23 : decode cJ5_pollFirst 23 = .ok (.aastore, 1) := by decide +kernel
theorem dJ5_pollFirst_24 : decode cJ5_pollFirst 24 = .ok (.aload_n 0, 1) := by decide +kernel
theorem dJ5_pollFirst_25 : decode cJ5_pollFirst 25 = .ok (.iload_n 2, 1) := by decide +kernel
theorem dJ5_pollFirst_26 : decode cJ5_pollFirst 26 = .ok (.aload_n 1, 1) := by decide +kernel
theorem dJ5_pollFirst_27 : decode cJ5_pollFirst 27 = .ok (.arraylength, 1) := by decide +kernel
theorem dJ5_pollFirst_28 : decode cJ5_pollFirst 28 = .ok (.invokestatic 74, 3) := by decide +kernel
theorem dJ5_pollFirst_31 : decode cJ5_pollFirst 31 = .ok (.putfield 24, 3) := by decide +kernel
theorem dJ5_pollFirst_34 : decode cJ5_pollFirst 34 = .ok (.aload_n 3, 1) := by decide +kernel
theorem dJ5_pollFirst_35 : decode cJ5_pollFirst 35 = .ok (.areturn, 1) := by decide +kernel
theorem in_J5 : ∀ w ∈ wsJ50, w ∈ lw_all := lw_in wsJ50 [1790, 1792, 1794] (by decide +kernel) (by decide +kernel)
def RJ22 : String := "java/util/ArrayDeque$DeqIterator"
def TJ22 : u_T := fun k => match k with
  | 0 => ("java/util/ArrayDeque$DeqIterator", "cursor", "I", false)
  | 1 => ("java/util/ArrayDeque$DeqIterator", "remaining", "I", false)
  | 2 => ("java/util/ArrayDeque$DeqIterator", "lastRet", "I", false)
  | _ => ("java/util/ArrayDeque$DeqIterator", "this$0", "Ljava/util/ArrayDeque;", true)
def tyJ22 : Nat → FieldType := fun k => match k with
  | 0 => .int
  | 1 => .int
  | 2 => .int
  | _ => .object "java/util/ArrayDeque"
abbrev wsJ220 : List Cond := u_ws RJ22 TJ22 4
theorem nmJ22 : ∀ a, a < 4 → ∀ b, b < 4 → a ≠ b → (TJ22 a).2.1 ≠ (TJ22 b).2.1 := by decide +kernel
theorem tyJ22_ok : ∀ k, k < 4 → parseFieldDescriptor (TJ22 k).2.2.1 = some (tyJ22 k) := by decide +kernel
abbrev cJ22_init : ByteArray := prog_121_method_1_code
def yJ22_init : MethodName := ⟨RJ22, "<init>", "(Ljava/util/ArrayDeque;)V"⟩
theorem dJ22_init_0 : decode cJ22_init 0 = .ok (.aload_n 0, 1) := by decide +kernel
theorem dJ22_init_1 : decode cJ22_init 1 = .ok (.aload_n 1, 1) := by decide +kernel
theorem dJ22_init_2 : decode cJ22_init 2 = .ok (.putfield 1, 3) := by decide +kernel
theorem dJ22_init_5 : decode cJ22_init 5 = .ok (.aload_n 0, 1) := by decide +kernel
theorem dJ22_init_6 : decode cJ22_init 6 = .ok (.invokespecial 7, 3) := by decide +kernel
theorem dJ22_init_9 : decode cJ22_init 9 = .ok (.aload_n 0, 1) := by decide +kernel
theorem dJ22_init_10 : decode cJ22_init 10 = .ok (.aload_n 0, 1) := by decide +kernel
theorem dJ22_init_11 : decode cJ22_init 11 = .ok (.getfield 1, 3) := by decide +kernel
theorem dJ22_init_14 : decode cJ22_init 14 = .ok (.invokevirtual 13, 3) := by decide +kernel
theorem dJ22_init_17 : decode cJ22_init 17 = .ok (.putfield 19, 3) := by decide +kernel
theorem dJ22_init_20 : decode cJ22_init 20 = .ok (.aload_n 0, 1) := by decide +kernel
theorem dJ22_init_21 : decode cJ22_init 21 = .ok (.iconst (-1), 1) := by decide +kernel
theorem dJ22_init_22 : decode cJ22_init 22 = .ok (.putfield 23, 3) := by decide +kernel
theorem dJ22_init_25 : decode cJ22_init 25 = .ok (.aload_n 0, 1) := by decide +kernel
theorem dJ22_init_26 : decode cJ22_init 26 = .ok (.aload_n 1, 1) := by decide +kernel
theorem dJ22_init_27 : decode cJ22_init 27 = .ok (.getfield 26, 3) := by decide +kernel
theorem dJ22_init_30 : decode cJ22_init 30 = .ok (.putfield 29, 3) := by decide +kernel
theorem dJ22_init_33 : decode cJ22_init 33 = .ok (.return_, 1) := by decide +kernel
abbrev cJ22_hasNext : ByteArray := prog_121_method_2_code
def yJ22_hasNext : MethodName := ⟨RJ22, "hasNext", "()Z"⟩
theorem dJ22_hasNext_0 : decode cJ22_hasNext 0 = .ok (.aload_n 0, 1) := by decide +kernel
theorem dJ22_hasNext_1 : decode cJ22_hasNext 1 = .ok (.getfield 19, 3) := by decide +kernel
theorem dJ22_hasNext_4 : decode cJ22_hasNext 4 = .ok (.ifCond .le 7, 3) := by decide +kernel
theorem dJ22_hasNext_7 : decode cJ22_hasNext 7 = .ok (.iconst 1, 1) := by decide +kernel
theorem dJ22_hasNext_8 : decode cJ22_hasNext 8 = .ok (.goto 4, 3) := by decide +kernel
theorem dJ22_hasNext_11 : decode cJ22_hasNext 11 = .ok (.iconst 0, 1) := by decide +kernel
theorem dJ22_hasNext_12 : decode cJ22_hasNext 12 = .ok (.ireturn, 1) := by decide +kernel
abbrev cJ22_next : ByteArray := prog_121_method_3_code
def yJ22_next : MethodName := ⟨RJ22, "next", "()Ljava/lang/Object;"⟩
theorem dJ22_next_0 : decode cJ22_next 0 = .ok (.aload_n 0, 1) := by decide +kernel
theorem dJ22_next_1 : decode cJ22_next 1 = .ok (.getfield 19, 3) := by decide +kernel
theorem dJ22_next_4 : decode cJ22_next 4 = .ok (.ifCond .gt 11, 3) := by decide +kernel
theorem dJ22_next_7 : decode cJ22_next 7 = .ok (.new 32, 3) := by decide +kernel
theorem dJ22_next_10 : decode cJ22_next 10 = .ok (.dup, 1) := by decide +kernel
theorem dJ22_next_11 : decode cJ22_next 11 = .ok (.invokespecial 34, 3) := by decide +kernel
theorem dJ22_next_14 : decode cJ22_next 14 = .ok (.athrow, 1) := by decide +kernel
theorem dJ22_next_15 : decode cJ22_next 15 = .ok (.aload_n 0, 1) := by decide +kernel
theorem dJ22_next_16 : decode cJ22_next 16 = .ok (.getfield 1, 3) := by decide +kernel
theorem dJ22_next_19 : decode cJ22_next 19 = .ok (.getfield 35, 3) := by decide +kernel
theorem dJ22_next_22 : decode cJ22_next 22 = .ok (.astore_n 1, 1) := by decide +kernel
theorem dJ22_next_23 : decode cJ22_next 23 = .ok (.aload_n 1, 1) := by decide +kernel
theorem dJ22_next_24 : decode cJ22_next 24 = .ok (.aload_n 0, 1) := by decide +kernel
theorem dJ22_next_25 : decode cJ22_next 25 = .ok (.getfield 29, 3) := by decide +kernel
theorem dJ22_next_28 : decode cJ22_next 28 = .ok (.invokestatic 39, 3) := by decide +kernel
theorem dJ22_next_31 : decode cJ22_next 31 = .ok (.astore_n 2, 1) := by decide +kernel
theorem dJ22_next_32 : decode cJ22_next 32 = .ok (.aload_n 0, 1) := by decide +kernel
theorem dJ22_next_33 : decode cJ22_next 33 = .ok (.aload_n 0, 1) := by decide +kernel
theorem dJ22_next_34 : decode cJ22_next 34 = .ok (.aload_n 0, 1) := by decide +kernel
theorem dJ22_next_35 : decode cJ22_next 35 = .ok (.getfield 29, 3) := by decide +kernel
theorem dJ22_next_38 : decode cJ22_next 38 = .ok (.dup_x1, 1) := by decide +kernel
theorem dJ22_next_39 : decode cJ22_next 39 = .ok (.putfield 23, 3) := by decide +kernel
theorem dJ22_next_42 : decode cJ22_next 42 = .ok (.aload_n 1, 1) := by decide +kernel
theorem dJ22_next_43 : decode cJ22_next 43 = .ok (.arraylength, 1) := by decide +kernel
theorem dJ22_next_44 : decode cJ22_next 44 = .ok (.invokestatic 43, 3) := by decide +kernel
theorem dJ22_next_47 : decode cJ22_next 47 = .ok (.putfield 29, 3) := by decide +kernel
theorem dJ22_next_50 : decode cJ22_next 50 = .ok (.aload_n 0, 1) := by decide +kernel
theorem dJ22_next_51 : decode cJ22_next 51 = .ok (.dup, 1) := by decide +kernel
theorem dJ22_next_52 : decode cJ22_next 52 = .ok (.getfield 19, 3) := by decide +kernel
theorem dJ22_next_55 : decode cJ22_next 55 = .ok (.iconst 1, 1) := by decide +kernel
theorem dJ22_next_56 : decode cJ22_next 56 = .ok (.isub, 1) := by decide +kernel
theorem dJ22_next_57 : decode cJ22_next 57 = .ok (.putfield 19, 3) := by decide +kernel
theorem dJ22_next_60 : decode cJ22_next 60 = .ok (.aload_n 2, 1) := by decide +kernel
theorem dJ22_next_61 : decode cJ22_next 61 = .ok (.areturn, 1) := by decide +kernel
theorem in_J22 : ∀ w ∈ wsJ220, w ∈ lw_all := lw_in wsJ220 [3481, 3483, 3485, 3487] (by decide +kernel) (by decide +kernel)
def RJ23 : String := "java/util/ArrayList$Itr"
def TJ23 : u_T := fun k => match k with
  | 0 => ("java/util/ArrayList$Itr", "cursor", "I", false)
  | 1 => ("java/util/ArrayList$Itr", "lastRet", "I", false)
  | 2 => ("java/util/ArrayList$Itr", "expectedModCount", "I", false)
  | _ => ("java/util/ArrayList$Itr", "this$0", "Ljava/util/ArrayList;", true)
def tyJ23 : Nat → FieldType := fun k => match k with
  | 0 => .int
  | 1 => .int
  | 2 => .int
  | _ => .object "java/util/ArrayList"
abbrev wsJ230 : List Cond := u_ws RJ23 TJ23 4
theorem nmJ23 : ∀ a, a < 4 → ∀ b, b < 4 → a ≠ b → (TJ23 a).2.1 ≠ (TJ23 b).2.1 := by decide +kernel
theorem tyJ23_ok : ∀ k, k < 4 → parseFieldDescriptor (TJ23 k).2.2.1 = some (tyJ23 k) := by decide +kernel
abbrev cJ23_hasNext : ByteArray := prog_123_method_2_code
def yJ23_hasNext : MethodName := ⟨RJ23, "hasNext", "()Z"⟩
theorem dJ23_hasNext_0 : decode cJ23_hasNext 0 = .ok (.aload_n 0, 1) := by decide +kernel
theorem dJ23_hasNext_1 : decode cJ23_hasNext 1 = .ok (.getfield 25, 3) := by decide +kernel
theorem dJ23_hasNext_4 : decode cJ23_hasNext 4 = .ok (.aload_n 0, 1) := by decide +kernel
theorem dJ23_hasNext_5 : decode cJ23_hasNext 5 = .ok (.getfield 1, 3) := by decide +kernel
theorem dJ23_hasNext_8 : decode cJ23_hasNext 8 = .ok (.getfield 28, 3) := by decide +kernel
theorem dJ23_hasNext_11 : decode cJ23_hasNext 11 = .ok (.if_icmp .eq 7, 3) := by decide +kernel
theorem dJ23_hasNext_14 : decode cJ23_hasNext 14 = .ok (.iconst 1, 1) := by decide +kernel
theorem dJ23_hasNext_15 : decode cJ23_hasNext 15 = .ok (.goto 4, 3) := by decide +kernel
theorem dJ23_hasNext_18 : decode cJ23_hasNext 18 = .ok (.iconst 0, 1) := by decide +kernel
theorem dJ23_hasNext_19 : decode cJ23_hasNext 19 = .ok (.ireturn, 1) := by decide +kernel
abbrev cJ23_next : ByteArray := prog_123_method_3_code
def yJ23_next : MethodName := ⟨RJ23, "next", "()Ljava/lang/Object;"⟩
theorem dJ23_next_0 : decode cJ23_next 0 = .ok (.aload_n 0, 1) := by decide +kernel
theorem dJ23_next_1 : decode cJ23_next 1 = .ok (.invokevirtual 31, 3) := by decide +kernel
theorem dJ23_next_4 : decode cJ23_next 4 = .ok (.aload_n 0, 1) := by decide +kernel
theorem dJ23_next_5 : decode cJ23_next 5 = .ok (.getfield 25, 3) := by decide +kernel
theorem dJ23_next_8 : decode cJ23_next 8 = .ok (.istore_n 1, 1) := by decide +kernel
theorem dJ23_next_9 : decode cJ23_next 9 = .ok (.iload_n 1, 1) := by decide +kernel
theorem dJ23_next_10 : decode cJ23_next 10 = .ok (.aload_n 0, 1) := by decide +kernel
theorem dJ23_next_11 : decode cJ23_next 11 = .ok (.getfield 1, 3) := by decide +kernel
theorem dJ23_next_14 : decode cJ23_next 14 = .ok (.getfield 28, 3) := by decide +kernel
theorem dJ23_next_17 : decode cJ23_next 17 = .ok (.if_icmp .lt 11, 3) := by decide +kernel
theorem dJ23_next_20 : decode cJ23_next 20 = .ok (.new 34, 3) := by decide +kernel
theorem dJ23_next_23 : decode cJ23_next 23 = .ok (.dup, 1) := by decide +kernel
theorem dJ23_next_24 : decode cJ23_next 24 = .ok (.invokespecial 36, 3) := by decide +kernel
theorem dJ23_next_27 : decode cJ23_next 27 = .ok (.athrow, 1) := by decide +kernel
theorem dJ23_next_28 : decode cJ23_next 28 = .ok (.aload_n 0, 1) := by decide +kernel
theorem dJ23_next_29 : decode cJ23_next 29 = .ok (.getfield 1, 3) := by decide +kernel
theorem dJ23_next_32 : decode cJ23_next 32 = .ok (.getfield 37, 3) := by decide +kernel
theorem dJ23_next_35 : decode cJ23_next 35 = .ok (.astore_n 2, 1) := by decide +kernel
theorem dJ23_next_36 : decode cJ23_next 36 = .ok (.iload_n 1, 1) := by decide +kernel
theorem dJ23_next_37 : decode cJ23_next 37 = .ok (.aload_n 2, 1) := by decide +kernel
theorem dJ23_next_38 : decode cJ23_next 38 = .ok (.arraylength, 1) := by decide +kernel
theorem dJ23_next_39 : decode cJ23_next 39 = .ok (.if_icmp .lt 11, 3) := by decide +kernel
theorem dJ23_next_42 : decode cJ23_next 42 = .ok (.new 41, 3) := by decide +kernel
theorem dJ23_next_45 : decode cJ23_next 45 = .ok (.dup, 1) := by decide +kernel
theorem dJ23_next_46 : decode cJ23_next 46 = .ok (.invokespecial 43, 3) := by decide +kernel
theorem dJ23_next_49 : decode cJ23_next 49 = .ok (.athrow, 1) := by decide +kernel
theorem dJ23_next_50 : decode cJ23_next 50 = .ok (.aload_n 0, 1) := by decide +kernel
theorem dJ23_next_51 : decode cJ23_next 51 = .ok (.iload_n 1, 1) := by decide +kernel
theorem dJ23_next_52 : decode cJ23_next 52 = .ok (.iconst 1, 1) := by decide +kernel
theorem dJ23_next_53 : decode cJ23_next 53 = .ok (.iadd, 1) := by decide +kernel
theorem dJ23_next_54 : decode cJ23_next 54 = .ok (.putfield 25, 3) := by decide +kernel
theorem dJ23_next_57 : decode cJ23_next 57 = .ok (.aload_n 2, 1) := by decide +kernel
theorem dJ23_next_58 : decode cJ23_next 58 = .ok (.aload_n 0, 1) := by decide +kernel
theorem dJ23_next_59 : decode cJ23_next 59 = .ok (.iload_n 1, 1) := by decide +kernel
theorem dJ23_next_60 : decode cJ23_next 60 = .ok (.dup_x1, 1) := by decide +kernel
theorem dJ23_next_61 : decode cJ23_next 61 = .ok (.putfield 13, 3) := by decide +kernel
theorem dJ23_next_64 : decode cJ23_next 64 = .ok (.aaload, 1) := by decide +kernel
theorem dJ23_next_65 : decode cJ23_next 65 = .ok (.areturn, 1) := by decide +kernel
abbrev cJ23_checkForComodification : ByteArray := prog_123_method_6_code
def yJ23_checkForComodification : MethodName := ⟨RJ23, "checkForComodification", "()V"⟩
theorem dJ23_checkForComodification_0 : decode cJ23_checkForComodification 0 = .ok (.aload_n 0, 1) := by decide +kernel
theorem dJ23_checkForComodification_1 : decode cJ23_checkForComodification 1 = .ok (.getfield 1, 3) := by decide +kernel
theorem dJ23_checkForComodification_4 : decode cJ23_checkForComodification 4 = .ok (.getfield 17, 3) := by decide +kernel
theorem dJ23_checkForComodification_7 : decode cJ23_checkForComodification 7 = .ok (.aload_n 0, 1) := by decide +kernel
theorem dJ23_checkForComodification_8 : decode cJ23_checkForComodification 8 = .ok (.getfield 22, 3) := by decide +kernel
theorem dJ23_checkForComodification_11 : decode cJ23_checkForComodification 11 = .ok (.if_icmp .eq 11, 3) := by decide +kernel
theorem dJ23_checkForComodification_14 : decode cJ23_checkForComodification 14 = .ok (.new 41, 3) := by decide +kernel
theorem dJ23_checkForComodification_17 : decode cJ23_checkForComodification 17 = .ok (.dup, 1) := by decide +kernel
theorem dJ23_checkForComodification_18 : decode cJ23_checkForComodification 18 = .ok (.invokespecial 43, 3) := by decide +kernel
theorem dJ23_checkForComodification_21 : decode cJ23_checkForComodification 21 = .ok (.athrow, 1) := by decide +kernel
theorem dJ23_checkForComodification_22 : decode cJ23_checkForComodification 22 = .ok (.return_, 1) := by decide +kernel
abbrev cJ23_init : ByteArray := prog_123_method_1_code
def yJ23_init : MethodName := ⟨RJ23, "<init>", "(Ljava/util/ArrayList;)V"⟩
theorem dJ23_init_0 : decode cJ23_init 0 = .ok (.aload_n 0, 1) := by decide +kernel
theorem dJ23_init_1 : decode cJ23_init 1 = .ok (.aload_n 1, 1) := by decide +kernel
theorem dJ23_init_2 : decode cJ23_init 2 = .ok (.putfield 1, 3) := by decide +kernel
theorem dJ23_init_5 : decode cJ23_init 5 = .ok (.aload_n 0, 1) := by decide +kernel
theorem dJ23_init_6 : decode cJ23_init 6 = .ok (.invokespecial 7, 3) := by decide +kernel
theorem dJ23_init_9 : decode cJ23_init 9 = .ok (.aload_n 0, 1) := by decide +kernel
theorem dJ23_init_10 : decode cJ23_init 10 = .ok (.iconst (-1), 1) := by decide +kernel
theorem dJ23_init_11 : decode cJ23_init 11 = .ok (.putfield 13, 3) := by decide +kernel
theorem dJ23_init_14 : decode cJ23_init 14 = .ok (.aload_n 0, 1) := by decide +kernel
theorem dJ23_init_15 : decode cJ23_init 15 = .ok (.aload_n 0, 1) := by decide +kernel
theorem dJ23_init_16 : decode cJ23_init 16 = .ok (.getfield 1, 3) := by decide +kernel
theorem dJ23_init_19 : decode cJ23_init 19 = .ok (.getfield 17, 3) := by decide +kernel
theorem dJ23_init_22 : decode cJ23_init 22 = .ok (.putfield 22, 3) := by decide +kernel
theorem dJ23_init_25 : decode cJ23_init 25 = .ok (.return_, 1) := by decide +kernel
theorem in_J23 : ∀ w ∈ wsJ230, w ∈ lw_all := lw_in wsJ230 [3614, 3616, 3618, 3620] (by decide +kernel) (by decide +kernel)
theorem dJ6_floorMod_0 : decode cJ6_floorMod 0 = .ok (.iload_n 0, 1) := by decide +kernel
theorem dJ6_floorMod_1 : decode cJ6_floorMod 1 = .ok (.iload_n 1, 1) := by decide +kernel
theorem dJ6_floorMod_2 : decode cJ6_floorMod 2 = .ok (.irem, 1) := by decide +kernel
theorem dJ6_floorMod_3 : decode cJ6_floorMod 3 = .ok (.istore_n 2, 1) := by decide +kernel
theorem dJ6_floorMod_4 : decode cJ6_floorMod 4 = .ok (.iload_n 0, 1) := by decide +kernel
theorem dJ6_floorMod_5 : decode cJ6_floorMod 5 = .ok (.iload_n 1, 1) := by decide +kernel
theorem dJ6_floorMod_6 : decode cJ6_floorMod 6 = .ok (.ixor, 1) := by decide +kernel
theorem dJ6_floorMod_7 : decode cJ6_floorMod 7 = .ok (.ifCond .ge 11, 3) := by decide +kernel
theorem dJ6_floorMod_10 : decode cJ6_floorMod 10 = .ok (.iload_n 2, 1) := by decide +kernel
theorem dJ6_floorMod_11 : decode cJ6_floorMod 11 = .ok (.ifCond .eq 7, 3) := by decide +kernel
theorem dJ6_floorMod_14 : decode cJ6_floorMod 14 = .ok (.iload_n 2, 1) := by decide +kernel
theorem dJ6_floorMod_15 : decode cJ6_floorMod 15 = .ok (.iload_n 1, 1) := by decide +kernel
theorem dJ6_floorMod_16 : decode cJ6_floorMod 16 = .ok (.iadd, 1) := by decide +kernel
theorem dJ6_floorMod_17 : decode cJ6_floorMod 17 = .ok (.ireturn, 1) := by decide +kernel
theorem dJ6_floorMod_18 : decode cJ6_floorMod 18 = .ok (.iload_n 2, 1) := by decide +kernel
theorem dJ6_floorMod_19 : decode cJ6_floorMod 19 = .ok (.ireturn, 1) := by decide +kernel
theorem dJ21_rotateLeft_0 : decode cJ21_rotateLeft 0 = .ok (.lload_n 0, 1) := by decide +kernel
theorem dJ21_rotateLeft_1 : decode cJ21_rotateLeft 1 = .ok (.iload_n 2, 1) := by decide +kernel
theorem dJ21_rotateLeft_2 : decode cJ21_rotateLeft 2 = .ok (.lshl, 1) := by decide +kernel
theorem dJ21_rotateLeft_3 : decode cJ21_rotateLeft 3 = .ok (.lload_n 0, 1) := by decide +kernel
theorem dJ21_rotateLeft_4 : decode cJ21_rotateLeft 4 = .ok (.iload_n 2, 1) := by decide +kernel
theorem dJ21_rotateLeft_5 : decode cJ21_rotateLeft 5 = .ok (.ineg, 1) := by decide +kernel
theorem dJ21_rotateLeft_6 : decode cJ21_rotateLeft 6 = .ok (.lushr, 1) := by decide +kernel
theorem dJ21_rotateLeft_7 : decode cJ21_rotateLeft 7 = .ok (.lor, 1) := by decide +kernel
theorem dJ21_rotateLeft_8 : decode cJ21_rotateLeft 8 = .ok (.lreturn, 1) := by decide +kernel
theorem dJ3_rotateLeft_0 : decode cJ3_rotateLeft 0 = .ok (.iload_n 0, 1) := by decide +kernel
theorem dJ3_rotateLeft_1 : decode cJ3_rotateLeft 1 = .ok (.iload_n 1, 1) := by decide +kernel
theorem dJ3_rotateLeft_2 : decode cJ3_rotateLeft 2 = .ok (.ishl, 1) := by decide +kernel
theorem dJ3_rotateLeft_3 : decode cJ3_rotateLeft 3 = .ok (.iload_n 0, 1) := by decide +kernel
theorem dJ3_rotateLeft_4 : decode cJ3_rotateLeft 4 = .ok (.iload_n 1, 1) := by decide +kernel
theorem dJ3_rotateLeft_5 : decode cJ3_rotateLeft 5 = .ok (.ineg, 1) := by decide +kernel
theorem dJ3_rotateLeft_6 : decode cJ3_rotateLeft 6 = .ok (.iushr, 1) := by decide +kernel
theorem dJ3_rotateLeft_7 : decode cJ3_rotateLeft 7 = .ok (.ior, 1) := by decide +kernel
theorem dJ3_rotateLeft_8 : decode cJ3_rotateLeft 8 = .ok (.ireturn, 1) := by decide +kernel
theorem q528 : (Jvm.Cond.initialized "KnowHouse$KnowDisk") ∈ lw_all := lw_g (lw_at lw_m1 50 rfl) rfl
theorem q529 : (Jvm.Cond.initialized "java/util/ArrayDeque") ∈ lw_all := lw_g (lw_at lw_m1 51 rfl) rfl
theorem q532 : (Jvm.Cond.initialized "KnowHouse$KnowDisk$State") ∈ lw_all := lw_g (lw_at lw_m1 54 rfl) rfl
theorem q567 : (Jvm.Cond.initialized "java/util/ArrayDeque$DeqIterator") ∈ lw_all := lw_g (lw_at lw_m1 89 rfl) rfl
theorem q568 : (Jvm.Cond.initialized "KnowHouse$KnowDisk$Sector") ∈ lw_all := lw_g (lw_at lw_m1 90 rfl) rfl
theorem q569 : (Jvm.Cond.initialized "java/util/ArrayList$Itr") ∈ lw_all := lw_g (lw_at lw_m1 91 rfl) rfl
theorem q570 : (Jvm.Cond.initialized "KnowHouse$KnowDisk$Write") ∈ lw_all := lw_g (lw_at lw_m1 92 rfl) rfl
theorem q619 : (Jvm.Cond.fieldLink "java/util/ArrayList$Itr" (37 : Nat) "java/util/ArrayList" "elementData" "[Ljava/lang/Object;") ∈ lw_all := lw_g (lw_at lw_m1 141 rfl) rfl
theorem q620 : (Jvm.Cond.fieldLinkNest "java/util/ArrayList$Itr" (28 : Nat) "java/util/ArrayList" "size" "I" "java/util/ArrayList") ∈ lw_tbl := lw_at lw_m1 142 rfl
theorem q623 : (Jvm.Cond.fieldLink "java/util/ArrayList$Itr" (17 : Nat) "java/util/ArrayList" "modCount" "I") ∈ lw_all := lw_g (lw_at lw_m1 145 rfl) rfl
theorem q1774 : (Jvm.Cond.methodLink "KnowHouse$KnowDisk" (1 : Nat) ({ cls := "java/lang/Object", name := "<init>", desc := "()V" } : Jvm.MethodName)) ∈ lw_all := lw_g (lw_at lw_m6 96 rfl) rfl
theorem q1775 : (Jvm.Cond.classLink "KnowHouse$KnowDisk" (17 : Nat) "KnowHouse$KnowDisk$Sector") ∈ lw_all := lw_g (lw_at lw_m6 97 rfl) rfl
theorem q1776 : (Jvm.Cond.arrayOver (Jvm.ClassFile.FieldType.object "KnowHouse$KnowDisk$Sector")) ∈ lw_tbl := lw_at lw_m6 98 rfl
theorem q1777 : (Jvm.Cond.classLink "KnowHouse$KnowDisk" (23 : Nat) "java/util/ArrayDeque") ∈ lw_all := lw_g (lw_at lw_m6 99 rfl) rfl
theorem q1778 : (Jvm.Cond.instantiable "java/util/ArrayDeque" (3 : Nat)) ∈ lw_all := lw_g (lw_at lw_m6 100 rfl) rfl
theorem q1779 : (Jvm.Cond.methodLink "KnowHouse$KnowDisk" (25 : Nat) ({ cls := "java/util/ArrayDeque", name := "<init>", desc := "()V" } : Jvm.MethodName)) ∈ lw_all := lw_g (lw_at lw_m6 101 rfl) rfl
theorem q1780 : (Jvm.Cond.instanceMethod ({ cls := "java/util/ArrayDeque", name := "<init>", desc := "()V" } : Jvm.MethodName)) ∈ lw_all := lw_g (lw_at lw_m6 102 rfl) rfl
theorem q1781 : (Jvm.Cond.code ({ cls := "java/util/ArrayDeque", name := "<init>", desc := "()V" } : Jvm.MethodName) prog_120_method_3_code (1 : Nat) (Option.none : Option Jvm.ClassFile.FieldType)) ∈ lw_all := lw_g (lw_at lw_m6 103 rfl) rfl
theorem q1782 : (Jvm.Cond.methodLink "java/util/ArrayDeque" (42 : Nat) ({ cls := "java/util/AbstractCollection", name := "<init>", desc := "()V" } : Jvm.MethodName)) ∈ lw_all := lw_g (lw_at lw_m6 104 rfl) rfl
theorem q1783 : (Jvm.Cond.classLink "java/util/ArrayDeque" (47 : Nat) "java/lang/Object") ∈ lw_all := lw_g (lw_at lw_m6 105 rfl) rfl
theorem q1785 : (Jvm.Cond.fieldLink "java/util/ArrayDeque" (3 : Nat) "java/util/ArrayDeque" "elements" "[Ljava/lang/Object;") ∈ lw_all := lw_g (lw_at lw_m6 107 rfl) rfl
theorem q1786 : (Jvm.Cond.fieldLink "java/util/ArrayDeque$DeqIterator" (35 : Nat) "java/util/ArrayDeque" "elements" "[Ljava/lang/Object;") ∈ lw_all := lw_g (lw_at lw_m6 108 rfl) rfl
theorem q1787 : (Jvm.Cond.fieldLink "java/util/ArrayDeque$DeqIterator" (26 : Nat) "java/util/ArrayDeque" "head" "I") ∈ lw_all := lw_g (lw_at lw_m6 109 rfl) rfl
theorem q1788 : (Jvm.Cond.fieldLink "java/util/ArrayDeque" (24 : Nat) "java/util/ArrayDeque" "head" "I") ∈ lw_all := lw_g (lw_at lw_m6 110 rfl) rfl
theorem q1789 : (Jvm.Cond.fieldLink "java/util/ArrayDeque" (20 : Nat) "java/util/ArrayDeque" "tail" "I") ∈ lw_all := lw_g (lw_at lw_m6 111 rfl) rfl
theorem q1797 : (Jvm.Cond.classLink "KnowHouse$KnowDisk" (33 : Nat) "java/util/ArrayList") ∈ lw_all := lw_g (lw_at lw_m6 119 rfl) rfl
theorem q1798 : (Jvm.Cond.methodLink "KnowHouse$KnowDisk" (35 : Nat) ({ cls := "java/util/ArrayList", name := "<init>", desc := "()V" } : Jvm.MethodName)) ∈ lw_all := lw_g (lw_at lw_m6 120 rfl) rfl
theorem q1799 : (Jvm.Cond.methodLink "KnowHouse$KnowDisk" (40 : Nat) ({ cls := "java/lang/Math", name := "floorMod", desc := "(II)I" } : Jvm.MethodName)) ∈ lw_all := lw_g (lw_at lw_m6 121 rfl) rfl
theorem q1800 : (Jvm.Cond.static ({ cls := "java/lang/Math", name := "floorMod", desc := "(II)I" } : Jvm.MethodName)) ∈ lw_all := lw_g (lw_at lw_m6 122 rfl) rfl
theorem q1801 : (Jvm.Cond.code ({ cls := "java/lang/Math", name := "floorMod", desc := "(II)I" } : Jvm.MethodName) prog_106_method_50_code (3 : Nat) (Option.some Jvm.ClassFile.FieldType.int)) ∈ lw_all := lw_g (lw_at lw_m6 123 rfl) rfl
theorem q1802 : (Jvm.Cond.classLink "KnowHouse$KnowDisk" (54 : Nat) "KnowHouse$KnowDisk$State") ∈ lw_all := lw_g (lw_at lw_m6 124 rfl) rfl
theorem q1803 : (Jvm.Cond.instantiable "KnowHouse$KnowDisk$State" (2 : Nat)) ∈ lw_all := lw_g (lw_at lw_m6 125 rfl) rfl
theorem q1804 : (Jvm.Cond.methodLinkNest "KnowHouse$KnowDisk" (56 : Nat) ({ cls := "KnowHouse$KnowDisk$State", name := "<init>", desc := "(IJ)V" } : Jvm.MethodName) "KnowHouse") ∈ lw_tbl := lw_at lw_m6 126 rfl
theorem q1805 : (Jvm.Cond.instanceMethod ({ cls := "KnowHouse$KnowDisk$State", name := "<init>", desc := "(IJ)V" } : Jvm.MethodName)) ∈ lw_all := lw_g (lw_at lw_m6 127 rfl) rfl
theorem q1806 : (Jvm.Cond.code ({ cls := "KnowHouse$KnowDisk$State", name := "<init>", desc := "(IJ)V" } : Jvm.MethodName) prog_23_method_1_code (4 : Nat) (Option.none : Option Jvm.ClassFile.FieldType)) ∈ lw_all := lw_g (lw_at lw_m6 128 rfl) rfl
theorem q1807 : (Jvm.Cond.methodLink "KnowHouse$KnowDisk$State" (1 : Nat) ({ cls := "java/lang/Record", name := "<init>", desc := "()V" } : Jvm.MethodName)) ∈ lw_all := lw_g (lw_at lw_m6 129 rfl) rfl
theorem q1811 : (Jvm.Cond.fieldLink "KnowHouse$KnowDisk$State" (7 : Nat) "KnowHouse$KnowDisk$State" "number" "I") ∈ lw_all := lw_g (lw_at lw_m6 133 rfl) rfl
theorem q1812 : (Jvm.Cond.fieldLink "KnowHouse$KnowDisk$State" (13 : Nat) "KnowHouse$KnowDisk$State" "sectors" "J") ∈ lw_all := lw_g (lw_at lw_m6 134 rfl) rfl
theorem q1818 : (Jvm.Cond.methodLink "KnowHouse$KnowDisk" (59 : Nat) ({ cls := "KnowHouse$KnowDisk", name := "begin", desc := "(LKnowHouse$KnowDisk$State;)V" } : Jvm.MethodName)) ∈ lw_all := lw_g (lw_at lw_m6 140 rfl) rfl
theorem q1820 : (Jvm.Cond.instanceMethod ({ cls := "KnowHouse$KnowDisk", name := "begin", desc := "(LKnowHouse$KnowDisk$State;)V" } : Jvm.MethodName)) ∈ lw_all := lw_g (lw_at lw_m6 142 rfl) rfl
theorem q1821 : (Jvm.Cond.code ({ cls := "KnowHouse$KnowDisk", name := "begin", desc := "(LKnowHouse$KnowDisk$State;)V" } : Jvm.MethodName) prog_21_method_2_code (3 : Nat) (Option.none : Option Jvm.ClassFile.FieldType)) ∈ lw_all := lw_g (lw_at lw_m6 143 rfl) rfl
theorem q1822 : (Jvm.Cond.methodLink "KnowHouse$KnowDisk" (63 : Nat) ({ cls := "java/util/ArrayDeque", name := "clear", desc := "()V" } : Jvm.MethodName)) ∈ lw_all := lw_g (lw_at lw_m6 144 rfl) rfl
theorem q1823 : (Jvm.Cond.instanceMethod ({ cls := "java/util/ArrayDeque", name := "clear", desc := "()V" } : Jvm.MethodName)) ∈ lw_all := lw_g (lw_at lw_m6 145 rfl) rfl
theorem q1824 : (Jvm.Cond.selects "java/util/ArrayDeque" ({ cls := "java/util/ArrayDeque", name := "clear", desc := "()V" } : Jvm.MethodName) ({ cls := "java/util/ArrayDeque", name := "clear", desc := "()V" } : Jvm.MethodName)) ∈ lw_all := lw_g (lw_at lw_m6 146 rfl) rfl
theorem q1825 : (Jvm.Cond.code ({ cls := "java/util/ArrayDeque", name := "clear", desc := "()V" } : Jvm.MethodName) prog_120_method_53_code (1 : Nat) (Option.none : Option Jvm.ClassFile.FieldType)) ∈ lw_all := lw_g (lw_at lw_m6 147 rfl) rfl
theorem q1826 : (Jvm.Cond.methodLink "java/util/ArrayDeque" (181 : Nat) ({ cls := "java/util/ArrayDeque", name := "circularClear", desc := "([Ljava/lang/Object;II)V" } : Jvm.MethodName)) ∈ lw_all := lw_g (lw_at lw_m6 148 rfl) rfl
theorem q1827 : (Jvm.Cond.static ({ cls := "java/util/ArrayDeque", name := "circularClear", desc := "([Ljava/lang/Object;II)V" } : Jvm.MethodName)) ∈ lw_all := lw_g (lw_at lw_m6 149 rfl) rfl
theorem q1828 : (Jvm.Cond.code ({ cls := "java/util/ArrayDeque", name := "circularClear", desc := "([Ljava/lang/Object;II)V" } : Jvm.MethodName) prog_120_method_54_code (4 : Nat) (Option.none : Option Jvm.ClassFile.FieldType)) ∈ lw_all := lw_g (lw_at lw_m6 150 rfl) rfl
theorem q1829 : (Jvm.Cond.methodLink "KnowHouse$KnowDisk" (66 : Nat) ({ cls := "java/util/ArrayDeque", name := "add", desc := "(Ljava/lang/Object;)Z" } : Jvm.MethodName)) ∈ lw_all := lw_g (lw_at lw_m6 151 rfl) rfl
theorem q1830 : (Jvm.Cond.instanceMethod ({ cls := "java/util/ArrayDeque", name := "add", desc := "(Ljava/lang/Object;)Z" } : Jvm.MethodName)) ∈ lw_all := lw_g (lw_at lw_m6 152 rfl) rfl
theorem q1831 : (Jvm.Cond.selects "java/util/ArrayDeque" ({ cls := "java/util/ArrayDeque", name := "add", desc := "(Ljava/lang/Object;)Z" } : Jvm.MethodName) ({ cls := "java/util/ArrayDeque", name := "add", desc := "(Ljava/lang/Object;)Z" } : Jvm.MethodName)) ∈ lw_all := lw_g (lw_at lw_m6 153 rfl) rfl
theorem q1832 : (Jvm.Cond.code ({ cls := "java/util/ArrayDeque", name := "add", desc := "(Ljava/lang/Object;)Z" } : Jvm.MethodName) prog_120_method_28_code (2 : Nat) (Option.some Jvm.ClassFile.FieldType.boolean)) ∈ lw_all := lw_g (lw_at lw_m6 154 rfl) rfl
theorem q1833 : (Jvm.Cond.methodLink "java/util/ArrayDeque" (90 : Nat) ({ cls := "java/util/ArrayDeque", name := "addLast", desc := "(Ljava/lang/Object;)V" } : Jvm.MethodName)) ∈ lw_all := lw_g (lw_at lw_m6 155 rfl) rfl
theorem q1834 : (Jvm.Cond.instanceMethod ({ cls := "java/util/ArrayDeque", name := "addLast", desc := "(Ljava/lang/Object;)V" } : Jvm.MethodName)) ∈ lw_all := lw_g (lw_at lw_m6 156 rfl) rfl
theorem q1835 : (Jvm.Cond.selects "java/util/ArrayDeque" ({ cls := "java/util/ArrayDeque", name := "addLast", desc := "(Ljava/lang/Object;)V" } : Jvm.MethodName) ({ cls := "java/util/ArrayDeque", name := "addLast", desc := "(Ljava/lang/Object;)V" } : Jvm.MethodName)) ∈ lw_all := lw_g (lw_at lw_m6 157 rfl) rfl
theorem q1836 : (Jvm.Cond.code ({ cls := "java/util/ArrayDeque", name := "addLast", desc := "(Ljava/lang/Object;)V" } : Jvm.MethodName) prog_120_method_13_code (3 : Nat) (Option.none : Option Jvm.ClassFile.FieldType)) ∈ lw_all := lw_g (lw_at lw_m6 158 rfl) rfl
theorem q1837 : (Jvm.Cond.methodLink "java/util/ArrayDeque" (74 : Nat) ({ cls := "java/util/ArrayDeque", name := "inc", desc := "(II)I" } : Jvm.MethodName)) ∈ lw_all := lw_g (lw_at lw_m6 159 rfl) rfl
theorem q1838 : (Jvm.Cond.static ({ cls := "java/util/ArrayDeque", name := "inc", desc := "(II)I" } : Jvm.MethodName)) ∈ lw_all := lw_g (lw_at lw_m6 160 rfl) rfl
theorem q1839 : (Jvm.Cond.code ({ cls := "java/util/ArrayDeque", name := "inc", desc := "(II)I" } : Jvm.MethodName) prog_120_method_6_code (2 : Nat) (Option.some Jvm.ClassFile.FieldType.int)) ∈ lw_all := lw_g (lw_at lw_m6 161 rfl) rfl
theorem q1840 : (Jvm.Cond.methodLink "java/util/ArrayDeque" (71 : Nat) ({ cls := "java/util/ArrayDeque", name := "grow", desc := "(I)V" } : Jvm.MethodName)) ∈ lw_all := lw_g (lw_at lw_m6 162 rfl) rfl
theorem q1842 : (Jvm.Cond.instanceMethod ({ cls := "java/util/ArrayDeque", name := "grow", desc := "(I)V" } : Jvm.MethodName)) ∈ lw_all := lw_g (lw_at lw_m6 164 rfl) rfl
theorem q1843 : (Jvm.Cond.code ({ cls := "java/util/ArrayDeque", name := "grow", desc := "(I)V" } : Jvm.MethodName) prog_120_method_1_code (9 : Nat) (Option.none : Option Jvm.ClassFile.FieldType)) ∈ lw_all := lw_g (lw_at lw_m6 165 rfl) rfl
theorem q1844 : (Jvm.Cond.constant "java/util/ArrayDeque" (9 : Nat) (2147483639 : Int32)) ∈ lw_all := lw_g (lw_at lw_m6 166 rfl) rfl
theorem q1845 : (Jvm.Cond.methodLink "java/util/ArrayDeque" (10 : Nat) ({ cls := "java/util/ArrayDeque", name := "newCapacity", desc := "(II)I" } : Jvm.MethodName)) ∈ lw_all := lw_g (lw_at lw_m6 167 rfl) rfl
theorem q1847 : (Jvm.Cond.instanceMethod ({ cls := "java/util/ArrayDeque", name := "newCapacity", desc := "(II)I" } : Jvm.MethodName)) ∈ lw_all := lw_g (lw_at lw_m6 169 rfl) rfl
theorem q1848 : (Jvm.Cond.code ({ cls := "java/util/ArrayDeque", name := "newCapacity", desc := "(II)I" } : Jvm.MethodName) prog_120_method_2_code (5 : Nat) (Option.some Jvm.ClassFile.FieldType.int)) ∈ lw_all := lw_g (lw_at lw_m6 170 rfl) rfl
theorem q1915 : (Jvm.Cond.constant "java/util/ArrayDeque" (41 : Nat) (2147483647 : Int32)) ∈ lw_all := lw_g (lw_at lw_m6 237 rfl) rfl
theorem q1916 : (Jvm.Cond.methodLink "java/util/ArrayDeque" (14 : Nat) ({ cls := "java/util/Arrays", name := "copyOf", desc := "([Ljava/lang/Object;I)[Ljava/lang/Object;" } : Jvm.MethodName)) ∈ lw_all := lw_g (lw_at lw_m6 238 rfl) rfl
theorem q2022 : (Jvm.Cond.methodLink "java/util/ArrayDeque" (27 : Nat) ({ cls := "java/lang/System", name := "arraycopy", desc := "(Ljava/lang/Object;ILjava/lang/Object;II)V" } : Jvm.MethodName)) ∈ lw_all := lw_g (lw_at lw_m7 104 rfl) rfl
theorem q2023 : (Jvm.Cond.methodLink "KnowHouse$KnowDisk" (70 : Nat) ({ cls := "java/util/ArrayList", name := "clear", desc := "()V" } : Jvm.MethodName)) ∈ lw_all := lw_g (lw_at lw_m7 105 rfl) rfl
theorem q2024 : (Jvm.Cond.instanceMethod ({ cls := "java/util/ArrayList", name := "clear", desc := "()V" } : Jvm.MethodName)) ∈ lw_all := lw_g (lw_at lw_m7 106 rfl) rfl
theorem q2025 : (Jvm.Cond.selects "java/util/ArrayList" ({ cls := "java/util/ArrayList", name := "clear", desc := "()V" } : Jvm.MethodName) ({ cls := "java/util/ArrayList", name := "clear", desc := "()V" } : Jvm.MethodName)) ∈ lw_all := lw_g (lw_at lw_m7 107 rfl) rfl
theorem q2026 : (Jvm.Cond.code ({ cls := "java/util/ArrayList", name := "clear", desc := "()V" } : Jvm.MethodName) prog_122_method_40_code (4 : Nat) (Option.none : Option Jvm.ClassFile.FieldType)) ∈ lw_all := lw_g (lw_at lw_m7 108 rfl) rfl
theorem q2027 : (Jvm.Cond.fieldLink "KnowHouse$KnowDisk" (50 : Nat) "KnowHouse$KnowDisk" "disk" "[B") ∈ lw_all := lw_g (lw_at lw_m7 109 rfl) rfl
theorem q2028 : (Jvm.Cond.fieldLink "KnowHouse$KnowDisk" (46 : Nat) "KnowHouse$KnowDisk" "count" "I") ∈ lw_all := lw_g (lw_at lw_m7 110 rfl) rfl
theorem q2029 : (Jvm.Cond.fieldLink "KnowHouse$KnowDisk" (7 : Nat) "KnowHouse$KnowDisk" "runs" "Z") ∈ lw_all := lw_g (lw_at lw_m7 111 rfl) rfl
theorem q2030 : (Jvm.Cond.fieldLink "KnowHouse$KnowDisk" (134 : Nat) "KnowHouse$KnowDisk" "isFull" "Z") ∈ lw_all := lw_g (lw_at lw_m7 112 rfl) rfl
theorem q2031 : (Jvm.Cond.fieldLink "KnowHouse$KnowDisk" (13 : Nat) "KnowHouse$KnowDisk" "places" "[I") ∈ lw_all := lw_g (lw_at lw_m7 113 rfl) rfl
theorem q2032 : (Jvm.Cond.fieldLink "KnowHouse$KnowDisk" (19 : Nat) "KnowHouse$KnowDisk" "laid" "[LKnowHouse$KnowDisk$Sector;") ∈ lw_all := lw_g (lw_at lw_m7 114 rfl) rfl
theorem q2033 : (Jvm.Cond.fieldLink "KnowHouse$KnowDisk" (71 : Nat) "KnowHouse$KnowDisk" "changed" "Z") ∈ lw_all := lw_g (lw_at lw_m7 115 rfl) rfl
theorem q2034 : (Jvm.Cond.fieldLink "KnowHouse$KnowDisk" (26 : Nat) "KnowHouse$KnowDisk" "waiting" "Ljava/util/ArrayDeque;") ∈ lw_all := lw_g (lw_at lw_m7 116 rfl) rfl
theorem q2035 : (Jvm.Cond.fieldLink "KnowHouse$KnowDisk" (30 : Nat) "KnowHouse$KnowDisk" "states" "Ljava/util/ArrayDeque;") ∈ lw_all := lw_g (lw_at lw_m7 117 rfl) rfl
theorem q2036 : (Jvm.Cond.fieldLink "KnowHouse$KnowDisk" (36 : Nat) "KnowHouse$KnowDisk" "kept" "Ljava/util/ArrayList;") ∈ lw_all := lw_g (lw_at lw_m7 118 rfl) rfl
theorem q3448 : (Jvm.Cond.methodLink "KnowHouse$KnowDisk" (143 : Nat) ({ cls := "KnowHouse$KnowDisk", name := "isPage", desc := "(I)Z" } : Jvm.MethodName)) ∈ lw_all := lw_g (lw_at lw_m13 90 rfl) rfl
theorem q3450 : (Jvm.Cond.instanceMethod ({ cls := "KnowHouse$KnowDisk", name := "isPage", desc := "(I)Z" } : Jvm.MethodName)) ∈ lw_all := lw_g (lw_at lw_m13 92 rfl) rfl
theorem q3451 : (Jvm.Cond.code ({ cls := "KnowHouse$KnowDisk", name := "isPage", desc := "(I)Z" } : Jvm.MethodName) prog_21_method_6_code (2 : Nat) (Option.some Jvm.ClassFile.FieldType.boolean)) ∈ lw_all := lw_g (lw_at lw_m13 93 rfl) rfl
theorem q3452 : (Jvm.Cond.methodLink "KnowHouse$KnowDisk" (147 : Nat) ({ cls := "KnowHouse$KnowDisk", name := "pageAt", desc := "(I)LKnowHouse$KnowDisk$Sector;" } : Jvm.MethodName)) ∈ lw_all := lw_g (lw_at lw_m13 94 rfl) rfl
theorem q3454 : (Jvm.Cond.instanceMethod ({ cls := "KnowHouse$KnowDisk", name := "pageAt", desc := "(I)LKnowHouse$KnowDisk$Sector;" } : Jvm.MethodName)) ∈ lw_all := lw_g (lw_at lw_m13 96 rfl) rfl
theorem q3455 : (Jvm.Cond.code ({ cls := "KnowHouse$KnowDisk", name := "pageAt", desc := "(I)LKnowHouse$KnowDisk$Sector;" } : Jvm.MethodName) prog_21_method_13_code (2 : Nat) (Option.some (Jvm.ClassFile.FieldType.object "KnowHouse$KnowDisk$Sector"))) ∈ lw_all := lw_g (lw_at lw_m13 97 rfl) rfl
theorem q3456 : (Jvm.Cond.methodLink "KnowHouse$KnowDisk" (141 : Nat) ({ cls := "KnowHouse$KnowDisk", name := "sector", desc := "(I)LKnowHouse$KnowDisk$Sector;" } : Jvm.MethodName)) ∈ lw_all := lw_g (lw_at lw_m13 98 rfl) rfl
theorem q3458 : (Jvm.Cond.instanceMethod ({ cls := "KnowHouse$KnowDisk", name := "sector", desc := "(I)LKnowHouse$KnowDisk$Sector;" } : Jvm.MethodName)) ∈ lw_all := lw_g (lw_at lw_m13 100 rfl) rfl
theorem q3459 : (Jvm.Cond.code ({ cls := "KnowHouse$KnowDisk", name := "sector", desc := "(I)LKnowHouse$KnowDisk$Sector;" } : Jvm.MethodName) prog_21_method_4_code (5 : Nat) (Option.some (Jvm.ClassFile.FieldType.object "KnowHouse$KnowDisk$Sector"))) ∈ lw_all := lw_g (lw_at lw_m13 101 rfl) rfl
theorem q3460 : (Jvm.Cond.methodLink "KnowHouse$KnowDisk" (84 : Nat) ({ cls := "java/util/ArrayDeque", name := "iterator", desc := "()Ljava/util/Iterator;" } : Jvm.MethodName)) ∈ lw_all := lw_g (lw_at lw_m13 102 rfl) rfl
theorem q3461 : (Jvm.Cond.instanceMethod ({ cls := "java/util/ArrayDeque", name := "iterator", desc := "()Ljava/util/Iterator;" } : Jvm.MethodName)) ∈ lw_all := lw_g (lw_at lw_m13 103 rfl) rfl
theorem q3462 : (Jvm.Cond.selects "java/util/ArrayDeque" ({ cls := "java/util/ArrayDeque", name := "iterator", desc := "()Ljava/util/Iterator;" } : Jvm.MethodName) ({ cls := "java/util/ArrayDeque", name := "iterator", desc := "()Ljava/util/Iterator;" } : Jvm.MethodName)) ∈ lw_all := lw_g (lw_at lw_m13 104 rfl) rfl
theorem q3463 : (Jvm.Cond.code ({ cls := "java/util/ArrayDeque", name := "iterator", desc := "()Ljava/util/Iterator;" } : Jvm.MethodName) prog_120_method_39_code (1 : Nat) (Option.some (Jvm.ClassFile.FieldType.object "java/util/Iterator"))) ∈ lw_all := lw_g (lw_at lw_m13 105 rfl) rfl
theorem q3464 : (Jvm.Cond.classLink "java/util/ArrayDeque" (131 : Nat) "java/util/ArrayDeque$DeqIterator") ∈ lw_all := lw_g (lw_at lw_m13 106 rfl) rfl
theorem q3465 : (Jvm.Cond.instantiable "java/util/ArrayDeque$DeqIterator" (4 : Nat)) ∈ lw_all := lw_g (lw_at lw_m13 107 rfl) rfl
theorem q3466 : (Jvm.Cond.methodLink "java/util/ArrayDeque" (133 : Nat) ({ cls := "java/util/ArrayDeque$DeqIterator", name := "<init>", desc := "(Ljava/util/ArrayDeque;)V" } : Jvm.MethodName)) ∈ lw_all := lw_g (lw_at lw_m13 108 rfl) rfl
theorem q3467 : (Jvm.Cond.instanceMethod ({ cls := "java/util/ArrayDeque$DeqIterator", name := "<init>", desc := "(Ljava/util/ArrayDeque;)V" } : Jvm.MethodName)) ∈ lw_all := lw_g (lw_at lw_m13 109 rfl) rfl
theorem q3468 : (Jvm.Cond.code ({ cls := "java/util/ArrayDeque$DeqIterator", name := "<init>", desc := "(Ljava/util/ArrayDeque;)V" } : Jvm.MethodName) prog_121_method_1_code (2 : Nat) (Option.none : Option Jvm.ClassFile.FieldType)) ∈ lw_all := lw_g (lw_at lw_m13 110 rfl) rfl
theorem q3469 : (Jvm.Cond.methodLink "java/util/ArrayDeque$DeqIterator" (7 : Nat) ({ cls := "java/lang/Object", name := "<init>", desc := "()V" } : Jvm.MethodName)) ∈ lw_all := lw_g (lw_at lw_m13 111 rfl) rfl
theorem q3470 : (Jvm.Cond.methodLink "java/util/ArrayDeque$DeqIterator" (13 : Nat) ({ cls := "java/util/ArrayDeque", name := "size", desc := "()I" } : Jvm.MethodName)) ∈ lw_all := lw_g (lw_at lw_m13 112 rfl) rfl
theorem q3471 : (Jvm.Cond.instanceMethod ({ cls := "java/util/ArrayDeque", name := "size", desc := "()I" } : Jvm.MethodName)) ∈ lw_all := lw_g (lw_at lw_m13 113 rfl) rfl
theorem q3472 : (Jvm.Cond.selects "java/util/ArrayDeque" ({ cls := "java/util/ArrayDeque", name := "size", desc := "()I" } : Jvm.MethodName) ({ cls := "java/util/ArrayDeque", name := "size", desc := "()I" } : Jvm.MethodName)) ∈ lw_all := lw_g (lw_at lw_m13 114 rfl) rfl
theorem q3473 : (Jvm.Cond.code ({ cls := "java/util/ArrayDeque", name := "size", desc := "()I" } : Jvm.MethodName) prog_120_method_37_code (1 : Nat) (Option.some Jvm.ClassFile.FieldType.int)) ∈ lw_all := lw_g (lw_at lw_m13 115 rfl) rfl
theorem q3474 : (Jvm.Cond.methodLink "java/util/ArrayDeque" (127 : Nat) ({ cls := "java/util/ArrayDeque", name := "sub", desc := "(III)I" } : Jvm.MethodName)) ∈ lw_all := lw_g (lw_at lw_m13 116 rfl) rfl
theorem q3475 : (Jvm.Cond.static ({ cls := "java/util/ArrayDeque", name := "sub", desc := "(III)I" } : Jvm.MethodName)) ∈ lw_all := lw_g (lw_at lw_m13 117 rfl) rfl
theorem q3476 : (Jvm.Cond.code ({ cls := "java/util/ArrayDeque", name := "sub", desc := "(III)I" } : Jvm.MethodName) prog_120_method_9_code (3 : Nat) (Option.some Jvm.ClassFile.FieldType.int)) ∈ lw_all := lw_g (lw_at lw_m13 118 rfl) rfl
theorem q3477 : (Jvm.Cond.fieldLink "java/util/ArrayDeque$DeqIterator" (29 : Nat) "java/util/ArrayDeque$DeqIterator" "cursor" "I") ∈ lw_all := lw_g (lw_at lw_m13 119 rfl) rfl
theorem q3478 : (Jvm.Cond.fieldLink "java/util/ArrayDeque$DeqIterator" (19 : Nat) "java/util/ArrayDeque$DeqIterator" "remaining" "I") ∈ lw_all := lw_g (lw_at lw_m13 120 rfl) rfl
theorem q3479 : (Jvm.Cond.fieldLink "java/util/ArrayDeque$DeqIterator" (23 : Nat) "java/util/ArrayDeque$DeqIterator" "lastRet" "I") ∈ lw_all := lw_g (lw_at lw_m13 121 rfl) rfl
theorem q3480 : (Jvm.Cond.fieldLink "java/util/ArrayDeque$DeqIterator" (1 : Nat) "java/util/ArrayDeque$DeqIterator" "this$0" "Ljava/util/ArrayDeque;") ∈ lw_all := lw_g (lw_at lw_m13 122 rfl) rfl
theorem q3491 : (Jvm.Cond.methodLink "KnowHouse$KnowDisk" (88 : Nat) ({ cls := "java/util/Iterator", name := "hasNext", desc := "()Z" } : Jvm.MethodName)) ∈ lw_all := lw_g (lw_at lw_m13 133 rfl) rfl
theorem q3495 : (Jvm.Cond.selects "java/util/ArrayDeque$DeqIterator" ({ cls := "java/util/Iterator", name := "hasNext", desc := "()Z" } : Jvm.MethodName) ({ cls := "java/util/ArrayDeque$DeqIterator", name := "hasNext", desc := "()Z" } : Jvm.MethodName)) ∈ lw_all := lw_g (lw_at lw_m13 137 rfl) rfl
theorem q3497 : (Jvm.Cond.instanceMethod ({ cls := "java/util/ArrayDeque$DeqIterator", name := "hasNext", desc := "()Z" } : Jvm.MethodName)) ∈ lw_all := lw_g (lw_at lw_m13 139 rfl) rfl
theorem q3499 : (Jvm.Cond.code ({ cls := "java/util/ArrayDeque$DeqIterator", name := "hasNext", desc := "()Z" } : Jvm.MethodName) prog_121_method_2_code (1 : Nat) (Option.some Jvm.ClassFile.FieldType.boolean)) ∈ lw_all := lw_g (lw_at lw_m13 141 rfl) rfl
theorem q3501 : (Jvm.Cond.selects "java/util/ArrayList$Itr" ({ cls := "java/util/Iterator", name := "hasNext", desc := "()Z" } : Jvm.MethodName) ({ cls := "java/util/ArrayList$Itr", name := "hasNext", desc := "()Z" } : Jvm.MethodName)) ∈ lw_all := lw_g (lw_at lw_m13 143 rfl) rfl
theorem q3503 : (Jvm.Cond.instanceMethod ({ cls := "java/util/ArrayList$Itr", name := "hasNext", desc := "()Z" } : Jvm.MethodName)) ∈ lw_all := lw_g (lw_at lw_m13 145 rfl) rfl
theorem q3505 : (Jvm.Cond.code ({ cls := "java/util/ArrayList$Itr", name := "hasNext", desc := "()Z" } : Jvm.MethodName) prog_123_method_2_code (1 : Nat) (Option.some Jvm.ClassFile.FieldType.boolean)) ∈ lw_all := lw_g (lw_at lw_m13 147 rfl) rfl
theorem q3507 : (Jvm.Cond.methodLink "KnowHouse$KnowDisk" (94 : Nat) ({ cls := "java/util/Iterator", name := "next", desc := "()Ljava/lang/Object;" } : Jvm.MethodName)) ∈ lw_all := lw_g (lw_at lw_m13 149 rfl) rfl
theorem q3510 : (Jvm.Cond.selects "java/util/ArrayDeque$DeqIterator" ({ cls := "java/util/Iterator", name := "next", desc := "()Ljava/lang/Object;" } : Jvm.MethodName) ({ cls := "java/util/ArrayDeque$DeqIterator", name := "next", desc := "()Ljava/lang/Object;" } : Jvm.MethodName)) ∈ lw_all := lw_g (lw_at lw_m13 152 rfl) rfl
theorem q3512 : (Jvm.Cond.instanceMethod ({ cls := "java/util/ArrayDeque$DeqIterator", name := "next", desc := "()Ljava/lang/Object;" } : Jvm.MethodName)) ∈ lw_all := lw_g (lw_at lw_m13 154 rfl) rfl
theorem q3514 : (Jvm.Cond.code ({ cls := "java/util/ArrayDeque$DeqIterator", name := "next", desc := "()Ljava/lang/Object;" } : Jvm.MethodName) prog_121_method_3_code (3 : Nat) (Option.some (Jvm.ClassFile.FieldType.object "java/lang/Object"))) ∈ lw_all := lw_g (lw_at lw_m13 156 rfl) rfl
theorem q3515 : (Jvm.Cond.methodLink "java/util/ArrayDeque$DeqIterator" (39 : Nat) ({ cls := "java/util/ArrayDeque", name := "nonNullElementAt", desc := "([Ljava/lang/Object;I)Ljava/lang/Object;" } : Jvm.MethodName)) ∈ lw_all := lw_g (lw_at lw_m13 157 rfl) rfl
theorem q3516 : (Jvm.Cond.static ({ cls := "java/util/ArrayDeque", name := "nonNullElementAt", desc := "([Ljava/lang/Object;I)Ljava/lang/Object;" } : Jvm.MethodName)) ∈ lw_all := lw_g (lw_at lw_m13 158 rfl) rfl
theorem q3517 : (Jvm.Cond.code ({ cls := "java/util/ArrayDeque", name := "nonNullElementAt", desc := "([Ljava/lang/Object;I)Ljava/lang/Object;" } : Jvm.MethodName) prog_120_method_11_code (3 : Nat) (Option.some (Jvm.ClassFile.FieldType.object "java/lang/Object"))) ∈ lw_all := lw_g (lw_at lw_m13 159 rfl) rfl
theorem q3518 : (Jvm.Cond.methodLink "java/util/ArrayDeque$DeqIterator" (43 : Nat) ({ cls := "java/util/ArrayDeque", name := "inc", desc := "(II)I" } : Jvm.MethodName)) ∈ lw_all := lw_g (lw_at lw_m13 160 rfl) rfl
theorem q3519 : (Jvm.Cond.selects "java/util/ArrayList$Itr" ({ cls := "java/util/Iterator", name := "next", desc := "()Ljava/lang/Object;" } : Jvm.MethodName) ({ cls := "java/util/ArrayList$Itr", name := "next", desc := "()Ljava/lang/Object;" } : Jvm.MethodName)) ∈ lw_all := lw_g (lw_at lw_m13 161 rfl) rfl
theorem q3521 : (Jvm.Cond.instanceMethod ({ cls := "java/util/ArrayList$Itr", name := "next", desc := "()Ljava/lang/Object;" } : Jvm.MethodName)) ∈ lw_all := lw_g (lw_at lw_m13 163 rfl) rfl
theorem q3523 : (Jvm.Cond.code ({ cls := "java/util/ArrayList$Itr", name := "next", desc := "()Ljava/lang/Object;" } : Jvm.MethodName) prog_123_method_3_code (3 : Nat) (Option.some (Jvm.ClassFile.FieldType.object "java/lang/Object"))) ∈ lw_all := lw_g (lw_at lw_m13 165 rfl) rfl
theorem q3524 : (Jvm.Cond.methodLink "java/util/ArrayList$Itr" (31 : Nat) ({ cls := "java/util/ArrayList$Itr", name := "checkForComodification", desc := "()V" } : Jvm.MethodName)) ∈ lw_all := lw_g (lw_at lw_m13 166 rfl) rfl
theorem q3525 : (Jvm.Cond.instanceMethod ({ cls := "java/util/ArrayList$Itr", name := "checkForComodification", desc := "()V" } : Jvm.MethodName)) ∈ lw_all := lw_g (lw_at lw_m13 167 rfl) rfl
theorem q3526 : (Jvm.Cond.selects "java/util/ArrayList$Itr" ({ cls := "java/util/ArrayList$Itr", name := "checkForComodification", desc := "()V" } : Jvm.MethodName) ({ cls := "java/util/ArrayList$Itr", name := "checkForComodification", desc := "()V" } : Jvm.MethodName)) ∈ lw_all := lw_g (lw_at lw_m13 168 rfl) rfl
theorem q3527 : (Jvm.Cond.code ({ cls := "java/util/ArrayList$Itr", name := "checkForComodification", desc := "()V" } : Jvm.MethodName) prog_123_method_6_code (1 : Nat) (Option.none : Option Jvm.ClassFile.FieldType)) ∈ lw_all := lw_g (lw_at lw_m13 169 rfl) rfl
theorem q3528 : (Jvm.Cond.classLink "KnowHouse$KnowDisk" (98 : Nat) "KnowHouse$KnowDisk$Write") ∈ lw_all := lw_g (lw_at lw_m13 170 rfl) rfl
theorem q3529 : (Jvm.Cond.methodLink "KnowHouse$KnowDisk" (100 : Nat) ({ cls := "KnowHouse$KnowDisk$Write", name := "to", desc := "()I" } : Jvm.MethodName)) ∈ lw_all := lw_g (lw_at lw_m13 171 rfl) rfl
theorem q3530 : (Jvm.Cond.instanceMethod ({ cls := "KnowHouse$KnowDisk$Write", name := "to", desc := "()I" } : Jvm.MethodName)) ∈ lw_all := lw_g (lw_at lw_m13 172 rfl) rfl
theorem q3531 : (Jvm.Cond.selects "KnowHouse$KnowDisk$Write" ({ cls := "KnowHouse$KnowDisk$Write", name := "to", desc := "()I" } : Jvm.MethodName) ({ cls := "KnowHouse$KnowDisk$Write", name := "to", desc := "()I" } : Jvm.MethodName)) ∈ lw_all := lw_g (lw_at lw_m13 173 rfl) rfl
theorem q3532 : (Jvm.Cond.code ({ cls := "KnowHouse$KnowDisk$Write", name := "to", desc := "()I" } : Jvm.MethodName) prog_24_method_5_code (1 : Nat) (Option.some Jvm.ClassFile.FieldType.int)) ∈ lw_all := lw_g (lw_at lw_m13 174 rfl) rfl
theorem q3533 : (Jvm.Cond.methodLink "KnowHouse$KnowDisk" (104 : Nat) ({ cls := "KnowHouse$KnowDisk$Write", name := "sector", desc := "()LKnowHouse$KnowDisk$Sector;" } : Jvm.MethodName)) ∈ lw_all := lw_g (lw_at lw_m13 175 rfl) rfl
theorem q3534 : (Jvm.Cond.instanceMethod ({ cls := "KnowHouse$KnowDisk$Write", name := "sector", desc := "()LKnowHouse$KnowDisk$Sector;" } : Jvm.MethodName)) ∈ lw_all := lw_g (lw_at lw_m13 176 rfl) rfl
theorem q3535 : (Jvm.Cond.selects "KnowHouse$KnowDisk$Write" ({ cls := "KnowHouse$KnowDisk$Write", name := "sector", desc := "()LKnowHouse$KnowDisk$Sector;" } : Jvm.MethodName) ({ cls := "KnowHouse$KnowDisk$Write", name := "sector", desc := "()LKnowHouse$KnowDisk$Sector;" } : Jvm.MethodName)) ∈ lw_all := lw_g (lw_at lw_m13 177 rfl) rfl
theorem q3536 : (Jvm.Cond.code ({ cls := "KnowHouse$KnowDisk$Write", name := "sector", desc := "()LKnowHouse$KnowDisk$Sector;" } : Jvm.MethodName) prog_24_method_6_code (1 : Nat) (Option.some (Jvm.ClassFile.FieldType.object "KnowHouse$KnowDisk$Sector"))) ∈ lw_all := lw_g (lw_at lw_m13 178 rfl) rfl
theorem q3537 : (Jvm.Cond.methodLink "KnowHouse$KnowDisk" (108 : Nat) ({ cls := "KnowHouse$KnowDisk", name := "read", desc := "(I)LKnowHouse$KnowDisk$Sector;" } : Jvm.MethodName)) ∈ lw_all := lw_g (lw_at lw_m13 179 rfl) rfl
theorem q3539 : (Jvm.Cond.instanceMethod ({ cls := "KnowHouse$KnowDisk", name := "read", desc := "(I)LKnowHouse$KnowDisk$Sector;" } : Jvm.MethodName)) ∈ lw_all := lw_g (lw_at lw_m13 181 rfl) rfl
theorem q3540 : (Jvm.Cond.code ({ cls := "KnowHouse$KnowDisk", name := "read", desc := "(I)LKnowHouse$KnowDisk$Sector;" } : Jvm.MethodName) prog_21_method_3_code (3 : Nat) (Option.some (Jvm.ClassFile.FieldType.object "KnowHouse$KnowDisk$Sector"))) ∈ lw_all := lw_g (lw_at lw_m13 182 rfl) rfl
theorem q3541 : (Jvm.Cond.instantiable "KnowHouse$KnowDisk$Sector" (1 : Nat)) ∈ lw_all := lw_g (lw_at lw_m13 183 rfl) rfl
theorem q3542 : (Jvm.Cond.methodLinkNest "KnowHouse$KnowDisk" (74 : Nat) ({ cls := "KnowHouse$KnowDisk$Sector", name := "<init>", desc := "()V" } : Jvm.MethodName) "KnowHouse") ∈ lw_tbl := lw_at lw_m13 184 rfl
theorem q3543 : (Jvm.Cond.instanceMethod ({ cls := "KnowHouse$KnowDisk$Sector", name := "<init>", desc := "()V" } : Jvm.MethodName)) ∈ lw_all := lw_g (lw_at lw_m13 185 rfl) rfl
theorem q3544 : (Jvm.Cond.code ({ cls := "KnowHouse$KnowDisk$Sector", name := "<init>", desc := "()V" } : Jvm.MethodName) prog_22_method_1_code (1 : Nat) (Option.none : Option Jvm.ClassFile.FieldType)) ∈ lw_all := lw_g (lw_at lw_m13 186 rfl) rfl
theorem q3545 : (Jvm.Cond.methodLink "KnowHouse$KnowDisk$Sector" (3 : Nat) ({ cls := "java/lang/Object", name := "<init>", desc := "()V" } : Jvm.MethodName)) ∈ lw_all := lw_g (lw_at lw_m13 187 rfl) rfl
theorem q3546 : (Jvm.Cond.fieldLink "KnowHouse$KnowDisk$Sector" (9 : Nat) "KnowHouse$KnowDisk$Sector" "bytes" "[B") ∈ lw_all := lw_g (lw_at lw_m13 188 rfl) rfl
theorem q3547 : (Jvm.Cond.fieldLinkNest "KnowHouse$KnowDisk" (75 : Nat) "KnowHouse$KnowDisk$Sector" "bytes" "[B" "KnowHouse") ∈ lw_tbl := lw_at lw_m13 189 rfl
theorem q3551 : (Jvm.Cond.methodLink "KnowHouse$KnowDisk" (78 : Nat) ({ cls := "java/lang/System", name := "arraycopy", desc := "(Ljava/lang/Object;ILjava/lang/Object;II)V" } : Jvm.MethodName)) ∈ lw_all := lw_g (lw_at lw_m13 193 rfl) rfl
theorem q3552 : (Jvm.Cond.methodLink "KnowHouse$KnowDisk" (150 : Nat) ({ cls := "KnowHouse$KnowDisk$Sector", name := "kind", desc := "()I" } : Jvm.MethodName)) ∈ lw_all := lw_g (lw_at lw_m13 194 rfl) rfl
theorem q3553 : (Jvm.Cond.instanceMethod ({ cls := "KnowHouse$KnowDisk$Sector", name := "kind", desc := "()I" } : Jvm.MethodName)) ∈ lw_all := lw_g (lw_at lw_m13 195 rfl) rfl
theorem q3554 : (Jvm.Cond.selects "KnowHouse$KnowDisk$Sector" ({ cls := "KnowHouse$KnowDisk$Sector", name := "kind", desc := "()I" } : Jvm.MethodName) ({ cls := "KnowHouse$KnowDisk$Sector", name := "kind", desc := "()I" } : Jvm.MethodName)) ∈ lw_all := lw_g (lw_at lw_m13 196 rfl) rfl
theorem q3555 : (Jvm.Cond.code ({ cls := "KnowHouse$KnowDisk$Sector", name := "kind", desc := "()I" } : Jvm.MethodName) prog_22_method_9_code (1 : Nat) (Option.some Jvm.ClassFile.FieldType.int)) ∈ lw_all := lw_g (lw_at lw_m13 197 rfl) rfl
theorem q3556 : (Jvm.Cond.methodLink "KnowHouse$KnowDisk" (153 : Nat) ({ cls := "KnowHouse$KnowDisk", name := "freePage", desc := "()I" } : Jvm.MethodName)) ∈ lw_all := lw_g (lw_at lw_m13 198 rfl) rfl
theorem q3558 : (Jvm.Cond.instanceMethod ({ cls := "KnowHouse$KnowDisk", name := "freePage", desc := "()I" } : Jvm.MethodName)) ∈ lw_all := lw_g (lw_at lw_m13 200 rfl) rfl
theorem q3559 : (Jvm.Cond.code ({ cls := "KnowHouse$KnowDisk", name := "freePage", desc := "()I" } : Jvm.MethodName) prog_21_method_10_code (2 : Nat) (Option.some Jvm.ClassFile.FieldType.int)) ∈ lw_all := lw_g (lw_at lw_m13 201 rfl) rfl
theorem q3560 : (Jvm.Cond.methodLink "KnowHouse$KnowDisk" (156 : Nat) ({ cls := "KnowHouse$KnowDisk$Sector", name := "value", desc := "()J" } : Jvm.MethodName)) ∈ lw_all := lw_g (lw_at lw_m13 202 rfl) rfl
theorem q3561 : (Jvm.Cond.instanceMethod ({ cls := "KnowHouse$KnowDisk$Sector", name := "value", desc := "()J" } : Jvm.MethodName)) ∈ lw_all := lw_g (lw_at lw_m13 203 rfl) rfl
theorem q3562 : (Jvm.Cond.selects "KnowHouse$KnowDisk$Sector" ({ cls := "KnowHouse$KnowDisk$Sector", name := "value", desc := "()J" } : Jvm.MethodName) ({ cls := "KnowHouse$KnowDisk$Sector", name := "value", desc := "()J" } : Jvm.MethodName)) ∈ lw_all := lw_g (lw_at lw_m13 204 rfl) rfl
theorem q3563 : (Jvm.Cond.code ({ cls := "KnowHouse$KnowDisk$Sector", name := "value", desc := "()J" } : Jvm.MethodName) prog_22_method_12_code (1 : Nat) (Option.some Jvm.ClassFile.FieldType.long)) ∈ lw_all := lw_g (lw_at lw_m13 205 rfl) rfl
theorem q3564 : (Jvm.Cond.methodLink "KnowHouse$KnowDisk$Sector" (36 : Nat) ({ cls := "KnowHouse$KnowDisk$Sector", name := "wide", desc := "(I)J" } : Jvm.MethodName)) ∈ lw_all := lw_g (lw_at lw_m13 206 rfl) rfl
theorem q3566 : (Jvm.Cond.instanceMethod ({ cls := "KnowHouse$KnowDisk$Sector", name := "wide", desc := "(I)J" } : Jvm.MethodName)) ∈ lw_all := lw_g (lw_at lw_m13 208 rfl) rfl
theorem q3567 : (Jvm.Cond.code ({ cls := "KnowHouse$KnowDisk$Sector", name := "wide", desc := "(I)J" } : Jvm.MethodName) prog_22_method_3_code (2 : Nat) (Option.some Jvm.ClassFile.FieldType.long)) ∈ lw_all := lw_g (lw_at lw_m13 209 rfl) rfl
theorem q3568 : (Jvm.Cond.methodLink "KnowHouse$KnowDisk$Sector" (15 : Nat) ({ cls := "KnowHouse$KnowDisk$Sector", name := "number", desc := "(I)I" } : Jvm.MethodName)) ∈ lw_all := lw_g (lw_at lw_m13 210 rfl) rfl
theorem q3570 : (Jvm.Cond.instanceMethod ({ cls := "KnowHouse$KnowDisk$Sector", name := "number", desc := "(I)I" } : Jvm.MethodName)) ∈ lw_all := lw_g (lw_at lw_m13 212 rfl) rfl
theorem q3571 : (Jvm.Cond.code ({ cls := "KnowHouse$KnowDisk$Sector", name := "number", desc := "(I)I" } : Jvm.MethodName) prog_22_method_2_code (2 : Nat) (Option.some Jvm.ClassFile.FieldType.int)) ∈ lw_all := lw_g (lw_at lw_m13 213 rfl) rfl
theorem q3572 : (Jvm.Cond.constantLong "KnowHouse$KnowDisk$Sector" (19 : Nat) (4294967295 : Int64)) ∈ lw_all := lw_g (lw_at lw_m13 214 rfl) rfl
theorem q3573 : (Jvm.Cond.methodLink "KnowHouse$KnowDisk" (159 : Nat) ({ cls := "KnowHouse$KnowDisk", name := "derivedFrom", desc := "(J)J" } : Jvm.MethodName)) ∈ lw_all := lw_g (lw_at lw_m13 215 rfl) rfl
theorem q3574 : (Jvm.Cond.static ({ cls := "KnowHouse$KnowDisk", name := "derivedFrom", desc := "(J)J" } : Jvm.MethodName)) ∈ lw_all := lw_g (lw_at lw_m13 216 rfl) rfl
theorem q3575 : (Jvm.Cond.code ({ cls := "KnowHouse$KnowDisk", name := "derivedFrom", desc := "(J)J" } : Jvm.MethodName) prog_21_method_11_code (2 : Nat) (Option.some Jvm.ClassFile.FieldType.long)) ∈ lw_all := lw_g (lw_at lw_m13 217 rfl) rfl
theorem q3576 : (Jvm.Cond.methodLink "KnowHouse$KnowDisk" (123 : Nat) ({ cls := "java/lang/Long", name := "rotateLeft", desc := "(JI)J" } : Jvm.MethodName)) ∈ lw_all := lw_g (lw_at lw_m13 218 rfl) rfl
theorem q3577 : (Jvm.Cond.static ({ cls := "java/lang/Long", name := "rotateLeft", desc := "(JI)J" } : Jvm.MethodName)) ∈ lw_all := lw_g (lw_at lw_m13 219 rfl) rfl
theorem q3578 : (Jvm.Cond.code ({ cls := "java/lang/Long", name := "rotateLeft", desc := "(JI)J" } : Jvm.MethodName) prog_105_method_51_code (3 : Nat) (Option.some Jvm.ClassFile.FieldType.long)) ∈ lw_all := lw_g (lw_at lw_m13 220 rfl) rfl
theorem q3579 : (Jvm.Cond.constantLong "KnowHouse$KnowDisk" (129 : Nat) (25214903917 : Int64)) ∈ lw_all := lw_g (lw_at lw_m13 221 rfl) rfl
theorem q3580 : (Jvm.Cond.methodLink "KnowHouse$KnowDisk" (163 : Nat) ({ cls := "KnowHouse$KnowDisk", name := "lay", desc := "(IIIJ)I" } : Jvm.MethodName)) ∈ lw_all := lw_g (lw_at lw_m13 222 rfl) rfl
theorem q3582 : (Jvm.Cond.instanceMethod ({ cls := "KnowHouse$KnowDisk", name := "lay", desc := "(IIIJ)I" } : Jvm.MethodName)) ∈ lw_all := lw_g (lw_at lw_m13 224 rfl) rfl
theorem q3583 : (Jvm.Cond.code ({ cls := "KnowHouse$KnowDisk", name := "lay", desc := "(IIIJ)I" } : Jvm.MethodName) prog_21_method_12_code (7 : Nat) (Option.some Jvm.ClassFile.FieldType.int)) ∈ lw_all := lw_g (lw_at lw_m13 225 rfl) rfl
theorem q3584 : (Jvm.Cond.methodLink "KnowHouse$KnowDisk" (131 : Nat) ({ cls := "KnowHouse$KnowDisk", name := "free", desc := "()I" } : Jvm.MethodName)) ∈ lw_all := lw_g (lw_at lw_m13 226 rfl) rfl
theorem q3586 : (Jvm.Cond.instanceMethod ({ cls := "KnowHouse$KnowDisk", name := "free", desc := "()I" } : Jvm.MethodName)) ∈ lw_all := lw_g (lw_at lw_m13 228 rfl) rfl
theorem q3587 : (Jvm.Cond.code ({ cls := "KnowHouse$KnowDisk", name := "free", desc := "()I" } : Jvm.MethodName) prog_21_method_9_code (4 : Nat) (Option.some Jvm.ClassFile.FieldType.int)) ∈ lw_all := lw_g (lw_at lw_m13 229 rfl) rfl
theorem q3588 : (Jvm.Cond.methodLink "KnowHouse$KnowDisk" (120 : Nat) ({ cls := "KnowHouse$KnowDisk", name := "held", desc := "()J" } : Jvm.MethodName)) ∈ lw_all := lw_g (lw_at lw_m13 230 rfl) rfl
theorem q3590 : (Jvm.Cond.instanceMethod ({ cls := "KnowHouse$KnowDisk", name := "held", desc := "()J" } : Jvm.MethodName)) ∈ lw_all := lw_g (lw_at lw_m13 232 rfl) rfl
theorem q3591 : (Jvm.Cond.code ({ cls := "KnowHouse$KnowDisk", name := "held", desc := "()J" } : Jvm.MethodName) prog_21_method_8_code (5 : Nat) (Option.some Jvm.ClassFile.FieldType.long)) ∈ lw_all := lw_g (lw_at lw_m13 233 rfl) rfl
theorem q3592 : (Jvm.Cond.methodLink "KnowHouse$KnowDisk" (112 : Nat) ({ cls := "KnowHouse$KnowDisk", name := "open", desc := "()J" } : Jvm.MethodName)) ∈ lw_all := lw_g (lw_at lw_m13 234 rfl) rfl
theorem q3594 : (Jvm.Cond.instanceMethod ({ cls := "KnowHouse$KnowDisk", name := "open", desc := "()J" } : Jvm.MethodName)) ∈ lw_all := lw_g (lw_at lw_m13 236 rfl) rfl
theorem q3595 : (Jvm.Cond.code ({ cls := "KnowHouse$KnowDisk", name := "open", desc := "()J" } : Jvm.MethodName) prog_21_method_7_code (7 : Nat) (Option.some Jvm.ClassFile.FieldType.long)) ∈ lw_all := lw_g (lw_at lw_m13 237 rfl) rfl
theorem q3596 : (Jvm.Cond.methodLink "KnowHouse$KnowDisk" (116 : Nat) ({ cls := "KnowHouse$KnowDisk$State", name := "sectors", desc := "()J" } : Jvm.MethodName)) ∈ lw_all := lw_g (lw_at lw_m13 238 rfl) rfl
theorem q3597 : (Jvm.Cond.instanceMethod ({ cls := "KnowHouse$KnowDisk$State", name := "sectors", desc := "()J" } : Jvm.MethodName)) ∈ lw_all := lw_g (lw_at lw_m13 239 rfl) rfl
theorem q3598 : (Jvm.Cond.selects "KnowHouse$KnowDisk$State" ({ cls := "KnowHouse$KnowDisk$State", name := "sectors", desc := "()J" } : Jvm.MethodName) ({ cls := "KnowHouse$KnowDisk$State", name := "sectors", desc := "()J" } : Jvm.MethodName)) ∈ lw_all := lw_g (lw_at lw_m14 0 rfl) rfl
theorem q3599 : (Jvm.Cond.code ({ cls := "KnowHouse$KnowDisk$State", name := "sectors", desc := "()J" } : Jvm.MethodName) prog_23_method_6_code (1 : Nat) (Option.some Jvm.ClassFile.FieldType.long)) ∈ lw_all := lw_g (lw_at lw_m14 1 rfl) rfl
theorem q3600 : (Jvm.Cond.methodLink "KnowHouse$KnowDisk" (119 : Nat) ({ cls := "java/util/ArrayList", name := "iterator", desc := "()Ljava/util/Iterator;" } : Jvm.MethodName)) ∈ lw_all := lw_g (lw_at lw_m14 2 rfl) rfl
theorem q3601 : (Jvm.Cond.instanceMethod ({ cls := "java/util/ArrayList", name := "iterator", desc := "()Ljava/util/Iterator;" } : Jvm.MethodName)) ∈ lw_all := lw_g (lw_at lw_m14 3 rfl) rfl
theorem q3602 : (Jvm.Cond.selects "java/util/ArrayList" ({ cls := "java/util/ArrayList", name := "iterator", desc := "()Ljava/util/Iterator;" } : Jvm.MethodName) ({ cls := "java/util/ArrayList", name := "iterator", desc := "()Ljava/util/Iterator;" } : Jvm.MethodName)) ∈ lw_all := lw_g (lw_at lw_m14 4 rfl) rfl
theorem q3603 : (Jvm.Cond.code ({ cls := "java/util/ArrayList", name := "iterator", desc := "()Ljava/util/Iterator;" } : Jvm.MethodName) prog_122_method_55_code (1 : Nat) (Option.some (Jvm.ClassFile.FieldType.object "java/util/Iterator"))) ∈ lw_all := lw_g (lw_at lw_m14 5 rfl) rfl
theorem q3604 : (Jvm.Cond.classLink "java/util/ArrayList" (267 : Nat) "java/util/ArrayList$Itr") ∈ lw_all := lw_g (lw_at lw_m14 6 rfl) rfl
theorem q3605 : (Jvm.Cond.instantiable "java/util/ArrayList$Itr" (4 : Nat)) ∈ lw_all := lw_g (lw_at lw_m14 7 rfl) rfl
theorem q3606 : (Jvm.Cond.methodLink "java/util/ArrayList" (269 : Nat) ({ cls := "java/util/ArrayList$Itr", name := "<init>", desc := "(Ljava/util/ArrayList;)V" } : Jvm.MethodName)) ∈ lw_all := lw_g (lw_at lw_m14 8 rfl) rfl
theorem q3607 : (Jvm.Cond.instanceMethod ({ cls := "java/util/ArrayList$Itr", name := "<init>", desc := "(Ljava/util/ArrayList;)V" } : Jvm.MethodName)) ∈ lw_all := lw_g (lw_at lw_m14 9 rfl) rfl
theorem q3608 : (Jvm.Cond.code ({ cls := "java/util/ArrayList$Itr", name := "<init>", desc := "(Ljava/util/ArrayList;)V" } : Jvm.MethodName) prog_123_method_1_code (2 : Nat) (Option.none : Option Jvm.ClassFile.FieldType)) ∈ lw_all := lw_g (lw_at lw_m14 10 rfl) rfl
theorem q3609 : (Jvm.Cond.methodLink "java/util/ArrayList$Itr" (7 : Nat) ({ cls := "java/lang/Object", name := "<init>", desc := "()V" } : Jvm.MethodName)) ∈ lw_all := lw_g (lw_at lw_m14 11 rfl) rfl
theorem q3610 : (Jvm.Cond.fieldLink "java/util/ArrayList$Itr" (25 : Nat) "java/util/ArrayList$Itr" "cursor" "I") ∈ lw_all := lw_g (lw_at lw_m14 12 rfl) rfl
theorem q3611 : (Jvm.Cond.fieldLink "java/util/ArrayList$Itr" (13 : Nat) "java/util/ArrayList$Itr" "lastRet" "I") ∈ lw_all := lw_g (lw_at lw_m14 13 rfl) rfl
theorem q3612 : (Jvm.Cond.fieldLink "java/util/ArrayList$Itr" (22 : Nat) "java/util/ArrayList$Itr" "expectedModCount" "I") ∈ lw_all := lw_g (lw_at lw_m14 14 rfl) rfl
theorem q3613 : (Jvm.Cond.fieldLink "java/util/ArrayList$Itr" (1 : Nat) "java/util/ArrayList$Itr" "this$0" "Ljava/util/ArrayList;") ∈ lw_all := lw_g (lw_at lw_m14 15 rfl) rfl
theorem q3623 : (Jvm.Cond.methodLink "KnowHouse$KnowDisk" (137 : Nat) ({ cls := "KnowHouse$KnowDisk$Sector", name := "of", desc := "(IIIJI)LKnowHouse$KnowDisk$Sector;" } : Jvm.MethodName)) ∈ lw_all := lw_g (lw_at lw_m14 25 rfl) rfl
theorem q3624 : (Jvm.Cond.static ({ cls := "KnowHouse$KnowDisk$Sector", name := "of", desc := "(IIIJI)LKnowHouse$KnowDisk$Sector;" } : Jvm.MethodName)) ∈ lw_all := lw_g (lw_at lw_m14 26 rfl) rfl
theorem q3625 : (Jvm.Cond.code ({ cls := "KnowHouse$KnowDisk$Sector", name := "of", desc := "(IIIJI)LKnowHouse$KnowDisk$Sector;" } : Jvm.MethodName) prog_22_method_13_code (7 : Nat) (Option.some (Jvm.ClassFile.FieldType.object "KnowHouse$KnowDisk$Sector"))) ∈ lw_all := lw_g (lw_at lw_m14 27 rfl) rfl
theorem q3626 : (Jvm.Cond.classLink "KnowHouse$KnowDisk$Sector" (10 : Nat) "KnowHouse$KnowDisk$Sector") ∈ lw_all := lw_g (lw_at lw_m14 28 rfl) rfl
theorem q3627 : (Jvm.Cond.methodLink "KnowHouse$KnowDisk$Sector" (40 : Nat) ({ cls := "KnowHouse$KnowDisk$Sector", name := "<init>", desc := "()V" } : Jvm.MethodName)) ∈ lw_all := lw_g (lw_at lw_m14 29 rfl) rfl
theorem q3628 : (Jvm.Cond.methodLink "KnowHouse$KnowDisk$Sector" (41 : Nat) ({ cls := "KnowHouse$KnowDisk$Sector", name := "setWide", desc := "(IJ)V" } : Jvm.MethodName)) ∈ lw_all := lw_g (lw_at lw_m14 30 rfl) rfl
theorem q3630 : (Jvm.Cond.instanceMethod ({ cls := "KnowHouse$KnowDisk$Sector", name := "setWide", desc := "(IJ)V" } : Jvm.MethodName)) ∈ lw_all := lw_g (lw_at lw_m14 32 rfl) rfl
theorem q3631 : (Jvm.Cond.code ({ cls := "KnowHouse$KnowDisk$Sector", name := "setWide", desc := "(IJ)V" } : Jvm.MethodName) prog_22_method_5_code (4 : Nat) (Option.none : Option Jvm.ClassFile.FieldType)) ∈ lw_all := lw_g (lw_at lw_m14 33 rfl) rfl
theorem q3632 : (Jvm.Cond.methodLink "KnowHouse$KnowDisk$Sector" (21 : Nat) ({ cls := "KnowHouse$KnowDisk$Sector", name := "set", desc := "(II)V" } : Jvm.MethodName)) ∈ lw_all := lw_g (lw_at lw_m14 34 rfl) rfl
theorem q3634 : (Jvm.Cond.instanceMethod ({ cls := "KnowHouse$KnowDisk$Sector", name := "set", desc := "(II)V" } : Jvm.MethodName)) ∈ lw_all := lw_g (lw_at lw_m14 36 rfl) rfl
theorem q3635 : (Jvm.Cond.code ({ cls := "KnowHouse$KnowDisk$Sector", name := "set", desc := "(II)V" } : Jvm.MethodName) prog_22_method_4_code (4 : Nat) (Option.none : Option Jvm.ClassFile.FieldType)) ∈ lw_all := lw_g (lw_at lw_m14 37 rfl) rfl
theorem q3640 : (Jvm.Cond.methodLink "KnowHouse$KnowDisk" (176 : Nat) ({ cls := "KnowHouse$KnowDisk", name := "latest", desc := "()LKnowHouse$KnowDisk$State;" } : Jvm.MethodName)) ∈ lw_all := lw_g (lw_at lw_m14 42 rfl) rfl
theorem q3642 : (Jvm.Cond.instanceMethod ({ cls := "KnowHouse$KnowDisk", name := "latest", desc := "()LKnowHouse$KnowDisk$State;" } : Jvm.MethodName)) ∈ lw_all := lw_g (lw_at lw_m14 44 rfl) rfl
theorem q3643 : (Jvm.Cond.code ({ cls := "KnowHouse$KnowDisk", name := "latest", desc := "()LKnowHouse$KnowDisk$State;" } : Jvm.MethodName) prog_21_method_16_code (1 : Nat) (Option.some (Jvm.ClassFile.FieldType.object "KnowHouse$KnowDisk$State"))) ∈ lw_all := lw_g (lw_at lw_m14 45 rfl) rfl
theorem q3644 : (Jvm.Cond.methodLink "KnowHouse$KnowDisk" (173 : Nat) ({ cls := "java/util/ArrayDeque", name := "peekLast", desc := "()Ljava/lang/Object;" } : Jvm.MethodName)) ∈ lw_all := lw_g (lw_at lw_m14 46 rfl) rfl
theorem q3645 : (Jvm.Cond.instanceMethod ({ cls := "java/util/ArrayDeque", name := "peekLast", desc := "()Ljava/lang/Object;" } : Jvm.MethodName)) ∈ lw_all := lw_g (lw_at lw_m14 47 rfl) rfl
theorem q3646 : (Jvm.Cond.selects "java/util/ArrayDeque" ({ cls := "java/util/ArrayDeque", name := "peekLast", desc := "()Ljava/lang/Object;" } : Jvm.MethodName) ({ cls := "java/util/ArrayDeque", name := "peekLast", desc := "()Ljava/lang/Object;" } : Jvm.MethodName)) ∈ lw_all := lw_g (lw_at lw_m14 48 rfl) rfl
theorem q3647 : (Jvm.Cond.code ({ cls := "java/util/ArrayDeque", name := "peekLast", desc := "()Ljava/lang/Object;" } : Jvm.MethodName) prog_120_method_25_code (2 : Nat) (Option.some (Jvm.ClassFile.FieldType.object "java/lang/Object"))) ∈ lw_all := lw_g (lw_at lw_m14 49 rfl) rfl
theorem q3648 : (Jvm.Cond.methodLink "java/util/ArrayDeque" (68 : Nat) ({ cls := "java/util/ArrayDeque", name := "dec", desc := "(II)I" } : Jvm.MethodName)) ∈ lw_all := lw_g (lw_at lw_m14 50 rfl) rfl
theorem q3649 : (Jvm.Cond.static ({ cls := "java/util/ArrayDeque", name := "dec", desc := "(II)I" } : Jvm.MethodName)) ∈ lw_all := lw_g (lw_at lw_m14 51 rfl) rfl
theorem q3650 : (Jvm.Cond.code ({ cls := "java/util/ArrayDeque", name := "dec", desc := "(II)I" } : Jvm.MethodName) prog_120_method_7_code (2 : Nat) (Option.some Jvm.ClassFile.FieldType.int)) ∈ lw_all := lw_g (lw_at lw_m14 52 rfl) rfl
theorem q3651 : (Jvm.Cond.methodLink "java/util/ArrayDeque" (103 : Nat) ({ cls := "java/util/ArrayDeque", name := "elementAt", desc := "([Ljava/lang/Object;I)Ljava/lang/Object;" } : Jvm.MethodName)) ∈ lw_all := lw_g (lw_at lw_m14 53 rfl) rfl
theorem q3652 : (Jvm.Cond.static ({ cls := "java/util/ArrayDeque", name := "elementAt", desc := "([Ljava/lang/Object;I)Ljava/lang/Object;" } : Jvm.MethodName)) ∈ lw_all := lw_g (lw_at lw_m14 54 rfl) rfl
theorem q3653 : (Jvm.Cond.code ({ cls := "java/util/ArrayDeque", name := "elementAt", desc := "([Ljava/lang/Object;I)Ljava/lang/Object;" } : Jvm.MethodName) prog_120_method_10_code (2 : Nat) (Option.some (Jvm.ClassFile.FieldType.object "java/lang/Object"))) ∈ lw_all := lw_g (lw_at lw_m14 55 rfl) rfl
theorem q3654 : (Jvm.Cond.methodLink "KnowHouse$KnowDisk" (180 : Nat) ({ cls := "KnowHouse$KnowDisk$State", name := "number", desc := "()I" } : Jvm.MethodName)) ∈ lw_all := lw_g (lw_at lw_m14 56 rfl) rfl
theorem q3655 : (Jvm.Cond.instanceMethod ({ cls := "KnowHouse$KnowDisk$State", name := "number", desc := "()I" } : Jvm.MethodName)) ∈ lw_all := lw_g (lw_at lw_m14 57 rfl) rfl
theorem q3656 : (Jvm.Cond.selects "KnowHouse$KnowDisk$State" ({ cls := "KnowHouse$KnowDisk$State", name := "number", desc := "()I" } : Jvm.MethodName) ({ cls := "KnowHouse$KnowDisk$State", name := "number", desc := "()I" } : Jvm.MethodName)) ∈ lw_all := lw_g (lw_at lw_m14 58 rfl) rfl
theorem q3657 : (Jvm.Cond.code ({ cls := "KnowHouse$KnowDisk$State", name := "number", desc := "()I" } : Jvm.MethodName) prog_23_method_5_code (1 : Nat) (Option.some Jvm.ClassFile.FieldType.int)) ∈ lw_all := lw_g (lw_at lw_m14 59 rfl) rfl
theorem q3658 : (Jvm.Cond.constant "KnowHouse$KnowDisk" (183 : Nat) (1000000 : Int32)) ∈ lw_all := lw_g (lw_at lw_m14 60 rfl) rfl
theorem q3659 : (Jvm.Cond.methodLink "KnowHouse$KnowDisk" (184 : Nat) ({ cls := "java/util/ArrayDeque", name := "size", desc := "()I" } : Jvm.MethodName)) ∈ lw_all := lw_g (lw_at lw_m14 61 rfl) rfl
theorem q3660 : (Jvm.Cond.methodLinkNest "KnowHouse$KnowDisk" (187 : Nat) ({ cls := "KnowHouse$KnowDisk$Sector", name := "set", desc := "(II)V" } : Jvm.MethodName) "KnowHouse") ∈ lw_tbl := lw_at lw_m14 62 rfl
theorem q3661 : (Jvm.Cond.methodLink "KnowHouse$KnowDisk" (191 : Nat) ({ cls := "KnowHouse$KnowDisk$Sector", name := "close", desc := "()V" } : Jvm.MethodName)) ∈ lw_all := lw_g (lw_at lw_m14 63 rfl) rfl
theorem q3662 : (Jvm.Cond.instanceMethod ({ cls := "KnowHouse$KnowDisk$Sector", name := "close", desc := "()V" } : Jvm.MethodName)) ∈ lw_all := lw_g (lw_at lw_m14 64 rfl) rfl
theorem q3663 : (Jvm.Cond.selects "KnowHouse$KnowDisk$Sector" ({ cls := "KnowHouse$KnowDisk$Sector", name := "close", desc := "()V" } : Jvm.MethodName) ({ cls := "KnowHouse$KnowDisk$Sector", name := "close", desc := "()V" } : Jvm.MethodName)) ∈ lw_all := lw_g (lw_at lw_m14 65 rfl) rfl
theorem q3664 : (Jvm.Cond.code ({ cls := "KnowHouse$KnowDisk$Sector", name := "close", desc := "()V" } : Jvm.MethodName) prog_22_method_7_code (1 : Nat) (Option.none : Option Jvm.ClassFile.FieldType)) ∈ lw_all := lw_g (lw_at lw_m14 66 rfl) rfl
theorem q3665 : (Jvm.Cond.methodLink "KnowHouse$KnowDisk$Sector" (32 : Nat) ({ cls := "KnowHouse$KnowDisk$Sector", name := "sum", desc := "()I" } : Jvm.MethodName)) ∈ lw_all := lw_g (lw_at lw_m14 67 rfl) rfl
theorem q3667 : (Jvm.Cond.instanceMethod ({ cls := "KnowHouse$KnowDisk$Sector", name := "sum", desc := "()I" } : Jvm.MethodName)) ∈ lw_all := lw_g (lw_at lw_m14 69 rfl) rfl
theorem q3668 : (Jvm.Cond.code ({ cls := "KnowHouse$KnowDisk$Sector", name := "sum", desc := "()I" } : Jvm.MethodName) prog_22_method_6_code (3 : Nat) (Option.some Jvm.ClassFile.FieldType.int)) ∈ lw_all := lw_g (lw_at lw_m14 70 rfl) rfl
theorem q3669 : (Jvm.Cond.methodLink "KnowHouse$KnowDisk$Sector" (25 : Nat) ({ cls := "java/lang/Integer", name := "rotateLeft", desc := "(II)I" } : Jvm.MethodName)) ∈ lw_all := lw_g (lw_at lw_m14 71 rfl) rfl
theorem q3670 : (Jvm.Cond.static ({ cls := "java/lang/Integer", name := "rotateLeft", desc := "(II)I" } : Jvm.MethodName)) ∈ lw_all := lw_g (lw_at lw_m14 72 rfl) rfl
theorem q3671 : (Jvm.Cond.code ({ cls := "java/lang/Integer", name := "rotateLeft", desc := "(II)I" } : Jvm.MethodName) prog_103_method_50_code (2 : Nat) (Option.some Jvm.ClassFile.FieldType.int)) ∈ lw_all := lw_g (lw_at lw_m14 73 rfl) rfl
theorem q3672 : (Jvm.Cond.constant "KnowHouse$KnowDisk$Sector" (31 : Nat) (-2048144777 : Int32)) ∈ lw_all := lw_g (lw_at lw_m14 74 rfl) rfl
theorem q3673 : (Jvm.Cond.instantiable "KnowHouse$KnowDisk$Write" (2 : Nat)) ∈ lw_all := lw_g (lw_at lw_m14 75 rfl) rfl
theorem q3674 : (Jvm.Cond.methodLinkNest "KnowHouse$KnowDisk" (194 : Nat) ({ cls := "KnowHouse$KnowDisk$Write", name := "<init>", desc := "(ILKnowHouse$KnowDisk$Sector;)V" } : Jvm.MethodName) "KnowHouse") ∈ lw_tbl := lw_at lw_m14 76 rfl
theorem q3675 : (Jvm.Cond.instanceMethod ({ cls := "KnowHouse$KnowDisk$Write", name := "<init>", desc := "(ILKnowHouse$KnowDisk$Sector;)V" } : Jvm.MethodName)) ∈ lw_all := lw_g (lw_at lw_m14 77 rfl) rfl
theorem q3676 : (Jvm.Cond.code ({ cls := "KnowHouse$KnowDisk$Write", name := "<init>", desc := "(ILKnowHouse$KnowDisk$Sector;)V" } : Jvm.MethodName) prog_24_method_1_code (3 : Nat) (Option.none : Option Jvm.ClassFile.FieldType)) ∈ lw_all := lw_g (lw_at lw_m14 78 rfl) rfl
theorem q3677 : (Jvm.Cond.methodLink "KnowHouse$KnowDisk$Write" (1 : Nat) ({ cls := "java/lang/Record", name := "<init>", desc := "()V" } : Jvm.MethodName)) ∈ lw_all := lw_g (lw_at lw_m14 79 rfl) rfl
theorem q3678 : (Jvm.Cond.fieldLink "KnowHouse$KnowDisk$Write" (7 : Nat) "KnowHouse$KnowDisk$Write" "to" "I") ∈ lw_all := lw_g (lw_at lw_m14 80 rfl) rfl
theorem q3679 : (Jvm.Cond.fieldLink "KnowHouse$KnowDisk$Write" (13 : Nat) "KnowHouse$KnowDisk$Write" "sector" "LKnowHouse$KnowDisk$Sector;") ∈ lw_all := lw_g (lw_at lw_m14 81 rfl) rfl
theorem q3685 : (Jvm.Cond.methodLinkNest "KnowHouse$KnowDisk" (197 : Nat) ({ cls := "KnowHouse$KnowDisk$Sector", name := "number", desc := "(I)I" } : Jvm.MethodName) "KnowHouse") ∈ lw_tbl := lw_at lw_m14 87 rfl
theorem q3686 : (Jvm.Cond.methodLinkNest "KnowHouse$KnowDisk" (200 : Nat) ({ cls := "KnowHouse$KnowDisk$Sector", name := "setWide", desc := "(IJ)V" } : Jvm.MethodName) "KnowHouse") ∈ lw_tbl := lw_at lw_m14 88 rfl
theorem q3691 : (Jvm.Cond.methodLink "KnowHouse$KnowDisk" (203 : Nat) ({ cls := "java/util/ArrayDeque", name := "isEmpty", desc := "()Z" } : Jvm.MethodName)) ∈ lw_all := lw_g (lw_at lw_m14 93 rfl) rfl
theorem q3692 : (Jvm.Cond.instanceMethod ({ cls := "java/util/ArrayDeque", name := "isEmpty", desc := "()Z" } : Jvm.MethodName)) ∈ lw_all := lw_g (lw_at lw_m14 94 rfl) rfl
theorem q3693 : (Jvm.Cond.selects "java/util/ArrayDeque" ({ cls := "java/util/ArrayDeque", name := "isEmpty", desc := "()Z" } : Jvm.MethodName) ({ cls := "java/util/ArrayDeque", name := "isEmpty", desc := "()Z" } : Jvm.MethodName)) ∈ lw_all := lw_g (lw_at lw_m14 95 rfl) rfl
theorem q3694 : (Jvm.Cond.code ({ cls := "java/util/ArrayDeque", name := "isEmpty", desc := "()Z" } : Jvm.MethodName) prog_120_method_38_code (1 : Nat) (Option.some Jvm.ClassFile.FieldType.boolean)) ∈ lw_all := lw_g (lw_at lw_m14 96 rfl) rfl
theorem q3695 : (Jvm.Cond.methodLink "KnowHouse$KnowDisk" (206 : Nat) ({ cls := "java/util/ArrayDeque", name := "poll", desc := "()Ljava/lang/Object;" } : Jvm.MethodName)) ∈ lw_all := lw_g (lw_at lw_m14 97 rfl) rfl
theorem q3696 : (Jvm.Cond.instanceMethod ({ cls := "java/util/ArrayDeque", name := "poll", desc := "()Ljava/lang/Object;" } : Jvm.MethodName)) ∈ lw_all := lw_g (lw_at lw_m14 98 rfl) rfl
theorem q3697 : (Jvm.Cond.selects "java/util/ArrayDeque" ({ cls := "java/util/ArrayDeque", name := "poll", desc := "()Ljava/lang/Object;" } : Jvm.MethodName) ({ cls := "java/util/ArrayDeque", name := "poll", desc := "()Ljava/lang/Object;" } : Jvm.MethodName)) ∈ lw_all := lw_g (lw_at lw_m14 99 rfl) rfl
theorem q3698 : (Jvm.Cond.code ({ cls := "java/util/ArrayDeque", name := "poll", desc := "()Ljava/lang/Object;" } : Jvm.MethodName) prog_120_method_31_code (1 : Nat) (Option.some (Jvm.ClassFile.FieldType.object "java/lang/Object"))) ∈ lw_all := lw_g (lw_at lw_m14 100 rfl) rfl
theorem q3699 : (Jvm.Cond.methodLink "java/util/ArrayDeque" (93 : Nat) ({ cls := "java/util/ArrayDeque", name := "pollFirst", desc := "()Ljava/lang/Object;" } : Jvm.MethodName)) ∈ lw_all := lw_g (lw_at lw_m14 101 rfl) rfl
theorem q3700 : (Jvm.Cond.instanceMethod ({ cls := "java/util/ArrayDeque", name := "pollFirst", desc := "()Ljava/lang/Object;" } : Jvm.MethodName)) ∈ lw_all := lw_g (lw_at lw_m14 102 rfl) rfl
theorem q3701 : (Jvm.Cond.selects "java/util/ArrayDeque" ({ cls := "java/util/ArrayDeque", name := "pollFirst", desc := "()Ljava/lang/Object;" } : Jvm.MethodName) ({ cls := "java/util/ArrayDeque", name := "pollFirst", desc := "()Ljava/lang/Object;" } : Jvm.MethodName)) ∈ lw_all := lw_g (lw_at lw_m14 103 rfl) rfl
theorem q3702 : (Jvm.Cond.code ({ cls := "java/util/ArrayDeque", name := "pollFirst", desc := "()Ljava/lang/Object;" } : Jvm.MethodName) prog_120_method_20_code (4 : Nat) (Option.some (Jvm.ClassFile.FieldType.object "java/lang/Object"))) ∈ lw_all := lw_g (lw_at lw_m14 104 rfl) rfl
theorem q3703 : (Jvm.Cond.methodLink "KnowHouse$KnowDisk" (209 : Nat) ({ cls := "KnowHouse$KnowDisk", name := "write", desc := "(LKnowHouse$KnowDisk$Write;I)V" } : Jvm.MethodName)) ∈ lw_all := lw_g (lw_at lw_m14 105 rfl) rfl
theorem q3705 : (Jvm.Cond.instanceMethod ({ cls := "KnowHouse$KnowDisk", name := "write", desc := "(LKnowHouse$KnowDisk$Write;I)V" } : Jvm.MethodName)) ∈ lw_all := lw_g (lw_at lw_m14 107 rfl) rfl
theorem q3706 : (Jvm.Cond.code ({ cls := "KnowHouse$KnowDisk", name := "write", desc := "(LKnowHouse$KnowDisk$Write;I)V" } : Jvm.MethodName) prog_21_method_18_code (3 : Nat) (Option.none : Option Jvm.ClassFile.FieldType)) ∈ lw_all := lw_g (lw_at lw_m14 108 rfl) rfl
theorem q5628 : (Jvm.Cond.methodLink "KnowHouse$KnowDisk" (213 : Nat) ({ cls := "java/lang/Math", name := "min", desc := "(II)I" } : Jvm.MethodName)) ∈ lw_all := lw_g (lw_at lw_m22 110 rfl) rfl
theorem q5629 : (Jvm.Cond.methodLink "KnowHouse$KnowDisk" (216 : Nat) ({ cls := "java/lang/Math", name := "max", desc := "(II)I" } : Jvm.MethodName)) ∈ lw_all := lw_g (lw_at lw_m22 111 rfl) rfl
theorem q5634 : (Jvm.Cond.methodLink "KnowHouse$KnowDisk" (232 : Nat) ({ cls := "KnowHouse$KnowDisk", name := "whole", desc := "(I)LKnowHouse$KnowDisk$State;" } : Jvm.MethodName)) ∈ lw_all := lw_g (lw_at lw_m22 116 rfl) rfl
theorem q5636 : (Jvm.Cond.instanceMethod ({ cls := "KnowHouse$KnowDisk", name := "whole", desc := "(I)LKnowHouse$KnowDisk$State;" } : Jvm.MethodName)) ∈ lw_all := lw_g (lw_at lw_m22 118 rfl) rfl
theorem q5637 : (Jvm.Cond.code ({ cls := "KnowHouse$KnowDisk", name := "whole", desc := "(I)LKnowHouse$KnowDisk$State;" } : Jvm.MethodName) prog_21_method_21_code (12 : Nat) (Option.some (Jvm.ClassFile.FieldType.object "KnowHouse$KnowDisk$State"))) ∈ lw_all := lw_g (lw_at lw_m22 119 rfl) rfl
theorem q5638 : (Jvm.Cond.methodLink "KnowHouse$KnowDisk" (170 : Nat) ({ cls := "KnowHouse$KnowDisk$Sector", name := "isRight", desc := "()Z" } : Jvm.MethodName)) ∈ lw_all := lw_g (lw_at lw_m22 120 rfl) rfl
theorem q5639 : (Jvm.Cond.instanceMethod ({ cls := "KnowHouse$KnowDisk$Sector", name := "isRight", desc := "()Z" } : Jvm.MethodName)) ∈ lw_all := lw_g (lw_at lw_m22 121 rfl) rfl
theorem q5640 : (Jvm.Cond.selects "KnowHouse$KnowDisk$Sector" ({ cls := "KnowHouse$KnowDisk$Sector", name := "isRight", desc := "()Z" } : Jvm.MethodName) ({ cls := "KnowHouse$KnowDisk$Sector", name := "isRight", desc := "()Z" } : Jvm.MethodName)) ∈ lw_all := lw_g (lw_at lw_m22 122 rfl) rfl
theorem q5641 : (Jvm.Cond.code ({ cls := "KnowHouse$KnowDisk$Sector", name := "isRight", desc := "()Z" } : Jvm.MethodName) prog_22_method_8_code (1 : Nat) (Option.some Jvm.ClassFile.FieldType.boolean)) ∈ lw_all := lw_g (lw_at lw_m22 123 rfl) rfl
theorem q5642 : (Jvm.Cond.methodLinkNest "KnowHouse$KnowDisk" (219 : Nat) ({ cls := "KnowHouse$KnowDisk$Sector", name := "wide", desc := "(I)J" } : Jvm.MethodName) "KnowHouse") ∈ lw_tbl := lw_at lw_m22 124 rfl
theorem q5643 : (Jvm.Cond.constantLong "KnowHouse$KnowDisk" (223 : Nat) (3 : Int64)) ∈ lw_all := lw_g (lw_at lw_m22 125 rfl) rfl
theorem q5644 : (Jvm.Cond.methodLink "KnowHouse$KnowDisk" (225 : Nat) ({ cls := "java/lang/Long", name := "numberOfTrailingZeros", desc := "(J)I" } : Jvm.MethodName)) ∈ lw_all := lw_g (lw_at lw_m22 126 rfl) rfl
theorem q5645 : (Jvm.Cond.methodLink "KnowHouse$KnowDisk" (229 : Nat) ({ cls := "KnowHouse$KnowDisk$Sector", name := "page", desc := "()I" } : Jvm.MethodName)) ∈ lw_all := lw_g (lw_at lw_m22 127 rfl) rfl
theorem q5646 : (Jvm.Cond.instanceMethod ({ cls := "KnowHouse$KnowDisk$Sector", name := "page", desc := "()I" } : Jvm.MethodName)) ∈ lw_all := lw_g (lw_at lw_m22 128 rfl) rfl
theorem q5647 : (Jvm.Cond.selects "KnowHouse$KnowDisk$Sector" ({ cls := "KnowHouse$KnowDisk$Sector", name := "page", desc := "()I" } : Jvm.MethodName) ({ cls := "KnowHouse$KnowDisk$Sector", name := "page", desc := "()I" } : Jvm.MethodName)) ∈ lw_all := lw_g (lw_at lw_m22 129 rfl) rfl
theorem q5648 : (Jvm.Cond.code ({ cls := "KnowHouse$KnowDisk$Sector", name := "page", desc := "()I" } : Jvm.MethodName) prog_22_method_10_code (1 : Nat) (Option.some Jvm.ClassFile.FieldType.int)) ∈ lw_all := lw_g (lw_at lw_m22 130 rfl) rfl
theorem q5653 : (Jvm.Cond.methodLink "KnowHouse$KnowDisk" (240 : Nat) ({ cls := "KnowHouse$KnowDisk", name := "isWaiting", desc := "(I)Z" } : Jvm.MethodName)) ∈ lw_all := lw_g (lw_at lw_m22 135 rfl) rfl
theorem q5655 : (Jvm.Cond.instanceMethod ({ cls := "KnowHouse$KnowDisk", name := "isWaiting", desc := "(I)Z" } : Jvm.MethodName)) ∈ lw_all := lw_g (lw_at lw_m22 137 rfl) rfl
theorem q5656 : (Jvm.Cond.code ({ cls := "KnowHouse$KnowDisk", name := "isWaiting", desc := "(I)Z" } : Jvm.MethodName) prog_21_method_5_code (4 : Nat) (Option.some Jvm.ClassFile.FieldType.boolean)) ∈ lw_all := lw_g (lw_at lw_m22 138 rfl) rfl
theorem q5665 : (Jvm.Cond.methodLink "KnowHouse$KnowDisk" (243 : Nat) ({ cls := "java/util/ArrayList", name := "size", desc := "()I" } : Jvm.MethodName)) ∈ lw_all := lw_g (lw_at lw_m22 147 rfl) rfl
theorem q5666 : (Jvm.Cond.methodLink "KnowHouse$KnowDisk" (244 : Nat) ({ cls := "java/util/ArrayList", name := "add", desc := "(Ljava/lang/Object;)Z" } : Jvm.MethodName)) ∈ lw_all := lw_g (lw_at lw_m22 148 rfl) rfl
theorem q5667 : (Jvm.Cond.methodLink "KnowHouse$KnowDisk" (245 : Nat) ({ cls := "java/lang/Long", name := "bitCount", desc := "(J)I" } : Jvm.MethodName)) ∈ lw_all := lw_g (lw_at lw_m22 149 rfl) rfl
theorem q5672 : (Jvm.Cond.methodLink "KnowHouse$KnowDisk" (248 : Nat) ({ cls := "java/util/ArrayList", name := "get", desc := "(I)Ljava/lang/Object;" } : Jvm.MethodName)) ∈ lw_all := lw_g (lw_at lw_m22 154 rfl) rfl
theorem q5673 : (Jvm.Cond.methodLink "KnowHouse$KnowDisk" (252 : Nat) ({ cls := "java/util/ArrayList", name := "remove", desc := "(I)Ljava/lang/Object;" } : Jvm.MethodName)) ∈ lw_all := lw_g (lw_at lw_m22 155 rfl) rfl
theorem q5674 : (Jvm.Cond.constantLong "KnowHouse$KnowDisk" (255 : Nat) (-1 : Int64)) ∈ lw_all := lw_g (lw_at lw_m22 156 rfl) rfl
theorem q5679 : (Jvm.Cond.methodLink "KnowHouse$KnowDisk" (167 : Nat) ({ cls := "KnowHouse$KnowDisk$Sector", name := "source", desc := "()I" } : Jvm.MethodName)) ∈ lw_all := lw_g (lw_at lw_m22 161 rfl) rfl
theorem q5680 : (Jvm.Cond.instanceMethod ({ cls := "KnowHouse$KnowDisk$Sector", name := "source", desc := "()I" } : Jvm.MethodName)) ∈ lw_all := lw_g (lw_at lw_m22 162 rfl) rfl
theorem q5681 : (Jvm.Cond.selects "KnowHouse$KnowDisk$Sector" ({ cls := "KnowHouse$KnowDisk$Sector", name := "source", desc := "()I" } : Jvm.MethodName) ({ cls := "KnowHouse$KnowDisk$Sector", name := "source", desc := "()I" } : Jvm.MethodName)) ∈ lw_all := lw_g (lw_at lw_m22 163 rfl) rfl
theorem q5682 : (Jvm.Cond.code ({ cls := "KnowHouse$KnowDisk$Sector", name := "source", desc := "()I" } : Jvm.MethodName) prog_22_method_11_code (1 : Nat) (Option.some Jvm.ClassFile.FieldType.int)) ∈ lw_all := lw_g (lw_at lw_m22 164 rfl) rfl
theorem q9073 : (Jvm.Cond.castable "KnowHouse$KnowDisk$State" "java/lang/Object") ∈ lw_tbl := lw_at lw_m36 195 rfl
theorem q9097 : (Jvm.Cond.castable "KnowHouse$KnowDisk$Write" "java/lang/Object") ∈ lw_tbl := lw_at lw_m36 219 rfl
theorem hKDx27_X42_sector : "java/util/Iterator" ≠ "java/lang/invoke/MethodHandle" ∧ "java/util/Iterator" ≠ "java/lang/invoke/VarHandle" ∧ (parseMethodDescriptor "()Z").map (fun d => d.parameters.length) = some 0 := by decide +kernel
theorem hKDx36_X42_sector : "java/util/Iterator" ≠ "java/lang/invoke/MethodHandle" ∧ "java/util/Iterator" ≠ "java/lang/invoke/VarHandle" ∧ (parseMethodDescriptor "()Ljava/lang/Object;").map (fun d => d.parameters.length) = some 0 := by decide +kernel
theorem hKDx14_X42_held : "java/util/Iterator" ≠ "java/lang/invoke/MethodHandle" ∧ "java/util/Iterator" ≠ "java/lang/invoke/VarHandle" ∧ (parseMethodDescriptor "()Z").map (fun d => d.parameters.length) = some 0 := by decide +kernel
theorem hKDx23_X42_held : "java/util/Iterator" ≠ "java/lang/invoke/MethodHandle" ∧ "java/util/Iterator" ≠ "java/lang/invoke/VarHandle" ∧ (parseMethodDescriptor "()Ljava/lang/Object;").map (fun d => d.parameters.length) = some 0 := by decide +kernel
theorem hKDx53_X42_held : "java/util/Iterator" ≠ "java/lang/invoke/MethodHandle" ∧ "java/util/Iterator" ≠ "java/lang/invoke/VarHandle" ∧ (parseMethodDescriptor "()Z").map (fun d => d.parameters.length) = some 0 := by decide +kernel
theorem hKDx62_X42_held : "java/util/Iterator" ≠ "java/lang/invoke/MethodHandle" ∧ "java/util/Iterator" ≠ "java/lang/invoke/VarHandle" ∧ (parseMethodDescriptor "()Ljava/lang/Object;").map (fun d => d.parameters.length) = some 0 := by decide +kernel
theorem hKDx92_X42_held : "java/util/Iterator" ≠ "java/lang/invoke/MethodHandle" ∧ "java/util/Iterator" ≠ "java/lang/invoke/VarHandle" ∧ (parseMethodDescriptor "()Z").map (fun d => d.parameters.length) = some 0 := by decide +kernel
theorem hKDx101_X42_held : "java/util/Iterator" ≠ "java/lang/invoke/MethodHandle" ∧ "java/util/Iterator" ≠ "java/lang/invoke/VarHandle" ∧ (parseMethodDescriptor "()Ljava/lang/Object;").map (fun d => d.parameters.length) = some 0 := by decide +kernel
theorem hKDx9_X42_isWaiting : "java/util/Iterator" ≠ "java/lang/invoke/MethodHandle" ∧ "java/util/Iterator" ≠ "java/lang/invoke/VarHandle" ∧ (parseMethodDescriptor "()Z").map (fun d => d.parameters.length) = some 0 := by decide +kernel
theorem hKDx18_X42_isWaiting : "java/util/Iterator" ≠ "java/lang/invoke/MethodHandle" ∧ "java/util/Iterator" ≠ "java/lang/invoke/VarHandle" ∧ (parseMethodDescriptor "()Ljava/lang/Object;").map (fun d => d.parameters.length) = some 0 := by decide +kernel
theorem hKDJ0_init : yJ0_init.cls ≠ "java/lang/invoke/MethodHandle" ∧ yJ0_init.cls ≠ "java/lang/invoke/VarHandle" ∧ (parseMethodDescriptor yJ0_init.desc).map (fun d => d.parameters.length) = some 0 := by decide +kernel
theorem hKDJ1_init : yJ1_init.cls ≠ "java/lang/invoke/MethodHandle" ∧ yJ1_init.cls ≠ "java/lang/invoke/VarHandle" ∧ (parseMethodDescriptor yJ1_init.desc).map (fun d => d.parameters.length) = some 0 := by decide +kernel
theorem hKDJ7_init : yJ7_init.cls ≠ "java/lang/invoke/MethodHandle" ∧ yJ7_init.cls ≠ "java/lang/invoke/VarHandle" ∧ (parseMethodDescriptor yJ7_init.desc).map (fun d => d.parameters.length) = some 0 := by decide +kernel
theorem hKDJ5_circularClear : yJ5_circularClear.cls ≠ "java/lang/invoke/MethodHandle" ∧ yJ5_circularClear.cls ≠ "java/lang/invoke/VarHandle" ∧ (parseMethodDescriptor yJ5_circularClear.desc).map (fun d => d.parameters.length) = some 3 := by decide +kernel
theorem hKDJ12_copyOf_2 : yJ12_copyOf_2.cls ≠ "java/lang/invoke/MethodHandle" ∧ yJ12_copyOf_2.cls ≠ "java/lang/invoke/VarHandle" ∧ (parseMethodDescriptor yJ12_copyOf_2.desc).map (fun d => d.parameters.length) = some 3 := by decide +kernel
theorem hKDJ5_newCapacity : yJ5_newCapacity.cls ≠ "java/lang/invoke/MethodHandle" ∧ yJ5_newCapacity.cls ≠ "java/lang/invoke/VarHandle" ∧ (parseMethodDescriptor yJ5_newCapacity.desc).map (fun d => d.parameters.length) = some 2 := by decide +kernel
theorem hKDJ12_copyOf : yJ12_copyOf.cls ≠ "java/lang/invoke/MethodHandle" ∧ yJ12_copyOf.cls ≠ "java/lang/invoke/VarHandle" ∧ (parseMethodDescriptor yJ12_copyOf.desc).map (fun d => d.parameters.length) = some 2 := by decide +kernel
theorem hKDJ5_inc : yJ5_inc.cls ≠ "java/lang/invoke/MethodHandle" ∧ yJ5_inc.cls ≠ "java/lang/invoke/VarHandle" ∧ (parseMethodDescriptor yJ5_inc.desc).map (fun d => d.parameters.length) = some 2 := by decide +kernel
theorem hKDJ5_grow : yJ5_grow.cls ≠ "java/lang/invoke/MethodHandle" ∧ yJ5_grow.cls ≠ "java/lang/invoke/VarHandle" ∧ (parseMethodDescriptor yJ5_grow.desc).map (fun d => d.parameters.length) = some 1 := by decide +kernel
theorem hKDJ5_addLast : yJ5_addLast.cls ≠ "java/lang/invoke/MethodHandle" ∧ yJ5_addLast.cls ≠ "java/lang/invoke/VarHandle" ∧ (parseMethodDescriptor yJ5_addLast.desc).map (fun d => d.parameters.length) = some 1 := by decide +kernel
theorem hKDJ5_clear : yJ5_clear.cls ≠ "java/lang/invoke/MethodHandle" ∧ yJ5_clear.cls ≠ "java/lang/invoke/VarHandle" ∧ (parseMethodDescriptor yJ5_clear.desc).map (fun d => d.parameters.length) = some 0 := by decide +kernel
theorem hKDJ5_add : yJ5_add.cls ≠ "java/lang/invoke/MethodHandle" ∧ yJ5_add.cls ≠ "java/lang/invoke/VarHandle" ∧ (parseMethodDescriptor yJ5_add.desc).map (fun d => d.parameters.length) = some 1 := by decide +kernel
theorem hKDJ2_clear : yJ2_clear.cls ≠ "java/lang/invoke/MethodHandle" ∧ yJ2_clear.cls ≠ "java/lang/invoke/VarHandle" ∧ (parseMethodDescriptor yJ2_clear.desc).map (fun d => d.parameters.length) = some 0 := by decide +kernel
theorem hKDJ5_init : yJ5_init.cls ≠ "java/lang/invoke/MethodHandle" ∧ yJ5_init.cls ≠ "java/lang/invoke/VarHandle" ∧ (parseMethodDescriptor yJ5_init.desc).map (fun d => d.parameters.length) = some 0 := by decide +kernel
theorem hKDJ2_init : yJ2_init.cls ≠ "java/lang/invoke/MethodHandle" ∧ yJ2_init.cls ≠ "java/lang/invoke/VarHandle" ∧ (parseMethodDescriptor yJ2_init.desc).map (fun d => d.parameters.length) = some 0 := by decide +kernel
theorem hKDJ6_floorMod : yJ6_floorMod.cls ≠ "java/lang/invoke/MethodHandle" ∧ yJ6_floorMod.cls ≠ "java/lang/invoke/VarHandle" ∧ (parseMethodDescriptor yJ6_floorMod.desc).map (fun d => d.parameters.length) = some 2 := by decide +kernel
theorem hKDX43_init : yX43_init.cls ≠ "java/lang/invoke/MethodHandle" ∧ yX43_init.cls ≠ "java/lang/invoke/VarHandle" ∧ (parseMethodDescriptor yX43_init.desc).map (fun d => d.parameters.length) = some 2 := by decide +kernel
theorem hKDX42_begin : yX42_begin.cls ≠ "java/lang/invoke/MethodHandle" ∧ yX42_begin.cls ≠ "java/lang/invoke/VarHandle" ∧ (parseMethodDescriptor yX42_begin.desc).map (fun d => d.parameters.length) = some 1 := by decide +kernel
theorem hKDJ5_sub : yJ5_sub.cls ≠ "java/lang/invoke/MethodHandle" ∧ yJ5_sub.cls ≠ "java/lang/invoke/VarHandle" ∧ (parseMethodDescriptor yJ5_sub.desc).map (fun d => d.parameters.length) = some 3 := by decide +kernel
theorem hKDJ5_size : yJ5_size.cls ≠ "java/lang/invoke/MethodHandle" ∧ yJ5_size.cls ≠ "java/lang/invoke/VarHandle" ∧ (parseMethodDescriptor yJ5_size.desc).map (fun d => d.parameters.length) = some 0 := by decide +kernel
theorem hKDJ22_init : yJ22_init.cls ≠ "java/lang/invoke/MethodHandle" ∧ yJ22_init.cls ≠ "java/lang/invoke/VarHandle" ∧ (parseMethodDescriptor yJ22_init.desc).map (fun d => d.parameters.length) = some 1 := by decide +kernel
theorem hKDJ5_nonNullElementAt : yJ5_nonNullElementAt.cls ≠ "java/lang/invoke/MethodHandle" ∧ yJ5_nonNullElementAt.cls ≠ "java/lang/invoke/VarHandle" ∧ (parseMethodDescriptor yJ5_nonNullElementAt.desc).map (fun d => d.parameters.length) = some 2 := by decide +kernel
theorem hKDJ23_checkForComodification : yJ23_checkForComodification.cls ≠ "java/lang/invoke/MethodHandle" ∧ yJ23_checkForComodification.cls ≠ "java/lang/invoke/VarHandle" ∧ (parseMethodDescriptor yJ23_checkForComodification.desc).map (fun d => d.parameters.length) = some 0 := by decide +kernel
theorem hKDX63_init : yX63_init.cls ≠ "java/lang/invoke/MethodHandle" ∧ yX63_init.cls ≠ "java/lang/invoke/VarHandle" ∧ (parseMethodDescriptor yX63_init.desc).map (fun d => d.parameters.length) = some 0 := by decide +kernel
theorem hKDJ5_iterator : yJ5_iterator.cls ≠ "java/lang/invoke/MethodHandle" ∧ yJ5_iterator.cls ≠ "java/lang/invoke/VarHandle" ∧ (parseMethodDescriptor yJ5_iterator.desc).map (fun d => d.parameters.length) = some 0 := by decide +kernel
theorem hKDX64_to : yX64_to.cls ≠ "java/lang/invoke/MethodHandle" ∧ yX64_to.cls ≠ "java/lang/invoke/VarHandle" ∧ (parseMethodDescriptor yX64_to.desc).map (fun d => d.parameters.length) = some 0 := by decide +kernel
theorem hKDX64_sector : yX64_sector.cls ≠ "java/lang/invoke/MethodHandle" ∧ yX64_sector.cls ≠ "java/lang/invoke/VarHandle" ∧ (parseMethodDescriptor yX64_sector.desc).map (fun d => d.parameters.length) = some 0 := by decide +kernel
theorem hKDX42_read : yX42_read.cls ≠ "java/lang/invoke/MethodHandle" ∧ yX42_read.cls ≠ "java/lang/invoke/VarHandle" ∧ (parseMethodDescriptor yX42_read.desc).map (fun d => d.parameters.length) = some 1 := by decide +kernel
theorem hKDX42_sector : yX42_sector.cls ≠ "java/lang/invoke/MethodHandle" ∧ yX42_sector.cls ≠ "java/lang/invoke/VarHandle" ∧ (parseMethodDescriptor yX42_sector.desc).map (fun d => d.parameters.length) = some 1 := by decide +kernel
theorem hKDX63_number : yX63_number.cls ≠ "java/lang/invoke/MethodHandle" ∧ yX63_number.cls ≠ "java/lang/invoke/VarHandle" ∧ (parseMethodDescriptor yX63_number.desc).map (fun d => d.parameters.length) = some 1 := by decide +kernel
theorem hKDX63_wide : yX63_wide.cls ≠ "java/lang/invoke/MethodHandle" ∧ yX63_wide.cls ≠ "java/lang/invoke/VarHandle" ∧ (parseMethodDescriptor yX63_wide.desc).map (fun d => d.parameters.length) = some 1 := by decide +kernel
theorem hKDJ21_rotateLeft : yJ21_rotateLeft.cls ≠ "java/lang/invoke/MethodHandle" ∧ yJ21_rotateLeft.cls ≠ "java/lang/invoke/VarHandle" ∧ (parseMethodDescriptor yJ21_rotateLeft.desc).map (fun d => d.parameters.length) = some 2 := by decide +kernel
theorem hKDJ23_init : yJ23_init.cls ≠ "java/lang/invoke/MethodHandle" ∧ yJ23_init.cls ≠ "java/lang/invoke/VarHandle" ∧ (parseMethodDescriptor yJ23_init.desc).map (fun d => d.parameters.length) = some 1 := by decide +kernel
theorem hKDX42_open : yX42_open.cls ≠ "java/lang/invoke/MethodHandle" ∧ yX42_open.cls ≠ "java/lang/invoke/VarHandle" ∧ (parseMethodDescriptor yX42_open.desc).map (fun d => d.parameters.length) = some 0 := by decide +kernel
theorem hKDX43_sectors : yX43_sectors.cls ≠ "java/lang/invoke/MethodHandle" ∧ yX43_sectors.cls ≠ "java/lang/invoke/VarHandle" ∧ (parseMethodDescriptor yX43_sectors.desc).map (fun d => d.parameters.length) = some 0 := by decide +kernel
theorem hKDJ2_iterator : yJ2_iterator.cls ≠ "java/lang/invoke/MethodHandle" ∧ yJ2_iterator.cls ≠ "java/lang/invoke/VarHandle" ∧ (parseMethodDescriptor yJ2_iterator.desc).map (fun d => d.parameters.length) = some 0 := by decide +kernel
theorem hKDX42_held : yX42_held.cls ≠ "java/lang/invoke/MethodHandle" ∧ yX42_held.cls ≠ "java/lang/invoke/VarHandle" ∧ (parseMethodDescriptor yX42_held.desc).map (fun d => d.parameters.length) = some 0 := by decide +kernel
theorem hKDX63_set : yX63_set.cls ≠ "java/lang/invoke/MethodHandle" ∧ yX63_set.cls ≠ "java/lang/invoke/VarHandle" ∧ (parseMethodDescriptor yX63_set.desc).map (fun d => d.parameters.length) = some 2 := by decide +kernel
theorem hKDX63_setWide : yX63_setWide.cls ≠ "java/lang/invoke/MethodHandle" ∧ yX63_setWide.cls ≠ "java/lang/invoke/VarHandle" ∧ (parseMethodDescriptor yX63_setWide.desc).map (fun d => d.parameters.length) = some 2 := by decide +kernel
theorem hKDX42_free : yX42_free.cls ≠ "java/lang/invoke/MethodHandle" ∧ yX42_free.cls ≠ "java/lang/invoke/VarHandle" ∧ (parseMethodDescriptor yX42_free.desc).map (fun d => d.parameters.length) = some 0 := by decide +kernel
theorem hKDX63_of : yX63_of.cls ≠ "java/lang/invoke/MethodHandle" ∧ yX63_of.cls ≠ "java/lang/invoke/VarHandle" ∧ (parseMethodDescriptor yX63_of.desc).map (fun d => d.parameters.length) = some 5 := by decide +kernel
theorem hKDX42_isPage : yX42_isPage.cls ≠ "java/lang/invoke/MethodHandle" ∧ yX42_isPage.cls ≠ "java/lang/invoke/VarHandle" ∧ (parseMethodDescriptor yX42_isPage.desc).map (fun d => d.parameters.length) = some 1 := by decide +kernel
theorem hKDX42_pageAt : yX42_pageAt.cls ≠ "java/lang/invoke/MethodHandle" ∧ yX42_pageAt.cls ≠ "java/lang/invoke/VarHandle" ∧ (parseMethodDescriptor yX42_pageAt.desc).map (fun d => d.parameters.length) = some 1 := by decide +kernel
theorem hKDX63_kind : yX63_kind.cls ≠ "java/lang/invoke/MethodHandle" ∧ yX63_kind.cls ≠ "java/lang/invoke/VarHandle" ∧ (parseMethodDescriptor yX63_kind.desc).map (fun d => d.parameters.length) = some 0 := by decide +kernel
theorem hKDX42_freePage : yX42_freePage.cls ≠ "java/lang/invoke/MethodHandle" ∧ yX42_freePage.cls ≠ "java/lang/invoke/VarHandle" ∧ (parseMethodDescriptor yX42_freePage.desc).map (fun d => d.parameters.length) = some 0 := by decide +kernel
theorem hKDX63_value : yX63_value.cls ≠ "java/lang/invoke/MethodHandle" ∧ yX63_value.cls ≠ "java/lang/invoke/VarHandle" ∧ (parseMethodDescriptor yX63_value.desc).map (fun d => d.parameters.length) = some 0 := by decide +kernel
theorem hKDX42_derivedFrom : yX42_derivedFrom.cls ≠ "java/lang/invoke/MethodHandle" ∧ yX42_derivedFrom.cls ≠ "java/lang/invoke/VarHandle" ∧ (parseMethodDescriptor yX42_derivedFrom.desc).map (fun d => d.parameters.length) = some 1 := by decide +kernel
theorem hKDX42_lay : yX42_lay.cls ≠ "java/lang/invoke/MethodHandle" ∧ yX42_lay.cls ≠ "java/lang/invoke/VarHandle" ∧ (parseMethodDescriptor yX42_lay.desc).map (fun d => d.parameters.length) = some 4 := by decide +kernel
theorem hKDJ5_dec : yJ5_dec.cls ≠ "java/lang/invoke/MethodHandle" ∧ yJ5_dec.cls ≠ "java/lang/invoke/VarHandle" ∧ (parseMethodDescriptor yJ5_dec.desc).map (fun d => d.parameters.length) = some 2 := by decide +kernel
theorem hKDJ5_elementAt : yJ5_elementAt.cls ≠ "java/lang/invoke/MethodHandle" ∧ yJ5_elementAt.cls ≠ "java/lang/invoke/VarHandle" ∧ (parseMethodDescriptor yJ5_elementAt.desc).map (fun d => d.parameters.length) = some 2 := by decide +kernel
theorem hKDJ5_peekLast : yJ5_peekLast.cls ≠ "java/lang/invoke/MethodHandle" ∧ yJ5_peekLast.cls ≠ "java/lang/invoke/VarHandle" ∧ (parseMethodDescriptor yJ5_peekLast.desc).map (fun d => d.parameters.length) = some 0 := by decide +kernel
theorem hKDJ3_rotateLeft : yJ3_rotateLeft.cls ≠ "java/lang/invoke/MethodHandle" ∧ yJ3_rotateLeft.cls ≠ "java/lang/invoke/VarHandle" ∧ (parseMethodDescriptor yJ3_rotateLeft.desc).map (fun d => d.parameters.length) = some 2 := by decide +kernel
theorem hKDX63_sum : yX63_sum.cls ≠ "java/lang/invoke/MethodHandle" ∧ yX63_sum.cls ≠ "java/lang/invoke/VarHandle" ∧ (parseMethodDescriptor yX63_sum.desc).map (fun d => d.parameters.length) = some 0 := by decide +kernel
theorem hKDX42_latest : yX42_latest.cls ≠ "java/lang/invoke/MethodHandle" ∧ yX42_latest.cls ≠ "java/lang/invoke/VarHandle" ∧ (parseMethodDescriptor yX42_latest.desc).map (fun d => d.parameters.length) = some 0 := by decide +kernel
theorem hKDX43_number : yX43_number.cls ≠ "java/lang/invoke/MethodHandle" ∧ yX43_number.cls ≠ "java/lang/invoke/VarHandle" ∧ (parseMethodDescriptor yX43_number.desc).map (fun d => d.parameters.length) = some 0 := by decide +kernel
theorem hKDX63_close : yX63_close.cls ≠ "java/lang/invoke/MethodHandle" ∧ yX63_close.cls ≠ "java/lang/invoke/VarHandle" ∧ (parseMethodDescriptor yX63_close.desc).map (fun d => d.parameters.length) = some 0 := by decide +kernel
theorem hKDX64_init : yX64_init.cls ≠ "java/lang/invoke/MethodHandle" ∧ yX64_init.cls ≠ "java/lang/invoke/VarHandle" ∧ (parseMethodDescriptor yX64_init.desc).map (fun d => d.parameters.length) = some 2 := by decide +kernel
theorem hKDJ5_pollFirst : yJ5_pollFirst.cls ≠ "java/lang/invoke/MethodHandle" ∧ yJ5_pollFirst.cls ≠ "java/lang/invoke/VarHandle" ∧ (parseMethodDescriptor yJ5_pollFirst.desc).map (fun d => d.parameters.length) = some 0 := by decide +kernel
theorem hKDJ5_isEmpty : yJ5_isEmpty.cls ≠ "java/lang/invoke/MethodHandle" ∧ yJ5_isEmpty.cls ≠ "java/lang/invoke/VarHandle" ∧ (parseMethodDescriptor yJ5_isEmpty.desc).map (fun d => d.parameters.length) = some 0 := by decide +kernel
theorem hKDJ5_poll : yJ5_poll.cls ≠ "java/lang/invoke/MethodHandle" ∧ yJ5_poll.cls ≠ "java/lang/invoke/VarHandle" ∧ (parseMethodDescriptor yJ5_poll.desc).map (fun d => d.parameters.length) = some 0 := by decide +kernel
theorem hKDX42_write : yX42_write.cls ≠ "java/lang/invoke/MethodHandle" ∧ yX42_write.cls ≠ "java/lang/invoke/VarHandle" ∧ (parseMethodDescriptor yX42_write.desc).map (fun d => d.parameters.length) = some 2 := by decide +kernel
theorem hKDJ3_numberOfTrailingZeros : yJ3_numberOfTrailingZeros.cls ≠ "java/lang/invoke/MethodHandle" ∧ yJ3_numberOfTrailingZeros.cls ≠ "java/lang/invoke/VarHandle" ∧ (parseMethodDescriptor yJ3_numberOfTrailingZeros.desc).map (fun d => d.parameters.length) = some 1 := by decide +kernel
theorem hKDX63_isRight : yX63_isRight.cls ≠ "java/lang/invoke/MethodHandle" ∧ yX63_isRight.cls ≠ "java/lang/invoke/VarHandle" ∧ (parseMethodDescriptor yX63_isRight.desc).map (fun d => d.parameters.length) = some 0 := by decide +kernel
theorem hKDJ21_numberOfTrailingZeros : yJ21_numberOfTrailingZeros.cls ≠ "java/lang/invoke/MethodHandle" ∧ yJ21_numberOfTrailingZeros.cls ≠ "java/lang/invoke/VarHandle" ∧ (parseMethodDescriptor yJ21_numberOfTrailingZeros.desc).map (fun d => d.parameters.length) = some 1 := by decide +kernel
theorem hKDX63_page : yX63_page.cls ≠ "java/lang/invoke/MethodHandle" ∧ yX63_page.cls ≠ "java/lang/invoke/VarHandle" ∧ (parseMethodDescriptor yX63_page.desc).map (fun d => d.parameters.length) = some 0 := by decide +kernel
theorem hKDX42_whole : yX42_whole.cls ≠ "java/lang/invoke/MethodHandle" ∧ yX42_whole.cls ≠ "java/lang/invoke/VarHandle" ∧ (parseMethodDescriptor yX42_whole.desc).map (fun d => d.parameters.length) = some 1 := by decide +kernel
theorem hKDX42_isWaiting : yX42_isWaiting.cls ≠ "java/lang/invoke/MethodHandle" ∧ yX42_isWaiting.cls ≠ "java/lang/invoke/VarHandle" ∧ (parseMethodDescriptor yX42_isWaiting.desc).map (fun d => d.parameters.length) = some 1 := by decide +kernel
theorem hKDJ13_hugeLength : yJ13_hugeLength.cls ≠ "java/lang/invoke/MethodHandle" ∧ yJ13_hugeLength.cls ≠ "java/lang/invoke/VarHandle" ∧ (parseMethodDescriptor yJ13_hugeLength.desc).map (fun d => d.parameters.length) = some 2 := by decide +kernel
theorem hKDJ13_newLength : yJ13_newLength.cls ≠ "java/lang/invoke/MethodHandle" ∧ yJ13_newLength.cls ≠ "java/lang/invoke/VarHandle" ∧ (parseMethodDescriptor yJ13_newLength.desc).map (fun d => d.parameters.length) = some 3 := by decide +kernel
theorem hKDJ2_grow_2 : yJ2_grow_2.cls ≠ "java/lang/invoke/MethodHandle" ∧ yJ2_grow_2.cls ≠ "java/lang/invoke/VarHandle" ∧ (parseMethodDescriptor yJ2_grow_2.desc).map (fun d => d.parameters.length) = some 1 := by decide +kernel
theorem hKDJ2_grow : yJ2_grow.cls ≠ "java/lang/invoke/MethodHandle" ∧ yJ2_grow.cls ≠ "java/lang/invoke/VarHandle" ∧ (parseMethodDescriptor yJ2_grow.desc).map (fun d => d.parameters.length) = some 0 := by decide +kernel
theorem hKDJ2_add_2 : yJ2_add_2.cls ≠ "java/lang/invoke/MethodHandle" ∧ yJ2_add_2.cls ≠ "java/lang/invoke/VarHandle" ∧ (parseMethodDescriptor yJ2_add_2.desc).map (fun d => d.parameters.length) = some 3 := by decide +kernel
theorem hKDJ2_size : yJ2_size.cls ≠ "java/lang/invoke/MethodHandle" ∧ yJ2_size.cls ≠ "java/lang/invoke/VarHandle" ∧ (parseMethodDescriptor yJ2_size.desc).map (fun d => d.parameters.length) = some 0 := by decide +kernel
theorem hKDJ2_add : yJ2_add.cls ≠ "java/lang/invoke/MethodHandle" ∧ yJ2_add.cls ≠ "java/lang/invoke/VarHandle" ∧ (parseMethodDescriptor yJ2_add.desc).map (fun d => d.parameters.length) = some 1 := by decide +kernel
theorem hKDJ21_bitCount : yJ21_bitCount.cls ≠ "java/lang/invoke/MethodHandle" ∧ yJ21_bitCount.cls ≠ "java/lang/invoke/VarHandle" ∧ (parseMethodDescriptor yJ21_bitCount.desc).map (fun d => d.parameters.length) = some 1 := by decide +kernel
theorem hKDJ15_checkIndex : yJ15_checkIndex.cls ≠ "java/lang/invoke/MethodHandle" ∧ yJ15_checkIndex.cls ≠ "java/lang/invoke/VarHandle" ∧ (parseMethodDescriptor yJ15_checkIndex.desc).map (fun d => d.parameters.length) = some 3 := by decide +kernel
theorem hKDJ14_checkIndex : yJ14_checkIndex.cls ≠ "java/lang/invoke/MethodHandle" ∧ yJ14_checkIndex.cls ≠ "java/lang/invoke/VarHandle" ∧ (parseMethodDescriptor yJ14_checkIndex.desc).map (fun d => d.parameters.length) = some 2 := by decide +kernel
theorem hKDJ2_elementData : yJ2_elementData.cls ≠ "java/lang/invoke/MethodHandle" ∧ yJ2_elementData.cls ≠ "java/lang/invoke/VarHandle" ∧ (parseMethodDescriptor yJ2_elementData.desc).map (fun d => d.parameters.length) = some 1 := by decide +kernel
theorem hKDJ2_fastRemove : yJ2_fastRemove.cls ≠ "java/lang/invoke/MethodHandle" ∧ yJ2_fastRemove.cls ≠ "java/lang/invoke/VarHandle" ∧ (parseMethodDescriptor yJ2_fastRemove.desc).map (fun d => d.parameters.length) = some 2 := by decide +kernel
theorem hKDJ2_get : yJ2_get.cls ≠ "java/lang/invoke/MethodHandle" ∧ yJ2_get.cls ≠ "java/lang/invoke/VarHandle" ∧ (parseMethodDescriptor yJ2_get.desc).map (fun d => d.parameters.length) = some 1 := by decide +kernel
theorem hKDJ2_remove : yJ2_remove.cls ≠ "java/lang/invoke/MethodHandle" ∧ yJ2_remove.cls ≠ "java/lang/invoke/VarHandle" ∧ (parseMethodDescriptor yJ2_remove.desc).map (fun d => d.parameters.length) = some 1 := by decide +kernel
theorem hKDX63_source : yX63_source.cls ≠ "java/lang/invoke/MethodHandle" ∧ yX63_source.cls ≠ "java/lang/invoke/VarHandle" ∧ (parseMethodDescriptor yX63_source.desc).map (fun d => d.parameters.length) = some 0 := by decide +kernel
def kEKD (G : kGt) (sa : Nat → Nat) : Prop := ∀ (A : Nat → Prop) (s : State) (H : Heap), G A s H → va_Z "java/util/ArrayList" "DEFAULTCAPACITY_EMPTY_ELEMENTDATA" "[Ljava/lang/Object;" (.ref (sa 0)) A s H ∧ va_Mi "[Ljava/lang/Object;" (sa 10) s ∧ va_Fw "java/util/ArrayDeque$DeqIterator" ⟨"java/util/Iterator", "hasNext", "()Z"⟩ ⟨"java/util/ArrayDeque$DeqIterator", "hasNext", "()Z"⟩ s ∧ va_Fw "java/util/ArrayList$Itr" ⟨"java/util/Iterator", "hasNext", "()Z"⟩ ⟨"java/util/ArrayList$Itr", "hasNext", "()Z"⟩ s ∧ va_Fw "java/util/ArrayDeque$DeqIterator" ⟨"java/util/Iterator", "next", "()Ljava/lang/Object;"⟩ ⟨"java/util/ArrayDeque$DeqIterator", "next", "()Ljava/lang/Object;"⟩ s ∧ va_Fw "java/util/ArrayList$Itr" ⟨"java/util/Iterator", "next", "()Ljava/lang/Object;"⟩ ⟨"java/util/ArrayList$Itr", "next", "()Ljava/lang/Object;"⟩ s ∧ va_T (.object "java/lang/Object") (sa 0) 0 (fun _ => .null) A s H ∧ True
theorem kEKD_0 {G : kGt} {sa : Nat → Nat} (h : kEKD G sa) {A : Nat → Prop} {s : State} {H : Heap} (g : G A s H) : va_Z "java/util/ArrayList" "DEFAULTCAPACITY_EMPTY_ELEMENTDATA" "[Ljava/lang/Object;" (.ref (sa 0)) A s H := (h A s H g).1
theorem kEKD_1 {G : kGt} {sa : Nat → Nat} (h : kEKD G sa) {A : Nat → Prop} {s : State} {H : Heap} (g : G A s H) : va_Mi "[Ljava/lang/Object;" (sa 10) s := (h A s H g).2.1
theorem kEKD_2 {G : kGt} {sa : Nat → Nat} (h : kEKD G sa) {A : Nat → Prop} {s : State} {H : Heap} (g : G A s H) : va_Fw "java/util/ArrayDeque$DeqIterator" ⟨"java/util/Iterator", "hasNext", "()Z"⟩ ⟨"java/util/ArrayDeque$DeqIterator", "hasNext", "()Z"⟩ s := (h A s H g).2.2.1
theorem kEKD_3 {G : kGt} {sa : Nat → Nat} (h : kEKD G sa) {A : Nat → Prop} {s : State} {H : Heap} (g : G A s H) : va_Fw "java/util/ArrayList$Itr" ⟨"java/util/Iterator", "hasNext", "()Z"⟩ ⟨"java/util/ArrayList$Itr", "hasNext", "()Z"⟩ s := (h A s H g).2.2.2.1
theorem kEKD_4 {G : kGt} {sa : Nat → Nat} (h : kEKD G sa) {A : Nat → Prop} {s : State} {H : Heap} (g : G A s H) : va_Fw "java/util/ArrayDeque$DeqIterator" ⟨"java/util/Iterator", "next", "()Ljava/lang/Object;"⟩ ⟨"java/util/ArrayDeque$DeqIterator", "next", "()Ljava/lang/Object;"⟩ s := (h A s H g).2.2.2.2.1
theorem kEKD_5 {G : kGt} {sa : Nat → Nat} (h : kEKD G sa) {A : Nat → Prop} {s : State} {H : Heap} (g : G A s H) : va_Fw "java/util/ArrayList$Itr" ⟨"java/util/Iterator", "next", "()Ljava/lang/Object;"⟩ ⟨"java/util/ArrayList$Itr", "next", "()Ljava/lang/Object;"⟩ s := (h A s H g).2.2.2.2.2.1
theorem kEKD_6 {G : kGt} {sa : Nat → Nat} (h : kEKD G sa) {A : Nat → Prop} {s : State} {H : Heap} (g : G A s H) : va_T (.object "java/lang/Object") (sa 0) 0 (fun _ => .null) A s H := (h A s H g).2.2.2.2.2.2.1
def cKD (ci : Nat → Nat) (d : Nat → ClassId) (kd : Nat → Nat) (an : Nat → Nat) (ai : Nat → Nat → Int32) (al : Nat → Nat → Int64) (ar : Nat → Nat → Option Nat) (mX42_disk : Nat → Option Nat) (mX42_count : Nat → Int32) (mX42_runs : Nat → Int32) (mX42_isFull : Nat → Int32) (mX42_places : Nat → Option Nat) (mX42_laid : Nat → Option Nat) (mX42_changed : Nat → Int32) (mX42_waiting : Nat → Option Nat) (mX42_states : Nat → Option Nat) (mX42_kept : Nat → Option Nat) (mX43_number : Nat → Int32) (mX43_sectors : Nat → Int64) (mX63_bytes : Nat → Option Nat) (mX64_to : Nat → Int32) (mX64_sector : Nat → Option Nat) (mJ1_modCount : Nat → Int32) (mJ2_elementData : Nat → Option Nat) (mJ2_size : Nat → Int32) (mJ5_elements : Nat → Option Nat) (mJ5_head : Nat → Int32) (mJ5_tail : Nat → Int32) (mJ22_cursor : Nat → Int32) (mJ22_remaining : Nat → Int32) (mJ22_lastRet : Nat → Int32) (mJ22_this_0 : Nat → Option Nat) (mJ23_cursor : Nat → Int32) (mJ23_lastRet : Nat → Int32) (mJ23_expectedModCount : Nat → Int32) (mJ23_this_0 : Nat → Option Nat) : Nat → va_E := fun a => match kd a with
  | 1 => .inr (ci 0, [va_rf (mX42_disk a), .int (mX42_count a), .int (mX42_runs a), .int (mX42_isFull a), va_rf (mX42_places a), va_rf (mX42_laid a), .int (mX42_changed a), va_rf (mX42_waiting a), va_rf (mX42_states a), va_rf (mX42_kept a)])
  | 2 => .inr (ci 1, [.int (mX43_number a), .long (mX43_sectors a)])
  | 3 => .inr (ci 2, [va_rf (mX63_bytes a)])
  | 4 => .inr (ci 3, [.int (mX64_to a), va_rf (mX64_sector a)])
  | 5 => .inr (ci 4, [.int (mJ1_modCount a), va_rf (mJ2_elementData a), .int (mJ2_size a)])
  | 6 => .inr (ci 5, [va_rf (mJ5_elements a), .int (mJ5_head a), .int (mJ5_tail a)])
  | 7 => .inr (ci 6, [.int (mJ22_cursor a), .int (mJ22_remaining a), .int (mJ22_lastRet a), va_rf (mJ22_this_0 a)])
  | 8 => .inr (ci 7, [.int (mJ23_cursor a), .int (mJ23_lastRet a), .int (mJ23_expectedModCount a), va_rf (mJ23_this_0 a)])
  | 9 => .inl (d 0, an a, .inl (ai a))
  | 10 => .inl (d 1, an a, .inl (ai a))
  | 11 => .inl (d 2, an a, .inr (.inl (al a)))
  | 12 => .inl (d 3, an a, .inr (.inr (.inr (.inr (ar a)))))
  | 13 => .inl (d 4, an a, .inr (.inr (.inr (.inr (ar a)))))
  | _ => .inl (d 0, 0, .inl (fun _ => 0))
abbrev kKD : List vw_C := [(RX42, TX42, 10), (RX43, TX43, 2), (RX63, TX63, 1), (RX64, TX64, 2), (RJ2, TJ2, 3), (RJ5, TJ5, 3), (RJ22, TJ22, 4), (RJ23, TJ23, 4)]
abbrev tKD (d : Nat → ClassId) : List (ClassId × FieldType) := [(d 0, .int), (d 1, .byte), (d 2, .long), (d 3, (.object "KnowHouse$KnowDisk$Sector")), (d 4, (.object "java/lang/Object"))]
theorem cKD_1 {ci : Nat → Nat} {d : Nat → ClassId} {kd : Nat → Nat} {an : Nat → Nat} {ai : Nat → Nat → Int32} {al : Nat → Nat → Int64} {ar : Nat → Nat → Option Nat} {mX42_disk : Nat → Option Nat} {mX42_count : Nat → Int32} {mX42_runs : Nat → Int32} {mX42_isFull : Nat → Int32} {mX42_places : Nat → Option Nat} {mX42_laid : Nat → Option Nat} {mX42_changed : Nat → Int32} {mX42_waiting : Nat → Option Nat} {mX42_states : Nat → Option Nat} {mX42_kept : Nat → Option Nat} {mX43_number : Nat → Int32} {mX43_sectors : Nat → Int64} {mX63_bytes : Nat → Option Nat} {mX64_to : Nat → Int32} {mX64_sector : Nat → Option Nat} {mJ1_modCount : Nat → Int32} {mJ2_elementData : Nat → Option Nat} {mJ2_size : Nat → Int32} {mJ5_elements : Nat → Option Nat} {mJ5_head : Nat → Int32} {mJ5_tail : Nat → Int32} {mJ22_cursor : Nat → Int32} {mJ22_remaining : Nat → Int32} {mJ22_lastRet : Nat → Int32} {mJ22_this_0 : Nat → Option Nat} {mJ23_cursor : Nat → Int32} {mJ23_lastRet : Nat → Int32} {mJ23_expectedModCount : Nat → Int32} {mJ23_this_0 : Nat → Option Nat} {a : Nat} (hk : kd a = 1) : (cKD ci d kd an ai al ar mX42_disk mX42_count mX42_runs mX42_isFull mX42_places mX42_laid mX42_changed mX42_waiting mX42_states mX42_kept mX43_number mX43_sectors mX63_bytes mX64_to mX64_sector mJ1_modCount mJ2_elementData mJ2_size mJ5_elements mJ5_head mJ5_tail mJ22_cursor mJ22_remaining mJ22_lastRet mJ22_this_0 mJ23_cursor mJ23_lastRet mJ23_expectedModCount mJ23_this_0) a = .inr (ci 0, [va_rf (mX42_disk a), .int (mX42_count a), .int (mX42_runs a), .int (mX42_isFull a), va_rf (mX42_places a), va_rf (mX42_laid a), .int (mX42_changed a), va_rf (mX42_waiting a), va_rf (mX42_states a), va_rf (mX42_kept a)]) := by unfold cKD; simp only [hk]
theorem cKD_1_0 {ci : Nat → Nat} {d : Nat → ClassId} {kd : Nat → Nat} {an : Nat → Nat} {ai : Nat → Nat → Int32} {al : Nat → Nat → Int64} {ar : Nat → Nat → Option Nat} {mX42_disk : Nat → Option Nat} {mX42_count : Nat → Int32} {mX42_runs : Nat → Int32} {mX42_isFull : Nat → Int32} {mX42_places : Nat → Option Nat} {mX42_laid : Nat → Option Nat} {mX42_changed : Nat → Int32} {mX42_waiting : Nat → Option Nat} {mX42_states : Nat → Option Nat} {mX42_kept : Nat → Option Nat} {mX43_number : Nat → Int32} {mX43_sectors : Nat → Int64} {mX63_bytes : Nat → Option Nat} {mX64_to : Nat → Int32} {mX64_sector : Nat → Option Nat} {mJ1_modCount : Nat → Int32} {mJ2_elementData : Nat → Option Nat} {mJ2_size : Nat → Int32} {mJ5_elements : Nat → Option Nat} {mJ5_head : Nat → Int32} {mJ5_tail : Nat → Int32} {mJ22_cursor : Nat → Int32} {mJ22_remaining : Nat → Int32} {mJ22_lastRet : Nat → Int32} {mJ22_this_0 : Nat → Option Nat} {mJ23_cursor : Nat → Int32} {mJ23_lastRet : Nat → Int32} {mJ23_expectedModCount : Nat → Int32} {mJ23_this_0 : Nat → Option Nat} {a : Nat} {v : Option Nat} (hk : kd a = 1) : va_up (cKD ci d kd an ai al ar mX42_disk mX42_count mX42_runs mX42_isFull mX42_places mX42_laid mX42_changed mX42_waiting mX42_states mX42_kept mX43_number mX43_sectors mX63_bytes mX64_to mX64_sector mJ1_modCount mJ2_elementData mJ2_size mJ5_elements mJ5_head mJ5_tail mJ22_cursor mJ22_remaining mJ22_lastRet mJ22_this_0 mJ23_cursor mJ23_lastRet mJ23_expectedModCount mJ23_this_0) a (.inr (ci 0, [va_rf v, .int (mX42_count a), .int (mX42_runs a), .int (mX42_isFull a), va_rf (mX42_places a), va_rf (mX42_laid a), .int (mX42_changed a), va_rf (mX42_waiting a), va_rf (mX42_states a), va_rf (mX42_kept a)])) = (cKD ci d kd an ai al ar (va_up mX42_disk a v) mX42_count mX42_runs mX42_isFull mX42_places mX42_laid mX42_changed mX42_waiting mX42_states mX42_kept mX43_number mX43_sectors mX63_bytes mX64_to mX64_sector mJ1_modCount mJ2_elementData mJ2_size mJ5_elements mJ5_head mJ5_tail mJ22_cursor mJ22_remaining mJ22_lastRet mJ22_this_0 mJ23_cursor mJ23_lastRet mJ23_expectedModCount mJ23_this_0) := by
  funext b
  by_cases h : b = a
  · subst h
    rw [va_up_self]
    unfold cKD
    rw [hk]
    simp only [va_up_self]
  · rw [va_up_ne _ _ h]
    unfold cKD
    simp only [va_up_ne _ _ h]
theorem cKD_1_1 {ci : Nat → Nat} {d : Nat → ClassId} {kd : Nat → Nat} {an : Nat → Nat} {ai : Nat → Nat → Int32} {al : Nat → Nat → Int64} {ar : Nat → Nat → Option Nat} {mX42_disk : Nat → Option Nat} {mX42_count : Nat → Int32} {mX42_runs : Nat → Int32} {mX42_isFull : Nat → Int32} {mX42_places : Nat → Option Nat} {mX42_laid : Nat → Option Nat} {mX42_changed : Nat → Int32} {mX42_waiting : Nat → Option Nat} {mX42_states : Nat → Option Nat} {mX42_kept : Nat → Option Nat} {mX43_number : Nat → Int32} {mX43_sectors : Nat → Int64} {mX63_bytes : Nat → Option Nat} {mX64_to : Nat → Int32} {mX64_sector : Nat → Option Nat} {mJ1_modCount : Nat → Int32} {mJ2_elementData : Nat → Option Nat} {mJ2_size : Nat → Int32} {mJ5_elements : Nat → Option Nat} {mJ5_head : Nat → Int32} {mJ5_tail : Nat → Int32} {mJ22_cursor : Nat → Int32} {mJ22_remaining : Nat → Int32} {mJ22_lastRet : Nat → Int32} {mJ22_this_0 : Nat → Option Nat} {mJ23_cursor : Nat → Int32} {mJ23_lastRet : Nat → Int32} {mJ23_expectedModCount : Nat → Int32} {mJ23_this_0 : Nat → Option Nat} {a : Nat} {v : Int32} (hk : kd a = 1) : va_up (cKD ci d kd an ai al ar mX42_disk mX42_count mX42_runs mX42_isFull mX42_places mX42_laid mX42_changed mX42_waiting mX42_states mX42_kept mX43_number mX43_sectors mX63_bytes mX64_to mX64_sector mJ1_modCount mJ2_elementData mJ2_size mJ5_elements mJ5_head mJ5_tail mJ22_cursor mJ22_remaining mJ22_lastRet mJ22_this_0 mJ23_cursor mJ23_lastRet mJ23_expectedModCount mJ23_this_0) a (.inr (ci 0, [va_rf (mX42_disk a), .int v, .int (mX42_runs a), .int (mX42_isFull a), va_rf (mX42_places a), va_rf (mX42_laid a), .int (mX42_changed a), va_rf (mX42_waiting a), va_rf (mX42_states a), va_rf (mX42_kept a)])) = (cKD ci d kd an ai al ar mX42_disk (va_up mX42_count a v) mX42_runs mX42_isFull mX42_places mX42_laid mX42_changed mX42_waiting mX42_states mX42_kept mX43_number mX43_sectors mX63_bytes mX64_to mX64_sector mJ1_modCount mJ2_elementData mJ2_size mJ5_elements mJ5_head mJ5_tail mJ22_cursor mJ22_remaining mJ22_lastRet mJ22_this_0 mJ23_cursor mJ23_lastRet mJ23_expectedModCount mJ23_this_0) := by
  funext b
  by_cases h : b = a
  · subst h
    rw [va_up_self]
    unfold cKD
    rw [hk]
    simp only [va_up_self]
  · rw [va_up_ne _ _ h]
    unfold cKD
    simp only [va_up_ne _ _ h]
theorem cKD_1_2 {ci : Nat → Nat} {d : Nat → ClassId} {kd : Nat → Nat} {an : Nat → Nat} {ai : Nat → Nat → Int32} {al : Nat → Nat → Int64} {ar : Nat → Nat → Option Nat} {mX42_disk : Nat → Option Nat} {mX42_count : Nat → Int32} {mX42_runs : Nat → Int32} {mX42_isFull : Nat → Int32} {mX42_places : Nat → Option Nat} {mX42_laid : Nat → Option Nat} {mX42_changed : Nat → Int32} {mX42_waiting : Nat → Option Nat} {mX42_states : Nat → Option Nat} {mX42_kept : Nat → Option Nat} {mX43_number : Nat → Int32} {mX43_sectors : Nat → Int64} {mX63_bytes : Nat → Option Nat} {mX64_to : Nat → Int32} {mX64_sector : Nat → Option Nat} {mJ1_modCount : Nat → Int32} {mJ2_elementData : Nat → Option Nat} {mJ2_size : Nat → Int32} {mJ5_elements : Nat → Option Nat} {mJ5_head : Nat → Int32} {mJ5_tail : Nat → Int32} {mJ22_cursor : Nat → Int32} {mJ22_remaining : Nat → Int32} {mJ22_lastRet : Nat → Int32} {mJ22_this_0 : Nat → Option Nat} {mJ23_cursor : Nat → Int32} {mJ23_lastRet : Nat → Int32} {mJ23_expectedModCount : Nat → Int32} {mJ23_this_0 : Nat → Option Nat} {a : Nat} {v : Int32} (hk : kd a = 1) : va_up (cKD ci d kd an ai al ar mX42_disk mX42_count mX42_runs mX42_isFull mX42_places mX42_laid mX42_changed mX42_waiting mX42_states mX42_kept mX43_number mX43_sectors mX63_bytes mX64_to mX64_sector mJ1_modCount mJ2_elementData mJ2_size mJ5_elements mJ5_head mJ5_tail mJ22_cursor mJ22_remaining mJ22_lastRet mJ22_this_0 mJ23_cursor mJ23_lastRet mJ23_expectedModCount mJ23_this_0) a (.inr (ci 0, [va_rf (mX42_disk a), .int (mX42_count a), .int v, .int (mX42_isFull a), va_rf (mX42_places a), va_rf (mX42_laid a), .int (mX42_changed a), va_rf (mX42_waiting a), va_rf (mX42_states a), va_rf (mX42_kept a)])) = (cKD ci d kd an ai al ar mX42_disk mX42_count (va_up mX42_runs a v) mX42_isFull mX42_places mX42_laid mX42_changed mX42_waiting mX42_states mX42_kept mX43_number mX43_sectors mX63_bytes mX64_to mX64_sector mJ1_modCount mJ2_elementData mJ2_size mJ5_elements mJ5_head mJ5_tail mJ22_cursor mJ22_remaining mJ22_lastRet mJ22_this_0 mJ23_cursor mJ23_lastRet mJ23_expectedModCount mJ23_this_0) := by
  funext b
  by_cases h : b = a
  · subst h
    rw [va_up_self]
    unfold cKD
    rw [hk]
    simp only [va_up_self]
  · rw [va_up_ne _ _ h]
    unfold cKD
    simp only [va_up_ne _ _ h]
theorem cKD_1_3 {ci : Nat → Nat} {d : Nat → ClassId} {kd : Nat → Nat} {an : Nat → Nat} {ai : Nat → Nat → Int32} {al : Nat → Nat → Int64} {ar : Nat → Nat → Option Nat} {mX42_disk : Nat → Option Nat} {mX42_count : Nat → Int32} {mX42_runs : Nat → Int32} {mX42_isFull : Nat → Int32} {mX42_places : Nat → Option Nat} {mX42_laid : Nat → Option Nat} {mX42_changed : Nat → Int32} {mX42_waiting : Nat → Option Nat} {mX42_states : Nat → Option Nat} {mX42_kept : Nat → Option Nat} {mX43_number : Nat → Int32} {mX43_sectors : Nat → Int64} {mX63_bytes : Nat → Option Nat} {mX64_to : Nat → Int32} {mX64_sector : Nat → Option Nat} {mJ1_modCount : Nat → Int32} {mJ2_elementData : Nat → Option Nat} {mJ2_size : Nat → Int32} {mJ5_elements : Nat → Option Nat} {mJ5_head : Nat → Int32} {mJ5_tail : Nat → Int32} {mJ22_cursor : Nat → Int32} {mJ22_remaining : Nat → Int32} {mJ22_lastRet : Nat → Int32} {mJ22_this_0 : Nat → Option Nat} {mJ23_cursor : Nat → Int32} {mJ23_lastRet : Nat → Int32} {mJ23_expectedModCount : Nat → Int32} {mJ23_this_0 : Nat → Option Nat} {a : Nat} {v : Int32} (hk : kd a = 1) : va_up (cKD ci d kd an ai al ar mX42_disk mX42_count mX42_runs mX42_isFull mX42_places mX42_laid mX42_changed mX42_waiting mX42_states mX42_kept mX43_number mX43_sectors mX63_bytes mX64_to mX64_sector mJ1_modCount mJ2_elementData mJ2_size mJ5_elements mJ5_head mJ5_tail mJ22_cursor mJ22_remaining mJ22_lastRet mJ22_this_0 mJ23_cursor mJ23_lastRet mJ23_expectedModCount mJ23_this_0) a (.inr (ci 0, [va_rf (mX42_disk a), .int (mX42_count a), .int (mX42_runs a), .int v, va_rf (mX42_places a), va_rf (mX42_laid a), .int (mX42_changed a), va_rf (mX42_waiting a), va_rf (mX42_states a), va_rf (mX42_kept a)])) = (cKD ci d kd an ai al ar mX42_disk mX42_count mX42_runs (va_up mX42_isFull a v) mX42_places mX42_laid mX42_changed mX42_waiting mX42_states mX42_kept mX43_number mX43_sectors mX63_bytes mX64_to mX64_sector mJ1_modCount mJ2_elementData mJ2_size mJ5_elements mJ5_head mJ5_tail mJ22_cursor mJ22_remaining mJ22_lastRet mJ22_this_0 mJ23_cursor mJ23_lastRet mJ23_expectedModCount mJ23_this_0) := by
  funext b
  by_cases h : b = a
  · subst h
    rw [va_up_self]
    unfold cKD
    rw [hk]
    simp only [va_up_self]
  · rw [va_up_ne _ _ h]
    unfold cKD
    simp only [va_up_ne _ _ h]
theorem cKD_1_4 {ci : Nat → Nat} {d : Nat → ClassId} {kd : Nat → Nat} {an : Nat → Nat} {ai : Nat → Nat → Int32} {al : Nat → Nat → Int64} {ar : Nat → Nat → Option Nat} {mX42_disk : Nat → Option Nat} {mX42_count : Nat → Int32} {mX42_runs : Nat → Int32} {mX42_isFull : Nat → Int32} {mX42_places : Nat → Option Nat} {mX42_laid : Nat → Option Nat} {mX42_changed : Nat → Int32} {mX42_waiting : Nat → Option Nat} {mX42_states : Nat → Option Nat} {mX42_kept : Nat → Option Nat} {mX43_number : Nat → Int32} {mX43_sectors : Nat → Int64} {mX63_bytes : Nat → Option Nat} {mX64_to : Nat → Int32} {mX64_sector : Nat → Option Nat} {mJ1_modCount : Nat → Int32} {mJ2_elementData : Nat → Option Nat} {mJ2_size : Nat → Int32} {mJ5_elements : Nat → Option Nat} {mJ5_head : Nat → Int32} {mJ5_tail : Nat → Int32} {mJ22_cursor : Nat → Int32} {mJ22_remaining : Nat → Int32} {mJ22_lastRet : Nat → Int32} {mJ22_this_0 : Nat → Option Nat} {mJ23_cursor : Nat → Int32} {mJ23_lastRet : Nat → Int32} {mJ23_expectedModCount : Nat → Int32} {mJ23_this_0 : Nat → Option Nat} {a : Nat} {v : Option Nat} (hk : kd a = 1) : va_up (cKD ci d kd an ai al ar mX42_disk mX42_count mX42_runs mX42_isFull mX42_places mX42_laid mX42_changed mX42_waiting mX42_states mX42_kept mX43_number mX43_sectors mX63_bytes mX64_to mX64_sector mJ1_modCount mJ2_elementData mJ2_size mJ5_elements mJ5_head mJ5_tail mJ22_cursor mJ22_remaining mJ22_lastRet mJ22_this_0 mJ23_cursor mJ23_lastRet mJ23_expectedModCount mJ23_this_0) a (.inr (ci 0, [va_rf (mX42_disk a), .int (mX42_count a), .int (mX42_runs a), .int (mX42_isFull a), va_rf v, va_rf (mX42_laid a), .int (mX42_changed a), va_rf (mX42_waiting a), va_rf (mX42_states a), va_rf (mX42_kept a)])) = (cKD ci d kd an ai al ar mX42_disk mX42_count mX42_runs mX42_isFull (va_up mX42_places a v) mX42_laid mX42_changed mX42_waiting mX42_states mX42_kept mX43_number mX43_sectors mX63_bytes mX64_to mX64_sector mJ1_modCount mJ2_elementData mJ2_size mJ5_elements mJ5_head mJ5_tail mJ22_cursor mJ22_remaining mJ22_lastRet mJ22_this_0 mJ23_cursor mJ23_lastRet mJ23_expectedModCount mJ23_this_0) := by
  funext b
  by_cases h : b = a
  · subst h
    rw [va_up_self]
    unfold cKD
    rw [hk]
    simp only [va_up_self]
  · rw [va_up_ne _ _ h]
    unfold cKD
    simp only [va_up_ne _ _ h]
theorem cKD_1_5 {ci : Nat → Nat} {d : Nat → ClassId} {kd : Nat → Nat} {an : Nat → Nat} {ai : Nat → Nat → Int32} {al : Nat → Nat → Int64} {ar : Nat → Nat → Option Nat} {mX42_disk : Nat → Option Nat} {mX42_count : Nat → Int32} {mX42_runs : Nat → Int32} {mX42_isFull : Nat → Int32} {mX42_places : Nat → Option Nat} {mX42_laid : Nat → Option Nat} {mX42_changed : Nat → Int32} {mX42_waiting : Nat → Option Nat} {mX42_states : Nat → Option Nat} {mX42_kept : Nat → Option Nat} {mX43_number : Nat → Int32} {mX43_sectors : Nat → Int64} {mX63_bytes : Nat → Option Nat} {mX64_to : Nat → Int32} {mX64_sector : Nat → Option Nat} {mJ1_modCount : Nat → Int32} {mJ2_elementData : Nat → Option Nat} {mJ2_size : Nat → Int32} {mJ5_elements : Nat → Option Nat} {mJ5_head : Nat → Int32} {mJ5_tail : Nat → Int32} {mJ22_cursor : Nat → Int32} {mJ22_remaining : Nat → Int32} {mJ22_lastRet : Nat → Int32} {mJ22_this_0 : Nat → Option Nat} {mJ23_cursor : Nat → Int32} {mJ23_lastRet : Nat → Int32} {mJ23_expectedModCount : Nat → Int32} {mJ23_this_0 : Nat → Option Nat} {a : Nat} {v : Option Nat} (hk : kd a = 1) : va_up (cKD ci d kd an ai al ar mX42_disk mX42_count mX42_runs mX42_isFull mX42_places mX42_laid mX42_changed mX42_waiting mX42_states mX42_kept mX43_number mX43_sectors mX63_bytes mX64_to mX64_sector mJ1_modCount mJ2_elementData mJ2_size mJ5_elements mJ5_head mJ5_tail mJ22_cursor mJ22_remaining mJ22_lastRet mJ22_this_0 mJ23_cursor mJ23_lastRet mJ23_expectedModCount mJ23_this_0) a (.inr (ci 0, [va_rf (mX42_disk a), .int (mX42_count a), .int (mX42_runs a), .int (mX42_isFull a), va_rf (mX42_places a), va_rf v, .int (mX42_changed a), va_rf (mX42_waiting a), va_rf (mX42_states a), va_rf (mX42_kept a)])) = (cKD ci d kd an ai al ar mX42_disk mX42_count mX42_runs mX42_isFull mX42_places (va_up mX42_laid a v) mX42_changed mX42_waiting mX42_states mX42_kept mX43_number mX43_sectors mX63_bytes mX64_to mX64_sector mJ1_modCount mJ2_elementData mJ2_size mJ5_elements mJ5_head mJ5_tail mJ22_cursor mJ22_remaining mJ22_lastRet mJ22_this_0 mJ23_cursor mJ23_lastRet mJ23_expectedModCount mJ23_this_0) := by
  funext b
  by_cases h : b = a
  · subst h
    rw [va_up_self]
    unfold cKD
    rw [hk]
    simp only [va_up_self]
  · rw [va_up_ne _ _ h]
    unfold cKD
    simp only [va_up_ne _ _ h]
theorem cKD_1_6 {ci : Nat → Nat} {d : Nat → ClassId} {kd : Nat → Nat} {an : Nat → Nat} {ai : Nat → Nat → Int32} {al : Nat → Nat → Int64} {ar : Nat → Nat → Option Nat} {mX42_disk : Nat → Option Nat} {mX42_count : Nat → Int32} {mX42_runs : Nat → Int32} {mX42_isFull : Nat → Int32} {mX42_places : Nat → Option Nat} {mX42_laid : Nat → Option Nat} {mX42_changed : Nat → Int32} {mX42_waiting : Nat → Option Nat} {mX42_states : Nat → Option Nat} {mX42_kept : Nat → Option Nat} {mX43_number : Nat → Int32} {mX43_sectors : Nat → Int64} {mX63_bytes : Nat → Option Nat} {mX64_to : Nat → Int32} {mX64_sector : Nat → Option Nat} {mJ1_modCount : Nat → Int32} {mJ2_elementData : Nat → Option Nat} {mJ2_size : Nat → Int32} {mJ5_elements : Nat → Option Nat} {mJ5_head : Nat → Int32} {mJ5_tail : Nat → Int32} {mJ22_cursor : Nat → Int32} {mJ22_remaining : Nat → Int32} {mJ22_lastRet : Nat → Int32} {mJ22_this_0 : Nat → Option Nat} {mJ23_cursor : Nat → Int32} {mJ23_lastRet : Nat → Int32} {mJ23_expectedModCount : Nat → Int32} {mJ23_this_0 : Nat → Option Nat} {a : Nat} {v : Int32} (hk : kd a = 1) : va_up (cKD ci d kd an ai al ar mX42_disk mX42_count mX42_runs mX42_isFull mX42_places mX42_laid mX42_changed mX42_waiting mX42_states mX42_kept mX43_number mX43_sectors mX63_bytes mX64_to mX64_sector mJ1_modCount mJ2_elementData mJ2_size mJ5_elements mJ5_head mJ5_tail mJ22_cursor mJ22_remaining mJ22_lastRet mJ22_this_0 mJ23_cursor mJ23_lastRet mJ23_expectedModCount mJ23_this_0) a (.inr (ci 0, [va_rf (mX42_disk a), .int (mX42_count a), .int (mX42_runs a), .int (mX42_isFull a), va_rf (mX42_places a), va_rf (mX42_laid a), .int v, va_rf (mX42_waiting a), va_rf (mX42_states a), va_rf (mX42_kept a)])) = (cKD ci d kd an ai al ar mX42_disk mX42_count mX42_runs mX42_isFull mX42_places mX42_laid (va_up mX42_changed a v) mX42_waiting mX42_states mX42_kept mX43_number mX43_sectors mX63_bytes mX64_to mX64_sector mJ1_modCount mJ2_elementData mJ2_size mJ5_elements mJ5_head mJ5_tail mJ22_cursor mJ22_remaining mJ22_lastRet mJ22_this_0 mJ23_cursor mJ23_lastRet mJ23_expectedModCount mJ23_this_0) := by
  funext b
  by_cases h : b = a
  · subst h
    rw [va_up_self]
    unfold cKD
    rw [hk]
    simp only [va_up_self]
  · rw [va_up_ne _ _ h]
    unfold cKD
    simp only [va_up_ne _ _ h]
theorem cKD_1_7 {ci : Nat → Nat} {d : Nat → ClassId} {kd : Nat → Nat} {an : Nat → Nat} {ai : Nat → Nat → Int32} {al : Nat → Nat → Int64} {ar : Nat → Nat → Option Nat} {mX42_disk : Nat → Option Nat} {mX42_count : Nat → Int32} {mX42_runs : Nat → Int32} {mX42_isFull : Nat → Int32} {mX42_places : Nat → Option Nat} {mX42_laid : Nat → Option Nat} {mX42_changed : Nat → Int32} {mX42_waiting : Nat → Option Nat} {mX42_states : Nat → Option Nat} {mX42_kept : Nat → Option Nat} {mX43_number : Nat → Int32} {mX43_sectors : Nat → Int64} {mX63_bytes : Nat → Option Nat} {mX64_to : Nat → Int32} {mX64_sector : Nat → Option Nat} {mJ1_modCount : Nat → Int32} {mJ2_elementData : Nat → Option Nat} {mJ2_size : Nat → Int32} {mJ5_elements : Nat → Option Nat} {mJ5_head : Nat → Int32} {mJ5_tail : Nat → Int32} {mJ22_cursor : Nat → Int32} {mJ22_remaining : Nat → Int32} {mJ22_lastRet : Nat → Int32} {mJ22_this_0 : Nat → Option Nat} {mJ23_cursor : Nat → Int32} {mJ23_lastRet : Nat → Int32} {mJ23_expectedModCount : Nat → Int32} {mJ23_this_0 : Nat → Option Nat} {a : Nat} {v : Option Nat} (hk : kd a = 1) : va_up (cKD ci d kd an ai al ar mX42_disk mX42_count mX42_runs mX42_isFull mX42_places mX42_laid mX42_changed mX42_waiting mX42_states mX42_kept mX43_number mX43_sectors mX63_bytes mX64_to mX64_sector mJ1_modCount mJ2_elementData mJ2_size mJ5_elements mJ5_head mJ5_tail mJ22_cursor mJ22_remaining mJ22_lastRet mJ22_this_0 mJ23_cursor mJ23_lastRet mJ23_expectedModCount mJ23_this_0) a (.inr (ci 0, [va_rf (mX42_disk a), .int (mX42_count a), .int (mX42_runs a), .int (mX42_isFull a), va_rf (mX42_places a), va_rf (mX42_laid a), .int (mX42_changed a), va_rf v, va_rf (mX42_states a), va_rf (mX42_kept a)])) = (cKD ci d kd an ai al ar mX42_disk mX42_count mX42_runs mX42_isFull mX42_places mX42_laid mX42_changed (va_up mX42_waiting a v) mX42_states mX42_kept mX43_number mX43_sectors mX63_bytes mX64_to mX64_sector mJ1_modCount mJ2_elementData mJ2_size mJ5_elements mJ5_head mJ5_tail mJ22_cursor mJ22_remaining mJ22_lastRet mJ22_this_0 mJ23_cursor mJ23_lastRet mJ23_expectedModCount mJ23_this_0) := by
  funext b
  by_cases h : b = a
  · subst h
    rw [va_up_self]
    unfold cKD
    rw [hk]
    simp only [va_up_self]
  · rw [va_up_ne _ _ h]
    unfold cKD
    simp only [va_up_ne _ _ h]
theorem cKD_1_8 {ci : Nat → Nat} {d : Nat → ClassId} {kd : Nat → Nat} {an : Nat → Nat} {ai : Nat → Nat → Int32} {al : Nat → Nat → Int64} {ar : Nat → Nat → Option Nat} {mX42_disk : Nat → Option Nat} {mX42_count : Nat → Int32} {mX42_runs : Nat → Int32} {mX42_isFull : Nat → Int32} {mX42_places : Nat → Option Nat} {mX42_laid : Nat → Option Nat} {mX42_changed : Nat → Int32} {mX42_waiting : Nat → Option Nat} {mX42_states : Nat → Option Nat} {mX42_kept : Nat → Option Nat} {mX43_number : Nat → Int32} {mX43_sectors : Nat → Int64} {mX63_bytes : Nat → Option Nat} {mX64_to : Nat → Int32} {mX64_sector : Nat → Option Nat} {mJ1_modCount : Nat → Int32} {mJ2_elementData : Nat → Option Nat} {mJ2_size : Nat → Int32} {mJ5_elements : Nat → Option Nat} {mJ5_head : Nat → Int32} {mJ5_tail : Nat → Int32} {mJ22_cursor : Nat → Int32} {mJ22_remaining : Nat → Int32} {mJ22_lastRet : Nat → Int32} {mJ22_this_0 : Nat → Option Nat} {mJ23_cursor : Nat → Int32} {mJ23_lastRet : Nat → Int32} {mJ23_expectedModCount : Nat → Int32} {mJ23_this_0 : Nat → Option Nat} {a : Nat} {v : Option Nat} (hk : kd a = 1) : va_up (cKD ci d kd an ai al ar mX42_disk mX42_count mX42_runs mX42_isFull mX42_places mX42_laid mX42_changed mX42_waiting mX42_states mX42_kept mX43_number mX43_sectors mX63_bytes mX64_to mX64_sector mJ1_modCount mJ2_elementData mJ2_size mJ5_elements mJ5_head mJ5_tail mJ22_cursor mJ22_remaining mJ22_lastRet mJ22_this_0 mJ23_cursor mJ23_lastRet mJ23_expectedModCount mJ23_this_0) a (.inr (ci 0, [va_rf (mX42_disk a), .int (mX42_count a), .int (mX42_runs a), .int (mX42_isFull a), va_rf (mX42_places a), va_rf (mX42_laid a), .int (mX42_changed a), va_rf (mX42_waiting a), va_rf v, va_rf (mX42_kept a)])) = (cKD ci d kd an ai al ar mX42_disk mX42_count mX42_runs mX42_isFull mX42_places mX42_laid mX42_changed mX42_waiting (va_up mX42_states a v) mX42_kept mX43_number mX43_sectors mX63_bytes mX64_to mX64_sector mJ1_modCount mJ2_elementData mJ2_size mJ5_elements mJ5_head mJ5_tail mJ22_cursor mJ22_remaining mJ22_lastRet mJ22_this_0 mJ23_cursor mJ23_lastRet mJ23_expectedModCount mJ23_this_0) := by
  funext b
  by_cases h : b = a
  · subst h
    rw [va_up_self]
    unfold cKD
    rw [hk]
    simp only [va_up_self]
  · rw [va_up_ne _ _ h]
    unfold cKD
    simp only [va_up_ne _ _ h]
theorem cKD_1_9 {ci : Nat → Nat} {d : Nat → ClassId} {kd : Nat → Nat} {an : Nat → Nat} {ai : Nat → Nat → Int32} {al : Nat → Nat → Int64} {ar : Nat → Nat → Option Nat} {mX42_disk : Nat → Option Nat} {mX42_count : Nat → Int32} {mX42_runs : Nat → Int32} {mX42_isFull : Nat → Int32} {mX42_places : Nat → Option Nat} {mX42_laid : Nat → Option Nat} {mX42_changed : Nat → Int32} {mX42_waiting : Nat → Option Nat} {mX42_states : Nat → Option Nat} {mX42_kept : Nat → Option Nat} {mX43_number : Nat → Int32} {mX43_sectors : Nat → Int64} {mX63_bytes : Nat → Option Nat} {mX64_to : Nat → Int32} {mX64_sector : Nat → Option Nat} {mJ1_modCount : Nat → Int32} {mJ2_elementData : Nat → Option Nat} {mJ2_size : Nat → Int32} {mJ5_elements : Nat → Option Nat} {mJ5_head : Nat → Int32} {mJ5_tail : Nat → Int32} {mJ22_cursor : Nat → Int32} {mJ22_remaining : Nat → Int32} {mJ22_lastRet : Nat → Int32} {mJ22_this_0 : Nat → Option Nat} {mJ23_cursor : Nat → Int32} {mJ23_lastRet : Nat → Int32} {mJ23_expectedModCount : Nat → Int32} {mJ23_this_0 : Nat → Option Nat} {a : Nat} {v : Option Nat} (hk : kd a = 1) : va_up (cKD ci d kd an ai al ar mX42_disk mX42_count mX42_runs mX42_isFull mX42_places mX42_laid mX42_changed mX42_waiting mX42_states mX42_kept mX43_number mX43_sectors mX63_bytes mX64_to mX64_sector mJ1_modCount mJ2_elementData mJ2_size mJ5_elements mJ5_head mJ5_tail mJ22_cursor mJ22_remaining mJ22_lastRet mJ22_this_0 mJ23_cursor mJ23_lastRet mJ23_expectedModCount mJ23_this_0) a (.inr (ci 0, [va_rf (mX42_disk a), .int (mX42_count a), .int (mX42_runs a), .int (mX42_isFull a), va_rf (mX42_places a), va_rf (mX42_laid a), .int (mX42_changed a), va_rf (mX42_waiting a), va_rf (mX42_states a), va_rf v])) = (cKD ci d kd an ai al ar mX42_disk mX42_count mX42_runs mX42_isFull mX42_places mX42_laid mX42_changed mX42_waiting mX42_states (va_up mX42_kept a v) mX43_number mX43_sectors mX63_bytes mX64_to mX64_sector mJ1_modCount mJ2_elementData mJ2_size mJ5_elements mJ5_head mJ5_tail mJ22_cursor mJ22_remaining mJ22_lastRet mJ22_this_0 mJ23_cursor mJ23_lastRet mJ23_expectedModCount mJ23_this_0) := by
  funext b
  by_cases h : b = a
  · subst h
    rw [va_up_self]
    unfold cKD
    rw [hk]
    simp only [va_up_self]
  · rw [va_up_ne _ _ h]
    unfold cKD
    simp only [va_up_ne _ _ h]
theorem cKD_1_n {ci : Nat → Nat} {d : Nat → ClassId} {kd : Nat → Nat} {an : Nat → Nat} {ai : Nat → Nat → Int32} {al : Nat → Nat → Int64} {ar : Nat → Nat → Option Nat} {mX42_disk : Nat → Option Nat} {mX42_count : Nat → Int32} {mX42_runs : Nat → Int32} {mX42_isFull : Nat → Int32} {mX42_places : Nat → Option Nat} {mX42_laid : Nat → Option Nat} {mX42_changed : Nat → Int32} {mX42_waiting : Nat → Option Nat} {mX42_states : Nat → Option Nat} {mX42_kept : Nat → Option Nat} {mX43_number : Nat → Int32} {mX43_sectors : Nat → Int64} {mX63_bytes : Nat → Option Nat} {mX64_to : Nat → Int32} {mX64_sector : Nat → Option Nat} {mJ1_modCount : Nat → Int32} {mJ2_elementData : Nat → Option Nat} {mJ2_size : Nat → Int32} {mJ5_elements : Nat → Option Nat} {mJ5_head : Nat → Int32} {mJ5_tail : Nat → Int32} {mJ22_cursor : Nat → Int32} {mJ22_remaining : Nat → Int32} {mJ22_lastRet : Nat → Int32} {mJ22_this_0 : Nat → Option Nat} {mJ23_cursor : Nat → Int32} {mJ23_lastRet : Nat → Int32} {mJ23_expectedModCount : Nat → Int32} {mJ23_this_0 : Nat → Option Nat} (q : Nat) : va_up (cKD ci d kd an ai al ar mX42_disk mX42_count mX42_runs mX42_isFull mX42_places mX42_laid mX42_changed mX42_waiting mX42_states mX42_kept mX43_number mX43_sectors mX63_bytes mX64_to mX64_sector mJ1_modCount mJ2_elementData mJ2_size mJ5_elements mJ5_head mJ5_tail mJ22_cursor mJ22_remaining mJ22_lastRet mJ22_this_0 mJ23_cursor mJ23_lastRet mJ23_expectedModCount mJ23_this_0) q (.inr (ci 0, [va_rf none, .int 0, .int 0, .int 0, va_rf none, va_rf none, .int 0, va_rf none, va_rf none, va_rf none])) = (cKD ci d (va_up kd q 1) an ai al ar (va_up mX42_disk q none) (va_up mX42_count q 0) (va_up mX42_runs q 0) (va_up mX42_isFull q 0) (va_up mX42_places q none) (va_up mX42_laid q none) (va_up mX42_changed q 0) (va_up mX42_waiting q none) (va_up mX42_states q none) (va_up mX42_kept q none) mX43_number mX43_sectors mX63_bytes mX64_to mX64_sector mJ1_modCount mJ2_elementData mJ2_size mJ5_elements mJ5_head mJ5_tail mJ22_cursor mJ22_remaining mJ22_lastRet mJ22_this_0 mJ23_cursor mJ23_lastRet mJ23_expectedModCount mJ23_this_0) := by
  funext b
  by_cases h : b = q
  · subst h
    rw [va_up_self]
    unfold cKD
    simp only [va_up_self]
  · rw [va_up_ne _ _ h]
    unfold cKD
    simp only [va_up_ne _ _ h]
theorem cKD_2 {ci : Nat → Nat} {d : Nat → ClassId} {kd : Nat → Nat} {an : Nat → Nat} {ai : Nat → Nat → Int32} {al : Nat → Nat → Int64} {ar : Nat → Nat → Option Nat} {mX42_disk : Nat → Option Nat} {mX42_count : Nat → Int32} {mX42_runs : Nat → Int32} {mX42_isFull : Nat → Int32} {mX42_places : Nat → Option Nat} {mX42_laid : Nat → Option Nat} {mX42_changed : Nat → Int32} {mX42_waiting : Nat → Option Nat} {mX42_states : Nat → Option Nat} {mX42_kept : Nat → Option Nat} {mX43_number : Nat → Int32} {mX43_sectors : Nat → Int64} {mX63_bytes : Nat → Option Nat} {mX64_to : Nat → Int32} {mX64_sector : Nat → Option Nat} {mJ1_modCount : Nat → Int32} {mJ2_elementData : Nat → Option Nat} {mJ2_size : Nat → Int32} {mJ5_elements : Nat → Option Nat} {mJ5_head : Nat → Int32} {mJ5_tail : Nat → Int32} {mJ22_cursor : Nat → Int32} {mJ22_remaining : Nat → Int32} {mJ22_lastRet : Nat → Int32} {mJ22_this_0 : Nat → Option Nat} {mJ23_cursor : Nat → Int32} {mJ23_lastRet : Nat → Int32} {mJ23_expectedModCount : Nat → Int32} {mJ23_this_0 : Nat → Option Nat} {a : Nat} (hk : kd a = 2) : (cKD ci d kd an ai al ar mX42_disk mX42_count mX42_runs mX42_isFull mX42_places mX42_laid mX42_changed mX42_waiting mX42_states mX42_kept mX43_number mX43_sectors mX63_bytes mX64_to mX64_sector mJ1_modCount mJ2_elementData mJ2_size mJ5_elements mJ5_head mJ5_tail mJ22_cursor mJ22_remaining mJ22_lastRet mJ22_this_0 mJ23_cursor mJ23_lastRet mJ23_expectedModCount mJ23_this_0) a = .inr (ci 1, [.int (mX43_number a), .long (mX43_sectors a)]) := by unfold cKD; simp only [hk]
theorem cKD_2_0 {ci : Nat → Nat} {d : Nat → ClassId} {kd : Nat → Nat} {an : Nat → Nat} {ai : Nat → Nat → Int32} {al : Nat → Nat → Int64} {ar : Nat → Nat → Option Nat} {mX42_disk : Nat → Option Nat} {mX42_count : Nat → Int32} {mX42_runs : Nat → Int32} {mX42_isFull : Nat → Int32} {mX42_places : Nat → Option Nat} {mX42_laid : Nat → Option Nat} {mX42_changed : Nat → Int32} {mX42_waiting : Nat → Option Nat} {mX42_states : Nat → Option Nat} {mX42_kept : Nat → Option Nat} {mX43_number : Nat → Int32} {mX43_sectors : Nat → Int64} {mX63_bytes : Nat → Option Nat} {mX64_to : Nat → Int32} {mX64_sector : Nat → Option Nat} {mJ1_modCount : Nat → Int32} {mJ2_elementData : Nat → Option Nat} {mJ2_size : Nat → Int32} {mJ5_elements : Nat → Option Nat} {mJ5_head : Nat → Int32} {mJ5_tail : Nat → Int32} {mJ22_cursor : Nat → Int32} {mJ22_remaining : Nat → Int32} {mJ22_lastRet : Nat → Int32} {mJ22_this_0 : Nat → Option Nat} {mJ23_cursor : Nat → Int32} {mJ23_lastRet : Nat → Int32} {mJ23_expectedModCount : Nat → Int32} {mJ23_this_0 : Nat → Option Nat} {a : Nat} {v : Int32} (hk : kd a = 2) : va_up (cKD ci d kd an ai al ar mX42_disk mX42_count mX42_runs mX42_isFull mX42_places mX42_laid mX42_changed mX42_waiting mX42_states mX42_kept mX43_number mX43_sectors mX63_bytes mX64_to mX64_sector mJ1_modCount mJ2_elementData mJ2_size mJ5_elements mJ5_head mJ5_tail mJ22_cursor mJ22_remaining mJ22_lastRet mJ22_this_0 mJ23_cursor mJ23_lastRet mJ23_expectedModCount mJ23_this_0) a (.inr (ci 1, [.int v, .long (mX43_sectors a)])) = (cKD ci d kd an ai al ar mX42_disk mX42_count mX42_runs mX42_isFull mX42_places mX42_laid mX42_changed mX42_waiting mX42_states mX42_kept (va_up mX43_number a v) mX43_sectors mX63_bytes mX64_to mX64_sector mJ1_modCount mJ2_elementData mJ2_size mJ5_elements mJ5_head mJ5_tail mJ22_cursor mJ22_remaining mJ22_lastRet mJ22_this_0 mJ23_cursor mJ23_lastRet mJ23_expectedModCount mJ23_this_0) := by
  funext b
  by_cases h : b = a
  · subst h
    rw [va_up_self]
    unfold cKD
    rw [hk]
    simp only [va_up_self]
  · rw [va_up_ne _ _ h]
    unfold cKD
    simp only [va_up_ne _ _ h]
theorem cKD_2_1 {ci : Nat → Nat} {d : Nat → ClassId} {kd : Nat → Nat} {an : Nat → Nat} {ai : Nat → Nat → Int32} {al : Nat → Nat → Int64} {ar : Nat → Nat → Option Nat} {mX42_disk : Nat → Option Nat} {mX42_count : Nat → Int32} {mX42_runs : Nat → Int32} {mX42_isFull : Nat → Int32} {mX42_places : Nat → Option Nat} {mX42_laid : Nat → Option Nat} {mX42_changed : Nat → Int32} {mX42_waiting : Nat → Option Nat} {mX42_states : Nat → Option Nat} {mX42_kept : Nat → Option Nat} {mX43_number : Nat → Int32} {mX43_sectors : Nat → Int64} {mX63_bytes : Nat → Option Nat} {mX64_to : Nat → Int32} {mX64_sector : Nat → Option Nat} {mJ1_modCount : Nat → Int32} {mJ2_elementData : Nat → Option Nat} {mJ2_size : Nat → Int32} {mJ5_elements : Nat → Option Nat} {mJ5_head : Nat → Int32} {mJ5_tail : Nat → Int32} {mJ22_cursor : Nat → Int32} {mJ22_remaining : Nat → Int32} {mJ22_lastRet : Nat → Int32} {mJ22_this_0 : Nat → Option Nat} {mJ23_cursor : Nat → Int32} {mJ23_lastRet : Nat → Int32} {mJ23_expectedModCount : Nat → Int32} {mJ23_this_0 : Nat → Option Nat} {a : Nat} {v : Int64} (hk : kd a = 2) : va_up (cKD ci d kd an ai al ar mX42_disk mX42_count mX42_runs mX42_isFull mX42_places mX42_laid mX42_changed mX42_waiting mX42_states mX42_kept mX43_number mX43_sectors mX63_bytes mX64_to mX64_sector mJ1_modCount mJ2_elementData mJ2_size mJ5_elements mJ5_head mJ5_tail mJ22_cursor mJ22_remaining mJ22_lastRet mJ22_this_0 mJ23_cursor mJ23_lastRet mJ23_expectedModCount mJ23_this_0) a (.inr (ci 1, [.int (mX43_number a), .long v])) = (cKD ci d kd an ai al ar mX42_disk mX42_count mX42_runs mX42_isFull mX42_places mX42_laid mX42_changed mX42_waiting mX42_states mX42_kept mX43_number (va_up mX43_sectors a v) mX63_bytes mX64_to mX64_sector mJ1_modCount mJ2_elementData mJ2_size mJ5_elements mJ5_head mJ5_tail mJ22_cursor mJ22_remaining mJ22_lastRet mJ22_this_0 mJ23_cursor mJ23_lastRet mJ23_expectedModCount mJ23_this_0) := by
  funext b
  by_cases h : b = a
  · subst h
    rw [va_up_self]
    unfold cKD
    rw [hk]
    simp only [va_up_self]
  · rw [va_up_ne _ _ h]
    unfold cKD
    simp only [va_up_ne _ _ h]
theorem cKD_2_n {ci : Nat → Nat} {d : Nat → ClassId} {kd : Nat → Nat} {an : Nat → Nat} {ai : Nat → Nat → Int32} {al : Nat → Nat → Int64} {ar : Nat → Nat → Option Nat} {mX42_disk : Nat → Option Nat} {mX42_count : Nat → Int32} {mX42_runs : Nat → Int32} {mX42_isFull : Nat → Int32} {mX42_places : Nat → Option Nat} {mX42_laid : Nat → Option Nat} {mX42_changed : Nat → Int32} {mX42_waiting : Nat → Option Nat} {mX42_states : Nat → Option Nat} {mX42_kept : Nat → Option Nat} {mX43_number : Nat → Int32} {mX43_sectors : Nat → Int64} {mX63_bytes : Nat → Option Nat} {mX64_to : Nat → Int32} {mX64_sector : Nat → Option Nat} {mJ1_modCount : Nat → Int32} {mJ2_elementData : Nat → Option Nat} {mJ2_size : Nat → Int32} {mJ5_elements : Nat → Option Nat} {mJ5_head : Nat → Int32} {mJ5_tail : Nat → Int32} {mJ22_cursor : Nat → Int32} {mJ22_remaining : Nat → Int32} {mJ22_lastRet : Nat → Int32} {mJ22_this_0 : Nat → Option Nat} {mJ23_cursor : Nat → Int32} {mJ23_lastRet : Nat → Int32} {mJ23_expectedModCount : Nat → Int32} {mJ23_this_0 : Nat → Option Nat} (q : Nat) : va_up (cKD ci d kd an ai al ar mX42_disk mX42_count mX42_runs mX42_isFull mX42_places mX42_laid mX42_changed mX42_waiting mX42_states mX42_kept mX43_number mX43_sectors mX63_bytes mX64_to mX64_sector mJ1_modCount mJ2_elementData mJ2_size mJ5_elements mJ5_head mJ5_tail mJ22_cursor mJ22_remaining mJ22_lastRet mJ22_this_0 mJ23_cursor mJ23_lastRet mJ23_expectedModCount mJ23_this_0) q (.inr (ci 1, [.int 0, .long 0])) = (cKD ci d (va_up kd q 2) an ai al ar mX42_disk mX42_count mX42_runs mX42_isFull mX42_places mX42_laid mX42_changed mX42_waiting mX42_states mX42_kept (va_up mX43_number q 0) (va_up mX43_sectors q 0) mX63_bytes mX64_to mX64_sector mJ1_modCount mJ2_elementData mJ2_size mJ5_elements mJ5_head mJ5_tail mJ22_cursor mJ22_remaining mJ22_lastRet mJ22_this_0 mJ23_cursor mJ23_lastRet mJ23_expectedModCount mJ23_this_0) := by
  funext b
  by_cases h : b = q
  · subst h
    rw [va_up_self]
    unfold cKD
    simp only [va_up_self]
  · rw [va_up_ne _ _ h]
    unfold cKD
    simp only [va_up_ne _ _ h]
theorem cKD_3 {ci : Nat → Nat} {d : Nat → ClassId} {kd : Nat → Nat} {an : Nat → Nat} {ai : Nat → Nat → Int32} {al : Nat → Nat → Int64} {ar : Nat → Nat → Option Nat} {mX42_disk : Nat → Option Nat} {mX42_count : Nat → Int32} {mX42_runs : Nat → Int32} {mX42_isFull : Nat → Int32} {mX42_places : Nat → Option Nat} {mX42_laid : Nat → Option Nat} {mX42_changed : Nat → Int32} {mX42_waiting : Nat → Option Nat} {mX42_states : Nat → Option Nat} {mX42_kept : Nat → Option Nat} {mX43_number : Nat → Int32} {mX43_sectors : Nat → Int64} {mX63_bytes : Nat → Option Nat} {mX64_to : Nat → Int32} {mX64_sector : Nat → Option Nat} {mJ1_modCount : Nat → Int32} {mJ2_elementData : Nat → Option Nat} {mJ2_size : Nat → Int32} {mJ5_elements : Nat → Option Nat} {mJ5_head : Nat → Int32} {mJ5_tail : Nat → Int32} {mJ22_cursor : Nat → Int32} {mJ22_remaining : Nat → Int32} {mJ22_lastRet : Nat → Int32} {mJ22_this_0 : Nat → Option Nat} {mJ23_cursor : Nat → Int32} {mJ23_lastRet : Nat → Int32} {mJ23_expectedModCount : Nat → Int32} {mJ23_this_0 : Nat → Option Nat} {a : Nat} (hk : kd a = 3) : (cKD ci d kd an ai al ar mX42_disk mX42_count mX42_runs mX42_isFull mX42_places mX42_laid mX42_changed mX42_waiting mX42_states mX42_kept mX43_number mX43_sectors mX63_bytes mX64_to mX64_sector mJ1_modCount mJ2_elementData mJ2_size mJ5_elements mJ5_head mJ5_tail mJ22_cursor mJ22_remaining mJ22_lastRet mJ22_this_0 mJ23_cursor mJ23_lastRet mJ23_expectedModCount mJ23_this_0) a = .inr (ci 2, [va_rf (mX63_bytes a)]) := by unfold cKD; simp only [hk]
theorem cKD_3_0 {ci : Nat → Nat} {d : Nat → ClassId} {kd : Nat → Nat} {an : Nat → Nat} {ai : Nat → Nat → Int32} {al : Nat → Nat → Int64} {ar : Nat → Nat → Option Nat} {mX42_disk : Nat → Option Nat} {mX42_count : Nat → Int32} {mX42_runs : Nat → Int32} {mX42_isFull : Nat → Int32} {mX42_places : Nat → Option Nat} {mX42_laid : Nat → Option Nat} {mX42_changed : Nat → Int32} {mX42_waiting : Nat → Option Nat} {mX42_states : Nat → Option Nat} {mX42_kept : Nat → Option Nat} {mX43_number : Nat → Int32} {mX43_sectors : Nat → Int64} {mX63_bytes : Nat → Option Nat} {mX64_to : Nat → Int32} {mX64_sector : Nat → Option Nat} {mJ1_modCount : Nat → Int32} {mJ2_elementData : Nat → Option Nat} {mJ2_size : Nat → Int32} {mJ5_elements : Nat → Option Nat} {mJ5_head : Nat → Int32} {mJ5_tail : Nat → Int32} {mJ22_cursor : Nat → Int32} {mJ22_remaining : Nat → Int32} {mJ22_lastRet : Nat → Int32} {mJ22_this_0 : Nat → Option Nat} {mJ23_cursor : Nat → Int32} {mJ23_lastRet : Nat → Int32} {mJ23_expectedModCount : Nat → Int32} {mJ23_this_0 : Nat → Option Nat} {a : Nat} {v : Option Nat} (hk : kd a = 3) : va_up (cKD ci d kd an ai al ar mX42_disk mX42_count mX42_runs mX42_isFull mX42_places mX42_laid mX42_changed mX42_waiting mX42_states mX42_kept mX43_number mX43_sectors mX63_bytes mX64_to mX64_sector mJ1_modCount mJ2_elementData mJ2_size mJ5_elements mJ5_head mJ5_tail mJ22_cursor mJ22_remaining mJ22_lastRet mJ22_this_0 mJ23_cursor mJ23_lastRet mJ23_expectedModCount mJ23_this_0) a (.inr (ci 2, [va_rf v])) = (cKD ci d kd an ai al ar mX42_disk mX42_count mX42_runs mX42_isFull mX42_places mX42_laid mX42_changed mX42_waiting mX42_states mX42_kept mX43_number mX43_sectors (va_up mX63_bytes a v) mX64_to mX64_sector mJ1_modCount mJ2_elementData mJ2_size mJ5_elements mJ5_head mJ5_tail mJ22_cursor mJ22_remaining mJ22_lastRet mJ22_this_0 mJ23_cursor mJ23_lastRet mJ23_expectedModCount mJ23_this_0) := by
  funext b
  by_cases h : b = a
  · subst h
    rw [va_up_self]
    unfold cKD
    rw [hk]
    simp only [va_up_self]
  · rw [va_up_ne _ _ h]
    unfold cKD
    simp only [va_up_ne _ _ h]
theorem cKD_3_n {ci : Nat → Nat} {d : Nat → ClassId} {kd : Nat → Nat} {an : Nat → Nat} {ai : Nat → Nat → Int32} {al : Nat → Nat → Int64} {ar : Nat → Nat → Option Nat} {mX42_disk : Nat → Option Nat} {mX42_count : Nat → Int32} {mX42_runs : Nat → Int32} {mX42_isFull : Nat → Int32} {mX42_places : Nat → Option Nat} {mX42_laid : Nat → Option Nat} {mX42_changed : Nat → Int32} {mX42_waiting : Nat → Option Nat} {mX42_states : Nat → Option Nat} {mX42_kept : Nat → Option Nat} {mX43_number : Nat → Int32} {mX43_sectors : Nat → Int64} {mX63_bytes : Nat → Option Nat} {mX64_to : Nat → Int32} {mX64_sector : Nat → Option Nat} {mJ1_modCount : Nat → Int32} {mJ2_elementData : Nat → Option Nat} {mJ2_size : Nat → Int32} {mJ5_elements : Nat → Option Nat} {mJ5_head : Nat → Int32} {mJ5_tail : Nat → Int32} {mJ22_cursor : Nat → Int32} {mJ22_remaining : Nat → Int32} {mJ22_lastRet : Nat → Int32} {mJ22_this_0 : Nat → Option Nat} {mJ23_cursor : Nat → Int32} {mJ23_lastRet : Nat → Int32} {mJ23_expectedModCount : Nat → Int32} {mJ23_this_0 : Nat → Option Nat} (q : Nat) : va_up (cKD ci d kd an ai al ar mX42_disk mX42_count mX42_runs mX42_isFull mX42_places mX42_laid mX42_changed mX42_waiting mX42_states mX42_kept mX43_number mX43_sectors mX63_bytes mX64_to mX64_sector mJ1_modCount mJ2_elementData mJ2_size mJ5_elements mJ5_head mJ5_tail mJ22_cursor mJ22_remaining mJ22_lastRet mJ22_this_0 mJ23_cursor mJ23_lastRet mJ23_expectedModCount mJ23_this_0) q (.inr (ci 2, [va_rf none])) = (cKD ci d (va_up kd q 3) an ai al ar mX42_disk mX42_count mX42_runs mX42_isFull mX42_places mX42_laid mX42_changed mX42_waiting mX42_states mX42_kept mX43_number mX43_sectors (va_up mX63_bytes q none) mX64_to mX64_sector mJ1_modCount mJ2_elementData mJ2_size mJ5_elements mJ5_head mJ5_tail mJ22_cursor mJ22_remaining mJ22_lastRet mJ22_this_0 mJ23_cursor mJ23_lastRet mJ23_expectedModCount mJ23_this_0) := by
  funext b
  by_cases h : b = q
  · subst h
    rw [va_up_self]
    unfold cKD
    simp only [va_up_self]
  · rw [va_up_ne _ _ h]
    unfold cKD
    simp only [va_up_ne _ _ h]
theorem cKD_4 {ci : Nat → Nat} {d : Nat → ClassId} {kd : Nat → Nat} {an : Nat → Nat} {ai : Nat → Nat → Int32} {al : Nat → Nat → Int64} {ar : Nat → Nat → Option Nat} {mX42_disk : Nat → Option Nat} {mX42_count : Nat → Int32} {mX42_runs : Nat → Int32} {mX42_isFull : Nat → Int32} {mX42_places : Nat → Option Nat} {mX42_laid : Nat → Option Nat} {mX42_changed : Nat → Int32} {mX42_waiting : Nat → Option Nat} {mX42_states : Nat → Option Nat} {mX42_kept : Nat → Option Nat} {mX43_number : Nat → Int32} {mX43_sectors : Nat → Int64} {mX63_bytes : Nat → Option Nat} {mX64_to : Nat → Int32} {mX64_sector : Nat → Option Nat} {mJ1_modCount : Nat → Int32} {mJ2_elementData : Nat → Option Nat} {mJ2_size : Nat → Int32} {mJ5_elements : Nat → Option Nat} {mJ5_head : Nat → Int32} {mJ5_tail : Nat → Int32} {mJ22_cursor : Nat → Int32} {mJ22_remaining : Nat → Int32} {mJ22_lastRet : Nat → Int32} {mJ22_this_0 : Nat → Option Nat} {mJ23_cursor : Nat → Int32} {mJ23_lastRet : Nat → Int32} {mJ23_expectedModCount : Nat → Int32} {mJ23_this_0 : Nat → Option Nat} {a : Nat} (hk : kd a = 4) : (cKD ci d kd an ai al ar mX42_disk mX42_count mX42_runs mX42_isFull mX42_places mX42_laid mX42_changed mX42_waiting mX42_states mX42_kept mX43_number mX43_sectors mX63_bytes mX64_to mX64_sector mJ1_modCount mJ2_elementData mJ2_size mJ5_elements mJ5_head mJ5_tail mJ22_cursor mJ22_remaining mJ22_lastRet mJ22_this_0 mJ23_cursor mJ23_lastRet mJ23_expectedModCount mJ23_this_0) a = .inr (ci 3, [.int (mX64_to a), va_rf (mX64_sector a)]) := by unfold cKD; simp only [hk]
theorem cKD_4_0 {ci : Nat → Nat} {d : Nat → ClassId} {kd : Nat → Nat} {an : Nat → Nat} {ai : Nat → Nat → Int32} {al : Nat → Nat → Int64} {ar : Nat → Nat → Option Nat} {mX42_disk : Nat → Option Nat} {mX42_count : Nat → Int32} {mX42_runs : Nat → Int32} {mX42_isFull : Nat → Int32} {mX42_places : Nat → Option Nat} {mX42_laid : Nat → Option Nat} {mX42_changed : Nat → Int32} {mX42_waiting : Nat → Option Nat} {mX42_states : Nat → Option Nat} {mX42_kept : Nat → Option Nat} {mX43_number : Nat → Int32} {mX43_sectors : Nat → Int64} {mX63_bytes : Nat → Option Nat} {mX64_to : Nat → Int32} {mX64_sector : Nat → Option Nat} {mJ1_modCount : Nat → Int32} {mJ2_elementData : Nat → Option Nat} {mJ2_size : Nat → Int32} {mJ5_elements : Nat → Option Nat} {mJ5_head : Nat → Int32} {mJ5_tail : Nat → Int32} {mJ22_cursor : Nat → Int32} {mJ22_remaining : Nat → Int32} {mJ22_lastRet : Nat → Int32} {mJ22_this_0 : Nat → Option Nat} {mJ23_cursor : Nat → Int32} {mJ23_lastRet : Nat → Int32} {mJ23_expectedModCount : Nat → Int32} {mJ23_this_0 : Nat → Option Nat} {a : Nat} {v : Int32} (hk : kd a = 4) : va_up (cKD ci d kd an ai al ar mX42_disk mX42_count mX42_runs mX42_isFull mX42_places mX42_laid mX42_changed mX42_waiting mX42_states mX42_kept mX43_number mX43_sectors mX63_bytes mX64_to mX64_sector mJ1_modCount mJ2_elementData mJ2_size mJ5_elements mJ5_head mJ5_tail mJ22_cursor mJ22_remaining mJ22_lastRet mJ22_this_0 mJ23_cursor mJ23_lastRet mJ23_expectedModCount mJ23_this_0) a (.inr (ci 3, [.int v, va_rf (mX64_sector a)])) = (cKD ci d kd an ai al ar mX42_disk mX42_count mX42_runs mX42_isFull mX42_places mX42_laid mX42_changed mX42_waiting mX42_states mX42_kept mX43_number mX43_sectors mX63_bytes (va_up mX64_to a v) mX64_sector mJ1_modCount mJ2_elementData mJ2_size mJ5_elements mJ5_head mJ5_tail mJ22_cursor mJ22_remaining mJ22_lastRet mJ22_this_0 mJ23_cursor mJ23_lastRet mJ23_expectedModCount mJ23_this_0) := by
  funext b
  by_cases h : b = a
  · subst h
    rw [va_up_self]
    unfold cKD
    rw [hk]
    simp only [va_up_self]
  · rw [va_up_ne _ _ h]
    unfold cKD
    simp only [va_up_ne _ _ h]
theorem cKD_4_1 {ci : Nat → Nat} {d : Nat → ClassId} {kd : Nat → Nat} {an : Nat → Nat} {ai : Nat → Nat → Int32} {al : Nat → Nat → Int64} {ar : Nat → Nat → Option Nat} {mX42_disk : Nat → Option Nat} {mX42_count : Nat → Int32} {mX42_runs : Nat → Int32} {mX42_isFull : Nat → Int32} {mX42_places : Nat → Option Nat} {mX42_laid : Nat → Option Nat} {mX42_changed : Nat → Int32} {mX42_waiting : Nat → Option Nat} {mX42_states : Nat → Option Nat} {mX42_kept : Nat → Option Nat} {mX43_number : Nat → Int32} {mX43_sectors : Nat → Int64} {mX63_bytes : Nat → Option Nat} {mX64_to : Nat → Int32} {mX64_sector : Nat → Option Nat} {mJ1_modCount : Nat → Int32} {mJ2_elementData : Nat → Option Nat} {mJ2_size : Nat → Int32} {mJ5_elements : Nat → Option Nat} {mJ5_head : Nat → Int32} {mJ5_tail : Nat → Int32} {mJ22_cursor : Nat → Int32} {mJ22_remaining : Nat → Int32} {mJ22_lastRet : Nat → Int32} {mJ22_this_0 : Nat → Option Nat} {mJ23_cursor : Nat → Int32} {mJ23_lastRet : Nat → Int32} {mJ23_expectedModCount : Nat → Int32} {mJ23_this_0 : Nat → Option Nat} {a : Nat} {v : Option Nat} (hk : kd a = 4) : va_up (cKD ci d kd an ai al ar mX42_disk mX42_count mX42_runs mX42_isFull mX42_places mX42_laid mX42_changed mX42_waiting mX42_states mX42_kept mX43_number mX43_sectors mX63_bytes mX64_to mX64_sector mJ1_modCount mJ2_elementData mJ2_size mJ5_elements mJ5_head mJ5_tail mJ22_cursor mJ22_remaining mJ22_lastRet mJ22_this_0 mJ23_cursor mJ23_lastRet mJ23_expectedModCount mJ23_this_0) a (.inr (ci 3, [.int (mX64_to a), va_rf v])) = (cKD ci d kd an ai al ar mX42_disk mX42_count mX42_runs mX42_isFull mX42_places mX42_laid mX42_changed mX42_waiting mX42_states mX42_kept mX43_number mX43_sectors mX63_bytes mX64_to (va_up mX64_sector a v) mJ1_modCount mJ2_elementData mJ2_size mJ5_elements mJ5_head mJ5_tail mJ22_cursor mJ22_remaining mJ22_lastRet mJ22_this_0 mJ23_cursor mJ23_lastRet mJ23_expectedModCount mJ23_this_0) := by
  funext b
  by_cases h : b = a
  · subst h
    rw [va_up_self]
    unfold cKD
    rw [hk]
    simp only [va_up_self]
  · rw [va_up_ne _ _ h]
    unfold cKD
    simp only [va_up_ne _ _ h]
theorem cKD_4_n {ci : Nat → Nat} {d : Nat → ClassId} {kd : Nat → Nat} {an : Nat → Nat} {ai : Nat → Nat → Int32} {al : Nat → Nat → Int64} {ar : Nat → Nat → Option Nat} {mX42_disk : Nat → Option Nat} {mX42_count : Nat → Int32} {mX42_runs : Nat → Int32} {mX42_isFull : Nat → Int32} {mX42_places : Nat → Option Nat} {mX42_laid : Nat → Option Nat} {mX42_changed : Nat → Int32} {mX42_waiting : Nat → Option Nat} {mX42_states : Nat → Option Nat} {mX42_kept : Nat → Option Nat} {mX43_number : Nat → Int32} {mX43_sectors : Nat → Int64} {mX63_bytes : Nat → Option Nat} {mX64_to : Nat → Int32} {mX64_sector : Nat → Option Nat} {mJ1_modCount : Nat → Int32} {mJ2_elementData : Nat → Option Nat} {mJ2_size : Nat → Int32} {mJ5_elements : Nat → Option Nat} {mJ5_head : Nat → Int32} {mJ5_tail : Nat → Int32} {mJ22_cursor : Nat → Int32} {mJ22_remaining : Nat → Int32} {mJ22_lastRet : Nat → Int32} {mJ22_this_0 : Nat → Option Nat} {mJ23_cursor : Nat → Int32} {mJ23_lastRet : Nat → Int32} {mJ23_expectedModCount : Nat → Int32} {mJ23_this_0 : Nat → Option Nat} (q : Nat) : va_up (cKD ci d kd an ai al ar mX42_disk mX42_count mX42_runs mX42_isFull mX42_places mX42_laid mX42_changed mX42_waiting mX42_states mX42_kept mX43_number mX43_sectors mX63_bytes mX64_to mX64_sector mJ1_modCount mJ2_elementData mJ2_size mJ5_elements mJ5_head mJ5_tail mJ22_cursor mJ22_remaining mJ22_lastRet mJ22_this_0 mJ23_cursor mJ23_lastRet mJ23_expectedModCount mJ23_this_0) q (.inr (ci 3, [.int 0, va_rf none])) = (cKD ci d (va_up kd q 4) an ai al ar mX42_disk mX42_count mX42_runs mX42_isFull mX42_places mX42_laid mX42_changed mX42_waiting mX42_states mX42_kept mX43_number mX43_sectors mX63_bytes (va_up mX64_to q 0) (va_up mX64_sector q none) mJ1_modCount mJ2_elementData mJ2_size mJ5_elements mJ5_head mJ5_tail mJ22_cursor mJ22_remaining mJ22_lastRet mJ22_this_0 mJ23_cursor mJ23_lastRet mJ23_expectedModCount mJ23_this_0) := by
  funext b
  by_cases h : b = q
  · subst h
    rw [va_up_self]
    unfold cKD
    simp only [va_up_self]
  · rw [va_up_ne _ _ h]
    unfold cKD
    simp only [va_up_ne _ _ h]
theorem cKD_5 {ci : Nat → Nat} {d : Nat → ClassId} {kd : Nat → Nat} {an : Nat → Nat} {ai : Nat → Nat → Int32} {al : Nat → Nat → Int64} {ar : Nat → Nat → Option Nat} {mX42_disk : Nat → Option Nat} {mX42_count : Nat → Int32} {mX42_runs : Nat → Int32} {mX42_isFull : Nat → Int32} {mX42_places : Nat → Option Nat} {mX42_laid : Nat → Option Nat} {mX42_changed : Nat → Int32} {mX42_waiting : Nat → Option Nat} {mX42_states : Nat → Option Nat} {mX42_kept : Nat → Option Nat} {mX43_number : Nat → Int32} {mX43_sectors : Nat → Int64} {mX63_bytes : Nat → Option Nat} {mX64_to : Nat → Int32} {mX64_sector : Nat → Option Nat} {mJ1_modCount : Nat → Int32} {mJ2_elementData : Nat → Option Nat} {mJ2_size : Nat → Int32} {mJ5_elements : Nat → Option Nat} {mJ5_head : Nat → Int32} {mJ5_tail : Nat → Int32} {mJ22_cursor : Nat → Int32} {mJ22_remaining : Nat → Int32} {mJ22_lastRet : Nat → Int32} {mJ22_this_0 : Nat → Option Nat} {mJ23_cursor : Nat → Int32} {mJ23_lastRet : Nat → Int32} {mJ23_expectedModCount : Nat → Int32} {mJ23_this_0 : Nat → Option Nat} {a : Nat} (hk : kd a = 5) : (cKD ci d kd an ai al ar mX42_disk mX42_count mX42_runs mX42_isFull mX42_places mX42_laid mX42_changed mX42_waiting mX42_states mX42_kept mX43_number mX43_sectors mX63_bytes mX64_to mX64_sector mJ1_modCount mJ2_elementData mJ2_size mJ5_elements mJ5_head mJ5_tail mJ22_cursor mJ22_remaining mJ22_lastRet mJ22_this_0 mJ23_cursor mJ23_lastRet mJ23_expectedModCount mJ23_this_0) a = .inr (ci 4, [.int (mJ1_modCount a), va_rf (mJ2_elementData a), .int (mJ2_size a)]) := by unfold cKD; simp only [hk]
theorem cKD_5_0 {ci : Nat → Nat} {d : Nat → ClassId} {kd : Nat → Nat} {an : Nat → Nat} {ai : Nat → Nat → Int32} {al : Nat → Nat → Int64} {ar : Nat → Nat → Option Nat} {mX42_disk : Nat → Option Nat} {mX42_count : Nat → Int32} {mX42_runs : Nat → Int32} {mX42_isFull : Nat → Int32} {mX42_places : Nat → Option Nat} {mX42_laid : Nat → Option Nat} {mX42_changed : Nat → Int32} {mX42_waiting : Nat → Option Nat} {mX42_states : Nat → Option Nat} {mX42_kept : Nat → Option Nat} {mX43_number : Nat → Int32} {mX43_sectors : Nat → Int64} {mX63_bytes : Nat → Option Nat} {mX64_to : Nat → Int32} {mX64_sector : Nat → Option Nat} {mJ1_modCount : Nat → Int32} {mJ2_elementData : Nat → Option Nat} {mJ2_size : Nat → Int32} {mJ5_elements : Nat → Option Nat} {mJ5_head : Nat → Int32} {mJ5_tail : Nat → Int32} {mJ22_cursor : Nat → Int32} {mJ22_remaining : Nat → Int32} {mJ22_lastRet : Nat → Int32} {mJ22_this_0 : Nat → Option Nat} {mJ23_cursor : Nat → Int32} {mJ23_lastRet : Nat → Int32} {mJ23_expectedModCount : Nat → Int32} {mJ23_this_0 : Nat → Option Nat} {a : Nat} {v : Int32} (hk : kd a = 5) : va_up (cKD ci d kd an ai al ar mX42_disk mX42_count mX42_runs mX42_isFull mX42_places mX42_laid mX42_changed mX42_waiting mX42_states mX42_kept mX43_number mX43_sectors mX63_bytes mX64_to mX64_sector mJ1_modCount mJ2_elementData mJ2_size mJ5_elements mJ5_head mJ5_tail mJ22_cursor mJ22_remaining mJ22_lastRet mJ22_this_0 mJ23_cursor mJ23_lastRet mJ23_expectedModCount mJ23_this_0) a (.inr (ci 4, [.int v, va_rf (mJ2_elementData a), .int (mJ2_size a)])) = (cKD ci d kd an ai al ar mX42_disk mX42_count mX42_runs mX42_isFull mX42_places mX42_laid mX42_changed mX42_waiting mX42_states mX42_kept mX43_number mX43_sectors mX63_bytes mX64_to mX64_sector (va_up mJ1_modCount a v) mJ2_elementData mJ2_size mJ5_elements mJ5_head mJ5_tail mJ22_cursor mJ22_remaining mJ22_lastRet mJ22_this_0 mJ23_cursor mJ23_lastRet mJ23_expectedModCount mJ23_this_0) := by
  funext b
  by_cases h : b = a
  · subst h
    rw [va_up_self]
    unfold cKD
    rw [hk]
    simp only [va_up_self]
  · rw [va_up_ne _ _ h]
    unfold cKD
    simp only [va_up_ne _ _ h]
theorem cKD_5_1 {ci : Nat → Nat} {d : Nat → ClassId} {kd : Nat → Nat} {an : Nat → Nat} {ai : Nat → Nat → Int32} {al : Nat → Nat → Int64} {ar : Nat → Nat → Option Nat} {mX42_disk : Nat → Option Nat} {mX42_count : Nat → Int32} {mX42_runs : Nat → Int32} {mX42_isFull : Nat → Int32} {mX42_places : Nat → Option Nat} {mX42_laid : Nat → Option Nat} {mX42_changed : Nat → Int32} {mX42_waiting : Nat → Option Nat} {mX42_states : Nat → Option Nat} {mX42_kept : Nat → Option Nat} {mX43_number : Nat → Int32} {mX43_sectors : Nat → Int64} {mX63_bytes : Nat → Option Nat} {mX64_to : Nat → Int32} {mX64_sector : Nat → Option Nat} {mJ1_modCount : Nat → Int32} {mJ2_elementData : Nat → Option Nat} {mJ2_size : Nat → Int32} {mJ5_elements : Nat → Option Nat} {mJ5_head : Nat → Int32} {mJ5_tail : Nat → Int32} {mJ22_cursor : Nat → Int32} {mJ22_remaining : Nat → Int32} {mJ22_lastRet : Nat → Int32} {mJ22_this_0 : Nat → Option Nat} {mJ23_cursor : Nat → Int32} {mJ23_lastRet : Nat → Int32} {mJ23_expectedModCount : Nat → Int32} {mJ23_this_0 : Nat → Option Nat} {a : Nat} {v : Option Nat} (hk : kd a = 5) : va_up (cKD ci d kd an ai al ar mX42_disk mX42_count mX42_runs mX42_isFull mX42_places mX42_laid mX42_changed mX42_waiting mX42_states mX42_kept mX43_number mX43_sectors mX63_bytes mX64_to mX64_sector mJ1_modCount mJ2_elementData mJ2_size mJ5_elements mJ5_head mJ5_tail mJ22_cursor mJ22_remaining mJ22_lastRet mJ22_this_0 mJ23_cursor mJ23_lastRet mJ23_expectedModCount mJ23_this_0) a (.inr (ci 4, [.int (mJ1_modCount a), va_rf v, .int (mJ2_size a)])) = (cKD ci d kd an ai al ar mX42_disk mX42_count mX42_runs mX42_isFull mX42_places mX42_laid mX42_changed mX42_waiting mX42_states mX42_kept mX43_number mX43_sectors mX63_bytes mX64_to mX64_sector mJ1_modCount (va_up mJ2_elementData a v) mJ2_size mJ5_elements mJ5_head mJ5_tail mJ22_cursor mJ22_remaining mJ22_lastRet mJ22_this_0 mJ23_cursor mJ23_lastRet mJ23_expectedModCount mJ23_this_0) := by
  funext b
  by_cases h : b = a
  · subst h
    rw [va_up_self]
    unfold cKD
    rw [hk]
    simp only [va_up_self]
  · rw [va_up_ne _ _ h]
    unfold cKD
    simp only [va_up_ne _ _ h]
theorem cKD_5_2 {ci : Nat → Nat} {d : Nat → ClassId} {kd : Nat → Nat} {an : Nat → Nat} {ai : Nat → Nat → Int32} {al : Nat → Nat → Int64} {ar : Nat → Nat → Option Nat} {mX42_disk : Nat → Option Nat} {mX42_count : Nat → Int32} {mX42_runs : Nat → Int32} {mX42_isFull : Nat → Int32} {mX42_places : Nat → Option Nat} {mX42_laid : Nat → Option Nat} {mX42_changed : Nat → Int32} {mX42_waiting : Nat → Option Nat} {mX42_states : Nat → Option Nat} {mX42_kept : Nat → Option Nat} {mX43_number : Nat → Int32} {mX43_sectors : Nat → Int64} {mX63_bytes : Nat → Option Nat} {mX64_to : Nat → Int32} {mX64_sector : Nat → Option Nat} {mJ1_modCount : Nat → Int32} {mJ2_elementData : Nat → Option Nat} {mJ2_size : Nat → Int32} {mJ5_elements : Nat → Option Nat} {mJ5_head : Nat → Int32} {mJ5_tail : Nat → Int32} {mJ22_cursor : Nat → Int32} {mJ22_remaining : Nat → Int32} {mJ22_lastRet : Nat → Int32} {mJ22_this_0 : Nat → Option Nat} {mJ23_cursor : Nat → Int32} {mJ23_lastRet : Nat → Int32} {mJ23_expectedModCount : Nat → Int32} {mJ23_this_0 : Nat → Option Nat} {a : Nat} {v : Int32} (hk : kd a = 5) : va_up (cKD ci d kd an ai al ar mX42_disk mX42_count mX42_runs mX42_isFull mX42_places mX42_laid mX42_changed mX42_waiting mX42_states mX42_kept mX43_number mX43_sectors mX63_bytes mX64_to mX64_sector mJ1_modCount mJ2_elementData mJ2_size mJ5_elements mJ5_head mJ5_tail mJ22_cursor mJ22_remaining mJ22_lastRet mJ22_this_0 mJ23_cursor mJ23_lastRet mJ23_expectedModCount mJ23_this_0) a (.inr (ci 4, [.int (mJ1_modCount a), va_rf (mJ2_elementData a), .int v])) = (cKD ci d kd an ai al ar mX42_disk mX42_count mX42_runs mX42_isFull mX42_places mX42_laid mX42_changed mX42_waiting mX42_states mX42_kept mX43_number mX43_sectors mX63_bytes mX64_to mX64_sector mJ1_modCount mJ2_elementData (va_up mJ2_size a v) mJ5_elements mJ5_head mJ5_tail mJ22_cursor mJ22_remaining mJ22_lastRet mJ22_this_0 mJ23_cursor mJ23_lastRet mJ23_expectedModCount mJ23_this_0) := by
  funext b
  by_cases h : b = a
  · subst h
    rw [va_up_self]
    unfold cKD
    rw [hk]
    simp only [va_up_self]
  · rw [va_up_ne _ _ h]
    unfold cKD
    simp only [va_up_ne _ _ h]
theorem cKD_5_n {ci : Nat → Nat} {d : Nat → ClassId} {kd : Nat → Nat} {an : Nat → Nat} {ai : Nat → Nat → Int32} {al : Nat → Nat → Int64} {ar : Nat → Nat → Option Nat} {mX42_disk : Nat → Option Nat} {mX42_count : Nat → Int32} {mX42_runs : Nat → Int32} {mX42_isFull : Nat → Int32} {mX42_places : Nat → Option Nat} {mX42_laid : Nat → Option Nat} {mX42_changed : Nat → Int32} {mX42_waiting : Nat → Option Nat} {mX42_states : Nat → Option Nat} {mX42_kept : Nat → Option Nat} {mX43_number : Nat → Int32} {mX43_sectors : Nat → Int64} {mX63_bytes : Nat → Option Nat} {mX64_to : Nat → Int32} {mX64_sector : Nat → Option Nat} {mJ1_modCount : Nat → Int32} {mJ2_elementData : Nat → Option Nat} {mJ2_size : Nat → Int32} {mJ5_elements : Nat → Option Nat} {mJ5_head : Nat → Int32} {mJ5_tail : Nat → Int32} {mJ22_cursor : Nat → Int32} {mJ22_remaining : Nat → Int32} {mJ22_lastRet : Nat → Int32} {mJ22_this_0 : Nat → Option Nat} {mJ23_cursor : Nat → Int32} {mJ23_lastRet : Nat → Int32} {mJ23_expectedModCount : Nat → Int32} {mJ23_this_0 : Nat → Option Nat} (q : Nat) : va_up (cKD ci d kd an ai al ar mX42_disk mX42_count mX42_runs mX42_isFull mX42_places mX42_laid mX42_changed mX42_waiting mX42_states mX42_kept mX43_number mX43_sectors mX63_bytes mX64_to mX64_sector mJ1_modCount mJ2_elementData mJ2_size mJ5_elements mJ5_head mJ5_tail mJ22_cursor mJ22_remaining mJ22_lastRet mJ22_this_0 mJ23_cursor mJ23_lastRet mJ23_expectedModCount mJ23_this_0) q (.inr (ci 4, [.int 0, va_rf none, .int 0])) = (cKD ci d (va_up kd q 5) an ai al ar mX42_disk mX42_count mX42_runs mX42_isFull mX42_places mX42_laid mX42_changed mX42_waiting mX42_states mX42_kept mX43_number mX43_sectors mX63_bytes mX64_to mX64_sector (va_up mJ1_modCount q 0) (va_up mJ2_elementData q none) (va_up mJ2_size q 0) mJ5_elements mJ5_head mJ5_tail mJ22_cursor mJ22_remaining mJ22_lastRet mJ22_this_0 mJ23_cursor mJ23_lastRet mJ23_expectedModCount mJ23_this_0) := by
  funext b
  by_cases h : b = q
  · subst h
    rw [va_up_self]
    unfold cKD
    simp only [va_up_self]
  · rw [va_up_ne _ _ h]
    unfold cKD
    simp only [va_up_ne _ _ h]
theorem cKD_6 {ci : Nat → Nat} {d : Nat → ClassId} {kd : Nat → Nat} {an : Nat → Nat} {ai : Nat → Nat → Int32} {al : Nat → Nat → Int64} {ar : Nat → Nat → Option Nat} {mX42_disk : Nat → Option Nat} {mX42_count : Nat → Int32} {mX42_runs : Nat → Int32} {mX42_isFull : Nat → Int32} {mX42_places : Nat → Option Nat} {mX42_laid : Nat → Option Nat} {mX42_changed : Nat → Int32} {mX42_waiting : Nat → Option Nat} {mX42_states : Nat → Option Nat} {mX42_kept : Nat → Option Nat} {mX43_number : Nat → Int32} {mX43_sectors : Nat → Int64} {mX63_bytes : Nat → Option Nat} {mX64_to : Nat → Int32} {mX64_sector : Nat → Option Nat} {mJ1_modCount : Nat → Int32} {mJ2_elementData : Nat → Option Nat} {mJ2_size : Nat → Int32} {mJ5_elements : Nat → Option Nat} {mJ5_head : Nat → Int32} {mJ5_tail : Nat → Int32} {mJ22_cursor : Nat → Int32} {mJ22_remaining : Nat → Int32} {mJ22_lastRet : Nat → Int32} {mJ22_this_0 : Nat → Option Nat} {mJ23_cursor : Nat → Int32} {mJ23_lastRet : Nat → Int32} {mJ23_expectedModCount : Nat → Int32} {mJ23_this_0 : Nat → Option Nat} {a : Nat} (hk : kd a = 6) : (cKD ci d kd an ai al ar mX42_disk mX42_count mX42_runs mX42_isFull mX42_places mX42_laid mX42_changed mX42_waiting mX42_states mX42_kept mX43_number mX43_sectors mX63_bytes mX64_to mX64_sector mJ1_modCount mJ2_elementData mJ2_size mJ5_elements mJ5_head mJ5_tail mJ22_cursor mJ22_remaining mJ22_lastRet mJ22_this_0 mJ23_cursor mJ23_lastRet mJ23_expectedModCount mJ23_this_0) a = .inr (ci 5, [va_rf (mJ5_elements a), .int (mJ5_head a), .int (mJ5_tail a)]) := by unfold cKD; simp only [hk]
theorem cKD_6_0 {ci : Nat → Nat} {d : Nat → ClassId} {kd : Nat → Nat} {an : Nat → Nat} {ai : Nat → Nat → Int32} {al : Nat → Nat → Int64} {ar : Nat → Nat → Option Nat} {mX42_disk : Nat → Option Nat} {mX42_count : Nat → Int32} {mX42_runs : Nat → Int32} {mX42_isFull : Nat → Int32} {mX42_places : Nat → Option Nat} {mX42_laid : Nat → Option Nat} {mX42_changed : Nat → Int32} {mX42_waiting : Nat → Option Nat} {mX42_states : Nat → Option Nat} {mX42_kept : Nat → Option Nat} {mX43_number : Nat → Int32} {mX43_sectors : Nat → Int64} {mX63_bytes : Nat → Option Nat} {mX64_to : Nat → Int32} {mX64_sector : Nat → Option Nat} {mJ1_modCount : Nat → Int32} {mJ2_elementData : Nat → Option Nat} {mJ2_size : Nat → Int32} {mJ5_elements : Nat → Option Nat} {mJ5_head : Nat → Int32} {mJ5_tail : Nat → Int32} {mJ22_cursor : Nat → Int32} {mJ22_remaining : Nat → Int32} {mJ22_lastRet : Nat → Int32} {mJ22_this_0 : Nat → Option Nat} {mJ23_cursor : Nat → Int32} {mJ23_lastRet : Nat → Int32} {mJ23_expectedModCount : Nat → Int32} {mJ23_this_0 : Nat → Option Nat} {a : Nat} {v : Option Nat} (hk : kd a = 6) : va_up (cKD ci d kd an ai al ar mX42_disk mX42_count mX42_runs mX42_isFull mX42_places mX42_laid mX42_changed mX42_waiting mX42_states mX42_kept mX43_number mX43_sectors mX63_bytes mX64_to mX64_sector mJ1_modCount mJ2_elementData mJ2_size mJ5_elements mJ5_head mJ5_tail mJ22_cursor mJ22_remaining mJ22_lastRet mJ22_this_0 mJ23_cursor mJ23_lastRet mJ23_expectedModCount mJ23_this_0) a (.inr (ci 5, [va_rf v, .int (mJ5_head a), .int (mJ5_tail a)])) = (cKD ci d kd an ai al ar mX42_disk mX42_count mX42_runs mX42_isFull mX42_places mX42_laid mX42_changed mX42_waiting mX42_states mX42_kept mX43_number mX43_sectors mX63_bytes mX64_to mX64_sector mJ1_modCount mJ2_elementData mJ2_size (va_up mJ5_elements a v) mJ5_head mJ5_tail mJ22_cursor mJ22_remaining mJ22_lastRet mJ22_this_0 mJ23_cursor mJ23_lastRet mJ23_expectedModCount mJ23_this_0) := by
  funext b
  by_cases h : b = a
  · subst h
    rw [va_up_self]
    unfold cKD
    rw [hk]
    simp only [va_up_self]
  · rw [va_up_ne _ _ h]
    unfold cKD
    simp only [va_up_ne _ _ h]
theorem cKD_6_1 {ci : Nat → Nat} {d : Nat → ClassId} {kd : Nat → Nat} {an : Nat → Nat} {ai : Nat → Nat → Int32} {al : Nat → Nat → Int64} {ar : Nat → Nat → Option Nat} {mX42_disk : Nat → Option Nat} {mX42_count : Nat → Int32} {mX42_runs : Nat → Int32} {mX42_isFull : Nat → Int32} {mX42_places : Nat → Option Nat} {mX42_laid : Nat → Option Nat} {mX42_changed : Nat → Int32} {mX42_waiting : Nat → Option Nat} {mX42_states : Nat → Option Nat} {mX42_kept : Nat → Option Nat} {mX43_number : Nat → Int32} {mX43_sectors : Nat → Int64} {mX63_bytes : Nat → Option Nat} {mX64_to : Nat → Int32} {mX64_sector : Nat → Option Nat} {mJ1_modCount : Nat → Int32} {mJ2_elementData : Nat → Option Nat} {mJ2_size : Nat → Int32} {mJ5_elements : Nat → Option Nat} {mJ5_head : Nat → Int32} {mJ5_tail : Nat → Int32} {mJ22_cursor : Nat → Int32} {mJ22_remaining : Nat → Int32} {mJ22_lastRet : Nat → Int32} {mJ22_this_0 : Nat → Option Nat} {mJ23_cursor : Nat → Int32} {mJ23_lastRet : Nat → Int32} {mJ23_expectedModCount : Nat → Int32} {mJ23_this_0 : Nat → Option Nat} {a : Nat} {v : Int32} (hk : kd a = 6) : va_up (cKD ci d kd an ai al ar mX42_disk mX42_count mX42_runs mX42_isFull mX42_places mX42_laid mX42_changed mX42_waiting mX42_states mX42_kept mX43_number mX43_sectors mX63_bytes mX64_to mX64_sector mJ1_modCount mJ2_elementData mJ2_size mJ5_elements mJ5_head mJ5_tail mJ22_cursor mJ22_remaining mJ22_lastRet mJ22_this_0 mJ23_cursor mJ23_lastRet mJ23_expectedModCount mJ23_this_0) a (.inr (ci 5, [va_rf (mJ5_elements a), .int v, .int (mJ5_tail a)])) = (cKD ci d kd an ai al ar mX42_disk mX42_count mX42_runs mX42_isFull mX42_places mX42_laid mX42_changed mX42_waiting mX42_states mX42_kept mX43_number mX43_sectors mX63_bytes mX64_to mX64_sector mJ1_modCount mJ2_elementData mJ2_size mJ5_elements (va_up mJ5_head a v) mJ5_tail mJ22_cursor mJ22_remaining mJ22_lastRet mJ22_this_0 mJ23_cursor mJ23_lastRet mJ23_expectedModCount mJ23_this_0) := by
  funext b
  by_cases h : b = a
  · subst h
    rw [va_up_self]
    unfold cKD
    rw [hk]
    simp only [va_up_self]
  · rw [va_up_ne _ _ h]
    unfold cKD
    simp only [va_up_ne _ _ h]
theorem cKD_6_2 {ci : Nat → Nat} {d : Nat → ClassId} {kd : Nat → Nat} {an : Nat → Nat} {ai : Nat → Nat → Int32} {al : Nat → Nat → Int64} {ar : Nat → Nat → Option Nat} {mX42_disk : Nat → Option Nat} {mX42_count : Nat → Int32} {mX42_runs : Nat → Int32} {mX42_isFull : Nat → Int32} {mX42_places : Nat → Option Nat} {mX42_laid : Nat → Option Nat} {mX42_changed : Nat → Int32} {mX42_waiting : Nat → Option Nat} {mX42_states : Nat → Option Nat} {mX42_kept : Nat → Option Nat} {mX43_number : Nat → Int32} {mX43_sectors : Nat → Int64} {mX63_bytes : Nat → Option Nat} {mX64_to : Nat → Int32} {mX64_sector : Nat → Option Nat} {mJ1_modCount : Nat → Int32} {mJ2_elementData : Nat → Option Nat} {mJ2_size : Nat → Int32} {mJ5_elements : Nat → Option Nat} {mJ5_head : Nat → Int32} {mJ5_tail : Nat → Int32} {mJ22_cursor : Nat → Int32} {mJ22_remaining : Nat → Int32} {mJ22_lastRet : Nat → Int32} {mJ22_this_0 : Nat → Option Nat} {mJ23_cursor : Nat → Int32} {mJ23_lastRet : Nat → Int32} {mJ23_expectedModCount : Nat → Int32} {mJ23_this_0 : Nat → Option Nat} {a : Nat} {v : Int32} (hk : kd a = 6) : va_up (cKD ci d kd an ai al ar mX42_disk mX42_count mX42_runs mX42_isFull mX42_places mX42_laid mX42_changed mX42_waiting mX42_states mX42_kept mX43_number mX43_sectors mX63_bytes mX64_to mX64_sector mJ1_modCount mJ2_elementData mJ2_size mJ5_elements mJ5_head mJ5_tail mJ22_cursor mJ22_remaining mJ22_lastRet mJ22_this_0 mJ23_cursor mJ23_lastRet mJ23_expectedModCount mJ23_this_0) a (.inr (ci 5, [va_rf (mJ5_elements a), .int (mJ5_head a), .int v])) = (cKD ci d kd an ai al ar mX42_disk mX42_count mX42_runs mX42_isFull mX42_places mX42_laid mX42_changed mX42_waiting mX42_states mX42_kept mX43_number mX43_sectors mX63_bytes mX64_to mX64_sector mJ1_modCount mJ2_elementData mJ2_size mJ5_elements mJ5_head (va_up mJ5_tail a v) mJ22_cursor mJ22_remaining mJ22_lastRet mJ22_this_0 mJ23_cursor mJ23_lastRet mJ23_expectedModCount mJ23_this_0) := by
  funext b
  by_cases h : b = a
  · subst h
    rw [va_up_self]
    unfold cKD
    rw [hk]
    simp only [va_up_self]
  · rw [va_up_ne _ _ h]
    unfold cKD
    simp only [va_up_ne _ _ h]
theorem cKD_6_n {ci : Nat → Nat} {d : Nat → ClassId} {kd : Nat → Nat} {an : Nat → Nat} {ai : Nat → Nat → Int32} {al : Nat → Nat → Int64} {ar : Nat → Nat → Option Nat} {mX42_disk : Nat → Option Nat} {mX42_count : Nat → Int32} {mX42_runs : Nat → Int32} {mX42_isFull : Nat → Int32} {mX42_places : Nat → Option Nat} {mX42_laid : Nat → Option Nat} {mX42_changed : Nat → Int32} {mX42_waiting : Nat → Option Nat} {mX42_states : Nat → Option Nat} {mX42_kept : Nat → Option Nat} {mX43_number : Nat → Int32} {mX43_sectors : Nat → Int64} {mX63_bytes : Nat → Option Nat} {mX64_to : Nat → Int32} {mX64_sector : Nat → Option Nat} {mJ1_modCount : Nat → Int32} {mJ2_elementData : Nat → Option Nat} {mJ2_size : Nat → Int32} {mJ5_elements : Nat → Option Nat} {mJ5_head : Nat → Int32} {mJ5_tail : Nat → Int32} {mJ22_cursor : Nat → Int32} {mJ22_remaining : Nat → Int32} {mJ22_lastRet : Nat → Int32} {mJ22_this_0 : Nat → Option Nat} {mJ23_cursor : Nat → Int32} {mJ23_lastRet : Nat → Int32} {mJ23_expectedModCount : Nat → Int32} {mJ23_this_0 : Nat → Option Nat} (q : Nat) : va_up (cKD ci d kd an ai al ar mX42_disk mX42_count mX42_runs mX42_isFull mX42_places mX42_laid mX42_changed mX42_waiting mX42_states mX42_kept mX43_number mX43_sectors mX63_bytes mX64_to mX64_sector mJ1_modCount mJ2_elementData mJ2_size mJ5_elements mJ5_head mJ5_tail mJ22_cursor mJ22_remaining mJ22_lastRet mJ22_this_0 mJ23_cursor mJ23_lastRet mJ23_expectedModCount mJ23_this_0) q (.inr (ci 5, [va_rf none, .int 0, .int 0])) = (cKD ci d (va_up kd q 6) an ai al ar mX42_disk mX42_count mX42_runs mX42_isFull mX42_places mX42_laid mX42_changed mX42_waiting mX42_states mX42_kept mX43_number mX43_sectors mX63_bytes mX64_to mX64_sector mJ1_modCount mJ2_elementData mJ2_size (va_up mJ5_elements q none) (va_up mJ5_head q 0) (va_up mJ5_tail q 0) mJ22_cursor mJ22_remaining mJ22_lastRet mJ22_this_0 mJ23_cursor mJ23_lastRet mJ23_expectedModCount mJ23_this_0) := by
  funext b
  by_cases h : b = q
  · subst h
    rw [va_up_self]
    unfold cKD
    simp only [va_up_self]
  · rw [va_up_ne _ _ h]
    unfold cKD
    simp only [va_up_ne _ _ h]
theorem cKD_7 {ci : Nat → Nat} {d : Nat → ClassId} {kd : Nat → Nat} {an : Nat → Nat} {ai : Nat → Nat → Int32} {al : Nat → Nat → Int64} {ar : Nat → Nat → Option Nat} {mX42_disk : Nat → Option Nat} {mX42_count : Nat → Int32} {mX42_runs : Nat → Int32} {mX42_isFull : Nat → Int32} {mX42_places : Nat → Option Nat} {mX42_laid : Nat → Option Nat} {mX42_changed : Nat → Int32} {mX42_waiting : Nat → Option Nat} {mX42_states : Nat → Option Nat} {mX42_kept : Nat → Option Nat} {mX43_number : Nat → Int32} {mX43_sectors : Nat → Int64} {mX63_bytes : Nat → Option Nat} {mX64_to : Nat → Int32} {mX64_sector : Nat → Option Nat} {mJ1_modCount : Nat → Int32} {mJ2_elementData : Nat → Option Nat} {mJ2_size : Nat → Int32} {mJ5_elements : Nat → Option Nat} {mJ5_head : Nat → Int32} {mJ5_tail : Nat → Int32} {mJ22_cursor : Nat → Int32} {mJ22_remaining : Nat → Int32} {mJ22_lastRet : Nat → Int32} {mJ22_this_0 : Nat → Option Nat} {mJ23_cursor : Nat → Int32} {mJ23_lastRet : Nat → Int32} {mJ23_expectedModCount : Nat → Int32} {mJ23_this_0 : Nat → Option Nat} {a : Nat} (hk : kd a = 7) : (cKD ci d kd an ai al ar mX42_disk mX42_count mX42_runs mX42_isFull mX42_places mX42_laid mX42_changed mX42_waiting mX42_states mX42_kept mX43_number mX43_sectors mX63_bytes mX64_to mX64_sector mJ1_modCount mJ2_elementData mJ2_size mJ5_elements mJ5_head mJ5_tail mJ22_cursor mJ22_remaining mJ22_lastRet mJ22_this_0 mJ23_cursor mJ23_lastRet mJ23_expectedModCount mJ23_this_0) a = .inr (ci 6, [.int (mJ22_cursor a), .int (mJ22_remaining a), .int (mJ22_lastRet a), va_rf (mJ22_this_0 a)]) := by unfold cKD; simp only [hk]
theorem cKD_7_0 {ci : Nat → Nat} {d : Nat → ClassId} {kd : Nat → Nat} {an : Nat → Nat} {ai : Nat → Nat → Int32} {al : Nat → Nat → Int64} {ar : Nat → Nat → Option Nat} {mX42_disk : Nat → Option Nat} {mX42_count : Nat → Int32} {mX42_runs : Nat → Int32} {mX42_isFull : Nat → Int32} {mX42_places : Nat → Option Nat} {mX42_laid : Nat → Option Nat} {mX42_changed : Nat → Int32} {mX42_waiting : Nat → Option Nat} {mX42_states : Nat → Option Nat} {mX42_kept : Nat → Option Nat} {mX43_number : Nat → Int32} {mX43_sectors : Nat → Int64} {mX63_bytes : Nat → Option Nat} {mX64_to : Nat → Int32} {mX64_sector : Nat → Option Nat} {mJ1_modCount : Nat → Int32} {mJ2_elementData : Nat → Option Nat} {mJ2_size : Nat → Int32} {mJ5_elements : Nat → Option Nat} {mJ5_head : Nat → Int32} {mJ5_tail : Nat → Int32} {mJ22_cursor : Nat → Int32} {mJ22_remaining : Nat → Int32} {mJ22_lastRet : Nat → Int32} {mJ22_this_0 : Nat → Option Nat} {mJ23_cursor : Nat → Int32} {mJ23_lastRet : Nat → Int32} {mJ23_expectedModCount : Nat → Int32} {mJ23_this_0 : Nat → Option Nat} {a : Nat} {v : Int32} (hk : kd a = 7) : va_up (cKD ci d kd an ai al ar mX42_disk mX42_count mX42_runs mX42_isFull mX42_places mX42_laid mX42_changed mX42_waiting mX42_states mX42_kept mX43_number mX43_sectors mX63_bytes mX64_to mX64_sector mJ1_modCount mJ2_elementData mJ2_size mJ5_elements mJ5_head mJ5_tail mJ22_cursor mJ22_remaining mJ22_lastRet mJ22_this_0 mJ23_cursor mJ23_lastRet mJ23_expectedModCount mJ23_this_0) a (.inr (ci 6, [.int v, .int (mJ22_remaining a), .int (mJ22_lastRet a), va_rf (mJ22_this_0 a)])) = (cKD ci d kd an ai al ar mX42_disk mX42_count mX42_runs mX42_isFull mX42_places mX42_laid mX42_changed mX42_waiting mX42_states mX42_kept mX43_number mX43_sectors mX63_bytes mX64_to mX64_sector mJ1_modCount mJ2_elementData mJ2_size mJ5_elements mJ5_head mJ5_tail (va_up mJ22_cursor a v) mJ22_remaining mJ22_lastRet mJ22_this_0 mJ23_cursor mJ23_lastRet mJ23_expectedModCount mJ23_this_0) := by
  funext b
  by_cases h : b = a
  · subst h
    rw [va_up_self]
    unfold cKD
    rw [hk]
    simp only [va_up_self]
  · rw [va_up_ne _ _ h]
    unfold cKD
    simp only [va_up_ne _ _ h]
theorem cKD_7_1 {ci : Nat → Nat} {d : Nat → ClassId} {kd : Nat → Nat} {an : Nat → Nat} {ai : Nat → Nat → Int32} {al : Nat → Nat → Int64} {ar : Nat → Nat → Option Nat} {mX42_disk : Nat → Option Nat} {mX42_count : Nat → Int32} {mX42_runs : Nat → Int32} {mX42_isFull : Nat → Int32} {mX42_places : Nat → Option Nat} {mX42_laid : Nat → Option Nat} {mX42_changed : Nat → Int32} {mX42_waiting : Nat → Option Nat} {mX42_states : Nat → Option Nat} {mX42_kept : Nat → Option Nat} {mX43_number : Nat → Int32} {mX43_sectors : Nat → Int64} {mX63_bytes : Nat → Option Nat} {mX64_to : Nat → Int32} {mX64_sector : Nat → Option Nat} {mJ1_modCount : Nat → Int32} {mJ2_elementData : Nat → Option Nat} {mJ2_size : Nat → Int32} {mJ5_elements : Nat → Option Nat} {mJ5_head : Nat → Int32} {mJ5_tail : Nat → Int32} {mJ22_cursor : Nat → Int32} {mJ22_remaining : Nat → Int32} {mJ22_lastRet : Nat → Int32} {mJ22_this_0 : Nat → Option Nat} {mJ23_cursor : Nat → Int32} {mJ23_lastRet : Nat → Int32} {mJ23_expectedModCount : Nat → Int32} {mJ23_this_0 : Nat → Option Nat} {a : Nat} {v : Int32} (hk : kd a = 7) : va_up (cKD ci d kd an ai al ar mX42_disk mX42_count mX42_runs mX42_isFull mX42_places mX42_laid mX42_changed mX42_waiting mX42_states mX42_kept mX43_number mX43_sectors mX63_bytes mX64_to mX64_sector mJ1_modCount mJ2_elementData mJ2_size mJ5_elements mJ5_head mJ5_tail mJ22_cursor mJ22_remaining mJ22_lastRet mJ22_this_0 mJ23_cursor mJ23_lastRet mJ23_expectedModCount mJ23_this_0) a (.inr (ci 6, [.int (mJ22_cursor a), .int v, .int (mJ22_lastRet a), va_rf (mJ22_this_0 a)])) = (cKD ci d kd an ai al ar mX42_disk mX42_count mX42_runs mX42_isFull mX42_places mX42_laid mX42_changed mX42_waiting mX42_states mX42_kept mX43_number mX43_sectors mX63_bytes mX64_to mX64_sector mJ1_modCount mJ2_elementData mJ2_size mJ5_elements mJ5_head mJ5_tail mJ22_cursor (va_up mJ22_remaining a v) mJ22_lastRet mJ22_this_0 mJ23_cursor mJ23_lastRet mJ23_expectedModCount mJ23_this_0) := by
  funext b
  by_cases h : b = a
  · subst h
    rw [va_up_self]
    unfold cKD
    rw [hk]
    simp only [va_up_self]
  · rw [va_up_ne _ _ h]
    unfold cKD
    simp only [va_up_ne _ _ h]
theorem cKD_7_2 {ci : Nat → Nat} {d : Nat → ClassId} {kd : Nat → Nat} {an : Nat → Nat} {ai : Nat → Nat → Int32} {al : Nat → Nat → Int64} {ar : Nat → Nat → Option Nat} {mX42_disk : Nat → Option Nat} {mX42_count : Nat → Int32} {mX42_runs : Nat → Int32} {mX42_isFull : Nat → Int32} {mX42_places : Nat → Option Nat} {mX42_laid : Nat → Option Nat} {mX42_changed : Nat → Int32} {mX42_waiting : Nat → Option Nat} {mX42_states : Nat → Option Nat} {mX42_kept : Nat → Option Nat} {mX43_number : Nat → Int32} {mX43_sectors : Nat → Int64} {mX63_bytes : Nat → Option Nat} {mX64_to : Nat → Int32} {mX64_sector : Nat → Option Nat} {mJ1_modCount : Nat → Int32} {mJ2_elementData : Nat → Option Nat} {mJ2_size : Nat → Int32} {mJ5_elements : Nat → Option Nat} {mJ5_head : Nat → Int32} {mJ5_tail : Nat → Int32} {mJ22_cursor : Nat → Int32} {mJ22_remaining : Nat → Int32} {mJ22_lastRet : Nat → Int32} {mJ22_this_0 : Nat → Option Nat} {mJ23_cursor : Nat → Int32} {mJ23_lastRet : Nat → Int32} {mJ23_expectedModCount : Nat → Int32} {mJ23_this_0 : Nat → Option Nat} {a : Nat} {v : Int32} (hk : kd a = 7) : va_up (cKD ci d kd an ai al ar mX42_disk mX42_count mX42_runs mX42_isFull mX42_places mX42_laid mX42_changed mX42_waiting mX42_states mX42_kept mX43_number mX43_sectors mX63_bytes mX64_to mX64_sector mJ1_modCount mJ2_elementData mJ2_size mJ5_elements mJ5_head mJ5_tail mJ22_cursor mJ22_remaining mJ22_lastRet mJ22_this_0 mJ23_cursor mJ23_lastRet mJ23_expectedModCount mJ23_this_0) a (.inr (ci 6, [.int (mJ22_cursor a), .int (mJ22_remaining a), .int v, va_rf (mJ22_this_0 a)])) = (cKD ci d kd an ai al ar mX42_disk mX42_count mX42_runs mX42_isFull mX42_places mX42_laid mX42_changed mX42_waiting mX42_states mX42_kept mX43_number mX43_sectors mX63_bytes mX64_to mX64_sector mJ1_modCount mJ2_elementData mJ2_size mJ5_elements mJ5_head mJ5_tail mJ22_cursor mJ22_remaining (va_up mJ22_lastRet a v) mJ22_this_0 mJ23_cursor mJ23_lastRet mJ23_expectedModCount mJ23_this_0) := by
  funext b
  by_cases h : b = a
  · subst h
    rw [va_up_self]
    unfold cKD
    rw [hk]
    simp only [va_up_self]
  · rw [va_up_ne _ _ h]
    unfold cKD
    simp only [va_up_ne _ _ h]
theorem cKD_7_3 {ci : Nat → Nat} {d : Nat → ClassId} {kd : Nat → Nat} {an : Nat → Nat} {ai : Nat → Nat → Int32} {al : Nat → Nat → Int64} {ar : Nat → Nat → Option Nat} {mX42_disk : Nat → Option Nat} {mX42_count : Nat → Int32} {mX42_runs : Nat → Int32} {mX42_isFull : Nat → Int32} {mX42_places : Nat → Option Nat} {mX42_laid : Nat → Option Nat} {mX42_changed : Nat → Int32} {mX42_waiting : Nat → Option Nat} {mX42_states : Nat → Option Nat} {mX42_kept : Nat → Option Nat} {mX43_number : Nat → Int32} {mX43_sectors : Nat → Int64} {mX63_bytes : Nat → Option Nat} {mX64_to : Nat → Int32} {mX64_sector : Nat → Option Nat} {mJ1_modCount : Nat → Int32} {mJ2_elementData : Nat → Option Nat} {mJ2_size : Nat → Int32} {mJ5_elements : Nat → Option Nat} {mJ5_head : Nat → Int32} {mJ5_tail : Nat → Int32} {mJ22_cursor : Nat → Int32} {mJ22_remaining : Nat → Int32} {mJ22_lastRet : Nat → Int32} {mJ22_this_0 : Nat → Option Nat} {mJ23_cursor : Nat → Int32} {mJ23_lastRet : Nat → Int32} {mJ23_expectedModCount : Nat → Int32} {mJ23_this_0 : Nat → Option Nat} {a : Nat} {v : Option Nat} (hk : kd a = 7) : va_up (cKD ci d kd an ai al ar mX42_disk mX42_count mX42_runs mX42_isFull mX42_places mX42_laid mX42_changed mX42_waiting mX42_states mX42_kept mX43_number mX43_sectors mX63_bytes mX64_to mX64_sector mJ1_modCount mJ2_elementData mJ2_size mJ5_elements mJ5_head mJ5_tail mJ22_cursor mJ22_remaining mJ22_lastRet mJ22_this_0 mJ23_cursor mJ23_lastRet mJ23_expectedModCount mJ23_this_0) a (.inr (ci 6, [.int (mJ22_cursor a), .int (mJ22_remaining a), .int (mJ22_lastRet a), va_rf v])) = (cKD ci d kd an ai al ar mX42_disk mX42_count mX42_runs mX42_isFull mX42_places mX42_laid mX42_changed mX42_waiting mX42_states mX42_kept mX43_number mX43_sectors mX63_bytes mX64_to mX64_sector mJ1_modCount mJ2_elementData mJ2_size mJ5_elements mJ5_head mJ5_tail mJ22_cursor mJ22_remaining mJ22_lastRet (va_up mJ22_this_0 a v) mJ23_cursor mJ23_lastRet mJ23_expectedModCount mJ23_this_0) := by
  funext b
  by_cases h : b = a
  · subst h
    rw [va_up_self]
    unfold cKD
    rw [hk]
    simp only [va_up_self]
  · rw [va_up_ne _ _ h]
    unfold cKD
    simp only [va_up_ne _ _ h]
theorem cKD_7_n {ci : Nat → Nat} {d : Nat → ClassId} {kd : Nat → Nat} {an : Nat → Nat} {ai : Nat → Nat → Int32} {al : Nat → Nat → Int64} {ar : Nat → Nat → Option Nat} {mX42_disk : Nat → Option Nat} {mX42_count : Nat → Int32} {mX42_runs : Nat → Int32} {mX42_isFull : Nat → Int32} {mX42_places : Nat → Option Nat} {mX42_laid : Nat → Option Nat} {mX42_changed : Nat → Int32} {mX42_waiting : Nat → Option Nat} {mX42_states : Nat → Option Nat} {mX42_kept : Nat → Option Nat} {mX43_number : Nat → Int32} {mX43_sectors : Nat → Int64} {mX63_bytes : Nat → Option Nat} {mX64_to : Nat → Int32} {mX64_sector : Nat → Option Nat} {mJ1_modCount : Nat → Int32} {mJ2_elementData : Nat → Option Nat} {mJ2_size : Nat → Int32} {mJ5_elements : Nat → Option Nat} {mJ5_head : Nat → Int32} {mJ5_tail : Nat → Int32} {mJ22_cursor : Nat → Int32} {mJ22_remaining : Nat → Int32} {mJ22_lastRet : Nat → Int32} {mJ22_this_0 : Nat → Option Nat} {mJ23_cursor : Nat → Int32} {mJ23_lastRet : Nat → Int32} {mJ23_expectedModCount : Nat → Int32} {mJ23_this_0 : Nat → Option Nat} (q : Nat) : va_up (cKD ci d kd an ai al ar mX42_disk mX42_count mX42_runs mX42_isFull mX42_places mX42_laid mX42_changed mX42_waiting mX42_states mX42_kept mX43_number mX43_sectors mX63_bytes mX64_to mX64_sector mJ1_modCount mJ2_elementData mJ2_size mJ5_elements mJ5_head mJ5_tail mJ22_cursor mJ22_remaining mJ22_lastRet mJ22_this_0 mJ23_cursor mJ23_lastRet mJ23_expectedModCount mJ23_this_0) q (.inr (ci 6, [.int 0, .int 0, .int 0, va_rf none])) = (cKD ci d (va_up kd q 7) an ai al ar mX42_disk mX42_count mX42_runs mX42_isFull mX42_places mX42_laid mX42_changed mX42_waiting mX42_states mX42_kept mX43_number mX43_sectors mX63_bytes mX64_to mX64_sector mJ1_modCount mJ2_elementData mJ2_size mJ5_elements mJ5_head mJ5_tail (va_up mJ22_cursor q 0) (va_up mJ22_remaining q 0) (va_up mJ22_lastRet q 0) (va_up mJ22_this_0 q none) mJ23_cursor mJ23_lastRet mJ23_expectedModCount mJ23_this_0) := by
  funext b
  by_cases h : b = q
  · subst h
    rw [va_up_self]
    unfold cKD
    simp only [va_up_self]
  · rw [va_up_ne _ _ h]
    unfold cKD
    simp only [va_up_ne _ _ h]
theorem cKD_8 {ci : Nat → Nat} {d : Nat → ClassId} {kd : Nat → Nat} {an : Nat → Nat} {ai : Nat → Nat → Int32} {al : Nat → Nat → Int64} {ar : Nat → Nat → Option Nat} {mX42_disk : Nat → Option Nat} {mX42_count : Nat → Int32} {mX42_runs : Nat → Int32} {mX42_isFull : Nat → Int32} {mX42_places : Nat → Option Nat} {mX42_laid : Nat → Option Nat} {mX42_changed : Nat → Int32} {mX42_waiting : Nat → Option Nat} {mX42_states : Nat → Option Nat} {mX42_kept : Nat → Option Nat} {mX43_number : Nat → Int32} {mX43_sectors : Nat → Int64} {mX63_bytes : Nat → Option Nat} {mX64_to : Nat → Int32} {mX64_sector : Nat → Option Nat} {mJ1_modCount : Nat → Int32} {mJ2_elementData : Nat → Option Nat} {mJ2_size : Nat → Int32} {mJ5_elements : Nat → Option Nat} {mJ5_head : Nat → Int32} {mJ5_tail : Nat → Int32} {mJ22_cursor : Nat → Int32} {mJ22_remaining : Nat → Int32} {mJ22_lastRet : Nat → Int32} {mJ22_this_0 : Nat → Option Nat} {mJ23_cursor : Nat → Int32} {mJ23_lastRet : Nat → Int32} {mJ23_expectedModCount : Nat → Int32} {mJ23_this_0 : Nat → Option Nat} {a : Nat} (hk : kd a = 8) : (cKD ci d kd an ai al ar mX42_disk mX42_count mX42_runs mX42_isFull mX42_places mX42_laid mX42_changed mX42_waiting mX42_states mX42_kept mX43_number mX43_sectors mX63_bytes mX64_to mX64_sector mJ1_modCount mJ2_elementData mJ2_size mJ5_elements mJ5_head mJ5_tail mJ22_cursor mJ22_remaining mJ22_lastRet mJ22_this_0 mJ23_cursor mJ23_lastRet mJ23_expectedModCount mJ23_this_0) a = .inr (ci 7, [.int (mJ23_cursor a), .int (mJ23_lastRet a), .int (mJ23_expectedModCount a), va_rf (mJ23_this_0 a)]) := by unfold cKD; simp only [hk]
theorem cKD_8_0 {ci : Nat → Nat} {d : Nat → ClassId} {kd : Nat → Nat} {an : Nat → Nat} {ai : Nat → Nat → Int32} {al : Nat → Nat → Int64} {ar : Nat → Nat → Option Nat} {mX42_disk : Nat → Option Nat} {mX42_count : Nat → Int32} {mX42_runs : Nat → Int32} {mX42_isFull : Nat → Int32} {mX42_places : Nat → Option Nat} {mX42_laid : Nat → Option Nat} {mX42_changed : Nat → Int32} {mX42_waiting : Nat → Option Nat} {mX42_states : Nat → Option Nat} {mX42_kept : Nat → Option Nat} {mX43_number : Nat → Int32} {mX43_sectors : Nat → Int64} {mX63_bytes : Nat → Option Nat} {mX64_to : Nat → Int32} {mX64_sector : Nat → Option Nat} {mJ1_modCount : Nat → Int32} {mJ2_elementData : Nat → Option Nat} {mJ2_size : Nat → Int32} {mJ5_elements : Nat → Option Nat} {mJ5_head : Nat → Int32} {mJ5_tail : Nat → Int32} {mJ22_cursor : Nat → Int32} {mJ22_remaining : Nat → Int32} {mJ22_lastRet : Nat → Int32} {mJ22_this_0 : Nat → Option Nat} {mJ23_cursor : Nat → Int32} {mJ23_lastRet : Nat → Int32} {mJ23_expectedModCount : Nat → Int32} {mJ23_this_0 : Nat → Option Nat} {a : Nat} {v : Int32} (hk : kd a = 8) : va_up (cKD ci d kd an ai al ar mX42_disk mX42_count mX42_runs mX42_isFull mX42_places mX42_laid mX42_changed mX42_waiting mX42_states mX42_kept mX43_number mX43_sectors mX63_bytes mX64_to mX64_sector mJ1_modCount mJ2_elementData mJ2_size mJ5_elements mJ5_head mJ5_tail mJ22_cursor mJ22_remaining mJ22_lastRet mJ22_this_0 mJ23_cursor mJ23_lastRet mJ23_expectedModCount mJ23_this_0) a (.inr (ci 7, [.int v, .int (mJ23_lastRet a), .int (mJ23_expectedModCount a), va_rf (mJ23_this_0 a)])) = (cKD ci d kd an ai al ar mX42_disk mX42_count mX42_runs mX42_isFull mX42_places mX42_laid mX42_changed mX42_waiting mX42_states mX42_kept mX43_number mX43_sectors mX63_bytes mX64_to mX64_sector mJ1_modCount mJ2_elementData mJ2_size mJ5_elements mJ5_head mJ5_tail mJ22_cursor mJ22_remaining mJ22_lastRet mJ22_this_0 (va_up mJ23_cursor a v) mJ23_lastRet mJ23_expectedModCount mJ23_this_0) := by
  funext b
  by_cases h : b = a
  · subst h
    rw [va_up_self]
    unfold cKD
    rw [hk]
    simp only [va_up_self]
  · rw [va_up_ne _ _ h]
    unfold cKD
    simp only [va_up_ne _ _ h]
theorem cKD_8_1 {ci : Nat → Nat} {d : Nat → ClassId} {kd : Nat → Nat} {an : Nat → Nat} {ai : Nat → Nat → Int32} {al : Nat → Nat → Int64} {ar : Nat → Nat → Option Nat} {mX42_disk : Nat → Option Nat} {mX42_count : Nat → Int32} {mX42_runs : Nat → Int32} {mX42_isFull : Nat → Int32} {mX42_places : Nat → Option Nat} {mX42_laid : Nat → Option Nat} {mX42_changed : Nat → Int32} {mX42_waiting : Nat → Option Nat} {mX42_states : Nat → Option Nat} {mX42_kept : Nat → Option Nat} {mX43_number : Nat → Int32} {mX43_sectors : Nat → Int64} {mX63_bytes : Nat → Option Nat} {mX64_to : Nat → Int32} {mX64_sector : Nat → Option Nat} {mJ1_modCount : Nat → Int32} {mJ2_elementData : Nat → Option Nat} {mJ2_size : Nat → Int32} {mJ5_elements : Nat → Option Nat} {mJ5_head : Nat → Int32} {mJ5_tail : Nat → Int32} {mJ22_cursor : Nat → Int32} {mJ22_remaining : Nat → Int32} {mJ22_lastRet : Nat → Int32} {mJ22_this_0 : Nat → Option Nat} {mJ23_cursor : Nat → Int32} {mJ23_lastRet : Nat → Int32} {mJ23_expectedModCount : Nat → Int32} {mJ23_this_0 : Nat → Option Nat} {a : Nat} {v : Int32} (hk : kd a = 8) : va_up (cKD ci d kd an ai al ar mX42_disk mX42_count mX42_runs mX42_isFull mX42_places mX42_laid mX42_changed mX42_waiting mX42_states mX42_kept mX43_number mX43_sectors mX63_bytes mX64_to mX64_sector mJ1_modCount mJ2_elementData mJ2_size mJ5_elements mJ5_head mJ5_tail mJ22_cursor mJ22_remaining mJ22_lastRet mJ22_this_0 mJ23_cursor mJ23_lastRet mJ23_expectedModCount mJ23_this_0) a (.inr (ci 7, [.int (mJ23_cursor a), .int v, .int (mJ23_expectedModCount a), va_rf (mJ23_this_0 a)])) = (cKD ci d kd an ai al ar mX42_disk mX42_count mX42_runs mX42_isFull mX42_places mX42_laid mX42_changed mX42_waiting mX42_states mX42_kept mX43_number mX43_sectors mX63_bytes mX64_to mX64_sector mJ1_modCount mJ2_elementData mJ2_size mJ5_elements mJ5_head mJ5_tail mJ22_cursor mJ22_remaining mJ22_lastRet mJ22_this_0 mJ23_cursor (va_up mJ23_lastRet a v) mJ23_expectedModCount mJ23_this_0) := by
  funext b
  by_cases h : b = a
  · subst h
    rw [va_up_self]
    unfold cKD
    rw [hk]
    simp only [va_up_self]
  · rw [va_up_ne _ _ h]
    unfold cKD
    simp only [va_up_ne _ _ h]
theorem cKD_8_2 {ci : Nat → Nat} {d : Nat → ClassId} {kd : Nat → Nat} {an : Nat → Nat} {ai : Nat → Nat → Int32} {al : Nat → Nat → Int64} {ar : Nat → Nat → Option Nat} {mX42_disk : Nat → Option Nat} {mX42_count : Nat → Int32} {mX42_runs : Nat → Int32} {mX42_isFull : Nat → Int32} {mX42_places : Nat → Option Nat} {mX42_laid : Nat → Option Nat} {mX42_changed : Nat → Int32} {mX42_waiting : Nat → Option Nat} {mX42_states : Nat → Option Nat} {mX42_kept : Nat → Option Nat} {mX43_number : Nat → Int32} {mX43_sectors : Nat → Int64} {mX63_bytes : Nat → Option Nat} {mX64_to : Nat → Int32} {mX64_sector : Nat → Option Nat} {mJ1_modCount : Nat → Int32} {mJ2_elementData : Nat → Option Nat} {mJ2_size : Nat → Int32} {mJ5_elements : Nat → Option Nat} {mJ5_head : Nat → Int32} {mJ5_tail : Nat → Int32} {mJ22_cursor : Nat → Int32} {mJ22_remaining : Nat → Int32} {mJ22_lastRet : Nat → Int32} {mJ22_this_0 : Nat → Option Nat} {mJ23_cursor : Nat → Int32} {mJ23_lastRet : Nat → Int32} {mJ23_expectedModCount : Nat → Int32} {mJ23_this_0 : Nat → Option Nat} {a : Nat} {v : Int32} (hk : kd a = 8) : va_up (cKD ci d kd an ai al ar mX42_disk mX42_count mX42_runs mX42_isFull mX42_places mX42_laid mX42_changed mX42_waiting mX42_states mX42_kept mX43_number mX43_sectors mX63_bytes mX64_to mX64_sector mJ1_modCount mJ2_elementData mJ2_size mJ5_elements mJ5_head mJ5_tail mJ22_cursor mJ22_remaining mJ22_lastRet mJ22_this_0 mJ23_cursor mJ23_lastRet mJ23_expectedModCount mJ23_this_0) a (.inr (ci 7, [.int (mJ23_cursor a), .int (mJ23_lastRet a), .int v, va_rf (mJ23_this_0 a)])) = (cKD ci d kd an ai al ar mX42_disk mX42_count mX42_runs mX42_isFull mX42_places mX42_laid mX42_changed mX42_waiting mX42_states mX42_kept mX43_number mX43_sectors mX63_bytes mX64_to mX64_sector mJ1_modCount mJ2_elementData mJ2_size mJ5_elements mJ5_head mJ5_tail mJ22_cursor mJ22_remaining mJ22_lastRet mJ22_this_0 mJ23_cursor mJ23_lastRet (va_up mJ23_expectedModCount a v) mJ23_this_0) := by
  funext b
  by_cases h : b = a
  · subst h
    rw [va_up_self]
    unfold cKD
    rw [hk]
    simp only [va_up_self]
  · rw [va_up_ne _ _ h]
    unfold cKD
    simp only [va_up_ne _ _ h]
theorem cKD_8_3 {ci : Nat → Nat} {d : Nat → ClassId} {kd : Nat → Nat} {an : Nat → Nat} {ai : Nat → Nat → Int32} {al : Nat → Nat → Int64} {ar : Nat → Nat → Option Nat} {mX42_disk : Nat → Option Nat} {mX42_count : Nat → Int32} {mX42_runs : Nat → Int32} {mX42_isFull : Nat → Int32} {mX42_places : Nat → Option Nat} {mX42_laid : Nat → Option Nat} {mX42_changed : Nat → Int32} {mX42_waiting : Nat → Option Nat} {mX42_states : Nat → Option Nat} {mX42_kept : Nat → Option Nat} {mX43_number : Nat → Int32} {mX43_sectors : Nat → Int64} {mX63_bytes : Nat → Option Nat} {mX64_to : Nat → Int32} {mX64_sector : Nat → Option Nat} {mJ1_modCount : Nat → Int32} {mJ2_elementData : Nat → Option Nat} {mJ2_size : Nat → Int32} {mJ5_elements : Nat → Option Nat} {mJ5_head : Nat → Int32} {mJ5_tail : Nat → Int32} {mJ22_cursor : Nat → Int32} {mJ22_remaining : Nat → Int32} {mJ22_lastRet : Nat → Int32} {mJ22_this_0 : Nat → Option Nat} {mJ23_cursor : Nat → Int32} {mJ23_lastRet : Nat → Int32} {mJ23_expectedModCount : Nat → Int32} {mJ23_this_0 : Nat → Option Nat} {a : Nat} {v : Option Nat} (hk : kd a = 8) : va_up (cKD ci d kd an ai al ar mX42_disk mX42_count mX42_runs mX42_isFull mX42_places mX42_laid mX42_changed mX42_waiting mX42_states mX42_kept mX43_number mX43_sectors mX63_bytes mX64_to mX64_sector mJ1_modCount mJ2_elementData mJ2_size mJ5_elements mJ5_head mJ5_tail mJ22_cursor mJ22_remaining mJ22_lastRet mJ22_this_0 mJ23_cursor mJ23_lastRet mJ23_expectedModCount mJ23_this_0) a (.inr (ci 7, [.int (mJ23_cursor a), .int (mJ23_lastRet a), .int (mJ23_expectedModCount a), va_rf v])) = (cKD ci d kd an ai al ar mX42_disk mX42_count mX42_runs mX42_isFull mX42_places mX42_laid mX42_changed mX42_waiting mX42_states mX42_kept mX43_number mX43_sectors mX63_bytes mX64_to mX64_sector mJ1_modCount mJ2_elementData mJ2_size mJ5_elements mJ5_head mJ5_tail mJ22_cursor mJ22_remaining mJ22_lastRet mJ22_this_0 mJ23_cursor mJ23_lastRet mJ23_expectedModCount (va_up mJ23_this_0 a v)) := by
  funext b
  by_cases h : b = a
  · subst h
    rw [va_up_self]
    unfold cKD
    rw [hk]
    simp only [va_up_self]
  · rw [va_up_ne _ _ h]
    unfold cKD
    simp only [va_up_ne _ _ h]
theorem cKD_8_n {ci : Nat → Nat} {d : Nat → ClassId} {kd : Nat → Nat} {an : Nat → Nat} {ai : Nat → Nat → Int32} {al : Nat → Nat → Int64} {ar : Nat → Nat → Option Nat} {mX42_disk : Nat → Option Nat} {mX42_count : Nat → Int32} {mX42_runs : Nat → Int32} {mX42_isFull : Nat → Int32} {mX42_places : Nat → Option Nat} {mX42_laid : Nat → Option Nat} {mX42_changed : Nat → Int32} {mX42_waiting : Nat → Option Nat} {mX42_states : Nat → Option Nat} {mX42_kept : Nat → Option Nat} {mX43_number : Nat → Int32} {mX43_sectors : Nat → Int64} {mX63_bytes : Nat → Option Nat} {mX64_to : Nat → Int32} {mX64_sector : Nat → Option Nat} {mJ1_modCount : Nat → Int32} {mJ2_elementData : Nat → Option Nat} {mJ2_size : Nat → Int32} {mJ5_elements : Nat → Option Nat} {mJ5_head : Nat → Int32} {mJ5_tail : Nat → Int32} {mJ22_cursor : Nat → Int32} {mJ22_remaining : Nat → Int32} {mJ22_lastRet : Nat → Int32} {mJ22_this_0 : Nat → Option Nat} {mJ23_cursor : Nat → Int32} {mJ23_lastRet : Nat → Int32} {mJ23_expectedModCount : Nat → Int32} {mJ23_this_0 : Nat → Option Nat} (q : Nat) : va_up (cKD ci d kd an ai al ar mX42_disk mX42_count mX42_runs mX42_isFull mX42_places mX42_laid mX42_changed mX42_waiting mX42_states mX42_kept mX43_number mX43_sectors mX63_bytes mX64_to mX64_sector mJ1_modCount mJ2_elementData mJ2_size mJ5_elements mJ5_head mJ5_tail mJ22_cursor mJ22_remaining mJ22_lastRet mJ22_this_0 mJ23_cursor mJ23_lastRet mJ23_expectedModCount mJ23_this_0) q (.inr (ci 7, [.int 0, .int 0, .int 0, va_rf none])) = (cKD ci d (va_up kd q 8) an ai al ar mX42_disk mX42_count mX42_runs mX42_isFull mX42_places mX42_laid mX42_changed mX42_waiting mX42_states mX42_kept mX43_number mX43_sectors mX63_bytes mX64_to mX64_sector mJ1_modCount mJ2_elementData mJ2_size mJ5_elements mJ5_head mJ5_tail mJ22_cursor mJ22_remaining mJ22_lastRet mJ22_this_0 (va_up mJ23_cursor q 0) (va_up mJ23_lastRet q 0) (va_up mJ23_expectedModCount q 0) (va_up mJ23_this_0 q none)) := by
  funext b
  by_cases h : b = q
  · subst h
    rw [va_up_self]
    unfold cKD
    simp only [va_up_self]
  · rw [va_up_ne _ _ h]
    unfold cKD
    simp only [va_up_ne _ _ h]
theorem cKD_9 {ci : Nat → Nat} {d : Nat → ClassId} {kd : Nat → Nat} {an : Nat → Nat} {ai : Nat → Nat → Int32} {al : Nat → Nat → Int64} {ar : Nat → Nat → Option Nat} {mX42_disk : Nat → Option Nat} {mX42_count : Nat → Int32} {mX42_runs : Nat → Int32} {mX42_isFull : Nat → Int32} {mX42_places : Nat → Option Nat} {mX42_laid : Nat → Option Nat} {mX42_changed : Nat → Int32} {mX42_waiting : Nat → Option Nat} {mX42_states : Nat → Option Nat} {mX42_kept : Nat → Option Nat} {mX43_number : Nat → Int32} {mX43_sectors : Nat → Int64} {mX63_bytes : Nat → Option Nat} {mX64_to : Nat → Int32} {mX64_sector : Nat → Option Nat} {mJ1_modCount : Nat → Int32} {mJ2_elementData : Nat → Option Nat} {mJ2_size : Nat → Int32} {mJ5_elements : Nat → Option Nat} {mJ5_head : Nat → Int32} {mJ5_tail : Nat → Int32} {mJ22_cursor : Nat → Int32} {mJ22_remaining : Nat → Int32} {mJ22_lastRet : Nat → Int32} {mJ22_this_0 : Nat → Option Nat} {mJ23_cursor : Nat → Int32} {mJ23_lastRet : Nat → Int32} {mJ23_expectedModCount : Nat → Int32} {mJ23_this_0 : Nat → Option Nat} {a : Nat} (hk : kd a = 9) : (cKD ci d kd an ai al ar mX42_disk mX42_count mX42_runs mX42_isFull mX42_places mX42_laid mX42_changed mX42_waiting mX42_states mX42_kept mX43_number mX43_sectors mX63_bytes mX64_to mX64_sector mJ1_modCount mJ2_elementData mJ2_size mJ5_elements mJ5_head mJ5_tail mJ22_cursor mJ22_remaining mJ22_lastRet mJ22_this_0 mJ23_cursor mJ23_lastRet mJ23_expectedModCount mJ23_this_0) a = .inl (d 0, an a, .inl (ai a)) := by unfold cKD; simp only [hk]
theorem cKD_9_s {ci : Nat → Nat} {d : Nat → ClassId} {kd : Nat → Nat} {an : Nat → Nat} {ai : Nat → Nat → Int32} {al : Nat → Nat → Int64} {ar : Nat → Nat → Option Nat} {mX42_disk : Nat → Option Nat} {mX42_count : Nat → Int32} {mX42_runs : Nat → Int32} {mX42_isFull : Nat → Int32} {mX42_places : Nat → Option Nat} {mX42_laid : Nat → Option Nat} {mX42_changed : Nat → Int32} {mX42_waiting : Nat → Option Nat} {mX42_states : Nat → Option Nat} {mX42_kept : Nat → Option Nat} {mX43_number : Nat → Int32} {mX43_sectors : Nat → Int64} {mX63_bytes : Nat → Option Nat} {mX64_to : Nat → Int32} {mX64_sector : Nat → Option Nat} {mJ1_modCount : Nat → Int32} {mJ2_elementData : Nat → Option Nat} {mJ2_size : Nat → Int32} {mJ5_elements : Nat → Option Nat} {mJ5_head : Nat → Int32} {mJ5_tail : Nat → Int32} {mJ22_cursor : Nat → Int32} {mJ22_remaining : Nat → Int32} {mJ22_lastRet : Nat → Int32} {mJ22_this_0 : Nat → Option Nat} {mJ23_cursor : Nat → Int32} {mJ23_lastRet : Nat → Int32} {mJ23_expectedModCount : Nat → Int32} {mJ23_this_0 : Nat → Option Nat} {a : Nat} {g : Nat → Int32} (hk : kd a = 9) : va_up (cKD ci d kd an ai al ar mX42_disk mX42_count mX42_runs mX42_isFull mX42_places mX42_laid mX42_changed mX42_waiting mX42_states mX42_kept mX43_number mX43_sectors mX63_bytes mX64_to mX64_sector mJ1_modCount mJ2_elementData mJ2_size mJ5_elements mJ5_head mJ5_tail mJ22_cursor mJ22_remaining mJ22_lastRet mJ22_this_0 mJ23_cursor mJ23_lastRet mJ23_expectedModCount mJ23_this_0) a (.inl (d 0, an a, .inl g)) = (cKD ci d kd an (va_up ai a g) al ar mX42_disk mX42_count mX42_runs mX42_isFull mX42_places mX42_laid mX42_changed mX42_waiting mX42_states mX42_kept mX43_number mX43_sectors mX63_bytes mX64_to mX64_sector mJ1_modCount mJ2_elementData mJ2_size mJ5_elements mJ5_head mJ5_tail mJ22_cursor mJ22_remaining mJ22_lastRet mJ22_this_0 mJ23_cursor mJ23_lastRet mJ23_expectedModCount mJ23_this_0) := by
  funext b
  by_cases h : b = a
  · subst h
    rw [va_up_self]
    unfold cKD
    rw [hk]
    simp only [va_up_self]
  · rw [va_up_ne _ _ h]
    unfold cKD
    simp only [va_up_ne _ _ h]
theorem cKD_9_n {ci : Nat → Nat} {d : Nat → ClassId} {kd : Nat → Nat} {an : Nat → Nat} {ai : Nat → Nat → Int32} {al : Nat → Nat → Int64} {ar : Nat → Nat → Option Nat} {mX42_disk : Nat → Option Nat} {mX42_count : Nat → Int32} {mX42_runs : Nat → Int32} {mX42_isFull : Nat → Int32} {mX42_places : Nat → Option Nat} {mX42_laid : Nat → Option Nat} {mX42_changed : Nat → Int32} {mX42_waiting : Nat → Option Nat} {mX42_states : Nat → Option Nat} {mX42_kept : Nat → Option Nat} {mX43_number : Nat → Int32} {mX43_sectors : Nat → Int64} {mX63_bytes : Nat → Option Nat} {mX64_to : Nat → Int32} {mX64_sector : Nat → Option Nat} {mJ1_modCount : Nat → Int32} {mJ2_elementData : Nat → Option Nat} {mJ2_size : Nat → Int32} {mJ5_elements : Nat → Option Nat} {mJ5_head : Nat → Int32} {mJ5_tail : Nat → Int32} {mJ22_cursor : Nat → Int32} {mJ22_remaining : Nat → Int32} {mJ22_lastRet : Nat → Int32} {mJ22_this_0 : Nat → Option Nat} {mJ23_cursor : Nat → Int32} {mJ23_lastRet : Nat → Int32} {mJ23_expectedModCount : Nat → Int32} {mJ23_this_0 : Nat → Option Nat} (n q : Nat) : va_up (cKD ci d kd an ai al ar mX42_disk mX42_count mX42_runs mX42_isFull mX42_places mX42_laid mX42_changed mX42_waiting mX42_states mX42_kept mX43_number mX43_sectors mX63_bytes mX64_to mX64_sector mJ1_modCount mJ2_elementData mJ2_size mJ5_elements mJ5_head mJ5_tail mJ22_cursor mJ22_remaining mJ22_lastRet mJ22_this_0 mJ23_cursor mJ23_lastRet mJ23_expectedModCount mJ23_this_0) q (.inl (d 0, n, .inl (fun _ => 0))) = (cKD ci d (va_up kd q 9) (va_up an q n) (va_up ai q (fun _ => 0)) al ar mX42_disk mX42_count mX42_runs mX42_isFull mX42_places mX42_laid mX42_changed mX42_waiting mX42_states mX42_kept mX43_number mX43_sectors mX63_bytes mX64_to mX64_sector mJ1_modCount mJ2_elementData mJ2_size mJ5_elements mJ5_head mJ5_tail mJ22_cursor mJ22_remaining mJ22_lastRet mJ22_this_0 mJ23_cursor mJ23_lastRet mJ23_expectedModCount mJ23_this_0) := by
  funext b
  by_cases h : b = q
  · subst h
    rw [va_up_self]
    unfold cKD
    simp only [va_up_self]
  · rw [va_up_ne _ _ h]
    unfold cKD
    simp only [va_up_ne _ _ h]
theorem cKD_10 {ci : Nat → Nat} {d : Nat → ClassId} {kd : Nat → Nat} {an : Nat → Nat} {ai : Nat → Nat → Int32} {al : Nat → Nat → Int64} {ar : Nat → Nat → Option Nat} {mX42_disk : Nat → Option Nat} {mX42_count : Nat → Int32} {mX42_runs : Nat → Int32} {mX42_isFull : Nat → Int32} {mX42_places : Nat → Option Nat} {mX42_laid : Nat → Option Nat} {mX42_changed : Nat → Int32} {mX42_waiting : Nat → Option Nat} {mX42_states : Nat → Option Nat} {mX42_kept : Nat → Option Nat} {mX43_number : Nat → Int32} {mX43_sectors : Nat → Int64} {mX63_bytes : Nat → Option Nat} {mX64_to : Nat → Int32} {mX64_sector : Nat → Option Nat} {mJ1_modCount : Nat → Int32} {mJ2_elementData : Nat → Option Nat} {mJ2_size : Nat → Int32} {mJ5_elements : Nat → Option Nat} {mJ5_head : Nat → Int32} {mJ5_tail : Nat → Int32} {mJ22_cursor : Nat → Int32} {mJ22_remaining : Nat → Int32} {mJ22_lastRet : Nat → Int32} {mJ22_this_0 : Nat → Option Nat} {mJ23_cursor : Nat → Int32} {mJ23_lastRet : Nat → Int32} {mJ23_expectedModCount : Nat → Int32} {mJ23_this_0 : Nat → Option Nat} {a : Nat} (hk : kd a = 10) : (cKD ci d kd an ai al ar mX42_disk mX42_count mX42_runs mX42_isFull mX42_places mX42_laid mX42_changed mX42_waiting mX42_states mX42_kept mX43_number mX43_sectors mX63_bytes mX64_to mX64_sector mJ1_modCount mJ2_elementData mJ2_size mJ5_elements mJ5_head mJ5_tail mJ22_cursor mJ22_remaining mJ22_lastRet mJ22_this_0 mJ23_cursor mJ23_lastRet mJ23_expectedModCount mJ23_this_0) a = .inl (d 1, an a, .inl (ai a)) := by unfold cKD; simp only [hk]
theorem cKD_10_s {ci : Nat → Nat} {d : Nat → ClassId} {kd : Nat → Nat} {an : Nat → Nat} {ai : Nat → Nat → Int32} {al : Nat → Nat → Int64} {ar : Nat → Nat → Option Nat} {mX42_disk : Nat → Option Nat} {mX42_count : Nat → Int32} {mX42_runs : Nat → Int32} {mX42_isFull : Nat → Int32} {mX42_places : Nat → Option Nat} {mX42_laid : Nat → Option Nat} {mX42_changed : Nat → Int32} {mX42_waiting : Nat → Option Nat} {mX42_states : Nat → Option Nat} {mX42_kept : Nat → Option Nat} {mX43_number : Nat → Int32} {mX43_sectors : Nat → Int64} {mX63_bytes : Nat → Option Nat} {mX64_to : Nat → Int32} {mX64_sector : Nat → Option Nat} {mJ1_modCount : Nat → Int32} {mJ2_elementData : Nat → Option Nat} {mJ2_size : Nat → Int32} {mJ5_elements : Nat → Option Nat} {mJ5_head : Nat → Int32} {mJ5_tail : Nat → Int32} {mJ22_cursor : Nat → Int32} {mJ22_remaining : Nat → Int32} {mJ22_lastRet : Nat → Int32} {mJ22_this_0 : Nat → Option Nat} {mJ23_cursor : Nat → Int32} {mJ23_lastRet : Nat → Int32} {mJ23_expectedModCount : Nat → Int32} {mJ23_this_0 : Nat → Option Nat} {a : Nat} {g : Nat → Int32} (hk : kd a = 10) : va_up (cKD ci d kd an ai al ar mX42_disk mX42_count mX42_runs mX42_isFull mX42_places mX42_laid mX42_changed mX42_waiting mX42_states mX42_kept mX43_number mX43_sectors mX63_bytes mX64_to mX64_sector mJ1_modCount mJ2_elementData mJ2_size mJ5_elements mJ5_head mJ5_tail mJ22_cursor mJ22_remaining mJ22_lastRet mJ22_this_0 mJ23_cursor mJ23_lastRet mJ23_expectedModCount mJ23_this_0) a (.inl (d 1, an a, .inl g)) = (cKD ci d kd an (va_up ai a g) al ar mX42_disk mX42_count mX42_runs mX42_isFull mX42_places mX42_laid mX42_changed mX42_waiting mX42_states mX42_kept mX43_number mX43_sectors mX63_bytes mX64_to mX64_sector mJ1_modCount mJ2_elementData mJ2_size mJ5_elements mJ5_head mJ5_tail mJ22_cursor mJ22_remaining mJ22_lastRet mJ22_this_0 mJ23_cursor mJ23_lastRet mJ23_expectedModCount mJ23_this_0) := by
  funext b
  by_cases h : b = a
  · subst h
    rw [va_up_self]
    unfold cKD
    rw [hk]
    simp only [va_up_self]
  · rw [va_up_ne _ _ h]
    unfold cKD
    simp only [va_up_ne _ _ h]
theorem cKD_10_n {ci : Nat → Nat} {d : Nat → ClassId} {kd : Nat → Nat} {an : Nat → Nat} {ai : Nat → Nat → Int32} {al : Nat → Nat → Int64} {ar : Nat → Nat → Option Nat} {mX42_disk : Nat → Option Nat} {mX42_count : Nat → Int32} {mX42_runs : Nat → Int32} {mX42_isFull : Nat → Int32} {mX42_places : Nat → Option Nat} {mX42_laid : Nat → Option Nat} {mX42_changed : Nat → Int32} {mX42_waiting : Nat → Option Nat} {mX42_states : Nat → Option Nat} {mX42_kept : Nat → Option Nat} {mX43_number : Nat → Int32} {mX43_sectors : Nat → Int64} {mX63_bytes : Nat → Option Nat} {mX64_to : Nat → Int32} {mX64_sector : Nat → Option Nat} {mJ1_modCount : Nat → Int32} {mJ2_elementData : Nat → Option Nat} {mJ2_size : Nat → Int32} {mJ5_elements : Nat → Option Nat} {mJ5_head : Nat → Int32} {mJ5_tail : Nat → Int32} {mJ22_cursor : Nat → Int32} {mJ22_remaining : Nat → Int32} {mJ22_lastRet : Nat → Int32} {mJ22_this_0 : Nat → Option Nat} {mJ23_cursor : Nat → Int32} {mJ23_lastRet : Nat → Int32} {mJ23_expectedModCount : Nat → Int32} {mJ23_this_0 : Nat → Option Nat} (n q : Nat) : va_up (cKD ci d kd an ai al ar mX42_disk mX42_count mX42_runs mX42_isFull mX42_places mX42_laid mX42_changed mX42_waiting mX42_states mX42_kept mX43_number mX43_sectors mX63_bytes mX64_to mX64_sector mJ1_modCount mJ2_elementData mJ2_size mJ5_elements mJ5_head mJ5_tail mJ22_cursor mJ22_remaining mJ22_lastRet mJ22_this_0 mJ23_cursor mJ23_lastRet mJ23_expectedModCount mJ23_this_0) q (.inl (d 1, n, .inl (fun _ => 0))) = (cKD ci d (va_up kd q 10) (va_up an q n) (va_up ai q (fun _ => 0)) al ar mX42_disk mX42_count mX42_runs mX42_isFull mX42_places mX42_laid mX42_changed mX42_waiting mX42_states mX42_kept mX43_number mX43_sectors mX63_bytes mX64_to mX64_sector mJ1_modCount mJ2_elementData mJ2_size mJ5_elements mJ5_head mJ5_tail mJ22_cursor mJ22_remaining mJ22_lastRet mJ22_this_0 mJ23_cursor mJ23_lastRet mJ23_expectedModCount mJ23_this_0) := by
  funext b
  by_cases h : b = q
  · subst h
    rw [va_up_self]
    unfold cKD
    simp only [va_up_self]
  · rw [va_up_ne _ _ h]
    unfold cKD
    simp only [va_up_ne _ _ h]
theorem cKD_11 {ci : Nat → Nat} {d : Nat → ClassId} {kd : Nat → Nat} {an : Nat → Nat} {ai : Nat → Nat → Int32} {al : Nat → Nat → Int64} {ar : Nat → Nat → Option Nat} {mX42_disk : Nat → Option Nat} {mX42_count : Nat → Int32} {mX42_runs : Nat → Int32} {mX42_isFull : Nat → Int32} {mX42_places : Nat → Option Nat} {mX42_laid : Nat → Option Nat} {mX42_changed : Nat → Int32} {mX42_waiting : Nat → Option Nat} {mX42_states : Nat → Option Nat} {mX42_kept : Nat → Option Nat} {mX43_number : Nat → Int32} {mX43_sectors : Nat → Int64} {mX63_bytes : Nat → Option Nat} {mX64_to : Nat → Int32} {mX64_sector : Nat → Option Nat} {mJ1_modCount : Nat → Int32} {mJ2_elementData : Nat → Option Nat} {mJ2_size : Nat → Int32} {mJ5_elements : Nat → Option Nat} {mJ5_head : Nat → Int32} {mJ5_tail : Nat → Int32} {mJ22_cursor : Nat → Int32} {mJ22_remaining : Nat → Int32} {mJ22_lastRet : Nat → Int32} {mJ22_this_0 : Nat → Option Nat} {mJ23_cursor : Nat → Int32} {mJ23_lastRet : Nat → Int32} {mJ23_expectedModCount : Nat → Int32} {mJ23_this_0 : Nat → Option Nat} {a : Nat} (hk : kd a = 11) : (cKD ci d kd an ai al ar mX42_disk mX42_count mX42_runs mX42_isFull mX42_places mX42_laid mX42_changed mX42_waiting mX42_states mX42_kept mX43_number mX43_sectors mX63_bytes mX64_to mX64_sector mJ1_modCount mJ2_elementData mJ2_size mJ5_elements mJ5_head mJ5_tail mJ22_cursor mJ22_remaining mJ22_lastRet mJ22_this_0 mJ23_cursor mJ23_lastRet mJ23_expectedModCount mJ23_this_0) a = .inl (d 2, an a, .inr (.inl (al a))) := by unfold cKD; simp only [hk]
theorem cKD_11_s {ci : Nat → Nat} {d : Nat → ClassId} {kd : Nat → Nat} {an : Nat → Nat} {ai : Nat → Nat → Int32} {al : Nat → Nat → Int64} {ar : Nat → Nat → Option Nat} {mX42_disk : Nat → Option Nat} {mX42_count : Nat → Int32} {mX42_runs : Nat → Int32} {mX42_isFull : Nat → Int32} {mX42_places : Nat → Option Nat} {mX42_laid : Nat → Option Nat} {mX42_changed : Nat → Int32} {mX42_waiting : Nat → Option Nat} {mX42_states : Nat → Option Nat} {mX42_kept : Nat → Option Nat} {mX43_number : Nat → Int32} {mX43_sectors : Nat → Int64} {mX63_bytes : Nat → Option Nat} {mX64_to : Nat → Int32} {mX64_sector : Nat → Option Nat} {mJ1_modCount : Nat → Int32} {mJ2_elementData : Nat → Option Nat} {mJ2_size : Nat → Int32} {mJ5_elements : Nat → Option Nat} {mJ5_head : Nat → Int32} {mJ5_tail : Nat → Int32} {mJ22_cursor : Nat → Int32} {mJ22_remaining : Nat → Int32} {mJ22_lastRet : Nat → Int32} {mJ22_this_0 : Nat → Option Nat} {mJ23_cursor : Nat → Int32} {mJ23_lastRet : Nat → Int32} {mJ23_expectedModCount : Nat → Int32} {mJ23_this_0 : Nat → Option Nat} {a : Nat} {g : Nat → Int64} (hk : kd a = 11) : va_up (cKD ci d kd an ai al ar mX42_disk mX42_count mX42_runs mX42_isFull mX42_places mX42_laid mX42_changed mX42_waiting mX42_states mX42_kept mX43_number mX43_sectors mX63_bytes mX64_to mX64_sector mJ1_modCount mJ2_elementData mJ2_size mJ5_elements mJ5_head mJ5_tail mJ22_cursor mJ22_remaining mJ22_lastRet mJ22_this_0 mJ23_cursor mJ23_lastRet mJ23_expectedModCount mJ23_this_0) a (.inl (d 2, an a, .inr (.inl g))) = (cKD ci d kd an ai (va_up al a g) ar mX42_disk mX42_count mX42_runs mX42_isFull mX42_places mX42_laid mX42_changed mX42_waiting mX42_states mX42_kept mX43_number mX43_sectors mX63_bytes mX64_to mX64_sector mJ1_modCount mJ2_elementData mJ2_size mJ5_elements mJ5_head mJ5_tail mJ22_cursor mJ22_remaining mJ22_lastRet mJ22_this_0 mJ23_cursor mJ23_lastRet mJ23_expectedModCount mJ23_this_0) := by
  funext b
  by_cases h : b = a
  · subst h
    rw [va_up_self]
    unfold cKD
    rw [hk]
    simp only [va_up_self]
  · rw [va_up_ne _ _ h]
    unfold cKD
    simp only [va_up_ne _ _ h]
theorem cKD_11_n {ci : Nat → Nat} {d : Nat → ClassId} {kd : Nat → Nat} {an : Nat → Nat} {ai : Nat → Nat → Int32} {al : Nat → Nat → Int64} {ar : Nat → Nat → Option Nat} {mX42_disk : Nat → Option Nat} {mX42_count : Nat → Int32} {mX42_runs : Nat → Int32} {mX42_isFull : Nat → Int32} {mX42_places : Nat → Option Nat} {mX42_laid : Nat → Option Nat} {mX42_changed : Nat → Int32} {mX42_waiting : Nat → Option Nat} {mX42_states : Nat → Option Nat} {mX42_kept : Nat → Option Nat} {mX43_number : Nat → Int32} {mX43_sectors : Nat → Int64} {mX63_bytes : Nat → Option Nat} {mX64_to : Nat → Int32} {mX64_sector : Nat → Option Nat} {mJ1_modCount : Nat → Int32} {mJ2_elementData : Nat → Option Nat} {mJ2_size : Nat → Int32} {mJ5_elements : Nat → Option Nat} {mJ5_head : Nat → Int32} {mJ5_tail : Nat → Int32} {mJ22_cursor : Nat → Int32} {mJ22_remaining : Nat → Int32} {mJ22_lastRet : Nat → Int32} {mJ22_this_0 : Nat → Option Nat} {mJ23_cursor : Nat → Int32} {mJ23_lastRet : Nat → Int32} {mJ23_expectedModCount : Nat → Int32} {mJ23_this_0 : Nat → Option Nat} (n q : Nat) : va_up (cKD ci d kd an ai al ar mX42_disk mX42_count mX42_runs mX42_isFull mX42_places mX42_laid mX42_changed mX42_waiting mX42_states mX42_kept mX43_number mX43_sectors mX63_bytes mX64_to mX64_sector mJ1_modCount mJ2_elementData mJ2_size mJ5_elements mJ5_head mJ5_tail mJ22_cursor mJ22_remaining mJ22_lastRet mJ22_this_0 mJ23_cursor mJ23_lastRet mJ23_expectedModCount mJ23_this_0) q (.inl (d 2, n, .inr (.inl (fun _ => 0)))) = (cKD ci d (va_up kd q 11) (va_up an q n) ai (va_up al q (fun _ => 0)) ar mX42_disk mX42_count mX42_runs mX42_isFull mX42_places mX42_laid mX42_changed mX42_waiting mX42_states mX42_kept mX43_number mX43_sectors mX63_bytes mX64_to mX64_sector mJ1_modCount mJ2_elementData mJ2_size mJ5_elements mJ5_head mJ5_tail mJ22_cursor mJ22_remaining mJ22_lastRet mJ22_this_0 mJ23_cursor mJ23_lastRet mJ23_expectedModCount mJ23_this_0) := by
  funext b
  by_cases h : b = q
  · subst h
    rw [va_up_self]
    unfold cKD
    simp only [va_up_self]
  · rw [va_up_ne _ _ h]
    unfold cKD
    simp only [va_up_ne _ _ h]
theorem cKD_12 {ci : Nat → Nat} {d : Nat → ClassId} {kd : Nat → Nat} {an : Nat → Nat} {ai : Nat → Nat → Int32} {al : Nat → Nat → Int64} {ar : Nat → Nat → Option Nat} {mX42_disk : Nat → Option Nat} {mX42_count : Nat → Int32} {mX42_runs : Nat → Int32} {mX42_isFull : Nat → Int32} {mX42_places : Nat → Option Nat} {mX42_laid : Nat → Option Nat} {mX42_changed : Nat → Int32} {mX42_waiting : Nat → Option Nat} {mX42_states : Nat → Option Nat} {mX42_kept : Nat → Option Nat} {mX43_number : Nat → Int32} {mX43_sectors : Nat → Int64} {mX63_bytes : Nat → Option Nat} {mX64_to : Nat → Int32} {mX64_sector : Nat → Option Nat} {mJ1_modCount : Nat → Int32} {mJ2_elementData : Nat → Option Nat} {mJ2_size : Nat → Int32} {mJ5_elements : Nat → Option Nat} {mJ5_head : Nat → Int32} {mJ5_tail : Nat → Int32} {mJ22_cursor : Nat → Int32} {mJ22_remaining : Nat → Int32} {mJ22_lastRet : Nat → Int32} {mJ22_this_0 : Nat → Option Nat} {mJ23_cursor : Nat → Int32} {mJ23_lastRet : Nat → Int32} {mJ23_expectedModCount : Nat → Int32} {mJ23_this_0 : Nat → Option Nat} {a : Nat} (hk : kd a = 12) : (cKD ci d kd an ai al ar mX42_disk mX42_count mX42_runs mX42_isFull mX42_places mX42_laid mX42_changed mX42_waiting mX42_states mX42_kept mX43_number mX43_sectors mX63_bytes mX64_to mX64_sector mJ1_modCount mJ2_elementData mJ2_size mJ5_elements mJ5_head mJ5_tail mJ22_cursor mJ22_remaining mJ22_lastRet mJ22_this_0 mJ23_cursor mJ23_lastRet mJ23_expectedModCount mJ23_this_0) a = .inl (d 3, an a, .inr (.inr (.inr (.inr (ar a))))) := by unfold cKD; simp only [hk]
theorem cKD_12_s {ci : Nat → Nat} {d : Nat → ClassId} {kd : Nat → Nat} {an : Nat → Nat} {ai : Nat → Nat → Int32} {al : Nat → Nat → Int64} {ar : Nat → Nat → Option Nat} {mX42_disk : Nat → Option Nat} {mX42_count : Nat → Int32} {mX42_runs : Nat → Int32} {mX42_isFull : Nat → Int32} {mX42_places : Nat → Option Nat} {mX42_laid : Nat → Option Nat} {mX42_changed : Nat → Int32} {mX42_waiting : Nat → Option Nat} {mX42_states : Nat → Option Nat} {mX42_kept : Nat → Option Nat} {mX43_number : Nat → Int32} {mX43_sectors : Nat → Int64} {mX63_bytes : Nat → Option Nat} {mX64_to : Nat → Int32} {mX64_sector : Nat → Option Nat} {mJ1_modCount : Nat → Int32} {mJ2_elementData : Nat → Option Nat} {mJ2_size : Nat → Int32} {mJ5_elements : Nat → Option Nat} {mJ5_head : Nat → Int32} {mJ5_tail : Nat → Int32} {mJ22_cursor : Nat → Int32} {mJ22_remaining : Nat → Int32} {mJ22_lastRet : Nat → Int32} {mJ22_this_0 : Nat → Option Nat} {mJ23_cursor : Nat → Int32} {mJ23_lastRet : Nat → Int32} {mJ23_expectedModCount : Nat → Int32} {mJ23_this_0 : Nat → Option Nat} {a : Nat} {g : Nat → Option Nat} (hk : kd a = 12) : va_up (cKD ci d kd an ai al ar mX42_disk mX42_count mX42_runs mX42_isFull mX42_places mX42_laid mX42_changed mX42_waiting mX42_states mX42_kept mX43_number mX43_sectors mX63_bytes mX64_to mX64_sector mJ1_modCount mJ2_elementData mJ2_size mJ5_elements mJ5_head mJ5_tail mJ22_cursor mJ22_remaining mJ22_lastRet mJ22_this_0 mJ23_cursor mJ23_lastRet mJ23_expectedModCount mJ23_this_0) a (.inl (d 3, an a, .inr (.inr (.inr (.inr g))))) = (cKD ci d kd an ai al (va_up ar a g) mX42_disk mX42_count mX42_runs mX42_isFull mX42_places mX42_laid mX42_changed mX42_waiting mX42_states mX42_kept mX43_number mX43_sectors mX63_bytes mX64_to mX64_sector mJ1_modCount mJ2_elementData mJ2_size mJ5_elements mJ5_head mJ5_tail mJ22_cursor mJ22_remaining mJ22_lastRet mJ22_this_0 mJ23_cursor mJ23_lastRet mJ23_expectedModCount mJ23_this_0) := by
  funext b
  by_cases h : b = a
  · subst h
    rw [va_up_self]
    unfold cKD
    rw [hk]
    simp only [va_up_self]
  · rw [va_up_ne _ _ h]
    unfold cKD
    simp only [va_up_ne _ _ h]
theorem cKD_12_n {ci : Nat → Nat} {d : Nat → ClassId} {kd : Nat → Nat} {an : Nat → Nat} {ai : Nat → Nat → Int32} {al : Nat → Nat → Int64} {ar : Nat → Nat → Option Nat} {mX42_disk : Nat → Option Nat} {mX42_count : Nat → Int32} {mX42_runs : Nat → Int32} {mX42_isFull : Nat → Int32} {mX42_places : Nat → Option Nat} {mX42_laid : Nat → Option Nat} {mX42_changed : Nat → Int32} {mX42_waiting : Nat → Option Nat} {mX42_states : Nat → Option Nat} {mX42_kept : Nat → Option Nat} {mX43_number : Nat → Int32} {mX43_sectors : Nat → Int64} {mX63_bytes : Nat → Option Nat} {mX64_to : Nat → Int32} {mX64_sector : Nat → Option Nat} {mJ1_modCount : Nat → Int32} {mJ2_elementData : Nat → Option Nat} {mJ2_size : Nat → Int32} {mJ5_elements : Nat → Option Nat} {mJ5_head : Nat → Int32} {mJ5_tail : Nat → Int32} {mJ22_cursor : Nat → Int32} {mJ22_remaining : Nat → Int32} {mJ22_lastRet : Nat → Int32} {mJ22_this_0 : Nat → Option Nat} {mJ23_cursor : Nat → Int32} {mJ23_lastRet : Nat → Int32} {mJ23_expectedModCount : Nat → Int32} {mJ23_this_0 : Nat → Option Nat} (n q : Nat) : va_up (cKD ci d kd an ai al ar mX42_disk mX42_count mX42_runs mX42_isFull mX42_places mX42_laid mX42_changed mX42_waiting mX42_states mX42_kept mX43_number mX43_sectors mX63_bytes mX64_to mX64_sector mJ1_modCount mJ2_elementData mJ2_size mJ5_elements mJ5_head mJ5_tail mJ22_cursor mJ22_remaining mJ22_lastRet mJ22_this_0 mJ23_cursor mJ23_lastRet mJ23_expectedModCount mJ23_this_0) q (.inl (d 3, n, .inr (.inr (.inr (.inr (fun _ => none)))))) = (cKD ci d (va_up kd q 12) (va_up an q n) ai al (va_up ar q (fun _ => none)) mX42_disk mX42_count mX42_runs mX42_isFull mX42_places mX42_laid mX42_changed mX42_waiting mX42_states mX42_kept mX43_number mX43_sectors mX63_bytes mX64_to mX64_sector mJ1_modCount mJ2_elementData mJ2_size mJ5_elements mJ5_head mJ5_tail mJ22_cursor mJ22_remaining mJ22_lastRet mJ22_this_0 mJ23_cursor mJ23_lastRet mJ23_expectedModCount mJ23_this_0) := by
  funext b
  by_cases h : b = q
  · subst h
    rw [va_up_self]
    unfold cKD
    simp only [va_up_self]
  · rw [va_up_ne _ _ h]
    unfold cKD
    simp only [va_up_ne _ _ h]
theorem cKD_13 {ci : Nat → Nat} {d : Nat → ClassId} {kd : Nat → Nat} {an : Nat → Nat} {ai : Nat → Nat → Int32} {al : Nat → Nat → Int64} {ar : Nat → Nat → Option Nat} {mX42_disk : Nat → Option Nat} {mX42_count : Nat → Int32} {mX42_runs : Nat → Int32} {mX42_isFull : Nat → Int32} {mX42_places : Nat → Option Nat} {mX42_laid : Nat → Option Nat} {mX42_changed : Nat → Int32} {mX42_waiting : Nat → Option Nat} {mX42_states : Nat → Option Nat} {mX42_kept : Nat → Option Nat} {mX43_number : Nat → Int32} {mX43_sectors : Nat → Int64} {mX63_bytes : Nat → Option Nat} {mX64_to : Nat → Int32} {mX64_sector : Nat → Option Nat} {mJ1_modCount : Nat → Int32} {mJ2_elementData : Nat → Option Nat} {mJ2_size : Nat → Int32} {mJ5_elements : Nat → Option Nat} {mJ5_head : Nat → Int32} {mJ5_tail : Nat → Int32} {mJ22_cursor : Nat → Int32} {mJ22_remaining : Nat → Int32} {mJ22_lastRet : Nat → Int32} {mJ22_this_0 : Nat → Option Nat} {mJ23_cursor : Nat → Int32} {mJ23_lastRet : Nat → Int32} {mJ23_expectedModCount : Nat → Int32} {mJ23_this_0 : Nat → Option Nat} {a : Nat} (hk : kd a = 13) : (cKD ci d kd an ai al ar mX42_disk mX42_count mX42_runs mX42_isFull mX42_places mX42_laid mX42_changed mX42_waiting mX42_states mX42_kept mX43_number mX43_sectors mX63_bytes mX64_to mX64_sector mJ1_modCount mJ2_elementData mJ2_size mJ5_elements mJ5_head mJ5_tail mJ22_cursor mJ22_remaining mJ22_lastRet mJ22_this_0 mJ23_cursor mJ23_lastRet mJ23_expectedModCount mJ23_this_0) a = .inl (d 4, an a, .inr (.inr (.inr (.inr (ar a))))) := by unfold cKD; simp only [hk]
theorem cKD_13_s {ci : Nat → Nat} {d : Nat → ClassId} {kd : Nat → Nat} {an : Nat → Nat} {ai : Nat → Nat → Int32} {al : Nat → Nat → Int64} {ar : Nat → Nat → Option Nat} {mX42_disk : Nat → Option Nat} {mX42_count : Nat → Int32} {mX42_runs : Nat → Int32} {mX42_isFull : Nat → Int32} {mX42_places : Nat → Option Nat} {mX42_laid : Nat → Option Nat} {mX42_changed : Nat → Int32} {mX42_waiting : Nat → Option Nat} {mX42_states : Nat → Option Nat} {mX42_kept : Nat → Option Nat} {mX43_number : Nat → Int32} {mX43_sectors : Nat → Int64} {mX63_bytes : Nat → Option Nat} {mX64_to : Nat → Int32} {mX64_sector : Nat → Option Nat} {mJ1_modCount : Nat → Int32} {mJ2_elementData : Nat → Option Nat} {mJ2_size : Nat → Int32} {mJ5_elements : Nat → Option Nat} {mJ5_head : Nat → Int32} {mJ5_tail : Nat → Int32} {mJ22_cursor : Nat → Int32} {mJ22_remaining : Nat → Int32} {mJ22_lastRet : Nat → Int32} {mJ22_this_0 : Nat → Option Nat} {mJ23_cursor : Nat → Int32} {mJ23_lastRet : Nat → Int32} {mJ23_expectedModCount : Nat → Int32} {mJ23_this_0 : Nat → Option Nat} {a : Nat} {g : Nat → Option Nat} (hk : kd a = 13) : va_up (cKD ci d kd an ai al ar mX42_disk mX42_count mX42_runs mX42_isFull mX42_places mX42_laid mX42_changed mX42_waiting mX42_states mX42_kept mX43_number mX43_sectors mX63_bytes mX64_to mX64_sector mJ1_modCount mJ2_elementData mJ2_size mJ5_elements mJ5_head mJ5_tail mJ22_cursor mJ22_remaining mJ22_lastRet mJ22_this_0 mJ23_cursor mJ23_lastRet mJ23_expectedModCount mJ23_this_0) a (.inl (d 4, an a, .inr (.inr (.inr (.inr g))))) = (cKD ci d kd an ai al (va_up ar a g) mX42_disk mX42_count mX42_runs mX42_isFull mX42_places mX42_laid mX42_changed mX42_waiting mX42_states mX42_kept mX43_number mX43_sectors mX63_bytes mX64_to mX64_sector mJ1_modCount mJ2_elementData mJ2_size mJ5_elements mJ5_head mJ5_tail mJ22_cursor mJ22_remaining mJ22_lastRet mJ22_this_0 mJ23_cursor mJ23_lastRet mJ23_expectedModCount mJ23_this_0) := by
  funext b
  by_cases h : b = a
  · subst h
    rw [va_up_self]
    unfold cKD
    rw [hk]
    simp only [va_up_self]
  · rw [va_up_ne _ _ h]
    unfold cKD
    simp only [va_up_ne _ _ h]
theorem cKD_13_n {ci : Nat → Nat} {d : Nat → ClassId} {kd : Nat → Nat} {an : Nat → Nat} {ai : Nat → Nat → Int32} {al : Nat → Nat → Int64} {ar : Nat → Nat → Option Nat} {mX42_disk : Nat → Option Nat} {mX42_count : Nat → Int32} {mX42_runs : Nat → Int32} {mX42_isFull : Nat → Int32} {mX42_places : Nat → Option Nat} {mX42_laid : Nat → Option Nat} {mX42_changed : Nat → Int32} {mX42_waiting : Nat → Option Nat} {mX42_states : Nat → Option Nat} {mX42_kept : Nat → Option Nat} {mX43_number : Nat → Int32} {mX43_sectors : Nat → Int64} {mX63_bytes : Nat → Option Nat} {mX64_to : Nat → Int32} {mX64_sector : Nat → Option Nat} {mJ1_modCount : Nat → Int32} {mJ2_elementData : Nat → Option Nat} {mJ2_size : Nat → Int32} {mJ5_elements : Nat → Option Nat} {mJ5_head : Nat → Int32} {mJ5_tail : Nat → Int32} {mJ22_cursor : Nat → Int32} {mJ22_remaining : Nat → Int32} {mJ22_lastRet : Nat → Int32} {mJ22_this_0 : Nat → Option Nat} {mJ23_cursor : Nat → Int32} {mJ23_lastRet : Nat → Int32} {mJ23_expectedModCount : Nat → Int32} {mJ23_this_0 : Nat → Option Nat} (n q : Nat) : va_up (cKD ci d kd an ai al ar mX42_disk mX42_count mX42_runs mX42_isFull mX42_places mX42_laid mX42_changed mX42_waiting mX42_states mX42_kept mX43_number mX43_sectors mX63_bytes mX64_to mX64_sector mJ1_modCount mJ2_elementData mJ2_size mJ5_elements mJ5_head mJ5_tail mJ22_cursor mJ22_remaining mJ22_lastRet mJ22_this_0 mJ23_cursor mJ23_lastRet mJ23_expectedModCount mJ23_this_0) q (.inl (d 4, n, .inr (.inr (.inr (.inr (fun _ => none)))))) = (cKD ci d (va_up kd q 13) (va_up an q n) ai al (va_up ar q (fun _ => none)) mX42_disk mX42_count mX42_runs mX42_isFull mX42_places mX42_laid mX42_changed mX42_waiting mX42_states mX42_kept mX43_number mX43_sectors mX63_bytes mX64_to mX64_sector mJ1_modCount mJ2_elementData mJ2_size mJ5_elements mJ5_head mJ5_tail mJ22_cursor mJ22_remaining mJ22_lastRet mJ22_this_0 mJ23_cursor mJ23_lastRet mJ23_expectedModCount mJ23_this_0) := by
  funext b
  by_cases h : b = q
  · subst h
    rw [va_up_self]
    unfold cKD
    simp only [va_up_self]
  · rw [va_up_ne _ _ h]
    unfold cKD
    simp only [va_up_ne _ _ h]
