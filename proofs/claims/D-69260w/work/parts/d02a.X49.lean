/-! KnowHouseModel$DatatypeValuesModel (printed by tools/zgen.py) -/
set_option maxRecDepth 100000
def RX49 : String := "KnowHouseModel$DatatypeValuesModel"
def TX49 : u_T := fun k => match k with
  | 0 => ("KnowHouseModel$DatatypeValuesModel", "kinds", "[I", true)
  | 1 => ("KnowHouseModel$DatatypeValuesModel", "ones", "[J", true)
  | 2 => ("KnowHouseModel$DatatypeValuesModel", "twos", "[J", true)
  | 3 => ("KnowHouseModel$DatatypeValuesModel", "bytes", "[I", true)
  | 4 => ("KnowHouseModel$DatatypeValuesModel", "count", "I", false)
  | 5 => ("KnowHouseModel$DatatypeValuesModel", "tape", "[B", true)
  | 6 => ("KnowHouseModel$DatatypeValuesModel", "size", "I", false)
  | 7 => ("KnowHouseModel$DatatypeValuesModel", "at", "I", false)
  | 8 => ("KnowHouseModel$DatatypeValuesModel", "fault", "I", false)
  | 9 => ("KnowHouseModel$DatatypeValuesModel", "one", "J", false)
  | 10 => ("KnowHouseModel$DatatypeValuesModel", "two", "J", false)
  | 11 => ("KnowHouseModel$DatatypeValuesModel", "row", "[I", true)
  | 12 => ("KnowHouseModel$DatatypeValuesModel", "rowSize", "I", false)
  | 13 => ("KnowHouseModel$DatatypeValuesModel", "out", "[I", true)
  | 14 => ("KnowHouseModel$DatatypeValuesModel", "outSize", "I", false)
  | 15 => ("KnowHouseModel$DatatypeValuesModel", "thrown", "I", false)
  | 16 => ("KnowHouseModel$DatatypeValuesModel", "year", "J", false)
  | 17 => ("KnowHouseModel$DatatypeValuesModel", "month", "I", false)
  | 18 => ("KnowHouseModel$DatatypeValuesModel", "dayOfMonth", "I", false)
  | 19 => ("KnowHouseModel$DatatypeValuesModel", "spanMonths", "J", false)
  | _ => ("KnowHouseModel$DatatypeValuesModel", "spanMillis", "J", false)
def tyX49 : Nat → FieldType := fun k => match k with
  | 0 => .array .int
  | 1 => .array .long
  | 2 => .array .long
  | 3 => .array .int
  | 4 => .int
  | 5 => .array .byte
  | 6 => .int
  | 7 => .int
  | 8 => .int
  | 9 => .long
  | 10 => .long
  | 11 => .array .int
  | 12 => .int
  | 13 => .array .int
  | 14 => .int
  | 15 => .int
  | 16 => .long
  | 17 => .int
  | 18 => .int
  | 19 => .long
  | _ => .long
abbrev wsX490 : List Cond := u_ws RX49 TX49 21
theorem nmX49 : ∀ a, a < 21 → ∀ b, b < 21 → a ≠ b → (TX49 a).2.1 ≠ (TX49 b).2.1 := by decide +kernel
theorem tyX49_ok : ∀ k, k < 21 → parseFieldDescriptor (TX49 k).2.2.1 = some (tyX49 k) := by decide +kernel
abbrev cX49_init : ByteArray := prog_82_method_1_code
def yX49_init : MethodName := ⟨RX49, "<init>", "()V"⟩
abbrev cX49_type : ByteArray := prog_82_method_3_code
def yX49_type : MethodName := ⟨RX49, "type", "(JI)I"⟩
theorem dX49_type_0 : decode cX49_type 0 = .ok (.aload_n 0, 1) := by decide +kernel
theorem dX49_type_1 : decode cX49_type 1 = .ok (.iconst 0, 1) := by decide +kernel
theorem dX49_type_2 : decode cX49_type 2 = .ok (.putfield 33, 3) := by decide +kernel
theorem dX49_type_5 : decode cX49_type 5 = .ok (.iload_n 3, 1) := by decide +kernel
theorem dX49_type_6 : decode cX49_type 6 = .ok (.iconst 1, 1) := by decide +kernel
theorem dX49_type_7 : decode cX49_type 7 = .ok (.if_icmp .lt 9, 3) := by decide +kernel
theorem dX49_type_10 : decode cX49_type 10 = .ok (.iload_n 3, 1) := by decide +kernel
theorem dX49_type_11 : decode cX49_type 11 = .ok (.bipush 8, 2) := by decide +kernel
theorem dX49_type_13 : decode cX49_type 13 = .ok (.if_icmp .le 5, 3) := by decide +kernel
theorem dX49_type_16 : decode cX49_type 16 = .ok (.iconst (-1), 1) := by decide +kernel
theorem dX49_type_17 : decode cX49_type 17 = .ok (.ireturn, 1) := by decide +kernel
theorem dX49_type_18 : decode cX49_type 18 = .ok (.aload_n 0, 1) := by decide +kernel
theorem dX49_type_19 : decode cX49_type 19 = .ok (.getfield 37, 3) := by decide +kernel
theorem dX49_type_22 : decode cX49_type 22 = .ok (.iload_n 3, 1) := by decide +kernel
theorem dX49_type_23 : decode cX49_type 23 = .ok (.iadd, 1) := by decide +kernel
theorem dX49_type_24 : decode cX49_type 24 = .ok (.bipush 64, 2) := by decide +kernel
theorem dX49_type_26 : decode cX49_type 26 = .ok (.if_icmp .le 6, 3) := by decide +kernel
theorem dX49_type_29 : decode cX49_type 29 = .ok (.bipush (-3), 2) := by decide +kernel
theorem dX49_type_31 : decode cX49_type 31 = .ok (.ireturn, 1) := by decide +kernel
theorem dX49_type_32 : decode cX49_type 32 = .ok (.iload_n 3, 1) := by decide +kernel
theorem dX49_type_33 : decode cX49_type 33 = .ok (.iconst 1, 1) := by decide +kernel
theorem dX49_type_34 : decode cX49_type 34 = .ok (.isub, 1) := by decide +kernel
theorem dX49_type_35 : decode cX49_type 35 = .ok (.istore 4, 2) := by decide +kernel
theorem dX49_type_37 : decode cX49_type 37 = .ok (.iload 4, 2) := by decide +kernel
theorem dX49_type_39 : decode cX49_type 39 = .ok (.ifCond .lt 37, 3) := by decide +kernel
theorem dX49_type_42 : decode cX49_type 42 = .ok (.aload_n 0, 1) := by decide +kernel
theorem dX49_type_43 : decode cX49_type 43 = .ok (.getfield 23, 3) := by decide +kernel
theorem dX49_type_46 : decode cX49_type 46 = .ok (.aload_n 0, 1) := by decide +kernel
theorem dX49_type_47 : decode cX49_type 47 = .ok (.getfield 37, 3) := by decide +kernel
theorem dX49_type_50 : decode cX49_type 50 = .ok (.lload_n 1, 1) := by decide +kernel
theorem dX49_type_51 : decode cX49_type 51 = .ok (.bipush 8, 2) := by decide +kernel
theorem dX49_type_53 : decode cX49_type 53 = .ok (.iload 4, 2) := by decide +kernel
theorem dX49_type_55 : decode cX49_type 55 = .ok (.imul, 1) := by decide +kernel
theorem dX49_type_56 : decode cX49_type 56 = .ok (.lshr, 1) := by decide +kernel
theorem dX49_type_57 : decode cX49_type 57 = .ok (.l2i, 1) := by decide +kernel
theorem dX49_type_58 : decode cX49_type 58 = .ok (.i2b, 1) := by decide +kernel
theorem dX49_type_59 : decode cX49_type 59 = .ok (.bastore, 1) := by decide +kernel
theorem dX49_type_60 : decode cX49_type 60 = .ok (.aload_n 0, 1) := by decide +kernel
theorem dX49_type_61 : decode cX49_type 61 = .ok (.dup, 1) := by decide +kernel
theorem dX49_type_62 : decode cX49_type 62 = .ok (.getfield 37, 3) := by decide +kernel
theorem dX49_type_65 : decode cX49_type 65 = .ok (.iconst 1, 1) := by decide +kernel
theorem dX49_type_66 : decode cX49_type 66 = .ok (.iadd, 1) := by decide +kernel
theorem dX49_type_67 : decode cX49_type 67 = .ok (.putfield 37, 3) := by decide +kernel
theorem dX49_type_70 : decode cX49_type 70 = .ok (.iinc 4 (-1), 3) := by decide +kernel
theorem dX49_type_73 : decode cX49_type 73 = .ok (.goto (-36), 3) := by decide +kernel
theorem dX49_type_76 : decode cX49_type 76 = .ok (.aload_n 0, 1) := by decide +kernel
theorem dX49_type_77 : decode cX49_type 77 = .ok (.getfield 37, 3) := by decide +kernel
theorem dX49_type_80 : decode cX49_type 80 = .ok (.ireturn, 1) := by decide +kernel
abbrev cX49_read : ByteArray := prog_82_method_35_code
def yX49_read : MethodName := ⟨RX49, "read", "(I)I"⟩
theorem dX49_read_0 : decode cX49_read 0 = .ok (.aload_n 0, 1) := by decide +kernel
theorem dX49_read_1 : decode cX49_read 1 = .ok (.iconst 0, 1) := by decide +kernel
theorem dX49_read_2 : decode cX49_read 2 = .ok (.putfield 33, 3) := by decide +kernel
theorem dX49_read_5 : decode cX49_read 5 = .ok (.iload_n 1, 1) := by decide +kernel
theorem dX49_read_6 : decode cX49_read 6 = .ok (.ifCond .lt 9, 3) := by decide +kernel
theorem dX49_read_9 : decode cX49_read 9 = .ok (.iload_n 1, 1) := by decide +kernel
theorem dX49_read_10 : decode cX49_read 10 = .ok (.bipush 8, 2) := by decide +kernel
theorem dX49_read_12 : decode cX49_read 12 = .ok (.if_icmp .le 5, 3) := by decide +kernel
theorem dX49_read_15 : decode cX49_read 15 = .ok (.iconst (-1), 1) := by decide +kernel
theorem dX49_read_16 : decode cX49_read 16 = .ok (.ireturn, 1) := by decide +kernel
theorem dX49_read_17 : decode cX49_read 17 = .ok (.aload_n 0, 1) := by decide +kernel
theorem dX49_read_18 : decode cX49_read 18 = .ok (.iconst 0, 1) := by decide +kernel
theorem dX49_read_19 : decode cX49_read 19 = .ok (.putfield 95, 3) := by decide +kernel
theorem dX49_read_22 : decode cX49_read 22 = .ok (.aload_n 0, 1) := by decide +kernel
theorem dX49_read_23 : decode cX49_read 23 = .ok (.iconst (-1), 1) := by decide +kernel
theorem dX49_read_24 : decode cX49_read 24 = .ok (.putfield 102, 3) := by decide +kernel
theorem dX49_read_27 : decode cX49_read 27 = .ok (.aload_n 0, 1) := by decide +kernel
theorem dX49_read_28 : decode cX49_read 28 = .ok (.lconst 0, 1) := by decide +kernel
theorem dX49_read_29 : decode cX49_read 29 = .ok (.putfield 125, 3) := by decide +kernel
theorem dX49_read_32 : decode cX49_read 32 = .ok (.aload_n 0, 1) := by decide +kernel
theorem dX49_read_33 : decode cX49_read 33 = .ok (.lconst 0, 1) := by decide +kernel
theorem dX49_read_34 : decode cX49_read 34 = .ok (.putfield 132, 3) := by decide +kernel
theorem dX49_read_37 : decode cX49_read 37 = .ok (.aload_n 0, 1) := by decide +kernel
theorem dX49_read_38 : decode cX49_read 38 = .ok (.iconst 0, 1) := by decide +kernel
theorem dX49_read_39 : decode cX49_read 39 = .ok (.putfield 187, 3) := by decide +kernel
theorem dX49_read_42 : decode cX49_read 42 = .ok (.aload_n 0, 1) := by decide +kernel
theorem dX49_read_43 : decode cX49_read 43 = .ok (.iload_n 1, 1) := by decide +kernel
theorem dX49_read_44 : decode cX49_read 44 = .ok (.invokevirtual 214, 3) := by decide +kernel
theorem dX49_read_47 : decode cX49_read 47 = .ok (.aload_n 0, 1) := by decide +kernel
theorem dX49_read_48 : decode cX49_read 48 = .ok (.aload_n 0, 1) := by decide +kernel
theorem dX49_read_49 : decode cX49_read 49 = .ok (.getfield 95, 3) := by decide +kernel
theorem dX49_read_52 : decode cX49_read 52 = .ok (.aload_n 0, 1) := by decide +kernel
theorem dX49_read_53 : decode cX49_read 53 = .ok (.getfield 37, 3) := by decide +kernel
theorem dX49_read_56 : decode cX49_read 56 = .ok (.if_icmp .ne 7, 3) := by decide +kernel
theorem dX49_read_59 : decode cX49_read 59 = .ok (.iconst 1, 1) := by decide +kernel
theorem dX49_read_60 : decode cX49_read 60 = .ok (.goto 4, 3) := by decide +kernel
theorem dX49_read_63 : decode cX49_read 63 = .ok (.iconst 0, 1) := by decide +kernel
theorem dX49_read_64 : decode cX49_read 64 = .ok (.aload_n 0, 1) := by decide +kernel
theorem dX49_read_65 : decode cX49_read 65 = .ok (.getfield 95, 3) := by decide +kernel
theorem dX49_read_68 : decode cX49_read 68 = .ok (.invokevirtual 105, 3) := by decide +kernel
theorem dX49_read_71 : decode cX49_read 71 = .ok (.aload_n 0, 1) := by decide +kernel
theorem dX49_read_72 : decode cX49_read 72 = .ok (.iconst 0, 1) := by decide +kernel
theorem dX49_read_73 : decode cX49_read 73 = .ok (.putfield 37, 3) := by decide +kernel
theorem dX49_read_76 : decode cX49_read 76 = .ok (.aload_n 0, 1) := by decide +kernel
theorem dX49_read_77 : decode cX49_read 77 = .ok (.getfield 102, 3) := by decide +kernel
theorem dX49_read_80 : decode cX49_read 80 = .ok (.ifCond .lt 13, 3) := by decide +kernel
theorem dX49_read_83 : decode cX49_read 83 = .ok (.bipush (-10), 2) := by decide +kernel
theorem dX49_read_85 : decode cX49_read 85 = .ok (.aload_n 0, 1) := by decide +kernel
theorem dX49_read_86 : decode cX49_read 86 = .ok (.getfield 102, 3) := by decide +kernel
theorem dX49_read_89 : decode cX49_read 89 = .ok (.isub, 1) := by decide +kernel
theorem dX49_read_90 : decode cX49_read 90 = .ok (.goto 8, 3) := by decide +kernel
theorem dX49_read_93 : decode cX49_read 93 = .ok (.aload_n 0, 1) := by decide +kernel
theorem dX49_read_94 : decode cX49_read 94 = .ok (.iload_n 1, 1) := by decide +kernel
theorem dX49_read_95 : decode cX49_read 95 = .ok (.invokevirtual 217, 3) := by decide +kernel
theorem dX49_read_98 : decode cX49_read 98 = .ok (.ireturn, 1) := by decide +kernel
abbrev cX49_readAs : ByteArray := prog_82_method_34_code
def yX49_readAs : MethodName := ⟨RX49, "readAs", "(I)V"⟩
theorem dX49_readAs_0 : decode cX49_readAs 0 = .ok (.iload_n 1, 1) := by decide +kernel
theorem dX49_readAs_1 : decode cX49_readAs 1 = .ok (.tableswitch 98 3 8 #[39, 46, 70, 77, 84, 91], 39) := by decide +kernel
theorem dX49_readAs_40 : decode cX49_readAs 40 = .ok (.aload_n 0, 1) := by decide +kernel
theorem dX49_readAs_41 : decode cX49_readAs 41 = .ok (.invokevirtual 196, 3) := by decide +kernel
theorem dX49_readAs_44 : decode cX49_readAs 44 = .ok (.goto 60, 3) := by decide +kernel
theorem dX49_readAs_47 : decode cX49_readAs 47 = .ok (.aload_n 0, 1) := by decide +kernel
theorem dX49_readAs_48 : decode cX49_readAs 48 = .ok (.ldc2_w 83, 3) := by decide +kernel
theorem dX49_readAs_51 : decode cX49_readAs 51 = .ok (.aload_n 0, 1) := by decide +kernel
theorem dX49_readAs_52 : decode cX49_readAs 52 = .ok (.invokevirtual 155, 3) := by decide +kernel
theorem dX49_readAs_55 : decode cX49_readAs 55 = .ok (.lmul, 1) := by decide +kernel
theorem dX49_readAs_56 : decode cX49_readAs 56 = .ok (.putfield 125, 3) := by decide +kernel
theorem dX49_readAs_59 : decode cX49_readAs 59 = .ok (.aload_n 0, 1) := by decide +kernel
theorem dX49_readAs_60 : decode cX49_readAs 60 = .ok (.aload_n 0, 1) := by decide +kernel
theorem dX49_readAs_61 : decode cX49_readAs 61 = .ok (.invokevirtual 170, 3) := by decide +kernel
theorem dX49_readAs_64 : decode cX49_readAs 64 = .ok (.i2l, 1) := by decide +kernel
theorem dX49_readAs_65 : decode cX49_readAs 65 = .ok (.putfield 132, 3) := by decide +kernel
theorem dX49_readAs_68 : decode cX49_readAs 68 = .ok (.goto 36, 3) := by decide +kernel
theorem dX49_readAs_71 : decode cX49_readAs 71 = .ok (.aload_n 0, 1) := by decide +kernel
theorem dX49_readAs_72 : decode cX49_readAs 72 = .ok (.invokevirtual 199, 3) := by decide +kernel
theorem dX49_readAs_75 : decode cX49_readAs 75 = .ok (.goto 29, 3) := by decide +kernel
theorem dX49_readAs_78 : decode cX49_readAs 78 = .ok (.aload_n 0, 1) := by decide +kernel
theorem dX49_readAs_79 : decode cX49_readAs 79 = .ok (.invokevirtual 202, 3) := by decide +kernel
theorem dX49_readAs_82 : decode cX49_readAs 82 = .ok (.goto 22, 3) := by decide +kernel
theorem dX49_readAs_85 : decode cX49_readAs 85 = .ok (.aload_n 0, 1) := by decide +kernel
theorem dX49_readAs_86 : decode cX49_readAs 86 = .ok (.invokevirtual 205, 3) := by decide +kernel
theorem dX49_readAs_89 : decode cX49_readAs 89 = .ok (.goto 15, 3) := by decide +kernel
theorem dX49_readAs_92 : decode cX49_readAs 92 = .ok (.aload_n 0, 1) := by decide +kernel
theorem dX49_readAs_93 : decode cX49_readAs 93 = .ok (.invokevirtual 208, 3) := by decide +kernel
theorem dX49_readAs_96 : decode cX49_readAs 96 = .ok (.goto 8, 3) := by decide +kernel
theorem dX49_readAs_99 : decode cX49_readAs 99 = .ok (.aload_n 0, 1) := by decide +kernel
theorem dX49_readAs_100 : decode cX49_readAs 100 = .ok (.iload_n 1, 1) := by decide +kernel
theorem dX49_readAs_101 : decode cX49_readAs 101 = .ok (.invokevirtual 211, 3) := by decide +kernel
theorem dX49_readAs_104 : decode cX49_readAs 104 = .ok (.return_, 1) := by decide +kernel
abbrev cX49_truth : ByteArray := prog_82_method_22_code
def yX49_truth : MethodName := ⟨RX49, "truth", "()V"⟩
theorem dX49_truth_0 : decode cX49_truth 0 = .ok (.aload_n 0, 1) := by decide +kernel
theorem dX49_truth_1 : decode cX49_truth 1 = .ok (.lconst 1, 1) := by decide +kernel
theorem dX49_truth_2 : decode cX49_truth 2 = .ok (.putfield 125, 3) := by decide +kernel
theorem dX49_truth_5 : decode cX49_truth 5 = .ok (.aload_n 0, 1) := by decide +kernel
theorem dX49_truth_6 : decode cX49_truth 6 = .ok (.bipush 49, 2) := by decide +kernel
theorem dX49_truth_8 : decode cX49_truth 8 = .ok (.invokevirtual 109, 3) := by decide +kernel
theorem dX49_truth_11 : decode cX49_truth 11 = .ok (.ifCond .eq 4, 3) := by decide +kernel
theorem dX49_truth_14 : decode cX49_truth 14 = .ok (.return_, 1) := by decide +kernel
theorem dX49_truth_15 : decode cX49_truth 15 = .ok (.aload_n 0, 1) := by decide +kernel
theorem dX49_truth_16 : decode cX49_truth 16 = .ok (.lconst 0, 1) := by decide +kernel
theorem dX49_truth_17 : decode cX49_truth 17 = .ok (.putfield 125, 3) := by decide +kernel
theorem dX49_truth_20 : decode cX49_truth 20 = .ok (.aload_n 0, 1) := by decide +kernel
theorem dX49_truth_21 : decode cX49_truth 21 = .ok (.bipush 48, 2) := by decide +kernel
theorem dX49_truth_23 : decode cX49_truth 23 = .ok (.invokevirtual 109, 3) := by decide +kernel
theorem dX49_truth_26 : decode cX49_truth 26 = .ok (.ifCond .eq 4, 3) := by decide +kernel
theorem dX49_truth_29 : decode cX49_truth 29 = .ok (.return_, 1) := by decide +kernel
theorem dX49_truth_30 : decode cX49_truth 30 = .ok (.aload_n 0, 1) := by decide +kernel
theorem dX49_truth_31 : decode cX49_truth 31 = .ok (.aload_n 0, 1) := by decide +kernel
theorem dX49_truth_32 : decode cX49_truth 32 = .ok (.invokevirtual 98, 3) := by decide +kernel
theorem dX49_truth_35 : decode cX49_truth 35 = .ok (.bipush 116, 2) := by decide +kernel
theorem dX49_truth_37 : decode cX49_truth 37 = .ok (.if_icmp .ne 7, 3) := by decide +kernel
theorem dX49_truth_40 : decode cX49_truth 40 = .ok (.lconst 1, 1) := by decide +kernel
theorem dX49_truth_41 : decode cX49_truth 41 = .ok (.goto 4, 3) := by decide +kernel
theorem dX49_truth_44 : decode cX49_truth 44 = .ok (.lconst 0, 1) := by decide +kernel
theorem dX49_truth_45 : decode cX49_truth 45 = .ok (.putfield 125, 3) := by decide +kernel
theorem dX49_truth_48 : decode cX49_truth 48 = .ok (.aload_n 0, 1) := by decide +kernel
theorem dX49_truth_49 : decode cX49_truth 49 = .ok (.getfield 125, 3) := by decide +kernel
theorem dX49_truth_52 : decode cX49_truth 52 = .ok (.lconst 1, 1) := by decide +kernel
theorem dX49_truth_53 : decode cX49_truth 53 = .ok (.lcmp, 1) := by decide +kernel
theorem dX49_truth_54 : decode cX49_truth 54 = .ok (.ifCond .ne 9, 3) := by decide +kernel
theorem dX49_truth_57 : decode cX49_truth 57 = .ok (.ldc2_w 141, 3) := by decide +kernel
theorem dX49_truth_60 : decode cX49_truth 60 = .ok (.goto 6, 3) := by decide +kernel
theorem dX49_truth_63 : decode cX49_truth 63 = .ok (.ldc2_w 143, 3) := by decide +kernel
theorem dX49_truth_66 : decode cX49_truth 66 = .ok (.lstore_n 1, 1) := by decide +kernel
theorem dX49_truth_67 : decode cX49_truth 67 = .ok (.aload_n 0, 1) := by decide +kernel
theorem dX49_truth_68 : decode cX49_truth 68 = .ok (.getfield 125, 3) := by decide +kernel
theorem dX49_truth_71 : decode cX49_truth 71 = .ok (.lconst 1, 1) := by decide +kernel
theorem dX49_truth_72 : decode cX49_truth 72 = .ok (.lcmp, 1) := by decide +kernel
theorem dX49_truth_73 : decode cX49_truth 73 = .ok (.ifCond .ne 7, 3) := by decide +kernel
theorem dX49_truth_76 : decode cX49_truth 76 = .ok (.iconst 3, 1) := by decide +kernel
theorem dX49_truth_77 : decode cX49_truth 77 = .ok (.goto 4, 3) := by decide +kernel
theorem dX49_truth_80 : decode cX49_truth 80 = .ok (.iconst 4, 1) := by decide +kernel
theorem dX49_truth_81 : decode cX49_truth 81 = .ok (.istore_n 3, 1) := by decide +kernel
theorem dX49_truth_82 : decode cX49_truth 82 = .ok (.iload_n 3, 1) := by decide +kernel
theorem dX49_truth_83 : decode cX49_truth 83 = .ok (.ifCond .lt 24, 3) := by decide +kernel
theorem dX49_truth_86 : decode cX49_truth 86 = .ok (.aload_n 0, 1) := by decide +kernel
theorem dX49_truth_87 : decode cX49_truth 87 = .ok (.lload_n 1, 1) := by decide +kernel
theorem dX49_truth_88 : decode cX49_truth 88 = .ok (.bipush 8, 2) := by decide +kernel
theorem dX49_truth_90 : decode cX49_truth 90 = .ok (.iload_n 3, 1) := by decide +kernel
theorem dX49_truth_91 : decode cX49_truth 91 = .ok (.imul, 1) := by decide +kernel
theorem dX49_truth_92 : decode cX49_truth 92 = .ok (.lshr, 1) := by decide +kernel
theorem dX49_truth_93 : decode cX49_truth 93 = .ok (.ldc2_w 145, 3) := by decide +kernel
theorem dX49_truth_96 : decode cX49_truth 96 = .ok (.land, 1) := by decide +kernel
theorem dX49_truth_97 : decode cX49_truth 97 = .ok (.l2i, 1) := by decide +kernel
theorem dX49_truth_98 : decode cX49_truth 98 = .ok (.invokevirtual 147, 3) := by decide +kernel
theorem dX49_truth_101 : decode cX49_truth 101 = .ok (.iinc 3 (-1), 3) := by decide +kernel
theorem dX49_truth_104 : decode cX49_truth 104 = .ok (.goto (-22), 3) := by decide +kernel
theorem dX49_truth_107 : decode cX49_truth 107 = .ok (.return_, 1) := by decide +kernel
abbrev cX49_takes : ByteArray := prog_82_method_16_code
def yX49_takes : MethodName := ⟨RX49, "takes", "(I)Z"⟩
theorem dX49_takes_0 : decode cX49_takes 0 = .ok (.aload_n 0, 1) := by decide +kernel
theorem dX49_takes_1 : decode cX49_takes 1 = .ok (.getfield 102, 3) := by decide +kernel
theorem dX49_takes_4 : decode cX49_takes 4 = .ok (.ifCond .ge 15, 3) := by decide +kernel
theorem dX49_takes_7 : decode cX49_takes 7 = .ok (.aload_n 0, 1) := by decide +kernel
theorem dX49_takes_8 : decode cX49_takes 8 = .ok (.invokevirtual 98, 3) := by decide +kernel
theorem dX49_takes_11 : decode cX49_takes 11 = .ok (.iload_n 1, 1) := by decide +kernel
theorem dX49_takes_12 : decode cX49_takes 12 = .ok (.if_icmp .ne 7, 3) := by decide +kernel
theorem dX49_takes_15 : decode cX49_takes 15 = .ok (.iconst 1, 1) := by decide +kernel
theorem dX49_takes_16 : decode cX49_takes 16 = .ok (.goto 4, 3) := by decide +kernel
theorem dX49_takes_19 : decode cX49_takes 19 = .ok (.iconst 0, 1) := by decide +kernel
theorem dX49_takes_20 : decode cX49_takes 20 = .ok (.istore_n 2, 1) := by decide +kernel
theorem dX49_takes_21 : decode cX49_takes 21 = .ok (.aload_n 0, 1) := by decide +kernel
theorem dX49_takes_22 : decode cX49_takes 22 = .ok (.dup, 1) := by decide +kernel
theorem dX49_takes_23 : decode cX49_takes 23 = .ok (.getfield 95, 3) := by decide +kernel
theorem dX49_takes_26 : decode cX49_takes 26 = .ok (.iload_n 2, 1) := by decide +kernel
theorem dX49_takes_27 : decode cX49_takes 27 = .ok (.ifCond .eq 7, 3) := by decide +kernel
theorem dX49_takes_30 : decode cX49_takes 30 = .ok (.iconst 1, 1) := by decide +kernel
theorem dX49_takes_31 : decode cX49_takes 31 = .ok (.goto 4, 3) := by decide +kernel
theorem dX49_takes_34 : decode cX49_takes 34 = .ok (.iconst 0, 1) := by decide +kernel
theorem dX49_takes_35 : decode cX49_takes 35 = .ok (.iadd, 1) := by decide +kernel
theorem dX49_takes_36 : decode cX49_takes 36 = .ok (.putfield 95, 3) := by decide +kernel
theorem dX49_takes_39 : decode cX49_takes 39 = .ok (.iload_n 2, 1) := by decide +kernel
theorem dX49_takes_40 : decode cX49_takes 40 = .ok (.ireturn, 1) := by decide +kernel
abbrev cX49_here : ByteArray := prog_82_method_12_code
def yX49_here : MethodName := ⟨RX49, "here", "()I"⟩
theorem dX49_here_0 : decode cX49_here 0 = .ok (.aload_n 0, 1) := by decide +kernel
theorem dX49_here_1 : decode cX49_here 1 = .ok (.getfield 95, 3) := by decide +kernel
theorem dX49_here_4 : decode cX49_here 4 = .ok (.aload_n 0, 1) := by decide +kernel
theorem dX49_here_5 : decode cX49_here 5 = .ok (.getfield 37, 3) := by decide +kernel
theorem dX49_here_8 : decode cX49_here 8 = .ok (.if_icmp .ge 15, 3) := by decide +kernel
theorem dX49_here_11 : decode cX49_here 11 = .ok (.aload_n 0, 1) := by decide +kernel
theorem dX49_here_12 : decode cX49_here 12 = .ok (.getfield 23, 3) := by decide +kernel
theorem dX49_here_15 : decode cX49_here 15 = .ok (.aload_n 0, 1) := by decide +kernel
theorem dX49_here_16 : decode cX49_here 16 = .ok (.getfield 95, 3) := by decide +kernel
theorem dX49_here_19 : decode cX49_here 19 = .ok (.baload, 1) := by decide +kernel
theorem dX49_here_20 : decode cX49_here 20 = .ok (.goto 4, 3) := by decide +kernel
theorem dX49_here_23 : decode cX49_here 23 = .ok (.iconst (-1), 1) := by decide +kernel
theorem dX49_here_24 : decode cX49_here 24 = .ok (.ireturn, 1) := by decide +kernel
abbrev cX49_want : ByteArray := prog_82_method_17_code
def yX49_want : MethodName := ⟨RX49, "want", "(I)V"⟩
theorem dX49_want_0 : decode cX49_want 0 = .ok (.aload_n 0, 1) := by decide +kernel
theorem dX49_want_1 : decode cX49_want 1 = .ok (.aload_n 0, 1) := by decide +kernel
theorem dX49_want_2 : decode cX49_want 2 = .ok (.invokevirtual 98, 3) := by decide +kernel
theorem dX49_want_5 : decode cX49_want 5 = .ok (.iload_n 1, 1) := by decide +kernel
theorem dX49_want_6 : decode cX49_want 6 = .ok (.if_icmp .ne 7, 3) := by decide +kernel
theorem dX49_want_9 : decode cX49_want 9 = .ok (.iconst 1, 1) := by decide +kernel
theorem dX49_want_10 : decode cX49_want 10 = .ok (.goto 4, 3) := by decide +kernel
theorem dX49_want_13 : decode cX49_want 13 = .ok (.iconst 0, 1) := by decide +kernel
theorem dX49_want_14 : decode cX49_want 14 = .ok (.aload_n 0, 1) := by decide +kernel
theorem dX49_want_15 : decode cX49_want 15 = .ok (.getfield 95, 3) := by decide +kernel
theorem dX49_want_18 : decode cX49_want 18 = .ok (.invokevirtual 105, 3) := by decide +kernel
theorem dX49_want_21 : decode cX49_want 21 = .ok (.aload_n 0, 1) := by decide +kernel
theorem dX49_want_22 : decode cX49_want 22 = .ok (.iload_n 1, 1) := by decide +kernel
theorem dX49_want_23 : decode cX49_want 23 = .ok (.invokevirtual 109, 3) := by decide +kernel
theorem dX49_want_26 : decode cX49_want 26 = .ok (.pop, 1) := by decide +kernel
theorem dX49_want_27 : decode cX49_want 27 = .ok (.return_, 1) := by decide +kernel
abbrev cX49_need : ByteArray := prog_82_method_14_code
def yX49_need : MethodName := ⟨RX49, "need", "(ZI)V"⟩
theorem dX49_need_0 : decode cX49_need 0 = .ok (.aload_n 0, 1) := by decide +kernel
theorem dX49_need_1 : decode cX49_need 1 = .ok (.getfield 102, 3) := by decide +kernel
theorem dX49_need_4 : decode cX49_need 4 = .ok (.ifCond .ge 12, 3) := by decide +kernel
theorem dX49_need_7 : decode cX49_need 7 = .ok (.iload_n 1, 1) := by decide +kernel
theorem dX49_need_8 : decode cX49_need 8 = .ok (.ifCond .ne 8, 3) := by decide +kernel
theorem dX49_need_11 : decode cX49_need 11 = .ok (.aload_n 0, 1) := by decide +kernel
theorem dX49_need_12 : decode cX49_need 12 = .ok (.iload_n 2, 1) := by decide +kernel
theorem dX49_need_13 : decode cX49_need 13 = .ok (.putfield 102, 3) := by decide +kernel
theorem dX49_need_16 : decode cX49_need 16 = .ok (.return_, 1) := by decide +kernel
abbrev cX49_day : ByteArray := prog_82_method_23_code
def yX49_day : MethodName := ⟨RX49, "day", "()J"⟩
theorem dX49_day_0 : decode cX49_day 0 = .ok (.aload_n 0, 1) := by decide +kernel
theorem dX49_day_1 : decode cX49_day 1 = .ok (.getfield 95, 3) := by decide +kernel
theorem dX49_day_4 : decode cX49_day 4 = .ok (.istore_n 1, 1) := by decide +kernel
theorem dX49_day_5 : decode cX49_day 5 = .ok (.aload_n 0, 1) := by decide +kernel
theorem dX49_day_6 : decode cX49_day 6 = .ok (.iconst 4, 1) := by decide +kernel
theorem dX49_day_7 : decode cX49_day 7 = .ok (.iconst 4, 1) := by decide +kernel
theorem dX49_day_8 : decode cX49_day 8 = .ok (.invokevirtual 121, 3) := by decide +kernel
theorem dX49_day_11 : decode cX49_day 11 = .ok (.lstore_n 2, 1) := by decide +kernel
theorem dX49_day_12 : decode cX49_day 12 = .ok (.aload_n 0, 1) := by decide +kernel
theorem dX49_day_13 : decode cX49_day 13 = .ok (.lload_n 2, 1) := by decide +kernel
theorem dX49_day_14 : decode cX49_day 14 = .ok (.lconst 0, 1) := by decide +kernel
theorem dX49_day_15 : decode cX49_day 15 = .ok (.lcmp, 1) := by decide +kernel
theorem dX49_day_16 : decode cX49_day 16 = .ok (.ifCond .eq 7, 3) := by decide +kernel
theorem dX49_day_19 : decode cX49_day 19 = .ok (.iconst 1, 1) := by decide +kernel
theorem dX49_day_20 : decode cX49_day 20 = .ok (.goto 4, 3) := by decide +kernel
theorem dX49_day_23 : decode cX49_day 23 = .ok (.iconst 0, 1) := by decide +kernel
theorem dX49_day_24 : decode cX49_day 24 = .ok (.iload_n 1, 1) := by decide +kernel
theorem dX49_day_25 : decode cX49_day 25 = .ok (.invokevirtual 105, 3) := by decide +kernel
theorem dX49_day_28 : decode cX49_day 28 = .ok (.aload_n 0, 1) := by decide +kernel
theorem dX49_day_29 : decode cX49_day 29 = .ok (.bipush 45, 2) := by decide +kernel
theorem dX49_day_31 : decode cX49_day 31 = .ok (.invokevirtual 147, 3) := by decide +kernel
theorem dX49_day_34 : decode cX49_day 34 = .ok (.aload_n 0, 1) := by decide +kernel
theorem dX49_day_35 : decode cX49_day 35 = .ok (.iconst 1, 1) := by decide +kernel
theorem dX49_day_36 : decode cX49_day 36 = .ok (.bipush 12, 2) := by decide +kernel
theorem dX49_day_38 : decode cX49_day 38 = .ok (.invokevirtual 151, 3) := by decide +kernel
theorem dX49_day_41 : decode cX49_day 41 = .ok (.istore 4, 2) := by decide +kernel
theorem dX49_day_43 : decode cX49_day 43 = .ok (.aload_n 0, 1) := by decide +kernel
theorem dX49_day_44 : decode cX49_day 44 = .ok (.bipush 45, 2) := by decide +kernel
theorem dX49_day_46 : decode cX49_day 46 = .ok (.invokevirtual 147, 3) := by decide +kernel
theorem dX49_day_49 : decode cX49_day 49 = .ok (.aload_n 0, 1) := by decide +kernel
theorem dX49_day_50 : decode cX49_day 50 = .ok (.iconst 1, 1) := by decide +kernel
theorem dX49_day_51 : decode cX49_day 51 = .ok (.aload_n 0, 1) := by decide +kernel
theorem dX49_day_52 : decode cX49_day 52 = .ok (.invokevirtual 135, 3) := by decide +kernel
theorem dX49_day_55 : decode cX49_day 55 = .ok (.ifCond .eq 12, 3) := by decide +kernel
theorem dX49_day_58 : decode cX49_day 58 = .ok (.lload_n 2, 1) := by decide +kernel
theorem dX49_day_59 : decode cX49_day 59 = .ok (.iload 4, 2) := by decide +kernel
theorem dX49_day_61 : decode cX49_day 61 = .ok (.invokestatic 63, 3) := by decide +kernel
theorem dX49_day_64 : decode cX49_day 64 = .ok (.goto 5, 3) := by decide +kernel
theorem dX49_day_67 : decode cX49_day 67 = .ok (.bipush 31, 2) := by decide +kernel
theorem dX49_day_69 : decode cX49_day 69 = .ok (.invokevirtual 151, 3) := by decide +kernel
theorem dX49_day_72 : decode cX49_day 72 = .ok (.istore 5, 2) := by decide +kernel
theorem dX49_day_74 : decode cX49_day 74 = .ok (.aload_n 0, 1) := by decide +kernel
theorem dX49_day_75 : decode cX49_day 75 = .ok (.invokevirtual 135, 3) := by decide +kernel
theorem dX49_day_78 : decode cX49_day 78 = .ok (.ifCond .eq 14, 3) := by decide +kernel
theorem dX49_day_81 : decode cX49_day 81 = .ok (.lload_n 2, 1) := by decide +kernel
theorem dX49_day_82 : decode cX49_day 82 = .ok (.iload 4, 2) := by decide +kernel
theorem dX49_day_84 : decode cX49_day 84 = .ok (.iload 5, 2) := by decide +kernel
theorem dX49_day_86 : decode cX49_day 86 = .ok (.invokestatic 91, 3) := by decide +kernel
theorem dX49_day_89 : decode cX49_day 89 = .ok (.goto 4, 3) := by decide +kernel
theorem dX49_day_92 : decode cX49_day 92 = .ok (.lconst 0, 1) := by decide +kernel
theorem dX49_day_93 : decode cX49_day 93 = .ok (.lreturn, 1) := by decide +kernel
abbrev cX49_digits : ByteArray := prog_82_method_18_code
def yX49_digits : MethodName := ⟨RX49, "digits", "(II)J"⟩
theorem dX49_digits_0 : decode cX49_digits 0 = .ok (.lconst 0, 1) := by decide +kernel
theorem dX49_digits_1 : decode cX49_digits 1 = .ok (.lstore_n 3, 1) := by decide +kernel
theorem dX49_digits_2 : decode cX49_digits 2 = .ok (.iconst 0, 1) := by decide +kernel
theorem dX49_digits_3 : decode cX49_digits 3 = .ok (.istore 5, 2) := by decide +kernel
theorem dX49_digits_5 : decode cX49_digits 5 = .ok (.aload_n 0, 1) := by decide +kernel
theorem dX49_digits_6 : decode cX49_digits 6 = .ok (.getfield 102, 3) := by decide +kernel
theorem dX49_digits_9 : decode cX49_digits 9 = .ok (.ifCond .ge 48, 3) := by decide +kernel
theorem dX49_digits_12 : decode cX49_digits 12 = .ok (.iload 5, 2) := by decide +kernel
theorem dX49_digits_14 : decode cX49_digits 14 = .ok (.iload_n 2, 1) := by decide +kernel
theorem dX49_digits_15 : decode cX49_digits 15 = .ok (.if_icmp .ge 42, 3) := by decide +kernel
theorem dX49_digits_18 : decode cX49_digits 18 = .ok (.aload_n 0, 1) := by decide +kernel
theorem dX49_digits_19 : decode cX49_digits 19 = .ok (.invokevirtual 113, 3) := by decide +kernel
theorem dX49_digits_22 : decode cX49_digits 22 = .ok (.ifCond .eq 35, 3) := by decide +kernel
theorem dX49_digits_25 : decode cX49_digits 25 = .ok (.ldc2_w 117, 3) := by decide +kernel
theorem dX49_digits_28 : decode cX49_digits 28 = .ok (.lload_n 3, 1) := by decide +kernel
theorem dX49_digits_29 : decode cX49_digits 29 = .ok (.lmul, 1) := by decide +kernel
theorem dX49_digits_30 : decode cX49_digits 30 = .ok (.aload_n 0, 1) := by decide +kernel
theorem dX49_digits_31 : decode cX49_digits 31 = .ok (.invokevirtual 98, 3) := by decide +kernel
theorem dX49_digits_34 : decode cX49_digits 34 = .ok (.i2l, 1) := by decide +kernel
theorem dX49_digits_35 : decode cX49_digits 35 = .ok (.ladd, 1) := by decide +kernel
theorem dX49_digits_36 : decode cX49_digits 36 = .ok (.ldc2_w 119, 3) := by decide +kernel
theorem dX49_digits_39 : decode cX49_digits 39 = .ok (.lsub, 1) := by decide +kernel
theorem dX49_digits_40 : decode cX49_digits 40 = .ok (.lstore_n 3, 1) := by decide +kernel
theorem dX49_digits_41 : decode cX49_digits 41 = .ok (.aload_n 0, 1) := by decide +kernel
theorem dX49_digits_42 : decode cX49_digits 42 = .ok (.dup, 1) := by decide +kernel
theorem dX49_digits_43 : decode cX49_digits 43 = .ok (.getfield 95, 3) := by decide +kernel
theorem dX49_digits_46 : decode cX49_digits 46 = .ok (.iconst 1, 1) := by decide +kernel
theorem dX49_digits_47 : decode cX49_digits 47 = .ok (.iadd, 1) := by decide +kernel
theorem dX49_digits_48 : decode cX49_digits 48 = .ok (.putfield 95, 3) := by decide +kernel
theorem dX49_digits_51 : decode cX49_digits 51 = .ok (.iinc 5 1, 3) := by decide +kernel
theorem dX49_digits_54 : decode cX49_digits 54 = .ok (.goto (-49), 3) := by decide +kernel
theorem dX49_digits_57 : decode cX49_digits 57 = .ok (.aload_n 0, 1) := by decide +kernel
theorem dX49_digits_58 : decode cX49_digits 58 = .ok (.iload 5, 2) := by decide +kernel
theorem dX49_digits_60 : decode cX49_digits 60 = .ok (.iload_n 1, 1) := by decide +kernel
theorem dX49_digits_61 : decode cX49_digits 61 = .ok (.if_icmp .lt 7, 3) := by decide +kernel
theorem dX49_digits_64 : decode cX49_digits 64 = .ok (.iconst 1, 1) := by decide +kernel
theorem dX49_digits_65 : decode cX49_digits 65 = .ok (.goto 4, 3) := by decide +kernel
theorem dX49_digits_68 : decode cX49_digits 68 = .ok (.iconst 0, 1) := by decide +kernel
theorem dX49_digits_69 : decode cX49_digits 69 = .ok (.aload_n 0, 1) := by decide +kernel
theorem dX49_digits_70 : decode cX49_digits 70 = .ok (.getfield 95, 3) := by decide +kernel
theorem dX49_digits_73 : decode cX49_digits 73 = .ok (.invokevirtual 105, 3) := by decide +kernel
theorem dX49_digits_76 : decode cX49_digits 76 = .ok (.lload_n 3, 1) := by decide +kernel
theorem dX49_digits_77 : decode cX49_digits 77 = .ok (.lreturn, 1) := by decide +kernel
abbrev cX49_isDigit : ByteArray := prog_82_method_13_code
def yX49_isDigit : MethodName := ⟨RX49, "isDigit", "()Z"⟩
theorem dX49_isDigit_0 : decode cX49_isDigit 0 = .ok (.aload_n 0, 1) := by decide +kernel
theorem dX49_isDigit_1 : decode cX49_isDigit 1 = .ok (.invokevirtual 98, 3) := by decide +kernel
theorem dX49_isDigit_4 : decode cX49_isDigit 4 = .ok (.bipush 48, 2) := by decide +kernel
theorem dX49_isDigit_6 : decode cX49_isDigit 6 = .ok (.if_icmp .lt 16, 3) := by decide +kernel
theorem dX49_isDigit_9 : decode cX49_isDigit 9 = .ok (.aload_n 0, 1) := by decide +kernel
theorem dX49_isDigit_10 : decode cX49_isDigit 10 = .ok (.invokevirtual 98, 3) := by decide +kernel
theorem dX49_isDigit_13 : decode cX49_isDigit 13 = .ok (.bipush 57, 2) := by decide +kernel
theorem dX49_isDigit_15 : decode cX49_isDigit 15 = .ok (.if_icmp .gt 7, 3) := by decide +kernel
theorem dX49_isDigit_18 : decode cX49_isDigit 18 = .ok (.iconst 1, 1) := by decide +kernel
theorem dX49_isDigit_19 : decode cX49_isDigit 19 = .ok (.goto 4, 3) := by decide +kernel
theorem dX49_isDigit_22 : decode cX49_isDigit 22 = .ok (.iconst 0, 1) := by decide +kernel
theorem dX49_isDigit_23 : decode cX49_isDigit 23 = .ok (.ireturn, 1) := by decide +kernel
abbrev cX49_pair : ByteArray := prog_82_method_19_code
def yX49_pair : MethodName := ⟨RX49, "pair", "(II)I"⟩
theorem dX49_pair_0 : decode cX49_pair 0 = .ok (.aload_n 0, 1) := by decide +kernel
theorem dX49_pair_1 : decode cX49_pair 1 = .ok (.getfield 95, 3) := by decide +kernel
theorem dX49_pair_4 : decode cX49_pair 4 = .ok (.istore_n 3, 1) := by decide +kernel
theorem dX49_pair_5 : decode cX49_pair 5 = .ok (.aload_n 0, 1) := by decide +kernel
theorem dX49_pair_6 : decode cX49_pair 6 = .ok (.iconst 2, 1) := by decide +kernel
theorem dX49_pair_7 : decode cX49_pair 7 = .ok (.iconst 2, 1) := by decide +kernel
theorem dX49_pair_8 : decode cX49_pair 8 = .ok (.invokevirtual 121, 3) := by decide +kernel
theorem dX49_pair_11 : decode cX49_pair 11 = .ok (.l2i, 1) := by decide +kernel
theorem dX49_pair_12 : decode cX49_pair 12 = .ok (.istore 4, 2) := by decide +kernel
theorem dX49_pair_14 : decode cX49_pair 14 = .ok (.aload_n 0, 1) := by decide +kernel
theorem dX49_pair_15 : decode cX49_pair 15 = .ok (.iload 4, 2) := by decide +kernel
theorem dX49_pair_17 : decode cX49_pair 17 = .ok (.iload_n 1, 1) := by decide +kernel
theorem dX49_pair_18 : decode cX49_pair 18 = .ok (.if_icmp .lt 13, 3) := by decide +kernel
theorem dX49_pair_21 : decode cX49_pair 21 = .ok (.iload 4, 2) := by decide +kernel
theorem dX49_pair_23 : decode cX49_pair 23 = .ok (.iload_n 2, 1) := by decide +kernel
theorem dX49_pair_24 : decode cX49_pair 24 = .ok (.if_icmp .gt 7, 3) := by decide +kernel
theorem dX49_pair_27 : decode cX49_pair 27 = .ok (.iconst 1, 1) := by decide +kernel
theorem dX49_pair_28 : decode cX49_pair 28 = .ok (.goto 4, 3) := by decide +kernel
theorem dX49_pair_31 : decode cX49_pair 31 = .ok (.iconst 0, 1) := by decide +kernel
theorem dX49_pair_32 : decode cX49_pair 32 = .ok (.iload_n 3, 1) := by decide +kernel
theorem dX49_pair_33 : decode cX49_pair 33 = .ok (.invokevirtual 105, 3) := by decide +kernel
theorem dX49_pair_36 : decode cX49_pair 36 = .ok (.iload 4, 2) := by decide +kernel
theorem dX49_pair_38 : decode cX49_pair 38 = .ok (.ireturn, 1) := by decide +kernel
abbrev cX49_goesOn : ByteArray := prog_82_method_15_code
def yX49_goesOn : MethodName := ⟨RX49, "goesOn", "()Z"⟩
theorem dX49_goesOn_0 : decode cX49_goesOn 0 = .ok (.aload_n 0, 1) := by decide +kernel
theorem dX49_goesOn_1 : decode cX49_goesOn 1 = .ok (.getfield 102, 3) := by decide +kernel
theorem dX49_goesOn_4 : decode cX49_goesOn 4 = .ok (.ifCond .ge 7, 3) := by decide +kernel
theorem dX49_goesOn_7 : decode cX49_goesOn 7 = .ok (.iconst 1, 1) := by decide +kernel
theorem dX49_goesOn_8 : decode cX49_goesOn 8 = .ok (.goto 4, 3) := by decide +kernel
theorem dX49_goesOn_11 : decode cX49_goesOn 11 = .ok (.iconst 0, 1) := by decide +kernel
theorem dX49_goesOn_12 : decode cX49_goesOn 12 = .ok (.ireturn, 1) := by decide +kernel
abbrev cX49_lengthOf : ByteArray := prog_82_method_7_code
def yX49_lengthOf : MethodName := ⟨RX49, "lengthOf", "(JI)I"⟩
theorem dX49_lengthOf_0 : decode cX49_lengthOf 0 = .ok (.iload_n 2, 1) := by decide +kernel
theorem dX49_lengthOf_1 : decode cX49_lengthOf 1 = .ok (.iconst 2, 1) := by decide +kernel
theorem dX49_lengthOf_2 : decode cX49_lengthOf 2 = .ok (.if_icmp .ne 18, 3) := by decide +kernel
theorem dX49_lengthOf_5 : decode cX49_lengthOf 5 = .ok (.lload_n 0, 1) := by decide +kernel
theorem dX49_lengthOf_6 : decode cX49_lengthOf 6 = .ok (.invokestatic 53, 3) := by decide +kernel
theorem dX49_lengthOf_9 : decode cX49_lengthOf 9 = .ok (.ifCond .eq 8, 3) := by decide +kernel
theorem dX49_lengthOf_12 : decode cX49_lengthOf 12 = .ok (.bipush 29, 2) := by decide +kernel
theorem dX49_lengthOf_14 : decode cX49_lengthOf 14 = .ok (.goto 5, 3) := by decide +kernel
theorem dX49_lengthOf_17 : decode cX49_lengthOf 17 = .ok (.bipush 28, 2) := by decide +kernel
theorem dX49_lengthOf_19 : decode cX49_lengthOf 19 = .ok (.ireturn, 1) := by decide +kernel
theorem dX49_lengthOf_20 : decode cX49_lengthOf 20 = .ok (.iload_n 2, 1) := by decide +kernel
theorem dX49_lengthOf_21 : decode cX49_lengthOf 21 = .ok (.iconst 4, 1) := by decide +kernel
theorem dX49_lengthOf_22 : decode cX49_lengthOf 22 = .ok (.if_icmp .eq 21, 3) := by decide +kernel
theorem dX49_lengthOf_25 : decode cX49_lengthOf 25 = .ok (.iload_n 2, 1) := by decide +kernel
theorem dX49_lengthOf_26 : decode cX49_lengthOf 26 = .ok (.bipush 6, 2) := by decide +kernel
theorem dX49_lengthOf_28 : decode cX49_lengthOf 28 = .ok (.if_icmp .eq 15, 3) := by decide +kernel
theorem dX49_lengthOf_31 : decode cX49_lengthOf 31 = .ok (.iload_n 2, 1) := by decide +kernel
theorem dX49_lengthOf_32 : decode cX49_lengthOf 32 = .ok (.bipush 9, 2) := by decide +kernel
theorem dX49_lengthOf_34 : decode cX49_lengthOf 34 = .ok (.if_icmp .eq 9, 3) := by decide +kernel
theorem dX49_lengthOf_37 : decode cX49_lengthOf 37 = .ok (.iload_n 2, 1) := by decide +kernel
theorem dX49_lengthOf_38 : decode cX49_lengthOf 38 = .ok (.bipush 11, 2) := by decide +kernel
theorem dX49_lengthOf_40 : decode cX49_lengthOf 40 = .ok (.if_icmp .ne 8, 3) := by decide +kernel
theorem dX49_lengthOf_43 : decode cX49_lengthOf 43 = .ok (.bipush 30, 2) := by decide +kernel
theorem dX49_lengthOf_45 : decode cX49_lengthOf 45 = .ok (.goto 5, 3) := by decide +kernel
theorem dX49_lengthOf_48 : decode cX49_lengthOf 48 = .ok (.bipush 31, 2) := by decide +kernel
theorem dX49_lengthOf_50 : decode cX49_lengthOf 50 = .ok (.ireturn, 1) := by decide +kernel
abbrev cX49_isLong : ByteArray := prog_82_method_6_code
def yX49_isLong : MethodName := ⟨RX49, "isLong", "(J)Z"⟩
theorem dX49_isLong_0 : decode cX49_isLong 0 = .ok (.lload_n 0, 1) := by decide +kernel
theorem dX49_isLong_1 : decode cX49_isLong 1 = .ok (.ldc2_w 44, 3) := by decide +kernel
theorem dX49_isLong_4 : decode cX49_isLong 4 = .ok (.invokestatic 46, 3) := by decide +kernel
theorem dX49_isLong_7 : decode cX49_isLong 7 = .ok (.lconst 0, 1) := by decide +kernel
theorem dX49_isLong_8 : decode cX49_isLong 8 = .ok (.lcmp, 1) := by decide +kernel
theorem dX49_isLong_9 : decode cX49_isLong 9 = .ok (.ifCond .ne 31, 3) := by decide +kernel
theorem dX49_isLong_12 : decode cX49_isLong 12 = .ok (.lload_n 0, 1) := by decide +kernel
theorem dX49_isLong_13 : decode cX49_isLong 13 = .ok (.ldc2_w 49, 3) := by decide +kernel
theorem dX49_isLong_16 : decode cX49_isLong 16 = .ok (.invokestatic 46, 3) := by decide +kernel
theorem dX49_isLong_19 : decode cX49_isLong 19 = .ok (.lconst 0, 1) := by decide +kernel
theorem dX49_isLong_20 : decode cX49_isLong 20 = .ok (.lcmp, 1) := by decide +kernel
theorem dX49_isLong_21 : decode cX49_isLong 21 = .ok (.ifCond .ne 15, 3) := by decide +kernel
theorem dX49_isLong_24 : decode cX49_isLong 24 = .ok (.lload_n 0, 1) := by decide +kernel
theorem dX49_isLong_25 : decode cX49_isLong 25 = .ok (.ldc2_w 51, 3) := by decide +kernel
theorem dX49_isLong_28 : decode cX49_isLong 28 = .ok (.invokestatic 46, 3) := by decide +kernel
theorem dX49_isLong_31 : decode cX49_isLong 31 = .ok (.lconst 0, 1) := by decide +kernel
theorem dX49_isLong_32 : decode cX49_isLong 32 = .ok (.lcmp, 1) := by decide +kernel
theorem dX49_isLong_33 : decode cX49_isLong 33 = .ok (.ifCond .ne 7, 3) := by decide +kernel
theorem dX49_isLong_36 : decode cX49_isLong 36 = .ok (.iconst 1, 1) := by decide +kernel
theorem dX49_isLong_37 : decode cX49_isLong 37 = .ok (.goto 4, 3) := by decide +kernel
theorem dX49_isLong_40 : decode cX49_isLong 40 = .ok (.iconst 0, 1) := by decide +kernel
theorem dX49_isLong_41 : decode cX49_isLong 41 = .ok (.ireturn, 1) := by decide +kernel
abbrev cX49_rest : ByteArray := prog_82_method_5_code
def yX49_rest : MethodName := ⟨RX49, "rest", "(JJ)J"⟩
theorem dX49_rest_0 : decode cX49_rest 0 = .ok (.lload_n 0, 1) := by decide +kernel
theorem dX49_rest_1 : decode cX49_rest 1 = .ok (.lload_n 2, 1) := by decide +kernel
theorem dX49_rest_2 : decode cX49_rest 2 = .ok (.lload_n 0, 1) := by decide +kernel
theorem dX49_rest_3 : decode cX49_rest 3 = .ok (.lload_n 2, 1) := by decide +kernel
theorem dX49_rest_4 : decode cX49_rest 4 = .ok (.invokestatic 40, 3) := by decide +kernel
theorem dX49_rest_7 : decode cX49_rest 7 = .ok (.lmul, 1) := by decide +kernel
theorem dX49_rest_8 : decode cX49_rest 8 = .ok (.lsub, 1) := by decide +kernel
theorem dX49_rest_9 : decode cX49_rest 9 = .ok (.lreturn, 1) := by decide +kernel
abbrev cX49_down : ByteArray := prog_82_method_4_code
def yX49_down : MethodName := ⟨RX49, "down", "(JJ)J"⟩
theorem dX49_down_0 : decode cX49_down 0 = .ok (.lload_n 0, 1) := by decide +kernel
theorem dX49_down_1 : decode cX49_down 1 = .ok (.lload_n 2, 1) := by decide +kernel
theorem dX49_down_2 : decode cX49_down 2 = .ok (.ldiv, 1) := by decide +kernel
theorem dX49_down_3 : decode cX49_down 3 = .ok (.lload_n 0, 1) := by decide +kernel
theorem dX49_down_4 : decode cX49_down 4 = .ok (.lload_n 2, 1) := by decide +kernel
theorem dX49_down_5 : decode cX49_down 5 = .ok (.lrem, 1) := by decide +kernel
theorem dX49_down_6 : decode cX49_down 6 = .ok (.lconst 0, 1) := by decide +kernel
theorem dX49_down_7 : decode cX49_down 7 = .ok (.lcmp, 1) := by decide +kernel
theorem dX49_down_8 : decode cX49_down 8 = .ok (.ifCond .ge 7, 3) := by decide +kernel
theorem dX49_down_11 : decode cX49_down 11 = .ok (.lconst 1, 1) := by decide +kernel
theorem dX49_down_12 : decode cX49_down 12 = .ok (.goto 4, 3) := by decide +kernel
theorem dX49_down_15 : decode cX49_down 15 = .ok (.lconst 0, 1) := by decide +kernel
theorem dX49_down_16 : decode cX49_down 16 = .ok (.lsub, 1) := by decide +kernel
theorem dX49_down_17 : decode cX49_down 17 = .ok (.lreturn, 1) := by decide +kernel
abbrev cX49_dayOf : ByteArray := prog_82_method_9_code
def yX49_dayOf : MethodName := ⟨RX49, "dayOf", "(JII)J"⟩
theorem dX49_dayOf_0 : decode cX49_dayOf 0 = .ok (.lload_n 0, 1) := by decide +kernel
theorem dX49_dayOf_1 : decode cX49_dayOf 1 = .ok (.iload_n 2, 1) := by decide +kernel
theorem dX49_dayOf_2 : decode cX49_dayOf 2 = .ok (.invokestatic 67, 3) := by decide +kernel
theorem dX49_dayOf_5 : decode cX49_dayOf 5 = .ok (.iload_n 3, 1) := by decide +kernel
theorem dX49_dayOf_6 : decode cX49_dayOf 6 = .ok (.i2l, 1) := by decide +kernel
theorem dX49_dayOf_7 : decode cX49_dayOf 7 = .ok (.ladd, 1) := by decide +kernel
theorem dX49_dayOf_8 : decode cX49_dayOf 8 = .ok (.lconst 1, 1) := by decide +kernel
theorem dX49_dayOf_9 : decode cX49_dayOf 9 = .ok (.lsub, 1) := by decide +kernel
theorem dX49_dayOf_10 : decode cX49_dayOf 10 = .ok (.ldc2_w 71, 3) := by decide +kernel
theorem dX49_dayOf_13 : decode cX49_dayOf 13 = .ok (.iconst 1, 1) := by decide +kernel
theorem dX49_dayOf_14 : decode cX49_dayOf 14 = .ok (.invokestatic 67, 3) := by decide +kernel
theorem dX49_dayOf_17 : decode cX49_dayOf 17 = .ok (.lsub, 1) := by decide +kernel
theorem dX49_dayOf_18 : decode cX49_dayOf 18 = .ok (.lreturn, 1) := by decide +kernel
abbrev cX49_before : ByteArray := prog_82_method_8_code
def yX49_before : MethodName := ⟨RX49, "before", "(JI)J"⟩
theorem dX49_before_0 : decode cX49_before 0 = .ok (.ldc2_w 57, 3) := by decide +kernel
theorem dX49_before_3 : decode cX49_before 3 = .ok (.lload_n 0, 1) := by decide +kernel
theorem dX49_before_4 : decode cX49_before 4 = .ok (.ldc2_w 51, 3) := by decide +kernel
theorem dX49_before_7 : decode cX49_before 7 = .ok (.invokestatic 40, 3) := by decide +kernel
theorem dX49_before_10 : decode cX49_before 10 = .ok (.lmul, 1) := by decide +kernel
theorem dX49_before_11 : decode cX49_before 11 = .ok (.lstore_n 3, 1) := by decide +kernel
theorem dX49_before_12 : decode cX49_before 12 = .ok (.lload_n 0, 1) := by decide +kernel
theorem dX49_before_13 : decode cX49_before 13 = .ok (.ldc2_w 51, 3) := by decide +kernel
theorem dX49_before_16 : decode cX49_before 16 = .ok (.invokestatic 46, 3) := by decide +kernel
theorem dX49_before_19 : decode cX49_before 19 = .ok (.lstore 5, 2) := by decide +kernel
theorem dX49_before_21 : decode cX49_before 21 = .ok (.lconst 0, 1) := by decide +kernel
theorem dX49_before_22 : decode cX49_before 22 = .ok (.lstore 7, 2) := by decide +kernel
theorem dX49_before_24 : decode cX49_before 24 = .ok (.lload 7, 2) := by decide +kernel
theorem dX49_before_26 : decode cX49_before 26 = .ok (.lload 5, 2) := by decide +kernel
theorem dX49_before_28 : decode cX49_before 28 = .ok (.lcmp, 1) := by decide +kernel
theorem dX49_before_29 : decode cX49_before 29 = .ok (.ifCond .ge 32, 3) := by decide +kernel
theorem dX49_before_32 : decode cX49_before 32 = .ok (.lload_n 3, 1) := by decide +kernel
theorem dX49_before_33 : decode cX49_before 33 = .ok (.lload 7, 2) := by decide +kernel
theorem dX49_before_35 : decode cX49_before 35 = .ok (.invokestatic 53, 3) := by decide +kernel
theorem dX49_before_38 : decode cX49_before 38 = .ok (.ifCond .eq 9, 3) := by decide +kernel
theorem dX49_before_41 : decode cX49_before 41 = .ok (.ldc2_w 59, 3) := by decide +kernel
theorem dX49_before_44 : decode cX49_before 44 = .ok (.goto 6, 3) := by decide +kernel
theorem dX49_before_47 : decode cX49_before 47 = .ok (.ldc2_w 61, 3) := by decide +kernel
theorem dX49_before_50 : decode cX49_before 50 = .ok (.ladd, 1) := by decide +kernel
theorem dX49_before_51 : decode cX49_before 51 = .ok (.lstore_n 3, 1) := by decide +kernel
theorem dX49_before_52 : decode cX49_before 52 = .ok (.lload 7, 2) := by decide +kernel
theorem dX49_before_54 : decode cX49_before 54 = .ok (.lconst 1, 1) := by decide +kernel
theorem dX49_before_55 : decode cX49_before 55 = .ok (.ladd, 1) := by decide +kernel
theorem dX49_before_56 : decode cX49_before 56 = .ok (.lstore 7, 2) := by decide +kernel
theorem dX49_before_58 : decode cX49_before 58 = .ok (.goto (-34), 3) := by decide +kernel
theorem dX49_before_61 : decode cX49_before 61 = .ok (.iconst 1, 1) := by decide +kernel
theorem dX49_before_62 : decode cX49_before 62 = .ok (.istore 7, 2) := by decide +kernel
theorem dX49_before_64 : decode cX49_before 64 = .ok (.iload 7, 2) := by decide +kernel
theorem dX49_before_66 : decode cX49_before 66 = .ok (.iload_n 2, 1) := by decide +kernel
theorem dX49_before_67 : decode cX49_before 67 = .ok (.if_icmp .ge 19, 3) := by decide +kernel
theorem dX49_before_70 : decode cX49_before 70 = .ok (.lload_n 3, 1) := by decide +kernel
theorem dX49_before_71 : decode cX49_before 71 = .ok (.lload_n 0, 1) := by decide +kernel
theorem dX49_before_72 : decode cX49_before 72 = .ok (.iload 7, 2) := by decide +kernel
theorem dX49_before_74 : decode cX49_before 74 = .ok (.invokestatic 63, 3) := by decide +kernel
theorem dX49_before_77 : decode cX49_before 77 = .ok (.i2l, 1) := by decide +kernel
theorem dX49_before_78 : decode cX49_before 78 = .ok (.ladd, 1) := by decide +kernel
theorem dX49_before_79 : decode cX49_before 79 = .ok (.lstore_n 3, 1) := by decide +kernel
theorem dX49_before_80 : decode cX49_before 80 = .ok (.iinc 7 1, 3) := by decide +kernel
theorem dX49_before_83 : decode cX49_before 83 = .ok (.goto (-19), 3) := by decide +kernel
theorem dX49_before_86 : decode cX49_before 86 = .ok (.lload_n 3, 1) := by decide +kernel
theorem dX49_before_87 : decode cX49_before 87 = .ok (.lreturn, 1) := by decide +kernel
abbrev cX49_zone : ByteArray := prog_82_method_24_code
def yX49_zone : MethodName := ⟨RX49, "zone", "()I"⟩
theorem dX49_zone_0 : decode cX49_zone 0 = .ok (.aload_n 0, 1) := by decide +kernel
theorem dX49_zone_1 : decode cX49_zone 1 = .ok (.bipush 90, 2) := by decide +kernel
theorem dX49_zone_3 : decode cX49_zone 3 = .ok (.invokevirtual 109, 3) := by decide +kernel
theorem dX49_zone_6 : decode cX49_zone 6 = .ok (.ifCond .eq 5, 3) := by decide +kernel
theorem dX49_zone_9 : decode cX49_zone 9 = .ok (.iconst 0, 1) := by decide +kernel
theorem dX49_zone_10 : decode cX49_zone 10 = .ok (.ireturn, 1) := by decide +kernel
theorem dX49_zone_11 : decode cX49_zone 11 = .ok (.aload_n 0, 1) := by decide +kernel
theorem dX49_zone_12 : decode cX49_zone 12 = .ok (.bipush 45, 2) := by decide +kernel
theorem dX49_zone_14 : decode cX49_zone 14 = .ok (.invokevirtual 109, 3) := by decide +kernel
theorem dX49_zone_17 : decode cX49_zone 17 = .ok (.istore_n 1, 1) := by decide +kernel
theorem dX49_zone_18 : decode cX49_zone 18 = .ok (.iload_n 1, 1) := by decide +kernel
theorem dX49_zone_19 : decode cX49_zone 19 = .ok (.ifCond .ne 16, 3) := by decide +kernel
theorem dX49_zone_22 : decode cX49_zone 22 = .ok (.aload_n 0, 1) := by decide +kernel
theorem dX49_zone_23 : decode cX49_zone 23 = .ok (.bipush 43, 2) := by decide +kernel
theorem dX49_zone_25 : decode cX49_zone 25 = .ok (.invokevirtual 109, 3) := by decide +kernel
theorem dX49_zone_28 : decode cX49_zone 28 = .ok (.ifCond .ne 7, 3) := by decide +kernel
theorem dX49_zone_31 : decode cX49_zone 31 = .ok (.sipush 10000, 3) := by decide +kernel
theorem dX49_zone_34 : decode cX49_zone 34 = .ok (.ireturn, 1) := by decide +kernel
theorem dX49_zone_35 : decode cX49_zone 35 = .ok (.aload_n 0, 1) := by decide +kernel
theorem dX49_zone_36 : decode cX49_zone 36 = .ok (.iconst 0, 1) := by decide +kernel
theorem dX49_zone_37 : decode cX49_zone 37 = .ok (.bipush 14, 2) := by decide +kernel
theorem dX49_zone_39 : decode cX49_zone 39 = .ok (.invokevirtual 151, 3) := by decide +kernel
theorem dX49_zone_42 : decode cX49_zone 42 = .ok (.istore_n 2, 1) := by decide +kernel
theorem dX49_zone_43 : decode cX49_zone 43 = .ok (.aload_n 0, 1) := by decide +kernel
theorem dX49_zone_44 : decode cX49_zone 44 = .ok (.bipush 58, 2) := by decide +kernel
theorem dX49_zone_46 : decode cX49_zone 46 = .ok (.invokevirtual 147, 3) := by decide +kernel
theorem dX49_zone_49 : decode cX49_zone 49 = .ok (.aload_n 0, 1) := by decide +kernel
theorem dX49_zone_50 : decode cX49_zone 50 = .ok (.iconst 0, 1) := by decide +kernel
theorem dX49_zone_51 : decode cX49_zone 51 = .ok (.iload_n 2, 1) := by decide +kernel
theorem dX49_zone_52 : decode cX49_zone 52 = .ok (.bipush 14, 2) := by decide +kernel
theorem dX49_zone_54 : decode cX49_zone 54 = .ok (.if_icmp .ne 7, 3) := by decide +kernel
theorem dX49_zone_57 : decode cX49_zone 57 = .ok (.iconst 0, 1) := by decide +kernel
theorem dX49_zone_58 : decode cX49_zone 58 = .ok (.goto 5, 3) := by decide +kernel
theorem dX49_zone_61 : decode cX49_zone 61 = .ok (.bipush 59, 2) := by decide +kernel
theorem dX49_zone_63 : decode cX49_zone 63 = .ok (.invokevirtual 151, 3) := by decide +kernel
theorem dX49_zone_66 : decode cX49_zone 66 = .ok (.istore_n 3, 1) := by decide +kernel
theorem dX49_zone_67 : decode cX49_zone 67 = .ok (.iload_n 1, 1) := by decide +kernel
theorem dX49_zone_68 : decode cX49_zone 68 = .ok (.ifCond .eq 7, 3) := by decide +kernel
theorem dX49_zone_71 : decode cX49_zone 71 = .ok (.iconst (-1), 1) := by decide +kernel
theorem dX49_zone_72 : decode cX49_zone 72 = .ok (.goto 4, 3) := by decide +kernel
theorem dX49_zone_75 : decode cX49_zone 75 = .ok (.iconst 1, 1) := by decide +kernel
theorem dX49_zone_76 : decode cX49_zone 76 = .ok (.bipush 60, 2) := by decide +kernel
theorem dX49_zone_78 : decode cX49_zone 78 = .ok (.iload_n 2, 1) := by decide +kernel
theorem dX49_zone_79 : decode cX49_zone 79 = .ok (.imul, 1) := by decide +kernel
theorem dX49_zone_80 : decode cX49_zone 80 = .ok (.iload_n 3, 1) := by decide +kernel
theorem dX49_zone_81 : decode cX49_zone 81 = .ok (.iadd, 1) := by decide +kernel
theorem dX49_zone_82 : decode cX49_zone 82 = .ok (.imul, 1) := by decide +kernel
theorem dX49_zone_83 : decode cX49_zone 83 = .ok (.ireturn, 1) := by decide +kernel
abbrev cX49_instant : ByteArray := prog_82_method_26_code
def yX49_instant : MethodName := ⟨RX49, "instant", "()V"⟩
theorem dX49_instant_0 : decode cX49_instant 0 = .ok (.aload_n 0, 1) := by decide +kernel
theorem dX49_instant_1 : decode cX49_instant 1 = .ok (.invokevirtual 155, 3) := by decide +kernel
theorem dX49_instant_4 : decode cX49_instant 4 = .ok (.lstore_n 1, 1) := by decide +kernel
theorem dX49_instant_5 : decode cX49_instant 5 = .ok (.aload_n 0, 1) := by decide +kernel
theorem dX49_instant_6 : decode cX49_instant 6 = .ok (.bipush 84, 2) := by decide +kernel
theorem dX49_instant_8 : decode cX49_instant 8 = .ok (.invokevirtual 147, 3) := by decide +kernel
theorem dX49_instant_11 : decode cX49_instant 11 = .ok (.aload_n 0, 1) := by decide +kernel
theorem dX49_instant_12 : decode cX49_instant 12 = .ok (.getfield 95, 3) := by decide +kernel
theorem dX49_instant_15 : decode cX49_instant 15 = .ok (.istore_n 3, 1) := by decide +kernel
theorem dX49_instant_16 : decode cX49_instant 16 = .ok (.aload_n 0, 1) := by decide +kernel
theorem dX49_instant_17 : decode cX49_instant 17 = .ok (.iconst 0, 1) := by decide +kernel
theorem dX49_instant_18 : decode cX49_instant 18 = .ok (.bipush 24, 2) := by decide +kernel
theorem dX49_instant_20 : decode cX49_instant 20 = .ok (.invokevirtual 151, 3) := by decide +kernel
theorem dX49_instant_23 : decode cX49_instant 23 = .ok (.istore 4, 2) := by decide +kernel
theorem dX49_instant_25 : decode cX49_instant 25 = .ok (.aload_n 0, 1) := by decide +kernel
theorem dX49_instant_26 : decode cX49_instant 26 = .ok (.bipush 58, 2) := by decide +kernel
theorem dX49_instant_28 : decode cX49_instant 28 = .ok (.invokevirtual 147, 3) := by decide +kernel
theorem dX49_instant_31 : decode cX49_instant 31 = .ok (.aload_n 0, 1) := by decide +kernel
theorem dX49_instant_32 : decode cX49_instant 32 = .ok (.iconst 0, 1) := by decide +kernel
theorem dX49_instant_33 : decode cX49_instant 33 = .ok (.bipush 59, 2) := by decide +kernel
theorem dX49_instant_35 : decode cX49_instant 35 = .ok (.invokevirtual 151, 3) := by decide +kernel
theorem dX49_instant_38 : decode cX49_instant 38 = .ok (.istore 5, 2) := by decide +kernel
theorem dX49_instant_40 : decode cX49_instant 40 = .ok (.aload_n 0, 1) := by decide +kernel
theorem dX49_instant_41 : decode cX49_instant 41 = .ok (.iload 4, 2) := by decide +kernel
theorem dX49_instant_43 : decode cX49_instant 43 = .ok (.bipush 24, 2) := by decide +kernel
theorem dX49_instant_45 : decode cX49_instant 45 = .ok (.if_icmp .ne 8, 3) := by decide +kernel
theorem dX49_instant_48 : decode cX49_instant 48 = .ok (.iload 5, 2) := by decide +kernel
theorem dX49_instant_50 : decode cX49_instant 50 = .ok (.ifCond .ne 7, 3) := by decide +kernel
theorem dX49_instant_53 : decode cX49_instant 53 = .ok (.iconst 1, 1) := by decide +kernel
theorem dX49_instant_54 : decode cX49_instant 54 = .ok (.goto 4, 3) := by decide +kernel
theorem dX49_instant_57 : decode cX49_instant 57 = .ok (.iconst 0, 1) := by decide +kernel
theorem dX49_instant_58 : decode cX49_instant 58 = .ok (.iload_n 3, 1) := by decide +kernel
theorem dX49_instant_59 : decode cX49_instant 59 = .ok (.invokevirtual 105, 3) := by decide +kernel
theorem dX49_instant_62 : decode cX49_instant 62 = .ok (.aload_n 0, 1) := by decide +kernel
theorem dX49_instant_63 : decode cX49_instant 63 = .ok (.bipush 58, 2) := by decide +kernel
theorem dX49_instant_65 : decode cX49_instant 65 = .ok (.invokevirtual 147, 3) := by decide +kernel
theorem dX49_instant_68 : decode cX49_instant 68 = .ok (.aload_n 0, 1) := by decide +kernel
theorem dX49_instant_69 : decode cX49_instant 69 = .ok (.iconst 0, 1) := by decide +kernel
theorem dX49_instant_70 : decode cX49_instant 70 = .ok (.iload 5, 2) := by decide +kernel
theorem dX49_instant_72 : decode cX49_instant 72 = .ok (.bipush 59, 2) := by decide +kernel
theorem dX49_instant_74 : decode cX49_instant 74 = .ok (.if_icmp .ne 8, 3) := by decide +kernel
theorem dX49_instant_77 : decode cX49_instant 77 = .ok (.bipush 60, 2) := by decide +kernel
theorem dX49_instant_79 : decode cX49_instant 79 = .ok (.goto 5, 3) := by decide +kernel
theorem dX49_instant_82 : decode cX49_instant 82 = .ok (.bipush 59, 2) := by decide +kernel
theorem dX49_instant_84 : decode cX49_instant 84 = .ok (.invokevirtual 151, 3) := by decide +kernel
theorem dX49_instant_87 : decode cX49_instant 87 = .ok (.istore 6, 2) := by decide +kernel
theorem dX49_instant_89 : decode cX49_instant 89 = .ok (.aload_n 0, 1) := by decide +kernel
theorem dX49_instant_90 : decode cX49_instant 90 = .ok (.iload 4, 2) := by decide +kernel
theorem dX49_instant_92 : decode cX49_instant 92 = .ok (.bipush 24, 2) := by decide +kernel
theorem dX49_instant_94 : decode cX49_instant 94 = .ok (.if_icmp .ne 23, 3) := by decide +kernel
theorem dX49_instant_97 : decode cX49_instant 97 = .ok (.iload 6, 2) := by decide +kernel
theorem dX49_instant_99 : decode cX49_instant 99 = .ok (.ifCond .ne 22, 3) := by decide +kernel
theorem dX49_instant_102 : decode cX49_instant 102 = .ok (.lload_n 1, 1) := by decide +kernel
theorem dX49_instant_103 : decode cX49_instant 103 = .ok (.ldc2_w 159, 3) := by decide +kernel
theorem dX49_instant_106 : decode cX49_instant 106 = .ok (.bipush 12, 2) := by decide +kernel
theorem dX49_instant_108 : decode cX49_instant 108 = .ok (.bipush 31, 2) := by decide +kernel
theorem dX49_instant_110 : decode cX49_instant 110 = .ok (.invokestatic 91, 3) := by decide +kernel
theorem dX49_instant_113 : decode cX49_instant 113 = .ok (.lcmp, 1) := by decide +kernel
theorem dX49_instant_114 : decode cX49_instant 114 = .ok (.ifCond .eq 7, 3) := by decide +kernel
theorem dX49_instant_117 : decode cX49_instant 117 = .ok (.iconst 1, 1) := by decide +kernel
theorem dX49_instant_118 : decode cX49_instant 118 = .ok (.goto 4, 3) := by decide +kernel
theorem dX49_instant_121 : decode cX49_instant 121 = .ok (.iconst 0, 1) := by decide +kernel
theorem dX49_instant_122 : decode cX49_instant 122 = .ok (.iload_n 3, 1) := by decide +kernel
theorem dX49_instant_123 : decode cX49_instant 123 = .ok (.invokevirtual 105, 3) := by decide +kernel
theorem dX49_instant_126 : decode cX49_instant 126 = .ok (.ldc2_w 161, 3) := by decide +kernel
theorem dX49_instant_129 : decode cX49_instant 129 = .ok (.iload 6, 2) := by decide +kernel
theorem dX49_instant_131 : decode cX49_instant 131 = .ok (.bipush 60, 2) := by decide +kernel
theorem dX49_instant_133 : decode cX49_instant 133 = .ok (.if_icmp .ne 8, 3) := by decide +kernel
theorem dX49_instant_136 : decode cX49_instant 136 = .ok (.bipush 59, 2) := by decide +kernel
theorem dX49_instant_138 : decode cX49_instant 138 = .ok (.goto 5, 3) := by decide +kernel
theorem dX49_instant_141 : decode cX49_instant 141 = .ok (.iload 6, 2) := by decide +kernel
theorem dX49_instant_143 : decode cX49_instant 143 = .ok (.i2l, 1) := by decide +kernel
theorem dX49_instant_144 : decode cX49_instant 144 = .ok (.lmul, 1) := by decide +kernel
theorem dX49_instant_145 : decode cX49_instant 145 = .ok (.lstore 7, 2) := by decide +kernel
theorem dX49_instant_147 : decode cX49_instant 147 = .ok (.iload 4, 2) := by decide +kernel
theorem dX49_instant_149 : decode cX49_instant 149 = .ok (.bipush 24, 2) := by decide +kernel
theorem dX49_instant_151 : decode cX49_instant 151 = .ok (.if_icmp .eq 28, 3) := by decide +kernel
theorem dX49_instant_154 : decode cX49_instant 154 = .ok (.iload 6, 2) := by decide +kernel
theorem dX49_instant_156 : decode cX49_instant 156 = .ok (.bipush 60, 2) := by decide +kernel
theorem dX49_instant_158 : decode cX49_instant 158 = .ok (.if_icmp .eq 21, 3) := by decide +kernel
theorem dX49_instant_161 : decode cX49_instant 161 = .ok (.aload_n 0, 1) := by decide +kernel
theorem dX49_instant_162 : decode cX49_instant 162 = .ok (.bipush 46, 2) := by decide +kernel
theorem dX49_instant_164 : decode cX49_instant 164 = .ok (.invokevirtual 109, 3) := by decide +kernel
theorem dX49_instant_167 : decode cX49_instant 167 = .ok (.ifCond .eq 12, 3) := by decide +kernel
theorem dX49_instant_170 : decode cX49_instant 170 = .ok (.lload 7, 2) := by decide +kernel
theorem dX49_instant_172 : decode cX49_instant 172 = .ok (.aload_n 0, 1) := by decide +kernel
theorem dX49_instant_173 : decode cX49_instant 173 = .ok (.invokevirtual 163, 3) := by decide +kernel
theorem dX49_instant_176 : decode cX49_instant 176 = .ok (.ladd, 1) := by decide +kernel
theorem dX49_instant_177 : decode cX49_instant 177 = .ok (.lstore 7, 2) := by decide +kernel
theorem dX49_instant_179 : decode cX49_instant 179 = .ok (.aload_n 0, 1) := by decide +kernel
theorem dX49_instant_180 : decode cX49_instant 180 = .ok (.ldc2_w 83, 3) := by decide +kernel
theorem dX49_instant_183 : decode cX49_instant 183 = .ok (.lload_n 1, 1) := by decide +kernel
theorem dX49_instant_184 : decode cX49_instant 184 = .ok (.lmul, 1) := by decide +kernel
theorem dX49_instant_185 : decode cX49_instant 185 = .ok (.ldc2_w 166, 3) := by decide +kernel
theorem dX49_instant_188 : decode cX49_instant 188 = .ok (.iload 4, 2) := by decide +kernel
theorem dX49_instant_190 : decode cX49_instant 190 = .ok (.i2l, 1) := by decide +kernel
theorem dX49_instant_191 : decode cX49_instant 191 = .ok (.lmul, 1) := by decide +kernel
theorem dX49_instant_192 : decode cX49_instant 192 = .ok (.ladd, 1) := by decide +kernel
theorem dX49_instant_193 : decode cX49_instant 193 = .ok (.ldc2_w 168, 3) := by decide +kernel
theorem dX49_instant_196 : decode cX49_instant 196 = .ok (.iload 5, 2) := by decide +kernel
theorem dX49_instant_198 : decode cX49_instant 198 = .ok (.i2l, 1) := by decide +kernel
theorem dX49_instant_199 : decode cX49_instant 199 = .ok (.lmul, 1) := by decide +kernel
theorem dX49_instant_200 : decode cX49_instant 200 = .ok (.ladd, 1) := by decide +kernel
theorem dX49_instant_201 : decode cX49_instant 201 = .ok (.lload 7, 2) := by decide +kernel
theorem dX49_instant_203 : decode cX49_instant 203 = .ok (.ladd, 1) := by decide +kernel
theorem dX49_instant_204 : decode cX49_instant 204 = .ok (.putfield 125, 3) := by decide +kernel
theorem dX49_instant_207 : decode cX49_instant 207 = .ok (.aload_n 0, 1) := by decide +kernel
theorem dX49_instant_208 : decode cX49_instant 208 = .ok (.aload_n 0, 1) := by decide +kernel
theorem dX49_instant_209 : decode cX49_instant 209 = .ok (.invokevirtual 170, 3) := by decide +kernel
theorem dX49_instant_212 : decode cX49_instant 212 = .ok (.i2l, 1) := by decide +kernel
theorem dX49_instant_213 : decode cX49_instant 213 = .ok (.putfield 132, 3) := by decide +kernel
theorem dX49_instant_216 : decode cX49_instant 216 = .ok (.return_, 1) := by decide +kernel
abbrev cX49_thousandths : ByteArray := prog_82_method_25_code
def yX49_thousandths : MethodName := ⟨RX49, "thousandths", "()J"⟩
theorem dX49_thousandths_0 : decode cX49_thousandths 0 = .ok (.aload_n 0, 1) := by decide +kernel
theorem dX49_thousandths_1 : decode cX49_thousandths 1 = .ok (.getfield 95, 3) := by decide +kernel
theorem dX49_thousandths_4 : decode cX49_thousandths 4 = .ok (.istore_n 1, 1) := by decide +kernel
theorem dX49_thousandths_5 : decode cX49_thousandths 5 = .ok (.aload_n 0, 1) := by decide +kernel
theorem dX49_thousandths_6 : decode cX49_thousandths 6 = .ok (.iconst 1, 1) := by decide +kernel
theorem dX49_thousandths_7 : decode cX49_thousandths 7 = .ok (.iconst 3, 1) := by decide +kernel
theorem dX49_thousandths_8 : decode cX49_thousandths 8 = .ok (.invokevirtual 121, 3) := by decide +kernel
theorem dX49_thousandths_11 : decode cX49_thousandths 11 = .ok (.lstore_n 2, 1) := by decide +kernel
theorem dX49_thousandths_12 : decode cX49_thousandths 12 = .ok (.aload_n 0, 1) := by decide +kernel
theorem dX49_thousandths_13 : decode cX49_thousandths 13 = .ok (.getfield 95, 3) := by decide +kernel
theorem dX49_thousandths_16 : decode cX49_thousandths 16 = .ok (.iload_n 1, 1) := by decide +kernel
theorem dX49_thousandths_17 : decode cX49_thousandths 17 = .ok (.isub, 1) := by decide +kernel
theorem dX49_thousandths_18 : decode cX49_thousandths 18 = .ok (.istore 4, 2) := by decide +kernel
theorem dX49_thousandths_20 : decode cX49_thousandths 20 = .ok (.iload 4, 2) := by decide +kernel
theorem dX49_thousandths_22 : decode cX49_thousandths 22 = .ok (.iconst 3, 1) := by decide +kernel
theorem dX49_thousandths_23 : decode cX49_thousandths 23 = .ok (.if_icmp .ge 15, 3) := by decide +kernel
theorem dX49_thousandths_26 : decode cX49_thousandths 26 = .ok (.ldc2_w 117, 3) := by decide +kernel
theorem dX49_thousandths_29 : decode cX49_thousandths 29 = .ok (.lload_n 2, 1) := by decide +kernel
theorem dX49_thousandths_30 : decode cX49_thousandths 30 = .ok (.lmul, 1) := by decide +kernel
theorem dX49_thousandths_31 : decode cX49_thousandths 31 = .ok (.lstore_n 2, 1) := by decide +kernel
theorem dX49_thousandths_32 : decode cX49_thousandths 32 = .ok (.iinc 4 1, 3) := by decide +kernel
theorem dX49_thousandths_35 : decode cX49_thousandths 35 = .ok (.goto (-15), 3) := by decide +kernel
theorem dX49_thousandths_38 : decode cX49_thousandths 38 = .ok (.lload_n 2, 1) := by decide +kernel
theorem dX49_thousandths_39 : decode cX49_thousandths 39 = .ok (.lreturn, 1) := by decide +kernel
abbrev cX49_span : ByteArray := prog_82_method_28_code
def yX49_span : MethodName := ⟨RX49, "span", "()V"⟩
theorem dX49_span_0 : decode cX49_span 0 = .ok (.aload_n 0, 1) := by decide +kernel
theorem dX49_span_1 : decode cX49_span 1 = .ok (.bipush 45, 2) := by decide +kernel
theorem dX49_span_3 : decode cX49_span 3 = .ok (.invokevirtual 109, 3) := by decide +kernel
theorem dX49_span_6 : decode cX49_span 6 = .ok (.istore_n 1, 1) := by decide +kernel
theorem dX49_span_7 : decode cX49_span 7 = .ok (.aload_n 0, 1) := by decide +kernel
theorem dX49_span_8 : decode cX49_span 8 = .ok (.bipush 80, 2) := by decide +kernel
theorem dX49_span_10 : decode cX49_span 10 = .ok (.invokevirtual 147, 3) := by decide +kernel
theorem dX49_span_13 : decode cX49_span 13 = .ok (.aload_n 0, 1) := by decide +kernel
theorem dX49_span_14 : decode cX49_span 14 = .ok (.lconst 0, 1) := by decide +kernel
theorem dX49_span_15 : decode cX49_span 15 = .ok (.putfield 173, 3) := by decide +kernel
theorem dX49_span_18 : decode cX49_span 18 = .ok (.aload_n 0, 1) := by decide +kernel
theorem dX49_span_19 : decode cX49_span 19 = .ok (.lconst 0, 1) := by decide +kernel
theorem dX49_span_20 : decode cX49_span 20 = .ok (.putfield 176, 3) := by decide +kernel
theorem dX49_span_23 : decode cX49_span 23 = .ok (.iconst 0, 1) := by decide +kernel
theorem dX49_span_24 : decode cX49_span 24 = .ok (.istore_n 2, 1) := by decide +kernel
theorem dX49_span_25 : decode cX49_span 25 = .ok (.iconst 0, 1) := by decide +kernel
theorem dX49_span_26 : decode cX49_span 26 = .ok (.istore_n 3, 1) := by decide +kernel
theorem dX49_span_27 : decode cX49_span 27 = .ok (.aload_n 0, 1) := by decide +kernel
theorem dX49_span_28 : decode cX49_span 28 = .ok (.invokevirtual 135, 3) := by decide +kernel
theorem dX49_span_31 : decode cX49_span 31 = .ok (.ifCond .eq 132, 3) := by decide +kernel
theorem dX49_span_34 : decode cX49_span 34 = .ok (.iload_n 3, 1) := by decide +kernel
theorem dX49_span_35 : decode cX49_span 35 = .ok (.iconst 3, 1) := by decide +kernel
theorem dX49_span_36 : decode cX49_span 36 = .ok (.if_icmp .ge 127, 3) := by decide +kernel
theorem dX49_span_39 : decode cX49_span 39 = .ok (.aload_n 0, 1) := by decide +kernel
theorem dX49_span_40 : decode cX49_span 40 = .ok (.invokevirtual 113, 3) := by decide +kernel
theorem dX49_span_43 : decode cX49_span 43 = .ok (.ifCond .eq 120, 3) := by decide +kernel
theorem dX49_span_46 : decode cX49_span 46 = .ok (.aload_n 0, 1) := by decide +kernel
theorem dX49_span_47 : decode cX49_span 47 = .ok (.iconst 1, 1) := by decide +kernel
theorem dX49_span_48 : decode cX49_span 48 = .ok (.bipush 6, 2) := by decide +kernel
theorem dX49_span_50 : decode cX49_span 50 = .ok (.invokevirtual 121, 3) := by decide +kernel
theorem dX49_span_53 : decode cX49_span 53 = .ok (.lstore 4, 2) := by decide +kernel
theorem dX49_span_55 : decode cX49_span 55 = .ok (.aload_n 0, 1) := by decide +kernel
theorem dX49_span_56 : decode cX49_span 56 = .ok (.ldc 179, 2) := by decide +kernel
theorem dX49_span_58 : decode cX49_span 58 = .ok (.iload_n 3, 1) := by decide +kernel
theorem dX49_span_59 : decode cX49_span 59 = .ok (.invokevirtual 180, 3) := by decide +kernel
theorem dX49_span_62 : decode cX49_span 62 = .ok (.istore 6, 2) := by decide +kernel
theorem dX49_span_64 : decode cX49_span 64 = .ok (.aload_n 0, 1) := by decide +kernel
theorem dX49_span_65 : decode cX49_span 65 = .ok (.iload 6, 2) := by decide +kernel
theorem dX49_span_67 : decode cX49_span 67 = .ok (.iconst 3, 1) := by decide +kernel
theorem dX49_span_68 : decode cX49_span 68 = .ok (.if_icmp .ge 7, 3) := by decide +kernel
theorem dX49_span_71 : decode cX49_span 71 = .ok (.iconst 1, 1) := by decide +kernel
theorem dX49_span_72 : decode cX49_span 72 = .ok (.goto 4, 3) := by decide +kernel
theorem dX49_span_75 : decode cX49_span 75 = .ok (.iconst 0, 1) := by decide +kernel
theorem dX49_span_76 : decode cX49_span 76 = .ok (.aload_n 0, 1) := by decide +kernel
theorem dX49_span_77 : decode cX49_span 77 = .ok (.getfield 95, 3) := by decide +kernel
theorem dX49_span_80 : decode cX49_span 80 = .ok (.invokevirtual 105, 3) := by decide +kernel
theorem dX49_span_83 : decode cX49_span 83 = .ok (.aload_n 0, 1) := by decide +kernel
theorem dX49_span_84 : decode cX49_span 84 = .ok (.dup, 1) := by decide +kernel
theorem dX49_span_85 : decode cX49_span 85 = .ok (.getfield 95, 3) := by decide +kernel
theorem dX49_span_88 : decode cX49_span 88 = .ok (.iconst 1, 1) := by decide +kernel
theorem dX49_span_89 : decode cX49_span 89 = .ok (.iadd, 1) := by decide +kernel
theorem dX49_span_90 : decode cX49_span 90 = .ok (.putfield 95, 3) := by decide +kernel
theorem dX49_span_93 : decode cX49_span 93 = .ok (.aload_n 0, 1) := by decide +kernel
theorem dX49_span_94 : decode cX49_span 94 = .ok (.dup, 1) := by decide +kernel
theorem dX49_span_95 : decode cX49_span 95 = .ok (.getfield 173, 3) := by decide +kernel
theorem dX49_span_98 : decode cX49_span 98 = .ok (.iload 6, 2) := by decide +kernel
theorem dX49_span_100 : decode cX49_span 100 = .ok (.ifCond .ne 12, 3) := by decide +kernel
theorem dX49_span_103 : decode cX49_span 103 = .ok (.ldc2_w 89, 3) := by decide +kernel
theorem dX49_span_106 : decode cX49_span 106 = .ok (.lload 4, 2) := by decide +kernel
theorem dX49_span_108 : decode cX49_span 108 = .ok (.lmul, 1) := by decide +kernel
theorem dX49_span_109 : decode cX49_span 109 = .ok (.goto 15, 3) := by decide +kernel
theorem dX49_span_112 : decode cX49_span 112 = .ok (.iload 6, 2) := by decide +kernel
theorem dX49_span_114 : decode cX49_span 114 = .ok (.iconst 1, 1) := by decide +kernel
theorem dX49_span_115 : decode cX49_span 115 = .ok (.if_icmp .ne 8, 3) := by decide +kernel
theorem dX49_span_118 : decode cX49_span 118 = .ok (.lload 4, 2) := by decide +kernel
theorem dX49_span_120 : decode cX49_span 120 = .ok (.goto 4, 3) := by decide +kernel
theorem dX49_span_123 : decode cX49_span 123 = .ok (.lconst 0, 1) := by decide +kernel
theorem dX49_span_124 : decode cX49_span 124 = .ok (.ladd, 1) := by decide +kernel
theorem dX49_span_125 : decode cX49_span 125 = .ok (.putfield 173, 3) := by decide +kernel
theorem dX49_span_128 : decode cX49_span 128 = .ok (.aload_n 0, 1) := by decide +kernel
theorem dX49_span_129 : decode cX49_span 129 = .ok (.dup, 1) := by decide +kernel
theorem dX49_span_130 : decode cX49_span 130 = .ok (.getfield 176, 3) := by decide +kernel
theorem dX49_span_133 : decode cX49_span 133 = .ok (.iload 6, 2) := by decide +kernel
theorem dX49_span_135 : decode cX49_span 135 = .ok (.iconst 2, 1) := by decide +kernel
theorem dX49_span_136 : decode cX49_span 136 = .ok (.if_icmp .ne 12, 3) := by decide +kernel
theorem dX49_span_139 : decode cX49_span 139 = .ok (.ldc2_w 83, 3) := by decide +kernel
theorem dX49_span_142 : decode cX49_span 142 = .ok (.lload 4, 2) := by decide +kernel
theorem dX49_span_144 : decode cX49_span 144 = .ok (.lmul, 1) := by decide +kernel
theorem dX49_span_145 : decode cX49_span 145 = .ok (.goto 4, 3) := by decide +kernel
theorem dX49_span_148 : decode cX49_span 148 = .ok (.lconst 0, 1) := by decide +kernel
theorem dX49_span_149 : decode cX49_span 149 = .ok (.ladd, 1) := by decide +kernel
theorem dX49_span_150 : decode cX49_span 150 = .ok (.putfield 176, 3) := by decide +kernel
theorem dX49_span_153 : decode cX49_span 153 = .ok (.iload 6, 2) := by decide +kernel
theorem dX49_span_155 : decode cX49_span 155 = .ok (.iconst 1, 1) := by decide +kernel
theorem dX49_span_156 : decode cX49_span 156 = .ok (.iadd, 1) := by decide +kernel
theorem dX49_span_157 : decode cX49_span 157 = .ok (.istore_n 3, 1) := by decide +kernel
theorem dX49_span_158 : decode cX49_span 158 = .ok (.iconst 1, 1) := by decide +kernel
theorem dX49_span_159 : decode cX49_span 159 = .ok (.istore_n 2, 1) := by decide +kernel
theorem dX49_span_160 : decode cX49_span 160 = .ok (.goto (-133), 3) := by decide +kernel
theorem dX49_span_163 : decode cX49_span 163 = .ok (.aload_n 0, 1) := by decide +kernel
theorem dX49_span_164 : decode cX49_span 164 = .ok (.bipush 84, 2) := by decide +kernel
theorem dX49_span_166 : decode cX49_span 166 = .ok (.invokevirtual 109, 3) := by decide +kernel
theorem dX49_span_169 : decode cX49_span 169 = .ok (.ifCond .eq 9, 3) := by decide +kernel
theorem dX49_span_172 : decode cX49_span 172 = .ok (.aload_n 0, 1) := by decide +kernel
theorem dX49_span_173 : decode cX49_span 173 = .ok (.invokevirtual 183, 3) := by decide +kernel
theorem dX49_span_176 : decode cX49_span 176 = .ok (.iconst 1, 1) := by decide +kernel
theorem dX49_span_177 : decode cX49_span 177 = .ok (.istore_n 2, 1) := by decide +kernel
theorem dX49_span_178 : decode cX49_span 178 = .ok (.aload_n 0, 1) := by decide +kernel
theorem dX49_span_179 : decode cX49_span 179 = .ok (.iload_n 2, 1) := by decide +kernel
theorem dX49_span_180 : decode cX49_span 180 = .ok (.aload_n 0, 1) := by decide +kernel
theorem dX49_span_181 : decode cX49_span 181 = .ok (.getfield 95, 3) := by decide +kernel
theorem dX49_span_184 : decode cX49_span 184 = .ok (.invokevirtual 105, 3) := by decide +kernel
theorem dX49_span_187 : decode cX49_span 187 = .ok (.aload_n 0, 1) := by decide +kernel
theorem dX49_span_188 : decode cX49_span 188 = .ok (.iload_n 1, 1) := by decide +kernel
theorem dX49_span_189 : decode cX49_span 189 = .ok (.ifCond .eq 11, 3) := by decide +kernel
theorem dX49_span_192 : decode cX49_span 192 = .ok (.aload_n 0, 1) := by decide +kernel
theorem dX49_span_193 : decode cX49_span 193 = .ok (.getfield 173, 3) := by decide +kernel
theorem dX49_span_196 : decode cX49_span 196 = .ok (.lneg, 1) := by decide +kernel
theorem dX49_span_197 : decode cX49_span 197 = .ok (.goto 7, 3) := by decide +kernel
theorem dX49_span_200 : decode cX49_span 200 = .ok (.aload_n 0, 1) := by decide +kernel
theorem dX49_span_201 : decode cX49_span 201 = .ok (.getfield 173, 3) := by decide +kernel
theorem dX49_span_204 : decode cX49_span 204 = .ok (.putfield 125, 3) := by decide +kernel
theorem dX49_span_207 : decode cX49_span 207 = .ok (.aload_n 0, 1) := by decide +kernel
theorem dX49_span_208 : decode cX49_span 208 = .ok (.iload_n 1, 1) := by decide +kernel
theorem dX49_span_209 : decode cX49_span 209 = .ok (.ifCond .eq 11, 3) := by decide +kernel
theorem dX49_span_212 : decode cX49_span 212 = .ok (.aload_n 0, 1) := by decide +kernel
theorem dX49_span_213 : decode cX49_span 213 = .ok (.getfield 176, 3) := by decide +kernel
theorem dX49_span_216 : decode cX49_span 216 = .ok (.lneg, 1) := by decide +kernel
theorem dX49_span_217 : decode cX49_span 217 = .ok (.goto 7, 3) := by decide +kernel
theorem dX49_span_220 : decode cX49_span 220 = .ok (.aload_n 0, 1) := by decide +kernel
theorem dX49_span_221 : decode cX49_span 221 = .ok (.getfield 176, 3) := by decide +kernel
theorem dX49_span_224 : decode cX49_span 224 = .ok (.putfield 132, 3) := by decide +kernel
theorem dX49_span_227 : decode cX49_span 227 = .ok (.return_, 1) := by decide +kernel
abbrev cX49_among : ByteArray := prog_82_method_27_code
def yX49_among : MethodName := ⟨RX49, "among", "(II)I"⟩
theorem dX49_among_0 : decode cX49_among 0 = .ok (.iload_n 2, 1) := by decide +kernel
theorem dX49_among_1 : decode cX49_among 1 = .ok (.istore_n 3, 1) := by decide +kernel
theorem dX49_among_2 : decode cX49_among 2 = .ok (.iload_n 3, 1) := by decide +kernel
theorem dX49_among_3 : decode cX49_among 3 = .ok (.iconst 3, 1) := by decide +kernel
theorem dX49_among_4 : decode cX49_among 4 = .ok (.if_icmp .ge 29, 3) := by decide +kernel
theorem dX49_among_7 : decode cX49_among 7 = .ok (.aload_n 0, 1) := by decide +kernel
theorem dX49_among_8 : decode cX49_among 8 = .ok (.invokevirtual 98, 3) := by decide +kernel
theorem dX49_among_11 : decode cX49_among 11 = .ok (.iload_n 1, 1) := by decide +kernel
theorem dX49_among_12 : decode cX49_among 12 = .ok (.bipush 16, 2) := by decide +kernel
theorem dX49_among_14 : decode cX49_among 14 = .ok (.bipush 8, 2) := by decide +kernel
theorem dX49_among_16 : decode cX49_among 16 = .ok (.iload_n 3, 1) := by decide +kernel
theorem dX49_among_17 : decode cX49_among 17 = .ok (.imul, 1) := by decide +kernel
theorem dX49_among_18 : decode cX49_among 18 = .ok (.isub, 1) := by decide +kernel
theorem dX49_among_19 : decode cX49_among 19 = .ok (.ishr, 1) := by decide +kernel
theorem dX49_among_20 : decode cX49_among 20 = .ok (.sipush 255, 3) := by decide +kernel
theorem dX49_among_23 : decode cX49_among 23 = .ok (.iand, 1) := by decide +kernel
theorem dX49_among_24 : decode cX49_among 24 = .ok (.if_icmp .eq 9, 3) := by decide +kernel
theorem dX49_among_27 : decode cX49_among 27 = .ok (.iinc 3 1, 3) := by decide +kernel
theorem dX49_among_30 : decode cX49_among 30 = .ok (.goto (-28), 3) := by decide +kernel
theorem dX49_among_33 : decode cX49_among 33 = .ok (.iload_n 3, 1) := by decide +kernel
theorem dX49_among_34 : decode cX49_among 34 = .ok (.ireturn, 1) := by decide +kernel
abbrev cX49_clock : ByteArray := prog_82_method_29_code
def yX49_clock : MethodName := ⟨RX49, "clock", "()V"⟩
theorem dX49_clock_0 : decode cX49_clock 0 = .ok (.iconst 0, 1) := by decide +kernel
theorem dX49_clock_1 : decode cX49_clock 1 = .ok (.istore_n 1, 1) := by decide +kernel
theorem dX49_clock_2 : decode cX49_clock 2 = .ok (.iconst 1, 1) := by decide +kernel
theorem dX49_clock_3 : decode cX49_clock 3 = .ok (.istore_n 2, 1) := by decide +kernel
theorem dX49_clock_4 : decode cX49_clock 4 = .ok (.iload_n 2, 1) := by decide +kernel
theorem dX49_clock_5 : decode cX49_clock 5 = .ok (.ifCond .eq 158, 3) := by decide +kernel
theorem dX49_clock_8 : decode cX49_clock 8 = .ok (.aload_n 0, 1) := by decide +kernel
theorem dX49_clock_9 : decode cX49_clock 9 = .ok (.invokevirtual 135, 3) := by decide +kernel
theorem dX49_clock_12 : decode cX49_clock 12 = .ok (.ifCond .eq 151, 3) := by decide +kernel
theorem dX49_clock_15 : decode cX49_clock 15 = .ok (.aload_n 0, 1) := by decide +kernel
theorem dX49_clock_16 : decode cX49_clock 16 = .ok (.iconst 1, 1) := by decide +kernel
theorem dX49_clock_17 : decode cX49_clock 17 = .ok (.bipush 6, 2) := by decide +kernel
theorem dX49_clock_19 : decode cX49_clock 19 = .ok (.invokevirtual 121, 3) := by decide +kernel
theorem dX49_clock_22 : decode cX49_clock 22 = .ok (.lstore_n 3, 1) := by decide +kernel
theorem dX49_clock_23 : decode cX49_clock 23 = .ok (.aload_n 0, 1) := by decide +kernel
theorem dX49_clock_24 : decode cX49_clock 24 = .ok (.bipush 46, 2) := by decide +kernel
theorem dX49_clock_26 : decode cX49_clock 26 = .ok (.invokevirtual 109, 3) := by decide +kernel
theorem dX49_clock_29 : decode cX49_clock 29 = .ok (.ifCond .eq 29, 3) := by decide +kernel
theorem dX49_clock_32 : decode cX49_clock 32 = .ok (.aload_n 0, 1) := by decide +kernel
theorem dX49_clock_33 : decode cX49_clock 33 = .ok (.dup, 1) := by decide +kernel
theorem dX49_clock_34 : decode cX49_clock 34 = .ok (.getfield 176, 3) := by decide +kernel
theorem dX49_clock_37 : decode cX49_clock 37 = .ok (.ldc2_w 161, 3) := by decide +kernel
theorem dX49_clock_40 : decode cX49_clock 40 = .ok (.lload_n 3, 1) := by decide +kernel
theorem dX49_clock_41 : decode cX49_clock 41 = .ok (.lmul, 1) := by decide +kernel
theorem dX49_clock_42 : decode cX49_clock 42 = .ok (.aload_n 0, 1) := by decide +kernel
theorem dX49_clock_43 : decode cX49_clock 43 = .ok (.invokevirtual 163, 3) := by decide +kernel
theorem dX49_clock_46 : decode cX49_clock 46 = .ok (.ladd, 1) := by decide +kernel
theorem dX49_clock_47 : decode cX49_clock 47 = .ok (.ladd, 1) := by decide +kernel
theorem dX49_clock_48 : decode cX49_clock 48 = .ok (.putfield 176, 3) := by decide +kernel
theorem dX49_clock_51 : decode cX49_clock 51 = .ok (.aload_n 0, 1) := by decide +kernel
theorem dX49_clock_52 : decode cX49_clock 52 = .ok (.bipush 83, 2) := by decide +kernel
theorem dX49_clock_54 : decode cX49_clock 54 = .ok (.invokevirtual 147, 3) := by decide +kernel
theorem dX49_clock_57 : decode cX49_clock 57 = .ok (.return_, 1) := by decide +kernel
theorem dX49_clock_58 : decode cX49_clock 58 = .ok (.aload_n 0, 1) := by decide +kernel
theorem dX49_clock_59 : decode cX49_clock 59 = .ok (.ldc 186, 2) := by decide +kernel
theorem dX49_clock_61 : decode cX49_clock 61 = .ok (.iload_n 1, 1) := by decide +kernel
theorem dX49_clock_62 : decode cX49_clock 62 = .ok (.invokevirtual 180, 3) := by decide +kernel
theorem dX49_clock_65 : decode cX49_clock 65 = .ok (.istore 5, 2) := by decide +kernel
theorem dX49_clock_67 : decode cX49_clock 67 = .ok (.aload_n 0, 1) := by decide +kernel
theorem dX49_clock_68 : decode cX49_clock 68 = .ok (.iload 5, 2) := by decide +kernel
theorem dX49_clock_70 : decode cX49_clock 70 = .ok (.iconst 3, 1) := by decide +kernel
theorem dX49_clock_71 : decode cX49_clock 71 = .ok (.if_icmp .ge 7, 3) := by decide +kernel
theorem dX49_clock_74 : decode cX49_clock 74 = .ok (.iconst 1, 1) := by decide +kernel
theorem dX49_clock_75 : decode cX49_clock 75 = .ok (.goto 4, 3) := by decide +kernel
theorem dX49_clock_78 : decode cX49_clock 78 = .ok (.iconst 0, 1) := by decide +kernel
theorem dX49_clock_79 : decode cX49_clock 79 = .ok (.aload_n 0, 1) := by decide +kernel
theorem dX49_clock_80 : decode cX49_clock 80 = .ok (.getfield 95, 3) := by decide +kernel
theorem dX49_clock_83 : decode cX49_clock 83 = .ok (.invokevirtual 105, 3) := by decide +kernel
theorem dX49_clock_86 : decode cX49_clock 86 = .ok (.aload_n 0, 1) := by decide +kernel
theorem dX49_clock_87 : decode cX49_clock 87 = .ok (.dup, 1) := by decide +kernel
theorem dX49_clock_88 : decode cX49_clock 88 = .ok (.getfield 95, 3) := by decide +kernel
theorem dX49_clock_91 : decode cX49_clock 91 = .ok (.iconst 1, 1) := by decide +kernel
theorem dX49_clock_92 : decode cX49_clock 92 = .ok (.iadd, 1) := by decide +kernel
theorem dX49_clock_93 : decode cX49_clock 93 = .ok (.putfield 95, 3) := by decide +kernel
theorem dX49_clock_96 : decode cX49_clock 96 = .ok (.aload_n 0, 1) := by decide +kernel
theorem dX49_clock_97 : decode cX49_clock 97 = .ok (.dup, 1) := by decide +kernel
theorem dX49_clock_98 : decode cX49_clock 98 = .ok (.getfield 176, 3) := by decide +kernel
theorem dX49_clock_101 : decode cX49_clock 101 = .ok (.iload 5, 2) := by decide +kernel
theorem dX49_clock_103 : decode cX49_clock 103 = .ok (.ifCond .ne 11, 3) := by decide +kernel
theorem dX49_clock_106 : decode cX49_clock 106 = .ok (.ldc2_w 166, 3) := by decide +kernel
theorem dX49_clock_109 : decode cX49_clock 109 = .ok (.lload_n 3, 1) := by decide +kernel
theorem dX49_clock_110 : decode cX49_clock 110 = .ok (.lmul, 1) := by decide +kernel
theorem dX49_clock_111 : decode cX49_clock 111 = .ok (.goto 22, 3) := by decide +kernel
theorem dX49_clock_114 : decode cX49_clock 114 = .ok (.iload 5, 2) := by decide +kernel
theorem dX49_clock_116 : decode cX49_clock 116 = .ok (.iconst 1, 1) := by decide +kernel
theorem dX49_clock_117 : decode cX49_clock 117 = .ok (.if_icmp .ne 11, 3) := by decide +kernel
theorem dX49_clock_120 : decode cX49_clock 120 = .ok (.ldc2_w 168, 3) := by decide +kernel
theorem dX49_clock_123 : decode cX49_clock 123 = .ok (.lload_n 3, 1) := by decide +kernel
theorem dX49_clock_124 : decode cX49_clock 124 = .ok (.lmul, 1) := by decide +kernel
theorem dX49_clock_125 : decode cX49_clock 125 = .ok (.goto 8, 3) := by decide +kernel
theorem dX49_clock_128 : decode cX49_clock 128 = .ok (.ldc2_w 161, 3) := by decide +kernel
theorem dX49_clock_131 : decode cX49_clock 131 = .ok (.lload_n 3, 1) := by decide +kernel
theorem dX49_clock_132 : decode cX49_clock 132 = .ok (.lmul, 1) := by decide +kernel
theorem dX49_clock_133 : decode cX49_clock 133 = .ok (.ladd, 1) := by decide +kernel
theorem dX49_clock_134 : decode cX49_clock 134 = .ok (.putfield 176, 3) := by decide +kernel
theorem dX49_clock_137 : decode cX49_clock 137 = .ok (.iload 5, 2) := by decide +kernel
theorem dX49_clock_139 : decode cX49_clock 139 = .ok (.iconst 1, 1) := by decide +kernel
theorem dX49_clock_140 : decode cX49_clock 140 = .ok (.iadd, 1) := by decide +kernel
theorem dX49_clock_141 : decode cX49_clock 141 = .ok (.istore_n 1, 1) := by decide +kernel
theorem dX49_clock_142 : decode cX49_clock 142 = .ok (.iload_n 1, 1) := by decide +kernel
theorem dX49_clock_143 : decode cX49_clock 143 = .ok (.iconst 3, 1) := by decide +kernel
theorem dX49_clock_144 : decode cX49_clock 144 = .ok (.if_icmp .ge 14, 3) := by decide +kernel
theorem dX49_clock_147 : decode cX49_clock 147 = .ok (.aload_n 0, 1) := by decide +kernel
theorem dX49_clock_148 : decode cX49_clock 148 = .ok (.invokevirtual 113, 3) := by decide +kernel
theorem dX49_clock_151 : decode cX49_clock 151 = .ok (.ifCond .eq 7, 3) := by decide +kernel
theorem dX49_clock_154 : decode cX49_clock 154 = .ok (.iconst 1, 1) := by decide +kernel
theorem dX49_clock_155 : decode cX49_clock 155 = .ok (.goto 4, 3) := by decide +kernel
theorem dX49_clock_158 : decode cX49_clock 158 = .ok (.iconst 0, 1) := by decide +kernel
theorem dX49_clock_159 : decode cX49_clock 159 = .ok (.istore_n 2, 1) := by decide +kernel
theorem dX49_clock_160 : decode cX49_clock 160 = .ok (.goto (-156), 3) := by decide +kernel
theorem dX49_clock_163 : decode cX49_clock 163 = .ok (.return_, 1) := by decide +kernel
abbrev cX49_hex : ByteArray := prog_82_method_31_code
def yX49_hex : MethodName := ⟨RX49, "hex", "()V"⟩
theorem dX49_hex_0 : decode cX49_hex 0 = .ok (.aload_n 0, 1) := by decide +kernel
theorem dX49_hex_1 : decode cX49_hex 1 = .ok (.invokevirtual 135, 3) := by decide +kernel
theorem dX49_hex_4 : decode cX49_hex 4 = .ok (.ifCond .eq 88, 3) := by decide +kernel
theorem dX49_hex_7 : decode cX49_hex 7 = .ok (.aload_n 0, 1) := by decide +kernel
theorem dX49_hex_8 : decode cX49_hex 8 = .ok (.getfield 95, 3) := by decide +kernel
theorem dX49_hex_11 : decode cX49_hex 11 = .ok (.aload_n 0, 1) := by decide +kernel
theorem dX49_hex_12 : decode cX49_hex 12 = .ok (.getfield 37, 3) := by decide +kernel
theorem dX49_hex_15 : decode cX49_hex 15 = .ok (.if_icmp .ge 77, 3) := by decide +kernel
theorem dX49_hex_18 : decode cX49_hex 18 = .ok (.aload_n 0, 1) := by decide +kernel
theorem dX49_hex_19 : decode cX49_hex 19 = .ok (.aload_n 0, 1) := by decide +kernel
theorem dX49_hex_20 : decode cX49_hex 20 = .ok (.getfield 187, 3) := by decide +kernel
theorem dX49_hex_23 : decode cX49_hex 23 = .ok (.bipush 20, 2) := by decide +kernel
theorem dX49_hex_25 : decode cX49_hex 25 = .ok (.if_icmp .ge 7, 3) := by decide +kernel
theorem dX49_hex_28 : decode cX49_hex 28 = .ok (.iconst 1, 1) := by decide +kernel
theorem dX49_hex_29 : decode cX49_hex 29 = .ok (.goto 4, 3) := by decide +kernel
theorem dX49_hex_32 : decode cX49_hex 32 = .ok (.iconst 0, 1) := by decide +kernel
theorem dX49_hex_33 : decode cX49_hex 33 = .ok (.aload_n 0, 1) := by decide +kernel
theorem dX49_hex_34 : decode cX49_hex 34 = .ok (.getfield 95, 3) := by decide +kernel
theorem dX49_hex_37 : decode cX49_hex 37 = .ok (.invokevirtual 105, 3) := by decide +kernel
theorem dX49_hex_40 : decode cX49_hex 40 = .ok (.aload_n 0, 1) := by decide +kernel
theorem dX49_hex_41 : decode cX49_hex 41 = .ok (.invokevirtual 190, 3) := by decide +kernel
theorem dX49_hex_44 : decode cX49_hex 44 = .ok (.istore_n 1, 1) := by decide +kernel
theorem dX49_hex_45 : decode cX49_hex 45 = .ok (.aload_n 0, 1) := by decide +kernel
theorem dX49_hex_46 : decode cX49_hex 46 = .ok (.invokevirtual 190, 3) := by decide +kernel
theorem dX49_hex_49 : decode cX49_hex 49 = .ok (.istore_n 2, 1) := by decide +kernel
theorem dX49_hex_50 : decode cX49_hex 50 = .ok (.aload_n 0, 1) := by decide +kernel
theorem dX49_hex_51 : decode cX49_hex 51 = .ok (.getfield 27, 3) := by decide +kernel
theorem dX49_hex_54 : decode cX49_hex 54 = .ok (.aload_n 0, 1) := by decide +kernel
theorem dX49_hex_55 : decode cX49_hex 55 = .ok (.getfield 187, 3) := by decide +kernel
theorem dX49_hex_58 : decode cX49_hex 58 = .ok (.bipush 25, 2) := by decide +kernel
theorem dX49_hex_60 : decode cX49_hex 60 = .ok (.if_icmp .ge 10, 3) := by decide +kernel
theorem dX49_hex_63 : decode cX49_hex 63 = .ok (.aload_n 0, 1) := by decide +kernel
theorem dX49_hex_64 : decode cX49_hex 64 = .ok (.getfield 187, 3) := by decide +kernel
theorem dX49_hex_67 : decode cX49_hex 67 = .ok (.goto 5, 3) := by decide +kernel
theorem dX49_hex_70 : decode cX49_hex 70 = .ok (.bipush 25, 2) := by decide +kernel
theorem dX49_hex_72 : decode cX49_hex 72 = .ok (.bipush 16, 2) := by decide +kernel
theorem dX49_hex_74 : decode cX49_hex 74 = .ok (.iload_n 1, 1) := by decide +kernel
theorem dX49_hex_75 : decode cX49_hex 75 = .ok (.imul, 1) := by decide +kernel
theorem dX49_hex_76 : decode cX49_hex 76 = .ok (.iload_n 2, 1) := by decide +kernel
theorem dX49_hex_77 : decode cX49_hex 77 = .ok (.iadd, 1) := by decide +kernel
theorem dX49_hex_78 : decode cX49_hex 78 = .ok (.iastore, 1) := by decide +kernel
theorem dX49_hex_79 : decode cX49_hex 79 = .ok (.aload_n 0, 1) := by decide +kernel
theorem dX49_hex_80 : decode cX49_hex 80 = .ok (.dup, 1) := by decide +kernel
theorem dX49_hex_81 : decode cX49_hex 81 = .ok (.getfield 187, 3) := by decide +kernel
theorem dX49_hex_84 : decode cX49_hex 84 = .ok (.iconst 1, 1) := by decide +kernel
theorem dX49_hex_85 : decode cX49_hex 85 = .ok (.iadd, 1) := by decide +kernel
theorem dX49_hex_86 : decode cX49_hex 86 = .ok (.putfield 187, 3) := by decide +kernel
theorem dX49_hex_89 : decode cX49_hex 89 = .ok (.goto (-89), 3) := by decide +kernel
theorem dX49_hex_92 : decode cX49_hex 92 = .ok (.return_, 1) := by decide +kernel
abbrev cX49_hexDigit : ByteArray := prog_82_method_30_code
def yX49_hexDigit : MethodName := ⟨RX49, "hexDigit", "()I"⟩
theorem dX49_hexDigit_0 : decode cX49_hexDigit 0 = .ok (.aload_n 0, 1) := by decide +kernel
theorem dX49_hexDigit_1 : decode cX49_hexDigit 1 = .ok (.invokevirtual 98, 3) := by decide +kernel
theorem dX49_hexDigit_4 : decode cX49_hexDigit 4 = .ok (.istore_n 1, 1) := by decide +kernel
theorem dX49_hexDigit_5 : decode cX49_hexDigit 5 = .ok (.iload_n 1, 1) := by decide +kernel
theorem dX49_hexDigit_6 : decode cX49_hexDigit 6 = .ok (.bipush 48, 2) := by decide +kernel
theorem dX49_hexDigit_8 : decode cX49_hexDigit 8 = .ok (.if_icmp .lt 16, 3) := by decide +kernel
theorem dX49_hexDigit_11 : decode cX49_hexDigit 11 = .ok (.iload_n 1, 1) := by decide +kernel
theorem dX49_hexDigit_12 : decode cX49_hexDigit 12 = .ok (.bipush 57, 2) := by decide +kernel
theorem dX49_hexDigit_14 : decode cX49_hexDigit 14 = .ok (.if_icmp .gt 10, 3) := by decide +kernel
theorem dX49_hexDigit_17 : decode cX49_hexDigit 17 = .ok (.iload_n 1, 1) := by decide +kernel
theorem dX49_hexDigit_18 : decode cX49_hexDigit 18 = .ok (.bipush 48, 2) := by decide +kernel
theorem dX49_hexDigit_20 : decode cX49_hexDigit 20 = .ok (.isub, 1) := by decide +kernel
theorem dX49_hexDigit_21 : decode cX49_hexDigit 21 = .ok (.goto 48, 3) := by decide +kernel
theorem dX49_hexDigit_24 : decode cX49_hexDigit 24 = .ok (.iload_n 1, 1) := by decide +kernel
theorem dX49_hexDigit_25 : decode cX49_hexDigit 25 = .ok (.bipush 97, 2) := by decide +kernel
theorem dX49_hexDigit_27 : decode cX49_hexDigit 27 = .ok (.if_icmp .lt 19, 3) := by decide +kernel
theorem dX49_hexDigit_30 : decode cX49_hexDigit 30 = .ok (.iload_n 1, 1) := by decide +kernel
theorem dX49_hexDigit_31 : decode cX49_hexDigit 31 = .ok (.bipush 102, 2) := by decide +kernel
theorem dX49_hexDigit_33 : decode cX49_hexDigit 33 = .ok (.if_icmp .gt 13, 3) := by decide +kernel
theorem dX49_hexDigit_36 : decode cX49_hexDigit 36 = .ok (.iload_n 1, 1) := by decide +kernel
theorem dX49_hexDigit_37 : decode cX49_hexDigit 37 = .ok (.bipush 97, 2) := by decide +kernel
theorem dX49_hexDigit_39 : decode cX49_hexDigit 39 = .ok (.isub, 1) := by decide +kernel
theorem dX49_hexDigit_40 : decode cX49_hexDigit 40 = .ok (.bipush 10, 2) := by decide +kernel
theorem dX49_hexDigit_42 : decode cX49_hexDigit 42 = .ok (.iadd, 1) := by decide +kernel
theorem dX49_hexDigit_43 : decode cX49_hexDigit 43 = .ok (.goto 26, 3) := by decide +kernel
theorem dX49_hexDigit_46 : decode cX49_hexDigit 46 = .ok (.iload_n 1, 1) := by decide +kernel
theorem dX49_hexDigit_47 : decode cX49_hexDigit 47 = .ok (.bipush 65, 2) := by decide +kernel
theorem dX49_hexDigit_49 : decode cX49_hexDigit 49 = .ok (.if_icmp .lt 19, 3) := by decide +kernel
theorem dX49_hexDigit_52 : decode cX49_hexDigit 52 = .ok (.iload_n 1, 1) := by decide +kernel
theorem dX49_hexDigit_53 : decode cX49_hexDigit 53 = .ok (.bipush 70, 2) := by decide +kernel
theorem dX49_hexDigit_55 : decode cX49_hexDigit 55 = .ok (.if_icmp .gt 13, 3) := by decide +kernel
theorem dX49_hexDigit_58 : decode cX49_hexDigit 58 = .ok (.iload_n 1, 1) := by decide +kernel
theorem dX49_hexDigit_59 : decode cX49_hexDigit 59 = .ok (.bipush 65, 2) := by decide +kernel
theorem dX49_hexDigit_61 : decode cX49_hexDigit 61 = .ok (.isub, 1) := by decide +kernel
theorem dX49_hexDigit_62 : decode cX49_hexDigit 62 = .ok (.bipush 10, 2) := by decide +kernel
theorem dX49_hexDigit_64 : decode cX49_hexDigit 64 = .ok (.iadd, 1) := by decide +kernel
theorem dX49_hexDigit_65 : decode cX49_hexDigit 65 = .ok (.goto 4, 3) := by decide +kernel
theorem dX49_hexDigit_68 : decode cX49_hexDigit 68 = .ok (.iconst (-1), 1) := by decide +kernel
theorem dX49_hexDigit_69 : decode cX49_hexDigit 69 = .ok (.istore_n 2, 1) := by decide +kernel
theorem dX49_hexDigit_70 : decode cX49_hexDigit 70 = .ok (.aload_n 0, 1) := by decide +kernel
theorem dX49_hexDigit_71 : decode cX49_hexDigit 71 = .ok (.iload_n 2, 1) := by decide +kernel
theorem dX49_hexDigit_72 : decode cX49_hexDigit 72 = .ok (.ifCond .lt 7, 3) := by decide +kernel
theorem dX49_hexDigit_75 : decode cX49_hexDigit 75 = .ok (.iconst 1, 1) := by decide +kernel
theorem dX49_hexDigit_76 : decode cX49_hexDigit 76 = .ok (.goto 4, 3) := by decide +kernel
theorem dX49_hexDigit_79 : decode cX49_hexDigit 79 = .ok (.iconst 0, 1) := by decide +kernel
theorem dX49_hexDigit_80 : decode cX49_hexDigit 80 = .ok (.aload_n 0, 1) := by decide +kernel
theorem dX49_hexDigit_81 : decode cX49_hexDigit 81 = .ok (.getfield 95, 3) := by decide +kernel
theorem dX49_hexDigit_84 : decode cX49_hexDigit 84 = .ok (.invokevirtual 105, 3) := by decide +kernel
theorem dX49_hexDigit_87 : decode cX49_hexDigit 87 = .ok (.aload_n 0, 1) := by decide +kernel
theorem dX49_hexDigit_88 : decode cX49_hexDigit 88 = .ok (.dup, 1) := by decide +kernel
theorem dX49_hexDigit_89 : decode cX49_hexDigit 89 = .ok (.getfield 95, 3) := by decide +kernel
theorem dX49_hexDigit_92 : decode cX49_hexDigit 92 = .ok (.iconst 1, 1) := by decide +kernel
theorem dX49_hexDigit_93 : decode cX49_hexDigit 93 = .ok (.iadd, 1) := by decide +kernel
theorem dX49_hexDigit_94 : decode cX49_hexDigit 94 = .ok (.putfield 95, 3) := by decide +kernel
theorem dX49_hexDigit_97 : decode cX49_hexDigit 97 = .ok (.iload_n 2, 1) := by decide +kernel
theorem dX49_hexDigit_98 : decode cX49_hexDigit 98 = .ok (.ireturn, 1) := by decide +kernel
abbrev cX49_base : ByteArray := prog_82_method_33_code
def yX49_base : MethodName := ⟨RX49, "base", "()V"⟩
theorem dX49_base_0 : decode cX49_base 0 = .ok (.iconst 0, 1) := by decide +kernel
theorem dX49_base_1 : decode cX49_base 1 = .ok (.istore_n 1, 1) := by decide +kernel
theorem dX49_base_2 : decode cX49_base 2 = .ok (.aload_n 0, 1) := by decide +kernel
theorem dX49_base_3 : decode cX49_base 3 = .ok (.invokevirtual 135, 3) := by decide +kernel
theorem dX49_base_6 : decode cX49_base 6 = .ok (.ifCond .eq 277, 3) := by decide +kernel
theorem dX49_base_9 : decode cX49_base 9 = .ok (.aload_n 0, 1) := by decide +kernel
theorem dX49_base_10 : decode cX49_base 10 = .ok (.getfield 95, 3) := by decide +kernel
theorem dX49_base_13 : decode cX49_base 13 = .ok (.aload_n 0, 1) := by decide +kernel
theorem dX49_base_14 : decode cX49_base 14 = .ok (.getfield 37, 3) := by decide +kernel
theorem dX49_base_17 : decode cX49_base 17 = .ok (.if_icmp .ge 266, 3) := by decide +kernel
theorem dX49_base_20 : decode cX49_base 20 = .ok (.iload_n 1, 1) := by decide +kernel
theorem dX49_base_21 : decode cX49_base 21 = .ok (.ifCond .ne 262, 3) := by decide +kernel
theorem dX49_base_24 : decode cX49_base 24 = .ok (.aload_n 0, 1) := by decide +kernel
theorem dX49_base_25 : decode cX49_base 25 = .ok (.invokevirtual 193, 3) := by decide +kernel
theorem dX49_base_28 : decode cX49_base 28 = .ok (.istore_n 2, 1) := by decide +kernel
theorem dX49_base_29 : decode cX49_base 29 = .ok (.aload_n 0, 1) := by decide +kernel
theorem dX49_base_30 : decode cX49_base 30 = .ok (.invokevirtual 193, 3) := by decide +kernel
theorem dX49_base_33 : decode cX49_base 33 = .ok (.istore_n 3, 1) := by decide +kernel
theorem dX49_base_34 : decode cX49_base 34 = .ok (.aload_n 0, 1) := by decide +kernel
theorem dX49_base_35 : decode cX49_base 35 = .ok (.getfield 27, 3) := by decide +kernel
theorem dX49_base_38 : decode cX49_base 38 = .ok (.aload_n 0, 1) := by decide +kernel
theorem dX49_base_39 : decode cX49_base 39 = .ok (.getfield 187, 3) := by decide +kernel
theorem dX49_base_42 : decode cX49_base 42 = .ok (.iconst 4, 1) := by decide +kernel
theorem dX49_base_43 : decode cX49_base 43 = .ok (.iload_n 2, 1) := by decide +kernel
theorem dX49_base_44 : decode cX49_base 44 = .ok (.imul, 1) := by decide +kernel
theorem dX49_base_45 : decode cX49_base 45 = .ok (.iload_n 3, 1) := by decide +kernel
theorem dX49_base_46 : decode cX49_base 46 = .ok (.bipush 16, 2) := by decide +kernel
theorem dX49_base_48 : decode cX49_base 48 = .ok (.idiv, 1) := by decide +kernel
theorem dX49_base_49 : decode cX49_base 49 = .ok (.iadd, 1) := by decide +kernel
theorem dX49_base_50 : decode cX49_base 50 = .ok (.iastore, 1) := by decide +kernel
theorem dX49_base_51 : decode cX49_base 51 = .ok (.aload_n 0, 1) := by decide +kernel
theorem dX49_base_52 : decode cX49_base 52 = .ok (.dup, 1) := by decide +kernel
theorem dX49_base_53 : decode cX49_base 53 = .ok (.getfield 187, 3) := by decide +kernel
theorem dX49_base_56 : decode cX49_base 56 = .ok (.iconst 1, 1) := by decide +kernel
theorem dX49_base_57 : decode cX49_base 57 = .ok (.iadd, 1) := by decide +kernel
theorem dX49_base_58 : decode cX49_base 58 = .ok (.putfield 187, 3) := by decide +kernel
theorem dX49_base_61 : decode cX49_base 61 = .ok (.aload_n 0, 1) := by decide +kernel
theorem dX49_base_62 : decode cX49_base 62 = .ok (.invokevirtual 98, 3) := by decide +kernel
theorem dX49_base_65 : decode cX49_base 65 = .ok (.bipush 61, 2) := by decide +kernel
theorem dX49_base_67 : decode cX49_base 67 = .ok (.if_icmp .ne 44, 3) := by decide +kernel
theorem dX49_base_70 : decode cX49_base 70 = .ok (.aload_n 0, 1) := by decide +kernel
theorem dX49_base_71 : decode cX49_base 71 = .ok (.iload_n 3, 1) := by decide +kernel
theorem dX49_base_72 : decode cX49_base 72 = .ok (.bipush 16, 2) := by decide +kernel
theorem dX49_base_74 : decode cX49_base 74 = .ok (.irem, 1) := by decide +kernel
theorem dX49_base_75 : decode cX49_base 75 = .ok (.ifCond .ne 7, 3) := by decide +kernel
theorem dX49_base_78 : decode cX49_base 78 = .ok (.iconst 1, 1) := by decide +kernel
theorem dX49_base_79 : decode cX49_base 79 = .ok (.goto 4, 3) := by decide +kernel
theorem dX49_base_82 : decode cX49_base 82 = .ok (.iconst 0, 1) := by decide +kernel
theorem dX49_base_83 : decode cX49_base 83 = .ok (.aload_n 0, 1) := by decide +kernel
theorem dX49_base_84 : decode cX49_base 84 = .ok (.getfield 95, 3) := by decide +kernel
theorem dX49_base_87 : decode cX49_base 87 = .ok (.invokevirtual 105, 3) := by decide +kernel
theorem dX49_base_90 : decode cX49_base 90 = .ok (.aload_n 0, 1) := by decide +kernel
theorem dX49_base_91 : decode cX49_base 91 = .ok (.dup, 1) := by decide +kernel
theorem dX49_base_92 : decode cX49_base 92 = .ok (.getfield 95, 3) := by decide +kernel
theorem dX49_base_95 : decode cX49_base 95 = .ok (.iconst 1, 1) := by decide +kernel
theorem dX49_base_96 : decode cX49_base 96 = .ok (.iadd, 1) := by decide +kernel
theorem dX49_base_97 : decode cX49_base 97 = .ok (.putfield 95, 3) := by decide +kernel
theorem dX49_base_100 : decode cX49_base 100 = .ok (.aload_n 0, 1) := by decide +kernel
theorem dX49_base_101 : decode cX49_base 101 = .ok (.bipush 61, 2) := by decide +kernel
theorem dX49_base_103 : decode cX49_base 103 = .ok (.invokevirtual 147, 3) := by decide +kernel
theorem dX49_base_106 : decode cX49_base 106 = .ok (.iconst 1, 1) := by decide +kernel
theorem dX49_base_107 : decode cX49_base 107 = .ok (.istore_n 1, 1) := by decide +kernel
theorem dX49_base_108 : decode cX49_base 108 = .ok (.goto (-106), 3) := by decide +kernel
theorem dX49_base_111 : decode cX49_base 111 = .ok (.aload_n 0, 1) := by decide +kernel
theorem dX49_base_112 : decode cX49_base 112 = .ok (.invokevirtual 193, 3) := by decide +kernel
theorem dX49_base_115 : decode cX49_base 115 = .ok (.istore 4, 2) := by decide +kernel
theorem dX49_base_117 : decode cX49_base 117 = .ok (.aload_n 0, 1) := by decide +kernel
theorem dX49_base_118 : decode cX49_base 118 = .ok (.getfield 27, 3) := by decide +kernel
theorem dX49_base_121 : decode cX49_base 121 = .ok (.aload_n 0, 1) := by decide +kernel
theorem dX49_base_122 : decode cX49_base 122 = .ok (.getfield 187, 3) := by decide +kernel
theorem dX49_base_125 : decode cX49_base 125 = .ok (.iload_n 3, 1) := by decide +kernel
theorem dX49_base_126 : decode cX49_base 126 = .ok (.bipush 16, 2) := by decide +kernel
theorem dX49_base_128 : decode cX49_base 128 = .ok (.irem, 1) := by decide +kernel
theorem dX49_base_129 : decode cX49_base 129 = .ok (.bipush 16, 2) := by decide +kernel
theorem dX49_base_131 : decode cX49_base 131 = .ok (.imul, 1) := by decide +kernel
theorem dX49_base_132 : decode cX49_base 132 = .ok (.iload 4, 2) := by decide +kernel
theorem dX49_base_134 : decode cX49_base 134 = .ok (.iconst 4, 1) := by decide +kernel
theorem dX49_base_135 : decode cX49_base 135 = .ok (.idiv, 1) := by decide +kernel
theorem dX49_base_136 : decode cX49_base 136 = .ok (.iadd, 1) := by decide +kernel
theorem dX49_base_137 : decode cX49_base 137 = .ok (.iastore, 1) := by decide +kernel
theorem dX49_base_138 : decode cX49_base 138 = .ok (.aload_n 0, 1) := by decide +kernel
theorem dX49_base_139 : decode cX49_base 139 = .ok (.dup, 1) := by decide +kernel
theorem dX49_base_140 : decode cX49_base 140 = .ok (.getfield 187, 3) := by decide +kernel
theorem dX49_base_143 : decode cX49_base 143 = .ok (.iconst 1, 1) := by decide +kernel
theorem dX49_base_144 : decode cX49_base 144 = .ok (.iadd, 1) := by decide +kernel
theorem dX49_base_145 : decode cX49_base 145 = .ok (.putfield 187, 3) := by decide +kernel
theorem dX49_base_148 : decode cX49_base 148 = .ok (.aload_n 0, 1) := by decide +kernel
theorem dX49_base_149 : decode cX49_base 149 = .ok (.aload_n 0, 1) := by decide +kernel
theorem dX49_base_150 : decode cX49_base 150 = .ok (.getfield 187, 3) := by decide +kernel
theorem dX49_base_153 : decode cX49_base 153 = .ok (.bipush 20, 2) := by decide +kernel
theorem dX49_base_155 : decode cX49_base 155 = .ok (.if_icmp .lt 10, 3) := by decide +kernel
theorem dX49_base_158 : decode cX49_base 158 = .ok (.iload 4, 2) := by decide +kernel
theorem dX49_base_160 : decode cX49_base 160 = .ok (.iconst 4, 1) := by decide +kernel
theorem dX49_base_161 : decode cX49_base 161 = .ok (.irem, 1) := by decide +kernel
theorem dX49_base_162 : decode cX49_base 162 = .ok (.ifCond .ne 7, 3) := by decide +kernel
theorem dX49_base_165 : decode cX49_base 165 = .ok (.iconst 1, 1) := by decide +kernel
theorem dX49_base_166 : decode cX49_base 166 = .ok (.goto 4, 3) := by decide +kernel
theorem dX49_base_169 : decode cX49_base 169 = .ok (.iconst 0, 1) := by decide +kernel
theorem dX49_base_170 : decode cX49_base 170 = .ok (.aload_n 0, 1) := by decide +kernel
theorem dX49_base_171 : decode cX49_base 171 = .ok (.getfield 95, 3) := by decide +kernel
theorem dX49_base_174 : decode cX49_base 174 = .ok (.iconst 1, 1) := by decide +kernel
theorem dX49_base_175 : decode cX49_base 175 = .ok (.isub, 1) := by decide +kernel
theorem dX49_base_176 : decode cX49_base 176 = .ok (.invokevirtual 105, 3) := by decide +kernel
theorem dX49_base_179 : decode cX49_base 179 = .ok (.aload_n 0, 1) := by decide +kernel
theorem dX49_base_180 : decode cX49_base 180 = .ok (.invokevirtual 98, 3) := by decide +kernel
theorem dX49_base_183 : decode cX49_base 183 = .ok (.bipush 61, 2) := by decide +kernel
theorem dX49_base_185 : decode cX49_base 185 = .ok (.if_icmp .ne 38, 3) := by decide +kernel
theorem dX49_base_188 : decode cX49_base 188 = .ok (.aload_n 0, 1) := by decide +kernel
theorem dX49_base_189 : decode cX49_base 189 = .ok (.iload 4, 2) := by decide +kernel
theorem dX49_base_191 : decode cX49_base 191 = .ok (.iconst 4, 1) := by decide +kernel
theorem dX49_base_192 : decode cX49_base 192 = .ok (.irem, 1) := by decide +kernel
theorem dX49_base_193 : decode cX49_base 193 = .ok (.ifCond .ne 7, 3) := by decide +kernel
theorem dX49_base_196 : decode cX49_base 196 = .ok (.iconst 1, 1) := by decide +kernel
theorem dX49_base_197 : decode cX49_base 197 = .ok (.goto 4, 3) := by decide +kernel
theorem dX49_base_200 : decode cX49_base 200 = .ok (.iconst 0, 1) := by decide +kernel
theorem dX49_base_201 : decode cX49_base 201 = .ok (.aload_n 0, 1) := by decide +kernel
theorem dX49_base_202 : decode cX49_base 202 = .ok (.getfield 95, 3) := by decide +kernel
theorem dX49_base_205 : decode cX49_base 205 = .ok (.invokevirtual 105, 3) := by decide +kernel
theorem dX49_base_208 : decode cX49_base 208 = .ok (.aload_n 0, 1) := by decide +kernel
theorem dX49_base_209 : decode cX49_base 209 = .ok (.dup, 1) := by decide +kernel
theorem dX49_base_210 : decode cX49_base 210 = .ok (.getfield 95, 3) := by decide +kernel
theorem dX49_base_213 : decode cX49_base 213 = .ok (.iconst 1, 1) := by decide +kernel
theorem dX49_base_214 : decode cX49_base 214 = .ok (.iadd, 1) := by decide +kernel
theorem dX49_base_215 : decode cX49_base 215 = .ok (.putfield 95, 3) := by decide +kernel
theorem dX49_base_218 : decode cX49_base 218 = .ok (.iconst 1, 1) := by decide +kernel
theorem dX49_base_219 : decode cX49_base 219 = .ok (.istore_n 1, 1) := by decide +kernel
theorem dX49_base_220 : decode cX49_base 220 = .ok (.goto (-218), 3) := by decide +kernel
theorem dX49_base_223 : decode cX49_base 223 = .ok (.aload_n 0, 1) := by decide +kernel
theorem dX49_base_224 : decode cX49_base 224 = .ok (.aload_n 0, 1) := by decide +kernel
theorem dX49_base_225 : decode cX49_base 225 = .ok (.getfield 187, 3) := by decide +kernel
theorem dX49_base_228 : decode cX49_base 228 = .ok (.bipush 20, 2) := by decide +kernel
theorem dX49_base_230 : decode cX49_base 230 = .ok (.if_icmp .ge 7, 3) := by decide +kernel
theorem dX49_base_233 : decode cX49_base 233 = .ok (.iconst 1, 1) := by decide +kernel
theorem dX49_base_234 : decode cX49_base 234 = .ok (.goto 4, 3) := by decide +kernel
theorem dX49_base_237 : decode cX49_base 237 = .ok (.iconst 0, 1) := by decide +kernel
theorem dX49_base_238 : decode cX49_base 238 = .ok (.aload_n 0, 1) := by decide +kernel
theorem dX49_base_239 : decode cX49_base 239 = .ok (.getfield 95, 3) := by decide +kernel
theorem dX49_base_242 : decode cX49_base 242 = .ok (.invokevirtual 105, 3) := by decide +kernel
theorem dX49_base_245 : decode cX49_base 245 = .ok (.aload_n 0, 1) := by decide +kernel
theorem dX49_base_246 : decode cX49_base 246 = .ok (.invokevirtual 193, 3) := by decide +kernel
theorem dX49_base_249 : decode cX49_base 249 = .ok (.istore 5, 2) := by decide +kernel
theorem dX49_base_251 : decode cX49_base 251 = .ok (.aload_n 0, 1) := by decide +kernel
theorem dX49_base_252 : decode cX49_base 252 = .ok (.getfield 27, 3) := by decide +kernel
theorem dX49_base_255 : decode cX49_base 255 = .ok (.aload_n 0, 1) := by decide +kernel
theorem dX49_base_256 : decode cX49_base 256 = .ok (.getfield 187, 3) := by decide +kernel
theorem dX49_base_259 : decode cX49_base 259 = .ok (.iload 4, 2) := by decide +kernel
theorem dX49_base_261 : decode cX49_base 261 = .ok (.iconst 4, 1) := by decide +kernel
theorem dX49_base_262 : decode cX49_base 262 = .ok (.irem, 1) := by decide +kernel
theorem dX49_base_263 : decode cX49_base 263 = .ok (.bipush 64, 2) := by decide +kernel
theorem dX49_base_265 : decode cX49_base 265 = .ok (.imul, 1) := by decide +kernel
theorem dX49_base_266 : decode cX49_base 266 = .ok (.iload 5, 2) := by decide +kernel
theorem dX49_base_268 : decode cX49_base 268 = .ok (.iadd, 1) := by decide +kernel
theorem dX49_base_269 : decode cX49_base 269 = .ok (.iastore, 1) := by decide +kernel
theorem dX49_base_270 : decode cX49_base 270 = .ok (.aload_n 0, 1) := by decide +kernel
theorem dX49_base_271 : decode cX49_base 271 = .ok (.dup, 1) := by decide +kernel
theorem dX49_base_272 : decode cX49_base 272 = .ok (.getfield 187, 3) := by decide +kernel
theorem dX49_base_275 : decode cX49_base 275 = .ok (.iconst 1, 1) := by decide +kernel
theorem dX49_base_276 : decode cX49_base 276 = .ok (.iadd, 1) := by decide +kernel
theorem dX49_base_277 : decode cX49_base 277 = .ok (.putfield 187, 3) := by decide +kernel
theorem dX49_base_280 : decode cX49_base 280 = .ok (.goto (-278), 3) := by decide +kernel
theorem dX49_base_283 : decode cX49_base 283 = .ok (.return_, 1) := by decide +kernel
abbrev cX49_sixBits : ByteArray := prog_82_method_32_code
def yX49_sixBits : MethodName := ⟨RX49, "sixBits", "()I"⟩
theorem dX49_sixBits_0 : decode cX49_sixBits 0 = .ok (.aload_n 0, 1) := by decide +kernel
theorem dX49_sixBits_1 : decode cX49_sixBits 1 = .ok (.invokevirtual 98, 3) := by decide +kernel
theorem dX49_sixBits_4 : decode cX49_sixBits 4 = .ok (.istore_n 1, 1) := by decide +kernel
theorem dX49_sixBits_5 : decode cX49_sixBits 5 = .ok (.iload_n 1, 1) := by decide +kernel
theorem dX49_sixBits_6 : decode cX49_sixBits 6 = .ok (.bipush 65, 2) := by decide +kernel
theorem dX49_sixBits_8 : decode cX49_sixBits 8 = .ok (.if_icmp .lt 16, 3) := by decide +kernel
theorem dX49_sixBits_11 : decode cX49_sixBits 11 = .ok (.iload_n 1, 1) := by decide +kernel
theorem dX49_sixBits_12 : decode cX49_sixBits 12 = .ok (.bipush 90, 2) := by decide +kernel
theorem dX49_sixBits_14 : decode cX49_sixBits 14 = .ok (.if_icmp .gt 10, 3) := by decide +kernel
theorem dX49_sixBits_17 : decode cX49_sixBits 17 = .ok (.iload_n 1, 1) := by decide +kernel
theorem dX49_sixBits_18 : decode cX49_sixBits 18 = .ok (.bipush 65, 2) := by decide +kernel
theorem dX49_sixBits_20 : decode cX49_sixBits 20 = .ok (.isub, 1) := by decide +kernel
theorem dX49_sixBits_21 : decode cX49_sixBits 21 = .ok (.goto 70, 3) := by decide +kernel
theorem dX49_sixBits_24 : decode cX49_sixBits 24 = .ok (.iload_n 1, 1) := by decide +kernel
theorem dX49_sixBits_25 : decode cX49_sixBits 25 = .ok (.bipush 97, 2) := by decide +kernel
theorem dX49_sixBits_27 : decode cX49_sixBits 27 = .ok (.if_icmp .lt 19, 3) := by decide +kernel
theorem dX49_sixBits_30 : decode cX49_sixBits 30 = .ok (.iload_n 1, 1) := by decide +kernel
theorem dX49_sixBits_31 : decode cX49_sixBits 31 = .ok (.bipush 122, 2) := by decide +kernel
theorem dX49_sixBits_33 : decode cX49_sixBits 33 = .ok (.if_icmp .gt 13, 3) := by decide +kernel
theorem dX49_sixBits_36 : decode cX49_sixBits 36 = .ok (.iload_n 1, 1) := by decide +kernel
theorem dX49_sixBits_37 : decode cX49_sixBits 37 = .ok (.bipush 97, 2) := by decide +kernel
theorem dX49_sixBits_39 : decode cX49_sixBits 39 = .ok (.isub, 1) := by decide +kernel
theorem dX49_sixBits_40 : decode cX49_sixBits 40 = .ok (.bipush 26, 2) := by decide +kernel
theorem dX49_sixBits_42 : decode cX49_sixBits 42 = .ok (.iadd, 1) := by decide +kernel
theorem dX49_sixBits_43 : decode cX49_sixBits 43 = .ok (.goto 48, 3) := by decide +kernel
theorem dX49_sixBits_46 : decode cX49_sixBits 46 = .ok (.iload_n 1, 1) := by decide +kernel
theorem dX49_sixBits_47 : decode cX49_sixBits 47 = .ok (.bipush 48, 2) := by decide +kernel
theorem dX49_sixBits_49 : decode cX49_sixBits 49 = .ok (.if_icmp .lt 19, 3) := by decide +kernel
theorem dX49_sixBits_52 : decode cX49_sixBits 52 = .ok (.iload_n 1, 1) := by decide +kernel
theorem dX49_sixBits_53 : decode cX49_sixBits 53 = .ok (.bipush 57, 2) := by decide +kernel
theorem dX49_sixBits_55 : decode cX49_sixBits 55 = .ok (.if_icmp .gt 13, 3) := by decide +kernel
theorem dX49_sixBits_58 : decode cX49_sixBits 58 = .ok (.iload_n 1, 1) := by decide +kernel
theorem dX49_sixBits_59 : decode cX49_sixBits 59 = .ok (.bipush 48, 2) := by decide +kernel
theorem dX49_sixBits_61 : decode cX49_sixBits 61 = .ok (.isub, 1) := by decide +kernel
theorem dX49_sixBits_62 : decode cX49_sixBits 62 = .ok (.bipush 52, 2) := by decide +kernel
theorem dX49_sixBits_64 : decode cX49_sixBits 64 = .ok (.iadd, 1) := by decide +kernel
theorem dX49_sixBits_65 : decode cX49_sixBits 65 = .ok (.goto 26, 3) := by decide +kernel
theorem dX49_sixBits_68 : decode cX49_sixBits 68 = .ok (.iload_n 1, 1) := by decide +kernel
theorem dX49_sixBits_69 : decode cX49_sixBits 69 = .ok (.bipush 43, 2) := by decide +kernel
theorem dX49_sixBits_71 : decode cX49_sixBits 71 = .ok (.if_icmp .ne 8, 3) := by decide +kernel
theorem dX49_sixBits_74 : decode cX49_sixBits 74 = .ok (.bipush 62, 2) := by decide +kernel
theorem dX49_sixBits_76 : decode cX49_sixBits 76 = .ok (.goto 15, 3) := by decide +kernel
theorem dX49_sixBits_79 : decode cX49_sixBits 79 = .ok (.iload_n 1, 1) := by decide +kernel
theorem dX49_sixBits_80 : decode cX49_sixBits 80 = .ok (.bipush 47, 2) := by decide +kernel
theorem dX49_sixBits_82 : decode cX49_sixBits 82 = .ok (.if_icmp .ne 8, 3) := by decide +kernel
theorem dX49_sixBits_85 : decode cX49_sixBits 85 = .ok (.bipush 63, 2) := by decide +kernel
theorem dX49_sixBits_87 : decode cX49_sixBits 87 = .ok (.goto 4, 3) := by decide +kernel
theorem dX49_sixBits_90 : decode cX49_sixBits 90 = .ok (.iconst (-1), 1) := by decide +kernel
theorem dX49_sixBits_91 : decode cX49_sixBits 91 = .ok (.istore_n 2, 1) := by decide +kernel
theorem dX49_sixBits_92 : decode cX49_sixBits 92 = .ok (.aload_n 0, 1) := by decide +kernel
theorem dX49_sixBits_93 : decode cX49_sixBits 93 = .ok (.iload_n 2, 1) := by decide +kernel
theorem dX49_sixBits_94 : decode cX49_sixBits 94 = .ok (.ifCond .lt 7, 3) := by decide +kernel
theorem dX49_sixBits_97 : decode cX49_sixBits 97 = .ok (.iconst 1, 1) := by decide +kernel
theorem dX49_sixBits_98 : decode cX49_sixBits 98 = .ok (.goto 4, 3) := by decide +kernel
theorem dX49_sixBits_101 : decode cX49_sixBits 101 = .ok (.iconst 0, 1) := by decide +kernel
theorem dX49_sixBits_102 : decode cX49_sixBits 102 = .ok (.aload_n 0, 1) := by decide +kernel
theorem dX49_sixBits_103 : decode cX49_sixBits 103 = .ok (.getfield 95, 3) := by decide +kernel
theorem dX49_sixBits_106 : decode cX49_sixBits 106 = .ok (.invokevirtual 105, 3) := by decide +kernel
theorem dX49_sixBits_109 : decode cX49_sixBits 109 = .ok (.aload_n 0, 1) := by decide +kernel
theorem dX49_sixBits_110 : decode cX49_sixBits 110 = .ok (.dup, 1) := by decide +kernel
theorem dX49_sixBits_111 : decode cX49_sixBits 111 = .ok (.getfield 95, 3) := by decide +kernel
theorem dX49_sixBits_114 : decode cX49_sixBits 114 = .ok (.iconst 1, 1) := by decide +kernel
theorem dX49_sixBits_115 : decode cX49_sixBits 115 = .ok (.iadd, 1) := by decide +kernel
theorem dX49_sixBits_116 : decode cX49_sixBits 116 = .ok (.putfield 95, 3) := by decide +kernel
theorem dX49_sixBits_119 : decode cX49_sixBits 119 = .ok (.iload_n 2, 1) := by decide +kernel
theorem dX49_sixBits_120 : decode cX49_sixBits 120 = .ok (.ireturn, 1) := by decide +kernel
abbrev cX49_number : ByteArray := prog_82_method_21_code
def yX49_number : MethodName := ⟨RX49, "number", "(I)V"⟩
theorem dX49_number_0 : decode cX49_number 0 = .ok (.aload_n 0, 1) := by decide +kernel
theorem dX49_number_1 : decode cX49_number 1 = .ok (.bipush 45, 2) := by decide +kernel
theorem dX49_number_3 : decode cX49_number 3 = .ok (.invokevirtual 109, 3) := by decide +kernel
theorem dX49_number_6 : decode cX49_number 6 = .ok (.istore_n 2, 1) := by decide +kernel
theorem dX49_number_7 : decode cX49_number 7 = .ok (.iload_n 2, 1) := by decide +kernel
theorem dX49_number_8 : decode cX49_number 8 = .ok (.ifCond .ne 10, 3) := by decide +kernel
theorem dX49_number_11 : decode cX49_number 11 = .ok (.aload_n 0, 1) := by decide +kernel
theorem dX49_number_12 : decode cX49_number 12 = .ok (.bipush 43, 2) := by decide +kernel
theorem dX49_number_14 : decode cX49_number 14 = .ok (.invokevirtual 109, 3) := by decide +kernel
theorem dX49_number_17 : decode cX49_number 17 = .ok (.pop, 1) := by decide +kernel
theorem dX49_number_18 : decode cX49_number 18 = .ok (.aload_n 0, 1) := by decide +kernel
theorem dX49_number_19 : decode cX49_number 19 = .ok (.getfield 95, 3) := by decide +kernel
theorem dX49_number_22 : decode cX49_number 22 = .ok (.istore_n 3, 1) := by decide +kernel
theorem dX49_number_23 : decode cX49_number 23 = .ok (.aload_n 0, 1) := by decide +kernel
theorem dX49_number_24 : decode cX49_number 24 = .ok (.aload_n 0, 1) := by decide +kernel
theorem dX49_number_25 : decode cX49_number 25 = .ok (.iconst 1, 1) := by decide +kernel
theorem dX49_number_26 : decode cX49_number 26 = .ok (.bipush 9, 2) := by decide +kernel
theorem dX49_number_28 : decode cX49_number 28 = .ok (.invokevirtual 121, 3) := by decide +kernel
theorem dX49_number_31 : decode cX49_number 31 = .ok (.putfield 125, 3) := by decide +kernel
theorem dX49_number_34 : decode cX49_number 34 = .ok (.iload_n 2, 1) := by decide +kernel
theorem dX49_number_35 : decode cX49_number 35 = .ok (.ifCond .eq 12, 3) := by decide +kernel
theorem dX49_number_38 : decode cX49_number 38 = .ok (.aload_n 0, 1) := by decide +kernel
theorem dX49_number_39 : decode cX49_number 39 = .ok (.aload_n 0, 1) := by decide +kernel
theorem dX49_number_40 : decode cX49_number 40 = .ok (.getfield 125, 3) := by decide +kernel
theorem dX49_number_43 : decode cX49_number 43 = .ok (.lneg, 1) := by decide +kernel
theorem dX49_number_44 : decode cX49_number 44 = .ok (.putfield 125, 3) := by decide +kernel
theorem dX49_number_47 : decode cX49_number 47 = .ok (.aload_n 0, 1) := by decide +kernel
theorem dX49_number_48 : decode cX49_number 48 = .ok (.iload_n 1, 1) := by decide +kernel
theorem dX49_number_49 : decode cX49_number 49 = .ok (.iconst 1, 1) := by decide +kernel
theorem dX49_number_50 : decode cX49_number 50 = .ok (.if_icmp .ne 25, 3) := by decide +kernel
theorem dX49_number_53 : decode cX49_number 53 = .ok (.aload_n 0, 1) := by decide +kernel
theorem dX49_number_54 : decode cX49_number 54 = .ok (.getfield 125, 3) := by decide +kernel
theorem dX49_number_57 : decode cX49_number 57 = .ok (.ldc2_w 128, 3) := by decide +kernel
theorem dX49_number_60 : decode cX49_number 60 = .ok (.lcmp, 1) := by decide +kernel
theorem dX49_number_61 : decode cX49_number 61 = .ok (.ifCond .le 18, 3) := by decide +kernel
theorem dX49_number_64 : decode cX49_number 64 = .ok (.aload_n 0, 1) := by decide +kernel
theorem dX49_number_65 : decode cX49_number 65 = .ok (.getfield 125, 3) := by decide +kernel
theorem dX49_number_68 : decode cX49_number 68 = .ok (.ldc2_w 130, 3) := by decide +kernel
theorem dX49_number_71 : decode cX49_number 71 = .ok (.lcmp, 1) := by decide +kernel
theorem dX49_number_72 : decode cX49_number 72 = .ok (.ifCond .ge 7, 3) := by decide +kernel
theorem dX49_number_75 : decode cX49_number 75 = .ok (.iconst 1, 1) := by decide +kernel
theorem dX49_number_76 : decode cX49_number 76 = .ok (.goto 4, 3) := by decide +kernel
theorem dX49_number_79 : decode cX49_number 79 = .ok (.iconst 0, 1) := by decide +kernel
theorem dX49_number_80 : decode cX49_number 80 = .ok (.iload_n 3, 1) := by decide +kernel
theorem dX49_number_81 : decode cX49_number 81 = .ok (.invokevirtual 105, 3) := by decide +kernel
theorem dX49_number_84 : decode cX49_number 84 = .ok (.aload_n 0, 1) := by decide +kernel
theorem dX49_number_85 : decode cX49_number 85 = .ok (.lconst 1, 1) := by decide +kernel
theorem dX49_number_86 : decode cX49_number 86 = .ok (.putfield 132, 3) := by decide +kernel
theorem dX49_number_89 : decode cX49_number 89 = .ok (.iload_n 1, 1) := by decide +kernel
theorem dX49_number_90 : decode cX49_number 90 = .ok (.iconst 2, 1) := by decide +kernel
theorem dX49_number_91 : decode cX49_number 91 = .ok (.if_icmp .ne 12, 3) := by decide +kernel
theorem dX49_number_94 : decode cX49_number 94 = .ok (.aload_n 0, 1) := by decide +kernel
theorem dX49_number_95 : decode cX49_number 95 = .ok (.bipush 47, 2) := by decide +kernel
theorem dX49_number_97 : decode cX49_number 97 = .ok (.invokevirtual 109, 3) := by decide +kernel
theorem dX49_number_100 : decode cX49_number 100 = .ok (.ifCond .ne 4, 3) := by decide +kernel
theorem dX49_number_103 : decode cX49_number 103 = .ok (.return_, 1) := by decide +kernel
theorem dX49_number_104 : decode cX49_number 104 = .ok (.aload_n 0, 1) := by decide +kernel
theorem dX49_number_105 : decode cX49_number 105 = .ok (.getfield 95, 3) := by decide +kernel
theorem dX49_number_108 : decode cX49_number 108 = .ok (.istore_n 3, 1) := by decide +kernel
theorem dX49_number_109 : decode cX49_number 109 = .ok (.aload_n 0, 1) := by decide +kernel
theorem dX49_number_110 : decode cX49_number 110 = .ok (.aload_n 0, 1) := by decide +kernel
theorem dX49_number_111 : decode cX49_number 111 = .ok (.iconst 1, 1) := by decide +kernel
theorem dX49_number_112 : decode cX49_number 112 = .ok (.bipush 9, 2) := by decide +kernel
theorem dX49_number_114 : decode cX49_number 114 = .ok (.invokevirtual 121, 3) := by decide +kernel
theorem dX49_number_117 : decode cX49_number 117 = .ok (.putfield 132, 3) := by decide +kernel
theorem dX49_number_120 : decode cX49_number 120 = .ok (.aload_n 0, 1) := by decide +kernel
theorem dX49_number_121 : decode cX49_number 121 = .ok (.aload_n 0, 1) := by decide +kernel
theorem dX49_number_122 : decode cX49_number 122 = .ok (.getfield 132, 3) := by decide +kernel
theorem dX49_number_125 : decode cX49_number 125 = .ok (.lconst 0, 1) := by decide +kernel
theorem dX49_number_126 : decode cX49_number 126 = .ok (.lcmp, 1) := by decide +kernel
theorem dX49_number_127 : decode cX49_number 127 = .ok (.ifCond .eq 7, 3) := by decide +kernel
theorem dX49_number_130 : decode cX49_number 130 = .ok (.iconst 1, 1) := by decide +kernel
theorem dX49_number_131 : decode cX49_number 131 = .ok (.goto 4, 3) := by decide +kernel
theorem dX49_number_134 : decode cX49_number 134 = .ok (.iconst 0, 1) := by decide +kernel
theorem dX49_number_135 : decode cX49_number 135 = .ok (.iload_n 3, 1) := by decide +kernel
theorem dX49_number_136 : decode cX49_number 136 = .ok (.invokevirtual 105, 3) := by decide +kernel
theorem dX49_number_139 : decode cX49_number 139 = .ok (.aload_n 0, 1) := by decide +kernel
theorem dX49_number_140 : decode cX49_number 140 = .ok (.invokevirtual 135, 3) := by decide +kernel
theorem dX49_number_143 : decode cX49_number 143 = .ok (.ifCond .ne 4, 3) := by decide +kernel
theorem dX49_number_146 : decode cX49_number 146 = .ok (.return_, 1) := by decide +kernel
theorem dX49_number_147 : decode cX49_number 147 = .ok (.aload_n 0, 1) := by decide +kernel
theorem dX49_number_148 : decode cX49_number 148 = .ok (.getfield 125, 3) := by decide +kernel
theorem dX49_number_151 : decode cX49_number 151 = .ok (.aload_n 0, 1) := by decide +kernel
theorem dX49_number_152 : decode cX49_number 152 = .ok (.getfield 132, 3) := by decide +kernel
theorem dX49_number_155 : decode cX49_number 155 = .ok (.invokestatic 138, 3) := by decide +kernel
theorem dX49_number_158 : decode cX49_number 158 = .ok (.lstore 4, 2) := by decide +kernel
theorem dX49_number_160 : decode cX49_number 160 = .ok (.aload_n 0, 1) := by decide +kernel
theorem dX49_number_161 : decode cX49_number 161 = .ok (.aload_n 0, 1) := by decide +kernel
theorem dX49_number_162 : decode cX49_number 162 = .ok (.getfield 125, 3) := by decide +kernel
theorem dX49_number_165 : decode cX49_number 165 = .ok (.lload 4, 2) := by decide +kernel
theorem dX49_number_167 : decode cX49_number 167 = .ok (.ldiv, 1) := by decide +kernel
theorem dX49_number_168 : decode cX49_number 168 = .ok (.putfield 125, 3) := by decide +kernel
theorem dX49_number_171 : decode cX49_number 171 = .ok (.aload_n 0, 1) := by decide +kernel
theorem dX49_number_172 : decode cX49_number 172 = .ok (.aload_n 0, 1) := by decide +kernel
theorem dX49_number_173 : decode cX49_number 173 = .ok (.getfield 132, 3) := by decide +kernel
theorem dX49_number_176 : decode cX49_number 176 = .ok (.lload 4, 2) := by decide +kernel
theorem dX49_number_178 : decode cX49_number 178 = .ok (.ldiv, 1) := by decide +kernel
theorem dX49_number_179 : decode cX49_number 179 = .ok (.putfield 132, 3) := by decide +kernel
theorem dX49_number_182 : decode cX49_number 182 = .ok (.return_, 1) := by decide +kernel
abbrev cX49_divisor : ByteArray := prog_82_method_20_code
def yX49_divisor : MethodName := ⟨RX49, "divisor", "(JJ)J"⟩
theorem dX49_divisor_0 : decode cX49_divisor 0 = .ok (.lload_n 0, 1) := by decide +kernel
theorem dX49_divisor_1 : decode cX49_divisor 1 = .ok (.lconst 0, 1) := by decide +kernel
theorem dX49_divisor_2 : decode cX49_divisor 2 = .ok (.lcmp, 1) := by decide +kernel
theorem dX49_divisor_3 : decode cX49_divisor 3 = .ok (.ifCond .ge 8, 3) := by decide +kernel
theorem dX49_divisor_6 : decode cX49_divisor 6 = .ok (.lload_n 0, 1) := by decide +kernel
theorem dX49_divisor_7 : decode cX49_divisor 7 = .ok (.lneg, 1) := by decide +kernel
theorem dX49_divisor_8 : decode cX49_divisor 8 = .ok (.goto 4, 3) := by decide +kernel
theorem dX49_divisor_11 : decode cX49_divisor 11 = .ok (.lload_n 0, 1) := by decide +kernel
theorem dX49_divisor_12 : decode cX49_divisor 12 = .ok (.lstore 4, 2) := by decide +kernel
theorem dX49_divisor_14 : decode cX49_divisor 14 = .ok (.lload_n 2, 1) := by decide +kernel
theorem dX49_divisor_15 : decode cX49_divisor 15 = .ok (.lstore 6, 2) := by decide +kernel
theorem dX49_divisor_17 : decode cX49_divisor 17 = .ok (.lload 6, 2) := by decide +kernel
theorem dX49_divisor_19 : decode cX49_divisor 19 = .ok (.lconst 0, 1) := by decide +kernel
theorem dX49_divisor_20 : decode cX49_divisor 20 = .ok (.lcmp, 1) := by decide +kernel
theorem dX49_divisor_21 : decode cX49_divisor 21 = .ok (.ifCond .eq 21, 3) := by decide +kernel
theorem dX49_divisor_24 : decode cX49_divisor 24 = .ok (.lload 4, 2) := by decide +kernel
theorem dX49_divisor_26 : decode cX49_divisor 26 = .ok (.lload 6, 2) := by decide +kernel
theorem dX49_divisor_28 : decode cX49_divisor 28 = .ok (.lrem, 1) := by decide +kernel
theorem dX49_divisor_29 : decode cX49_divisor 29 = .ok (.lstore 8, 2) := by decide +kernel
theorem dX49_divisor_31 : decode cX49_divisor 31 = .ok (.lload 6, 2) := by decide +kernel
theorem dX49_divisor_33 : decode cX49_divisor 33 = .ok (.lstore 4, 2) := by decide +kernel
theorem dX49_divisor_35 : decode cX49_divisor 35 = .ok (.lload 8, 2) := by decide +kernel
theorem dX49_divisor_37 : decode cX49_divisor 37 = .ok (.lstore 6, 2) := by decide +kernel
theorem dX49_divisor_39 : decode cX49_divisor 39 = .ok (.goto (-22), 3) := by decide +kernel
theorem dX49_divisor_42 : decode cX49_divisor 42 = .ok (.lload 4, 2) := by decide +kernel
theorem dX49_divisor_44 : decode cX49_divisor 44 = .ok (.lreturn, 1) := by decide +kernel
abbrev cX49_keep : ByteArray := prog_82_method_36_code
def yX49_keep : MethodName := ⟨RX49, "keep", "(I)I"⟩
theorem dX49_keep_0 : decode cX49_keep 0 = .ok (.aload_n 0, 1) := by decide +kernel
theorem dX49_keep_1 : decode cX49_keep 1 = .ok (.getfield 221, 3) := by decide +kernel
theorem dX49_keep_4 : decode cX49_keep 4 = .ok (.sipush 200, 3) := by decide +kernel
theorem dX49_keep_7 : decode cX49_keep 7 = .ok (.if_icmp .ne 6, 3) := by decide +kernel
theorem dX49_keep_10 : decode cX49_keep 10 = .ok (.bipush (-3), 2) := by decide +kernel
theorem dX49_keep_12 : decode cX49_keep 12 = .ok (.ireturn, 1) := by decide +kernel
theorem dX49_keep_13 : decode cX49_keep 13 = .ok (.aload_n 0, 1) := by decide +kernel
theorem dX49_keep_14 : decode cX49_keep 14 = .ok (.getfield 7, 3) := by decide +kernel
theorem dX49_keep_17 : decode cX49_keep 17 = .ok (.aload_n 0, 1) := by decide +kernel
theorem dX49_keep_18 : decode cX49_keep 18 = .ok (.getfield 221, 3) := by decide +kernel
theorem dX49_keep_21 : decode cX49_keep 21 = .ok (.iload_n 1, 1) := by decide +kernel
theorem dX49_keep_22 : decode cX49_keep 22 = .ok (.iastore, 1) := by decide +kernel
theorem dX49_keep_23 : decode cX49_keep 23 = .ok (.aload_n 0, 1) := by decide +kernel
theorem dX49_keep_24 : decode cX49_keep 24 = .ok (.getfield 13, 3) := by decide +kernel
theorem dX49_keep_27 : decode cX49_keep 27 = .ok (.aload_n 0, 1) := by decide +kernel
theorem dX49_keep_28 : decode cX49_keep 28 = .ok (.getfield 221, 3) := by decide +kernel
theorem dX49_keep_31 : decode cX49_keep 31 = .ok (.iload_n 1, 1) := by decide +kernel
theorem dX49_keep_32 : decode cX49_keep 32 = .ok (.bipush 6, 2) := by decide +kernel
theorem dX49_keep_34 : decode cX49_keep 34 = .ok (.if_icmp .le 11, 3) := by decide +kernel
theorem dX49_keep_37 : decode cX49_keep 37 = .ok (.aload_n 0, 1) := by decide +kernel
theorem dX49_keep_38 : decode cX49_keep 38 = .ok (.getfield 187, 3) := by decide +kernel
theorem dX49_keep_41 : decode cX49_keep 41 = .ok (.i2l, 1) := by decide +kernel
theorem dX49_keep_42 : decode cX49_keep 42 = .ok (.goto 7, 3) := by decide +kernel
theorem dX49_keep_45 : decode cX49_keep 45 = .ok (.aload_n 0, 1) := by decide +kernel
theorem dX49_keep_46 : decode cX49_keep 46 = .ok (.getfield 125, 3) := by decide +kernel
theorem dX49_keep_49 : decode cX49_keep 49 = .ok (.lastore, 1) := by decide +kernel
theorem dX49_keep_50 : decode cX49_keep 50 = .ok (.aload_n 0, 1) := by decide +kernel
theorem dX49_keep_51 : decode cX49_keep 51 = .ok (.getfield 17, 3) := by decide +kernel
theorem dX49_keep_54 : decode cX49_keep 54 = .ok (.aload_n 0, 1) := by decide +kernel
theorem dX49_keep_55 : decode cX49_keep 55 = .ok (.getfield 221, 3) := by decide +kernel
theorem dX49_keep_58 : decode cX49_keep 58 = .ok (.iload_n 1, 1) := by decide +kernel
theorem dX49_keep_59 : decode cX49_keep 59 = .ok (.iconst 3, 1) := by decide +kernel
theorem dX49_keep_60 : decode cX49_keep 60 = .ok (.if_icmp .eq 9, 3) := by decide +kernel
theorem dX49_keep_63 : decode cX49_keep 63 = .ok (.iload_n 1, 1) := by decide +kernel
theorem dX49_keep_64 : decode cX49_keep 64 = .ok (.bipush 6, 2) := by decide +kernel
theorem dX49_keep_66 : decode cX49_keep 66 = .ok (.if_icmp .le 7, 3) := by decide +kernel
theorem dX49_keep_69 : decode cX49_keep 69 = .ok (.lconst 0, 1) := by decide +kernel
theorem dX49_keep_70 : decode cX49_keep 70 = .ok (.goto 7, 3) := by decide +kernel
theorem dX49_keep_73 : decode cX49_keep 73 = .ok (.aload_n 0, 1) := by decide +kernel
theorem dX49_keep_74 : decode cX49_keep 74 = .ok (.getfield 132, 3) := by decide +kernel
theorem dX49_keep_77 : decode cX49_keep 77 = .ok (.lastore, 1) := by decide +kernel
theorem dX49_keep_78 : decode cX49_keep 78 = .ok (.iconst 0, 1) := by decide +kernel
theorem dX49_keep_79 : decode cX49_keep 79 = .ok (.istore_n 2, 1) := by decide +kernel
theorem dX49_keep_80 : decode cX49_keep 80 = .ok (.iload_n 2, 1) := by decide +kernel
theorem dX49_keep_81 : decode cX49_keep 81 = .ok (.aload_n 0, 1) := by decide +kernel
theorem dX49_keep_82 : decode cX49_keep 82 = .ok (.getfield 187, 3) := by decide +kernel
theorem dX49_keep_85 : decode cX49_keep 85 = .ok (.if_icmp .ge 29, 3) := by decide +kernel
theorem dX49_keep_88 : decode cX49_keep 88 = .ok (.aload_n 0, 1) := by decide +kernel
theorem dX49_keep_89 : decode cX49_keep 89 = .ok (.getfield 20, 3) := by decide +kernel
theorem dX49_keep_92 : decode cX49_keep 92 = .ok (.bipush 20, 2) := by decide +kernel
theorem dX49_keep_94 : decode cX49_keep 94 = .ok (.aload_n 0, 1) := by decide +kernel
theorem dX49_keep_95 : decode cX49_keep 95 = .ok (.getfield 221, 3) := by decide +kernel
theorem dX49_keep_98 : decode cX49_keep 98 = .ok (.imul, 1) := by decide +kernel
theorem dX49_keep_99 : decode cX49_keep 99 = .ok (.iload_n 2, 1) := by decide +kernel
theorem dX49_keep_100 : decode cX49_keep 100 = .ok (.iadd, 1) := by decide +kernel
theorem dX49_keep_101 : decode cX49_keep 101 = .ok (.aload_n 0, 1) := by decide +kernel
theorem dX49_keep_102 : decode cX49_keep 102 = .ok (.getfield 27, 3) := by decide +kernel
theorem dX49_keep_105 : decode cX49_keep 105 = .ok (.iload_n 2, 1) := by decide +kernel
theorem dX49_keep_106 : decode cX49_keep 106 = .ok (.iaload, 1) := by decide +kernel
theorem dX49_keep_107 : decode cX49_keep 107 = .ok (.iastore, 1) := by decide +kernel
theorem dX49_keep_108 : decode cX49_keep 108 = .ok (.iinc 2 1, 3) := by decide +kernel
theorem dX49_keep_111 : decode cX49_keep 111 = .ok (.goto (-31), 3) := by decide +kernel
theorem dX49_keep_114 : decode cX49_keep 114 = .ok (.aload_n 0, 1) := by decide +kernel
theorem dX49_keep_115 : decode cX49_keep 115 = .ok (.dup, 1) := by decide +kernel
theorem dX49_keep_116 : decode cX49_keep 116 = .ok (.getfield 221, 3) := by decide +kernel
theorem dX49_keep_119 : decode cX49_keep 119 = .ok (.iconst 1, 1) := by decide +kernel
theorem dX49_keep_120 : decode cX49_keep 120 = .ok (.iadd, 1) := by decide +kernel
theorem dX49_keep_121 : decode cX49_keep 121 = .ok (.putfield 221, 3) := by decide +kernel
theorem dX49_keep_124 : decode cX49_keep 124 = .ok (.aload_n 0, 1) := by decide +kernel
theorem dX49_keep_125 : decode cX49_keep 125 = .ok (.getfield 221, 3) := by decide +kernel
theorem dX49_keep_128 : decode cX49_keep 128 = .ok (.iconst 1, 1) := by decide +kernel
theorem dX49_keep_129 : decode cX49_keep 129 = .ok (.isub, 1) := by decide +kernel
theorem dX49_keep_130 : decode cX49_keep 130 = .ok (.ireturn, 1) := by decide +kernel
abbrev cX49_values : ByteArray := prog_82_method_39_code
def yX49_values : MethodName := ⟨RX49, "values", "()I"⟩
theorem dX49_values_0 : decode cX49_values 0 = .ok (.aload_n 0, 1) := by decide +kernel
theorem dX49_values_1 : decode cX49_values 1 = .ok (.iconst 0, 1) := by decide +kernel
theorem dX49_values_2 : decode cX49_values 2 = .ok (.putfield 33, 3) := by decide +kernel
theorem dX49_values_5 : decode cX49_values 5 = .ok (.aload_n 0, 1) := by decide +kernel
theorem dX49_values_6 : decode cX49_values 6 = .ok (.getfield 221, 3) := by decide +kernel
theorem dX49_values_9 : decode cX49_values 9 = .ok (.ireturn, 1) := by decide +kernel
abbrev cX49_kind : ByteArray := prog_82_method_40_code
def yX49_kind : MethodName := ⟨RX49, "kind", "(I)I"⟩
theorem dX49_kind_0 : decode cX49_kind 0 = .ok (.aload_n 0, 1) := by decide +kernel
theorem dX49_kind_1 : decode cX49_kind 1 = .ok (.iconst 0, 1) := by decide +kernel
theorem dX49_kind_2 : decode cX49_kind 2 = .ok (.putfield 33, 3) := by decide +kernel
theorem dX49_kind_5 : decode cX49_kind 5 = .ok (.aload_n 0, 1) := by decide +kernel
theorem dX49_kind_6 : decode cX49_kind 6 = .ok (.iload_n 1, 1) := by decide +kernel
theorem dX49_kind_7 : decode cX49_kind 7 = .ok (.invokevirtual 224, 3) := by decide +kernel
theorem dX49_kind_10 : decode cX49_kind 10 = .ok (.ifCond .eq 12, 3) := by decide +kernel
theorem dX49_kind_13 : decode cX49_kind 13 = .ok (.aload_n 0, 1) := by decide +kernel
theorem dX49_kind_14 : decode cX49_kind 14 = .ok (.getfield 7, 3) := by decide +kernel
theorem dX49_kind_17 : decode cX49_kind 17 = .ok (.iload_n 1, 1) := by decide +kernel
theorem dX49_kind_18 : decode cX49_kind 18 = .ok (.iaload, 1) := by decide +kernel
theorem dX49_kind_19 : decode cX49_kind 19 = .ok (.goto 4, 3) := by decide +kernel
theorem dX49_kind_22 : decode cX49_kind 22 = .ok (.iconst (-1), 1) := by decide +kernel
theorem dX49_kind_23 : decode cX49_kind 23 = .ok (.ireturn, 1) := by decide +kernel
abbrev cX49_isValue : ByteArray := prog_82_method_37_code
def yX49_isValue : MethodName := ⟨RX49, "isValue", "(I)Z"⟩
theorem dX49_isValue_0 : decode cX49_isValue 0 = .ok (.iload_n 1, 1) := by decide +kernel
theorem dX49_isValue_1 : decode cX49_isValue 1 = .ok (.ifCond .lt 15, 3) := by decide +kernel
theorem dX49_isValue_4 : decode cX49_isValue 4 = .ok (.iload_n 1, 1) := by decide +kernel
theorem dX49_isValue_5 : decode cX49_isValue 5 = .ok (.aload_n 0, 1) := by decide +kernel
theorem dX49_isValue_6 : decode cX49_isValue 6 = .ok (.getfield 221, 3) := by decide +kernel
theorem dX49_isValue_9 : decode cX49_isValue 9 = .ok (.if_icmp .ge 7, 3) := by decide +kernel
theorem dX49_isValue_12 : decode cX49_isValue 12 = .ok (.iconst 1, 1) := by decide +kernel
theorem dX49_isValue_13 : decode cX49_isValue 13 = .ok (.goto 4, 3) := by decide +kernel
theorem dX49_isValue_16 : decode cX49_isValue 16 = .ok (.iconst 0, 1) := by decide +kernel
theorem dX49_isValue_17 : decode cX49_isValue 17 = .ok (.ireturn, 1) := by decide +kernel
abbrev cX49_compare : ByteArray := prog_82_method_50_code
def yX49_compare : MethodName := ⟨RX49, "compare", "(II)I"⟩
theorem dX49_compare_0 : decode cX49_compare 0 = .ok (.aload_n 0, 1) := by decide +kernel
theorem dX49_compare_1 : decode cX49_compare 1 = .ok (.iconst 0, 1) := by decide +kernel
theorem dX49_compare_2 : decode cX49_compare 2 = .ok (.putfield 33, 3) := by decide +kernel
theorem dX49_compare_5 : decode cX49_compare 5 = .ok (.aload_n 0, 1) := by decide +kernel
theorem dX49_compare_6 : decode cX49_compare 6 = .ok (.iload_n 1, 1) := by decide +kernel
theorem dX49_compare_7 : decode cX49_compare 7 = .ok (.invokevirtual 224, 3) := by decide +kernel
theorem dX49_compare_10 : decode cX49_compare 10 = .ok (.ifCond .eq 11, 3) := by decide +kernel
theorem dX49_compare_13 : decode cX49_compare 13 = .ok (.aload_n 0, 1) := by decide +kernel
theorem dX49_compare_14 : decode cX49_compare 14 = .ok (.iload_n 2, 1) := by decide +kernel
theorem dX49_compare_15 : decode cX49_compare 15 = .ok (.invokevirtual 224, 3) := by decide +kernel
theorem dX49_compare_18 : decode cX49_compare 18 = .ok (.ifCond .ne 5, 3) := by decide +kernel
theorem dX49_compare_21 : decode cX49_compare 21 = .ok (.iconst (-1), 1) := by decide +kernel
theorem dX49_compare_22 : decode cX49_compare 22 = .ok (.ireturn, 1) := by decide +kernel
theorem dX49_compare_23 : decode cX49_compare 23 = .ok (.aload_n 0, 1) := by decide +kernel
theorem dX49_compare_24 : decode cX49_compare 24 = .ok (.iload_n 1, 1) := by decide +kernel
theorem dX49_compare_25 : decode cX49_compare 25 = .ok (.invokevirtual 227, 3) := by decide +kernel
theorem dX49_compare_28 : decode cX49_compare 28 = .ok (.ifCond .eq 41, 3) := by decide +kernel
theorem dX49_compare_31 : decode cX49_compare 31 = .ok (.aload_n 0, 1) := by decide +kernel
theorem dX49_compare_32 : decode cX49_compare 32 = .ok (.iload_n 2, 1) := by decide +kernel
theorem dX49_compare_33 : decode cX49_compare 33 = .ok (.invokevirtual 227, 3) := by decide +kernel
theorem dX49_compare_36 : decode cX49_compare 36 = .ok (.ifCond .eq 33, 3) := by decide +kernel
theorem dX49_compare_39 : decode cX49_compare 39 = .ok (.aload_n 0, 1) := by decide +kernel
theorem dX49_compare_40 : decode cX49_compare 40 = .ok (.getfield 13, 3) := by decide +kernel
theorem dX49_compare_43 : decode cX49_compare 43 = .ok (.iload_n 1, 1) := by decide +kernel
theorem dX49_compare_44 : decode cX49_compare 44 = .ok (.laload, 1) := by decide +kernel
theorem dX49_compare_45 : decode cX49_compare 45 = .ok (.aload_n 0, 1) := by decide +kernel
theorem dX49_compare_46 : decode cX49_compare 46 = .ok (.getfield 17, 3) := by decide +kernel
theorem dX49_compare_49 : decode cX49_compare 49 = .ok (.iload_n 2, 1) := by decide +kernel
theorem dX49_compare_50 : decode cX49_compare 50 = .ok (.laload, 1) := by decide +kernel
theorem dX49_compare_51 : decode cX49_compare 51 = .ok (.lmul, 1) := by decide +kernel
theorem dX49_compare_52 : decode cX49_compare 52 = .ok (.aload_n 0, 1) := by decide +kernel
theorem dX49_compare_53 : decode cX49_compare 53 = .ok (.getfield 13, 3) := by decide +kernel
theorem dX49_compare_56 : decode cX49_compare 56 = .ok (.iload_n 2, 1) := by decide +kernel
theorem dX49_compare_57 : decode cX49_compare 57 = .ok (.laload, 1) := by decide +kernel
theorem dX49_compare_58 : decode cX49_compare 58 = .ok (.aload_n 0, 1) := by decide +kernel
theorem dX49_compare_59 : decode cX49_compare 59 = .ok (.getfield 17, 3) := by decide +kernel
theorem dX49_compare_62 : decode cX49_compare 62 = .ok (.iload_n 1, 1) := by decide +kernel
theorem dX49_compare_63 : decode cX49_compare 63 = .ok (.laload, 1) := by decide +kernel
theorem dX49_compare_64 : decode cX49_compare 64 = .ok (.lmul, 1) := by decide +kernel
theorem dX49_compare_65 : decode cX49_compare 65 = .ok (.invokestatic 236, 3) := by decide +kernel
theorem dX49_compare_68 : decode cX49_compare 68 = .ok (.ireturn, 1) := by decide +kernel
theorem dX49_compare_69 : decode cX49_compare 69 = .ok (.aload_n 0, 1) := by decide +kernel
theorem dX49_compare_70 : decode cX49_compare 70 = .ok (.getfield 7, 3) := by decide +kernel
theorem dX49_compare_73 : decode cX49_compare 73 = .ok (.iload_n 1, 1) := by decide +kernel
theorem dX49_compare_74 : decode cX49_compare 74 = .ok (.iaload, 1) := by decide +kernel
theorem dX49_compare_75 : decode cX49_compare 75 = .ok (.bipush 6, 2) := by decide +kernel
theorem dX49_compare_77 : decode cX49_compare 77 = .ok (.if_icmp .le 21, 3) := by decide +kernel
theorem dX49_compare_80 : decode cX49_compare 80 = .ok (.aload_n 0, 1) := by decide +kernel
theorem dX49_compare_81 : decode cX49_compare 81 = .ok (.getfield 7, 3) := by decide +kernel
theorem dX49_compare_84 : decode cX49_compare 84 = .ok (.iload_n 2, 1) := by decide +kernel
theorem dX49_compare_85 : decode cX49_compare 85 = .ok (.iaload, 1) := by decide +kernel
theorem dX49_compare_86 : decode cX49_compare 86 = .ok (.bipush 6, 2) := by decide +kernel
theorem dX49_compare_88 : decode cX49_compare 88 = .ok (.if_icmp .le 10, 3) := by decide +kernel
theorem dX49_compare_91 : decode cX49_compare 91 = .ok (.aload_n 0, 1) := by decide +kernel
theorem dX49_compare_92 : decode cX49_compare 92 = .ok (.iload_n 1, 1) := by decide +kernel
theorem dX49_compare_93 : decode cX49_compare 93 = .ok (.iload_n 2, 1) := by decide +kernel
theorem dX49_compare_94 : decode cX49_compare 94 = .ok (.invokevirtual 252, 3) := by decide +kernel
theorem dX49_compare_97 : decode cX49_compare 97 = .ok (.ireturn, 1) := by decide +kernel
theorem dX49_compare_98 : decode cX49_compare 98 = .ok (.aload_n 0, 1) := by decide +kernel
theorem dX49_compare_99 : decode cX49_compare 99 = .ok (.getfield 7, 3) := by decide +kernel
theorem dX49_compare_102 : decode cX49_compare 102 = .ok (.iload_n 1, 1) := by decide +kernel
theorem dX49_compare_103 : decode cX49_compare 103 = .ok (.iaload, 1) := by decide +kernel
theorem dX49_compare_104 : decode cX49_compare 104 = .ok (.aload_n 0, 1) := by decide +kernel
theorem dX49_compare_105 : decode cX49_compare 105 = .ok (.getfield 7, 3) := by decide +kernel
theorem dX49_compare_108 : decode cX49_compare 108 = .ok (.iload_n 2, 1) := by decide +kernel
theorem dX49_compare_109 : decode cX49_compare 109 = .ok (.iaload, 1) := by decide +kernel
theorem dX49_compare_110 : decode cX49_compare 110 = .ok (.if_icmp .eq 5, 3) := by decide +kernel
theorem dX49_compare_113 : decode cX49_compare 113 = .ok (.iconst 2, 1) := by decide +kernel
theorem dX49_compare_114 : decode cX49_compare 114 = .ok (.ireturn, 1) := by decide +kernel
theorem dX49_compare_115 : decode cX49_compare 115 = .ok (.aload_n 0, 1) := by decide +kernel
theorem dX49_compare_116 : decode cX49_compare 116 = .ok (.getfield 7, 3) := by decide +kernel
theorem dX49_compare_119 : decode cX49_compare 119 = .ok (.iload_n 1, 1) := by decide +kernel
theorem dX49_compare_120 : decode cX49_compare 120 = .ok (.iaload, 1) := by decide +kernel
theorem dX49_compare_121 : decode cX49_compare 121 = .ok (.iconst 3, 1) := by decide +kernel
theorem dX49_compare_122 : decode cX49_compare 122 = .ok (.if_icmp .ne 21, 3) := by decide +kernel
theorem dX49_compare_125 : decode cX49_compare 125 = .ok (.aload_n 0, 1) := by decide +kernel
theorem dX49_compare_126 : decode cX49_compare 126 = .ok (.getfield 13, 3) := by decide +kernel
theorem dX49_compare_129 : decode cX49_compare 129 = .ok (.iload_n 1, 1) := by decide +kernel
theorem dX49_compare_130 : decode cX49_compare 130 = .ok (.laload, 1) := by decide +kernel
theorem dX49_compare_131 : decode cX49_compare 131 = .ok (.aload_n 0, 1) := by decide +kernel
theorem dX49_compare_132 : decode cX49_compare 132 = .ok (.getfield 13, 3) := by decide +kernel
theorem dX49_compare_135 : decode cX49_compare 135 = .ok (.iload_n 2, 1) := by decide +kernel
theorem dX49_compare_136 : decode cX49_compare 136 = .ok (.laload, 1) := by decide +kernel
theorem dX49_compare_137 : decode cX49_compare 137 = .ok (.invokestatic 236, 3) := by decide +kernel
theorem dX49_compare_140 : decode cX49_compare 140 = .ok (.goto 29, 3) := by decide +kernel
theorem dX49_compare_143 : decode cX49_compare 143 = .ok (.aload_n 0, 1) := by decide +kernel
theorem dX49_compare_144 : decode cX49_compare 144 = .ok (.getfield 7, 3) := by decide +kernel
theorem dX49_compare_147 : decode cX49_compare 147 = .ok (.iload_n 1, 1) := by decide +kernel
theorem dX49_compare_148 : decode cX49_compare 148 = .ok (.iaload, 1) := by decide +kernel
theorem dX49_compare_149 : decode cX49_compare 149 = .ok (.bipush 6, 2) := by decide +kernel
theorem dX49_compare_151 : decode cX49_compare 151 = .ok (.if_icmp .ne 12, 3) := by decide +kernel
theorem dX49_compare_154 : decode cX49_compare 154 = .ok (.aload_n 0, 1) := by decide +kernel
theorem dX49_compare_155 : decode cX49_compare 155 = .ok (.iload_n 1, 1) := by decide +kernel
theorem dX49_compare_156 : decode cX49_compare 156 = .ok (.iload_n 2, 1) := by decide +kernel
theorem dX49_compare_157 : decode cX49_compare 157 = .ok (.invokevirtual 255, 3) := by decide +kernel
theorem dX49_compare_160 : decode cX49_compare 160 = .ok (.goto 9, 3) := by decide +kernel
theorem dX49_compare_163 : decode cX49_compare 163 = .ok (.aload_n 0, 1) := by decide +kernel
theorem dX49_compare_164 : decode cX49_compare 164 = .ok (.iload_n 1, 1) := by decide +kernel
theorem dX49_compare_165 : decode cX49_compare 165 = .ok (.iload_n 2, 1) := by decide +kernel
theorem dX49_compare_166 : decode cX49_compare 166 = .ok (.invokevirtual 258, 3) := by decide +kernel
theorem dX49_compare_169 : decode cX49_compare 169 = .ok (.ireturn, 1) := by decide +kernel
abbrev cX49_isNumber : ByteArray := prog_82_method_38_code
def yX49_isNumber : MethodName := ⟨RX49, "isNumber", "(I)Z"⟩
theorem dX49_isNumber_0 : decode cX49_isNumber 0 = .ok (.aload_n 0, 1) := by decide +kernel
theorem dX49_isNumber_1 : decode cX49_isNumber 1 = .ok (.iload_n 1, 1) := by decide +kernel
theorem dX49_isNumber_2 : decode cX49_isNumber 2 = .ok (.invokevirtual 224, 3) := by decide +kernel
theorem dX49_isNumber_5 : decode cX49_isNumber 5 = .ok (.ifCond .eq 17, 3) := by decide +kernel
theorem dX49_isNumber_8 : decode cX49_isNumber 8 = .ok (.aload_n 0, 1) := by decide +kernel
theorem dX49_isNumber_9 : decode cX49_isNumber 9 = .ok (.getfield 7, 3) := by decide +kernel
theorem dX49_isNumber_12 : decode cX49_isNumber 12 = .ok (.iload_n 1, 1) := by decide +kernel
theorem dX49_isNumber_13 : decode cX49_isNumber 13 = .ok (.iaload, 1) := by decide +kernel
theorem dX49_isNumber_14 : decode cX49_isNumber 14 = .ok (.iconst 2, 1) := by decide +kernel
theorem dX49_isNumber_15 : decode cX49_isNumber 15 = .ok (.if_icmp .gt 7, 3) := by decide +kernel
theorem dX49_isNumber_18 : decode cX49_isNumber 18 = .ok (.iconst 1, 1) := by decide +kernel
theorem dX49_isNumber_19 : decode cX49_isNumber 19 = .ok (.goto 4, 3) := by decide +kernel
theorem dX49_isNumber_22 : decode cX49_isNumber 22 = .ok (.iconst 0, 1) := by decide +kernel
theorem dX49_isNumber_23 : decode cX49_isNumber 23 = .ok (.ireturn, 1) := by decide +kernel
abbrev cX49_sign : ByteArray := prog_82_method_45_code
def yX49_sign : MethodName := ⟨RX49, "sign", "(JJ)I"⟩
theorem dX49_sign_0 : decode cX49_sign 0 = .ok (.lload_n 0, 1) := by decide +kernel
theorem dX49_sign_1 : decode cX49_sign 1 = .ok (.lload_n 2, 1) := by decide +kernel
theorem dX49_sign_2 : decode cX49_sign 2 = .ok (.lcmp, 1) := by decide +kernel
theorem dX49_sign_3 : decode cX49_sign 3 = .ok (.ifCond .ge 7, 3) := by decide +kernel
theorem dX49_sign_6 : decode cX49_sign 6 = .ok (.iconst (-1), 1) := by decide +kernel
theorem dX49_sign_7 : decode cX49_sign 7 = .ok (.goto 14, 3) := by decide +kernel
theorem dX49_sign_10 : decode cX49_sign 10 = .ok (.lload_n 0, 1) := by decide +kernel
theorem dX49_sign_11 : decode cX49_sign 11 = .ok (.lload_n 2, 1) := by decide +kernel
theorem dX49_sign_12 : decode cX49_sign 12 = .ok (.lcmp, 1) := by decide +kernel
theorem dX49_sign_13 : decode cX49_sign 13 = .ok (.ifCond .le 7, 3) := by decide +kernel
theorem dX49_sign_16 : decode cX49_sign 16 = .ok (.iconst 1, 1) := by decide +kernel
theorem dX49_sign_17 : decode cX49_sign 17 = .ok (.goto 4, 3) := by decide +kernel
theorem dX49_sign_20 : decode cX49_sign 20 = .ok (.iconst 0, 1) := by decide +kernel
theorem dX49_sign_21 : decode cX49_sign 21 = .ok (.ireturn, 1) := by decide +kernel
abbrev cX49_compareRows : ByteArray := prog_82_method_49_code
def yX49_compareRows : MethodName := ⟨RX49, "compareRows", "(II)I"⟩
theorem dX49_compareRows_0 : decode cX49_compareRows 0 = .ok (.iconst 0, 1) := by decide +kernel
theorem dX49_compareRows_1 : decode cX49_compareRows 1 = .ok (.istore_n 3, 1) := by decide +kernel
theorem dX49_compareRows_2 : decode cX49_compareRows 2 = .ok (.iload_n 3, 1) := by decide +kernel
theorem dX49_compareRows_3 : decode cX49_compareRows 3 = .ok (.i2l, 1) := by decide +kernel
theorem dX49_compareRows_4 : decode cX49_compareRows 4 = .ok (.aload_n 0, 1) := by decide +kernel
theorem dX49_compareRows_5 : decode cX49_compareRows 5 = .ok (.getfield 13, 3) := by decide +kernel
theorem dX49_compareRows_8 : decode cX49_compareRows 8 = .ok (.iload_n 1, 1) := by decide +kernel
theorem dX49_compareRows_9 : decode cX49_compareRows 9 = .ok (.laload, 1) := by decide +kernel
theorem dX49_compareRows_10 : decode cX49_compareRows 10 = .ok (.lcmp, 1) := by decide +kernel
theorem dX49_compareRows_11 : decode cX49_compareRows 11 = .ok (.ifCond .ge 58, 3) := by decide +kernel
theorem dX49_compareRows_14 : decode cX49_compareRows 14 = .ok (.iload_n 3, 1) := by decide +kernel
theorem dX49_compareRows_15 : decode cX49_compareRows 15 = .ok (.i2l, 1) := by decide +kernel
theorem dX49_compareRows_16 : decode cX49_compareRows 16 = .ok (.aload_n 0, 1) := by decide +kernel
theorem dX49_compareRows_17 : decode cX49_compareRows 17 = .ok (.getfield 13, 3) := by decide +kernel
theorem dX49_compareRows_20 : decode cX49_compareRows 20 = .ok (.iload_n 2, 1) := by decide +kernel
theorem dX49_compareRows_21 : decode cX49_compareRows 21 = .ok (.laload, 1) := by decide +kernel
theorem dX49_compareRows_22 : decode cX49_compareRows 22 = .ok (.lcmp, 1) := by decide +kernel
theorem dX49_compareRows_23 : decode cX49_compareRows 23 = .ok (.ifCond .ge 46, 3) := by decide +kernel
theorem dX49_compareRows_26 : decode cX49_compareRows 26 = .ok (.aload_n 0, 1) := by decide +kernel
theorem dX49_compareRows_27 : decode cX49_compareRows 27 = .ok (.getfield 20, 3) := by decide +kernel
theorem dX49_compareRows_30 : decode cX49_compareRows 30 = .ok (.bipush 20, 2) := by decide +kernel
theorem dX49_compareRows_32 : decode cX49_compareRows 32 = .ok (.iload_n 1, 1) := by decide +kernel
theorem dX49_compareRows_33 : decode cX49_compareRows 33 = .ok (.imul, 1) := by decide +kernel
theorem dX49_compareRows_34 : decode cX49_compareRows 34 = .ok (.iload_n 3, 1) := by decide +kernel
theorem dX49_compareRows_35 : decode cX49_compareRows 35 = .ok (.iadd, 1) := by decide +kernel
theorem dX49_compareRows_36 : decode cX49_compareRows 36 = .ok (.iaload, 1) := by decide +kernel
theorem dX49_compareRows_37 : decode cX49_compareRows 37 = .ok (.i2l, 1) := by decide +kernel
theorem dX49_compareRows_38 : decode cX49_compareRows 38 = .ok (.aload_n 0, 1) := by decide +kernel
theorem dX49_compareRows_39 : decode cX49_compareRows 39 = .ok (.getfield 20, 3) := by decide +kernel
theorem dX49_compareRows_42 : decode cX49_compareRows 42 = .ok (.bipush 20, 2) := by decide +kernel
theorem dX49_compareRows_44 : decode cX49_compareRows 44 = .ok (.iload_n 2, 1) := by decide +kernel
theorem dX49_compareRows_45 : decode cX49_compareRows 45 = .ok (.imul, 1) := by decide +kernel
theorem dX49_compareRows_46 : decode cX49_compareRows 46 = .ok (.iload_n 3, 1) := by decide +kernel
theorem dX49_compareRows_47 : decode cX49_compareRows 47 = .ok (.iadd, 1) := by decide +kernel
theorem dX49_compareRows_48 : decode cX49_compareRows 48 = .ok (.iaload, 1) := by decide +kernel
theorem dX49_compareRows_49 : decode cX49_compareRows 49 = .ok (.i2l, 1) := by decide +kernel
theorem dX49_compareRows_50 : decode cX49_compareRows 50 = .ok (.invokestatic 236, 3) := by decide +kernel
theorem dX49_compareRows_53 : decode cX49_compareRows 53 = .ok (.istore 4, 2) := by decide +kernel
theorem dX49_compareRows_55 : decode cX49_compareRows 55 = .ok (.iload 4, 2) := by decide +kernel
theorem dX49_compareRows_57 : decode cX49_compareRows 57 = .ok (.ifCond .eq 6, 3) := by decide +kernel
theorem dX49_compareRows_60 : decode cX49_compareRows 60 = .ok (.iload 4, 2) := by decide +kernel
theorem dX49_compareRows_62 : decode cX49_compareRows 62 = .ok (.ireturn, 1) := by decide +kernel
theorem dX49_compareRows_63 : decode cX49_compareRows 63 = .ok (.iinc 3 1, 3) := by decide +kernel
theorem dX49_compareRows_66 : decode cX49_compareRows 66 = .ok (.goto (-64), 3) := by decide +kernel
theorem dX49_compareRows_69 : decode cX49_compareRows 69 = .ok (.aload_n 0, 1) := by decide +kernel
theorem dX49_compareRows_70 : decode cX49_compareRows 70 = .ok (.getfield 13, 3) := by decide +kernel
theorem dX49_compareRows_73 : decode cX49_compareRows 73 = .ok (.iload_n 1, 1) := by decide +kernel
theorem dX49_compareRows_74 : decode cX49_compareRows 74 = .ok (.laload, 1) := by decide +kernel
theorem dX49_compareRows_75 : decode cX49_compareRows 75 = .ok (.aload_n 0, 1) := by decide +kernel
theorem dX49_compareRows_76 : decode cX49_compareRows 76 = .ok (.getfield 13, 3) := by decide +kernel
theorem dX49_compareRows_79 : decode cX49_compareRows 79 = .ok (.iload_n 2, 1) := by decide +kernel
theorem dX49_compareRows_80 : decode cX49_compareRows 80 = .ok (.laload, 1) := by decide +kernel
theorem dX49_compareRows_81 : decode cX49_compareRows 81 = .ok (.invokestatic 236, 3) := by decide +kernel
theorem dX49_compareRows_84 : decode cX49_compareRows 84 = .ok (.ireturn, 1) := by decide +kernel
abbrev cX49_compareSpans : ByteArray := prog_82_method_48_code
def yX49_compareSpans : MethodName := ⟨RX49, "compareSpans", "(II)I"⟩
theorem dX49_compareSpans_0 : decode cX49_compareSpans 0 = .ok (.iconst 5, 1) := by decide +kernel
theorem dX49_compareSpans_1 : decode cX49_compareSpans 1 = .ok (.istore_n 3, 1) := by decide +kernel
theorem dX49_compareSpans_2 : decode cX49_compareSpans 2 = .ok (.iconst 0, 1) := by decide +kernel
theorem dX49_compareSpans_3 : decode cX49_compareSpans 3 = .ok (.istore 4, 2) := by decide +kernel
theorem dX49_compareSpans_5 : decode cX49_compareSpans 5 = .ok (.iload 4, 2) := by decide +kernel
theorem dX49_compareSpans_7 : decode cX49_compareSpans 7 = .ok (.iconst 4, 1) := by decide +kernel
theorem dX49_compareSpans_8 : decode cX49_compareSpans 8 = .ok (.if_icmp .ge 132, 3) := by decide +kernel
theorem dX49_compareSpans_11 : decode cX49_compareSpans 11 = .ok (.ldc2_w 83, 3) := by decide +kernel
theorem dX49_compareSpans_14 : decode cX49_compareSpans 14 = .ok (.iload 4, 2) := by decide +kernel
theorem dX49_compareSpans_16 : decode cX49_compareSpans 16 = .ok (.ifCond .ne 15, 3) := by decide +kernel
theorem dX49_compareSpans_19 : decode cX49_compareSpans 19 = .ok (.ldc2_w 242, 3) := by decide +kernel
theorem dX49_compareSpans_22 : decode cX49_compareSpans 22 = .ok (.bipush 9, 2) := by decide +kernel
theorem dX49_compareSpans_24 : decode cX49_compareSpans 24 = .ok (.iconst 1, 1) := by decide +kernel
theorem dX49_compareSpans_25 : decode cX49_compareSpans 25 = .ok (.invokestatic 91, 3) := by decide +kernel
theorem dX49_compareSpans_28 : decode cX49_compareSpans 28 = .ok (.goto 46, 3) := by decide +kernel
theorem dX49_compareSpans_31 : decode cX49_compareSpans 31 = .ok (.iload 4, 2) := by decide +kernel
theorem dX49_compareSpans_33 : decode cX49_compareSpans 33 = .ok (.iconst 1, 1) := by decide +kernel
theorem dX49_compareSpans_34 : decode cX49_compareSpans 34 = .ok (.if_icmp .ne 14, 3) := by decide +kernel
theorem dX49_compareSpans_37 : decode cX49_compareSpans 37 = .ok (.ldc2_w 244, 3) := by decide +kernel
theorem dX49_compareSpans_40 : decode cX49_compareSpans 40 = .ok (.iconst 2, 1) := by decide +kernel
theorem dX49_compareSpans_41 : decode cX49_compareSpans 41 = .ok (.iconst 1, 1) := by decide +kernel
theorem dX49_compareSpans_42 : decode cX49_compareSpans 42 = .ok (.invokestatic 91, 3) := by decide +kernel
theorem dX49_compareSpans_45 : decode cX49_compareSpans 45 = .ok (.goto 29, 3) := by decide +kernel
theorem dX49_compareSpans_48 : decode cX49_compareSpans 48 = .ok (.iload 4, 2) := by decide +kernel
theorem dX49_compareSpans_50 : decode cX49_compareSpans 50 = .ok (.iconst 2, 1) := by decide +kernel
theorem dX49_compareSpans_51 : decode cX49_compareSpans 51 = .ok (.if_icmp .ne 14, 3) := by decide +kernel
theorem dX49_compareSpans_54 : decode cX49_compareSpans 54 = .ok (.ldc2_w 246, 3) := by decide +kernel
theorem dX49_compareSpans_57 : decode cX49_compareSpans 57 = .ok (.iconst 3, 1) := by decide +kernel
theorem dX49_compareSpans_58 : decode cX49_compareSpans 58 = .ok (.iconst 1, 1) := by decide +kernel
theorem dX49_compareSpans_59 : decode cX49_compareSpans 59 = .ok (.invokestatic 91, 3) := by decide +kernel
theorem dX49_compareSpans_62 : decode cX49_compareSpans 62 = .ok (.goto 12, 3) := by decide +kernel
theorem dX49_compareSpans_65 : decode cX49_compareSpans 65 = .ok (.ldc2_w 246, 3) := by decide +kernel
theorem dX49_compareSpans_68 : decode cX49_compareSpans 68 = .ok (.bipush 7, 2) := by decide +kernel
theorem dX49_compareSpans_70 : decode cX49_compareSpans 70 = .ok (.iconst 1, 1) := by decide +kernel
theorem dX49_compareSpans_71 : decode cX49_compareSpans 71 = .ok (.invokestatic 91, 3) := by decide +kernel
theorem dX49_compareSpans_74 : decode cX49_compareSpans 74 = .ok (.lmul, 1) := by decide +kernel
theorem dX49_compareSpans_75 : decode cX49_compareSpans 75 = .ok (.lstore 5, 2) := by decide +kernel
theorem dX49_compareSpans_77 : decode cX49_compareSpans 77 = .ok (.aload_n 0, 1) := by decide +kernel
theorem dX49_compareSpans_78 : decode cX49_compareSpans 78 = .ok (.lload 5, 2) := by decide +kernel
theorem dX49_compareSpans_80 : decode cX49_compareSpans 80 = .ok (.aload_n 0, 1) := by decide +kernel
theorem dX49_compareSpans_81 : decode cX49_compareSpans 81 = .ok (.getfield 13, 3) := by decide +kernel
theorem dX49_compareSpans_84 : decode cX49_compareSpans 84 = .ok (.iload_n 1, 1) := by decide +kernel
theorem dX49_compareSpans_85 : decode cX49_compareSpans 85 = .ok (.laload, 1) := by decide +kernel
theorem dX49_compareSpans_86 : decode cX49_compareSpans 86 = .ok (.aload_n 0, 1) := by decide +kernel
theorem dX49_compareSpans_87 : decode cX49_compareSpans 87 = .ok (.getfield 17, 3) := by decide +kernel
theorem dX49_compareSpans_90 : decode cX49_compareSpans 90 = .ok (.iload_n 1, 1) := by decide +kernel
theorem dX49_compareSpans_91 : decode cX49_compareSpans 91 = .ok (.laload, 1) := by decide +kernel
theorem dX49_compareSpans_92 : decode cX49_compareSpans 92 = .ok (.invokevirtual 248, 3) := by decide +kernel
theorem dX49_compareSpans_95 : decode cX49_compareSpans 95 = .ok (.aload_n 0, 1) := by decide +kernel
theorem dX49_compareSpans_96 : decode cX49_compareSpans 96 = .ok (.lload 5, 2) := by decide +kernel
theorem dX49_compareSpans_98 : decode cX49_compareSpans 98 = .ok (.aload_n 0, 1) := by decide +kernel
theorem dX49_compareSpans_99 : decode cX49_compareSpans 99 = .ok (.getfield 13, 3) := by decide +kernel
theorem dX49_compareSpans_102 : decode cX49_compareSpans 102 = .ok (.iload_n 2, 1) := by decide +kernel
theorem dX49_compareSpans_103 : decode cX49_compareSpans 103 = .ok (.laload, 1) := by decide +kernel
theorem dX49_compareSpans_104 : decode cX49_compareSpans 104 = .ok (.aload_n 0, 1) := by decide +kernel
theorem dX49_compareSpans_105 : decode cX49_compareSpans 105 = .ok (.getfield 17, 3) := by decide +kernel
theorem dX49_compareSpans_108 : decode cX49_compareSpans 108 = .ok (.iload_n 2, 1) := by decide +kernel
theorem dX49_compareSpans_109 : decode cX49_compareSpans 109 = .ok (.laload, 1) := by decide +kernel
theorem dX49_compareSpans_110 : decode cX49_compareSpans 110 = .ok (.invokevirtual 248, 3) := by decide +kernel
theorem dX49_compareSpans_113 : decode cX49_compareSpans 113 = .ok (.invokestatic 236, 3) := by decide +kernel
theorem dX49_compareSpans_116 : decode cX49_compareSpans 116 = .ok (.istore 7, 2) := by decide +kernel
theorem dX49_compareSpans_118 : decode cX49_compareSpans 118 = .ok (.iload_n 3, 1) := by decide +kernel
theorem dX49_compareSpans_119 : decode cX49_compareSpans 119 = .ok (.iconst 5, 1) := by decide +kernel
theorem dX49_compareSpans_120 : decode cX49_compareSpans 120 = .ok (.if_icmp .eq 11, 3) := by decide +kernel
theorem dX49_compareSpans_123 : decode cX49_compareSpans 123 = .ok (.iload_n 3, 1) := by decide +kernel
theorem dX49_compareSpans_124 : decode cX49_compareSpans 124 = .ok (.iload 7, 2) := by decide +kernel
theorem dX49_compareSpans_126 : decode cX49_compareSpans 126 = .ok (.if_icmp .eq 5, 3) := by decide +kernel
theorem dX49_compareSpans_129 : decode cX49_compareSpans 129 = .ok (.iconst 2, 1) := by decide +kernel
theorem dX49_compareSpans_130 : decode cX49_compareSpans 130 = .ok (.ireturn, 1) := by decide +kernel
theorem dX49_compareSpans_131 : decode cX49_compareSpans 131 = .ok (.iload 7, 2) := by decide +kernel
theorem dX49_compareSpans_133 : decode cX49_compareSpans 133 = .ok (.istore_n 3, 1) := by decide +kernel
theorem dX49_compareSpans_134 : decode cX49_compareSpans 134 = .ok (.iinc 4 1, 3) := by decide +kernel
theorem dX49_compareSpans_137 : decode cX49_compareSpans 137 = .ok (.goto (-132), 3) := by decide +kernel
theorem dX49_compareSpans_140 : decode cX49_compareSpans 140 = .ok (.iload_n 3, 1) := by decide +kernel
theorem dX49_compareSpans_141 : decode cX49_compareSpans 141 = .ok (.ireturn, 1) := by decide +kernel
abbrev cX49_later : ByteArray := prog_82_method_11_code
def yX49_later : MethodName := ⟨RX49, "later", "(JJJ)J"⟩
theorem dX49_later_0 : decode cX49_later 0 = .ok (.aload_n 0, 1) := by decide +kernel
theorem dX49_later_1 : decode cX49_later 1 = .ok (.lload_n 1, 1) := by decide +kernel
theorem dX49_later_2 : decode cX49_later 2 = .ok (.ldc2_w 83, 3) := by decide +kernel
theorem dX49_later_5 : decode cX49_later 5 = .ok (.invokestatic 40, 3) := by decide +kernel
theorem dX49_later_8 : decode cX49_later 8 = .ok (.invokevirtual 85, 3) := by decide +kernel
theorem dX49_later_11 : decode cX49_later 11 = .ok (.ldc2_w 89, 3) := by decide +kernel
theorem dX49_later_14 : decode cX49_later 14 = .ok (.aload_n 0, 1) := by decide +kernel
theorem dX49_later_15 : decode cX49_later 15 = .ok (.getfield 73, 3) := by decide +kernel
theorem dX49_later_18 : decode cX49_later 18 = .ok (.lmul, 1) := by decide +kernel
theorem dX49_later_19 : decode cX49_later 19 = .ok (.aload_n 0, 1) := by decide +kernel
theorem dX49_later_20 : decode cX49_later 20 = .ok (.getfield 77, 3) := by decide +kernel
theorem dX49_later_23 : decode cX49_later 23 = .ok (.i2l, 1) := by decide +kernel
theorem dX49_later_24 : decode cX49_later 24 = .ok (.ladd, 1) := by decide +kernel
theorem dX49_later_25 : decode cX49_later 25 = .ok (.lconst 1, 1) := by decide +kernel
theorem dX49_later_26 : decode cX49_later 26 = .ok (.lsub, 1) := by decide +kernel
theorem dX49_later_27 : decode cX49_later 27 = .ok (.lload_n 3, 1) := by decide +kernel
theorem dX49_later_28 : decode cX49_later 28 = .ok (.ladd, 1) := by decide +kernel
theorem dX49_later_29 : decode cX49_later 29 = .ok (.lstore 7, 2) := by decide +kernel
theorem dX49_later_31 : decode cX49_later 31 = .ok (.lload 7, 2) := by decide +kernel
theorem dX49_later_33 : decode cX49_later 33 = .ok (.ldc2_w 89, 3) := by decide +kernel
theorem dX49_later_36 : decode cX49_later 36 = .ok (.invokestatic 40, 3) := by decide +kernel
theorem dX49_later_39 : decode cX49_later 39 = .ok (.lstore 9, 2) := by decide +kernel
theorem dX49_later_41 : decode cX49_later 41 = .ok (.lload 7, 2) := by decide +kernel
theorem dX49_later_43 : decode cX49_later 43 = .ok (.ldc2_w 89, 3) := by decide +kernel
theorem dX49_later_46 : decode cX49_later 46 = .ok (.invokestatic 46, 3) := by decide +kernel
theorem dX49_later_49 : decode cX49_later 49 = .ok (.l2i, 1) := by decide +kernel
theorem dX49_later_50 : decode cX49_later 50 = .ok (.iconst 1, 1) := by decide +kernel
theorem dX49_later_51 : decode cX49_later 51 = .ok (.iadd, 1) := by decide +kernel
theorem dX49_later_52 : decode cX49_later 52 = .ok (.istore 11, 2) := by decide +kernel
theorem dX49_later_54 : decode cX49_later 54 = .ok (.aload_n 0, 1) := by decide +kernel
theorem dX49_later_55 : decode cX49_later 55 = .ok (.getfield 80, 3) := by decide +kernel
theorem dX49_later_58 : decode cX49_later 58 = .ok (.lload 9, 2) := by decide +kernel
theorem dX49_later_60 : decode cX49_later 60 = .ok (.iload 11, 2) := by decide +kernel
theorem dX49_later_62 : decode cX49_later 62 = .ok (.invokestatic 63, 3) := by decide +kernel
theorem dX49_later_65 : decode cX49_later 65 = .ok (.if_icmp .ge 10, 3) := by decide +kernel
theorem dX49_later_68 : decode cX49_later 68 = .ok (.aload_n 0, 1) := by decide +kernel
theorem dX49_later_69 : decode cX49_later 69 = .ok (.getfield 80, 3) := by decide +kernel
theorem dX49_later_72 : decode cX49_later 72 = .ok (.goto 10, 3) := by decide +kernel
theorem dX49_later_75 : decode cX49_later 75 = .ok (.lload 9, 2) := by decide +kernel
theorem dX49_later_77 : decode cX49_later 77 = .ok (.iload 11, 2) := by decide +kernel
theorem dX49_later_79 : decode cX49_later 79 = .ok (.invokestatic 63, 3) := by decide +kernel
theorem dX49_later_82 : decode cX49_later 82 = .ok (.istore 12, 2) := by decide +kernel
theorem dX49_later_84 : decode cX49_later 84 = .ok (.ldc2_w 83, 3) := by decide +kernel
theorem dX49_later_87 : decode cX49_later 87 = .ok (.lload 9, 2) := by decide +kernel
theorem dX49_later_89 : decode cX49_later 89 = .ok (.iload 11, 2) := by decide +kernel
theorem dX49_later_91 : decode cX49_later 91 = .ok (.iload 12, 2) := by decide +kernel
theorem dX49_later_93 : decode cX49_later 93 = .ok (.invokestatic 91, 3) := by decide +kernel
theorem dX49_later_96 : decode cX49_later 96 = .ok (.lmul, 1) := by decide +kernel
theorem dX49_later_97 : decode cX49_later 97 = .ok (.lload_n 1, 1) := by decide +kernel
theorem dX49_later_98 : decode cX49_later 98 = .ok (.ldc2_w 83, 3) := by decide +kernel
theorem dX49_later_101 : decode cX49_later 101 = .ok (.invokestatic 46, 3) := by decide +kernel
theorem dX49_later_104 : decode cX49_later 104 = .ok (.ladd, 1) := by decide +kernel
theorem dX49_later_105 : decode cX49_later 105 = .ok (.lload 5, 2) := by decide +kernel
theorem dX49_later_107 : decode cX49_later 107 = .ok (.ladd, 1) := by decide +kernel
theorem dX49_later_108 : decode cX49_later 108 = .ok (.lreturn, 1) := by decide +kernel
abbrev cX49_findDate : ByteArray := prog_82_method_10_code
def yX49_findDate : MethodName := ⟨RX49, "findDate", "(J)V"⟩
theorem dX49_findDate_0 : decode cX49_findDate 0 = .ok (.lload_n 1, 1) := by decide +kernel
theorem dX49_findDate_1 : decode cX49_findDate 1 = .ok (.ldc2_w 71, 3) := by decide +kernel
theorem dX49_findDate_4 : decode cX49_findDate 4 = .ok (.iconst 1, 1) := by decide +kernel
theorem dX49_findDate_5 : decode cX49_findDate 5 = .ok (.invokestatic 67, 3) := by decide +kernel
theorem dX49_findDate_8 : decode cX49_findDate 8 = .ok (.ladd, 1) := by decide +kernel
theorem dX49_findDate_9 : decode cX49_findDate 9 = .ok (.lstore_n 3, 1) := by decide +kernel
theorem dX49_findDate_10 : decode cX49_findDate 10 = .ok (.aload_n 0, 1) := by decide +kernel
theorem dX49_findDate_11 : decode cX49_findDate 11 = .ok (.ldc2_w 51, 3) := by decide +kernel
theorem dX49_findDate_14 : decode cX49_findDate 14 = .ok (.lload_n 3, 1) := by decide +kernel
theorem dX49_findDate_15 : decode cX49_findDate 15 = .ok (.ldc2_w 57, 3) := by decide +kernel
theorem dX49_findDate_18 : decode cX49_findDate 18 = .ok (.invokestatic 40, 3) := by decide +kernel
theorem dX49_findDate_21 : decode cX49_findDate 21 = .ok (.lmul, 1) := by decide +kernel
theorem dX49_findDate_22 : decode cX49_findDate 22 = .ok (.putfield 73, 3) := by decide +kernel
theorem dX49_findDate_25 : decode cX49_findDate 25 = .ok (.lload_n 3, 1) := by decide +kernel
theorem dX49_findDate_26 : decode cX49_findDate 26 = .ok (.ldc2_w 57, 3) := by decide +kernel
theorem dX49_findDate_29 : decode cX49_findDate 29 = .ok (.invokestatic 46, 3) := by decide +kernel
theorem dX49_findDate_32 : decode cX49_findDate 32 = .ok (.lstore 5, 2) := by decide +kernel
theorem dX49_findDate_34 : decode cX49_findDate 34 = .ok (.aload_n 0, 1) := by decide +kernel
theorem dX49_findDate_35 : decode cX49_findDate 35 = .ok (.getfield 73, 3) := by decide +kernel
theorem dX49_findDate_38 : decode cX49_findDate 38 = .ok (.invokestatic 53, 3) := by decide +kernel
theorem dX49_findDate_41 : decode cX49_findDate 41 = .ok (.ifCond .eq 9, 3) := by decide +kernel
theorem dX49_findDate_44 : decode cX49_findDate 44 = .ok (.ldc2_w 59, 3) := by decide +kernel
theorem dX49_findDate_47 : decode cX49_findDate 47 = .ok (.goto 6, 3) := by decide +kernel
theorem dX49_findDate_50 : decode cX49_findDate 50 = .ok (.ldc2_w 61, 3) := by decide +kernel
theorem dX49_findDate_53 : decode cX49_findDate 53 = .ok (.lstore 7, 2) := by decide +kernel
theorem dX49_findDate_55 : decode cX49_findDate 55 = .ok (.lload 5, 2) := by decide +kernel
theorem dX49_findDate_57 : decode cX49_findDate 57 = .ok (.lload 7, 2) := by decide +kernel
theorem dX49_findDate_59 : decode cX49_findDate 59 = .ok (.lcmp, 1) := by decide +kernel
theorem dX49_findDate_60 : decode cX49_findDate 60 = .ok (.ifCond .lt 44, 3) := by decide +kernel
theorem dX49_findDate_63 : decode cX49_findDate 63 = .ok (.lload 5, 2) := by decide +kernel
theorem dX49_findDate_65 : decode cX49_findDate 65 = .ok (.lload 7, 2) := by decide +kernel
theorem dX49_findDate_67 : decode cX49_findDate 67 = .ok (.lsub, 1) := by decide +kernel
theorem dX49_findDate_68 : decode cX49_findDate 68 = .ok (.lstore 5, 2) := by decide +kernel
theorem dX49_findDate_70 : decode cX49_findDate 70 = .ok (.aload_n 0, 1) := by decide +kernel
theorem dX49_findDate_71 : decode cX49_findDate 71 = .ok (.dup, 1) := by decide +kernel
theorem dX49_findDate_72 : decode cX49_findDate 72 = .ok (.getfield 73, 3) := by decide +kernel
theorem dX49_findDate_75 : decode cX49_findDate 75 = .ok (.lconst 1, 1) := by decide +kernel
theorem dX49_findDate_76 : decode cX49_findDate 76 = .ok (.ladd, 1) := by decide +kernel
theorem dX49_findDate_77 : decode cX49_findDate 77 = .ok (.putfield 73, 3) := by decide +kernel
theorem dX49_findDate_80 : decode cX49_findDate 80 = .ok (.aload_n 0, 1) := by decide +kernel
theorem dX49_findDate_81 : decode cX49_findDate 81 = .ok (.getfield 73, 3) := by decide +kernel
theorem dX49_findDate_84 : decode cX49_findDate 84 = .ok (.invokestatic 53, 3) := by decide +kernel
theorem dX49_findDate_87 : decode cX49_findDate 87 = .ok (.ifCond .eq 9, 3) := by decide +kernel
theorem dX49_findDate_90 : decode cX49_findDate 90 = .ok (.ldc2_w 59, 3) := by decide +kernel
theorem dX49_findDate_93 : decode cX49_findDate 93 = .ok (.goto 6, 3) := by decide +kernel
theorem dX49_findDate_96 : decode cX49_findDate 96 = .ok (.ldc2_w 61, 3) := by decide +kernel
theorem dX49_findDate_99 : decode cX49_findDate 99 = .ok (.lstore 7, 2) := by decide +kernel
theorem dX49_findDate_101 : decode cX49_findDate 101 = .ok (.goto (-46), 3) := by decide +kernel
theorem dX49_findDate_104 : decode cX49_findDate 104 = .ok (.aload_n 0, 1) := by decide +kernel
theorem dX49_findDate_105 : decode cX49_findDate 105 = .ok (.iconst 1, 1) := by decide +kernel
theorem dX49_findDate_106 : decode cX49_findDate 106 = .ok (.putfield 77, 3) := by decide +kernel
theorem dX49_findDate_109 : decode cX49_findDate 109 = .ok (.lload 5, 2) := by decide +kernel
theorem dX49_findDate_111 : decode cX49_findDate 111 = .ok (.aload_n 0, 1) := by decide +kernel
theorem dX49_findDate_112 : decode cX49_findDate 112 = .ok (.getfield 73, 3) := by decide +kernel
theorem dX49_findDate_115 : decode cX49_findDate 115 = .ok (.aload_n 0, 1) := by decide +kernel
theorem dX49_findDate_116 : decode cX49_findDate 116 = .ok (.getfield 77, 3) := by decide +kernel
theorem dX49_findDate_119 : decode cX49_findDate 119 = .ok (.invokestatic 63, 3) := by decide +kernel
theorem dX49_findDate_122 : decode cX49_findDate 122 = .ok (.i2l, 1) := by decide +kernel
theorem dX49_findDate_123 : decode cX49_findDate 123 = .ok (.lcmp, 1) := by decide +kernel
theorem dX49_findDate_124 : decode cX49_findDate 124 = .ok (.ifCond .lt 33, 3) := by decide +kernel
theorem dX49_findDate_127 : decode cX49_findDate 127 = .ok (.lload 5, 2) := by decide +kernel
theorem dX49_findDate_129 : decode cX49_findDate 129 = .ok (.aload_n 0, 1) := by decide +kernel
theorem dX49_findDate_130 : decode cX49_findDate 130 = .ok (.getfield 73, 3) := by decide +kernel
theorem dX49_findDate_133 : decode cX49_findDate 133 = .ok (.aload_n 0, 1) := by decide +kernel
theorem dX49_findDate_134 : decode cX49_findDate 134 = .ok (.getfield 77, 3) := by decide +kernel
theorem dX49_findDate_137 : decode cX49_findDate 137 = .ok (.invokestatic 63, 3) := by decide +kernel
theorem dX49_findDate_140 : decode cX49_findDate 140 = .ok (.i2l, 1) := by decide +kernel
theorem dX49_findDate_141 : decode cX49_findDate 141 = .ok (.lsub, 1) := by decide +kernel
theorem dX49_findDate_142 : decode cX49_findDate 142 = .ok (.lstore 5, 2) := by decide +kernel
theorem dX49_findDate_144 : decode cX49_findDate 144 = .ok (.aload_n 0, 1) := by decide +kernel
theorem dX49_findDate_145 : decode cX49_findDate 145 = .ok (.dup, 1) := by decide +kernel
theorem dX49_findDate_146 : decode cX49_findDate 146 = .ok (.getfield 77, 3) := by decide +kernel
theorem dX49_findDate_149 : decode cX49_findDate 149 = .ok (.iconst 1, 1) := by decide +kernel
theorem dX49_findDate_150 : decode cX49_findDate 150 = .ok (.iadd, 1) := by decide +kernel
theorem dX49_findDate_151 : decode cX49_findDate 151 = .ok (.putfield 77, 3) := by decide +kernel
theorem dX49_findDate_154 : decode cX49_findDate 154 = .ok (.goto (-45), 3) := by decide +kernel
theorem dX49_findDate_157 : decode cX49_findDate 157 = .ok (.aload_n 0, 1) := by decide +kernel
theorem dX49_findDate_158 : decode cX49_findDate 158 = .ok (.lload 5, 2) := by decide +kernel
theorem dX49_findDate_160 : decode cX49_findDate 160 = .ok (.l2i, 1) := by decide +kernel
theorem dX49_findDate_161 : decode cX49_findDate 161 = .ok (.iconst 1, 1) := by decide +kernel
theorem dX49_findDate_162 : decode cX49_findDate 162 = .ok (.iadd, 1) := by decide +kernel
theorem dX49_findDate_163 : decode cX49_findDate 163 = .ok (.putfield 80, 3) := by decide +kernel
theorem dX49_findDate_166 : decode cX49_findDate 166 = .ok (.return_, 1) := by decide +kernel
abbrev cX49_compareTimes : ByteArray := prog_82_method_47_code
def yX49_compareTimes : MethodName := ⟨RX49, "compareTimes", "(II)I"⟩
theorem dX49_compareTimes_0 : decode cX49_compareTimes 0 = .ok (.aload_n 0, 1) := by decide +kernel
theorem dX49_compareTimes_1 : decode cX49_compareTimes 1 = .ok (.getfield 17, 3) := by decide +kernel
theorem dX49_compareTimes_4 : decode cX49_compareTimes 4 = .ok (.iload_n 1, 1) := by decide +kernel
theorem dX49_compareTimes_5 : decode cX49_compareTimes 5 = .ok (.laload, 1) := by decide +kernel
theorem dX49_compareTimes_6 : decode cX49_compareTimes 6 = .ok (.ldc2_w 230, 3) := by decide +kernel
theorem dX49_compareTimes_9 : decode cX49_compareTimes 9 = .ok (.lcmp, 1) := by decide +kernel
theorem dX49_compareTimes_10 : decode cX49_compareTimes 10 = .ok (.ifCond .ne 7, 3) := by decide +kernel
theorem dX49_compareTimes_13 : decode cX49_compareTimes 13 = .ok (.iconst 1, 1) := by decide +kernel
theorem dX49_compareTimes_14 : decode cX49_compareTimes 14 = .ok (.goto 4, 3) := by decide +kernel
theorem dX49_compareTimes_17 : decode cX49_compareTimes 17 = .ok (.iconst 0, 1) := by decide +kernel
theorem dX49_compareTimes_18 : decode cX49_compareTimes 18 = .ok (.istore_n 3, 1) := by decide +kernel
theorem dX49_compareTimes_19 : decode cX49_compareTimes 19 = .ok (.aload_n 0, 1) := by decide +kernel
theorem dX49_compareTimes_20 : decode cX49_compareTimes 20 = .ok (.getfield 17, 3) := by decide +kernel
theorem dX49_compareTimes_23 : decode cX49_compareTimes 23 = .ok (.iload_n 2, 1) := by decide +kernel
theorem dX49_compareTimes_24 : decode cX49_compareTimes 24 = .ok (.laload, 1) := by decide +kernel
theorem dX49_compareTimes_25 : decode cX49_compareTimes 25 = .ok (.ldc2_w 230, 3) := by decide +kernel
theorem dX49_compareTimes_28 : decode cX49_compareTimes 28 = .ok (.lcmp, 1) := by decide +kernel
theorem dX49_compareTimes_29 : decode cX49_compareTimes 29 = .ok (.ifCond .ne 7, 3) := by decide +kernel
theorem dX49_compareTimes_32 : decode cX49_compareTimes 32 = .ok (.iconst 1, 1) := by decide +kernel
theorem dX49_compareTimes_33 : decode cX49_compareTimes 33 = .ok (.goto 4, 3) := by decide +kernel
theorem dX49_compareTimes_36 : decode cX49_compareTimes 36 = .ok (.iconst 0, 1) := by decide +kernel
theorem dX49_compareTimes_37 : decode cX49_compareTimes 37 = .ok (.istore 4, 2) := by decide +kernel
theorem dX49_compareTimes_39 : decode cX49_compareTimes 39 = .ok (.iload_n 3, 1) := by decide +kernel
theorem dX49_compareTimes_40 : decode cX49_compareTimes 40 = .ok (.iload 4, 2) := by decide +kernel
theorem dX49_compareTimes_42 : decode cX49_compareTimes 42 = .ok (.if_icmp .ne 17, 3) := by decide +kernel
theorem dX49_compareTimes_45 : decode cX49_compareTimes 45 = .ok (.aload_n 0, 1) := by decide +kernel
theorem dX49_compareTimes_46 : decode cX49_compareTimes 46 = .ok (.iload_n 1, 1) := by decide +kernel
theorem dX49_compareTimes_47 : decode cX49_compareTimes 47 = .ok (.invokevirtual 232, 3) := by decide +kernel
theorem dX49_compareTimes_50 : decode cX49_compareTimes 50 = .ok (.aload_n 0, 1) := by decide +kernel
theorem dX49_compareTimes_51 : decode cX49_compareTimes 51 = .ok (.iload_n 2, 1) := by decide +kernel
theorem dX49_compareTimes_52 : decode cX49_compareTimes 52 = .ok (.invokevirtual 232, 3) := by decide +kernel
theorem dX49_compareTimes_55 : decode cX49_compareTimes 55 = .ok (.invokestatic 236, 3) := by decide +kernel
theorem dX49_compareTimes_58 : decode cX49_compareTimes 58 = .ok (.ireturn, 1) := by decide +kernel
theorem dX49_compareTimes_59 : decode cX49_compareTimes 59 = .ok (.ldc2_w 240, 3) := by decide +kernel
theorem dX49_compareTimes_62 : decode cX49_compareTimes 62 = .ok (.lstore 5, 2) := by decide +kernel
theorem dX49_compareTimes_64 : decode cX49_compareTimes 64 = .ok (.iload_n 3, 1) := by decide +kernel
theorem dX49_compareTimes_65 : decode cX49_compareTimes 65 = .ok (.ifCond .eq 24, 3) := by decide +kernel
theorem dX49_compareTimes_68 : decode cX49_compareTimes 68 = .ok (.aload_n 0, 1) := by decide +kernel
theorem dX49_compareTimes_69 : decode cX49_compareTimes 69 = .ok (.getfield 13, 3) := by decide +kernel
theorem dX49_compareTimes_72 : decode cX49_compareTimes 72 = .ok (.iload_n 1, 1) := by decide +kernel
theorem dX49_compareTimes_73 : decode cX49_compareTimes 73 = .ok (.laload, 1) := by decide +kernel
theorem dX49_compareTimes_74 : decode cX49_compareTimes 74 = .ok (.lload 5, 2) := by decide +kernel
theorem dX49_compareTimes_76 : decode cX49_compareTimes 76 = .ok (.lsub, 1) := by decide +kernel
theorem dX49_compareTimes_77 : decode cX49_compareTimes 77 = .ok (.aload_n 0, 1) := by decide +kernel
theorem dX49_compareTimes_78 : decode cX49_compareTimes 78 = .ok (.iload_n 2, 1) := by decide +kernel
theorem dX49_compareTimes_79 : decode cX49_compareTimes 79 = .ok (.invokevirtual 232, 3) := by decide +kernel
theorem dX49_compareTimes_82 : decode cX49_compareTimes 82 = .ok (.invokestatic 236, 3) := by decide +kernel
theorem dX49_compareTimes_85 : decode cX49_compareTimes 85 = .ok (.i2l, 1) := by decide +kernel
theorem dX49_compareTimes_86 : decode cX49_compareTimes 86 = .ok (.goto 21, 3) := by decide +kernel
theorem dX49_compareTimes_89 : decode cX49_compareTimes 89 = .ok (.aload_n 0, 1) := by decide +kernel
theorem dX49_compareTimes_90 : decode cX49_compareTimes 90 = .ok (.iload_n 1, 1) := by decide +kernel
theorem dX49_compareTimes_91 : decode cX49_compareTimes 91 = .ok (.invokevirtual 232, 3) := by decide +kernel
theorem dX49_compareTimes_94 : decode cX49_compareTimes 94 = .ok (.aload_n 0, 1) := by decide +kernel
theorem dX49_compareTimes_95 : decode cX49_compareTimes 95 = .ok (.getfield 13, 3) := by decide +kernel
theorem dX49_compareTimes_98 : decode cX49_compareTimes 98 = .ok (.iload_n 2, 1) := by decide +kernel
theorem dX49_compareTimes_99 : decode cX49_compareTimes 99 = .ok (.laload, 1) := by decide +kernel
theorem dX49_compareTimes_100 : decode cX49_compareTimes 100 = .ok (.lload 5, 2) := by decide +kernel
theorem dX49_compareTimes_102 : decode cX49_compareTimes 102 = .ok (.lsub, 1) := by decide +kernel
theorem dX49_compareTimes_103 : decode cX49_compareTimes 103 = .ok (.invokestatic 236, 3) := by decide +kernel
theorem dX49_compareTimes_106 : decode cX49_compareTimes 106 = .ok (.i2l, 1) := by decide +kernel
theorem dX49_compareTimes_107 : decode cX49_compareTimes 107 = .ok (.lstore 7, 2) := by decide +kernel
theorem dX49_compareTimes_109 : decode cX49_compareTimes 109 = .ok (.iload_n 3, 1) := by decide +kernel
theorem dX49_compareTimes_110 : decode cX49_compareTimes 110 = .ok (.ifCond .eq 24, 3) := by decide +kernel
theorem dX49_compareTimes_113 : decode cX49_compareTimes 113 = .ok (.aload_n 0, 1) := by decide +kernel
theorem dX49_compareTimes_114 : decode cX49_compareTimes 114 = .ok (.getfield 13, 3) := by decide +kernel
theorem dX49_compareTimes_117 : decode cX49_compareTimes 117 = .ok (.iload_n 1, 1) := by decide +kernel
theorem dX49_compareTimes_118 : decode cX49_compareTimes 118 = .ok (.laload, 1) := by decide +kernel
theorem dX49_compareTimes_119 : decode cX49_compareTimes 119 = .ok (.lload 5, 2) := by decide +kernel
theorem dX49_compareTimes_121 : decode cX49_compareTimes 121 = .ok (.ladd, 1) := by decide +kernel
theorem dX49_compareTimes_122 : decode cX49_compareTimes 122 = .ok (.aload_n 0, 1) := by decide +kernel
theorem dX49_compareTimes_123 : decode cX49_compareTimes 123 = .ok (.iload_n 2, 1) := by decide +kernel
theorem dX49_compareTimes_124 : decode cX49_compareTimes 124 = .ok (.invokevirtual 232, 3) := by decide +kernel
theorem dX49_compareTimes_127 : decode cX49_compareTimes 127 = .ok (.invokestatic 236, 3) := by decide +kernel
theorem dX49_compareTimes_130 : decode cX49_compareTimes 130 = .ok (.i2l, 1) := by decide +kernel
theorem dX49_compareTimes_131 : decode cX49_compareTimes 131 = .ok (.goto 21, 3) := by decide +kernel
theorem dX49_compareTimes_134 : decode cX49_compareTimes 134 = .ok (.aload_n 0, 1) := by decide +kernel
theorem dX49_compareTimes_135 : decode cX49_compareTimes 135 = .ok (.iload_n 1, 1) := by decide +kernel
theorem dX49_compareTimes_136 : decode cX49_compareTimes 136 = .ok (.invokevirtual 232, 3) := by decide +kernel
theorem dX49_compareTimes_139 : decode cX49_compareTimes 139 = .ok (.aload_n 0, 1) := by decide +kernel
theorem dX49_compareTimes_140 : decode cX49_compareTimes 140 = .ok (.getfield 13, 3) := by decide +kernel
theorem dX49_compareTimes_143 : decode cX49_compareTimes 143 = .ok (.iload_n 2, 1) := by decide +kernel
theorem dX49_compareTimes_144 : decode cX49_compareTimes 144 = .ok (.laload, 1) := by decide +kernel
theorem dX49_compareTimes_145 : decode cX49_compareTimes 145 = .ok (.lload 5, 2) := by decide +kernel
theorem dX49_compareTimes_147 : decode cX49_compareTimes 147 = .ok (.ladd, 1) := by decide +kernel
theorem dX49_compareTimes_148 : decode cX49_compareTimes 148 = .ok (.invokestatic 236, 3) := by decide +kernel
theorem dX49_compareTimes_151 : decode cX49_compareTimes 151 = .ok (.i2l, 1) := by decide +kernel
theorem dX49_compareTimes_152 : decode cX49_compareTimes 152 = .ok (.lstore 9, 2) := by decide +kernel
theorem dX49_compareTimes_154 : decode cX49_compareTimes 154 = .ok (.lload 7, 2) := by decide +kernel
theorem dX49_compareTimes_156 : decode cX49_compareTimes 156 = .ok (.lload 9, 2) := by decide +kernel
theorem dX49_compareTimes_158 : decode cX49_compareTimes 158 = .ok (.lcmp, 1) := by decide +kernel
theorem dX49_compareTimes_159 : decode cX49_compareTimes 159 = .ok (.ifCond .ne 16, 3) := by decide +kernel
theorem dX49_compareTimes_162 : decode cX49_compareTimes 162 = .ok (.lload 7, 2) := by decide +kernel
theorem dX49_compareTimes_164 : decode cX49_compareTimes 164 = .ok (.lconst 0, 1) := by decide +kernel
theorem dX49_compareTimes_165 : decode cX49_compareTimes 165 = .ok (.lcmp, 1) := by decide +kernel
theorem dX49_compareTimes_166 : decode cX49_compareTimes 166 = .ok (.ifCond .eq 9, 3) := by decide +kernel
theorem dX49_compareTimes_169 : decode cX49_compareTimes 169 = .ok (.lload 7, 2) := by decide +kernel
theorem dX49_compareTimes_171 : decode cX49_compareTimes 171 = .ok (.l2i, 1) := by decide +kernel
theorem dX49_compareTimes_172 : decode cX49_compareTimes 172 = .ok (.goto 4, 3) := by decide +kernel
theorem dX49_compareTimes_175 : decode cX49_compareTimes 175 = .ok (.iconst 2, 1) := by decide +kernel
theorem dX49_compareTimes_176 : decode cX49_compareTimes 176 = .ok (.ireturn, 1) := by decide +kernel
abbrev cX49_point : ByteArray := prog_82_method_46_code
def yX49_point : MethodName := ⟨RX49, "point", "(I)J"⟩
theorem dX49_point_0 : decode cX49_point 0 = .ok (.aload_n 0, 1) := by decide +kernel
theorem dX49_point_1 : decode cX49_point 1 = .ok (.getfield 17, 3) := by decide +kernel
theorem dX49_point_4 : decode cX49_point 4 = .ok (.iload_n 1, 1) := by decide +kernel
theorem dX49_point_5 : decode cX49_point 5 = .ok (.laload, 1) := by decide +kernel
theorem dX49_point_6 : decode cX49_point 6 = .ok (.ldc2_w 230, 3) := by decide +kernel
theorem dX49_point_9 : decode cX49_point 9 = .ok (.lcmp, 1) := by decide +kernel
theorem dX49_point_10 : decode cX49_point 10 = .ok (.ifCond .ne 12, 3) := by decide +kernel
theorem dX49_point_13 : decode cX49_point 13 = .ok (.aload_n 0, 1) := by decide +kernel
theorem dX49_point_14 : decode cX49_point 14 = .ok (.getfield 13, 3) := by decide +kernel
theorem dX49_point_17 : decode cX49_point 17 = .ok (.iload_n 1, 1) := by decide +kernel
theorem dX49_point_18 : decode cX49_point 18 = .ok (.laload, 1) := by decide +kernel
theorem dX49_point_19 : decode cX49_point 19 = .ok (.goto 20, 3) := by decide +kernel
theorem dX49_point_22 : decode cX49_point 22 = .ok (.aload_n 0, 1) := by decide +kernel
theorem dX49_point_23 : decode cX49_point 23 = .ok (.getfield 13, 3) := by decide +kernel
theorem dX49_point_26 : decode cX49_point 26 = .ok (.iload_n 1, 1) := by decide +kernel
theorem dX49_point_27 : decode cX49_point 27 = .ok (.laload, 1) := by decide +kernel
theorem dX49_point_28 : decode cX49_point 28 = .ok (.ldc2_w 168, 3) := by decide +kernel
theorem dX49_point_31 : decode cX49_point 31 = .ok (.aload_n 0, 1) := by decide +kernel
theorem dX49_point_32 : decode cX49_point 32 = .ok (.getfield 17, 3) := by decide +kernel
theorem dX49_point_35 : decode cX49_point 35 = .ok (.iload_n 1, 1) := by decide +kernel
theorem dX49_point_36 : decode cX49_point 36 = .ok (.laload, 1) := by decide +kernel
theorem dX49_point_37 : decode cX49_point 37 = .ok (.lmul, 1) := by decide +kernel
theorem dX49_point_38 : decode cX49_point 38 = .ok (.lsub, 1) := by decide +kernel
theorem dX49_point_39 : decode cX49_point 39 = .ok (.lreturn, 1) := by decide +kernel
abbrev cX49_part : ByteArray := prog_82_method_41_code
def yX49_part : MethodName := ⟨RX49, "part", "(II)J"⟩
theorem dX49_part_0 : decode cX49_part 0 = .ok (.aload_n 0, 1) := by decide +kernel
theorem dX49_part_1 : decode cX49_part 1 = .ok (.iconst 0, 1) := by decide +kernel
theorem dX49_part_2 : decode cX49_part 2 = .ok (.putfield 33, 3) := by decide +kernel
theorem dX49_part_5 : decode cX49_part 5 = .ok (.aload_n 0, 1) := by decide +kernel
theorem dX49_part_6 : decode cX49_part 6 = .ok (.iload_n 1, 1) := by decide +kernel
theorem dX49_part_7 : decode cX49_part 7 = .ok (.invokevirtual 224, 3) := by decide +kernel
theorem dX49_part_10 : decode cX49_part 10 = .ok (.ifCond .ne 7, 3) := by decide +kernel
theorem dX49_part_13 : decode cX49_part 13 = .ok (.lconst 0, 1) := by decide +kernel
theorem dX49_part_14 : decode cX49_part 14 = .ok (.goto 31, 3) := by decide +kernel
theorem dX49_part_17 : decode cX49_part 17 = .ok (.iload_n 2, 1) := by decide +kernel
theorem dX49_part_18 : decode cX49_part 18 = .ok (.ifCond .ne 12, 3) := by decide +kernel
theorem dX49_part_21 : decode cX49_part 21 = .ok (.aload_n 0, 1) := by decide +kernel
theorem dX49_part_22 : decode cX49_part 22 = .ok (.getfield 13, 3) := by decide +kernel
theorem dX49_part_25 : decode cX49_part 25 = .ok (.iload_n 1, 1) := by decide +kernel
theorem dX49_part_26 : decode cX49_part 26 = .ok (.laload, 1) := by decide +kernel
theorem dX49_part_27 : decode cX49_part 27 = .ok (.goto 18, 3) := by decide +kernel
theorem dX49_part_30 : decode cX49_part 30 = .ok (.iload_n 2, 1) := by decide +kernel
theorem dX49_part_31 : decode cX49_part 31 = .ok (.iconst 1, 1) := by decide +kernel
theorem dX49_part_32 : decode cX49_part 32 = .ok (.if_icmp .ne 12, 3) := by decide +kernel
theorem dX49_part_35 : decode cX49_part 35 = .ok (.aload_n 0, 1) := by decide +kernel
theorem dX49_part_36 : decode cX49_part 36 = .ok (.getfield 17, 3) := by decide +kernel
theorem dX49_part_39 : decode cX49_part 39 = .ok (.iload_n 1, 1) := by decide +kernel
theorem dX49_part_40 : decode cX49_part 40 = .ok (.laload, 1) := by decide +kernel
theorem dX49_part_41 : decode cX49_part 41 = .ok (.goto 4, 3) := by decide +kernel
theorem dX49_part_44 : decode cX49_part 44 = .ok (.lconst 0, 1) := by decide +kernel
theorem dX49_part_45 : decode cX49_part 45 = .ok (.lreturn, 1) := by decide +kernel
abbrev cX49_byteOf : ByteArray := prog_82_method_44_code
def yX49_byteOf : MethodName := ⟨RX49, "byteOf", "(II)I"⟩
theorem dX49_byteOf_0 : decode cX49_byteOf 0 = .ok (.aload_n 0, 1) := by decide +kernel
theorem dX49_byteOf_1 : decode cX49_byteOf 1 = .ok (.iconst 0, 1) := by decide +kernel
theorem dX49_byteOf_2 : decode cX49_byteOf 2 = .ok (.putfield 33, 3) := by decide +kernel
theorem dX49_byteOf_5 : decode cX49_byteOf 5 = .ok (.aload_n 0, 1) := by decide +kernel
theorem dX49_byteOf_6 : decode cX49_byteOf 6 = .ok (.iload_n 1, 1) := by decide +kernel
theorem dX49_byteOf_7 : decode cX49_byteOf 7 = .ok (.invokevirtual 224, 3) := by decide +kernel
theorem dX49_byteOf_10 : decode cX49_byteOf 10 = .ok (.ifCond .eq 44, 3) := by decide +kernel
theorem dX49_byteOf_13 : decode cX49_byteOf 13 = .ok (.aload_n 0, 1) := by decide +kernel
theorem dX49_byteOf_14 : decode cX49_byteOf 14 = .ok (.getfield 7, 3) := by decide +kernel
theorem dX49_byteOf_17 : decode cX49_byteOf 17 = .ok (.iload_n 1, 1) := by decide +kernel
theorem dX49_byteOf_18 : decode cX49_byteOf 18 = .ok (.iaload, 1) := by decide +kernel
theorem dX49_byteOf_19 : decode cX49_byteOf 19 = .ok (.bipush 6, 2) := by decide +kernel
theorem dX49_byteOf_21 : decode cX49_byteOf 21 = .ok (.if_icmp .le 33, 3) := by decide +kernel
theorem dX49_byteOf_24 : decode cX49_byteOf 24 = .ok (.iload_n 2, 1) := by decide +kernel
theorem dX49_byteOf_25 : decode cX49_byteOf 25 = .ok (.ifCond .lt 29, 3) := by decide +kernel
theorem dX49_byteOf_28 : decode cX49_byteOf 28 = .ok (.iload_n 2, 1) := by decide +kernel
theorem dX49_byteOf_29 : decode cX49_byteOf 29 = .ok (.i2l, 1) := by decide +kernel
theorem dX49_byteOf_30 : decode cX49_byteOf 30 = .ok (.aload_n 0, 1) := by decide +kernel
theorem dX49_byteOf_31 : decode cX49_byteOf 31 = .ok (.getfield 13, 3) := by decide +kernel
theorem dX49_byteOf_34 : decode cX49_byteOf 34 = .ok (.iload_n 1, 1) := by decide +kernel
theorem dX49_byteOf_35 : decode cX49_byteOf 35 = .ok (.laload, 1) := by decide +kernel
theorem dX49_byteOf_36 : decode cX49_byteOf 36 = .ok (.lcmp, 1) := by decide +kernel
theorem dX49_byteOf_37 : decode cX49_byteOf 37 = .ok (.ifCond .ge 17, 3) := by decide +kernel
theorem dX49_byteOf_40 : decode cX49_byteOf 40 = .ok (.aload_n 0, 1) := by decide +kernel
theorem dX49_byteOf_41 : decode cX49_byteOf 41 = .ok (.getfield 20, 3) := by decide +kernel
theorem dX49_byteOf_44 : decode cX49_byteOf 44 = .ok (.bipush 20, 2) := by decide +kernel
theorem dX49_byteOf_46 : decode cX49_byteOf 46 = .ok (.iload_n 1, 1) := by decide +kernel
theorem dX49_byteOf_47 : decode cX49_byteOf 47 = .ok (.imul, 1) := by decide +kernel
theorem dX49_byteOf_48 : decode cX49_byteOf 48 = .ok (.iload_n 2, 1) := by decide +kernel
theorem dX49_byteOf_49 : decode cX49_byteOf 49 = .ok (.iadd, 1) := by decide +kernel
theorem dX49_byteOf_50 : decode cX49_byteOf 50 = .ok (.iaload, 1) := by decide +kernel
theorem dX49_byteOf_51 : decode cX49_byteOf 51 = .ok (.goto 4, 3) := by decide +kernel
theorem dX49_byteOf_54 : decode cX49_byteOf 54 = .ok (.iconst (-1), 1) := by decide +kernel
theorem dX49_byteOf_55 : decode cX49_byteOf 55 = .ok (.ireturn, 1) := by decide +kernel
abbrev cX49_tell : ByteArray := prog_82_method_61_code
def yX49_tell : MethodName := ⟨RX49, "tell", "(I)I"⟩
theorem dX49_tell_0 : decode cX49_tell 0 = .ok (.aload_n 0, 1) := by decide +kernel
theorem dX49_tell_1 : decode cX49_tell 1 = .ok (.iconst 0, 1) := by decide +kernel
theorem dX49_tell_2 : decode cX49_tell 2 = .ok (.putfield 33, 3) := by decide +kernel
theorem dX49_tell_5 : decode cX49_tell 5 = .ok (.aload_n 0, 1) := by decide +kernel
theorem dX49_tell_6 : decode cX49_tell 6 = .ok (.iload_n 1, 1) := by decide +kernel
theorem dX49_tell_7 : decode cX49_tell 7 = .ok (.invokevirtual 224, 3) := by decide +kernel
theorem dX49_tell_10 : decode cX49_tell 10 = .ok (.ifCond .ne 5, 3) := by decide +kernel
theorem dX49_tell_13 : decode cX49_tell 13 = .ok (.iconst (-1), 1) := by decide +kernel
theorem dX49_tell_14 : decode cX49_tell 14 = .ok (.ireturn, 1) := by decide +kernel
theorem dX49_tell_15 : decode cX49_tell 15 = .ok (.aload_n 0, 1) := by decide +kernel
theorem dX49_tell_16 : decode cX49_tell 16 = .ok (.iconst 0, 1) := by decide +kernel
theorem dX49_tell_17 : decode cX49_tell 17 = .ok (.putfield 261, 3) := by decide +kernel
theorem dX49_tell_20 : decode cX49_tell 20 = .ok (.aload_n 0, 1) := by decide +kernel
theorem dX49_tell_21 : decode cX49_tell 21 = .ok (.getfield 7, 3) := by decide +kernel
theorem dX49_tell_24 : decode cX49_tell 24 = .ok (.iload_n 1, 1) := by decide +kernel
theorem dX49_tell_25 : decode cX49_tell 25 = .ok (.iaload, 1) := by decide +kernel
theorem dX49_tell_26 : decode cX49_tell 26 = .ok (.tableswitch 104 3 8 #[38, 61, 61, 69, 88, 96], 38) := by decide +kernel
theorem dX49_tell_64 : decode cX49_tell 64 = .ok (.aload_n 0, 1) := by decide +kernel
theorem dX49_tell_65 : decode cX49_tell 65 = .ok (.aload_n 0, 1) := by decide +kernel
theorem dX49_tell_66 : decode cX49_tell 66 = .ok (.getfield 13, 3) := by decide +kernel
theorem dX49_tell_69 : decode cX49_tell 69 = .ok (.iload_n 1, 1) := by decide +kernel
theorem dX49_tell_70 : decode cX49_tell 70 = .ok (.laload, 1) := by decide +kernel
theorem dX49_tell_71 : decode cX49_tell 71 = .ok (.lconst 1, 1) := by decide +kernel
theorem dX49_tell_72 : decode cX49_tell 72 = .ok (.lcmp, 1) := by decide +kernel
theorem dX49_tell_73 : decode cX49_tell 73 = .ok (.ifCond .ne 7, 3) := by decide +kernel
theorem dX49_tell_76 : decode cX49_tell 76 = .ok (.iconst 1, 1) := by decide +kernel
theorem dX49_tell_77 : decode cX49_tell 77 = .ok (.goto 4, 3) := by decide +kernel
theorem dX49_tell_80 : decode cX49_tell 80 = .ok (.iconst 0, 1) := by decide +kernel
theorem dX49_tell_81 : decode cX49_tell 81 = .ok (.invokevirtual 282, 3) := by decide +kernel
theorem dX49_tell_84 : decode cX49_tell 84 = .ok (.goto 85, 3) := by decide +kernel
theorem dX49_tell_87 : decode cX49_tell 87 = .ok (.aload_n 0, 1) := by decide +kernel
theorem dX49_tell_88 : decode cX49_tell 88 = .ok (.iload_n 1, 1) := by decide +kernel
theorem dX49_tell_89 : decode cX49_tell 89 = .ok (.invokevirtual 286, 3) := by decide +kernel
theorem dX49_tell_92 : decode cX49_tell 92 = .ok (.goto 77, 3) := by decide +kernel
theorem dX49_tell_95 : decode cX49_tell 95 = .ok (.aload_n 0, 1) := by decide +kernel
theorem dX49_tell_96 : decode cX49_tell 96 = .ok (.aload_n 0, 1) := by decide +kernel
theorem dX49_tell_97 : decode cX49_tell 97 = .ok (.getfield 13, 3) := by decide +kernel
theorem dX49_tell_100 : decode cX49_tell 100 = .ok (.iload_n 1, 1) := by decide +kernel
theorem dX49_tell_101 : decode cX49_tell 101 = .ok (.laload, 1) := by decide +kernel
theorem dX49_tell_102 : decode cX49_tell 102 = .ok (.aload_n 0, 1) := by decide +kernel
theorem dX49_tell_103 : decode cX49_tell 103 = .ok (.getfield 17, 3) := by decide +kernel
theorem dX49_tell_106 : decode cX49_tell 106 = .ok (.iload_n 1, 1) := by decide +kernel
theorem dX49_tell_107 : decode cX49_tell 107 = .ok (.laload, 1) := by decide +kernel
theorem dX49_tell_108 : decode cX49_tell 108 = .ok (.invokevirtual 289, 3) := by decide +kernel
theorem dX49_tell_111 : decode cX49_tell 111 = .ok (.goto 58, 3) := by decide +kernel
theorem dX49_tell_114 : decode cX49_tell 114 = .ok (.aload_n 0, 1) := by decide +kernel
theorem dX49_tell_115 : decode cX49_tell 115 = .ok (.iload_n 1, 1) := by decide +kernel
theorem dX49_tell_116 : decode cX49_tell 116 = .ok (.invokevirtual 293, 3) := by decide +kernel
theorem dX49_tell_119 : decode cX49_tell 119 = .ok (.goto 50, 3) := by decide +kernel
theorem dX49_tell_122 : decode cX49_tell 122 = .ok (.aload_n 0, 1) := by decide +kernel
theorem dX49_tell_123 : decode cX49_tell 123 = .ok (.iload_n 1, 1) := by decide +kernel
theorem dX49_tell_124 : decode cX49_tell 124 = .ok (.invokevirtual 296, 3) := by decide +kernel
theorem dX49_tell_127 : decode cX49_tell 127 = .ok (.goto 42, 3) := by decide +kernel
theorem dX49_tell_130 : decode cX49_tell 130 = .ok (.aload_n 0, 1) := by decide +kernel
theorem dX49_tell_131 : decode cX49_tell 131 = .ok (.aload_n 0, 1) := by decide +kernel
theorem dX49_tell_132 : decode cX49_tell 132 = .ok (.getfield 13, 3) := by decide +kernel
theorem dX49_tell_135 : decode cX49_tell 135 = .ok (.iload_n 1, 1) := by decide +kernel
theorem dX49_tell_136 : decode cX49_tell 136 = .ok (.laload, 1) := by decide +kernel
theorem dX49_tell_137 : decode cX49_tell 137 = .ok (.iconst 1, 1) := by decide +kernel
theorem dX49_tell_138 : decode cX49_tell 138 = .ok (.invokevirtual 267, 3) := by decide +kernel
theorem dX49_tell_141 : decode cX49_tell 141 = .ok (.aload_n 0, 1) := by decide +kernel
theorem dX49_tell_142 : decode cX49_tell 142 = .ok (.getfield 17, 3) := by decide +kernel
theorem dX49_tell_145 : decode cX49_tell 145 = .ok (.iload_n 1, 1) := by decide +kernel
theorem dX49_tell_146 : decode cX49_tell 146 = .ok (.laload, 1) := by decide +kernel
theorem dX49_tell_147 : decode cX49_tell 147 = .ok (.lconst 1, 1) := by decide +kernel
theorem dX49_tell_148 : decode cX49_tell 148 = .ok (.lcmp, 1) := by decide +kernel
theorem dX49_tell_149 : decode cX49_tell 149 = .ok (.ifCond .eq 20, 3) := by decide +kernel
theorem dX49_tell_152 : decode cX49_tell 152 = .ok (.aload_n 0, 1) := by decide +kernel
theorem dX49_tell_153 : decode cX49_tell 153 = .ok (.bipush 47, 2) := by decide +kernel
theorem dX49_tell_155 : decode cX49_tell 155 = .ok (.invokevirtual 264, 3) := by decide +kernel
theorem dX49_tell_158 : decode cX49_tell 158 = .ok (.aload_n 0, 1) := by decide +kernel
theorem dX49_tell_159 : decode cX49_tell 159 = .ok (.aload_n 0, 1) := by decide +kernel
theorem dX49_tell_160 : decode cX49_tell 160 = .ok (.getfield 17, 3) := by decide +kernel
theorem dX49_tell_163 : decode cX49_tell 163 = .ok (.iload_n 1, 1) := by decide +kernel
theorem dX49_tell_164 : decode cX49_tell 164 = .ok (.laload, 1) := by decide +kernel
theorem dX49_tell_165 : decode cX49_tell 165 = .ok (.iconst 1, 1) := by decide +kernel
theorem dX49_tell_166 : decode cX49_tell 166 = .ok (.invokevirtual 267, 3) := by decide +kernel
theorem dX49_tell_169 : decode cX49_tell 169 = .ok (.aload_n 0, 1) := by decide +kernel
theorem dX49_tell_170 : decode cX49_tell 170 = .ok (.getfield 261, 3) := by decide +kernel
theorem dX49_tell_173 : decode cX49_tell 173 = .ok (.ireturn, 1) := by decide +kernel
abbrev cX49_putTruth : ByteArray := prog_82_method_52_code
def yX49_putTruth : MethodName := ⟨RX49, "putTruth", "(Z)V"⟩
theorem dX49_putTruth_0 : decode cX49_putTruth 0 = .ok (.iload_n 1, 1) := by decide +kernel
theorem dX49_putTruth_1 : decode cX49_putTruth 1 = .ok (.ifCond .eq 9, 3) := by decide +kernel
theorem dX49_putTruth_4 : decode cX49_putTruth 4 = .ok (.ldc2_w 141, 3) := by decide +kernel
theorem dX49_putTruth_7 : decode cX49_putTruth 7 = .ok (.goto 6, 3) := by decide +kernel
theorem dX49_putTruth_10 : decode cX49_putTruth 10 = .ok (.ldc2_w 143, 3) := by decide +kernel
theorem dX49_putTruth_13 : decode cX49_putTruth 13 = .ok (.lstore_n 2, 1) := by decide +kernel
theorem dX49_putTruth_14 : decode cX49_putTruth 14 = .ok (.iload_n 1, 1) := by decide +kernel
theorem dX49_putTruth_15 : decode cX49_putTruth 15 = .ok (.ifCond .eq 7, 3) := by decide +kernel
theorem dX49_putTruth_18 : decode cX49_putTruth 18 = .ok (.iconst 3, 1) := by decide +kernel
theorem dX49_putTruth_19 : decode cX49_putTruth 19 = .ok (.goto 4, 3) := by decide +kernel
theorem dX49_putTruth_22 : decode cX49_putTruth 22 = .ok (.iconst 4, 1) := by decide +kernel
theorem dX49_putTruth_23 : decode cX49_putTruth 23 = .ok (.istore 4, 2) := by decide +kernel
theorem dX49_putTruth_25 : decode cX49_putTruth 25 = .ok (.iload 4, 2) := by decide +kernel
theorem dX49_putTruth_27 : decode cX49_putTruth 27 = .ok (.ifCond .lt 25, 3) := by decide +kernel
theorem dX49_putTruth_30 : decode cX49_putTruth 30 = .ok (.aload_n 0, 1) := by decide +kernel
theorem dX49_putTruth_31 : decode cX49_putTruth 31 = .ok (.lload_n 2, 1) := by decide +kernel
theorem dX49_putTruth_32 : decode cX49_putTruth 32 = .ok (.bipush 8, 2) := by decide +kernel
theorem dX49_putTruth_34 : decode cX49_putTruth 34 = .ok (.iload 4, 2) := by decide +kernel
theorem dX49_putTruth_36 : decode cX49_putTruth 36 = .ok (.imul, 1) := by decide +kernel
theorem dX49_putTruth_37 : decode cX49_putTruth 37 = .ok (.lshr, 1) := by decide +kernel
theorem dX49_putTruth_38 : decode cX49_putTruth 38 = .ok (.ldc2_w 145, 3) := by decide +kernel
theorem dX49_putTruth_41 : decode cX49_putTruth 41 = .ok (.land, 1) := by decide +kernel
theorem dX49_putTruth_42 : decode cX49_putTruth 42 = .ok (.l2i, 1) := by decide +kernel
theorem dX49_putTruth_43 : decode cX49_putTruth 43 = .ok (.invokevirtual 264, 3) := by decide +kernel
theorem dX49_putTruth_46 : decode cX49_putTruth 46 = .ok (.iinc 4 (-1), 3) := by decide +kernel
theorem dX49_putTruth_49 : decode cX49_putTruth 49 = .ok (.goto (-24), 3) := by decide +kernel
theorem dX49_putTruth_52 : decode cX49_putTruth 52 = .ok (.return_, 1) := by decide +kernel
abbrev cX49_put : ByteArray := prog_82_method_51_code
def yX49_put : MethodName := ⟨RX49, "put", "(I)V"⟩
theorem dX49_put_0 : decode cX49_put 0 = .ok (.aload_n 0, 1) := by decide +kernel
theorem dX49_put_1 : decode cX49_put 1 = .ok (.getfield 30, 3) := by decide +kernel
theorem dX49_put_4 : decode cX49_put 4 = .ok (.aload_n 0, 1) := by decide +kernel
theorem dX49_put_5 : decode cX49_put 5 = .ok (.getfield 261, 3) := by decide +kernel
theorem dX49_put_8 : decode cX49_put 8 = .ok (.iload_n 1, 1) := by decide +kernel
theorem dX49_put_9 : decode cX49_put 9 = .ok (.iastore, 1) := by decide +kernel
theorem dX49_put_10 : decode cX49_put 10 = .ok (.aload_n 0, 1) := by decide +kernel
theorem dX49_put_11 : decode cX49_put 11 = .ok (.dup, 1) := by decide +kernel
theorem dX49_put_12 : decode cX49_put 12 = .ok (.getfield 261, 3) := by decide +kernel
theorem dX49_put_15 : decode cX49_put 15 = .ok (.iconst 1, 1) := by decide +kernel
theorem dX49_put_16 : decode cX49_put 16 = .ok (.iadd, 1) := by decide +kernel
theorem dX49_put_17 : decode cX49_put 17 = .ok (.putfield 261, 3) := by decide +kernel
theorem dX49_put_20 : decode cX49_put 20 = .ok (.return_, 1) := by decide +kernel
abbrev cX49_putTime : ByteArray := prog_82_method_55_code
def yX49_putTime : MethodName := ⟨RX49, "putTime", "(I)V"⟩
theorem dX49_putTime_0 : decode cX49_putTime 0 = .ok (.aload_n 0, 1) := by decide +kernel
theorem dX49_putTime_1 : decode cX49_putTime 1 = .ok (.aload_n 0, 1) := by decide +kernel
theorem dX49_putTime_2 : decode cX49_putTime 2 = .ok (.getfield 13, 3) := by decide +kernel
theorem dX49_putTime_5 : decode cX49_putTime 5 = .ok (.iload_n 1, 1) := by decide +kernel
theorem dX49_putTime_6 : decode cX49_putTime 6 = .ok (.laload, 1) := by decide +kernel
theorem dX49_putTime_7 : decode cX49_putTime 7 = .ok (.ldc2_w 83, 3) := by decide +kernel
theorem dX49_putTime_10 : decode cX49_putTime 10 = .ok (.invokestatic 40, 3) := by decide +kernel
theorem dX49_putTime_13 : decode cX49_putTime 13 = .ok (.invokevirtual 85, 3) := by decide +kernel
theorem dX49_putTime_16 : decode cX49_putTime 16 = .ok (.aload_n 0, 1) := by decide +kernel
theorem dX49_putTime_17 : decode cX49_putTime 17 = .ok (.aload_n 0, 1) := by decide +kernel
theorem dX49_putTime_18 : decode cX49_putTime 18 = .ok (.getfield 73, 3) := by decide +kernel
theorem dX49_putTime_21 : decode cX49_putTime 21 = .ok (.iconst 4, 1) := by decide +kernel
theorem dX49_putTime_22 : decode cX49_putTime 22 = .ok (.invokevirtual 267, 3) := by decide +kernel
theorem dX49_putTime_25 : decode cX49_putTime 25 = .ok (.aload_n 0, 1) := by decide +kernel
theorem dX49_putTime_26 : decode cX49_putTime 26 = .ok (.bipush 45, 2) := by decide +kernel
theorem dX49_putTime_28 : decode cX49_putTime 28 = .ok (.invokevirtual 264, 3) := by decide +kernel
theorem dX49_putTime_31 : decode cX49_putTime 31 = .ok (.aload_n 0, 1) := by decide +kernel
theorem dX49_putTime_32 : decode cX49_putTime 32 = .ok (.aload_n 0, 1) := by decide +kernel
theorem dX49_putTime_33 : decode cX49_putTime 33 = .ok (.getfield 77, 3) := by decide +kernel
theorem dX49_putTime_36 : decode cX49_putTime 36 = .ok (.i2l, 1) := by decide +kernel
theorem dX49_putTime_37 : decode cX49_putTime 37 = .ok (.iconst 2, 1) := by decide +kernel
theorem dX49_putTime_38 : decode cX49_putTime 38 = .ok (.invokevirtual 267, 3) := by decide +kernel
theorem dX49_putTime_41 : decode cX49_putTime 41 = .ok (.aload_n 0, 1) := by decide +kernel
theorem dX49_putTime_42 : decode cX49_putTime 42 = .ok (.bipush 45, 2) := by decide +kernel
theorem dX49_putTime_44 : decode cX49_putTime 44 = .ok (.invokevirtual 264, 3) := by decide +kernel
theorem dX49_putTime_47 : decode cX49_putTime 47 = .ok (.aload_n 0, 1) := by decide +kernel
theorem dX49_putTime_48 : decode cX49_putTime 48 = .ok (.aload_n 0, 1) := by decide +kernel
theorem dX49_putTime_49 : decode cX49_putTime 49 = .ok (.getfield 80, 3) := by decide +kernel
theorem dX49_putTime_52 : decode cX49_putTime 52 = .ok (.i2l, 1) := by decide +kernel
theorem dX49_putTime_53 : decode cX49_putTime 53 = .ok (.iconst 2, 1) := by decide +kernel
theorem dX49_putTime_54 : decode cX49_putTime 54 = .ok (.invokevirtual 267, 3) := by decide +kernel
theorem dX49_putTime_57 : decode cX49_putTime 57 = .ok (.aload_n 0, 1) := by decide +kernel
theorem dX49_putTime_58 : decode cX49_putTime 58 = .ok (.getfield 7, 3) := by decide +kernel
theorem dX49_putTime_61 : decode cX49_putTime 61 = .ok (.iload_n 1, 1) := by decide +kernel
theorem dX49_putTime_62 : decode cX49_putTime 62 = .ok (.iaload, 1) := by decide +kernel
theorem dX49_putTime_63 : decode cX49_putTime 63 = .ok (.iconst 5, 1) := by decide +kernel
theorem dX49_putTime_64 : decode cX49_putTime 64 = .ok (.if_icmp .ne 81, 3) := by decide +kernel
theorem dX49_putTime_67 : decode cX49_putTime 67 = .ok (.aload_n 0, 1) := by decide +kernel
theorem dX49_putTime_68 : decode cX49_putTime 68 = .ok (.getfield 13, 3) := by decide +kernel
theorem dX49_putTime_71 : decode cX49_putTime 71 = .ok (.iload_n 1, 1) := by decide +kernel
theorem dX49_putTime_72 : decode cX49_putTime 72 = .ok (.laload, 1) := by decide +kernel
theorem dX49_putTime_73 : decode cX49_putTime 73 = .ok (.ldc2_w 83, 3) := by decide +kernel
theorem dX49_putTime_76 : decode cX49_putTime 76 = .ok (.invokestatic 46, 3) := by decide +kernel
theorem dX49_putTime_79 : decode cX49_putTime 79 = .ok (.lstore_n 2, 1) := by decide +kernel
theorem dX49_putTime_80 : decode cX49_putTime 80 = .ok (.aload_n 0, 1) := by decide +kernel
theorem dX49_putTime_81 : decode cX49_putTime 81 = .ok (.bipush 84, 2) := by decide +kernel
theorem dX49_putTime_83 : decode cX49_putTime 83 = .ok (.invokevirtual 264, 3) := by decide +kernel
theorem dX49_putTime_86 : decode cX49_putTime 86 = .ok (.aload_n 0, 1) := by decide +kernel
theorem dX49_putTime_87 : decode cX49_putTime 87 = .ok (.lload_n 2, 1) := by decide +kernel
theorem dX49_putTime_88 : decode cX49_putTime 88 = .ok (.ldc2_w 166, 3) := by decide +kernel
theorem dX49_putTime_91 : decode cX49_putTime 91 = .ok (.ldiv, 1) := by decide +kernel
theorem dX49_putTime_92 : decode cX49_putTime 92 = .ok (.iconst 2, 1) := by decide +kernel
theorem dX49_putTime_93 : decode cX49_putTime 93 = .ok (.invokevirtual 267, 3) := by decide +kernel
theorem dX49_putTime_96 : decode cX49_putTime 96 = .ok (.aload_n 0, 1) := by decide +kernel
theorem dX49_putTime_97 : decode cX49_putTime 97 = .ok (.bipush 58, 2) := by decide +kernel
theorem dX49_putTime_99 : decode cX49_putTime 99 = .ok (.invokevirtual 264, 3) := by decide +kernel
theorem dX49_putTime_102 : decode cX49_putTime 102 = .ok (.aload_n 0, 1) := by decide +kernel
theorem dX49_putTime_103 : decode cX49_putTime 103 = .ok (.lload_n 2, 1) := by decide +kernel
theorem dX49_putTime_104 : decode cX49_putTime 104 = .ok (.ldc2_w 168, 3) := by decide +kernel
theorem dX49_putTime_107 : decode cX49_putTime 107 = .ok (.ldiv, 1) := by decide +kernel
theorem dX49_putTime_108 : decode cX49_putTime 108 = .ok (.ldc2_w 271, 3) := by decide +kernel
theorem dX49_putTime_111 : decode cX49_putTime 111 = .ok (.lrem, 1) := by decide +kernel
theorem dX49_putTime_112 : decode cX49_putTime 112 = .ok (.iconst 2, 1) := by decide +kernel
theorem dX49_putTime_113 : decode cX49_putTime 113 = .ok (.invokevirtual 267, 3) := by decide +kernel
theorem dX49_putTime_116 : decode cX49_putTime 116 = .ok (.aload_n 0, 1) := by decide +kernel
theorem dX49_putTime_117 : decode cX49_putTime 117 = .ok (.bipush 58, 2) := by decide +kernel
theorem dX49_putTime_119 : decode cX49_putTime 119 = .ok (.invokevirtual 264, 3) := by decide +kernel
theorem dX49_putTime_122 : decode cX49_putTime 122 = .ok (.aload_n 0, 1) := by decide +kernel
theorem dX49_putTime_123 : decode cX49_putTime 123 = .ok (.lload_n 2, 1) := by decide +kernel
theorem dX49_putTime_124 : decode cX49_putTime 124 = .ok (.ldc2_w 161, 3) := by decide +kernel
theorem dX49_putTime_127 : decode cX49_putTime 127 = .ok (.ldiv, 1) := by decide +kernel
theorem dX49_putTime_128 : decode cX49_putTime 128 = .ok (.ldc2_w 271, 3) := by decide +kernel
theorem dX49_putTime_131 : decode cX49_putTime 131 = .ok (.lrem, 1) := by decide +kernel
theorem dX49_putTime_132 : decode cX49_putTime 132 = .ok (.iconst 2, 1) := by decide +kernel
theorem dX49_putTime_133 : decode cX49_putTime 133 = .ok (.invokevirtual 267, 3) := by decide +kernel
theorem dX49_putTime_136 : decode cX49_putTime 136 = .ok (.aload_n 0, 1) := by decide +kernel
theorem dX49_putTime_137 : decode cX49_putTime 137 = .ok (.lload_n 2, 1) := by decide +kernel
theorem dX49_putTime_138 : decode cX49_putTime 138 = .ok (.ldc2_w 161, 3) := by decide +kernel
theorem dX49_putTime_141 : decode cX49_putTime 141 = .ok (.lrem, 1) := by decide +kernel
theorem dX49_putTime_142 : decode cX49_putTime 142 = .ok (.invokevirtual 273, 3) := by decide +kernel
theorem dX49_putTime_145 : decode cX49_putTime 145 = .ok (.aload_n 0, 1) := by decide +kernel
theorem dX49_putTime_146 : decode cX49_putTime 146 = .ok (.getfield 17, 3) := by decide +kernel
theorem dX49_putTime_149 : decode cX49_putTime 149 = .ok (.iload_n 1, 1) := by decide +kernel
theorem dX49_putTime_150 : decode cX49_putTime 150 = .ok (.laload, 1) := by decide +kernel
theorem dX49_putTime_151 : decode cX49_putTime 151 = .ok (.lstore_n 2, 1) := by decide +kernel
theorem dX49_putTime_152 : decode cX49_putTime 152 = .ok (.lload_n 2, 1) := by decide +kernel
theorem dX49_putTime_153 : decode cX49_putTime 153 = .ok (.lconst 0, 1) := by decide +kernel
theorem dX49_putTime_154 : decode cX49_putTime 154 = .ok (.lcmp, 1) := by decide +kernel
theorem dX49_putTime_155 : decode cX49_putTime 155 = .ok (.ifCond .ne 9, 3) := by decide +kernel
theorem dX49_putTime_158 : decode cX49_putTime 158 = .ok (.aload_n 0, 1) := by decide +kernel
theorem dX49_putTime_159 : decode cX49_putTime 159 = .ok (.bipush 90, 2) := by decide +kernel
theorem dX49_putTime_161 : decode cX49_putTime 161 = .ok (.invokevirtual 264, 3) := by decide +kernel
theorem dX49_putTime_164 : decode cX49_putTime 164 = .ok (.lload_n 2, 1) := by decide +kernel
theorem dX49_putTime_165 : decode cX49_putTime 165 = .ok (.lconst 0, 1) := by decide +kernel
theorem dX49_putTime_166 : decode cX49_putTime 166 = .ok (.lcmp, 1) := by decide +kernel
theorem dX49_putTime_167 : decode cX49_putTime 167 = .ok (.ifCond .eq 11, 3) := by decide +kernel
theorem dX49_putTime_170 : decode cX49_putTime 170 = .ok (.lload_n 2, 1) := by decide +kernel
theorem dX49_putTime_171 : decode cX49_putTime 171 = .ok (.ldc2_w 230, 3) := by decide +kernel
theorem dX49_putTime_174 : decode cX49_putTime 174 = .ok (.lcmp, 1) := by decide +kernel
theorem dX49_putTime_175 : decode cX49_putTime 175 = .ok (.ifCond .ne 4, 3) := by decide +kernel
theorem dX49_putTime_178 : decode cX49_putTime 178 = .ok (.return_, 1) := by decide +kernel
theorem dX49_putTime_179 : decode cX49_putTime 179 = .ok (.aload_n 0, 1) := by decide +kernel
theorem dX49_putTime_180 : decode cX49_putTime 180 = .ok (.lload_n 2, 1) := by decide +kernel
theorem dX49_putTime_181 : decode cX49_putTime 181 = .ok (.lconst 0, 1) := by decide +kernel
theorem dX49_putTime_182 : decode cX49_putTime 182 = .ok (.lcmp, 1) := by decide +kernel
theorem dX49_putTime_183 : decode cX49_putTime 183 = .ok (.ifCond .ge 8, 3) := by decide +kernel
theorem dX49_putTime_186 : decode cX49_putTime 186 = .ok (.bipush 45, 2) := by decide +kernel
theorem dX49_putTime_188 : decode cX49_putTime 188 = .ok (.goto 5, 3) := by decide +kernel
theorem dX49_putTime_191 : decode cX49_putTime 191 = .ok (.bipush 43, 2) := by decide +kernel
theorem dX49_putTime_193 : decode cX49_putTime 193 = .ok (.invokevirtual 264, 3) := by decide +kernel
theorem dX49_putTime_196 : decode cX49_putTime 196 = .ok (.lload_n 2, 1) := by decide +kernel
theorem dX49_putTime_197 : decode cX49_putTime 197 = .ok (.lconst 0, 1) := by decide +kernel
theorem dX49_putTime_198 : decode cX49_putTime 198 = .ok (.lcmp, 1) := by decide +kernel
theorem dX49_putTime_199 : decode cX49_putTime 199 = .ok (.ifCond .ge 8, 3) := by decide +kernel
theorem dX49_putTime_202 : decode cX49_putTime 202 = .ok (.lload_n 2, 1) := by decide +kernel
theorem dX49_putTime_203 : decode cX49_putTime 203 = .ok (.lneg, 1) := by decide +kernel
theorem dX49_putTime_204 : decode cX49_putTime 204 = .ok (.goto 4, 3) := by decide +kernel
theorem dX49_putTime_207 : decode cX49_putTime 207 = .ok (.lload_n 2, 1) := by decide +kernel
theorem dX49_putTime_208 : decode cX49_putTime 208 = .ok (.lstore 4, 2) := by decide +kernel
theorem dX49_putTime_210 : decode cX49_putTime 210 = .ok (.aload_n 0, 1) := by decide +kernel
theorem dX49_putTime_211 : decode cX49_putTime 211 = .ok (.lload 4, 2) := by decide +kernel
theorem dX49_putTime_213 : decode cX49_putTime 213 = .ok (.ldc2_w 271, 3) := by decide +kernel
theorem dX49_putTime_216 : decode cX49_putTime 216 = .ok (.ldiv, 1) := by decide +kernel
theorem dX49_putTime_217 : decode cX49_putTime 217 = .ok (.iconst 2, 1) := by decide +kernel
theorem dX49_putTime_218 : decode cX49_putTime 218 = .ok (.invokevirtual 267, 3) := by decide +kernel
theorem dX49_putTime_221 : decode cX49_putTime 221 = .ok (.aload_n 0, 1) := by decide +kernel
theorem dX49_putTime_222 : decode cX49_putTime 222 = .ok (.bipush 58, 2) := by decide +kernel
theorem dX49_putTime_224 : decode cX49_putTime 224 = .ok (.invokevirtual 264, 3) := by decide +kernel
theorem dX49_putTime_227 : decode cX49_putTime 227 = .ok (.aload_n 0, 1) := by decide +kernel
theorem dX49_putTime_228 : decode cX49_putTime 228 = .ok (.lload 4, 2) := by decide +kernel
theorem dX49_putTime_230 : decode cX49_putTime 230 = .ok (.ldc2_w 271, 3) := by decide +kernel
theorem dX49_putTime_233 : decode cX49_putTime 233 = .ok (.lrem, 1) := by decide +kernel
theorem dX49_putTime_234 : decode cX49_putTime 234 = .ok (.iconst 2, 1) := by decide +kernel
theorem dX49_putTime_235 : decode cX49_putTime 235 = .ok (.invokevirtual 267, 3) := by decide +kernel
theorem dX49_putTime_238 : decode cX49_putTime 238 = .ok (.return_, 1) := by decide +kernel
abbrev cX49_putNumber : ByteArray := prog_82_method_53_code
def yX49_putNumber : MethodName := ⟨RX49, "putNumber", "(JI)V"⟩
theorem dX49_putNumber_0 : decode cX49_putNumber 0 = .ok (.lload_n 1, 1) := by decide +kernel
theorem dX49_putNumber_1 : decode cX49_putNumber 1 = .ok (.lconst 0, 1) := by decide +kernel
theorem dX49_putNumber_2 : decode cX49_putNumber 2 = .ok (.lcmp, 1) := by decide +kernel
theorem dX49_putNumber_3 : decode cX49_putNumber 3 = .ok (.ifCond .ge 9, 3) := by decide +kernel
theorem dX49_putNumber_6 : decode cX49_putNumber 6 = .ok (.aload_n 0, 1) := by decide +kernel
theorem dX49_putNumber_7 : decode cX49_putNumber 7 = .ok (.bipush 45, 2) := by decide +kernel
theorem dX49_putNumber_9 : decode cX49_putNumber 9 = .ok (.invokevirtual 264, 3) := by decide +kernel
theorem dX49_putNumber_12 : decode cX49_putNumber 12 = .ok (.lload_n 1, 1) := by decide +kernel
theorem dX49_putNumber_13 : decode cX49_putNumber 13 = .ok (.lconst 0, 1) := by decide +kernel
theorem dX49_putNumber_14 : decode cX49_putNumber 14 = .ok (.lcmp, 1) := by decide +kernel
theorem dX49_putNumber_15 : decode cX49_putNumber 15 = .ok (.ifCond .ge 8, 3) := by decide +kernel
theorem dX49_putNumber_18 : decode cX49_putNumber 18 = .ok (.lload_n 1, 1) := by decide +kernel
theorem dX49_putNumber_19 : decode cX49_putNumber 19 = .ok (.lneg, 1) := by decide +kernel
theorem dX49_putNumber_20 : decode cX49_putNumber 20 = .ok (.goto 4, 3) := by decide +kernel
theorem dX49_putNumber_23 : decode cX49_putNumber 23 = .ok (.lload_n 1, 1) := by decide +kernel
theorem dX49_putNumber_24 : decode cX49_putNumber 24 = .ok (.lstore 4, 2) := by decide +kernel
theorem dX49_putNumber_26 : decode cX49_putNumber 26 = .ok (.lconst 1, 1) := by decide +kernel
theorem dX49_putNumber_27 : decode cX49_putNumber 27 = .ok (.lstore 6, 2) := by decide +kernel
theorem dX49_putNumber_29 : decode cX49_putNumber 29 = .ok (.iconst 1, 1) := by decide +kernel
theorem dX49_putNumber_30 : decode cX49_putNumber 30 = .ok (.istore 8, 2) := by decide +kernel
theorem dX49_putNumber_32 : decode cX49_putNumber 32 = .ok (.lload 4, 2) := by decide +kernel
theorem dX49_putNumber_34 : decode cX49_putNumber 34 = .ok (.lload 6, 2) := by decide +kernel
theorem dX49_putNumber_36 : decode cX49_putNumber 36 = .ok (.ldiv, 1) := by decide +kernel
theorem dX49_putNumber_37 : decode cX49_putNumber 37 = .ok (.ldc2_w 117, 3) := by decide +kernel
theorem dX49_putNumber_40 : decode cX49_putNumber 40 = .ok (.lcmp, 1) := by decide +kernel
theorem dX49_putNumber_41 : decode cX49_putNumber 41 = .ok (.ifCond .ge 9, 3) := by decide +kernel
theorem dX49_putNumber_44 : decode cX49_putNumber 44 = .ok (.iload 8, 2) := by decide +kernel
theorem dX49_putNumber_46 : decode cX49_putNumber 46 = .ok (.iload_n 3, 1) := by decide +kernel
theorem dX49_putNumber_47 : decode cX49_putNumber 47 = .ok (.if_icmp .ge 17, 3) := by decide +kernel
theorem dX49_putNumber_50 : decode cX49_putNumber 50 = .ok (.ldc2_w 117, 3) := by decide +kernel
theorem dX49_putNumber_53 : decode cX49_putNumber 53 = .ok (.lload 6, 2) := by decide +kernel
theorem dX49_putNumber_55 : decode cX49_putNumber 55 = .ok (.lmul, 1) := by decide +kernel
theorem dX49_putNumber_56 : decode cX49_putNumber 56 = .ok (.lstore 6, 2) := by decide +kernel
theorem dX49_putNumber_58 : decode cX49_putNumber 58 = .ok (.iinc 8 1, 3) := by decide +kernel
theorem dX49_putNumber_61 : decode cX49_putNumber 61 = .ok (.goto (-29), 3) := by decide +kernel
theorem dX49_putNumber_64 : decode cX49_putNumber 64 = .ok (.iconst 0, 1) := by decide +kernel
theorem dX49_putNumber_65 : decode cX49_putNumber 65 = .ok (.istore 9, 2) := by decide +kernel
theorem dX49_putNumber_67 : decode cX49_putNumber 67 = .ok (.iload 9, 2) := by decide +kernel
theorem dX49_putNumber_69 : decode cX49_putNumber 69 = .ok (.iload 8, 2) := by decide +kernel
theorem dX49_putNumber_71 : decode cX49_putNumber 71 = .ok (.if_icmp .ge 35, 3) := by decide +kernel
theorem dX49_putNumber_74 : decode cX49_putNumber 74 = .ok (.aload_n 0, 1) := by decide +kernel
theorem dX49_putNumber_75 : decode cX49_putNumber 75 = .ok (.ldc2_w 119, 3) := by decide +kernel
theorem dX49_putNumber_78 : decode cX49_putNumber 78 = .ok (.lload 4, 2) := by decide +kernel
theorem dX49_putNumber_80 : decode cX49_putNumber 80 = .ok (.lload 6, 2) := by decide +kernel
theorem dX49_putNumber_82 : decode cX49_putNumber 82 = .ok (.ldiv, 1) := by decide +kernel
theorem dX49_putNumber_83 : decode cX49_putNumber 83 = .ok (.ldc2_w 117, 3) := by decide +kernel
theorem dX49_putNumber_86 : decode cX49_putNumber 86 = .ok (.lrem, 1) := by decide +kernel
theorem dX49_putNumber_87 : decode cX49_putNumber 87 = .ok (.ladd, 1) := by decide +kernel
theorem dX49_putNumber_88 : decode cX49_putNumber 88 = .ok (.l2i, 1) := by decide +kernel
theorem dX49_putNumber_89 : decode cX49_putNumber 89 = .ok (.invokevirtual 264, 3) := by decide +kernel
theorem dX49_putNumber_92 : decode cX49_putNumber 92 = .ok (.lload 6, 2) := by decide +kernel
theorem dX49_putNumber_94 : decode cX49_putNumber 94 = .ok (.ldc2_w 117, 3) := by decide +kernel
theorem dX49_putNumber_97 : decode cX49_putNumber 97 = .ok (.ldiv, 1) := by decide +kernel
theorem dX49_putNumber_98 : decode cX49_putNumber 98 = .ok (.lstore 6, 2) := by decide +kernel
theorem dX49_putNumber_100 : decode cX49_putNumber 100 = .ok (.iinc 9 1, 3) := by decide +kernel
theorem dX49_putNumber_103 : decode cX49_putNumber 103 = .ok (.goto (-36), 3) := by decide +kernel
theorem dX49_putNumber_106 : decode cX49_putNumber 106 = .ok (.return_, 1) := by decide +kernel
abbrev cX49_putMillis : ByteArray := prog_82_method_54_code
def yX49_putMillis : MethodName := ⟨RX49, "putMillis", "(J)V"⟩
theorem dX49_putMillis_0 : decode cX49_putMillis 0 = .ok (.lload_n 1, 1) := by decide +kernel
theorem dX49_putMillis_1 : decode cX49_putMillis 1 = .ok (.lconst 0, 1) := by decide +kernel
theorem dX49_putMillis_2 : decode cX49_putMillis 2 = .ok (.lcmp, 1) := by decide +kernel
theorem dX49_putMillis_3 : decode cX49_putMillis 3 = .ok (.ifCond .ne 4, 3) := by decide +kernel
theorem dX49_putMillis_6 : decode cX49_putMillis 6 = .ok (.return_, 1) := by decide +kernel
theorem dX49_putMillis_7 : decode cX49_putMillis 7 = .ok (.aload_n 0, 1) := by decide +kernel
theorem dX49_putMillis_8 : decode cX49_putMillis 8 = .ok (.bipush 46, 2) := by decide +kernel
theorem dX49_putMillis_10 : decode cX49_putMillis 10 = .ok (.invokevirtual 264, 3) := by decide +kernel
theorem dX49_putMillis_13 : decode cX49_putMillis 13 = .ok (.aload_n 0, 1) := by decide +kernel
theorem dX49_putMillis_14 : decode cX49_putMillis 14 = .ok (.lload_n 1, 1) := by decide +kernel
theorem dX49_putMillis_15 : decode cX49_putMillis 15 = .ok (.iconst 3, 1) := by decide +kernel
theorem dX49_putMillis_16 : decode cX49_putMillis 16 = .ok (.invokevirtual 267, 3) := by decide +kernel
theorem dX49_putMillis_19 : decode cX49_putMillis 19 = .ok (.return_, 1) := by decide +kernel
abbrev cX49_putSpan : ByteArray := prog_82_method_57_code
def yX49_putSpan : MethodName := ⟨RX49, "putSpan", "(JJ)V"⟩
theorem dX49_putSpan_0 : decode cX49_putSpan 0 = .ok (.lload_n 1, 1) := by decide +kernel
theorem dX49_putSpan_1 : decode cX49_putSpan 1 = .ok (.lconst 0, 1) := by decide +kernel
theorem dX49_putSpan_2 : decode cX49_putSpan 2 = .ok (.lcmp, 1) := by decide +kernel
theorem dX49_putSpan_3 : decode cX49_putSpan 3 = .ok (.ifCond .ge 9, 3) := by decide +kernel
theorem dX49_putSpan_6 : decode cX49_putSpan 6 = .ok (.lload_n 3, 1) := by decide +kernel
theorem dX49_putSpan_7 : decode cX49_putSpan 7 = .ok (.lconst 0, 1) := by decide +kernel
theorem dX49_putSpan_8 : decode cX49_putSpan 8 = .ok (.lcmp, 1) := by decide +kernel
theorem dX49_putSpan_9 : decode cX49_putSpan 9 = .ok (.ifCond .gt 15, 3) := by decide +kernel
theorem dX49_putSpan_12 : decode cX49_putSpan 12 = .ok (.lload_n 1, 1) := by decide +kernel
theorem dX49_putSpan_13 : decode cX49_putSpan 13 = .ok (.lconst 0, 1) := by decide +kernel
theorem dX49_putSpan_14 : decode cX49_putSpan 14 = .ok (.lcmp, 1) := by decide +kernel
theorem dX49_putSpan_15 : decode cX49_putSpan 15 = .ok (.ifCond .le 94, 3) := by decide +kernel
theorem dX49_putSpan_18 : decode cX49_putSpan 18 = .ok (.lload_n 3, 1) := by decide +kernel
theorem dX49_putSpan_19 : decode cX49_putSpan 19 = .ok (.lconst 0, 1) := by decide +kernel
theorem dX49_putSpan_20 : decode cX49_putSpan 20 = .ok (.lcmp, 1) := by decide +kernel
theorem dX49_putSpan_21 : decode cX49_putSpan 21 = .ok (.ifCond .ge 88, 3) := by decide +kernel
theorem dX49_putSpan_24 : decode cX49_putSpan 24 = .ok (.aload_n 0, 1) := by decide +kernel
theorem dX49_putSpan_25 : decode cX49_putSpan 25 = .ok (.bipush 80, 2) := by decide +kernel
theorem dX49_putSpan_27 : decode cX49_putSpan 27 = .ok (.invokevirtual 264, 3) := by decide +kernel
theorem dX49_putSpan_30 : decode cX49_putSpan 30 = .ok (.aload_n 0, 1) := by decide +kernel
theorem dX49_putSpan_31 : decode cX49_putSpan 31 = .ok (.lload_n 1, 1) := by decide +kernel
theorem dX49_putSpan_32 : decode cX49_putSpan 32 = .ok (.iconst 1, 1) := by decide +kernel
theorem dX49_putSpan_33 : decode cX49_putSpan 33 = .ok (.invokevirtual 267, 3) := by decide +kernel
theorem dX49_putSpan_36 : decode cX49_putSpan 36 = .ok (.aload_n 0, 1) := by decide +kernel
theorem dX49_putSpan_37 : decode cX49_putSpan 37 = .ok (.bipush 77, 2) := by decide +kernel
theorem dX49_putSpan_39 : decode cX49_putSpan 39 = .ok (.invokevirtual 264, 3) := by decide +kernel
theorem dX49_putSpan_42 : decode cX49_putSpan 42 = .ok (.aload_n 0, 1) := by decide +kernel
theorem dX49_putSpan_43 : decode cX49_putSpan 43 = .ok (.bipush 84, 2) := by decide +kernel
theorem dX49_putSpan_45 : decode cX49_putSpan 45 = .ok (.invokevirtual 264, 3) := by decide +kernel
theorem dX49_putSpan_48 : decode cX49_putSpan 48 = .ok (.lload_n 3, 1) := by decide +kernel
theorem dX49_putSpan_49 : decode cX49_putSpan 49 = .ok (.lconst 0, 1) := by decide +kernel
theorem dX49_putSpan_50 : decode cX49_putSpan 50 = .ok (.lcmp, 1) := by decide +kernel
theorem dX49_putSpan_51 : decode cX49_putSpan 51 = .ok (.ifCond .ge 9, 3) := by decide +kernel
theorem dX49_putSpan_54 : decode cX49_putSpan 54 = .ok (.aload_n 0, 1) := by decide +kernel
theorem dX49_putSpan_55 : decode cX49_putSpan 55 = .ok (.bipush 45, 2) := by decide +kernel
theorem dX49_putSpan_57 : decode cX49_putSpan 57 = .ok (.invokevirtual 264, 3) := by decide +kernel
theorem dX49_putSpan_60 : decode cX49_putSpan 60 = .ok (.lload_n 3, 1) := by decide +kernel
theorem dX49_putSpan_61 : decode cX49_putSpan 61 = .ok (.lconst 0, 1) := by decide +kernel
theorem dX49_putSpan_62 : decode cX49_putSpan 62 = .ok (.lcmp, 1) := by decide +kernel
theorem dX49_putSpan_63 : decode cX49_putSpan 63 = .ok (.ifCond .ge 8, 3) := by decide +kernel
theorem dX49_putSpan_66 : decode cX49_putSpan 66 = .ok (.lload_n 3, 1) := by decide +kernel
theorem dX49_putSpan_67 : decode cX49_putSpan 67 = .ok (.lneg, 1) := by decide +kernel
theorem dX49_putSpan_68 : decode cX49_putSpan 68 = .ok (.goto 4, 3) := by decide +kernel
theorem dX49_putSpan_71 : decode cX49_putSpan 71 = .ok (.lload_n 3, 1) := by decide +kernel
theorem dX49_putSpan_72 : decode cX49_putSpan 72 = .ok (.lstore 5, 2) := by decide +kernel
theorem dX49_putSpan_74 : decode cX49_putSpan 74 = .ok (.aload_n 0, 1) := by decide +kernel
theorem dX49_putSpan_75 : decode cX49_putSpan 75 = .ok (.lload 5, 2) := by decide +kernel
theorem dX49_putSpan_77 : decode cX49_putSpan 77 = .ok (.ldc2_w 161, 3) := by decide +kernel
theorem dX49_putSpan_80 : decode cX49_putSpan 80 = .ok (.ldiv, 1) := by decide +kernel
theorem dX49_putSpan_81 : decode cX49_putSpan 81 = .ok (.iconst 1, 1) := by decide +kernel
theorem dX49_putSpan_82 : decode cX49_putSpan 82 = .ok (.invokevirtual 267, 3) := by decide +kernel
theorem dX49_putSpan_85 : decode cX49_putSpan 85 = .ok (.aload_n 0, 1) := by decide +kernel
theorem dX49_putSpan_86 : decode cX49_putSpan 86 = .ok (.bipush 46, 2) := by decide +kernel
theorem dX49_putSpan_88 : decode cX49_putSpan 88 = .ok (.invokevirtual 264, 3) := by decide +kernel
theorem dX49_putSpan_91 : decode cX49_putSpan 91 = .ok (.aload_n 0, 1) := by decide +kernel
theorem dX49_putSpan_92 : decode cX49_putSpan 92 = .ok (.lload 5, 2) := by decide +kernel
theorem dX49_putSpan_94 : decode cX49_putSpan 94 = .ok (.ldc2_w 161, 3) := by decide +kernel
theorem dX49_putSpan_97 : decode cX49_putSpan 97 = .ok (.lrem, 1) := by decide +kernel
theorem dX49_putSpan_98 : decode cX49_putSpan 98 = .ok (.iconst 3, 1) := by decide +kernel
theorem dX49_putSpan_99 : decode cX49_putSpan 99 = .ok (.invokevirtual 267, 3) := by decide +kernel
theorem dX49_putSpan_102 : decode cX49_putSpan 102 = .ok (.aload_n 0, 1) := by decide +kernel
theorem dX49_putSpan_103 : decode cX49_putSpan 103 = .ok (.bipush 83, 2) := by decide +kernel
theorem dX49_putSpan_105 : decode cX49_putSpan 105 = .ok (.invokevirtual 264, 3) := by decide +kernel
theorem dX49_putSpan_108 : decode cX49_putSpan 108 = .ok (.return_, 1) := by decide +kernel
theorem dX49_putSpan_109 : decode cX49_putSpan 109 = .ok (.lload_n 1, 1) := by decide +kernel
theorem dX49_putSpan_110 : decode cX49_putSpan 110 = .ok (.lconst 0, 1) := by decide +kernel
theorem dX49_putSpan_111 : decode cX49_putSpan 111 = .ok (.lcmp, 1) := by decide +kernel
theorem dX49_putSpan_112 : decode cX49_putSpan 112 = .ok (.ifCond .lt 9, 3) := by decide +kernel
theorem dX49_putSpan_115 : decode cX49_putSpan 115 = .ok (.lload_n 3, 1) := by decide +kernel
theorem dX49_putSpan_116 : decode cX49_putSpan 116 = .ok (.lconst 0, 1) := by decide +kernel
theorem dX49_putSpan_117 : decode cX49_putSpan 117 = .ok (.lcmp, 1) := by decide +kernel
theorem dX49_putSpan_118 : decode cX49_putSpan 118 = .ok (.ifCond .ge 7, 3) := by decide +kernel
theorem dX49_putSpan_121 : decode cX49_putSpan 121 = .ok (.iconst 1, 1) := by decide +kernel
theorem dX49_putSpan_122 : decode cX49_putSpan 122 = .ok (.goto 4, 3) := by decide +kernel
theorem dX49_putSpan_125 : decode cX49_putSpan 125 = .ok (.iconst 0, 1) := by decide +kernel
theorem dX49_putSpan_126 : decode cX49_putSpan 126 = .ok (.istore 5, 2) := by decide +kernel
theorem dX49_putSpan_128 : decode cX49_putSpan 128 = .ok (.iload 5, 2) := by decide +kernel
theorem dX49_putSpan_130 : decode cX49_putSpan 130 = .ok (.ifCond .eq 9, 3) := by decide +kernel
theorem dX49_putSpan_133 : decode cX49_putSpan 133 = .ok (.aload_n 0, 1) := by decide +kernel
theorem dX49_putSpan_134 : decode cX49_putSpan 134 = .ok (.bipush 45, 2) := by decide +kernel
theorem dX49_putSpan_136 : decode cX49_putSpan 136 = .ok (.invokevirtual 264, 3) := by decide +kernel
theorem dX49_putSpan_139 : decode cX49_putSpan 139 = .ok (.aload_n 0, 1) := by decide +kernel
theorem dX49_putSpan_140 : decode cX49_putSpan 140 = .ok (.bipush 80, 2) := by decide +kernel
theorem dX49_putSpan_142 : decode cX49_putSpan 142 = .ok (.invokevirtual 264, 3) := by decide +kernel
theorem dX49_putSpan_145 : decode cX49_putSpan 145 = .ok (.iload 5, 2) := by decide +kernel
theorem dX49_putSpan_147 : decode cX49_putSpan 147 = .ok (.ifCond .eq 8, 3) := by decide +kernel
theorem dX49_putSpan_150 : decode cX49_putSpan 150 = .ok (.lload_n 1, 1) := by decide +kernel
theorem dX49_putSpan_151 : decode cX49_putSpan 151 = .ok (.lneg, 1) := by decide +kernel
theorem dX49_putSpan_152 : decode cX49_putSpan 152 = .ok (.goto 4, 3) := by decide +kernel
theorem dX49_putSpan_155 : decode cX49_putSpan 155 = .ok (.lload_n 1, 1) := by decide +kernel
theorem dX49_putSpan_156 : decode cX49_putSpan 156 = .ok (.lstore 6, 2) := by decide +kernel
theorem dX49_putSpan_158 : decode cX49_putSpan 158 = .ok (.iload 5, 2) := by decide +kernel
theorem dX49_putSpan_160 : decode cX49_putSpan 160 = .ok (.ifCond .eq 8, 3) := by decide +kernel
theorem dX49_putSpan_163 : decode cX49_putSpan 163 = .ok (.lload_n 3, 1) := by decide +kernel
theorem dX49_putSpan_164 : decode cX49_putSpan 164 = .ok (.lneg, 1) := by decide +kernel
theorem dX49_putSpan_165 : decode cX49_putSpan 165 = .ok (.goto 4, 3) := by decide +kernel
theorem dX49_putSpan_168 : decode cX49_putSpan 168 = .ok (.lload_n 3, 1) := by decide +kernel
theorem dX49_putSpan_169 : decode cX49_putSpan 169 = .ok (.lstore 8, 2) := by decide +kernel
theorem dX49_putSpan_171 : decode cX49_putSpan 171 = .ok (.aload_n 0, 1) := by decide +kernel
theorem dX49_putSpan_172 : decode cX49_putSpan 172 = .ok (.lload 6, 2) := by decide +kernel
theorem dX49_putSpan_174 : decode cX49_putSpan 174 = .ok (.ldc2_w 89, 3) := by decide +kernel
theorem dX49_putSpan_177 : decode cX49_putSpan 177 = .ok (.ldiv, 1) := by decide +kernel
theorem dX49_putSpan_178 : decode cX49_putSpan 178 = .ok (.bipush 89, 2) := by decide +kernel
theorem dX49_putSpan_180 : decode cX49_putSpan 180 = .ok (.invokevirtual 276, 3) := by decide +kernel
theorem dX49_putSpan_183 : decode cX49_putSpan 183 = .ok (.aload_n 0, 1) := by decide +kernel
theorem dX49_putSpan_184 : decode cX49_putSpan 184 = .ok (.lload 6, 2) := by decide +kernel
theorem dX49_putSpan_186 : decode cX49_putSpan 186 = .ok (.ldc2_w 89, 3) := by decide +kernel
theorem dX49_putSpan_189 : decode cX49_putSpan 189 = .ok (.lrem, 1) := by decide +kernel
theorem dX49_putSpan_190 : decode cX49_putSpan 190 = .ok (.bipush 77, 2) := by decide +kernel
theorem dX49_putSpan_192 : decode cX49_putSpan 192 = .ok (.invokevirtual 276, 3) := by decide +kernel
theorem dX49_putSpan_195 : decode cX49_putSpan 195 = .ok (.aload_n 0, 1) := by decide +kernel
theorem dX49_putSpan_196 : decode cX49_putSpan 196 = .ok (.lload 8, 2) := by decide +kernel
theorem dX49_putSpan_198 : decode cX49_putSpan 198 = .ok (.ldc2_w 83, 3) := by decide +kernel
theorem dX49_putSpan_201 : decode cX49_putSpan 201 = .ok (.ldiv, 1) := by decide +kernel
theorem dX49_putSpan_202 : decode cX49_putSpan 202 = .ok (.bipush 68, 2) := by decide +kernel
theorem dX49_putSpan_204 : decode cX49_putSpan 204 = .ok (.invokevirtual 276, 3) := by decide +kernel
theorem dX49_putSpan_207 : decode cX49_putSpan 207 = .ok (.lload 8, 2) := by decide +kernel
theorem dX49_putSpan_209 : decode cX49_putSpan 209 = .ok (.ldc2_w 83, 3) := by decide +kernel
theorem dX49_putSpan_212 : decode cX49_putSpan 212 = .ok (.lrem, 1) := by decide +kernel
theorem dX49_putSpan_213 : decode cX49_putSpan 213 = .ok (.lstore 10, 2) := by decide +kernel
theorem dX49_putSpan_215 : decode cX49_putSpan 215 = .ok (.lload 6, 2) := by decide +kernel
theorem dX49_putSpan_217 : decode cX49_putSpan 217 = .ok (.lconst 0, 1) := by decide +kernel
theorem dX49_putSpan_218 : decode cX49_putSpan 218 = .ok (.lcmp, 1) := by decide +kernel
theorem dX49_putSpan_219 : decode cX49_putSpan 219 = .ok (.ifCond .ne 14, 3) := by decide +kernel
theorem dX49_putSpan_222 : decode cX49_putSpan 222 = .ok (.lload 8, 2) := by decide +kernel
theorem dX49_putSpan_224 : decode cX49_putSpan 224 = .ok (.lconst 0, 1) := by decide +kernel
theorem dX49_putSpan_225 : decode cX49_putSpan 225 = .ok (.lcmp, 1) := by decide +kernel
theorem dX49_putSpan_226 : decode cX49_putSpan 226 = .ok (.ifCond .ne 7, 3) := by decide +kernel
theorem dX49_putSpan_229 : decode cX49_putSpan 229 = .ok (.iconst 1, 1) := by decide +kernel
theorem dX49_putSpan_230 : decode cX49_putSpan 230 = .ok (.goto 4, 3) := by decide +kernel
theorem dX49_putSpan_233 : decode cX49_putSpan 233 = .ok (.iconst 0, 1) := by decide +kernel
theorem dX49_putSpan_234 : decode cX49_putSpan 234 = .ok (.istore 12, 2) := by decide +kernel
theorem dX49_putSpan_236 : decode cX49_putSpan 236 = .ok (.lload 10, 2) := by decide +kernel
theorem dX49_putSpan_238 : decode cX49_putSpan 238 = .ok (.lconst 0, 1) := by decide +kernel
theorem dX49_putSpan_239 : decode cX49_putSpan 239 = .ok (.lcmp, 1) := by decide +kernel
theorem dX49_putSpan_240 : decode cX49_putSpan 240 = .ok (.ifCond .ne 9, 3) := by decide +kernel
theorem dX49_putSpan_243 : decode cX49_putSpan 243 = .ok (.iload 12, 2) := by decide +kernel
theorem dX49_putSpan_245 : decode cX49_putSpan 245 = .ok (.ifCond .ne 4, 3) := by decide +kernel
theorem dX49_putSpan_248 : decode cX49_putSpan 248 = .ok (.return_, 1) := by decide +kernel
theorem dX49_putSpan_249 : decode cX49_putSpan 249 = .ok (.aload_n 0, 1) := by decide +kernel
theorem dX49_putSpan_250 : decode cX49_putSpan 250 = .ok (.bipush 84, 2) := by decide +kernel
theorem dX49_putSpan_252 : decode cX49_putSpan 252 = .ok (.invokevirtual 264, 3) := by decide +kernel
theorem dX49_putSpan_255 : decode cX49_putSpan 255 = .ok (.aload_n 0, 1) := by decide +kernel
theorem dX49_putSpan_256 : decode cX49_putSpan 256 = .ok (.lload 10, 2) := by decide +kernel
theorem dX49_putSpan_258 : decode cX49_putSpan 258 = .ok (.ldc2_w 166, 3) := by decide +kernel
theorem dX49_putSpan_261 : decode cX49_putSpan 261 = .ok (.ldiv, 1) := by decide +kernel
theorem dX49_putSpan_262 : decode cX49_putSpan 262 = .ok (.bipush 72, 2) := by decide +kernel
theorem dX49_putSpan_264 : decode cX49_putSpan 264 = .ok (.invokevirtual 276, 3) := by decide +kernel
theorem dX49_putSpan_267 : decode cX49_putSpan 267 = .ok (.aload_n 0, 1) := by decide +kernel
theorem dX49_putSpan_268 : decode cX49_putSpan 268 = .ok (.lload 10, 2) := by decide +kernel
theorem dX49_putSpan_270 : decode cX49_putSpan 270 = .ok (.ldc2_w 168, 3) := by decide +kernel
theorem dX49_putSpan_273 : decode cX49_putSpan 273 = .ok (.ldiv, 1) := by decide +kernel
theorem dX49_putSpan_274 : decode cX49_putSpan 274 = .ok (.ldc2_w 271, 3) := by decide +kernel
theorem dX49_putSpan_277 : decode cX49_putSpan 277 = .ok (.lrem, 1) := by decide +kernel
theorem dX49_putSpan_278 : decode cX49_putSpan 278 = .ok (.bipush 77, 2) := by decide +kernel
theorem dX49_putSpan_280 : decode cX49_putSpan 280 = .ok (.invokevirtual 276, 3) := by decide +kernel
theorem dX49_putSpan_283 : decode cX49_putSpan 283 = .ok (.lload 10, 2) := by decide +kernel
theorem dX49_putSpan_285 : decode cX49_putSpan 285 = .ok (.ldc2_w 168, 3) := by decide +kernel
theorem dX49_putSpan_288 : decode cX49_putSpan 288 = .ok (.lrem, 1) := by decide +kernel
theorem dX49_putSpan_289 : decode cX49_putSpan 289 = .ok (.lconst 0, 1) := by decide +kernel
theorem dX49_putSpan_290 : decode cX49_putSpan 290 = .ok (.lcmp, 1) := by decide +kernel
theorem dX49_putSpan_291 : decode cX49_putSpan 291 = .ok (.ifCond .ne 9, 3) := by decide +kernel
theorem dX49_putSpan_294 : decode cX49_putSpan 294 = .ok (.iload 12, 2) := by decide +kernel
theorem dX49_putSpan_296 : decode cX49_putSpan 296 = .ok (.ifCond .ne 4, 3) := by decide +kernel
theorem dX49_putSpan_299 : decode cX49_putSpan 299 = .ok (.return_, 1) := by decide +kernel
theorem dX49_putSpan_300 : decode cX49_putSpan 300 = .ok (.aload_n 0, 1) := by decide +kernel
theorem dX49_putSpan_301 : decode cX49_putSpan 301 = .ok (.lload 10, 2) := by decide +kernel
theorem dX49_putSpan_303 : decode cX49_putSpan 303 = .ok (.ldc2_w 161, 3) := by decide +kernel
theorem dX49_putSpan_306 : decode cX49_putSpan 306 = .ok (.ldiv, 1) := by decide +kernel
theorem dX49_putSpan_307 : decode cX49_putSpan 307 = .ok (.ldc2_w 271, 3) := by decide +kernel
theorem dX49_putSpan_310 : decode cX49_putSpan 310 = .ok (.lrem, 1) := by decide +kernel
theorem dX49_putSpan_311 : decode cX49_putSpan 311 = .ok (.iconst 1, 1) := by decide +kernel
theorem dX49_putSpan_312 : decode cX49_putSpan 312 = .ok (.invokevirtual 267, 3) := by decide +kernel
theorem dX49_putSpan_315 : decode cX49_putSpan 315 = .ok (.aload_n 0, 1) := by decide +kernel
theorem dX49_putSpan_316 : decode cX49_putSpan 316 = .ok (.lload 10, 2) := by decide +kernel
theorem dX49_putSpan_318 : decode cX49_putSpan 318 = .ok (.ldc2_w 161, 3) := by decide +kernel
theorem dX49_putSpan_321 : decode cX49_putSpan 321 = .ok (.lrem, 1) := by decide +kernel
theorem dX49_putSpan_322 : decode cX49_putSpan 322 = .ok (.invokevirtual 273, 3) := by decide +kernel
theorem dX49_putSpan_325 : decode cX49_putSpan 325 = .ok (.aload_n 0, 1) := by decide +kernel
theorem dX49_putSpan_326 : decode cX49_putSpan 326 = .ok (.bipush 83, 2) := by decide +kernel
theorem dX49_putSpan_328 : decode cX49_putSpan 328 = .ok (.invokevirtual 264, 3) := by decide +kernel
theorem dX49_putSpan_331 : decode cX49_putSpan 331 = .ok (.return_, 1) := by decide +kernel
abbrev cX49_putSome : ByteArray := prog_82_method_56_code
def yX49_putSome : MethodName := ⟨RX49, "putSome", "(JI)V"⟩
theorem dX49_putSome_0 : decode cX49_putSome 0 = .ok (.lload_n 1, 1) := by decide +kernel
theorem dX49_putSome_1 : decode cX49_putSome 1 = .ok (.lconst 0, 1) := by decide +kernel
theorem dX49_putSome_2 : decode cX49_putSome 2 = .ok (.lcmp, 1) := by decide +kernel
theorem dX49_putSome_3 : decode cX49_putSome 3 = .ok (.ifCond .ne 4, 3) := by decide +kernel
theorem dX49_putSome_6 : decode cX49_putSome 6 = .ok (.return_, 1) := by decide +kernel
theorem dX49_putSome_7 : decode cX49_putSome 7 = .ok (.aload_n 0, 1) := by decide +kernel
theorem dX49_putSome_8 : decode cX49_putSome 8 = .ok (.lload_n 1, 1) := by decide +kernel
theorem dX49_putSome_9 : decode cX49_putSome 9 = .ok (.iconst 1, 1) := by decide +kernel
theorem dX49_putSome_10 : decode cX49_putSome 10 = .ok (.invokevirtual 267, 3) := by decide +kernel
theorem dX49_putSome_13 : decode cX49_putSome 13 = .ok (.aload_n 0, 1) := by decide +kernel
theorem dX49_putSome_14 : decode cX49_putSome 14 = .ok (.iload_n 3, 1) := by decide +kernel
theorem dX49_putSome_15 : decode cX49_putSome 15 = .ok (.invokevirtual 264, 3) := by decide +kernel
theorem dX49_putSome_18 : decode cX49_putSome 18 = .ok (.return_, 1) := by decide +kernel
abbrev cX49_putHex : ByteArray := prog_82_method_58_code
def yX49_putHex : MethodName := ⟨RX49, "putHex", "(I)V"⟩
theorem dX49_putHex_0 : decode cX49_putHex 0 = .ok (.iconst 0, 1) := by decide +kernel
theorem dX49_putHex_1 : decode cX49_putHex 1 = .ok (.istore_n 2, 1) := by decide +kernel
theorem dX49_putHex_2 : decode cX49_putHex 2 = .ok (.iload_n 2, 1) := by decide +kernel
theorem dX49_putHex_3 : decode cX49_putHex 3 = .ok (.i2l, 1) := by decide +kernel
theorem dX49_putHex_4 : decode cX49_putHex 4 = .ok (.aload_n 0, 1) := by decide +kernel
theorem dX49_putHex_5 : decode cX49_putHex 5 = .ok (.getfield 13, 3) := by decide +kernel
theorem dX49_putHex_8 : decode cX49_putHex 8 = .ok (.iload_n 1, 1) := by decide +kernel
theorem dX49_putHex_9 : decode cX49_putHex 9 = .ok (.laload, 1) := by decide +kernel
theorem dX49_putHex_10 : decode cX49_putHex 10 = .ok (.lcmp, 1) := by decide +kernel
theorem dX49_putHex_11 : decode cX49_putHex 11 = .ok (.ifCond .ge 87, 3) := by decide +kernel
theorem dX49_putHex_14 : decode cX49_putHex 14 = .ok (.aload_n 0, 1) := by decide +kernel
theorem dX49_putHex_15 : decode cX49_putHex 15 = .ok (.getfield 20, 3) := by decide +kernel
theorem dX49_putHex_18 : decode cX49_putHex 18 = .ok (.bipush 20, 2) := by decide +kernel
theorem dX49_putHex_20 : decode cX49_putHex 20 = .ok (.iload_n 1, 1) := by decide +kernel
theorem dX49_putHex_21 : decode cX49_putHex 21 = .ok (.imul, 1) := by decide +kernel
theorem dX49_putHex_22 : decode cX49_putHex 22 = .ok (.iload_n 2, 1) := by decide +kernel
theorem dX49_putHex_23 : decode cX49_putHex 23 = .ok (.iadd, 1) := by decide +kernel
theorem dX49_putHex_24 : decode cX49_putHex 24 = .ok (.iaload, 1) := by decide +kernel
theorem dX49_putHex_25 : decode cX49_putHex 25 = .ok (.istore_n 3, 1) := by decide +kernel
theorem dX49_putHex_26 : decode cX49_putHex 26 = .ok (.aload_n 0, 1) := by decide +kernel
theorem dX49_putHex_27 : decode cX49_putHex 27 = .ok (.iload_n 3, 1) := by decide +kernel
theorem dX49_putHex_28 : decode cX49_putHex 28 = .ok (.bipush 16, 2) := by decide +kernel
theorem dX49_putHex_30 : decode cX49_putHex 30 = .ok (.idiv, 1) := by decide +kernel
theorem dX49_putHex_31 : decode cX49_putHex 31 = .ok (.bipush 10, 2) := by decide +kernel
theorem dX49_putHex_33 : decode cX49_putHex 33 = .ok (.if_icmp .ge 13, 3) := by decide +kernel
theorem dX49_putHex_36 : decode cX49_putHex 36 = .ok (.bipush 48, 2) := by decide +kernel
theorem dX49_putHex_38 : decode cX49_putHex 38 = .ok (.iload_n 3, 1) := by decide +kernel
theorem dX49_putHex_39 : decode cX49_putHex 39 = .ok (.bipush 16, 2) := by decide +kernel
theorem dX49_putHex_41 : decode cX49_putHex 41 = .ok (.idiv, 1) := by decide +kernel
theorem dX49_putHex_42 : decode cX49_putHex 42 = .ok (.iadd, 1) := by decide +kernel
theorem dX49_putHex_43 : decode cX49_putHex 43 = .ok (.goto 13, 3) := by decide +kernel
theorem dX49_putHex_46 : decode cX49_putHex 46 = .ok (.bipush 65, 2) := by decide +kernel
theorem dX49_putHex_48 : decode cX49_putHex 48 = .ok (.iload_n 3, 1) := by decide +kernel
theorem dX49_putHex_49 : decode cX49_putHex 49 = .ok (.bipush 16, 2) := by decide +kernel
theorem dX49_putHex_51 : decode cX49_putHex 51 = .ok (.idiv, 1) := by decide +kernel
theorem dX49_putHex_52 : decode cX49_putHex 52 = .ok (.iadd, 1) := by decide +kernel
theorem dX49_putHex_53 : decode cX49_putHex 53 = .ok (.bipush 10, 2) := by decide +kernel
theorem dX49_putHex_55 : decode cX49_putHex 55 = .ok (.isub, 1) := by decide +kernel
theorem dX49_putHex_56 : decode cX49_putHex 56 = .ok (.invokevirtual 264, 3) := by decide +kernel
theorem dX49_putHex_59 : decode cX49_putHex 59 = .ok (.aload_n 0, 1) := by decide +kernel
theorem dX49_putHex_60 : decode cX49_putHex 60 = .ok (.iload_n 3, 1) := by decide +kernel
theorem dX49_putHex_61 : decode cX49_putHex 61 = .ok (.bipush 16, 2) := by decide +kernel
theorem dX49_putHex_63 : decode cX49_putHex 63 = .ok (.irem, 1) := by decide +kernel
theorem dX49_putHex_64 : decode cX49_putHex 64 = .ok (.bipush 10, 2) := by decide +kernel
theorem dX49_putHex_66 : decode cX49_putHex 66 = .ok (.if_icmp .ge 13, 3) := by decide +kernel
theorem dX49_putHex_69 : decode cX49_putHex 69 = .ok (.bipush 48, 2) := by decide +kernel
theorem dX49_putHex_71 : decode cX49_putHex 71 = .ok (.iload_n 3, 1) := by decide +kernel
theorem dX49_putHex_72 : decode cX49_putHex 72 = .ok (.bipush 16, 2) := by decide +kernel
theorem dX49_putHex_74 : decode cX49_putHex 74 = .ok (.irem, 1) := by decide +kernel
theorem dX49_putHex_75 : decode cX49_putHex 75 = .ok (.iadd, 1) := by decide +kernel
theorem dX49_putHex_76 : decode cX49_putHex 76 = .ok (.goto 13, 3) := by decide +kernel
theorem dX49_putHex_79 : decode cX49_putHex 79 = .ok (.bipush 65, 2) := by decide +kernel
theorem dX49_putHex_81 : decode cX49_putHex 81 = .ok (.iload_n 3, 1) := by decide +kernel
theorem dX49_putHex_82 : decode cX49_putHex 82 = .ok (.bipush 16, 2) := by decide +kernel
theorem dX49_putHex_84 : decode cX49_putHex 84 = .ok (.irem, 1) := by decide +kernel
theorem dX49_putHex_85 : decode cX49_putHex 85 = .ok (.iadd, 1) := by decide +kernel
theorem dX49_putHex_86 : decode cX49_putHex 86 = .ok (.bipush 10, 2) := by decide +kernel
theorem dX49_putHex_88 : decode cX49_putHex 88 = .ok (.isub, 1) := by decide +kernel
theorem dX49_putHex_89 : decode cX49_putHex 89 = .ok (.invokevirtual 264, 3) := by decide +kernel
theorem dX49_putHex_92 : decode cX49_putHex 92 = .ok (.iinc 2 1, 3) := by decide +kernel
theorem dX49_putHex_95 : decode cX49_putHex 95 = .ok (.goto (-93), 3) := by decide +kernel
theorem dX49_putHex_98 : decode cX49_putHex 98 = .ok (.return_, 1) := by decide +kernel
abbrev cX49_putBase : ByteArray := prog_82_method_60_code
def yX49_putBase : MethodName := ⟨RX49, "putBase", "(I)V"⟩
theorem dX49_putBase_0 : decode cX49_putBase 0 = .ok (.iconst 0, 1) := by decide +kernel
theorem dX49_putBase_1 : decode cX49_putBase 1 = .ok (.istore_n 2, 1) := by decide +kernel
theorem dX49_putBase_2 : decode cX49_putBase 2 = .ok (.iload_n 2, 1) := by decide +kernel
theorem dX49_putBase_3 : decode cX49_putBase 3 = .ok (.i2l, 1) := by decide +kernel
theorem dX49_putBase_4 : decode cX49_putBase 4 = .ok (.aload_n 0, 1) := by decide +kernel
theorem dX49_putBase_5 : decode cX49_putBase 5 = .ok (.getfield 13, 3) := by decide +kernel
theorem dX49_putBase_8 : decode cX49_putBase 8 = .ok (.iload_n 1, 1) := by decide +kernel
theorem dX49_putBase_9 : decode cX49_putBase 9 = .ok (.laload, 1) := by decide +kernel
theorem dX49_putBase_10 : decode cX49_putBase 10 = .ok (.lcmp, 1) := by decide +kernel
theorem dX49_putBase_11 : decode cX49_putBase 11 = .ok (.ifCond .ge 163, 3) := by decide +kernel
theorem dX49_putBase_14 : decode cX49_putBase 14 = .ok (.aload_n 0, 1) := by decide +kernel
theorem dX49_putBase_15 : decode cX49_putBase 15 = .ok (.getfield 13, 3) := by decide +kernel
theorem dX49_putBase_18 : decode cX49_putBase 18 = .ok (.iload_n 1, 1) := by decide +kernel
theorem dX49_putBase_19 : decode cX49_putBase 19 = .ok (.laload, 1) := by decide +kernel
theorem dX49_putBase_20 : decode cX49_putBase 20 = .ok (.l2i, 1) := by decide +kernel
theorem dX49_putBase_21 : decode cX49_putBase 21 = .ok (.iload_n 2, 1) := by decide +kernel
theorem dX49_putBase_22 : decode cX49_putBase 22 = .ok (.isub, 1) := by decide +kernel
theorem dX49_putBase_23 : decode cX49_putBase 23 = .ok (.istore_n 3, 1) := by decide +kernel
theorem dX49_putBase_24 : decode cX49_putBase 24 = .ok (.aload_n 0, 1) := by decide +kernel
theorem dX49_putBase_25 : decode cX49_putBase 25 = .ok (.getfield 20, 3) := by decide +kernel
theorem dX49_putBase_28 : decode cX49_putBase 28 = .ok (.bipush 20, 2) := by decide +kernel
theorem dX49_putBase_30 : decode cX49_putBase 30 = .ok (.iload_n 1, 1) := by decide +kernel
theorem dX49_putBase_31 : decode cX49_putBase 31 = .ok (.imul, 1) := by decide +kernel
theorem dX49_putBase_32 : decode cX49_putBase 32 = .ok (.iload_n 2, 1) := by decide +kernel
theorem dX49_putBase_33 : decode cX49_putBase 33 = .ok (.iadd, 1) := by decide +kernel
theorem dX49_putBase_34 : decode cX49_putBase 34 = .ok (.iaload, 1) := by decide +kernel
theorem dX49_putBase_35 : decode cX49_putBase 35 = .ok (.istore 4, 2) := by decide +kernel
theorem dX49_putBase_37 : decode cX49_putBase 37 = .ok (.iload_n 3, 1) := by decide +kernel
theorem dX49_putBase_38 : decode cX49_putBase 38 = .ok (.iconst 1, 1) := by decide +kernel
theorem dX49_putBase_39 : decode cX49_putBase 39 = .ok (.if_icmp .le 19, 3) := by decide +kernel
theorem dX49_putBase_42 : decode cX49_putBase 42 = .ok (.aload_n 0, 1) := by decide +kernel
theorem dX49_putBase_43 : decode cX49_putBase 43 = .ok (.getfield 20, 3) := by decide +kernel
theorem dX49_putBase_46 : decode cX49_putBase 46 = .ok (.bipush 20, 2) := by decide +kernel
theorem dX49_putBase_48 : decode cX49_putBase 48 = .ok (.iload_n 1, 1) := by decide +kernel
theorem dX49_putBase_49 : decode cX49_putBase 49 = .ok (.imul, 1) := by decide +kernel
theorem dX49_putBase_50 : decode cX49_putBase 50 = .ok (.iload_n 2, 1) := by decide +kernel
theorem dX49_putBase_51 : decode cX49_putBase 51 = .ok (.iadd, 1) := by decide +kernel
theorem dX49_putBase_52 : decode cX49_putBase 52 = .ok (.iconst 1, 1) := by decide +kernel
theorem dX49_putBase_53 : decode cX49_putBase 53 = .ok (.iadd, 1) := by decide +kernel
theorem dX49_putBase_54 : decode cX49_putBase 54 = .ok (.iaload, 1) := by decide +kernel
theorem dX49_putBase_55 : decode cX49_putBase 55 = .ok (.goto 4, 3) := by decide +kernel
theorem dX49_putBase_58 : decode cX49_putBase 58 = .ok (.iconst 0, 1) := by decide +kernel
theorem dX49_putBase_59 : decode cX49_putBase 59 = .ok (.istore 5, 2) := by decide +kernel
theorem dX49_putBase_61 : decode cX49_putBase 61 = .ok (.iload_n 3, 1) := by decide +kernel
theorem dX49_putBase_62 : decode cX49_putBase 62 = .ok (.iconst 2, 1) := by decide +kernel
theorem dX49_putBase_63 : decode cX49_putBase 63 = .ok (.if_icmp .le 19, 3) := by decide +kernel
theorem dX49_putBase_66 : decode cX49_putBase 66 = .ok (.aload_n 0, 1) := by decide +kernel
theorem dX49_putBase_67 : decode cX49_putBase 67 = .ok (.getfield 20, 3) := by decide +kernel
theorem dX49_putBase_70 : decode cX49_putBase 70 = .ok (.bipush 20, 2) := by decide +kernel
theorem dX49_putBase_72 : decode cX49_putBase 72 = .ok (.iload_n 1, 1) := by decide +kernel
theorem dX49_putBase_73 : decode cX49_putBase 73 = .ok (.imul, 1) := by decide +kernel
theorem dX49_putBase_74 : decode cX49_putBase 74 = .ok (.iload_n 2, 1) := by decide +kernel
theorem dX49_putBase_75 : decode cX49_putBase 75 = .ok (.iadd, 1) := by decide +kernel
theorem dX49_putBase_76 : decode cX49_putBase 76 = .ok (.iconst 2, 1) := by decide +kernel
theorem dX49_putBase_77 : decode cX49_putBase 77 = .ok (.iadd, 1) := by decide +kernel
theorem dX49_putBase_78 : decode cX49_putBase 78 = .ok (.iaload, 1) := by decide +kernel
theorem dX49_putBase_79 : decode cX49_putBase 79 = .ok (.goto 4, 3) := by decide +kernel
theorem dX49_putBase_82 : decode cX49_putBase 82 = .ok (.iconst 0, 1) := by decide +kernel
theorem dX49_putBase_83 : decode cX49_putBase 83 = .ok (.istore 6, 2) := by decide +kernel
theorem dX49_putBase_85 : decode cX49_putBase 85 = .ok (.aload_n 0, 1) := by decide +kernel
theorem dX49_putBase_86 : decode cX49_putBase 86 = .ok (.iload 4, 2) := by decide +kernel
theorem dX49_putBase_88 : decode cX49_putBase 88 = .ok (.iconst 4, 1) := by decide +kernel
theorem dX49_putBase_89 : decode cX49_putBase 89 = .ok (.idiv, 1) := by decide +kernel
theorem dX49_putBase_90 : decode cX49_putBase 90 = .ok (.invokestatic 279, 3) := by decide +kernel
theorem dX49_putBase_93 : decode cX49_putBase 93 = .ok (.invokevirtual 264, 3) := by decide +kernel
theorem dX49_putBase_96 : decode cX49_putBase 96 = .ok (.aload_n 0, 1) := by decide +kernel
theorem dX49_putBase_97 : decode cX49_putBase 97 = .ok (.iload 4, 2) := by decide +kernel
theorem dX49_putBase_99 : decode cX49_putBase 99 = .ok (.iconst 4, 1) := by decide +kernel
theorem dX49_putBase_100 : decode cX49_putBase 100 = .ok (.irem, 1) := by decide +kernel
theorem dX49_putBase_101 : decode cX49_putBase 101 = .ok (.bipush 16, 2) := by decide +kernel
theorem dX49_putBase_103 : decode cX49_putBase 103 = .ok (.imul, 1) := by decide +kernel
theorem dX49_putBase_104 : decode cX49_putBase 104 = .ok (.iload 5, 2) := by decide +kernel
theorem dX49_putBase_106 : decode cX49_putBase 106 = .ok (.bipush 16, 2) := by decide +kernel
theorem dX49_putBase_108 : decode cX49_putBase 108 = .ok (.idiv, 1) := by decide +kernel
theorem dX49_putBase_109 : decode cX49_putBase 109 = .ok (.iadd, 1) := by decide +kernel
theorem dX49_putBase_110 : decode cX49_putBase 110 = .ok (.invokestatic 279, 3) := by decide +kernel
theorem dX49_putBase_113 : decode cX49_putBase 113 = .ok (.invokevirtual 264, 3) := by decide +kernel
theorem dX49_putBase_116 : decode cX49_putBase 116 = .ok (.aload_n 0, 1) := by decide +kernel
theorem dX49_putBase_117 : decode cX49_putBase 117 = .ok (.iload_n 3, 1) := by decide +kernel
theorem dX49_putBase_118 : decode cX49_putBase 118 = .ok (.iconst 1, 1) := by decide +kernel
theorem dX49_putBase_119 : decode cX49_putBase 119 = .ok (.if_icmp .le 22, 3) := by decide +kernel
theorem dX49_putBase_122 : decode cX49_putBase 122 = .ok (.iload 5, 2) := by decide +kernel
theorem dX49_putBase_124 : decode cX49_putBase 124 = .ok (.bipush 16, 2) := by decide +kernel
theorem dX49_putBase_126 : decode cX49_putBase 126 = .ok (.irem, 1) := by decide +kernel
theorem dX49_putBase_127 : decode cX49_putBase 127 = .ok (.iconst 4, 1) := by decide +kernel
theorem dX49_putBase_128 : decode cX49_putBase 128 = .ok (.imul, 1) := by decide +kernel
theorem dX49_putBase_129 : decode cX49_putBase 129 = .ok (.iload 6, 2) := by decide +kernel
theorem dX49_putBase_131 : decode cX49_putBase 131 = .ok (.bipush 64, 2) := by decide +kernel
theorem dX49_putBase_133 : decode cX49_putBase 133 = .ok (.idiv, 1) := by decide +kernel
theorem dX49_putBase_134 : decode cX49_putBase 134 = .ok (.iadd, 1) := by decide +kernel
theorem dX49_putBase_135 : decode cX49_putBase 135 = .ok (.invokestatic 279, 3) := by decide +kernel
theorem dX49_putBase_138 : decode cX49_putBase 138 = .ok (.goto 5, 3) := by decide +kernel
theorem dX49_putBase_141 : decode cX49_putBase 141 = .ok (.bipush 61, 2) := by decide +kernel
theorem dX49_putBase_143 : decode cX49_putBase 143 = .ok (.invokevirtual 264, 3) := by decide +kernel
theorem dX49_putBase_146 : decode cX49_putBase 146 = .ok (.aload_n 0, 1) := by decide +kernel
theorem dX49_putBase_147 : decode cX49_putBase 147 = .ok (.iload_n 3, 1) := by decide +kernel
theorem dX49_putBase_148 : decode cX49_putBase 148 = .ok (.iconst 2, 1) := by decide +kernel
theorem dX49_putBase_149 : decode cX49_putBase 149 = .ok (.if_icmp .le 14, 3) := by decide +kernel
theorem dX49_putBase_152 : decode cX49_putBase 152 = .ok (.iload 6, 2) := by decide +kernel
theorem dX49_putBase_154 : decode cX49_putBase 154 = .ok (.bipush 64, 2) := by decide +kernel
theorem dX49_putBase_156 : decode cX49_putBase 156 = .ok (.irem, 1) := by decide +kernel
theorem dX49_putBase_157 : decode cX49_putBase 157 = .ok (.invokestatic 279, 3) := by decide +kernel
theorem dX49_putBase_160 : decode cX49_putBase 160 = .ok (.goto 5, 3) := by decide +kernel
theorem dX49_putBase_163 : decode cX49_putBase 163 = .ok (.bipush 61, 2) := by decide +kernel
theorem dX49_putBase_165 : decode cX49_putBase 165 = .ok (.invokevirtual 264, 3) := by decide +kernel
theorem dX49_putBase_168 : decode cX49_putBase 168 = .ok (.iinc 2 3, 3) := by decide +kernel
theorem dX49_putBase_171 : decode cX49_putBase 171 = .ok (.goto (-169), 3) := by decide +kernel
theorem dX49_putBase_174 : decode cX49_putBase 174 = .ok (.return_, 1) := by decide +kernel
abbrev cX49_letter : ByteArray := prog_82_method_59_code
def yX49_letter : MethodName := ⟨RX49, "letter", "(I)I"⟩
theorem dX49_letter_0 : decode cX49_letter 0 = .ok (.iload_n 0, 1) := by decide +kernel
theorem dX49_letter_1 : decode cX49_letter 1 = .ok (.bipush 26, 2) := by decide +kernel
theorem dX49_letter_3 : decode cX49_letter 3 = .ok (.if_icmp .ge 10, 3) := by decide +kernel
theorem dX49_letter_6 : decode cX49_letter 6 = .ok (.bipush 65, 2) := by decide +kernel
theorem dX49_letter_8 : decode cX49_letter 8 = .ok (.iload_n 0, 1) := by decide +kernel
theorem dX49_letter_9 : decode cX49_letter 9 = .ok (.iadd, 1) := by decide +kernel
theorem dX49_letter_10 : decode cX49_letter 10 = .ok (.goto 48, 3) := by decide +kernel
theorem dX49_letter_13 : decode cX49_letter 13 = .ok (.iload_n 0, 1) := by decide +kernel
theorem dX49_letter_14 : decode cX49_letter 14 = .ok (.bipush 52, 2) := by decide +kernel
theorem dX49_letter_16 : decode cX49_letter 16 = .ok (.if_icmp .ge 13, 3) := by decide +kernel
theorem dX49_letter_19 : decode cX49_letter 19 = .ok (.bipush 97, 2) := by decide +kernel
theorem dX49_letter_21 : decode cX49_letter 21 = .ok (.iload_n 0, 1) := by decide +kernel
theorem dX49_letter_22 : decode cX49_letter 22 = .ok (.iadd, 1) := by decide +kernel
theorem dX49_letter_23 : decode cX49_letter 23 = .ok (.bipush 26, 2) := by decide +kernel
theorem dX49_letter_25 : decode cX49_letter 25 = .ok (.isub, 1) := by decide +kernel
theorem dX49_letter_26 : decode cX49_letter 26 = .ok (.goto 32, 3) := by decide +kernel
theorem dX49_letter_29 : decode cX49_letter 29 = .ok (.iload_n 0, 1) := by decide +kernel
theorem dX49_letter_30 : decode cX49_letter 30 = .ok (.bipush 62, 2) := by decide +kernel
theorem dX49_letter_32 : decode cX49_letter 32 = .ok (.if_icmp .ge 13, 3) := by decide +kernel
theorem dX49_letter_35 : decode cX49_letter 35 = .ok (.bipush 48, 2) := by decide +kernel
theorem dX49_letter_37 : decode cX49_letter 37 = .ok (.iload_n 0, 1) := by decide +kernel
theorem dX49_letter_38 : decode cX49_letter 38 = .ok (.iadd, 1) := by decide +kernel
theorem dX49_letter_39 : decode cX49_letter 39 = .ok (.bipush 52, 2) := by decide +kernel
theorem dX49_letter_41 : decode cX49_letter 41 = .ok (.isub, 1) := by decide +kernel
theorem dX49_letter_42 : decode cX49_letter 42 = .ok (.goto 16, 3) := by decide +kernel
theorem dX49_letter_45 : decode cX49_letter 45 = .ok (.iload_n 0, 1) := by decide +kernel
theorem dX49_letter_46 : decode cX49_letter 46 = .ok (.bipush 62, 2) := by decide +kernel
theorem dX49_letter_48 : decode cX49_letter 48 = .ok (.if_icmp .ne 8, 3) := by decide +kernel
theorem dX49_letter_51 : decode cX49_letter 51 = .ok (.bipush 43, 2) := by decide +kernel
theorem dX49_letter_53 : decode cX49_letter 53 = .ok (.goto 5, 3) := by decide +kernel
theorem dX49_letter_56 : decode cX49_letter 56 = .ok (.bipush 47, 2) := by decide +kernel
theorem dX49_letter_58 : decode cX49_letter 58 = .ok (.ireturn, 1) := by decide +kernel
abbrev cX49_told : ByteArray := prog_82_method_62_code
def yX49_told : MethodName := ⟨RX49, "told", "(I)I"⟩
theorem dX49_told_0 : decode cX49_told 0 = .ok (.aload_n 0, 1) := by decide +kernel
theorem dX49_told_1 : decode cX49_told 1 = .ok (.iconst 0, 1) := by decide +kernel
theorem dX49_told_2 : decode cX49_told 2 = .ok (.putfield 33, 3) := by decide +kernel
theorem dX49_told_5 : decode cX49_told 5 = .ok (.iload_n 1, 1) := by decide +kernel
theorem dX49_told_6 : decode cX49_told 6 = .ok (.ifCond .lt 20, 3) := by decide +kernel
theorem dX49_told_9 : decode cX49_told 9 = .ok (.iload_n 1, 1) := by decide +kernel
theorem dX49_told_10 : decode cX49_told 10 = .ok (.aload_n 0, 1) := by decide +kernel
theorem dX49_told_11 : decode cX49_told 11 = .ok (.getfield 261, 3) := by decide +kernel
theorem dX49_told_14 : decode cX49_told 14 = .ok (.if_icmp .ge 12, 3) := by decide +kernel
theorem dX49_told_17 : decode cX49_told 17 = .ok (.aload_n 0, 1) := by decide +kernel
theorem dX49_told_18 : decode cX49_told 18 = .ok (.getfield 30, 3) := by decide +kernel
theorem dX49_told_21 : decode cX49_told 21 = .ok (.iload_n 1, 1) := by decide +kernel
theorem dX49_told_22 : decode cX49_told 22 = .ok (.iaload, 1) := by decide +kernel
theorem dX49_told_23 : decode cX49_told 23 = .ok (.goto 4, 3) := by decide +kernel
theorem dX49_told_26 : decode cX49_told 26 = .ok (.iconst (-1), 1) := by decide +kernel
theorem dX49_told_27 : decode cX49_told 27 = .ok (.ireturn, 1) := by decide +kernel
abbrev cX49_apply : ByteArray := prog_82_method_67_code
def yX49_apply : MethodName := ⟨RX49, "apply", "(III)I"⟩
theorem dX49_apply_0 : decode cX49_apply 0 = .ok (.aload_n 0, 1) := by decide +kernel
theorem dX49_apply_1 : decode cX49_apply 1 = .ok (.iconst 0, 1) := by decide +kernel
theorem dX49_apply_2 : decode cX49_apply 2 = .ok (.putfield 33, 3) := by decide +kernel
theorem dX49_apply_5 : decode cX49_apply 5 = .ok (.iload_n 1, 1) := by decide +kernel
theorem dX49_apply_6 : decode cX49_apply 6 = .ok (.ifCond .lt 31, 3) := by decide +kernel
theorem dX49_apply_9 : decode cX49_apply 9 = .ok (.iload_n 1, 1) := by decide +kernel
theorem dX49_apply_10 : decode cX49_apply 10 = .ok (.bipush 7, 2) := by decide +kernel
theorem dX49_apply_12 : decode cX49_apply 12 = .ok (.if_icmp .gt 25, 3) := by decide +kernel
theorem dX49_apply_15 : decode cX49_apply 15 = .ok (.aload_n 0, 1) := by decide +kernel
theorem dX49_apply_16 : decode cX49_apply 16 = .ok (.iload_n 2, 1) := by decide +kernel
theorem dX49_apply_17 : decode cX49_apply 17 = .ok (.invokevirtual 224, 3) := by decide +kernel
theorem dX49_apply_20 : decode cX49_apply 20 = .ok (.ifCond .eq 17, 3) := by decide +kernel
theorem dX49_apply_23 : decode cX49_apply 23 = .ok (.iload_n 1, 1) := by decide +kernel
theorem dX49_apply_24 : decode cX49_apply 24 = .ok (.bipush 7, 2) := by decide +kernel
theorem dX49_apply_26 : decode cX49_apply 26 = .ok (.if_icmp .eq 13, 3) := by decide +kernel
theorem dX49_apply_29 : decode cX49_apply 29 = .ok (.aload_n 0, 1) := by decide +kernel
theorem dX49_apply_30 : decode cX49_apply 30 = .ok (.iload_n 3, 1) := by decide +kernel
theorem dX49_apply_31 : decode cX49_apply 31 = .ok (.invokevirtual 224, 3) := by decide +kernel
theorem dX49_apply_34 : decode cX49_apply 34 = .ok (.ifCond .ne 5, 3) := by decide +kernel
theorem dX49_apply_37 : decode cX49_apply 37 = .ok (.iconst (-1), 1) := by decide +kernel
theorem dX49_apply_38 : decode cX49_apply 38 = .ok (.ireturn, 1) := by decide +kernel
theorem dX49_apply_39 : decode cX49_apply 39 = .ok (.iload_n 1, 1) := by decide +kernel
theorem dX49_apply_40 : decode cX49_apply 40 = .ok (.iconst 4, 1) := by decide +kernel
theorem dX49_apply_41 : decode cX49_apply 41 = .ok (.if_icmp .ge 32, 3) := by decide +kernel
theorem dX49_apply_44 : decode cX49_apply 44 = .ok (.aload_n 0, 1) := by decide +kernel
theorem dX49_apply_45 : decode cX49_apply 45 = .ok (.iload_n 2, 1) := by decide +kernel
theorem dX49_apply_46 : decode cX49_apply 46 = .ok (.invokevirtual 227, 3) := by decide +kernel
theorem dX49_apply_49 : decode cX49_apply 49 = .ok (.ifCond .eq 21, 3) := by decide +kernel
theorem dX49_apply_52 : decode cX49_apply 52 = .ok (.aload_n 0, 1) := by decide +kernel
theorem dX49_apply_53 : decode cX49_apply 53 = .ok (.iload_n 3, 1) := by decide +kernel
theorem dX49_apply_54 : decode cX49_apply 54 = .ok (.invokevirtual 227, 3) := by decide +kernel
theorem dX49_apply_57 : decode cX49_apply 57 = .ok (.ifCond .eq 13, 3) := by decide +kernel
theorem dX49_apply_60 : decode cX49_apply 60 = .ok (.aload_n 0, 1) := by decide +kernel
theorem dX49_apply_61 : decode cX49_apply 61 = .ok (.iload_n 1, 1) := by decide +kernel
theorem dX49_apply_62 : decode cX49_apply 62 = .ok (.iload_n 2, 1) := by decide +kernel
theorem dX49_apply_63 : decode cX49_apply 63 = .ok (.iload_n 3, 1) := by decide +kernel
theorem dX49_apply_64 : decode cX49_apply 64 = .ok (.invokevirtual 310, 3) := by decide +kernel
theorem dX49_apply_67 : decode cX49_apply 67 = .ok (.goto 5, 3) := by decide +kernel
theorem dX49_apply_70 : decode cX49_apply 70 = .ok (.bipush (-2), 2) := by decide +kernel
theorem dX49_apply_72 : decode cX49_apply 72 = .ok (.ireturn, 1) := by decide +kernel
theorem dX49_apply_73 : decode cX49_apply 73 = .ok (.iload_n 1, 1) := by decide +kernel
theorem dX49_apply_74 : decode cX49_apply 74 = .ok (.bipush 7, 2) := by decide +kernel
theorem dX49_apply_76 : decode cX49_apply 76 = .ok (.if_icmp .ne 38, 3) := by decide +kernel
theorem dX49_apply_79 : decode cX49_apply 79 = .ok (.aload_n 0, 1) := by decide +kernel
theorem dX49_apply_80 : decode cX49_apply 80 = .ok (.getfield 7, 3) := by decide +kernel
theorem dX49_apply_83 : decode cX49_apply 83 = .ok (.iload_n 2, 1) := by decide +kernel
theorem dX49_apply_84 : decode cX49_apply 84 = .ok (.iaload, 1) := by decide +kernel
theorem dX49_apply_85 : decode cX49_apply 85 = .ok (.bipush 6, 2) := by decide +kernel
theorem dX49_apply_87 : decode cX49_apply 87 = .ok (.if_icmp .ne 24, 3) := by decide +kernel
theorem dX49_apply_90 : decode cX49_apply 90 = .ok (.aload_n 0, 1) := by decide +kernel
theorem dX49_apply_91 : decode cX49_apply 91 = .ok (.aload_n 0, 1) := by decide +kernel
theorem dX49_apply_92 : decode cX49_apply 92 = .ok (.getfield 13, 3) := by decide +kernel
theorem dX49_apply_95 : decode cX49_apply 95 = .ok (.iload_n 2, 1) := by decide +kernel
theorem dX49_apply_96 : decode cX49_apply 96 = .ok (.laload, 1) := by decide +kernel
theorem dX49_apply_97 : decode cX49_apply 97 = .ok (.lneg, 1) := by decide +kernel
theorem dX49_apply_98 : decode cX49_apply 98 = .ok (.aload_n 0, 1) := by decide +kernel
theorem dX49_apply_99 : decode cX49_apply 99 = .ok (.getfield 17, 3) := by decide +kernel
theorem dX49_apply_102 : decode cX49_apply 102 = .ok (.iload_n 2, 1) := by decide +kernel
theorem dX49_apply_103 : decode cX49_apply 103 = .ok (.laload, 1) := by decide +kernel
theorem dX49_apply_104 : decode cX49_apply 104 = .ok (.lneg, 1) := by decide +kernel
theorem dX49_apply_105 : decode cX49_apply 105 = .ok (.invokevirtual 314, 3) := by decide +kernel
theorem dX49_apply_108 : decode cX49_apply 108 = .ok (.goto 5, 3) := by decide +kernel
theorem dX49_apply_111 : decode cX49_apply 111 = .ok (.bipush (-2), 2) := by decide +kernel
theorem dX49_apply_113 : decode cX49_apply 113 = .ok (.ireturn, 1) := by decide +kernel
theorem dX49_apply_114 : decode cX49_apply 114 = .ok (.iload_n 1, 1) := by decide +kernel
theorem dX49_apply_115 : decode cX49_apply 115 = .ok (.iconst 4, 1) := by decide +kernel
theorem dX49_apply_116 : decode cX49_apply 116 = .ok (.if_icmp .ne 46, 3) := by decide +kernel
theorem dX49_apply_119 : decode cX49_apply 119 = .ok (.aload_n 0, 1) := by decide +kernel
theorem dX49_apply_120 : decode cX49_apply 120 = .ok (.getfield 7, 3) := by decide +kernel
theorem dX49_apply_123 : decode cX49_apply 123 = .ok (.iload_n 2, 1) := by decide +kernel
theorem dX49_apply_124 : decode cX49_apply 124 = .ok (.iaload, 1) := by decide +kernel
theorem dX49_apply_125 : decode cX49_apply 125 = .ok (.iconst 4, 1) := by decide +kernel
theorem dX49_apply_126 : decode cX49_apply 126 = .ok (.if_icmp .eq 13, 3) := by decide +kernel
theorem dX49_apply_129 : decode cX49_apply 129 = .ok (.aload_n 0, 1) := by decide +kernel
theorem dX49_apply_130 : decode cX49_apply 130 = .ok (.getfield 7, 3) := by decide +kernel
theorem dX49_apply_133 : decode cX49_apply 133 = .ok (.iload_n 2, 1) := by decide +kernel
theorem dX49_apply_134 : decode cX49_apply 134 = .ok (.iaload, 1) := by decide +kernel
theorem dX49_apply_135 : decode cX49_apply 135 = .ok (.iconst 5, 1) := by decide +kernel
theorem dX49_apply_136 : decode cX49_apply 136 = .ok (.if_icmp .ne 23, 3) := by decide +kernel
theorem dX49_apply_139 : decode cX49_apply 139 = .ok (.aload_n 0, 1) := by decide +kernel
theorem dX49_apply_140 : decode cX49_apply 140 = .ok (.getfield 7, 3) := by decide +kernel
theorem dX49_apply_143 : decode cX49_apply 143 = .ok (.iload_n 3, 1) := by decide +kernel
theorem dX49_apply_144 : decode cX49_apply 144 = .ok (.iaload, 1) := by decide +kernel
theorem dX49_apply_145 : decode cX49_apply 145 = .ok (.bipush 6, 2) := by decide +kernel
theorem dX49_apply_147 : decode cX49_apply 147 = .ok (.if_icmp .ne 12, 3) := by decide +kernel
theorem dX49_apply_150 : decode cX49_apply 150 = .ok (.aload_n 0, 1) := by decide +kernel
theorem dX49_apply_151 : decode cX49_apply 151 = .ok (.iload_n 2, 1) := by decide +kernel
theorem dX49_apply_152 : decode cX49_apply 152 = .ok (.iload_n 3, 1) := by decide +kernel
theorem dX49_apply_153 : decode cX49_apply 153 = .ok (.invokevirtual 317, 3) := by decide +kernel
theorem dX49_apply_156 : decode cX49_apply 156 = .ok (.goto 5, 3) := by decide +kernel
theorem dX49_apply_159 : decode cX49_apply 159 = .ok (.bipush (-2), 2) := by decide +kernel
theorem dX49_apply_161 : decode cX49_apply 161 = .ok (.ireturn, 1) := by decide +kernel
theorem dX49_apply_162 : decode cX49_apply 162 = .ok (.iload_n 1, 1) := by decide +kernel
theorem dX49_apply_163 : decode cX49_apply 163 = .ok (.bipush 6, 2) := by decide +kernel
theorem dX49_apply_165 : decode cX49_apply 165 = .ok (.if_icmp .ne 61, 3) := by decide +kernel
theorem dX49_apply_168 : decode cX49_apply 168 = .ok (.aload_n 0, 1) := by decide +kernel
theorem dX49_apply_169 : decode cX49_apply 169 = .ok (.getfield 7, 3) := by decide +kernel
theorem dX49_apply_172 : decode cX49_apply 172 = .ok (.iload_n 2, 1) := by decide +kernel
theorem dX49_apply_173 : decode cX49_apply 173 = .ok (.iaload, 1) := by decide +kernel
theorem dX49_apply_174 : decode cX49_apply 174 = .ok (.bipush 6, 2) := by decide +kernel
theorem dX49_apply_176 : decode cX49_apply 176 = .ok (.if_icmp .ne 47, 3) := by decide +kernel
theorem dX49_apply_179 : decode cX49_apply 179 = .ok (.aload_n 0, 1) := by decide +kernel
theorem dX49_apply_180 : decode cX49_apply 180 = .ok (.getfield 7, 3) := by decide +kernel
theorem dX49_apply_183 : decode cX49_apply 183 = .ok (.iload_n 3, 1) := by decide +kernel
theorem dX49_apply_184 : decode cX49_apply 184 = .ok (.iaload, 1) := by decide +kernel
theorem dX49_apply_185 : decode cX49_apply 185 = .ok (.bipush 6, 2) := by decide +kernel
theorem dX49_apply_187 : decode cX49_apply 187 = .ok (.if_icmp .ne 36, 3) := by decide +kernel
theorem dX49_apply_190 : decode cX49_apply 190 = .ok (.aload_n 0, 1) := by decide +kernel
theorem dX49_apply_191 : decode cX49_apply 191 = .ok (.aload_n 0, 1) := by decide +kernel
theorem dX49_apply_192 : decode cX49_apply 192 = .ok (.getfield 13, 3) := by decide +kernel
theorem dX49_apply_195 : decode cX49_apply 195 = .ok (.iload_n 2, 1) := by decide +kernel
theorem dX49_apply_196 : decode cX49_apply 196 = .ok (.laload, 1) := by decide +kernel
theorem dX49_apply_197 : decode cX49_apply 197 = .ok (.aload_n 0, 1) := by decide +kernel
theorem dX49_apply_198 : decode cX49_apply 198 = .ok (.getfield 13, 3) := by decide +kernel
theorem dX49_apply_201 : decode cX49_apply 201 = .ok (.iload_n 3, 1) := by decide +kernel
theorem dX49_apply_202 : decode cX49_apply 202 = .ok (.laload, 1) := by decide +kernel
theorem dX49_apply_203 : decode cX49_apply 203 = .ok (.ladd, 1) := by decide +kernel
theorem dX49_apply_204 : decode cX49_apply 204 = .ok (.aload_n 0, 1) := by decide +kernel
theorem dX49_apply_205 : decode cX49_apply 205 = .ok (.getfield 17, 3) := by decide +kernel
theorem dX49_apply_208 : decode cX49_apply 208 = .ok (.iload_n 2, 1) := by decide +kernel
theorem dX49_apply_209 : decode cX49_apply 209 = .ok (.laload, 1) := by decide +kernel
theorem dX49_apply_210 : decode cX49_apply 210 = .ok (.aload_n 0, 1) := by decide +kernel
theorem dX49_apply_211 : decode cX49_apply 211 = .ok (.getfield 17, 3) := by decide +kernel
theorem dX49_apply_214 : decode cX49_apply 214 = .ok (.iload_n 3, 1) := by decide +kernel
theorem dX49_apply_215 : decode cX49_apply 215 = .ok (.laload, 1) := by decide +kernel
theorem dX49_apply_216 : decode cX49_apply 216 = .ok (.ladd, 1) := by decide +kernel
theorem dX49_apply_217 : decode cX49_apply 217 = .ok (.invokevirtual 314, 3) := by decide +kernel
theorem dX49_apply_220 : decode cX49_apply 220 = .ok (.goto 5, 3) := by decide +kernel
theorem dX49_apply_223 : decode cX49_apply 223 = .ok (.bipush (-2), 2) := by decide +kernel
theorem dX49_apply_225 : decode cX49_apply 225 = .ok (.ireturn, 1) := by decide +kernel
theorem dX49_apply_226 : decode cX49_apply 226 = .ok (.aload_n 0, 1) := by decide +kernel
theorem dX49_apply_227 : decode cX49_apply 227 = .ok (.getfield 17, 3) := by decide +kernel
theorem dX49_apply_230 : decode cX49_apply 230 = .ok (.iload_n 2, 1) := by decide +kernel
theorem dX49_apply_231 : decode cX49_apply 231 = .ok (.laload, 1) := by decide +kernel
theorem dX49_apply_232 : decode cX49_apply 232 = .ok (.ldc2_w 230, 3) := by decide +kernel
theorem dX49_apply_235 : decode cX49_apply 235 = .ok (.lcmp, 1) := by decide +kernel
theorem dX49_apply_236 : decode cX49_apply 236 = .ok (.ifCond .ne 7, 3) := by decide +kernel
theorem dX49_apply_239 : decode cX49_apply 239 = .ok (.iconst 1, 1) := by decide +kernel
theorem dX49_apply_240 : decode cX49_apply 240 = .ok (.goto 4, 3) := by decide +kernel
theorem dX49_apply_243 : decode cX49_apply 243 = .ok (.iconst 0, 1) := by decide +kernel
theorem dX49_apply_244 : decode cX49_apply 244 = .ok (.aload_n 0, 1) := by decide +kernel
theorem dX49_apply_245 : decode cX49_apply 245 = .ok (.getfield 17, 3) := by decide +kernel
theorem dX49_apply_248 : decode cX49_apply 248 = .ok (.iload_n 3, 1) := by decide +kernel
theorem dX49_apply_249 : decode cX49_apply 249 = .ok (.laload, 1) := by decide +kernel
theorem dX49_apply_250 : decode cX49_apply 250 = .ok (.ldc2_w 230, 3) := by decide +kernel
theorem dX49_apply_253 : decode cX49_apply 253 = .ok (.lcmp, 1) := by decide +kernel
theorem dX49_apply_254 : decode cX49_apply 254 = .ok (.ifCond .ne 7, 3) := by decide +kernel
theorem dX49_apply_257 : decode cX49_apply 257 = .ok (.iconst 1, 1) := by decide +kernel
theorem dX49_apply_258 : decode cX49_apply 258 = .ok (.goto 4, 3) := by decide +kernel
theorem dX49_apply_261 : decode cX49_apply 261 = .ok (.iconst 0, 1) := by decide +kernel
theorem dX49_apply_262 : decode cX49_apply 262 = .ok (.if_icmp .ne 7, 3) := by decide +kernel
theorem dX49_apply_265 : decode cX49_apply 265 = .ok (.iconst 1, 1) := by decide +kernel
theorem dX49_apply_266 : decode cX49_apply 266 = .ok (.goto 4, 3) := by decide +kernel
theorem dX49_apply_269 : decode cX49_apply 269 = .ok (.iconst 0, 1) := by decide +kernel
theorem dX49_apply_270 : decode cX49_apply 270 = .ok (.istore 4, 2) := by decide +kernel
theorem dX49_apply_272 : decode cX49_apply 272 = .ok (.aload_n 0, 1) := by decide +kernel
theorem dX49_apply_273 : decode cX49_apply 273 = .ok (.getfield 7, 3) := by decide +kernel
theorem dX49_apply_276 : decode cX49_apply 276 = .ok (.iload_n 2, 1) := by decide +kernel
theorem dX49_apply_277 : decode cX49_apply 277 = .ok (.iaload, 1) := by decide +kernel
theorem dX49_apply_278 : decode cX49_apply 278 = .ok (.iconst 5, 1) := by decide +kernel
theorem dX49_apply_279 : decode cX49_apply 279 = .ok (.if_icmp .ne 37, 3) := by decide +kernel
theorem dX49_apply_282 : decode cX49_apply 282 = .ok (.aload_n 0, 1) := by decide +kernel
theorem dX49_apply_283 : decode cX49_apply 283 = .ok (.getfield 7, 3) := by decide +kernel
theorem dX49_apply_286 : decode cX49_apply 286 = .ok (.iload_n 3, 1) := by decide +kernel
theorem dX49_apply_287 : decode cX49_apply 287 = .ok (.iaload, 1) := by decide +kernel
theorem dX49_apply_288 : decode cX49_apply 288 = .ok (.iconst 5, 1) := by decide +kernel
theorem dX49_apply_289 : decode cX49_apply 289 = .ok (.if_icmp .ne 27, 3) := by decide +kernel
theorem dX49_apply_292 : decode cX49_apply 292 = .ok (.iload 4, 2) := by decide +kernel
theorem dX49_apply_294 : decode cX49_apply 294 = .ok (.ifCond .eq 22, 3) := by decide +kernel
theorem dX49_apply_297 : decode cX49_apply 297 = .ok (.aload_n 0, 1) := by decide +kernel
theorem dX49_apply_298 : decode cX49_apply 298 = .ok (.lconst 0, 1) := by decide +kernel
theorem dX49_apply_299 : decode cX49_apply 299 = .ok (.aload_n 0, 1) := by decide +kernel
theorem dX49_apply_300 : decode cX49_apply 300 = .ok (.iload_n 2, 1) := by decide +kernel
theorem dX49_apply_301 : decode cX49_apply 301 = .ok (.invokevirtual 232, 3) := by decide +kernel
theorem dX49_apply_304 : decode cX49_apply 304 = .ok (.aload_n 0, 1) := by decide +kernel
theorem dX49_apply_305 : decode cX49_apply 305 = .ok (.iload_n 3, 1) := by decide +kernel
theorem dX49_apply_306 : decode cX49_apply 306 = .ok (.invokevirtual 232, 3) := by decide +kernel
theorem dX49_apply_309 : decode cX49_apply 309 = .ok (.lsub, 1) := by decide +kernel
theorem dX49_apply_310 : decode cX49_apply 310 = .ok (.invokevirtual 314, 3) := by decide +kernel
theorem dX49_apply_313 : decode cX49_apply 313 = .ok (.goto 5, 3) := by decide +kernel
theorem dX49_apply_316 : decode cX49_apply 316 = .ok (.bipush (-2), 2) := by decide +kernel
theorem dX49_apply_318 : decode cX49_apply 318 = .ok (.ireturn, 1) := by decide +kernel
abbrev cX49_reckon : ByteArray := prog_82_method_64_code
def yX49_reckon : MethodName := ⟨RX49, "reckon", "(III)I"⟩
theorem dX49_reckon_0 : decode cX49_reckon 0 = .ok (.aload_n 0, 1) := by decide +kernel
theorem dX49_reckon_1 : decode cX49_reckon 1 = .ok (.getfield 13, 3) := by decide +kernel
theorem dX49_reckon_4 : decode cX49_reckon 4 = .ok (.iload_n 2, 1) := by decide +kernel
theorem dX49_reckon_5 : decode cX49_reckon 5 = .ok (.laload, 1) := by decide +kernel
theorem dX49_reckon_6 : decode cX49_reckon 6 = .ok (.lstore 4, 2) := by decide +kernel
theorem dX49_reckon_8 : decode cX49_reckon 8 = .ok (.aload_n 0, 1) := by decide +kernel
theorem dX49_reckon_9 : decode cX49_reckon 9 = .ok (.getfield 17, 3) := by decide +kernel
theorem dX49_reckon_12 : decode cX49_reckon 12 = .ok (.iload_n 2, 1) := by decide +kernel
theorem dX49_reckon_13 : decode cX49_reckon 13 = .ok (.laload, 1) := by decide +kernel
theorem dX49_reckon_14 : decode cX49_reckon 14 = .ok (.lstore 6, 2) := by decide +kernel
theorem dX49_reckon_16 : decode cX49_reckon 16 = .ok (.aload_n 0, 1) := by decide +kernel
theorem dX49_reckon_17 : decode cX49_reckon 17 = .ok (.getfield 13, 3) := by decide +kernel
theorem dX49_reckon_20 : decode cX49_reckon 20 = .ok (.iload_n 3, 1) := by decide +kernel
theorem dX49_reckon_21 : decode cX49_reckon 21 = .ok (.laload, 1) := by decide +kernel
theorem dX49_reckon_22 : decode cX49_reckon 22 = .ok (.lstore 8, 2) := by decide +kernel
theorem dX49_reckon_24 : decode cX49_reckon 24 = .ok (.aload_n 0, 1) := by decide +kernel
theorem dX49_reckon_25 : decode cX49_reckon 25 = .ok (.getfield 17, 3) := by decide +kernel
theorem dX49_reckon_28 : decode cX49_reckon 28 = .ok (.iload_n 3, 1) := by decide +kernel
theorem dX49_reckon_29 : decode cX49_reckon 29 = .ok (.laload, 1) := by decide +kernel
theorem dX49_reckon_30 : decode cX49_reckon 30 = .ok (.lstore 10, 2) := by decide +kernel
theorem dX49_reckon_32 : decode cX49_reckon 32 = .ok (.iload_n 1, 1) := by decide +kernel
theorem dX49_reckon_33 : decode cX49_reckon 33 = .ok (.ifCond .ne 24, 3) := by decide +kernel
theorem dX49_reckon_36 : decode cX49_reckon 36 = .ok (.aload_n 0, 1) := by decide +kernel
theorem dX49_reckon_37 : decode cX49_reckon 37 = .ok (.lload 4, 2) := by decide +kernel
theorem dX49_reckon_39 : decode cX49_reckon 39 = .ok (.lload 10, 2) := by decide +kernel
theorem dX49_reckon_41 : decode cX49_reckon 41 = .ok (.lmul, 1) := by decide +kernel
theorem dX49_reckon_42 : decode cX49_reckon 42 = .ok (.lload 8, 2) := by decide +kernel
theorem dX49_reckon_44 : decode cX49_reckon 44 = .ok (.lload 6, 2) := by decide +kernel
theorem dX49_reckon_46 : decode cX49_reckon 46 = .ok (.lmul, 1) := by decide +kernel
theorem dX49_reckon_47 : decode cX49_reckon 47 = .ok (.ladd, 1) := by decide +kernel
theorem dX49_reckon_48 : decode cX49_reckon 48 = .ok (.lload 6, 2) := by decide +kernel
theorem dX49_reckon_50 : decode cX49_reckon 50 = .ok (.lload 10, 2) := by decide +kernel
theorem dX49_reckon_52 : decode cX49_reckon 52 = .ok (.lmul, 1) := by decide +kernel
theorem dX49_reckon_53 : decode cX49_reckon 53 = .ok (.invokevirtual 303, 3) := by decide +kernel
theorem dX49_reckon_56 : decode cX49_reckon 56 = .ok (.ireturn, 1) := by decide +kernel
theorem dX49_reckon_57 : decode cX49_reckon 57 = .ok (.iload_n 1, 1) := by decide +kernel
theorem dX49_reckon_58 : decode cX49_reckon 58 = .ok (.iconst 1, 1) := by decide +kernel
theorem dX49_reckon_59 : decode cX49_reckon 59 = .ok (.if_icmp .ne 24, 3) := by decide +kernel
theorem dX49_reckon_62 : decode cX49_reckon 62 = .ok (.aload_n 0, 1) := by decide +kernel
theorem dX49_reckon_63 : decode cX49_reckon 63 = .ok (.lload 4, 2) := by decide +kernel
theorem dX49_reckon_65 : decode cX49_reckon 65 = .ok (.lload 10, 2) := by decide +kernel
theorem dX49_reckon_67 : decode cX49_reckon 67 = .ok (.lmul, 1) := by decide +kernel
theorem dX49_reckon_68 : decode cX49_reckon 68 = .ok (.lload 8, 2) := by decide +kernel
theorem dX49_reckon_70 : decode cX49_reckon 70 = .ok (.lload 6, 2) := by decide +kernel
theorem dX49_reckon_72 : decode cX49_reckon 72 = .ok (.lmul, 1) := by decide +kernel
theorem dX49_reckon_73 : decode cX49_reckon 73 = .ok (.lsub, 1) := by decide +kernel
theorem dX49_reckon_74 : decode cX49_reckon 74 = .ok (.lload 6, 2) := by decide +kernel
theorem dX49_reckon_76 : decode cX49_reckon 76 = .ok (.lload 10, 2) := by decide +kernel
theorem dX49_reckon_78 : decode cX49_reckon 78 = .ok (.lmul, 1) := by decide +kernel
theorem dX49_reckon_79 : decode cX49_reckon 79 = .ok (.invokevirtual 303, 3) := by decide +kernel
theorem dX49_reckon_82 : decode cX49_reckon 82 = .ok (.ireturn, 1) := by decide +kernel
theorem dX49_reckon_83 : decode cX49_reckon 83 = .ok (.iload_n 1, 1) := by decide +kernel
theorem dX49_reckon_84 : decode cX49_reckon 84 = .ok (.iconst 2, 1) := by decide +kernel
theorem dX49_reckon_85 : decode cX49_reckon 85 = .ok (.if_icmp .ne 18, 3) := by decide +kernel
theorem dX49_reckon_88 : decode cX49_reckon 88 = .ok (.aload_n 0, 1) := by decide +kernel
theorem dX49_reckon_89 : decode cX49_reckon 89 = .ok (.lload 4, 2) := by decide +kernel
theorem dX49_reckon_91 : decode cX49_reckon 91 = .ok (.lload 8, 2) := by decide +kernel
theorem dX49_reckon_93 : decode cX49_reckon 93 = .ok (.lmul, 1) := by decide +kernel
theorem dX49_reckon_94 : decode cX49_reckon 94 = .ok (.lload 6, 2) := by decide +kernel
theorem dX49_reckon_96 : decode cX49_reckon 96 = .ok (.lload 10, 2) := by decide +kernel
theorem dX49_reckon_98 : decode cX49_reckon 98 = .ok (.lmul, 1) := by decide +kernel
theorem dX49_reckon_99 : decode cX49_reckon 99 = .ok (.invokevirtual 303, 3) := by decide +kernel
theorem dX49_reckon_102 : decode cX49_reckon 102 = .ok (.ireturn, 1) := by decide +kernel
theorem dX49_reckon_103 : decode cX49_reckon 103 = .ok (.lload 8, 2) := by decide +kernel
theorem dX49_reckon_105 : decode cX49_reckon 105 = .ok (.lconst 0, 1) := by decide +kernel
theorem dX49_reckon_106 : decode cX49_reckon 106 = .ok (.lcmp, 1) := by decide +kernel
theorem dX49_reckon_107 : decode cX49_reckon 107 = .ok (.ifCond .ne 6, 3) := by decide +kernel
theorem dX49_reckon_110 : decode cX49_reckon 110 = .ok (.bipush (-2), 2) := by decide +kernel
theorem dX49_reckon_112 : decode cX49_reckon 112 = .ok (.ireturn, 1) := by decide +kernel
theorem dX49_reckon_113 : decode cX49_reckon 113 = .ok (.lload 8, 2) := by decide +kernel
theorem dX49_reckon_115 : decode cX49_reckon 115 = .ok (.lconst 0, 1) := by decide +kernel
theorem dX49_reckon_116 : decode cX49_reckon 116 = .ok (.lcmp, 1) := by decide +kernel
theorem dX49_reckon_117 : decode cX49_reckon 117 = .ok (.ifCond .ge 22, 3) := by decide +kernel
theorem dX49_reckon_120 : decode cX49_reckon 120 = .ok (.aload_n 0, 1) := by decide +kernel
theorem dX49_reckon_121 : decode cX49_reckon 121 = .ok (.lload 4, 2) := by decide +kernel
theorem dX49_reckon_123 : decode cX49_reckon 123 = .ok (.lneg, 1) := by decide +kernel
theorem dX49_reckon_124 : decode cX49_reckon 124 = .ok (.lload 10, 2) := by decide +kernel
theorem dX49_reckon_126 : decode cX49_reckon 126 = .ok (.lmul, 1) := by decide +kernel
theorem dX49_reckon_127 : decode cX49_reckon 127 = .ok (.lload 8, 2) := by decide +kernel
theorem dX49_reckon_129 : decode cX49_reckon 129 = .ok (.lneg, 1) := by decide +kernel
theorem dX49_reckon_130 : decode cX49_reckon 130 = .ok (.lload 6, 2) := by decide +kernel
theorem dX49_reckon_132 : decode cX49_reckon 132 = .ok (.lmul, 1) := by decide +kernel
theorem dX49_reckon_133 : decode cX49_reckon 133 = .ok (.invokevirtual 303, 3) := by decide +kernel
theorem dX49_reckon_136 : decode cX49_reckon 136 = .ok (.goto 17, 3) := by decide +kernel
theorem dX49_reckon_139 : decode cX49_reckon 139 = .ok (.aload_n 0, 1) := by decide +kernel
theorem dX49_reckon_140 : decode cX49_reckon 140 = .ok (.lload 4, 2) := by decide +kernel
theorem dX49_reckon_142 : decode cX49_reckon 142 = .ok (.lload 10, 2) := by decide +kernel
theorem dX49_reckon_144 : decode cX49_reckon 144 = .ok (.lmul, 1) := by decide +kernel
theorem dX49_reckon_145 : decode cX49_reckon 145 = .ok (.lload 8, 2) := by decide +kernel
theorem dX49_reckon_147 : decode cX49_reckon 147 = .ok (.lload 6, 2) := by decide +kernel
theorem dX49_reckon_149 : decode cX49_reckon 149 = .ok (.lmul, 1) := by decide +kernel
theorem dX49_reckon_150 : decode cX49_reckon 150 = .ok (.invokevirtual 303, 3) := by decide +kernel
theorem dX49_reckon_153 : decode cX49_reckon 153 = .ok (.ireturn, 1) := by decide +kernel
abbrev cX49_keepFraction : ByteArray := prog_82_method_63_code
def yX49_keepFraction : MethodName := ⟨RX49, "keepFraction", "(JJ)I"⟩
theorem dX49_keepFraction_0 : decode cX49_keepFraction 0 = .ok (.lload_n 1, 1) := by decide +kernel
theorem dX49_keepFraction_1 : decode cX49_keepFraction 1 = .ok (.lload_n 3, 1) := by decide +kernel
theorem dX49_keepFraction_2 : decode cX49_keepFraction 2 = .ok (.invokestatic 138, 3) := by decide +kernel
theorem dX49_keepFraction_5 : decode cX49_keepFraction 5 = .ok (.lstore 5, 2) := by decide +kernel
theorem dX49_keepFraction_7 : decode cX49_keepFraction 7 = .ok (.aload_n 0, 1) := by decide +kernel
theorem dX49_keepFraction_8 : decode cX49_keepFraction 8 = .ok (.lload_n 1, 1) := by decide +kernel
theorem dX49_keepFraction_9 : decode cX49_keepFraction 9 = .ok (.lload 5, 2) := by decide +kernel
theorem dX49_keepFraction_11 : decode cX49_keepFraction 11 = .ok (.ldiv, 1) := by decide +kernel
theorem dX49_keepFraction_12 : decode cX49_keepFraction 12 = .ok (.putfield 125, 3) := by decide +kernel
theorem dX49_keepFraction_15 : decode cX49_keepFraction 15 = .ok (.aload_n 0, 1) := by decide +kernel
theorem dX49_keepFraction_16 : decode cX49_keepFraction 16 = .ok (.lload_n 3, 1) := by decide +kernel
theorem dX49_keepFraction_17 : decode cX49_keepFraction 17 = .ok (.lload 5, 2) := by decide +kernel
theorem dX49_keepFraction_19 : decode cX49_keepFraction 19 = .ok (.ldiv, 1) := by decide +kernel
theorem dX49_keepFraction_20 : decode cX49_keepFraction 20 = .ok (.putfield 132, 3) := by decide +kernel
theorem dX49_keepFraction_23 : decode cX49_keepFraction 23 = .ok (.aload_n 0, 1) := by decide +kernel
theorem dX49_keepFraction_24 : decode cX49_keepFraction 24 = .ok (.iconst 0, 1) := by decide +kernel
theorem dX49_keepFraction_25 : decode cX49_keepFraction 25 = .ok (.putfield 187, 3) := by decide +kernel
theorem dX49_keepFraction_28 : decode cX49_keepFraction 28 = .ok (.aload_n 0, 1) := by decide +kernel
theorem dX49_keepFraction_29 : decode cX49_keepFraction 29 = .ok (.getfield 125, 3) := by decide +kernel
theorem dX49_keepFraction_32 : decode cX49_keepFraction 32 = .ok (.ldc2_w 299, 3) := by decide +kernel
theorem dX49_keepFraction_35 : decode cX49_keepFraction 35 = .ok (.lcmp, 1) := by decide +kernel
theorem dX49_keepFraction_36 : decode cX49_keepFraction 36 = .ok (.ifCond .le 29, 3) := by decide +kernel
theorem dX49_keepFraction_39 : decode cX49_keepFraction 39 = .ok (.aload_n 0, 1) := by decide +kernel
theorem dX49_keepFraction_40 : decode cX49_keepFraction 40 = .ok (.getfield 125, 3) := by decide +kernel
theorem dX49_keepFraction_43 : decode cX49_keepFraction 43 = .ok (.ldc2_w 301, 3) := by decide +kernel
theorem dX49_keepFraction_46 : decode cX49_keepFraction 46 = .ok (.lcmp, 1) := by decide +kernel
theorem dX49_keepFraction_47 : decode cX49_keepFraction 47 = .ok (.ifCond .ge 18, 3) := by decide +kernel
theorem dX49_keepFraction_50 : decode cX49_keepFraction 50 = .ok (.aload_n 0, 1) := by decide +kernel
theorem dX49_keepFraction_51 : decode cX49_keepFraction 51 = .ok (.getfield 132, 3) := by decide +kernel
theorem dX49_keepFraction_54 : decode cX49_keepFraction 54 = .ok (.ldc2_w 301, 3) := by decide +kernel
theorem dX49_keepFraction_57 : decode cX49_keepFraction 57 = .ok (.lcmp, 1) := by decide +kernel
theorem dX49_keepFraction_58 : decode cX49_keepFraction 58 = .ok (.ifCond .ge 7, 3) := by decide +kernel
theorem dX49_keepFraction_61 : decode cX49_keepFraction 61 = .ok (.iconst 1, 1) := by decide +kernel
theorem dX49_keepFraction_62 : decode cX49_keepFraction 62 = .ok (.goto 4, 3) := by decide +kernel
theorem dX49_keepFraction_65 : decode cX49_keepFraction 65 = .ok (.iconst 0, 1) := by decide +kernel
theorem dX49_keepFraction_66 : decode cX49_keepFraction 66 = .ok (.istore 7, 2) := by decide +kernel
theorem dX49_keepFraction_68 : decode cX49_keepFraction 68 = .ok (.iload 7, 2) := by decide +kernel
theorem dX49_keepFraction_70 : decode cX49_keepFraction 70 = .ok (.ifCond .eq 11, 3) := by decide +kernel
theorem dX49_keepFraction_73 : decode cX49_keepFraction 73 = .ok (.aload_n 0, 1) := by decide +kernel
theorem dX49_keepFraction_74 : decode cX49_keepFraction 74 = .ok (.iconst 2, 1) := by decide +kernel
theorem dX49_keepFraction_75 : decode cX49_keepFraction 75 = .ok (.invokevirtual 217, 3) := by decide +kernel
theorem dX49_keepFraction_78 : decode cX49_keepFraction 78 = .ok (.goto 5, 3) := by decide +kernel
theorem dX49_keepFraction_81 : decode cX49_keepFraction 81 = .ok (.bipush (-2), 2) := by decide +kernel
theorem dX49_keepFraction_83 : decode cX49_keepFraction 83 = .ok (.ireturn, 1) := by decide +kernel
abbrev cX49_keepSpan : ByteArray := prog_82_method_65_code
def yX49_keepSpan : MethodName := ⟨RX49, "keepSpan", "(JJ)I"⟩
theorem dX49_keepSpan_0 : decode cX49_keepSpan 0 = .ok (.lload_n 1, 1) := by decide +kernel
theorem dX49_keepSpan_1 : decode cX49_keepSpan 1 = .ok (.ldc2_w 299, 3) := by decide +kernel
theorem dX49_keepSpan_4 : decode cX49_keepSpan 4 = .ok (.lcmp, 1) := by decide +kernel
theorem dX49_keepSpan_5 : decode cX49_keepSpan 5 = .ok (.ifCond .le 27, 3) := by decide +kernel
theorem dX49_keepSpan_8 : decode cX49_keepSpan 8 = .ok (.lload_n 1, 1) := by decide +kernel
theorem dX49_keepSpan_9 : decode cX49_keepSpan 9 = .ok (.ldc2_w 301, 3) := by decide +kernel
theorem dX49_keepSpan_12 : decode cX49_keepSpan 12 = .ok (.lcmp, 1) := by decide +kernel
theorem dX49_keepSpan_13 : decode cX49_keepSpan 13 = .ok (.ifCond .ge 19, 3) := by decide +kernel
theorem dX49_keepSpan_16 : decode cX49_keepSpan 16 = .ok (.lload_n 3, 1) := by decide +kernel
theorem dX49_keepSpan_17 : decode cX49_keepSpan 17 = .ok (.ldc2_w 306, 3) := by decide +kernel
theorem dX49_keepSpan_20 : decode cX49_keepSpan 20 = .ok (.lcmp, 1) := by decide +kernel
theorem dX49_keepSpan_21 : decode cX49_keepSpan 21 = .ok (.ifCond .le 11, 3) := by decide +kernel
theorem dX49_keepSpan_24 : decode cX49_keepSpan 24 = .ok (.lload_n 3, 1) := by decide +kernel
theorem dX49_keepSpan_25 : decode cX49_keepSpan 25 = .ok (.ldc2_w 308, 3) := by decide +kernel
theorem dX49_keepSpan_28 : decode cX49_keepSpan 28 = .ok (.lcmp, 1) := by decide +kernel
theorem dX49_keepSpan_29 : decode cX49_keepSpan 29 = .ok (.ifCond .lt 6, 3) := by decide +kernel
theorem dX49_keepSpan_32 : decode cX49_keepSpan 32 = .ok (.bipush (-2), 2) := by decide +kernel
theorem dX49_keepSpan_34 : decode cX49_keepSpan 34 = .ok (.ireturn, 1) := by decide +kernel
theorem dX49_keepSpan_35 : decode cX49_keepSpan 35 = .ok (.aload_n 0, 1) := by decide +kernel
theorem dX49_keepSpan_36 : decode cX49_keepSpan 36 = .ok (.lload_n 1, 1) := by decide +kernel
theorem dX49_keepSpan_37 : decode cX49_keepSpan 37 = .ok (.putfield 125, 3) := by decide +kernel
theorem dX49_keepSpan_40 : decode cX49_keepSpan 40 = .ok (.aload_n 0, 1) := by decide +kernel
theorem dX49_keepSpan_41 : decode cX49_keepSpan 41 = .ok (.lload_n 3, 1) := by decide +kernel
theorem dX49_keepSpan_42 : decode cX49_keepSpan 42 = .ok (.putfield 132, 3) := by decide +kernel
theorem dX49_keepSpan_45 : decode cX49_keepSpan 45 = .ok (.aload_n 0, 1) := by decide +kernel
theorem dX49_keepSpan_46 : decode cX49_keepSpan 46 = .ok (.iconst 0, 1) := by decide +kernel
theorem dX49_keepSpan_47 : decode cX49_keepSpan 47 = .ok (.putfield 187, 3) := by decide +kernel
theorem dX49_keepSpan_50 : decode cX49_keepSpan 50 = .ok (.aload_n 0, 1) := by decide +kernel
theorem dX49_keepSpan_51 : decode cX49_keepSpan 51 = .ok (.bipush 6, 2) := by decide +kernel
theorem dX49_keepSpan_53 : decode cX49_keepSpan 53 = .ok (.invokevirtual 217, 3) := by decide +kernel
theorem dX49_keepSpan_56 : decode cX49_keepSpan 56 = .ok (.ireturn, 1) := by decide +kernel
abbrev cX49_add : ByteArray := prog_82_method_66_code
def yX49_add : MethodName := ⟨RX49, "add", "(II)I"⟩
theorem dX49_add_0 : decode cX49_add 0 = .ok (.aload_n 0, 1) := by decide +kernel
theorem dX49_add_1 : decode cX49_add 1 = .ok (.getfield 7, 3) := by decide +kernel
theorem dX49_add_4 : decode cX49_add 4 = .ok (.iload_n 1, 1) := by decide +kernel
theorem dX49_add_5 : decode cX49_add 5 = .ok (.iaload, 1) := by decide +kernel
theorem dX49_add_6 : decode cX49_add 6 = .ok (.iconst 4, 1) := by decide +kernel
theorem dX49_add_7 : decode cX49_add 7 = .ok (.if_icmp .ne 22, 3) := by decide +kernel
theorem dX49_add_10 : decode cX49_add 10 = .ok (.ldc2_w 83, 3) := by decide +kernel
theorem dX49_add_13 : decode cX49_add 13 = .ok (.aload_n 0, 1) := by decide +kernel
theorem dX49_add_14 : decode cX49_add 14 = .ok (.getfield 17, 3) := by decide +kernel
theorem dX49_add_17 : decode cX49_add 17 = .ok (.iload_n 2, 1) := by decide +kernel
theorem dX49_add_18 : decode cX49_add 18 = .ok (.laload, 1) := by decide +kernel
theorem dX49_add_19 : decode cX49_add 19 = .ok (.ldc2_w 83, 3) := by decide +kernel
theorem dX49_add_22 : decode cX49_add 22 = .ok (.invokestatic 40, 3) := by decide +kernel
theorem dX49_add_25 : decode cX49_add 25 = .ok (.lmul, 1) := by decide +kernel
theorem dX49_add_26 : decode cX49_add 26 = .ok (.goto 9, 3) := by decide +kernel
theorem dX49_add_29 : decode cX49_add 29 = .ok (.aload_n 0, 1) := by decide +kernel
theorem dX49_add_30 : decode cX49_add 30 = .ok (.getfield 17, 3) := by decide +kernel
theorem dX49_add_33 : decode cX49_add 33 = .ok (.iload_n 2, 1) := by decide +kernel
theorem dX49_add_34 : decode cX49_add 34 = .ok (.laload, 1) := by decide +kernel
theorem dX49_add_35 : decode cX49_add 35 = .ok (.lstore_n 3, 1) := by decide +kernel
theorem dX49_add_36 : decode cX49_add 36 = .ok (.aload_n 0, 1) := by decide +kernel
theorem dX49_add_37 : decode cX49_add 37 = .ok (.aload_n 0, 1) := by decide +kernel
theorem dX49_add_38 : decode cX49_add 38 = .ok (.getfield 13, 3) := by decide +kernel
theorem dX49_add_41 : decode cX49_add 41 = .ok (.iload_n 1, 1) := by decide +kernel
theorem dX49_add_42 : decode cX49_add 42 = .ok (.laload, 1) := by decide +kernel
theorem dX49_add_43 : decode cX49_add 43 = .ok (.aload_n 0, 1) := by decide +kernel
theorem dX49_add_44 : decode cX49_add 44 = .ok (.getfield 13, 3) := by decide +kernel
theorem dX49_add_47 : decode cX49_add 47 = .ok (.iload_n 2, 1) := by decide +kernel
theorem dX49_add_48 : decode cX49_add 48 = .ok (.laload, 1) := by decide +kernel
theorem dX49_add_49 : decode cX49_add 49 = .ok (.lload_n 3, 1) := by decide +kernel
theorem dX49_add_50 : decode cX49_add 50 = .ok (.invokevirtual 248, 3) := by decide +kernel
theorem dX49_add_53 : decode cX49_add 53 = .ok (.lstore 5, 2) := by decide +kernel
theorem dX49_add_55 : decode cX49_add 55 = .ok (.lload 5, 2) := by decide +kernel
theorem dX49_add_57 : decode cX49_add 57 = .ok (.ldc2_w 83, 3) := by decide +kernel
theorem dX49_add_60 : decode cX49_add 60 = .ok (.lconst 1, 1) := by decide +kernel
theorem dX49_add_61 : decode cX49_add 61 = .ok (.iconst 1, 1) := by decide +kernel
theorem dX49_add_62 : decode cX49_add 62 = .ok (.iconst 1, 1) := by decide +kernel
theorem dX49_add_63 : decode cX49_add 63 = .ok (.invokestatic 91, 3) := by decide +kernel
theorem dX49_add_66 : decode cX49_add 66 = .ok (.lmul, 1) := by decide +kernel
theorem dX49_add_67 : decode cX49_add 67 = .ok (.lcmp, 1) := by decide +kernel
theorem dX49_add_68 : decode cX49_add 68 = .ok (.ifCond .lt 21, 3) := by decide +kernel
theorem dX49_add_71 : decode cX49_add 71 = .ok (.lload 5, 2) := by decide +kernel
theorem dX49_add_73 : decode cX49_add 73 = .ok (.ldc2_w 83, 3) := by decide +kernel
theorem dX49_add_76 : decode cX49_add 76 = .ok (.ldc2_w 230, 3) := by decide +kernel
theorem dX49_add_79 : decode cX49_add 79 = .ok (.iconst 1, 1) := by decide +kernel
theorem dX49_add_80 : decode cX49_add 80 = .ok (.iconst 1, 1) := by decide +kernel
theorem dX49_add_81 : decode cX49_add 81 = .ok (.invokestatic 91, 3) := by decide +kernel
theorem dX49_add_84 : decode cX49_add 84 = .ok (.lmul, 1) := by decide +kernel
theorem dX49_add_85 : decode cX49_add 85 = .ok (.lcmp, 1) := by decide +kernel
theorem dX49_add_86 : decode cX49_add 86 = .ok (.ifCond .lt 6, 3) := by decide +kernel
theorem dX49_add_89 : decode cX49_add 89 = .ok (.bipush (-2), 2) := by decide +kernel
theorem dX49_add_91 : decode cX49_add 91 = .ok (.ireturn, 1) := by decide +kernel
theorem dX49_add_92 : decode cX49_add 92 = .ok (.aload_n 0, 1) := by decide +kernel
theorem dX49_add_93 : decode cX49_add 93 = .ok (.lload 5, 2) := by decide +kernel
theorem dX49_add_95 : decode cX49_add 95 = .ok (.putfield 125, 3) := by decide +kernel
theorem dX49_add_98 : decode cX49_add 98 = .ok (.aload_n 0, 1) := by decide +kernel
theorem dX49_add_99 : decode cX49_add 99 = .ok (.aload_n 0, 1) := by decide +kernel
theorem dX49_add_100 : decode cX49_add 100 = .ok (.getfield 17, 3) := by decide +kernel
theorem dX49_add_103 : decode cX49_add 103 = .ok (.iload_n 1, 1) := by decide +kernel
theorem dX49_add_104 : decode cX49_add 104 = .ok (.laload, 1) := by decide +kernel
theorem dX49_add_105 : decode cX49_add 105 = .ok (.putfield 132, 3) := by decide +kernel
theorem dX49_add_108 : decode cX49_add 108 = .ok (.aload_n 0, 1) := by decide +kernel
theorem dX49_add_109 : decode cX49_add 109 = .ok (.iconst 0, 1) := by decide +kernel
theorem dX49_add_110 : decode cX49_add 110 = .ok (.putfield 187, 3) := by decide +kernel
theorem dX49_add_113 : decode cX49_add 113 = .ok (.aload_n 0, 1) := by decide +kernel
theorem dX49_add_114 : decode cX49_add 114 = .ok (.aload_n 0, 1) := by decide +kernel
theorem dX49_add_115 : decode cX49_add 115 = .ok (.getfield 7, 3) := by decide +kernel
theorem dX49_add_118 : decode cX49_add 118 = .ok (.iload_n 1, 1) := by decide +kernel
theorem dX49_add_119 : decode cX49_add 119 = .ok (.iaload, 1) := by decide +kernel
theorem dX49_add_120 : decode cX49_add 120 = .ok (.invokevirtual 217, 3) := by decide +kernel
theorem dX49_add_123 : decode cX49_add 123 = .ok (.ireturn, 1) := by decide +kernel
theorem in_X49 : ∀ w ∈ wsX490, w ∈ lw_all := lw_in wsX490 [6181, 6183, 6185, 6187, 6189, 6191, 6193, 6195, 6197, 6199, 6201, 6203, 6205, 6207, 6209, 6211, 6213, 6215, 6217, 6219, 6221] (by decide +kernel) (by decide +kernel)
theorem q544 : (Jvm.Cond.initialized "KnowHouseModel$DatatypeValuesModel") ∈ lw_all := lw_g (lw_at lw_m1 66 rfl) rfl
theorem q6160 : (Jvm.Cond.fieldLink "KnowHouseModel$DatatypeValuesModel" (7 : Nat) "KnowHouseModel$DatatypeValuesModel" "kinds" "[I") ∈ lw_all := lw_g (lw_at lw_m24 162 rfl) rfl
theorem q6161 : (Jvm.Cond.fieldLink "KnowHouseModel$DatatypeValuesModel" (13 : Nat) "KnowHouseModel$DatatypeValuesModel" "ones" "[J") ∈ lw_all := lw_g (lw_at lw_m24 163 rfl) rfl
theorem q6162 : (Jvm.Cond.fieldLink "KnowHouseModel$DatatypeValuesModel" (17 : Nat) "KnowHouseModel$DatatypeValuesModel" "twos" "[J") ∈ lw_all := lw_g (lw_at lw_m24 164 rfl) rfl
theorem q6163 : (Jvm.Cond.fieldLink "KnowHouseModel$DatatypeValuesModel" (20 : Nat) "KnowHouseModel$DatatypeValuesModel" "bytes" "[I") ∈ lw_all := lw_g (lw_at lw_m24 165 rfl) rfl
theorem q6164 : (Jvm.Cond.fieldLink "KnowHouseModel$DatatypeValuesModel" (221 : Nat) "KnowHouseModel$DatatypeValuesModel" "count" "I") ∈ lw_all := lw_g (lw_at lw_m24 166 rfl) rfl
theorem q6165 : (Jvm.Cond.fieldLink "KnowHouseModel$DatatypeValuesModel" (23 : Nat) "KnowHouseModel$DatatypeValuesModel" "tape" "[B") ∈ lw_all := lw_g (lw_at lw_m24 167 rfl) rfl
theorem q6166 : (Jvm.Cond.fieldLink "KnowHouseModel$DatatypeValuesModel" (37 : Nat) "KnowHouseModel$DatatypeValuesModel" "size" "I") ∈ lw_all := lw_g (lw_at lw_m24 168 rfl) rfl
theorem q6167 : (Jvm.Cond.fieldLink "KnowHouseModel$DatatypeValuesModel" (95 : Nat) "KnowHouseModel$DatatypeValuesModel" "at" "I") ∈ lw_all := lw_g (lw_at lw_m24 169 rfl) rfl
theorem q6168 : (Jvm.Cond.fieldLink "KnowHouseModel$DatatypeValuesModel" (102 : Nat) "KnowHouseModel$DatatypeValuesModel" "fault" "I") ∈ lw_all := lw_g (lw_at lw_m24 170 rfl) rfl
theorem q6169 : (Jvm.Cond.fieldLink "KnowHouseModel$DatatypeValuesModel" (125 : Nat) "KnowHouseModel$DatatypeValuesModel" "one" "J") ∈ lw_all := lw_g (lw_at lw_m24 171 rfl) rfl
theorem q6170 : (Jvm.Cond.fieldLink "KnowHouseModel$DatatypeValuesModel" (132 : Nat) "KnowHouseModel$DatatypeValuesModel" "two" "J") ∈ lw_all := lw_g (lw_at lw_m24 172 rfl) rfl
theorem q6171 : (Jvm.Cond.fieldLink "KnowHouseModel$DatatypeValuesModel" (27 : Nat) "KnowHouseModel$DatatypeValuesModel" "row" "[I") ∈ lw_all := lw_g (lw_at lw_m24 173 rfl) rfl
theorem q6172 : (Jvm.Cond.fieldLink "KnowHouseModel$DatatypeValuesModel" (187 : Nat) "KnowHouseModel$DatatypeValuesModel" "rowSize" "I") ∈ lw_all := lw_g (lw_at lw_m24 174 rfl) rfl
theorem q6173 : (Jvm.Cond.fieldLink "KnowHouseModel$DatatypeValuesModel" (30 : Nat) "KnowHouseModel$DatatypeValuesModel" "out" "[I") ∈ lw_all := lw_g (lw_at lw_m24 175 rfl) rfl
theorem q6174 : (Jvm.Cond.fieldLink "KnowHouseModel$DatatypeValuesModel" (261 : Nat) "KnowHouseModel$DatatypeValuesModel" "outSize" "I") ∈ lw_all := lw_g (lw_at lw_m24 176 rfl) rfl
theorem q6175 : (Jvm.Cond.fieldLink "KnowHouseModel$DatatypeValuesModel" (33 : Nat) "KnowHouseModel$DatatypeValuesModel" "thrown" "I") ∈ lw_all := lw_g (lw_at lw_m24 177 rfl) rfl
theorem q6176 : (Jvm.Cond.fieldLink "KnowHouseModel$DatatypeValuesModel" (73 : Nat) "KnowHouseModel$DatatypeValuesModel" "year" "J") ∈ lw_all := lw_g (lw_at lw_m24 178 rfl) rfl
theorem q6177 : (Jvm.Cond.fieldLink "KnowHouseModel$DatatypeValuesModel" (77 : Nat) "KnowHouseModel$DatatypeValuesModel" "month" "I") ∈ lw_all := lw_g (lw_at lw_m24 179 rfl) rfl
theorem q6178 : (Jvm.Cond.fieldLink "KnowHouseModel$DatatypeValuesModel" (80 : Nat) "KnowHouseModel$DatatypeValuesModel" "dayOfMonth" "I") ∈ lw_all := lw_g (lw_at lw_m24 180 rfl) rfl
theorem q6179 : (Jvm.Cond.fieldLink "KnowHouseModel$DatatypeValuesModel" (173 : Nat) "KnowHouseModel$DatatypeValuesModel" "spanMonths" "J") ∈ lw_all := lw_g (lw_at lw_m24 181 rfl) rfl
theorem q6180 : (Jvm.Cond.fieldLink "KnowHouseModel$DatatypeValuesModel" (176 : Nat) "KnowHouseModel$DatatypeValuesModel" "spanMillis" "J") ∈ lw_all := lw_g (lw_at lw_m24 182 rfl) rfl
theorem q8054 : (Jvm.Cond.methodLink "KnowHouseModel$DatatypeValuesModel" (214 : Nat) ({ cls := "KnowHouseModel$DatatypeValuesModel", name := "readAs", desc := "(I)V" } : Jvm.MethodName)) ∈ lw_all := lw_g (lw_at lw_m32 136 rfl) rfl
theorem q8056 : (Jvm.Cond.instanceMethod ({ cls := "KnowHouseModel$DatatypeValuesModel", name := "readAs", desc := "(I)V" } : Jvm.MethodName)) ∈ lw_all := lw_g (lw_at lw_m32 138 rfl) rfl
theorem q8057 : (Jvm.Cond.code ({ cls := "KnowHouseModel$DatatypeValuesModel", name := "readAs", desc := "(I)V" } : Jvm.MethodName) prog_82_method_34_code (2 : Nat) (Option.none : Option Jvm.ClassFile.FieldType)) ∈ lw_all := lw_g (lw_at lw_m32 139 rfl) rfl
theorem q8058 : (Jvm.Cond.methodLink "KnowHouseModel$DatatypeValuesModel" (196 : Nat) ({ cls := "KnowHouseModel$DatatypeValuesModel", name := "truth", desc := "()V" } : Jvm.MethodName)) ∈ lw_all := lw_g (lw_at lw_m32 140 rfl) rfl
theorem q8060 : (Jvm.Cond.instanceMethod ({ cls := "KnowHouseModel$DatatypeValuesModel", name := "truth", desc := "()V" } : Jvm.MethodName)) ∈ lw_all := lw_g (lw_at lw_m32 142 rfl) rfl
theorem q8061 : (Jvm.Cond.code ({ cls := "KnowHouseModel$DatatypeValuesModel", name := "truth", desc := "()V" } : Jvm.MethodName) prog_82_method_22_code (4 : Nat) (Option.none : Option Jvm.ClassFile.FieldType)) ∈ lw_all := lw_g (lw_at lw_m32 143 rfl) rfl
theorem q8062 : (Jvm.Cond.methodLink "KnowHouseModel$DatatypeValuesModel" (109 : Nat) ({ cls := "KnowHouseModel$DatatypeValuesModel", name := "takes", desc := "(I)Z" } : Jvm.MethodName)) ∈ lw_all := lw_g (lw_at lw_m32 144 rfl) rfl
theorem q8064 : (Jvm.Cond.instanceMethod ({ cls := "KnowHouseModel$DatatypeValuesModel", name := "takes", desc := "(I)Z" } : Jvm.MethodName)) ∈ lw_all := lw_g (lw_at lw_m32 146 rfl) rfl
theorem q8065 : (Jvm.Cond.code ({ cls := "KnowHouseModel$DatatypeValuesModel", name := "takes", desc := "(I)Z" } : Jvm.MethodName) prog_82_method_16_code (3 : Nat) (Option.some Jvm.ClassFile.FieldType.boolean)) ∈ lw_all := lw_g (lw_at lw_m32 147 rfl) rfl
theorem q8066 : (Jvm.Cond.methodLink "KnowHouseModel$DatatypeValuesModel" (98 : Nat) ({ cls := "KnowHouseModel$DatatypeValuesModel", name := "here", desc := "()I" } : Jvm.MethodName)) ∈ lw_all := lw_g (lw_at lw_m32 148 rfl) rfl
theorem q8068 : (Jvm.Cond.instanceMethod ({ cls := "KnowHouseModel$DatatypeValuesModel", name := "here", desc := "()I" } : Jvm.MethodName)) ∈ lw_all := lw_g (lw_at lw_m32 150 rfl) rfl
theorem q8069 : (Jvm.Cond.code ({ cls := "KnowHouseModel$DatatypeValuesModel", name := "here", desc := "()I" } : Jvm.MethodName) prog_82_method_12_code (1 : Nat) (Option.some Jvm.ClassFile.FieldType.int)) ∈ lw_all := lw_g (lw_at lw_m32 151 rfl) rfl
theorem q8070 : (Jvm.Cond.constantLong "KnowHouseModel$DatatypeValuesModel" (141 : Nat) (1953658213 : Int64)) ∈ lw_all := lw_g (lw_at lw_m32 152 rfl) rfl
theorem q8071 : (Jvm.Cond.constantLong "KnowHouseModel$DatatypeValuesModel" (143 : Nat) (439721161573 : Int64)) ∈ lw_all := lw_g (lw_at lw_m32 153 rfl) rfl
theorem q8072 : (Jvm.Cond.constantLong "KnowHouseModel$DatatypeValuesModel" (145 : Nat) (255 : Int64)) ∈ lw_all := lw_g (lw_at lw_m32 154 rfl) rfl
theorem q8073 : (Jvm.Cond.methodLink "KnowHouseModel$DatatypeValuesModel" (147 : Nat) ({ cls := "KnowHouseModel$DatatypeValuesModel", name := "want", desc := "(I)V" } : Jvm.MethodName)) ∈ lw_all := lw_g (lw_at lw_m32 155 rfl) rfl
theorem q8075 : (Jvm.Cond.instanceMethod ({ cls := "KnowHouseModel$DatatypeValuesModel", name := "want", desc := "(I)V" } : Jvm.MethodName)) ∈ lw_all := lw_g (lw_at lw_m32 157 rfl) rfl
theorem q8076 : (Jvm.Cond.code ({ cls := "KnowHouseModel$DatatypeValuesModel", name := "want", desc := "(I)V" } : Jvm.MethodName) prog_82_method_17_code (2 : Nat) (Option.none : Option Jvm.ClassFile.FieldType)) ∈ lw_all := lw_g (lw_at lw_m32 158 rfl) rfl
theorem q8077 : (Jvm.Cond.methodLink "KnowHouseModel$DatatypeValuesModel" (105 : Nat) ({ cls := "KnowHouseModel$DatatypeValuesModel", name := "need", desc := "(ZI)V" } : Jvm.MethodName)) ∈ lw_all := lw_g (lw_at lw_m32 159 rfl) rfl
theorem q8079 : (Jvm.Cond.instanceMethod ({ cls := "KnowHouseModel$DatatypeValuesModel", name := "need", desc := "(ZI)V" } : Jvm.MethodName)) ∈ lw_all := lw_g (lw_at lw_m32 161 rfl) rfl
theorem q8080 : (Jvm.Cond.code ({ cls := "KnowHouseModel$DatatypeValuesModel", name := "need", desc := "(ZI)V" } : Jvm.MethodName) prog_82_method_14_code (3 : Nat) (Option.none : Option Jvm.ClassFile.FieldType)) ∈ lw_all := lw_g (lw_at lw_m32 162 rfl) rfl
theorem q8081 : (Jvm.Cond.constantLong "KnowHouseModel$DatatypeValuesModel" (83 : Nat) (86400000 : Int64)) ∈ lw_all := lw_g (lw_at lw_m32 163 rfl) rfl
theorem q8082 : (Jvm.Cond.methodLink "KnowHouseModel$DatatypeValuesModel" (155 : Nat) ({ cls := "KnowHouseModel$DatatypeValuesModel", name := "day", desc := "()J" } : Jvm.MethodName)) ∈ lw_all := lw_g (lw_at lw_m32 164 rfl) rfl
theorem q8084 : (Jvm.Cond.instanceMethod ({ cls := "KnowHouseModel$DatatypeValuesModel", name := "day", desc := "()J" } : Jvm.MethodName)) ∈ lw_all := lw_g (lw_at lw_m32 166 rfl) rfl
theorem q8085 : (Jvm.Cond.code ({ cls := "KnowHouseModel$DatatypeValuesModel", name := "day", desc := "()J" } : Jvm.MethodName) prog_82_method_23_code (6 : Nat) (Option.some Jvm.ClassFile.FieldType.long)) ∈ lw_all := lw_g (lw_at lw_m32 167 rfl) rfl
theorem q8086 : (Jvm.Cond.methodLink "KnowHouseModel$DatatypeValuesModel" (121 : Nat) ({ cls := "KnowHouseModel$DatatypeValuesModel", name := "digits", desc := "(II)J" } : Jvm.MethodName)) ∈ lw_all := lw_g (lw_at lw_m32 168 rfl) rfl
theorem q8088 : (Jvm.Cond.instanceMethod ({ cls := "KnowHouseModel$DatatypeValuesModel", name := "digits", desc := "(II)J" } : Jvm.MethodName)) ∈ lw_all := lw_g (lw_at lw_m32 170 rfl) rfl
theorem q8089 : (Jvm.Cond.code ({ cls := "KnowHouseModel$DatatypeValuesModel", name := "digits", desc := "(II)J" } : Jvm.MethodName) prog_82_method_18_code (6 : Nat) (Option.some Jvm.ClassFile.FieldType.long)) ∈ lw_all := lw_g (lw_at lw_m32 171 rfl) rfl
theorem q8090 : (Jvm.Cond.methodLink "KnowHouseModel$DatatypeValuesModel" (113 : Nat) ({ cls := "KnowHouseModel$DatatypeValuesModel", name := "isDigit", desc := "()Z" } : Jvm.MethodName)) ∈ lw_all := lw_g (lw_at lw_m32 172 rfl) rfl
theorem q8092 : (Jvm.Cond.instanceMethod ({ cls := "KnowHouseModel$DatatypeValuesModel", name := "isDigit", desc := "()Z" } : Jvm.MethodName)) ∈ lw_all := lw_g (lw_at lw_m32 174 rfl) rfl
theorem q8093 : (Jvm.Cond.code ({ cls := "KnowHouseModel$DatatypeValuesModel", name := "isDigit", desc := "()Z" } : Jvm.MethodName) prog_82_method_13_code (1 : Nat) (Option.some Jvm.ClassFile.FieldType.boolean)) ∈ lw_all := lw_g (lw_at lw_m32 175 rfl) rfl
theorem q8094 : (Jvm.Cond.constantLong "KnowHouseModel$DatatypeValuesModel" (117 : Nat) (10 : Int64)) ∈ lw_all := lw_g (lw_at lw_m32 176 rfl) rfl
theorem q8095 : (Jvm.Cond.constantLong "KnowHouseModel$DatatypeValuesModel" (119 : Nat) (48 : Int64)) ∈ lw_all := lw_g (lw_at lw_m32 177 rfl) rfl
theorem q8096 : (Jvm.Cond.methodLink "KnowHouseModel$DatatypeValuesModel" (151 : Nat) ({ cls := "KnowHouseModel$DatatypeValuesModel", name := "pair", desc := "(II)I" } : Jvm.MethodName)) ∈ lw_all := lw_g (lw_at lw_m32 178 rfl) rfl
theorem q8098 : (Jvm.Cond.instanceMethod ({ cls := "KnowHouseModel$DatatypeValuesModel", name := "pair", desc := "(II)I" } : Jvm.MethodName)) ∈ lw_all := lw_g (lw_at lw_m32 180 rfl) rfl
theorem q8099 : (Jvm.Cond.code ({ cls := "KnowHouseModel$DatatypeValuesModel", name := "pair", desc := "(II)I" } : Jvm.MethodName) prog_82_method_19_code (5 : Nat) (Option.some Jvm.ClassFile.FieldType.int)) ∈ lw_all := lw_g (lw_at lw_m32 181 rfl) rfl
theorem q8100 : (Jvm.Cond.methodLink "KnowHouseModel$DatatypeValuesModel" (135 : Nat) ({ cls := "KnowHouseModel$DatatypeValuesModel", name := "goesOn", desc := "()Z" } : Jvm.MethodName)) ∈ lw_all := lw_g (lw_at lw_m32 182 rfl) rfl
theorem q8102 : (Jvm.Cond.instanceMethod ({ cls := "KnowHouseModel$DatatypeValuesModel", name := "goesOn", desc := "()Z" } : Jvm.MethodName)) ∈ lw_all := lw_g (lw_at lw_m32 184 rfl) rfl
theorem q8103 : (Jvm.Cond.code ({ cls := "KnowHouseModel$DatatypeValuesModel", name := "goesOn", desc := "()Z" } : Jvm.MethodName) prog_82_method_15_code (1 : Nat) (Option.some Jvm.ClassFile.FieldType.boolean)) ∈ lw_all := lw_g (lw_at lw_m32 185 rfl) rfl
theorem q8104 : (Jvm.Cond.methodLink "KnowHouseModel$DatatypeValuesModel" (63 : Nat) ({ cls := "KnowHouseModel$DatatypeValuesModel", name := "lengthOf", desc := "(JI)I" } : Jvm.MethodName)) ∈ lw_all := lw_g (lw_at lw_m32 186 rfl) rfl
theorem q8105 : (Jvm.Cond.static ({ cls := "KnowHouseModel$DatatypeValuesModel", name := "lengthOf", desc := "(JI)I" } : Jvm.MethodName)) ∈ lw_all := lw_g (lw_at lw_m32 187 rfl) rfl
theorem q8106 : (Jvm.Cond.code ({ cls := "KnowHouseModel$DatatypeValuesModel", name := "lengthOf", desc := "(JI)I" } : Jvm.MethodName) prog_82_method_7_code (3 : Nat) (Option.some Jvm.ClassFile.FieldType.int)) ∈ lw_all := lw_g (lw_at lw_m32 188 rfl) rfl
theorem q8107 : (Jvm.Cond.methodLink "KnowHouseModel$DatatypeValuesModel" (53 : Nat) ({ cls := "KnowHouseModel$DatatypeValuesModel", name := "isLong", desc := "(J)Z" } : Jvm.MethodName)) ∈ lw_all := lw_g (lw_at lw_m32 189 rfl) rfl
theorem q8108 : (Jvm.Cond.static ({ cls := "KnowHouseModel$DatatypeValuesModel", name := "isLong", desc := "(J)Z" } : Jvm.MethodName)) ∈ lw_all := lw_g (lw_at lw_m32 190 rfl) rfl
theorem q8109 : (Jvm.Cond.code ({ cls := "KnowHouseModel$DatatypeValuesModel", name := "isLong", desc := "(J)Z" } : Jvm.MethodName) prog_82_method_6_code (2 : Nat) (Option.some Jvm.ClassFile.FieldType.boolean)) ∈ lw_all := lw_g (lw_at lw_m32 191 rfl) rfl
theorem q8110 : (Jvm.Cond.constantLong "KnowHouseModel$DatatypeValuesModel" (44 : Nat) (4 : Int64)) ∈ lw_all := lw_g (lw_at lw_m32 192 rfl) rfl
theorem q8111 : (Jvm.Cond.methodLink "KnowHouseModel$DatatypeValuesModel" (46 : Nat) ({ cls := "KnowHouseModel$DatatypeValuesModel", name := "rest", desc := "(JJ)J" } : Jvm.MethodName)) ∈ lw_all := lw_g (lw_at lw_m32 193 rfl) rfl
theorem q8112 : (Jvm.Cond.static ({ cls := "KnowHouseModel$DatatypeValuesModel", name := "rest", desc := "(JJ)J" } : Jvm.MethodName)) ∈ lw_all := lw_g (lw_at lw_m32 194 rfl) rfl
theorem q8113 : (Jvm.Cond.code ({ cls := "KnowHouseModel$DatatypeValuesModel", name := "rest", desc := "(JJ)J" } : Jvm.MethodName) prog_82_method_5_code (4 : Nat) (Option.some Jvm.ClassFile.FieldType.long)) ∈ lw_all := lw_g (lw_at lw_m32 195 rfl) rfl
theorem q8114 : (Jvm.Cond.methodLink "KnowHouseModel$DatatypeValuesModel" (40 : Nat) ({ cls := "KnowHouseModel$DatatypeValuesModel", name := "down", desc := "(JJ)J" } : Jvm.MethodName)) ∈ lw_all := lw_g (lw_at lw_m32 196 rfl) rfl
theorem q8115 : (Jvm.Cond.static ({ cls := "KnowHouseModel$DatatypeValuesModel", name := "down", desc := "(JJ)J" } : Jvm.MethodName)) ∈ lw_all := lw_g (lw_at lw_m32 197 rfl) rfl
theorem q8116 : (Jvm.Cond.code ({ cls := "KnowHouseModel$DatatypeValuesModel", name := "down", desc := "(JJ)J" } : Jvm.MethodName) prog_82_method_4_code (4 : Nat) (Option.some Jvm.ClassFile.FieldType.long)) ∈ lw_all := lw_g (lw_at lw_m32 198 rfl) rfl
theorem q8117 : (Jvm.Cond.constantLong "KnowHouseModel$DatatypeValuesModel" (49 : Nat) (100 : Int64)) ∈ lw_all := lw_g (lw_at lw_m32 199 rfl) rfl
theorem q8118 : (Jvm.Cond.constantLong "KnowHouseModel$DatatypeValuesModel" (51 : Nat) (400 : Int64)) ∈ lw_all := lw_g (lw_at lw_m32 200 rfl) rfl
theorem q8119 : (Jvm.Cond.methodLink "KnowHouseModel$DatatypeValuesModel" (91 : Nat) ({ cls := "KnowHouseModel$DatatypeValuesModel", name := "dayOf", desc := "(JII)J" } : Jvm.MethodName)) ∈ lw_all := lw_g (lw_at lw_m32 201 rfl) rfl
theorem q8120 : (Jvm.Cond.static ({ cls := "KnowHouseModel$DatatypeValuesModel", name := "dayOf", desc := "(JII)J" } : Jvm.MethodName)) ∈ lw_all := lw_g (lw_at lw_m32 202 rfl) rfl
theorem q8121 : (Jvm.Cond.code ({ cls := "KnowHouseModel$DatatypeValuesModel", name := "dayOf", desc := "(JII)J" } : Jvm.MethodName) prog_82_method_9_code (4 : Nat) (Option.some Jvm.ClassFile.FieldType.long)) ∈ lw_all := lw_g (lw_at lw_m32 203 rfl) rfl
theorem q8122 : (Jvm.Cond.methodLink "KnowHouseModel$DatatypeValuesModel" (67 : Nat) ({ cls := "KnowHouseModel$DatatypeValuesModel", name := "before", desc := "(JI)J" } : Jvm.MethodName)) ∈ lw_all := lw_g (lw_at lw_m32 204 rfl) rfl
theorem q8123 : (Jvm.Cond.static ({ cls := "KnowHouseModel$DatatypeValuesModel", name := "before", desc := "(JI)J" } : Jvm.MethodName)) ∈ lw_all := lw_g (lw_at lw_m32 205 rfl) rfl
theorem q8124 : (Jvm.Cond.code ({ cls := "KnowHouseModel$DatatypeValuesModel", name := "before", desc := "(JI)J" } : Jvm.MethodName) prog_82_method_8_code (9 : Nat) (Option.some Jvm.ClassFile.FieldType.long)) ∈ lw_all := lw_g (lw_at lw_m32 206 rfl) rfl
theorem q8125 : (Jvm.Cond.constantLong "KnowHouseModel$DatatypeValuesModel" (57 : Nat) (146097 : Int64)) ∈ lw_all := lw_g (lw_at lw_m32 207 rfl) rfl
theorem q8126 : (Jvm.Cond.constantLong "KnowHouseModel$DatatypeValuesModel" (59 : Nat) (366 : Int64)) ∈ lw_all := lw_g (lw_at lw_m32 208 rfl) rfl
theorem q8127 : (Jvm.Cond.constantLong "KnowHouseModel$DatatypeValuesModel" (61 : Nat) (365 : Int64)) ∈ lw_all := lw_g (lw_at lw_m32 209 rfl) rfl
theorem q8128 : (Jvm.Cond.constantLong "KnowHouseModel$DatatypeValuesModel" (71 : Nat) (1970 : Int64)) ∈ lw_all := lw_g (lw_at lw_m32 210 rfl) rfl
theorem q8129 : (Jvm.Cond.methodLink "KnowHouseModel$DatatypeValuesModel" (170 : Nat) ({ cls := "KnowHouseModel$DatatypeValuesModel", name := "zone", desc := "()I" } : Jvm.MethodName)) ∈ lw_all := lw_g (lw_at lw_m32 211 rfl) rfl
theorem q8131 : (Jvm.Cond.instanceMethod ({ cls := "KnowHouseModel$DatatypeValuesModel", name := "zone", desc := "()I" } : Jvm.MethodName)) ∈ lw_all := lw_g (lw_at lw_m32 213 rfl) rfl
theorem q8132 : (Jvm.Cond.code ({ cls := "KnowHouseModel$DatatypeValuesModel", name := "zone", desc := "()I" } : Jvm.MethodName) prog_82_method_24_code (4 : Nat) (Option.some Jvm.ClassFile.FieldType.int)) ∈ lw_all := lw_g (lw_at lw_m32 214 rfl) rfl
theorem q8133 : (Jvm.Cond.methodLink "KnowHouseModel$DatatypeValuesModel" (199 : Nat) ({ cls := "KnowHouseModel$DatatypeValuesModel", name := "instant", desc := "()V" } : Jvm.MethodName)) ∈ lw_all := lw_g (lw_at lw_m32 215 rfl) rfl
theorem q8135 : (Jvm.Cond.instanceMethod ({ cls := "KnowHouseModel$DatatypeValuesModel", name := "instant", desc := "()V" } : Jvm.MethodName)) ∈ lw_all := lw_g (lw_at lw_m32 217 rfl) rfl
theorem q8136 : (Jvm.Cond.code ({ cls := "KnowHouseModel$DatatypeValuesModel", name := "instant", desc := "()V" } : Jvm.MethodName) prog_82_method_26_code (9 : Nat) (Option.none : Option Jvm.ClassFile.FieldType)) ∈ lw_all := lw_g (lw_at lw_m32 218 rfl) rfl
theorem q8137 : (Jvm.Cond.constantLong "KnowHouseModel$DatatypeValuesModel" (159 : Nat) (9999 : Int64)) ∈ lw_all := lw_g (lw_at lw_m32 219 rfl) rfl
theorem q8138 : (Jvm.Cond.constantLong "KnowHouseModel$DatatypeValuesModel" (161 : Nat) (1000 : Int64)) ∈ lw_all := lw_g (lw_at lw_m32 220 rfl) rfl
theorem q8139 : (Jvm.Cond.methodLink "KnowHouseModel$DatatypeValuesModel" (163 : Nat) ({ cls := "KnowHouseModel$DatatypeValuesModel", name := "thousandths", desc := "()J" } : Jvm.MethodName)) ∈ lw_all := lw_g (lw_at lw_m32 221 rfl) rfl
theorem q8141 : (Jvm.Cond.instanceMethod ({ cls := "KnowHouseModel$DatatypeValuesModel", name := "thousandths", desc := "()J" } : Jvm.MethodName)) ∈ lw_all := lw_g (lw_at lw_m32 223 rfl) rfl
theorem q8142 : (Jvm.Cond.code ({ cls := "KnowHouseModel$DatatypeValuesModel", name := "thousandths", desc := "()J" } : Jvm.MethodName) prog_82_method_25_code (5 : Nat) (Option.some Jvm.ClassFile.FieldType.long)) ∈ lw_all := lw_g (lw_at lw_m32 224 rfl) rfl
theorem q8143 : (Jvm.Cond.constantLong "KnowHouseModel$DatatypeValuesModel" (166 : Nat) (3600000 : Int64)) ∈ lw_all := lw_g (lw_at lw_m32 225 rfl) rfl
theorem q8144 : (Jvm.Cond.constantLong "KnowHouseModel$DatatypeValuesModel" (168 : Nat) (60000 : Int64)) ∈ lw_all := lw_g (lw_at lw_m32 226 rfl) rfl
theorem q8145 : (Jvm.Cond.methodLink "KnowHouseModel$DatatypeValuesModel" (202 : Nat) ({ cls := "KnowHouseModel$DatatypeValuesModel", name := "span", desc := "()V" } : Jvm.MethodName)) ∈ lw_all := lw_g (lw_at lw_m32 227 rfl) rfl
theorem q8147 : (Jvm.Cond.instanceMethod ({ cls := "KnowHouseModel$DatatypeValuesModel", name := "span", desc := "()V" } : Jvm.MethodName)) ∈ lw_all := lw_g (lw_at lw_m32 229 rfl) rfl
theorem q8148 : (Jvm.Cond.code ({ cls := "KnowHouseModel$DatatypeValuesModel", name := "span", desc := "()V" } : Jvm.MethodName) prog_82_method_28_code (7 : Nat) (Option.none : Option Jvm.ClassFile.FieldType)) ∈ lw_all := lw_g (lw_at lw_m32 230 rfl) rfl
theorem q8149 : (Jvm.Cond.constant "KnowHouseModel$DatatypeValuesModel" (179 : Nat) (5852484 : Int32)) ∈ lw_all := lw_g (lw_at lw_m32 231 rfl) rfl
theorem q8150 : (Jvm.Cond.methodLink "KnowHouseModel$DatatypeValuesModel" (180 : Nat) ({ cls := "KnowHouseModel$DatatypeValuesModel", name := "among", desc := "(II)I" } : Jvm.MethodName)) ∈ lw_all := lw_g (lw_at lw_m32 232 rfl) rfl
theorem q8152 : (Jvm.Cond.instanceMethod ({ cls := "KnowHouseModel$DatatypeValuesModel", name := "among", desc := "(II)I" } : Jvm.MethodName)) ∈ lw_all := lw_g (lw_at lw_m32 234 rfl) rfl
theorem q8153 : (Jvm.Cond.code ({ cls := "KnowHouseModel$DatatypeValuesModel", name := "among", desc := "(II)I" } : Jvm.MethodName) prog_82_method_27_code (4 : Nat) (Option.some Jvm.ClassFile.FieldType.int)) ∈ lw_all := lw_g (lw_at lw_m32 235 rfl) rfl
theorem q8154 : (Jvm.Cond.constantLong "KnowHouseModel$DatatypeValuesModel" (89 : Nat) (12 : Int64)) ∈ lw_all := lw_g (lw_at lw_m32 236 rfl) rfl
theorem q8155 : (Jvm.Cond.methodLink "KnowHouseModel$DatatypeValuesModel" (183 : Nat) ({ cls := "KnowHouseModel$DatatypeValuesModel", name := "clock", desc := "()V" } : Jvm.MethodName)) ∈ lw_all := lw_g (lw_at lw_m32 237 rfl) rfl
theorem q8157 : (Jvm.Cond.instanceMethod ({ cls := "KnowHouseModel$DatatypeValuesModel", name := "clock", desc := "()V" } : Jvm.MethodName)) ∈ lw_all := lw_g (lw_at lw_m32 239 rfl) rfl
theorem q8158 : (Jvm.Cond.code ({ cls := "KnowHouseModel$DatatypeValuesModel", name := "clock", desc := "()V" } : Jvm.MethodName) prog_82_method_29_code (6 : Nat) (Option.none : Option Jvm.ClassFile.FieldType)) ∈ lw_all := lw_g (lw_at lw_m33 0 rfl) rfl
theorem q8159 : (Jvm.Cond.constant "KnowHouseModel$DatatypeValuesModel" (186 : Nat) (4738387 : Int32)) ∈ lw_all := lw_g (lw_at lw_m33 1 rfl) rfl
theorem q8160 : (Jvm.Cond.methodLink "KnowHouseModel$DatatypeValuesModel" (205 : Nat) ({ cls := "KnowHouseModel$DatatypeValuesModel", name := "hex", desc := "()V" } : Jvm.MethodName)) ∈ lw_all := lw_g (lw_at lw_m33 2 rfl) rfl
theorem q8162 : (Jvm.Cond.instanceMethod ({ cls := "KnowHouseModel$DatatypeValuesModel", name := "hex", desc := "()V" } : Jvm.MethodName)) ∈ lw_all := lw_g (lw_at lw_m33 4 rfl) rfl
theorem q8163 : (Jvm.Cond.code ({ cls := "KnowHouseModel$DatatypeValuesModel", name := "hex", desc := "()V" } : Jvm.MethodName) prog_82_method_31_code (3 : Nat) (Option.none : Option Jvm.ClassFile.FieldType)) ∈ lw_all := lw_g (lw_at lw_m33 5 rfl) rfl
theorem q8164 : (Jvm.Cond.methodLink "KnowHouseModel$DatatypeValuesModel" (190 : Nat) ({ cls := "KnowHouseModel$DatatypeValuesModel", name := "hexDigit", desc := "()I" } : Jvm.MethodName)) ∈ lw_all := lw_g (lw_at lw_m33 6 rfl) rfl
theorem q8166 : (Jvm.Cond.instanceMethod ({ cls := "KnowHouseModel$DatatypeValuesModel", name := "hexDigit", desc := "()I" } : Jvm.MethodName)) ∈ lw_all := lw_g (lw_at lw_m33 8 rfl) rfl
theorem q8167 : (Jvm.Cond.code ({ cls := "KnowHouseModel$DatatypeValuesModel", name := "hexDigit", desc := "()I" } : Jvm.MethodName) prog_82_method_30_code (3 : Nat) (Option.some Jvm.ClassFile.FieldType.int)) ∈ lw_all := lw_g (lw_at lw_m33 9 rfl) rfl
theorem q8168 : (Jvm.Cond.methodLink "KnowHouseModel$DatatypeValuesModel" (208 : Nat) ({ cls := "KnowHouseModel$DatatypeValuesModel", name := "base", desc := "()V" } : Jvm.MethodName)) ∈ lw_all := lw_g (lw_at lw_m33 10 rfl) rfl
theorem q8170 : (Jvm.Cond.instanceMethod ({ cls := "KnowHouseModel$DatatypeValuesModel", name := "base", desc := "()V" } : Jvm.MethodName)) ∈ lw_all := lw_g (lw_at lw_m33 12 rfl) rfl
theorem q8171 : (Jvm.Cond.code ({ cls := "KnowHouseModel$DatatypeValuesModel", name := "base", desc := "()V" } : Jvm.MethodName) prog_82_method_33_code (6 : Nat) (Option.none : Option Jvm.ClassFile.FieldType)) ∈ lw_all := lw_g (lw_at lw_m33 13 rfl) rfl
theorem q8172 : (Jvm.Cond.methodLink "KnowHouseModel$DatatypeValuesModel" (193 : Nat) ({ cls := "KnowHouseModel$DatatypeValuesModel", name := "sixBits", desc := "()I" } : Jvm.MethodName)) ∈ lw_all := lw_g (lw_at lw_m33 14 rfl) rfl
theorem q8174 : (Jvm.Cond.instanceMethod ({ cls := "KnowHouseModel$DatatypeValuesModel", name := "sixBits", desc := "()I" } : Jvm.MethodName)) ∈ lw_all := lw_g (lw_at lw_m33 16 rfl) rfl
theorem q8175 : (Jvm.Cond.code ({ cls := "KnowHouseModel$DatatypeValuesModel", name := "sixBits", desc := "()I" } : Jvm.MethodName) prog_82_method_32_code (3 : Nat) (Option.some Jvm.ClassFile.FieldType.int)) ∈ lw_all := lw_g (lw_at lw_m33 17 rfl) rfl
theorem q8176 : (Jvm.Cond.methodLink "KnowHouseModel$DatatypeValuesModel" (211 : Nat) ({ cls := "KnowHouseModel$DatatypeValuesModel", name := "number", desc := "(I)V" } : Jvm.MethodName)) ∈ lw_all := lw_g (lw_at lw_m33 18 rfl) rfl
theorem q8178 : (Jvm.Cond.instanceMethod ({ cls := "KnowHouseModel$DatatypeValuesModel", name := "number", desc := "(I)V" } : Jvm.MethodName)) ∈ lw_all := lw_g (lw_at lw_m33 20 rfl) rfl
theorem q8179 : (Jvm.Cond.code ({ cls := "KnowHouseModel$DatatypeValuesModel", name := "number", desc := "(I)V" } : Jvm.MethodName) prog_82_method_21_code (6 : Nat) (Option.none : Option Jvm.ClassFile.FieldType)) ∈ lw_all := lw_g (lw_at lw_m33 21 rfl) rfl
theorem q8180 : (Jvm.Cond.constantLong "KnowHouseModel$DatatypeValuesModel" (128 : Nat) (-129 : Int64)) ∈ lw_all := lw_g (lw_at lw_m33 22 rfl) rfl
theorem q8181 : (Jvm.Cond.constantLong "KnowHouseModel$DatatypeValuesModel" (130 : Nat) (128 : Int64)) ∈ lw_all := lw_g (lw_at lw_m33 23 rfl) rfl
theorem q8182 : (Jvm.Cond.methodLink "KnowHouseModel$DatatypeValuesModel" (138 : Nat) ({ cls := "KnowHouseModel$DatatypeValuesModel", name := "divisor", desc := "(JJ)J" } : Jvm.MethodName)) ∈ lw_all := lw_g (lw_at lw_m33 24 rfl) rfl
theorem q8183 : (Jvm.Cond.static ({ cls := "KnowHouseModel$DatatypeValuesModel", name := "divisor", desc := "(JJ)J" } : Jvm.MethodName)) ∈ lw_all := lw_g (lw_at lw_m33 25 rfl) rfl
theorem q8184 : (Jvm.Cond.code ({ cls := "KnowHouseModel$DatatypeValuesModel", name := "divisor", desc := "(JJ)J" } : Jvm.MethodName) prog_82_method_20_code (10 : Nat) (Option.some Jvm.ClassFile.FieldType.long)) ∈ lw_all := lw_g (lw_at lw_m33 26 rfl) rfl
theorem q8185 : (Jvm.Cond.methodLink "KnowHouseModel$DatatypeValuesModel" (217 : Nat) ({ cls := "KnowHouseModel$DatatypeValuesModel", name := "keep", desc := "(I)I" } : Jvm.MethodName)) ∈ lw_all := lw_g (lw_at lw_m33 27 rfl) rfl
theorem q8187 : (Jvm.Cond.instanceMethod ({ cls := "KnowHouseModel$DatatypeValuesModel", name := "keep", desc := "(I)I" } : Jvm.MethodName)) ∈ lw_all := lw_g (lw_at lw_m33 29 rfl) rfl
theorem q8188 : (Jvm.Cond.code ({ cls := "KnowHouseModel$DatatypeValuesModel", name := "keep", desc := "(I)I" } : Jvm.MethodName) prog_82_method_36_code (3 : Nat) (Option.some Jvm.ClassFile.FieldType.int)) ∈ lw_all := lw_g (lw_at lw_m33 30 rfl) rfl
theorem q8197 : (Jvm.Cond.methodLink "KnowHouseModel$DatatypeValuesModel" (224 : Nat) ({ cls := "KnowHouseModel$DatatypeValuesModel", name := "isValue", desc := "(I)Z" } : Jvm.MethodName)) ∈ lw_all := lw_g (lw_at lw_m33 39 rfl) rfl
theorem q8199 : (Jvm.Cond.instanceMethod ({ cls := "KnowHouseModel$DatatypeValuesModel", name := "isValue", desc := "(I)Z" } : Jvm.MethodName)) ∈ lw_all := lw_g (lw_at lw_m33 41 rfl) rfl
theorem q8200 : (Jvm.Cond.code ({ cls := "KnowHouseModel$DatatypeValuesModel", name := "isValue", desc := "(I)Z" } : Jvm.MethodName) prog_82_method_37_code (2 : Nat) (Option.some Jvm.ClassFile.FieldType.boolean)) ∈ lw_all := lw_g (lw_at lw_m33 42 rfl) rfl
theorem q8205 : (Jvm.Cond.methodLink "KnowHouseModel$DatatypeValuesModel" (227 : Nat) ({ cls := "KnowHouseModel$DatatypeValuesModel", name := "isNumber", desc := "(I)Z" } : Jvm.MethodName)) ∈ lw_all := lw_g (lw_at lw_m33 47 rfl) rfl
theorem q8207 : (Jvm.Cond.instanceMethod ({ cls := "KnowHouseModel$DatatypeValuesModel", name := "isNumber", desc := "(I)Z" } : Jvm.MethodName)) ∈ lw_all := lw_g (lw_at lw_m33 49 rfl) rfl
theorem q8208 : (Jvm.Cond.code ({ cls := "KnowHouseModel$DatatypeValuesModel", name := "isNumber", desc := "(I)Z" } : Jvm.MethodName) prog_82_method_38_code (2 : Nat) (Option.some Jvm.ClassFile.FieldType.boolean)) ∈ lw_all := lw_g (lw_at lw_m33 50 rfl) rfl
theorem q8209 : (Jvm.Cond.methodLink "KnowHouseModel$DatatypeValuesModel" (236 : Nat) ({ cls := "KnowHouseModel$DatatypeValuesModel", name := "sign", desc := "(JJ)I" } : Jvm.MethodName)) ∈ lw_all := lw_g (lw_at lw_m33 51 rfl) rfl
theorem q8210 : (Jvm.Cond.static ({ cls := "KnowHouseModel$DatatypeValuesModel", name := "sign", desc := "(JJ)I" } : Jvm.MethodName)) ∈ lw_all := lw_g (lw_at lw_m33 52 rfl) rfl
theorem q8211 : (Jvm.Cond.code ({ cls := "KnowHouseModel$DatatypeValuesModel", name := "sign", desc := "(JJ)I" } : Jvm.MethodName) prog_82_method_45_code (4 : Nat) (Option.some Jvm.ClassFile.FieldType.int)) ∈ lw_all := lw_g (lw_at lw_m33 53 rfl) rfl
theorem q8212 : (Jvm.Cond.methodLink "KnowHouseModel$DatatypeValuesModel" (252 : Nat) ({ cls := "KnowHouseModel$DatatypeValuesModel", name := "compareRows", desc := "(II)I" } : Jvm.MethodName)) ∈ lw_all := lw_g (lw_at lw_m33 54 rfl) rfl
theorem q8214 : (Jvm.Cond.instanceMethod ({ cls := "KnowHouseModel$DatatypeValuesModel", name := "compareRows", desc := "(II)I" } : Jvm.MethodName)) ∈ lw_all := lw_g (lw_at lw_m33 56 rfl) rfl
theorem q8215 : (Jvm.Cond.code ({ cls := "KnowHouseModel$DatatypeValuesModel", name := "compareRows", desc := "(II)I" } : Jvm.MethodName) prog_82_method_49_code (5 : Nat) (Option.some Jvm.ClassFile.FieldType.int)) ∈ lw_all := lw_g (lw_at lw_m33 57 rfl) rfl
theorem q8216 : (Jvm.Cond.methodLink "KnowHouseModel$DatatypeValuesModel" (255 : Nat) ({ cls := "KnowHouseModel$DatatypeValuesModel", name := "compareSpans", desc := "(II)I" } : Jvm.MethodName)) ∈ lw_all := lw_g (lw_at lw_m33 58 rfl) rfl
theorem q8218 : (Jvm.Cond.instanceMethod ({ cls := "KnowHouseModel$DatatypeValuesModel", name := "compareSpans", desc := "(II)I" } : Jvm.MethodName)) ∈ lw_all := lw_g (lw_at lw_m33 60 rfl) rfl
theorem q8219 : (Jvm.Cond.code ({ cls := "KnowHouseModel$DatatypeValuesModel", name := "compareSpans", desc := "(II)I" } : Jvm.MethodName) prog_82_method_48_code (8 : Nat) (Option.some Jvm.ClassFile.FieldType.int)) ∈ lw_all := lw_g (lw_at lw_m33 61 rfl) rfl
theorem q8220 : (Jvm.Cond.constantLong "KnowHouseModel$DatatypeValuesModel" (242 : Nat) (1696 : Int64)) ∈ lw_all := lw_g (lw_at lw_m33 62 rfl) rfl
theorem q8221 : (Jvm.Cond.constantLong "KnowHouseModel$DatatypeValuesModel" (244 : Nat) (1697 : Int64)) ∈ lw_all := lw_g (lw_at lw_m33 63 rfl) rfl
theorem q8222 : (Jvm.Cond.constantLong "KnowHouseModel$DatatypeValuesModel" (246 : Nat) (1903 : Int64)) ∈ lw_all := lw_g (lw_at lw_m33 64 rfl) rfl
theorem q8223 : (Jvm.Cond.methodLink "KnowHouseModel$DatatypeValuesModel" (248 : Nat) ({ cls := "KnowHouseModel$DatatypeValuesModel", name := "later", desc := "(JJJ)J" } : Jvm.MethodName)) ∈ lw_all := lw_g (lw_at lw_m33 65 rfl) rfl
theorem q8225 : (Jvm.Cond.instanceMethod ({ cls := "KnowHouseModel$DatatypeValuesModel", name := "later", desc := "(JJJ)J" } : Jvm.MethodName)) ∈ lw_all := lw_g (lw_at lw_m33 67 rfl) rfl
theorem q8226 : (Jvm.Cond.code ({ cls := "KnowHouseModel$DatatypeValuesModel", name := "later", desc := "(JJJ)J" } : Jvm.MethodName) prog_82_method_11_code (13 : Nat) (Option.some Jvm.ClassFile.FieldType.long)) ∈ lw_all := lw_g (lw_at lw_m33 68 rfl) rfl
theorem q8227 : (Jvm.Cond.methodLink "KnowHouseModel$DatatypeValuesModel" (85 : Nat) ({ cls := "KnowHouseModel$DatatypeValuesModel", name := "findDate", desc := "(J)V" } : Jvm.MethodName)) ∈ lw_all := lw_g (lw_at lw_m33 69 rfl) rfl
theorem q8229 : (Jvm.Cond.instanceMethod ({ cls := "KnowHouseModel$DatatypeValuesModel", name := "findDate", desc := "(J)V" } : Jvm.MethodName)) ∈ lw_all := lw_g (lw_at lw_m33 71 rfl) rfl
theorem q8230 : (Jvm.Cond.code ({ cls := "KnowHouseModel$DatatypeValuesModel", name := "findDate", desc := "(J)V" } : Jvm.MethodName) prog_82_method_10_code (9 : Nat) (Option.none : Option Jvm.ClassFile.FieldType)) ∈ lw_all := lw_g (lw_at lw_m33 72 rfl) rfl
theorem q8231 : (Jvm.Cond.methodLink "KnowHouseModel$DatatypeValuesModel" (258 : Nat) ({ cls := "KnowHouseModel$DatatypeValuesModel", name := "compareTimes", desc := "(II)I" } : Jvm.MethodName)) ∈ lw_all := lw_g (lw_at lw_m33 73 rfl) rfl
theorem q8233 : (Jvm.Cond.instanceMethod ({ cls := "KnowHouseModel$DatatypeValuesModel", name := "compareTimes", desc := "(II)I" } : Jvm.MethodName)) ∈ lw_all := lw_g (lw_at lw_m33 75 rfl) rfl
theorem q8234 : (Jvm.Cond.code ({ cls := "KnowHouseModel$DatatypeValuesModel", name := "compareTimes", desc := "(II)I" } : Jvm.MethodName) prog_82_method_47_code (11 : Nat) (Option.some Jvm.ClassFile.FieldType.int)) ∈ lw_all := lw_g (lw_at lw_m33 76 rfl) rfl
theorem q8235 : (Jvm.Cond.constantLong "KnowHouseModel$DatatypeValuesModel" (230 : Nat) (10000 : Int64)) ∈ lw_all := lw_g (lw_at lw_m33 77 rfl) rfl
theorem q8236 : (Jvm.Cond.methodLink "KnowHouseModel$DatatypeValuesModel" (232 : Nat) ({ cls := "KnowHouseModel$DatatypeValuesModel", name := "point", desc := "(I)J" } : Jvm.MethodName)) ∈ lw_all := lw_g (lw_at lw_m33 78 rfl) rfl
theorem q8238 : (Jvm.Cond.instanceMethod ({ cls := "KnowHouseModel$DatatypeValuesModel", name := "point", desc := "(I)J" } : Jvm.MethodName)) ∈ lw_all := lw_g (lw_at lw_m33 80 rfl) rfl
theorem q8239 : (Jvm.Cond.code ({ cls := "KnowHouseModel$DatatypeValuesModel", name := "point", desc := "(I)J" } : Jvm.MethodName) prog_82_method_46_code (2 : Nat) (Option.some Jvm.ClassFile.FieldType.long)) ∈ lw_all := lw_g (lw_at lw_m33 81 rfl) rfl
theorem q8240 : (Jvm.Cond.constantLong "KnowHouseModel$DatatypeValuesModel" (240 : Nat) (50400000 : Int64)) ∈ lw_all := lw_g (lw_at lw_m33 82 rfl) rfl
theorem q8253 : (Jvm.Cond.methodLink "KnowHouseModel$DatatypeValuesModel" (282 : Nat) ({ cls := "KnowHouseModel$DatatypeValuesModel", name := "putTruth", desc := "(Z)V" } : Jvm.MethodName)) ∈ lw_all := lw_g (lw_at lw_m33 95 rfl) rfl
theorem q8255 : (Jvm.Cond.instanceMethod ({ cls := "KnowHouseModel$DatatypeValuesModel", name := "putTruth", desc := "(Z)V" } : Jvm.MethodName)) ∈ lw_all := lw_g (lw_at lw_m33 97 rfl) rfl
theorem q8256 : (Jvm.Cond.code ({ cls := "KnowHouseModel$DatatypeValuesModel", name := "putTruth", desc := "(Z)V" } : Jvm.MethodName) prog_82_method_52_code (5 : Nat) (Option.none : Option Jvm.ClassFile.FieldType)) ∈ lw_all := lw_g (lw_at lw_m33 98 rfl) rfl
theorem q8257 : (Jvm.Cond.methodLink "KnowHouseModel$DatatypeValuesModel" (264 : Nat) ({ cls := "KnowHouseModel$DatatypeValuesModel", name := "put", desc := "(I)V" } : Jvm.MethodName)) ∈ lw_all := lw_g (lw_at lw_m33 99 rfl) rfl
theorem q8259 : (Jvm.Cond.instanceMethod ({ cls := "KnowHouseModel$DatatypeValuesModel", name := "put", desc := "(I)V" } : Jvm.MethodName)) ∈ lw_all := lw_g (lw_at lw_m33 101 rfl) rfl
theorem q8260 : (Jvm.Cond.code ({ cls := "KnowHouseModel$DatatypeValuesModel", name := "put", desc := "(I)V" } : Jvm.MethodName) prog_82_method_51_code (2 : Nat) (Option.none : Option Jvm.ClassFile.FieldType)) ∈ lw_all := lw_g (lw_at lw_m33 102 rfl) rfl
theorem q8261 : (Jvm.Cond.methodLink "KnowHouseModel$DatatypeValuesModel" (286 : Nat) ({ cls := "KnowHouseModel$DatatypeValuesModel", name := "putTime", desc := "(I)V" } : Jvm.MethodName)) ∈ lw_all := lw_g (lw_at lw_m33 103 rfl) rfl
theorem q8263 : (Jvm.Cond.instanceMethod ({ cls := "KnowHouseModel$DatatypeValuesModel", name := "putTime", desc := "(I)V" } : Jvm.MethodName)) ∈ lw_all := lw_g (lw_at lw_m33 105 rfl) rfl
theorem q8264 : (Jvm.Cond.code ({ cls := "KnowHouseModel$DatatypeValuesModel", name := "putTime", desc := "(I)V" } : Jvm.MethodName) prog_82_method_55_code (6 : Nat) (Option.none : Option Jvm.ClassFile.FieldType)) ∈ lw_all := lw_g (lw_at lw_m33 106 rfl) rfl
theorem q8265 : (Jvm.Cond.methodLink "KnowHouseModel$DatatypeValuesModel" (267 : Nat) ({ cls := "KnowHouseModel$DatatypeValuesModel", name := "putNumber", desc := "(JI)V" } : Jvm.MethodName)) ∈ lw_all := lw_g (lw_at lw_m33 107 rfl) rfl
theorem q8267 : (Jvm.Cond.instanceMethod ({ cls := "KnowHouseModel$DatatypeValuesModel", name := "putNumber", desc := "(JI)V" } : Jvm.MethodName)) ∈ lw_all := lw_g (lw_at lw_m33 109 rfl) rfl
theorem q8268 : (Jvm.Cond.code ({ cls := "KnowHouseModel$DatatypeValuesModel", name := "putNumber", desc := "(JI)V" } : Jvm.MethodName) prog_82_method_53_code (10 : Nat) (Option.none : Option Jvm.ClassFile.FieldType)) ∈ lw_all := lw_g (lw_at lw_m33 110 rfl) rfl
theorem q8269 : (Jvm.Cond.constantLong "KnowHouseModel$DatatypeValuesModel" (271 : Nat) (60 : Int64)) ∈ lw_all := lw_g (lw_at lw_m33 111 rfl) rfl
theorem q8270 : (Jvm.Cond.methodLink "KnowHouseModel$DatatypeValuesModel" (273 : Nat) ({ cls := "KnowHouseModel$DatatypeValuesModel", name := "putMillis", desc := "(J)V" } : Jvm.MethodName)) ∈ lw_all := lw_g (lw_at lw_m33 112 rfl) rfl
theorem q8272 : (Jvm.Cond.instanceMethod ({ cls := "KnowHouseModel$DatatypeValuesModel", name := "putMillis", desc := "(J)V" } : Jvm.MethodName)) ∈ lw_all := lw_g (lw_at lw_m33 114 rfl) rfl
theorem q8273 : (Jvm.Cond.code ({ cls := "KnowHouseModel$DatatypeValuesModel", name := "putMillis", desc := "(J)V" } : Jvm.MethodName) prog_82_method_54_code (3 : Nat) (Option.none : Option Jvm.ClassFile.FieldType)) ∈ lw_all := lw_g (lw_at lw_m33 115 rfl) rfl
theorem q8274 : (Jvm.Cond.methodLink "KnowHouseModel$DatatypeValuesModel" (289 : Nat) ({ cls := "KnowHouseModel$DatatypeValuesModel", name := "putSpan", desc := "(JJ)V" } : Jvm.MethodName)) ∈ lw_all := lw_g (lw_at lw_m33 116 rfl) rfl
theorem q8276 : (Jvm.Cond.instanceMethod ({ cls := "KnowHouseModel$DatatypeValuesModel", name := "putSpan", desc := "(JJ)V" } : Jvm.MethodName)) ∈ lw_all := lw_g (lw_at lw_m33 118 rfl) rfl
theorem q8277 : (Jvm.Cond.code ({ cls := "KnowHouseModel$DatatypeValuesModel", name := "putSpan", desc := "(JJ)V" } : Jvm.MethodName) prog_82_method_57_code (13 : Nat) (Option.none : Option Jvm.ClassFile.FieldType)) ∈ lw_all := lw_g (lw_at lw_m33 119 rfl) rfl
theorem q8278 : (Jvm.Cond.methodLink "KnowHouseModel$DatatypeValuesModel" (276 : Nat) ({ cls := "KnowHouseModel$DatatypeValuesModel", name := "putSome", desc := "(JI)V" } : Jvm.MethodName)) ∈ lw_all := lw_g (lw_at lw_m33 120 rfl) rfl
theorem q8280 : (Jvm.Cond.instanceMethod ({ cls := "KnowHouseModel$DatatypeValuesModel", name := "putSome", desc := "(JI)V" } : Jvm.MethodName)) ∈ lw_all := lw_g (lw_at lw_m33 122 rfl) rfl
theorem q8281 : (Jvm.Cond.code ({ cls := "KnowHouseModel$DatatypeValuesModel", name := "putSome", desc := "(JI)V" } : Jvm.MethodName) prog_82_method_56_code (4 : Nat) (Option.none : Option Jvm.ClassFile.FieldType)) ∈ lw_all := lw_g (lw_at lw_m33 123 rfl) rfl
theorem q8282 : (Jvm.Cond.methodLink "KnowHouseModel$DatatypeValuesModel" (293 : Nat) ({ cls := "KnowHouseModel$DatatypeValuesModel", name := "putHex", desc := "(I)V" } : Jvm.MethodName)) ∈ lw_all := lw_g (lw_at lw_m33 124 rfl) rfl
theorem q8284 : (Jvm.Cond.instanceMethod ({ cls := "KnowHouseModel$DatatypeValuesModel", name := "putHex", desc := "(I)V" } : Jvm.MethodName)) ∈ lw_all := lw_g (lw_at lw_m33 126 rfl) rfl
theorem q8285 : (Jvm.Cond.code ({ cls := "KnowHouseModel$DatatypeValuesModel", name := "putHex", desc := "(I)V" } : Jvm.MethodName) prog_82_method_58_code (4 : Nat) (Option.none : Option Jvm.ClassFile.FieldType)) ∈ lw_all := lw_g (lw_at lw_m33 127 rfl) rfl
theorem q8286 : (Jvm.Cond.methodLink "KnowHouseModel$DatatypeValuesModel" (296 : Nat) ({ cls := "KnowHouseModel$DatatypeValuesModel", name := "putBase", desc := "(I)V" } : Jvm.MethodName)) ∈ lw_all := lw_g (lw_at lw_m33 128 rfl) rfl
theorem q8288 : (Jvm.Cond.instanceMethod ({ cls := "KnowHouseModel$DatatypeValuesModel", name := "putBase", desc := "(I)V" } : Jvm.MethodName)) ∈ lw_all := lw_g (lw_at lw_m33 130 rfl) rfl
theorem q8289 : (Jvm.Cond.code ({ cls := "KnowHouseModel$DatatypeValuesModel", name := "putBase", desc := "(I)V" } : Jvm.MethodName) prog_82_method_60_code (7 : Nat) (Option.none : Option Jvm.ClassFile.FieldType)) ∈ lw_all := lw_g (lw_at lw_m33 131 rfl) rfl
theorem q8290 : (Jvm.Cond.methodLink "KnowHouseModel$DatatypeValuesModel" (279 : Nat) ({ cls := "KnowHouseModel$DatatypeValuesModel", name := "letter", desc := "(I)I" } : Jvm.MethodName)) ∈ lw_all := lw_g (lw_at lw_m33 132 rfl) rfl
theorem q8291 : (Jvm.Cond.static ({ cls := "KnowHouseModel$DatatypeValuesModel", name := "letter", desc := "(I)I" } : Jvm.MethodName)) ∈ lw_all := lw_g (lw_at lw_m33 133 rfl) rfl
theorem q8292 : (Jvm.Cond.code ({ cls := "KnowHouseModel$DatatypeValuesModel", name := "letter", desc := "(I)I" } : Jvm.MethodName) prog_82_method_59_code (1 : Nat) (Option.some Jvm.ClassFile.FieldType.int)) ∈ lw_all := lw_g (lw_at lw_m33 134 rfl) rfl
theorem q8301 : (Jvm.Cond.methodLink "KnowHouseModel$DatatypeValuesModel" (310 : Nat) ({ cls := "KnowHouseModel$DatatypeValuesModel", name := "reckon", desc := "(III)I" } : Jvm.MethodName)) ∈ lw_all := lw_g (lw_at lw_m33 143 rfl) rfl
theorem q8303 : (Jvm.Cond.instanceMethod ({ cls := "KnowHouseModel$DatatypeValuesModel", name := "reckon", desc := "(III)I" } : Jvm.MethodName)) ∈ lw_all := lw_g (lw_at lw_m33 145 rfl) rfl
theorem q8304 : (Jvm.Cond.code ({ cls := "KnowHouseModel$DatatypeValuesModel", name := "reckon", desc := "(III)I" } : Jvm.MethodName) prog_82_method_64_code (12 : Nat) (Option.some Jvm.ClassFile.FieldType.int)) ∈ lw_all := lw_g (lw_at lw_m33 146 rfl) rfl
theorem q8305 : (Jvm.Cond.methodLink "KnowHouseModel$DatatypeValuesModel" (303 : Nat) ({ cls := "KnowHouseModel$DatatypeValuesModel", name := "keepFraction", desc := "(JJ)I" } : Jvm.MethodName)) ∈ lw_all := lw_g (lw_at lw_m33 147 rfl) rfl
theorem q8307 : (Jvm.Cond.instanceMethod ({ cls := "KnowHouseModel$DatatypeValuesModel", name := "keepFraction", desc := "(JJ)I" } : Jvm.MethodName)) ∈ lw_all := lw_g (lw_at lw_m33 149 rfl) rfl
theorem q8308 : (Jvm.Cond.code ({ cls := "KnowHouseModel$DatatypeValuesModel", name := "keepFraction", desc := "(JJ)I" } : Jvm.MethodName) prog_82_method_63_code (8 : Nat) (Option.some Jvm.ClassFile.FieldType.int)) ∈ lw_all := lw_g (lw_at lw_m33 150 rfl) rfl
theorem q8309 : (Jvm.Cond.constantLong "KnowHouseModel$DatatypeValuesModel" (299 : Nat) (-1000000000 : Int64)) ∈ lw_all := lw_g (lw_at lw_m33 151 rfl) rfl
theorem q8310 : (Jvm.Cond.constantLong "KnowHouseModel$DatatypeValuesModel" (301 : Nat) (1000000000 : Int64)) ∈ lw_all := lw_g (lw_at lw_m33 152 rfl) rfl
theorem q8311 : (Jvm.Cond.methodLink "KnowHouseModel$DatatypeValuesModel" (314 : Nat) ({ cls := "KnowHouseModel$DatatypeValuesModel", name := "keepSpan", desc := "(JJ)I" } : Jvm.MethodName)) ∈ lw_all := lw_g (lw_at lw_m33 153 rfl) rfl
theorem q8313 : (Jvm.Cond.instanceMethod ({ cls := "KnowHouseModel$DatatypeValuesModel", name := "keepSpan", desc := "(JJ)I" } : Jvm.MethodName)) ∈ lw_all := lw_g (lw_at lw_m33 155 rfl) rfl
theorem q8314 : (Jvm.Cond.code ({ cls := "KnowHouseModel$DatatypeValuesModel", name := "keepSpan", desc := "(JJ)I" } : Jvm.MethodName) prog_82_method_65_code (5 : Nat) (Option.some Jvm.ClassFile.FieldType.int)) ∈ lw_all := lw_g (lw_at lw_m33 156 rfl) rfl
theorem q8315 : (Jvm.Cond.constantLong "KnowHouseModel$DatatypeValuesModel" (306 : Nat) (-1000000000000000 : Int64)) ∈ lw_all := lw_g (lw_at lw_m33 157 rfl) rfl
theorem q8316 : (Jvm.Cond.constantLong "KnowHouseModel$DatatypeValuesModel" (308 : Nat) (1000000000000000 : Int64)) ∈ lw_all := lw_g (lw_at lw_m33 158 rfl) rfl
theorem q8317 : (Jvm.Cond.methodLink "KnowHouseModel$DatatypeValuesModel" (317 : Nat) ({ cls := "KnowHouseModel$DatatypeValuesModel", name := "add", desc := "(II)I" } : Jvm.MethodName)) ∈ lw_all := lw_g (lw_at lw_m33 159 rfl) rfl
theorem q8319 : (Jvm.Cond.instanceMethod ({ cls := "KnowHouseModel$DatatypeValuesModel", name := "add", desc := "(II)I" } : Jvm.MethodName)) ∈ lw_all := lw_g (lw_at lw_m33 161 rfl) rfl
theorem q8320 : (Jvm.Cond.code ({ cls := "KnowHouseModel$DatatypeValuesModel", name := "add", desc := "(II)I" } : Jvm.MethodName) prog_82_method_66_code (7 : Nat) (Option.some Jvm.ClassFile.FieldType.int)) ∈ lw_all := lw_g (lw_at lw_m33 162 rfl) rfl
theorem gX49_40 : GoodIn lw_all (va_wsS RX49 40 yX49_down (ws_ yX49_down cX49_down 4 (Option.some Jvm.ClassFile.FieldType.long))) := lw_S q8114 q8115 q544 q8116
theorem gX49_46 : GoodIn lw_all (va_wsS RX49 46 yX49_rest (ws_ yX49_rest cX49_rest 4 (Option.some Jvm.ClassFile.FieldType.long))) := lw_S q8111 q8112 q544 q8113
theorem gX49_53 : GoodIn lw_all (va_wsS RX49 53 yX49_isLong (ws_ yX49_isLong cX49_isLong 2 (Option.some Jvm.ClassFile.FieldType.boolean))) := lw_S q8107 q8108 q544 q8109
theorem gX49_63 : GoodIn lw_all (va_wsS RX49 63 yX49_lengthOf (ws_ yX49_lengthOf cX49_lengthOf 3 (Option.some Jvm.ClassFile.FieldType.int))) := lw_S q8104 q8105 q544 q8106
theorem gX49_67 : GoodIn lw_all (va_wsS RX49 67 yX49_before (ws_ yX49_before cX49_before 9 (Option.some Jvm.ClassFile.FieldType.long))) := lw_S q8122 q8123 q544 q8124
theorem gX49_85 : GoodIn lw_all (wsV RX49 85 RX49 yX49_findDate (ws_ yX49_findDate cX49_findDate 9 (Option.none : Option Jvm.ClassFile.FieldType))) := lw_V q8227 q8229 qs394 q544 q8230
theorem gX49_91 : GoodIn lw_all (va_wsS RX49 91 yX49_dayOf (ws_ yX49_dayOf cX49_dayOf 4 (Option.some Jvm.ClassFile.FieldType.long))) := lw_S q8119 q8120 q544 q8121
theorem gX49_98 : GoodIn lw_all (wsV RX49 98 RX49 yX49_here (ws_ yX49_here cX49_here 1 (Option.some Jvm.ClassFile.FieldType.int))) := lw_V q8066 q8068 qs369 q544 q8069
theorem gX49_105 : GoodIn lw_all (wsV RX49 105 RX49 yX49_need (ws_ yX49_need cX49_need 3 (Option.none : Option Jvm.ClassFile.FieldType))) := lw_V q8077 q8079 qs371 q544 q8080
theorem gX49_109 : GoodIn lw_all (wsV RX49 109 RX49 yX49_takes (ws_ yX49_takes cX49_takes 3 (Option.some Jvm.ClassFile.FieldType.boolean))) := lw_V q8062 q8064 qs368 q544 q8065
theorem gX49_113 : GoodIn lw_all (wsV RX49 113 RX49 yX49_isDigit (ws_ yX49_isDigit cX49_isDigit 1 (Option.some Jvm.ClassFile.FieldType.boolean))) := lw_V q8090 q8092 qs374 q544 q8093
theorem gX49_121 : GoodIn lw_all (wsV RX49 121 RX49 yX49_digits (ws_ yX49_digits cX49_digits 6 (Option.some Jvm.ClassFile.FieldType.long))) := lw_V q8086 q8088 qs373 q544 q8089
theorem gX49_135 : GoodIn lw_all (wsV RX49 135 RX49 yX49_goesOn (ws_ yX49_goesOn cX49_goesOn 1 (Option.some Jvm.ClassFile.FieldType.boolean))) := lw_V q8100 q8102 qs376 q544 q8103
theorem gX49_138 : GoodIn lw_all (va_wsS RX49 138 yX49_divisor (ws_ yX49_divisor cX49_divisor 10 (Option.some Jvm.ClassFile.FieldType.long))) := lw_S q8182 q8183 q544 q8184
theorem gX49_147 : GoodIn lw_all (wsV RX49 147 RX49 yX49_want (ws_ yX49_want cX49_want 2 (Option.none : Option Jvm.ClassFile.FieldType))) := lw_V q8073 q8075 qs370 q544 q8076
theorem gX49_151 : GoodIn lw_all (wsV RX49 151 RX49 yX49_pair (ws_ yX49_pair cX49_pair 5 (Option.some Jvm.ClassFile.FieldType.int))) := lw_V q8096 q8098 qs375 q544 q8099
theorem gX49_155 : GoodIn lw_all (wsV RX49 155 RX49 yX49_day (ws_ yX49_day cX49_day 6 (Option.some Jvm.ClassFile.FieldType.long))) := lw_V q8082 q8084 qs372 q544 q8085
theorem gX49_163 : GoodIn lw_all (wsV RX49 163 RX49 yX49_thousandths (ws_ yX49_thousandths cX49_thousandths 5 (Option.some Jvm.ClassFile.FieldType.long))) := lw_V q8139 q8141 qs379 q544 q8142
theorem gX49_170 : GoodIn lw_all (wsV RX49 170 RX49 yX49_zone (ws_ yX49_zone cX49_zone 4 (Option.some Jvm.ClassFile.FieldType.int))) := lw_V q8129 q8131 qs377 q544 q8132
theorem gX49_180 : GoodIn lw_all (wsV RX49 180 RX49 yX49_among (ws_ yX49_among cX49_among 4 (Option.some Jvm.ClassFile.FieldType.int))) := lw_V q8150 q8152 qs381 q544 q8153
theorem gX49_183 : GoodIn lw_all (wsV RX49 183 RX49 yX49_clock (ws_ yX49_clock cX49_clock 6 (Option.none : Option Jvm.ClassFile.FieldType))) := lw_V q8155 q8157 qs382 q544 q8158
theorem gX49_190 : GoodIn lw_all (wsV RX49 190 RX49 yX49_hexDigit (ws_ yX49_hexDigit cX49_hexDigit 3 (Option.some Jvm.ClassFile.FieldType.int))) := lw_V q8164 q8166 qs384 q544 q8167
theorem gX49_193 : GoodIn lw_all (wsV RX49 193 RX49 yX49_sixBits (ws_ yX49_sixBits cX49_sixBits 3 (Option.some Jvm.ClassFile.FieldType.int))) := lw_V q8172 q8174 qs386 q544 q8175
theorem gX49_196 : GoodIn lw_all (wsV RX49 196 RX49 yX49_truth (ws_ yX49_truth cX49_truth 4 (Option.none : Option Jvm.ClassFile.FieldType))) := lw_V q8058 q8060 qs367 q544 q8061
theorem gX49_199 : GoodIn lw_all (wsV RX49 199 RX49 yX49_instant (ws_ yX49_instant cX49_instant 9 (Option.none : Option Jvm.ClassFile.FieldType))) := lw_V q8133 q8135 qs378 q544 q8136
theorem gX49_202 : GoodIn lw_all (wsV RX49 202 RX49 yX49_span (ws_ yX49_span cX49_span 7 (Option.none : Option Jvm.ClassFile.FieldType))) := lw_V q8145 q8147 qs380 q544 q8148
theorem gX49_205 : GoodIn lw_all (wsV RX49 205 RX49 yX49_hex (ws_ yX49_hex cX49_hex 3 (Option.none : Option Jvm.ClassFile.FieldType))) := lw_V q8160 q8162 qs383 q544 q8163
theorem gX49_208 : GoodIn lw_all (wsV RX49 208 RX49 yX49_base (ws_ yX49_base cX49_base 6 (Option.none : Option Jvm.ClassFile.FieldType))) := lw_V q8168 q8170 qs385 q544 q8171
theorem gX49_211 : GoodIn lw_all (wsV RX49 211 RX49 yX49_number (ws_ yX49_number cX49_number 6 (Option.none : Option Jvm.ClassFile.FieldType))) := lw_V q8176 q8178 qs387 q544 q8179
theorem gX49_214 : GoodIn lw_all (wsV RX49 214 RX49 yX49_readAs (ws_ yX49_readAs cX49_readAs 2 (Option.none : Option Jvm.ClassFile.FieldType))) := lw_V q8054 q8056 qs366 q544 q8057
theorem gX49_217 : GoodIn lw_all (wsV RX49 217 RX49 yX49_keep (ws_ yX49_keep cX49_keep 3 (Option.some Jvm.ClassFile.FieldType.int))) := lw_V q8185 q8187 qs388 q544 q8188
theorem gX49_224 : GoodIn lw_all (wsV RX49 224 RX49 yX49_isValue (ws_ yX49_isValue cX49_isValue 2 (Option.some Jvm.ClassFile.FieldType.boolean))) := lw_V q8197 q8199 qs389 q544 q8200
theorem gX49_227 : GoodIn lw_all (wsV RX49 227 RX49 yX49_isNumber (ws_ yX49_isNumber cX49_isNumber 2 (Option.some Jvm.ClassFile.FieldType.boolean))) := lw_V q8205 q8207 qs390 q544 q8208
theorem gX49_232 : GoodIn lw_all (wsV RX49 232 RX49 yX49_point (ws_ yX49_point cX49_point 2 (Option.some Jvm.ClassFile.FieldType.long))) := lw_V q8236 q8238 qs396 q544 q8239
theorem gX49_236 : GoodIn lw_all (va_wsS RX49 236 yX49_sign (ws_ yX49_sign cX49_sign 4 (Option.some Jvm.ClassFile.FieldType.int))) := lw_S q8209 q8210 q544 q8211
theorem gX49_248 : GoodIn lw_all (wsV RX49 248 RX49 yX49_later (ws_ yX49_later cX49_later 13 (Option.some Jvm.ClassFile.FieldType.long))) := lw_V q8223 q8225 qs393 q544 q8226
theorem gX49_252 : GoodIn lw_all (wsV RX49 252 RX49 yX49_compareRows (ws_ yX49_compareRows cX49_compareRows 5 (Option.some Jvm.ClassFile.FieldType.int))) := lw_V q8212 q8214 qs391 q544 q8215
theorem gX49_255 : GoodIn lw_all (wsV RX49 255 RX49 yX49_compareSpans (ws_ yX49_compareSpans cX49_compareSpans 8 (Option.some Jvm.ClassFile.FieldType.int))) := lw_V q8216 q8218 qs392 q544 q8219
theorem gX49_258 : GoodIn lw_all (wsV RX49 258 RX49 yX49_compareTimes (ws_ yX49_compareTimes cX49_compareTimes 11 (Option.some Jvm.ClassFile.FieldType.int))) := lw_V q8231 q8233 qs395 q544 q8234
theorem gX49_264 : GoodIn lw_all (wsV RX49 264 RX49 yX49_put (ws_ yX49_put cX49_put 2 (Option.none : Option Jvm.ClassFile.FieldType))) := lw_V q8257 q8259 qs398 q544 q8260
theorem gX49_267 : GoodIn lw_all (wsV RX49 267 RX49 yX49_putNumber (ws_ yX49_putNumber cX49_putNumber 10 (Option.none : Option Jvm.ClassFile.FieldType))) := lw_V q8265 q8267 qs400 q544 q8268
theorem gX49_273 : GoodIn lw_all (wsV RX49 273 RX49 yX49_putMillis (ws_ yX49_putMillis cX49_putMillis 3 (Option.none : Option Jvm.ClassFile.FieldType))) := lw_V q8270 q8272 qs401 q544 q8273
theorem gX49_276 : GoodIn lw_all (wsV RX49 276 RX49 yX49_putSome (ws_ yX49_putSome cX49_putSome 4 (Option.none : Option Jvm.ClassFile.FieldType))) := lw_V q8278 q8280 qs403 q544 q8281
theorem gX49_279 : GoodIn lw_all (va_wsS RX49 279 yX49_letter (ws_ yX49_letter cX49_letter 1 (Option.some Jvm.ClassFile.FieldType.int))) := lw_S q8290 q8291 q544 q8292
theorem gX49_282 : GoodIn lw_all (wsV RX49 282 RX49 yX49_putTruth (ws_ yX49_putTruth cX49_putTruth 5 (Option.none : Option Jvm.ClassFile.FieldType))) := lw_V q8253 q8255 qs397 q544 q8256
theorem gX49_286 : GoodIn lw_all (wsV RX49 286 RX49 yX49_putTime (ws_ yX49_putTime cX49_putTime 6 (Option.none : Option Jvm.ClassFile.FieldType))) := lw_V q8261 q8263 qs399 q544 q8264
theorem gX49_289 : GoodIn lw_all (wsV RX49 289 RX49 yX49_putSpan (ws_ yX49_putSpan cX49_putSpan 13 (Option.none : Option Jvm.ClassFile.FieldType))) := lw_V q8274 q8276 qs402 q544 q8277
theorem gX49_293 : GoodIn lw_all (wsV RX49 293 RX49 yX49_putHex (ws_ yX49_putHex cX49_putHex 4 (Option.none : Option Jvm.ClassFile.FieldType))) := lw_V q8282 q8284 qs404 q544 q8285
theorem gX49_296 : GoodIn lw_all (wsV RX49 296 RX49 yX49_putBase (ws_ yX49_putBase cX49_putBase 7 (Option.none : Option Jvm.ClassFile.FieldType))) := lw_V q8286 q8288 qs405 q544 q8289
theorem gX49_303 : GoodIn lw_all (wsV RX49 303 RX49 yX49_keepFraction (ws_ yX49_keepFraction cX49_keepFraction 8 (Option.some Jvm.ClassFile.FieldType.int))) := lw_V q8305 q8307 qs407 q544 q8308
theorem gX49_310 : GoodIn lw_all (wsV RX49 310 RX49 yX49_reckon (ws_ yX49_reckon cX49_reckon 12 (Option.some Jvm.ClassFile.FieldType.int))) := lw_V q8301 q8303 qs406 q544 q8304
theorem gX49_314 : GoodIn lw_all (wsV RX49 314 RX49 yX49_keepSpan (ws_ yX49_keepSpan cX49_keepSpan 5 (Option.some Jvm.ClassFile.FieldType.int))) := lw_V q8311 q8313 qs408 q544 q8314
theorem gX49_317 : GoodIn lw_all (wsV RX49 317 RX49 yX49_add (ws_ yX49_add cX49_add 7 (Option.some Jvm.ClassFile.FieldType.int))) := lw_V q8317 q8319 qs409 q544 q8320
theorem hX49_add : yX49_add.cls = RX49 ∧ yX49_add.cls ≠ "java/lang/invoke/MethodHandle" ∧ yX49_add.cls ≠ "java/lang/invoke/VarHandle" ∧ (parseMethodDescriptor yX49_add.desc).map (fun d => d.parameters.length) = some 2 := by decide +kernel
theorem hX49_among : yX49_among.cls = RX49 ∧ yX49_among.cls ≠ "java/lang/invoke/MethodHandle" ∧ yX49_among.cls ≠ "java/lang/invoke/VarHandle" ∧ (parseMethodDescriptor yX49_among.desc).map (fun d => d.parameters.length) = some 2 := by decide +kernel
theorem hX49_base : yX49_base.cls = RX49 ∧ yX49_base.cls ≠ "java/lang/invoke/MethodHandle" ∧ yX49_base.cls ≠ "java/lang/invoke/VarHandle" ∧ (parseMethodDescriptor yX49_base.desc).map (fun d => d.parameters.length) = some 0 := by decide +kernel
theorem hX49_before : yX49_before.cls ≠ "java/lang/invoke/MethodHandle" ∧ yX49_before.cls ≠ "java/lang/invoke/VarHandle" ∧ (parseMethodDescriptor yX49_before.desc).map (fun d => d.parameters.length) = some 2 := by decide +kernel
theorem hX49_clock : yX49_clock.cls = RX49 ∧ yX49_clock.cls ≠ "java/lang/invoke/MethodHandle" ∧ yX49_clock.cls ≠ "java/lang/invoke/VarHandle" ∧ (parseMethodDescriptor yX49_clock.desc).map (fun d => d.parameters.length) = some 0 := by decide +kernel
theorem hX49_compareRows : yX49_compareRows.cls = RX49 ∧ yX49_compareRows.cls ≠ "java/lang/invoke/MethodHandle" ∧ yX49_compareRows.cls ≠ "java/lang/invoke/VarHandle" ∧ (parseMethodDescriptor yX49_compareRows.desc).map (fun d => d.parameters.length) = some 2 := by decide +kernel
theorem hX49_compareSpans : yX49_compareSpans.cls = RX49 ∧ yX49_compareSpans.cls ≠ "java/lang/invoke/MethodHandle" ∧ yX49_compareSpans.cls ≠ "java/lang/invoke/VarHandle" ∧ (parseMethodDescriptor yX49_compareSpans.desc).map (fun d => d.parameters.length) = some 2 := by decide +kernel
theorem hX49_compareTimes : yX49_compareTimes.cls = RX49 ∧ yX49_compareTimes.cls ≠ "java/lang/invoke/MethodHandle" ∧ yX49_compareTimes.cls ≠ "java/lang/invoke/VarHandle" ∧ (parseMethodDescriptor yX49_compareTimes.desc).map (fun d => d.parameters.length) = some 2 := by decide +kernel
theorem hX49_day : yX49_day.cls = RX49 ∧ yX49_day.cls ≠ "java/lang/invoke/MethodHandle" ∧ yX49_day.cls ≠ "java/lang/invoke/VarHandle" ∧ (parseMethodDescriptor yX49_day.desc).map (fun d => d.parameters.length) = some 0 := by decide +kernel
theorem hX49_dayOf : yX49_dayOf.cls ≠ "java/lang/invoke/MethodHandle" ∧ yX49_dayOf.cls ≠ "java/lang/invoke/VarHandle" ∧ (parseMethodDescriptor yX49_dayOf.desc).map (fun d => d.parameters.length) = some 3 := by decide +kernel
theorem hX49_digits : yX49_digits.cls = RX49 ∧ yX49_digits.cls ≠ "java/lang/invoke/MethodHandle" ∧ yX49_digits.cls ≠ "java/lang/invoke/VarHandle" ∧ (parseMethodDescriptor yX49_digits.desc).map (fun d => d.parameters.length) = some 2 := by decide +kernel
theorem hX49_divisor : yX49_divisor.cls ≠ "java/lang/invoke/MethodHandle" ∧ yX49_divisor.cls ≠ "java/lang/invoke/VarHandle" ∧ (parseMethodDescriptor yX49_divisor.desc).map (fun d => d.parameters.length) = some 2 := by decide +kernel
theorem hX49_down : yX49_down.cls ≠ "java/lang/invoke/MethodHandle" ∧ yX49_down.cls ≠ "java/lang/invoke/VarHandle" ∧ (parseMethodDescriptor yX49_down.desc).map (fun d => d.parameters.length) = some 2 := by decide +kernel
theorem hX49_findDate : yX49_findDate.cls = RX49 ∧ yX49_findDate.cls ≠ "java/lang/invoke/MethodHandle" ∧ yX49_findDate.cls ≠ "java/lang/invoke/VarHandle" ∧ (parseMethodDescriptor yX49_findDate.desc).map (fun d => d.parameters.length) = some 1 := by decide +kernel
theorem hX49_goesOn : yX49_goesOn.cls = RX49 ∧ yX49_goesOn.cls ≠ "java/lang/invoke/MethodHandle" ∧ yX49_goesOn.cls ≠ "java/lang/invoke/VarHandle" ∧ (parseMethodDescriptor yX49_goesOn.desc).map (fun d => d.parameters.length) = some 0 := by decide +kernel
theorem hX49_here : yX49_here.cls = RX49 ∧ yX49_here.cls ≠ "java/lang/invoke/MethodHandle" ∧ yX49_here.cls ≠ "java/lang/invoke/VarHandle" ∧ (parseMethodDescriptor yX49_here.desc).map (fun d => d.parameters.length) = some 0 := by decide +kernel
theorem hX49_hex : yX49_hex.cls = RX49 ∧ yX49_hex.cls ≠ "java/lang/invoke/MethodHandle" ∧ yX49_hex.cls ≠ "java/lang/invoke/VarHandle" ∧ (parseMethodDescriptor yX49_hex.desc).map (fun d => d.parameters.length) = some 0 := by decide +kernel
theorem hX49_hexDigit : yX49_hexDigit.cls = RX49 ∧ yX49_hexDigit.cls ≠ "java/lang/invoke/MethodHandle" ∧ yX49_hexDigit.cls ≠ "java/lang/invoke/VarHandle" ∧ (parseMethodDescriptor yX49_hexDigit.desc).map (fun d => d.parameters.length) = some 0 := by decide +kernel
theorem hX49_instant : yX49_instant.cls = RX49 ∧ yX49_instant.cls ≠ "java/lang/invoke/MethodHandle" ∧ yX49_instant.cls ≠ "java/lang/invoke/VarHandle" ∧ (parseMethodDescriptor yX49_instant.desc).map (fun d => d.parameters.length) = some 0 := by decide +kernel
theorem hX49_isDigit : yX49_isDigit.cls = RX49 ∧ yX49_isDigit.cls ≠ "java/lang/invoke/MethodHandle" ∧ yX49_isDigit.cls ≠ "java/lang/invoke/VarHandle" ∧ (parseMethodDescriptor yX49_isDigit.desc).map (fun d => d.parameters.length) = some 0 := by decide +kernel
theorem hX49_isLong : yX49_isLong.cls ≠ "java/lang/invoke/MethodHandle" ∧ yX49_isLong.cls ≠ "java/lang/invoke/VarHandle" ∧ (parseMethodDescriptor yX49_isLong.desc).map (fun d => d.parameters.length) = some 1 := by decide +kernel
theorem hX49_isNumber : yX49_isNumber.cls = RX49 ∧ yX49_isNumber.cls ≠ "java/lang/invoke/MethodHandle" ∧ yX49_isNumber.cls ≠ "java/lang/invoke/VarHandle" ∧ (parseMethodDescriptor yX49_isNumber.desc).map (fun d => d.parameters.length) = some 1 := by decide +kernel
theorem hX49_isValue : yX49_isValue.cls = RX49 ∧ yX49_isValue.cls ≠ "java/lang/invoke/MethodHandle" ∧ yX49_isValue.cls ≠ "java/lang/invoke/VarHandle" ∧ (parseMethodDescriptor yX49_isValue.desc).map (fun d => d.parameters.length) = some 1 := by decide +kernel
theorem hX49_keep : yX49_keep.cls = RX49 ∧ yX49_keep.cls ≠ "java/lang/invoke/MethodHandle" ∧ yX49_keep.cls ≠ "java/lang/invoke/VarHandle" ∧ (parseMethodDescriptor yX49_keep.desc).map (fun d => d.parameters.length) = some 1 := by decide +kernel
theorem hX49_keepFraction : yX49_keepFraction.cls = RX49 ∧ yX49_keepFraction.cls ≠ "java/lang/invoke/MethodHandle" ∧ yX49_keepFraction.cls ≠ "java/lang/invoke/VarHandle" ∧ (parseMethodDescriptor yX49_keepFraction.desc).map (fun d => d.parameters.length) = some 2 := by decide +kernel
theorem hX49_keepSpan : yX49_keepSpan.cls = RX49 ∧ yX49_keepSpan.cls ≠ "java/lang/invoke/MethodHandle" ∧ yX49_keepSpan.cls ≠ "java/lang/invoke/VarHandle" ∧ (parseMethodDescriptor yX49_keepSpan.desc).map (fun d => d.parameters.length) = some 2 := by decide +kernel
theorem hX49_later : yX49_later.cls = RX49 ∧ yX49_later.cls ≠ "java/lang/invoke/MethodHandle" ∧ yX49_later.cls ≠ "java/lang/invoke/VarHandle" ∧ (parseMethodDescriptor yX49_later.desc).map (fun d => d.parameters.length) = some 3 := by decide +kernel
theorem hX49_lengthOf : yX49_lengthOf.cls ≠ "java/lang/invoke/MethodHandle" ∧ yX49_lengthOf.cls ≠ "java/lang/invoke/VarHandle" ∧ (parseMethodDescriptor yX49_lengthOf.desc).map (fun d => d.parameters.length) = some 2 := by decide +kernel
theorem hX49_letter : yX49_letter.cls ≠ "java/lang/invoke/MethodHandle" ∧ yX49_letter.cls ≠ "java/lang/invoke/VarHandle" ∧ (parseMethodDescriptor yX49_letter.desc).map (fun d => d.parameters.length) = some 1 := by decide +kernel
theorem hX49_need : yX49_need.cls = RX49 ∧ yX49_need.cls ≠ "java/lang/invoke/MethodHandle" ∧ yX49_need.cls ≠ "java/lang/invoke/VarHandle" ∧ (parseMethodDescriptor yX49_need.desc).map (fun d => d.parameters.length) = some 2 := by decide +kernel
theorem hX49_number : yX49_number.cls = RX49 ∧ yX49_number.cls ≠ "java/lang/invoke/MethodHandle" ∧ yX49_number.cls ≠ "java/lang/invoke/VarHandle" ∧ (parseMethodDescriptor yX49_number.desc).map (fun d => d.parameters.length) = some 1 := by decide +kernel
theorem hX49_pair : yX49_pair.cls = RX49 ∧ yX49_pair.cls ≠ "java/lang/invoke/MethodHandle" ∧ yX49_pair.cls ≠ "java/lang/invoke/VarHandle" ∧ (parseMethodDescriptor yX49_pair.desc).map (fun d => d.parameters.length) = some 2 := by decide +kernel
theorem hX49_point : yX49_point.cls = RX49 ∧ yX49_point.cls ≠ "java/lang/invoke/MethodHandle" ∧ yX49_point.cls ≠ "java/lang/invoke/VarHandle" ∧ (parseMethodDescriptor yX49_point.desc).map (fun d => d.parameters.length) = some 1 := by decide +kernel
theorem hX49_put : yX49_put.cls = RX49 ∧ yX49_put.cls ≠ "java/lang/invoke/MethodHandle" ∧ yX49_put.cls ≠ "java/lang/invoke/VarHandle" ∧ (parseMethodDescriptor yX49_put.desc).map (fun d => d.parameters.length) = some 1 := by decide +kernel
theorem hX49_putBase : yX49_putBase.cls = RX49 ∧ yX49_putBase.cls ≠ "java/lang/invoke/MethodHandle" ∧ yX49_putBase.cls ≠ "java/lang/invoke/VarHandle" ∧ (parseMethodDescriptor yX49_putBase.desc).map (fun d => d.parameters.length) = some 1 := by decide +kernel
theorem hX49_putHex : yX49_putHex.cls = RX49 ∧ yX49_putHex.cls ≠ "java/lang/invoke/MethodHandle" ∧ yX49_putHex.cls ≠ "java/lang/invoke/VarHandle" ∧ (parseMethodDescriptor yX49_putHex.desc).map (fun d => d.parameters.length) = some 1 := by decide +kernel
theorem hX49_putMillis : yX49_putMillis.cls = RX49 ∧ yX49_putMillis.cls ≠ "java/lang/invoke/MethodHandle" ∧ yX49_putMillis.cls ≠ "java/lang/invoke/VarHandle" ∧ (parseMethodDescriptor yX49_putMillis.desc).map (fun d => d.parameters.length) = some 1 := by decide +kernel
theorem hX49_putNumber : yX49_putNumber.cls = RX49 ∧ yX49_putNumber.cls ≠ "java/lang/invoke/MethodHandle" ∧ yX49_putNumber.cls ≠ "java/lang/invoke/VarHandle" ∧ (parseMethodDescriptor yX49_putNumber.desc).map (fun d => d.parameters.length) = some 2 := by decide +kernel
theorem hX49_putSome : yX49_putSome.cls = RX49 ∧ yX49_putSome.cls ≠ "java/lang/invoke/MethodHandle" ∧ yX49_putSome.cls ≠ "java/lang/invoke/VarHandle" ∧ (parseMethodDescriptor yX49_putSome.desc).map (fun d => d.parameters.length) = some 2 := by decide +kernel
theorem hX49_putSpan : yX49_putSpan.cls = RX49 ∧ yX49_putSpan.cls ≠ "java/lang/invoke/MethodHandle" ∧ yX49_putSpan.cls ≠ "java/lang/invoke/VarHandle" ∧ (parseMethodDescriptor yX49_putSpan.desc).map (fun d => d.parameters.length) = some 2 := by decide +kernel
theorem hX49_putTime : yX49_putTime.cls = RX49 ∧ yX49_putTime.cls ≠ "java/lang/invoke/MethodHandle" ∧ yX49_putTime.cls ≠ "java/lang/invoke/VarHandle" ∧ (parseMethodDescriptor yX49_putTime.desc).map (fun d => d.parameters.length) = some 1 := by decide +kernel
theorem hX49_putTruth : yX49_putTruth.cls = RX49 ∧ yX49_putTruth.cls ≠ "java/lang/invoke/MethodHandle" ∧ yX49_putTruth.cls ≠ "java/lang/invoke/VarHandle" ∧ (parseMethodDescriptor yX49_putTruth.desc).map (fun d => d.parameters.length) = some 1 := by decide +kernel
theorem hX49_readAs : yX49_readAs.cls = RX49 ∧ yX49_readAs.cls ≠ "java/lang/invoke/MethodHandle" ∧ yX49_readAs.cls ≠ "java/lang/invoke/VarHandle" ∧ (parseMethodDescriptor yX49_readAs.desc).map (fun d => d.parameters.length) = some 1 := by decide +kernel
theorem hX49_reckon : yX49_reckon.cls = RX49 ∧ yX49_reckon.cls ≠ "java/lang/invoke/MethodHandle" ∧ yX49_reckon.cls ≠ "java/lang/invoke/VarHandle" ∧ (parseMethodDescriptor yX49_reckon.desc).map (fun d => d.parameters.length) = some 3 := by decide +kernel
theorem hX49_rest : yX49_rest.cls ≠ "java/lang/invoke/MethodHandle" ∧ yX49_rest.cls ≠ "java/lang/invoke/VarHandle" ∧ (parseMethodDescriptor yX49_rest.desc).map (fun d => d.parameters.length) = some 2 := by decide +kernel
theorem hX49_sign : yX49_sign.cls ≠ "java/lang/invoke/MethodHandle" ∧ yX49_sign.cls ≠ "java/lang/invoke/VarHandle" ∧ (parseMethodDescriptor yX49_sign.desc).map (fun d => d.parameters.length) = some 2 := by decide +kernel
theorem hX49_sixBits : yX49_sixBits.cls = RX49 ∧ yX49_sixBits.cls ≠ "java/lang/invoke/MethodHandle" ∧ yX49_sixBits.cls ≠ "java/lang/invoke/VarHandle" ∧ (parseMethodDescriptor yX49_sixBits.desc).map (fun d => d.parameters.length) = some 0 := by decide +kernel
theorem hX49_span : yX49_span.cls = RX49 ∧ yX49_span.cls ≠ "java/lang/invoke/MethodHandle" ∧ yX49_span.cls ≠ "java/lang/invoke/VarHandle" ∧ (parseMethodDescriptor yX49_span.desc).map (fun d => d.parameters.length) = some 0 := by decide +kernel
theorem hX49_takes : yX49_takes.cls = RX49 ∧ yX49_takes.cls ≠ "java/lang/invoke/MethodHandle" ∧ yX49_takes.cls ≠ "java/lang/invoke/VarHandle" ∧ (parseMethodDescriptor yX49_takes.desc).map (fun d => d.parameters.length) = some 1 := by decide +kernel
theorem hX49_thousandths : yX49_thousandths.cls = RX49 ∧ yX49_thousandths.cls ≠ "java/lang/invoke/MethodHandle" ∧ yX49_thousandths.cls ≠ "java/lang/invoke/VarHandle" ∧ (parseMethodDescriptor yX49_thousandths.desc).map (fun d => d.parameters.length) = some 0 := by decide +kernel
theorem hX49_truth : yX49_truth.cls = RX49 ∧ yX49_truth.cls ≠ "java/lang/invoke/MethodHandle" ∧ yX49_truth.cls ≠ "java/lang/invoke/VarHandle" ∧ (parseMethodDescriptor yX49_truth.desc).map (fun d => d.parameters.length) = some 0 := by decide +kernel
theorem hX49_want : yX49_want.cls = RX49 ∧ yX49_want.cls ≠ "java/lang/invoke/MethodHandle" ∧ yX49_want.cls ≠ "java/lang/invoke/VarHandle" ∧ (parseMethodDescriptor yX49_want.desc).map (fun d => d.parameters.length) = some 1 := by decide +kernel
theorem hX49_zone : yX49_zone.cls = RX49 ∧ yX49_zone.cls ≠ "java/lang/invoke/MethodHandle" ∧ yX49_zone.cls ≠ "java/lang/invoke/VarHandle" ∧ (parseMethodDescriptor yX49_zone.desc).map (fun d => d.parameters.length) = some 0 := by decide +kernel
