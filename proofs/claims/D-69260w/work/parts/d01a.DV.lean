/-! room DV (printed by tools/zgen2.py) -/
set_option maxRecDepth 100000
def RX6 : String := "KnowHouse$DatatypeValues"
def TX6 : u_T := fun k => match k with
  | 0 => ("KnowHouse$DatatypeValues", "tape", "[B", true)
  | 1 => ("KnowHouse$DatatypeValues", "size", "I", false)
  | 2 => ("KnowHouse$DatatypeValues", "values", "[LKnowHouse$DatatypeValues$Value;", true)
  | 3 => ("KnowHouse$DatatypeValues", "count", "I", false)
  | _ => ("KnowHouse$DatatypeValues", "writer", "LKnowHouse$DatatypeValues$Writer;", false)
def tyX6 : Nat → FieldType := fun k => match k with
  | 0 => .array .byte
  | 1 => .int
  | 2 => .array (.object "KnowHouse$DatatypeValues$Value")
  | 3 => .int
  | _ => .object "KnowHouse$DatatypeValues$Writer"
abbrev wsX60 : List Cond := u_ws RX6 TX6 5
theorem nmX6 : ∀ a, a < 5 → ∀ b, b < 5 → a ≠ b → (TX6 a).2.1 ≠ (TX6 b).2.1 := by decide +kernel
theorem tyX6_ok : ∀ k, k < 5 → parseFieldDescriptor (TX6 k).2.2.1 = some (tyX6 k) := by decide +kernel
abbrev cX6_init : ByteArray := prog_10_method_1_code
def yX6_init : MethodName := ⟨RX6, "<init>", "()V"⟩
theorem dX6_init_0 : decode cX6_init 0 = .ok (.aload_n 0, 1) := by decide +kernel
theorem dX6_init_1 : decode cX6_init 1 = .ok (.invokespecial 1, 3) := by decide +kernel
theorem dX6_init_4 : decode cX6_init 4 = .ok (.aload_n 0, 1) := by decide +kernel
theorem dX6_init_5 : decode cX6_init 5 = .ok (.bipush 64, 2) := by decide +kernel
theorem dX6_init_7 : decode cX6_init 7 = .ok (.newarray .byte, 2) := by decide +kernel
theorem dX6_init_9 : decode cX6_init 9 = .ok (.putfield 9, 3) := by decide +kernel
theorem dX6_init_12 : decode cX6_init 12 = .ok (.aload_n 0, 1) := by decide +kernel
theorem dX6_init_13 : decode cX6_init 13 = .ok (.sipush 200, 3) := by decide +kernel
theorem dX6_init_16 : decode cX6_init 16 = .ok (.anewarray 13, 3) := by decide +kernel
theorem dX6_init_19 : decode cX6_init 19 = .ok (.putfield 15, 3) := by decide +kernel
theorem dX6_init_22 : decode cX6_init 22 = .ok (.aload_n 0, 1) := by decide +kernel
theorem dX6_init_23 : decode cX6_init 23 = .ok (.new 19, 3) := by decide +kernel
theorem dX6_init_26 : decode cX6_init 26 = .ok (.dup, 1) := by decide +kernel
theorem dX6_init_27 : decode cX6_init 27 = .ok (.invokespecial 21, 3) := by decide +kernel
theorem dX6_init_30 : decode cX6_init 30 = .ok (.putfield 22, 3) := by decide +kernel
theorem dX6_init_33 : decode cX6_init 33 = .ok (.return_, 1) := by decide +kernel
abbrev cX6_type : ByteArray := prog_10_method_2_code
def yX6_type : MethodName := ⟨RX6, "type", "(JI)I"⟩
theorem dX6_type_0 : decode cX6_type 0 = .ok (.iload_n 3, 1) := by decide +kernel
theorem dX6_type_1 : decode cX6_type 1 = .ok (.iconst 1, 1) := by decide +kernel
theorem dX6_type_2 : decode cX6_type 2 = .ok (.if_icmp .lt 9, 3) := by decide +kernel
theorem dX6_type_5 : decode cX6_type 5 = .ok (.iload_n 3, 1) := by decide +kernel
theorem dX6_type_6 : decode cX6_type 6 = .ok (.bipush 8, 2) := by decide +kernel
theorem dX6_type_8 : decode cX6_type 8 = .ok (.if_icmp .le 5, 3) := by decide +kernel
theorem dX6_type_11 : decode cX6_type 11 = .ok (.iconst (-1), 1) := by decide +kernel
theorem dX6_type_12 : decode cX6_type 12 = .ok (.ireturn, 1) := by decide +kernel
theorem dX6_type_13 : decode cX6_type 13 = .ok (.aload_n 0, 1) := by decide +kernel
theorem dX6_type_14 : decode cX6_type 14 = .ok (.getfield 26, 3) := by decide +kernel
theorem dX6_type_17 : decode cX6_type 17 = .ok (.iload_n 3, 1) := by decide +kernel
theorem dX6_type_18 : decode cX6_type 18 = .ok (.iadd, 1) := by decide +kernel
theorem dX6_type_19 : decode cX6_type 19 = .ok (.bipush 64, 2) := by decide +kernel
theorem dX6_type_21 : decode cX6_type 21 = .ok (.if_icmp .le 6, 3) := by decide +kernel
theorem dX6_type_24 : decode cX6_type 24 = .ok (.bipush (-3), 2) := by decide +kernel
theorem dX6_type_26 : decode cX6_type 26 = .ok (.ireturn, 1) := by decide +kernel
theorem dX6_type_27 : decode cX6_type 27 = .ok (.iload_n 3, 1) := by decide +kernel
theorem dX6_type_28 : decode cX6_type 28 = .ok (.iconst 1, 1) := by decide +kernel
theorem dX6_type_29 : decode cX6_type 29 = .ok (.isub, 1) := by decide +kernel
theorem dX6_type_30 : decode cX6_type 30 = .ok (.istore 4, 2) := by decide +kernel
theorem dX6_type_32 : decode cX6_type 32 = .ok (.iload 4, 2) := by decide +kernel
theorem dX6_type_34 : decode cX6_type 34 = .ok (.ifCond .lt 37, 3) := by decide +kernel
theorem dX6_type_37 : decode cX6_type 37 = .ok (.aload_n 0, 1) := by decide +kernel
theorem dX6_type_38 : decode cX6_type 38 = .ok (.getfield 9, 3) := by decide +kernel
theorem dX6_type_41 : decode cX6_type 41 = .ok (.aload_n 0, 1) := by decide +kernel
theorem dX6_type_42 : decode cX6_type 42 = .ok (.getfield 26, 3) := by decide +kernel
theorem dX6_type_45 : decode cX6_type 45 = .ok (.lload_n 1, 1) := by decide +kernel
theorem dX6_type_46 : decode cX6_type 46 = .ok (.bipush 8, 2) := by decide +kernel
theorem dX6_type_48 : decode cX6_type 48 = .ok (.iload 4, 2) := by decide +kernel
theorem dX6_type_50 : decode cX6_type 50 = .ok (.imul, 1) := by decide +kernel
theorem dX6_type_51 : decode cX6_type 51 = .ok (.lshr, 1) := by decide +kernel
theorem dX6_type_52 : decode cX6_type 52 = .ok (.l2i, 1) := by decide +kernel
theorem dX6_type_53 : decode cX6_type 53 = .ok (.i2b, 1) := by decide +kernel
theorem dX6_type_54 : decode cX6_type 54 = .ok (.bastore, 1) := by decide +kernel
theorem dX6_type_55 : decode cX6_type 55 = .ok (.aload_n 0, 1) := by decide +kernel
theorem dX6_type_56 : decode cX6_type 56 = .ok (.dup, 1) := by decide +kernel
theorem dX6_type_57 : decode cX6_type 57 = .ok (.getfield 26, 3) := by decide +kernel
theorem dX6_type_60 : decode cX6_type 60 = .ok (.iconst 1, 1) := by decide +kernel
theorem dX6_type_61 : decode cX6_type 61 = .ok (.iadd, 1) := by decide +kernel
theorem dX6_type_62 : decode cX6_type 62 = .ok (.putfield 26, 3) := by decide +kernel
theorem dX6_type_65 : decode cX6_type 65 = .ok (.iinc 4 (-1), 3) := by decide +kernel
theorem dX6_type_68 : decode cX6_type 68 = .ok (.goto (-36), 3) := by decide +kernel
theorem dX6_type_71 : decode cX6_type 71 = .ok (.aload_n 0, 1) := by decide +kernel
theorem dX6_type_72 : decode cX6_type 72 = .ok (.getfield 26, 3) := by decide +kernel
theorem dX6_type_75 : decode cX6_type 75 = .ok (.ireturn, 1) := by decide +kernel
abbrev cX6_read : ByteArray := prog_10_method_4_code
def yX6_read : MethodName := ⟨RX6, "read", "(I)I"⟩
theorem dX6_read_0 : decode cX6_read 0 = .ok (.iload_n 1, 1) := by decide +kernel
theorem dX6_read_1 : decode cX6_read 1 = .ok (.ifCond .lt 9, 3) := by decide +kernel
theorem dX6_read_4 : decode cX6_read 4 = .ok (.iload_n 1, 1) := by decide +kernel
theorem dX6_read_5 : decode cX6_read 5 = .ok (.bipush 8, 2) := by decide +kernel
theorem dX6_read_7 : decode cX6_read 7 = .ok (.if_icmp .le 5, 3) := by decide +kernel
theorem dX6_read_10 : decode cX6_read 10 = .ok (.iconst (-1), 1) := by decide +kernel
theorem dX6_read_11 : decode cX6_read 11 = .ok (.ireturn, 1) := by decide +kernel
theorem dX6_read_12 : decode cX6_read 12 = .ok (.new 33, 3) := by decide +kernel
theorem dX6_read_15 : decode cX6_read 15 = .ok (.dup, 1) := by decide +kernel
theorem dX6_read_16 : decode cX6_read 16 = .ok (.aload_n 0, 1) := by decide +kernel
theorem dX6_read_17 : decode cX6_read 17 = .ok (.getfield 9, 3) := by decide +kernel
theorem dX6_read_20 : decode cX6_read 20 = .ok (.aload_n 0, 1) := by decide +kernel
theorem dX6_read_21 : decode cX6_read 21 = .ok (.getfield 26, 3) := by decide +kernel
theorem dX6_read_24 : decode cX6_read 24 = .ok (.invokespecial 35, 3) := by decide +kernel
theorem dX6_read_27 : decode cX6_read 27 = .ok (.astore_n 2, 1) := by decide +kernel
theorem dX6_read_28 : decode cX6_read 28 = .ok (.aload_n 2, 1) := by decide +kernel
theorem dX6_read_29 : decode cX6_read 29 = .ok (.iload_n 1, 1) := by decide +kernel
theorem dX6_read_30 : decode cX6_read 30 = .ok (.invokevirtual 38, 3) := by decide +kernel
theorem dX6_read_33 : decode cX6_read 33 = .ok (.astore_n 3, 1) := by decide +kernel
theorem dX6_read_34 : decode cX6_read 34 = .ok (.aload_n 0, 1) := by decide +kernel
theorem dX6_read_35 : decode cX6_read 35 = .ok (.iconst 0, 1) := by decide +kernel
theorem dX6_read_36 : decode cX6_read 36 = .ok (.putfield 26, 3) := by decide +kernel
theorem dX6_read_39 : decode cX6_read 39 = .ok (.aload_n 3, 1) := by decide +kernel
theorem dX6_read_40 : decode cX6_read 40 = .ok (.ifnonnull 13, 3) := by decide +kernel
theorem dX6_read_43 : decode cX6_read 43 = .ok (.bipush (-10), 2) := by decide +kernel
theorem dX6_read_45 : decode cX6_read 45 = .ok (.aload_n 2, 1) := by decide +kernel
theorem dX6_read_46 : decode cX6_read 46 = .ok (.getfield 42, 3) := by decide +kernel
theorem dX6_read_49 : decode cX6_read 49 = .ok (.isub, 1) := by decide +kernel
theorem dX6_read_50 : decode cX6_read 50 = .ok (.goto 8, 3) := by decide +kernel
theorem dX6_read_53 : decode cX6_read 53 = .ok (.aload_n 0, 1) := by decide +kernel
theorem dX6_read_54 : decode cX6_read 54 = .ok (.aload_n 3, 1) := by decide +kernel
theorem dX6_read_55 : decode cX6_read 55 = .ok (.invokevirtual 45, 3) := by decide +kernel
theorem dX6_read_58 : decode cX6_read 58 = .ok (.ireturn, 1) := by decide +kernel
abbrev cX6_keep : ByteArray := prog_10_method_3_code
def yX6_keep : MethodName := ⟨RX6, "keep", "(LKnowHouse$DatatypeValues$Value;)I"⟩
theorem dX6_keep_0 : decode cX6_keep 0 = .ok (.aload_n 1, 1) := by decide +kernel
theorem dX6_keep_1 : decode cX6_keep 1 = .ok (.ifnonnull 6, 3) := by decide +kernel
theorem dX6_keep_4 : decode cX6_keep 4 = .ok (.bipush (-2), 2) := by decide +kernel
theorem dX6_keep_6 : decode cX6_keep 6 = .ok (.ireturn, 1) := by decide +kernel
theorem dX6_keep_7 : decode cX6_keep 7 = .ok (.aload_n 0, 1) := by decide +kernel
theorem dX6_keep_8 : decode cX6_keep 8 = .ok (.getfield 30, 3) := by decide +kernel
theorem dX6_keep_11 : decode cX6_keep 11 = .ok (.sipush 200, 3) := by decide +kernel
theorem dX6_keep_14 : decode cX6_keep 14 = .ok (.if_icmp .ne 6, 3) := by decide +kernel
theorem dX6_keep_17 : decode cX6_keep 17 = .ok (.bipush (-3), 2) := by decide +kernel
theorem dX6_keep_19 : decode cX6_keep 19 = .ok (.ireturn, 1) := by decide +kernel
theorem dX6_keep_20 : decode cX6_keep 20 = .ok (.aload_n 0, 1) := by decide +kernel
theorem dX6_keep_21 : decode cX6_keep 21 = .ok (.getfield 15, 3) := by decide +kernel
theorem dX6_keep_24 : decode cX6_keep 24 = .ok (.aload_n 0, 1) := by decide +kernel
theorem dX6_keep_25 : decode cX6_keep 25 = .ok (.getfield 30, 3) := by decide +kernel
theorem dX6_keep_28 : decode cX6_keep 28 = .ok (.aload_n 1, 1) := by decide +kernel
theorem dX6_keep_29 : decode cX6_keep 29 = .ok (.aastore, 1) := by decide +kernel
theorem dX6_keep_30 : decode cX6_keep 30 = .ok (.aload_n 0, 1) := by decide +kernel
theorem dX6_keep_31 : decode cX6_keep 31 = .ok (.dup, 1) := by decide +kernel
theorem dX6_keep_32 : decode cX6_keep 32 = .ok (.getfield 30, 3) := by decide +kernel
theorem dX6_keep_35 : decode cX6_keep 35 = .ok (.iconst 1, 1) := by decide +kernel
theorem dX6_keep_36 : decode cX6_keep 36 = .ok (.iadd, 1) := by decide +kernel
theorem dX6_keep_37 : decode cX6_keep 37 = .ok (.putfield 30, 3) := by decide +kernel
theorem dX6_keep_40 : decode cX6_keep 40 = .ok (.aload_n 0, 1) := by decide +kernel
theorem dX6_keep_41 : decode cX6_keep 41 = .ok (.getfield 30, 3) := by decide +kernel
theorem dX6_keep_44 : decode cX6_keep 44 = .ok (.iconst 1, 1) := by decide +kernel
theorem dX6_keep_45 : decode cX6_keep 45 = .ok (.isub, 1) := by decide +kernel
theorem dX6_keep_46 : decode cX6_keep 46 = .ok (.ireturn, 1) := by decide +kernel
abbrev cX6_values : ByteArray := prog_10_method_5_code
def yX6_values : MethodName := ⟨RX6, "values", "()I"⟩
theorem dX6_values_0 : decode cX6_values 0 = .ok (.aload_n 0, 1) := by decide +kernel
theorem dX6_values_1 : decode cX6_values 1 = .ok (.getfield 30, 3) := by decide +kernel
theorem dX6_values_4 : decode cX6_values 4 = .ok (.ireturn, 1) := by decide +kernel
abbrev cX6_kind : ByteArray := prog_10_method_7_code
def yX6_kind : MethodName := ⟨RX6, "kind", "(I)I"⟩
theorem dX6_kind_0 : decode cX6_kind 0 = .ok (.aload_n 0, 1) := by decide +kernel
theorem dX6_kind_1 : decode cX6_kind 1 = .ok (.iload_n 1, 1) := by decide +kernel
theorem dX6_kind_2 : decode cX6_kind 2 = .ok (.invokevirtual 49, 3) := by decide +kernel
theorem dX6_kind_5 : decode cX6_kind 5 = .ok (.astore_n 2, 1) := by decide +kernel
theorem dX6_kind_6 : decode cX6_kind 6 = .ok (.aload_n 2, 1) := by decide +kernel
theorem dX6_kind_7 : decode cX6_kind 7 = .ok (.ifnonnull 7, 3) := by decide +kernel
theorem dX6_kind_10 : decode cX6_kind 10 = .ok (.iconst (-1), 1) := by decide +kernel
theorem dX6_kind_11 : decode cX6_kind 11 = .ok (.goto 7, 3) := by decide +kernel
theorem dX6_kind_14 : decode cX6_kind 14 = .ok (.aload_n 2, 1) := by decide +kernel
theorem dX6_kind_15 : decode cX6_kind 15 = .ok (.getfield 52, 3) := by decide +kernel
theorem dX6_kind_18 : decode cX6_kind 18 = .ok (.ireturn, 1) := by decide +kernel
abbrev cX6_at : ByteArray := prog_10_method_6_code
def yX6_at : MethodName := ⟨RX6, "at", "(I)LKnowHouse$DatatypeValues$Value;"⟩
theorem dX6_at_0 : decode cX6_at 0 = .ok (.iload_n 1, 1) := by decide +kernel
theorem dX6_at_1 : decode cX6_at 1 = .ok (.ifCond .lt 20, 3) := by decide +kernel
theorem dX6_at_4 : decode cX6_at 4 = .ok (.iload_n 1, 1) := by decide +kernel
theorem dX6_at_5 : decode cX6_at 5 = .ok (.aload_n 0, 1) := by decide +kernel
theorem dX6_at_6 : decode cX6_at 6 = .ok (.getfield 30, 3) := by decide +kernel
theorem dX6_at_9 : decode cX6_at 9 = .ok (.if_icmp .ge 12, 3) := by decide +kernel
theorem dX6_at_12 : decode cX6_at 12 = .ok (.aload_n 0, 1) := by decide +kernel
theorem dX6_at_13 : decode cX6_at 13 = .ok (.getfield 15, 3) := by decide +kernel
theorem dX6_at_16 : decode cX6_at 16 = .ok (.iload_n 1, 1) := by decide +kernel
theorem dX6_at_17 : decode cX6_at 17 = .ok (.aaload, 1) := by decide +kernel
theorem dX6_at_18 : decode cX6_at 18 = .ok (.goto 4, 3) := by decide +kernel
theorem dX6_at_21 : decode cX6_at 21 = .ok (.aconst_null, 1) := by decide +kernel
theorem dX6_at_22 : decode cX6_at 22 = .ok (.areturn, 1) := by decide +kernel
abbrev cX6_compare : ByteArray := prog_10_method_8_code
def yX6_compare : MethodName := ⟨RX6, "compare", "(II)I"⟩
theorem dX6_compare_0 : decode cX6_compare 0 = .ok (.aload_n 0, 1) := by decide +kernel
theorem dX6_compare_1 : decode cX6_compare 1 = .ok (.iload_n 1, 1) := by decide +kernel
theorem dX6_compare_2 : decode cX6_compare 2 = .ok (.invokevirtual 49, 3) := by decide +kernel
theorem dX6_compare_5 : decode cX6_compare 5 = .ok (.astore_n 3, 1) := by decide +kernel
theorem dX6_compare_6 : decode cX6_compare 6 = .ok (.aload_n 0, 1) := by decide +kernel
theorem dX6_compare_7 : decode cX6_compare 7 = .ok (.iload_n 2, 1) := by decide +kernel
theorem dX6_compare_8 : decode cX6_compare 8 = .ok (.invokevirtual 49, 3) := by decide +kernel
theorem dX6_compare_11 : decode cX6_compare 11 = .ok (.astore 4, 2) := by decide +kernel
theorem dX6_compare_13 : decode cX6_compare 13 = .ok (.aload_n 3, 1) := by decide +kernel
theorem dX6_compare_14 : decode cX6_compare 14 = .ok (.ifnull 8, 3) := by decide +kernel
theorem dX6_compare_17 : decode cX6_compare 17 = .ok (.aload 4, 2) := by decide +kernel
theorem dX6_compare_19 : decode cX6_compare 19 = .ok (.ifnonnull 7, 3) := by decide +kernel
theorem dX6_compare_22 : decode cX6_compare 22 = .ok (.iconst (-1), 1) := by decide +kernel
theorem dX6_compare_23 : decode cX6_compare 23 = .ok (.goto 9, 3) := by decide +kernel
theorem dX6_compare_26 : decode cX6_compare 26 = .ok (.aload_n 3, 1) := by decide +kernel
theorem dX6_compare_27 : decode cX6_compare 27 = .ok (.aload 4, 2) := by decide +kernel
theorem dX6_compare_29 : decode cX6_compare 29 = .ok (.invokevirtual 55, 3) := by decide +kernel
theorem dX6_compare_32 : decode cX6_compare 32 = .ok (.ireturn, 1) := by decide +kernel
abbrev cX6_part : ByteArray := prog_10_method_9_code
def yX6_part : MethodName := ⟨RX6, "part", "(II)J"⟩
theorem dX6_part_0 : decode cX6_part 0 = .ok (.aload_n 0, 1) := by decide +kernel
theorem dX6_part_1 : decode cX6_part 1 = .ok (.iload_n 1, 1) := by decide +kernel
theorem dX6_part_2 : decode cX6_part 2 = .ok (.invokevirtual 49, 3) := by decide +kernel
theorem dX6_part_5 : decode cX6_part 5 = .ok (.astore_n 3, 1) := by decide +kernel
theorem dX6_part_6 : decode cX6_part 6 = .ok (.aload_n 3, 1) := by decide +kernel
theorem dX6_part_7 : decode cX6_part 7 = .ok (.ifnonnull 7, 3) := by decide +kernel
theorem dX6_part_10 : decode cX6_part 10 = .ok (.lconst 0, 1) := by decide +kernel
theorem dX6_part_11 : decode cX6_part 11 = .ok (.goto 8, 3) := by decide +kernel
theorem dX6_part_14 : decode cX6_part 14 = .ok (.aload_n 3, 1) := by decide +kernel
theorem dX6_part_15 : decode cX6_part 15 = .ok (.iload_n 2, 1) := by decide +kernel
theorem dX6_part_16 : decode cX6_part 16 = .ok (.invokevirtual 58, 3) := by decide +kernel
theorem dX6_part_19 : decode cX6_part 19 = .ok (.lreturn, 1) := by decide +kernel
abbrev cX6_byteOf : ByteArray := prog_10_method_12_code
def yX6_byteOf : MethodName := ⟨RX6, "byteOf", "(II)I"⟩
theorem dX6_byteOf_0 : decode cX6_byteOf 0 = .ok (.aload_n 0, 1) := by decide +kernel
theorem dX6_byteOf_1 : decode cX6_byteOf 1 = .ok (.iload_n 1, 1) := by decide +kernel
theorem dX6_byteOf_2 : decode cX6_byteOf 2 = .ok (.invokevirtual 49, 3) := by decide +kernel
theorem dX6_byteOf_5 : decode cX6_byteOf 5 = .ok (.astore 4, 2) := by decide +kernel
theorem dX6_byteOf_7 : decode cX6_byteOf 7 = .ok (.aload 4, 2) := by decide +kernel
theorem dX6_byteOf_9 : decode cX6_byteOf 9 = .ok (.instanceof 71, 3) := by decide +kernel
theorem dX6_byteOf_12 : decode cX6_byteOf 12 = .ok (.ifCond .eq 35, 3) := by decide +kernel
theorem dX6_byteOf_15 : decode cX6_byteOf 15 = .ok (.aload 4, 2) := by decide +kernel
theorem dX6_byteOf_17 : decode cX6_byteOf 17 = .ok (.checkcast 71, 3) := by decide +kernel
theorem dX6_byteOf_20 : decode cX6_byteOf 20 = .ok (.astore_n 3, 1) := by decide +kernel
theorem dX6_byteOf_21 : decode cX6_byteOf 21 = .ok (.iload_n 2, 1) := by decide +kernel
theorem dX6_byteOf_22 : decode cX6_byteOf 22 = .ok (.ifCond .lt 25, 3) := by decide +kernel
theorem dX6_byteOf_25 : decode cX6_byteOf 25 = .ok (.iload_n 2, 1) := by decide +kernel
theorem dX6_byteOf_26 : decode cX6_byteOf 26 = .ok (.aload_n 3, 1) := by decide +kernel
theorem dX6_byteOf_27 : decode cX6_byteOf 27 = .ok (.getfield 73, 3) := by decide +kernel
theorem dX6_byteOf_30 : decode cX6_byteOf 30 = .ok (.arraylength, 1) := by decide +kernel
theorem dX6_byteOf_31 : decode cX6_byteOf 31 = .ok (.if_icmp .ge 16, 3) := by decide +kernel
theorem dX6_byteOf_34 : decode cX6_byteOf 34 = .ok (.aload_n 3, 1) := by decide +kernel
theorem dX6_byteOf_35 : decode cX6_byteOf 35 = .ok (.getfield 73, 3) := by decide +kernel
theorem dX6_byteOf_38 : decode cX6_byteOf 38 = .ok (.iload_n 2, 1) := by decide +kernel
theorem dX6_byteOf_39 : decode cX6_byteOf 39 = .ok (.baload, 1) := by decide +kernel
theorem dX6_byteOf_40 : decode cX6_byteOf 40 = .ok (.sipush 255, 3) := by decide +kernel
theorem dX6_byteOf_43 : decode cX6_byteOf 43 = .ok (.iand, 1) := by decide +kernel
theorem dX6_byteOf_44 : decode cX6_byteOf 44 = .ok (.goto 4, 3) := by decide +kernel
theorem dX6_byteOf_47 : decode cX6_byteOf 47 = .ok (.iconst (-1), 1) := by decide +kernel
theorem dX6_byteOf_48 : decode cX6_byteOf 48 = .ok (.ireturn, 1) := by decide +kernel
abbrev cX6_tell : ByteArray := prog_10_method_13_code
def yX6_tell : MethodName := ⟨RX6, "tell", "(I)I"⟩
theorem dX6_tell_0 : decode cX6_tell 0 = .ok (.aload_n 0, 1) := by decide +kernel
theorem dX6_tell_1 : decode cX6_tell 1 = .ok (.iload_n 1, 1) := by decide +kernel
theorem dX6_tell_2 : decode cX6_tell 2 = .ok (.invokevirtual 49, 3) := by decide +kernel
theorem dX6_tell_5 : decode cX6_tell 5 = .ok (.astore_n 2, 1) := by decide +kernel
theorem dX6_tell_6 : decode cX6_tell 6 = .ok (.aload_n 2, 1) := by decide +kernel
theorem dX6_tell_7 : decode cX6_tell 7 = .ok (.ifnonnull 5, 3) := by decide +kernel
theorem dX6_tell_10 : decode cX6_tell 10 = .ok (.iconst (-1), 1) := by decide +kernel
theorem dX6_tell_11 : decode cX6_tell 11 = .ok (.ireturn, 1) := by decide +kernel
theorem dX6_tell_12 : decode cX6_tell 12 = .ok (.aload_n 0, 1) := by decide +kernel
theorem dX6_tell_13 : decode cX6_tell 13 = .ok (.getfield 22, 3) := by decide +kernel
theorem dX6_tell_16 : decode cX6_tell 16 = .ok (.iconst 0, 1) := by decide +kernel
theorem dX6_tell_17 : decode cX6_tell 17 = .ok (.putfield 76, 3) := by decide +kernel
theorem dX6_tell_20 : decode cX6_tell 20 = .ok (.aload_n 2, 1) := by decide +kernel
theorem dX6_tell_21 : decode cX6_tell 21 = .ok (.aload_n 0, 1) := by decide +kernel
theorem dX6_tell_22 : decode cX6_tell 22 = .ok (.getfield 22, 3) := by decide +kernel
theorem dX6_tell_25 : decode cX6_tell 25 = .ok (.invokevirtual 77, 3) := by decide +kernel
theorem dX6_tell_28 : decode cX6_tell 28 = .ok (.aload_n 0, 1) := by decide +kernel
theorem dX6_tell_29 : decode cX6_tell 29 = .ok (.getfield 22, 3) := by decide +kernel
theorem dX6_tell_32 : decode cX6_tell 32 = .ok (.getfield 76, 3) := by decide +kernel
theorem dX6_tell_35 : decode cX6_tell 35 = .ok (.ireturn, 1) := by decide +kernel
abbrev cX6_told : ByteArray := prog_10_method_14_code
def yX6_told : MethodName := ⟨RX6, "told", "(I)I"⟩
theorem dX6_told_0 : decode cX6_told 0 = .ok (.iload_n 1, 1) := by decide +kernel
theorem dX6_told_1 : decode cX6_told 1 = .ok (.ifCond .lt 26, 3) := by decide +kernel
theorem dX6_told_4 : decode cX6_told 4 = .ok (.iload_n 1, 1) := by decide +kernel
theorem dX6_told_5 : decode cX6_told 5 = .ok (.aload_n 0, 1) := by decide +kernel
theorem dX6_told_6 : decode cX6_told 6 = .ok (.getfield 22, 3) := by decide +kernel
theorem dX6_told_9 : decode cX6_told 9 = .ok (.getfield 76, 3) := by decide +kernel
theorem dX6_told_12 : decode cX6_told 12 = .ok (.if_icmp .ge 15, 3) := by decide +kernel
theorem dX6_told_15 : decode cX6_told 15 = .ok (.aload_n 0, 1) := by decide +kernel
theorem dX6_told_16 : decode cX6_told 16 = .ok (.getfield 22, 3) := by decide +kernel
theorem dX6_told_19 : decode cX6_told 19 = .ok (.getfield 81, 3) := by decide +kernel
theorem dX6_told_22 : decode cX6_told 22 = .ok (.iload_n 1, 1) := by decide +kernel
theorem dX6_told_23 : decode cX6_told 23 = .ok (.baload, 1) := by decide +kernel
theorem dX6_told_24 : decode cX6_told 24 = .ok (.goto 4, 3) := by decide +kernel
theorem dX6_told_27 : decode cX6_told 27 = .ok (.iconst (-1), 1) := by decide +kernel
theorem dX6_told_28 : decode cX6_told 28 = .ok (.ireturn, 1) := by decide +kernel
abbrev cX6_apply : ByteArray := prog_10_method_18_code
def yX6_apply : MethodName := ⟨RX6, "apply", "(III)I"⟩
theorem dX6_apply_0 : decode cX6_apply 0 = .ok (.aload_n 0, 1) := by decide +kernel
theorem dX6_apply_1 : decode cX6_apply 1 = .ok (.iload_n 2, 1) := by decide +kernel
theorem dX6_apply_2 : decode cX6_apply 2 = .ok (.invokevirtual 49, 3) := by decide +kernel
theorem dX6_apply_5 : decode cX6_apply 5 = .ok (.astore 4, 2) := by decide +kernel
theorem dX6_apply_7 : decode cX6_apply 7 = .ok (.iload_n 1, 1) := by decide +kernel
theorem dX6_apply_8 : decode cX6_apply 8 = .ok (.bipush 7, 2) := by decide +kernel
theorem dX6_apply_10 : decode cX6_apply 10 = .ok (.if_icmp .ne 8, 3) := by decide +kernel
theorem dX6_apply_13 : decode cX6_apply 13 = .ok (.aload 4, 2) := by decide +kernel
theorem dX6_apply_15 : decode cX6_apply 15 = .ok (.goto 8, 3) := by decide +kernel
theorem dX6_apply_18 : decode cX6_apply 18 = .ok (.aload_n 0, 1) := by decide +kernel
theorem dX6_apply_19 : decode cX6_apply 19 = .ok (.iload_n 3, 1) := by decide +kernel
theorem dX6_apply_20 : decode cX6_apply 20 = .ok (.invokevirtual 49, 3) := by decide +kernel
theorem dX6_apply_23 : decode cX6_apply 23 = .ok (.astore 5, 2) := by decide +kernel
theorem dX6_apply_25 : decode cX6_apply 25 = .ok (.iload_n 1, 1) := by decide +kernel
theorem dX6_apply_26 : decode cX6_apply 26 = .ok (.ifCond .lt 19, 3) := by decide +kernel
theorem dX6_apply_29 : decode cX6_apply 29 = .ok (.iload_n 1, 1) := by decide +kernel
theorem dX6_apply_30 : decode cX6_apply 30 = .ok (.bipush 7, 2) := by decide +kernel
theorem dX6_apply_32 : decode cX6_apply 32 = .ok (.if_icmp .gt 13, 3) := by decide +kernel
theorem dX6_apply_35 : decode cX6_apply 35 = .ok (.aload 4, 2) := by decide +kernel
theorem dX6_apply_37 : decode cX6_apply 37 = .ok (.ifnull 8, 3) := by decide +kernel
theorem dX6_apply_40 : decode cX6_apply 40 = .ok (.aload 5, 2) := by decide +kernel
theorem dX6_apply_42 : decode cX6_apply 42 = .ok (.ifnonnull 5, 3) := by decide +kernel
theorem dX6_apply_45 : decode cX6_apply 45 = .ok (.iconst (-1), 1) := by decide +kernel
theorem dX6_apply_46 : decode cX6_apply 46 = .ok (.ireturn, 1) := by decide +kernel
theorem dX6_apply_47 : decode cX6_apply 47 = .ok (.aconst_null, 1) := by decide +kernel
theorem dX6_apply_48 : decode cX6_apply 48 = .ok (.astore 6, 2) := by decide +kernel
theorem dX6_apply_50 : decode cX6_apply 50 = .ok (.iload_n 1, 1) := by decide +kernel
theorem dX6_apply_51 : decode cX6_apply 51 = .ok (.iconst 4, 1) := by decide +kernel
theorem dX6_apply_52 : decode cX6_apply 52 = .ok (.if_icmp .ge 46, 3) := by decide +kernel
theorem dX6_apply_55 : decode cX6_apply 55 = .ok (.aload 4, 2) := by decide +kernel
theorem dX6_apply_57 : decode cX6_apply 57 = .ok (.instanceof 62, 3) := by decide +kernel
theorem dX6_apply_60 : decode cX6_apply 60 = .ok (.ifCond .eq 38, 3) := by decide +kernel
theorem dX6_apply_63 : decode cX6_apply 63 = .ok (.aload 4, 2) := by decide +kernel
theorem dX6_apply_65 : decode cX6_apply 65 = .ok (.checkcast 62, 3) := by decide +kernel
theorem dX6_apply_68 : decode cX6_apply 68 = .ok (.astore 7, 2) := by decide +kernel
theorem dX6_apply_70 : decode cX6_apply 70 = .ok (.aload 5, 2) := by decide +kernel
theorem dX6_apply_72 : decode cX6_apply 72 = .ok (.instanceof 62, 3) := by decide +kernel
theorem dX6_apply_75 : decode cX6_apply 75 = .ok (.ifCond .eq 23, 3) := by decide +kernel
theorem dX6_apply_78 : decode cX6_apply 78 = .ok (.aload 5, 2) := by decide +kernel
theorem dX6_apply_80 : decode cX6_apply 80 = .ok (.checkcast 62, 3) := by decide +kernel
theorem dX6_apply_83 : decode cX6_apply 83 = .ok (.astore 8, 2) := by decide +kernel
theorem dX6_apply_85 : decode cX6_apply 85 = .ok (.iload_n 1, 1) := by decide +kernel
theorem dX6_apply_86 : decode cX6_apply 86 = .ok (.aload 7, 2) := by decide +kernel
theorem dX6_apply_88 : decode cX6_apply 88 = .ok (.aload 8, 2) := by decide +kernel
theorem dX6_apply_90 : decode cX6_apply 90 = .ok (.invokestatic 140, 3) := by decide +kernel
theorem dX6_apply_93 : decode cX6_apply 93 = .ok (.astore 6, 2) := by decide +kernel
theorem dX6_apply_95 : decode cX6_apply 95 = .ok (.goto 195, 3) := by decide +kernel
theorem dX6_apply_98 : decode cX6_apply 98 = .ok (.iload_n 1, 1) := by decide +kernel
theorem dX6_apply_99 : decode cX6_apply 99 = .ok (.iconst 4, 1) := by decide +kernel
theorem dX6_apply_100 : decode cX6_apply 100 = .ok (.if_icmp .ne 45, 3) := by decide +kernel
theorem dX6_apply_103 : decode cX6_apply 103 = .ok (.aload 4, 2) := by decide +kernel
theorem dX6_apply_105 : decode cX6_apply 105 = .ok (.instanceof 100, 3) := by decide +kernel
theorem dX6_apply_108 : decode cX6_apply 108 = .ok (.ifCond .eq 37, 3) := by decide +kernel
theorem dX6_apply_111 : decode cX6_apply 111 = .ok (.aload 4, 2) := by decide +kernel
theorem dX6_apply_113 : decode cX6_apply 113 = .ok (.checkcast 100, 3) := by decide +kernel
theorem dX6_apply_116 : decode cX6_apply 116 = .ok (.astore 9, 2) := by decide +kernel
theorem dX6_apply_118 : decode cX6_apply 118 = .ok (.aload 5, 2) := by decide +kernel
theorem dX6_apply_120 : decode cX6_apply 120 = .ok (.instanceof 105, 3) := by decide +kernel
theorem dX6_apply_123 : decode cX6_apply 123 = .ok (.ifCond .eq 22, 3) := by decide +kernel
theorem dX6_apply_126 : decode cX6_apply 126 = .ok (.aload 5, 2) := by decide +kernel
theorem dX6_apply_128 : decode cX6_apply 128 = .ok (.checkcast 105, 3) := by decide +kernel
theorem dX6_apply_131 : decode cX6_apply 131 = .ok (.astore 10, 2) := by decide +kernel
theorem dX6_apply_133 : decode cX6_apply 133 = .ok (.aload 9, 2) := by decide +kernel
theorem dX6_apply_135 : decode cX6_apply 135 = .ok (.aload 10, 2) := by decide +kernel
theorem dX6_apply_137 : decode cX6_apply 137 = .ok (.invokestatic 144, 3) := by decide +kernel
theorem dX6_apply_140 : decode cX6_apply 140 = .ok (.astore 6, 2) := by decide +kernel
theorem dX6_apply_142 : decode cX6_apply 142 = .ok (.goto 148, 3) := by decide +kernel
theorem dX6_apply_145 : decode cX6_apply 145 = .ok (.iload_n 1, 1) := by decide +kernel
theorem dX6_apply_146 : decode cX6_apply 146 = .ok (.iconst 5, 1) := by decide +kernel
theorem dX6_apply_147 : decode cX6_apply 147 = .ok (.if_icmp .ne 39, 3) := by decide +kernel
theorem dX6_apply_150 : decode cX6_apply 150 = .ok (.aload 4, 2) := by decide +kernel
theorem dX6_apply_152 : decode cX6_apply 152 = .ok (.getfield 52, 3) := by decide +kernel
theorem dX6_apply_155 : decode cX6_apply 155 = .ok (.iconst 5, 1) := by decide +kernel
theorem dX6_apply_156 : decode cX6_apply 156 = .ok (.if_icmp .ne 30, 3) := by decide +kernel
theorem dX6_apply_159 : decode cX6_apply 159 = .ok (.aload 5, 2) := by decide +kernel
theorem dX6_apply_161 : decode cX6_apply 161 = .ok (.getfield 52, 3) := by decide +kernel
theorem dX6_apply_164 : decode cX6_apply 164 = .ok (.iconst 5, 1) := by decide +kernel
theorem dX6_apply_165 : decode cX6_apply 165 = .ok (.if_icmp .ne 21, 3) := by decide +kernel
theorem dX6_apply_168 : decode cX6_apply 168 = .ok (.aload 4, 2) := by decide +kernel
theorem dX6_apply_170 : decode cX6_apply 170 = .ok (.checkcast 100, 3) := by decide +kernel
theorem dX6_apply_173 : decode cX6_apply 173 = .ok (.aload 5, 2) := by decide +kernel
theorem dX6_apply_175 : decode cX6_apply 175 = .ok (.checkcast 100, 3) := by decide +kernel
theorem dX6_apply_178 : decode cX6_apply 178 = .ok (.invokestatic 148, 3) := by decide +kernel
theorem dX6_apply_181 : decode cX6_apply 181 = .ok (.astore 6, 2) := by decide +kernel
theorem dX6_apply_183 : decode cX6_apply 183 = .ok (.goto 107, 3) := by decide +kernel
theorem dX6_apply_186 : decode cX6_apply 186 = .ok (.iload_n 1, 1) := by decide +kernel
theorem dX6_apply_187 : decode cX6_apply 187 = .ok (.bipush 6, 2) := by decide +kernel
theorem dX6_apply_189 : decode cX6_apply 189 = .ok (.if_icmp .ne 63, 3) := by decide +kernel
theorem dX6_apply_192 : decode cX6_apply 192 = .ok (.aload 4, 2) := by decide +kernel
theorem dX6_apply_194 : decode cX6_apply 194 = .ok (.instanceof 105, 3) := by decide +kernel
theorem dX6_apply_197 : decode cX6_apply 197 = .ok (.ifCond .eq 55, 3) := by decide +kernel
theorem dX6_apply_200 : decode cX6_apply 200 = .ok (.aload 4, 2) := by decide +kernel
theorem dX6_apply_202 : decode cX6_apply 202 = .ok (.checkcast 105, 3) := by decide +kernel
theorem dX6_apply_205 : decode cX6_apply 205 = .ok (.astore 11, 2) := by decide +kernel
theorem dX6_apply_207 : decode cX6_apply 207 = .ok (.aload 5, 2) := by decide +kernel
theorem dX6_apply_209 : decode cX6_apply 209 = .ok (.instanceof 105, 3) := by decide +kernel
theorem dX6_apply_212 : decode cX6_apply 212 = .ok (.ifCond .eq 40, 3) := by decide +kernel
theorem dX6_apply_215 : decode cX6_apply 215 = .ok (.aload 5, 2) := by decide +kernel
theorem dX6_apply_217 : decode cX6_apply 217 = .ok (.checkcast 105, 3) := by decide +kernel
theorem dX6_apply_220 : decode cX6_apply 220 = .ok (.astore 12, 2) := by decide +kernel
theorem dX6_apply_222 : decode cX6_apply 222 = .ok (.aload 11, 2) := by decide +kernel
theorem dX6_apply_224 : decode cX6_apply 224 = .ok (.getfield 114, 3) := by decide +kernel
theorem dX6_apply_227 : decode cX6_apply 227 = .ok (.aload 12, 2) := by decide +kernel
theorem dX6_apply_229 : decode cX6_apply 229 = .ok (.getfield 114, 3) := by decide +kernel
theorem dX6_apply_232 : decode cX6_apply 232 = .ok (.ladd, 1) := by decide +kernel
theorem dX6_apply_233 : decode cX6_apply 233 = .ok (.aload 11, 2) := by decide +kernel
theorem dX6_apply_235 : decode cX6_apply 235 = .ok (.getfield 104, 3) := by decide +kernel
theorem dX6_apply_238 : decode cX6_apply 238 = .ok (.aload 12, 2) := by decide +kernel
theorem dX6_apply_240 : decode cX6_apply 240 = .ok (.getfield 104, 3) := by decide +kernel
theorem dX6_apply_243 : decode cX6_apply 243 = .ok (.ladd, 1) := by decide +kernel
theorem dX6_apply_244 : decode cX6_apply 244 = .ok (.invokestatic 152, 3) := by decide +kernel
theorem dX6_apply_247 : decode cX6_apply 247 = .ok (.astore 6, 2) := by decide +kernel
theorem dX6_apply_249 : decode cX6_apply 249 = .ok (.goto 41, 3) := by decide +kernel
theorem dX6_apply_252 : decode cX6_apply 252 = .ok (.iload_n 1, 1) := by decide +kernel
theorem dX6_apply_253 : decode cX6_apply 253 = .ok (.bipush 7, 2) := by decide +kernel
theorem dX6_apply_255 : decode cX6_apply 255 = .ok (.if_icmp .ne 35, 3) := by decide +kernel
theorem dX6_apply_258 : decode cX6_apply 258 = .ok (.aload 4, 2) := by decide +kernel
theorem dX6_apply_260 : decode cX6_apply 260 = .ok (.instanceof 105, 3) := by decide +kernel
theorem dX6_apply_263 : decode cX6_apply 263 = .ok (.ifCond .eq 27, 3) := by decide +kernel
theorem dX6_apply_266 : decode cX6_apply 266 = .ok (.aload 4, 2) := by decide +kernel
theorem dX6_apply_268 : decode cX6_apply 268 = .ok (.checkcast 105, 3) := by decide +kernel
theorem dX6_apply_271 : decode cX6_apply 271 = .ok (.astore 13, 2) := by decide +kernel
theorem dX6_apply_273 : decode cX6_apply 273 = .ok (.aload 13, 2) := by decide +kernel
theorem dX6_apply_275 : decode cX6_apply 275 = .ok (.getfield 114, 3) := by decide +kernel
theorem dX6_apply_278 : decode cX6_apply 278 = .ok (.lneg, 1) := by decide +kernel
theorem dX6_apply_279 : decode cX6_apply 279 = .ok (.aload 13, 2) := by decide +kernel
theorem dX6_apply_281 : decode cX6_apply 281 = .ok (.getfield 104, 3) := by decide +kernel
theorem dX6_apply_284 : decode cX6_apply 284 = .ok (.lneg, 1) := by decide +kernel
theorem dX6_apply_285 : decode cX6_apply 285 = .ok (.invokestatic 152, 3) := by decide +kernel
theorem dX6_apply_288 : decode cX6_apply 288 = .ok (.astore 6, 2) := by decide +kernel
theorem dX6_apply_290 : decode cX6_apply 290 = .ok (.aload_n 0, 1) := by decide +kernel
theorem dX6_apply_291 : decode cX6_apply 291 = .ok (.aload 6, 2) := by decide +kernel
theorem dX6_apply_293 : decode cX6_apply 293 = .ok (.invokevirtual 45, 3) := by decide +kernel
theorem dX6_apply_296 : decode cX6_apply 296 = .ok (.ireturn, 1) := by decide +kernel
abbrev cX6_reckon : ByteArray := prog_10_method_15_code
def yX6_reckon : MethodName := ⟨RX6, "reckon", "(ILKnowHouse$DatatypeValues$Number;LKnowHouse$DatatypeValues$Number;)LKnowHouse$DatatypeValues$Value;"⟩
theorem dX6_reckon_0 : decode cX6_reckon 0 = .ok (.iload_n 0, 1) := by decide +kernel
theorem dX6_reckon_1 : decode cX6_reckon 1 = .ok (.tableswitch 119 0 2 #[27, 61, 95], 27) := by decide +kernel
theorem dX6_reckon_28 : decode cX6_reckon 28 = .ok (.aload_n 1, 1) := by decide +kernel
theorem dX6_reckon_29 : decode cX6_reckon 29 = .ok (.getfield 64, 3) := by decide +kernel
theorem dX6_reckon_32 : decode cX6_reckon 32 = .ok (.aload_n 2, 1) := by decide +kernel
theorem dX6_reckon_33 : decode cX6_reckon 33 = .ok (.getfield 68, 3) := by decide +kernel
theorem dX6_reckon_36 : decode cX6_reckon 36 = .ok (.lmul, 1) := by decide +kernel
theorem dX6_reckon_37 : decode cX6_reckon 37 = .ok (.aload_n 2, 1) := by decide +kernel
theorem dX6_reckon_38 : decode cX6_reckon 38 = .ok (.getfield 64, 3) := by decide +kernel
theorem dX6_reckon_41 : decode cX6_reckon 41 = .ok (.aload_n 1, 1) := by decide +kernel
theorem dX6_reckon_42 : decode cX6_reckon 42 = .ok (.getfield 68, 3) := by decide +kernel
theorem dX6_reckon_45 : decode cX6_reckon 45 = .ok (.lmul, 1) := by decide +kernel
theorem dX6_reckon_46 : decode cX6_reckon 46 = .ok (.ladd, 1) := by decide +kernel
theorem dX6_reckon_47 : decode cX6_reckon 47 = .ok (.lstore_n 3, 1) := by decide +kernel
theorem dX6_reckon_48 : decode cX6_reckon 48 = .ok (.aload_n 1, 1) := by decide +kernel
theorem dX6_reckon_49 : decode cX6_reckon 49 = .ok (.getfield 68, 3) := by decide +kernel
theorem dX6_reckon_52 : decode cX6_reckon 52 = .ok (.aload_n 2, 1) := by decide +kernel
theorem dX6_reckon_53 : decode cX6_reckon 53 = .ok (.getfield 68, 3) := by decide +kernel
theorem dX6_reckon_56 : decode cX6_reckon 56 = .ok (.lmul, 1) := by decide +kernel
theorem dX6_reckon_57 : decode cX6_reckon 57 = .ok (.lstore 5, 2) := by decide +kernel
theorem dX6_reckon_59 : decode cX6_reckon 59 = .ok (.goto 105, 3) := by decide +kernel
theorem dX6_reckon_62 : decode cX6_reckon 62 = .ok (.aload_n 1, 1) := by decide +kernel
theorem dX6_reckon_63 : decode cX6_reckon 63 = .ok (.getfield 64, 3) := by decide +kernel
theorem dX6_reckon_66 : decode cX6_reckon 66 = .ok (.aload_n 2, 1) := by decide +kernel
theorem dX6_reckon_67 : decode cX6_reckon 67 = .ok (.getfield 68, 3) := by decide +kernel
theorem dX6_reckon_70 : decode cX6_reckon 70 = .ok (.lmul, 1) := by decide +kernel
theorem dX6_reckon_71 : decode cX6_reckon 71 = .ok (.aload_n 2, 1) := by decide +kernel
theorem dX6_reckon_72 : decode cX6_reckon 72 = .ok (.getfield 64, 3) := by decide +kernel
theorem dX6_reckon_75 : decode cX6_reckon 75 = .ok (.aload_n 1, 1) := by decide +kernel
theorem dX6_reckon_76 : decode cX6_reckon 76 = .ok (.getfield 68, 3) := by decide +kernel
theorem dX6_reckon_79 : decode cX6_reckon 79 = .ok (.lmul, 1) := by decide +kernel
theorem dX6_reckon_80 : decode cX6_reckon 80 = .ok (.lsub, 1) := by decide +kernel
theorem dX6_reckon_81 : decode cX6_reckon 81 = .ok (.lstore_n 3, 1) := by decide +kernel
theorem dX6_reckon_82 : decode cX6_reckon 82 = .ok (.aload_n 1, 1) := by decide +kernel
theorem dX6_reckon_83 : decode cX6_reckon 83 = .ok (.getfield 68, 3) := by decide +kernel
theorem dX6_reckon_86 : decode cX6_reckon 86 = .ok (.aload_n 2, 1) := by decide +kernel
theorem dX6_reckon_87 : decode cX6_reckon 87 = .ok (.getfield 68, 3) := by decide +kernel
theorem dX6_reckon_90 : decode cX6_reckon 90 = .ok (.lmul, 1) := by decide +kernel
theorem dX6_reckon_91 : decode cX6_reckon 91 = .ok (.lstore 5, 2) := by decide +kernel
theorem dX6_reckon_93 : decode cX6_reckon 93 = .ok (.goto 71, 3) := by decide +kernel
theorem dX6_reckon_96 : decode cX6_reckon 96 = .ok (.aload_n 1, 1) := by decide +kernel
theorem dX6_reckon_97 : decode cX6_reckon 97 = .ok (.getfield 64, 3) := by decide +kernel
theorem dX6_reckon_100 : decode cX6_reckon 100 = .ok (.aload_n 2, 1) := by decide +kernel
theorem dX6_reckon_101 : decode cX6_reckon 101 = .ok (.getfield 64, 3) := by decide +kernel
theorem dX6_reckon_104 : decode cX6_reckon 104 = .ok (.lmul, 1) := by decide +kernel
theorem dX6_reckon_105 : decode cX6_reckon 105 = .ok (.lstore_n 3, 1) := by decide +kernel
theorem dX6_reckon_106 : decode cX6_reckon 106 = .ok (.aload_n 1, 1) := by decide +kernel
theorem dX6_reckon_107 : decode cX6_reckon 107 = .ok (.getfield 68, 3) := by decide +kernel
theorem dX6_reckon_110 : decode cX6_reckon 110 = .ok (.aload_n 2, 1) := by decide +kernel
theorem dX6_reckon_111 : decode cX6_reckon 111 = .ok (.getfield 68, 3) := by decide +kernel
theorem dX6_reckon_114 : decode cX6_reckon 114 = .ok (.lmul, 1) := by decide +kernel
theorem dX6_reckon_115 : decode cX6_reckon 115 = .ok (.lstore 5, 2) := by decide +kernel
theorem dX6_reckon_117 : decode cX6_reckon 117 = .ok (.goto 47, 3) := by decide +kernel
theorem dX6_reckon_120 : decode cX6_reckon 120 = .ok (.aload_n 2, 1) := by decide +kernel
theorem dX6_reckon_121 : decode cX6_reckon 121 = .ok (.getfield 64, 3) := by decide +kernel
theorem dX6_reckon_124 : decode cX6_reckon 124 = .ok (.lconst 0, 1) := by decide +kernel
theorem dX6_reckon_125 : decode cX6_reckon 125 = .ok (.lcmp, 1) := by decide +kernel
theorem dX6_reckon_126 : decode cX6_reckon 126 = .ok (.ifCond .ne 5, 3) := by decide +kernel
theorem dX6_reckon_129 : decode cX6_reckon 129 = .ok (.aconst_null, 1) := by decide +kernel
theorem dX6_reckon_130 : decode cX6_reckon 130 = .ok (.areturn, 1) := by decide +kernel
theorem dX6_reckon_131 : decode cX6_reckon 131 = .ok (.aload_n 1, 1) := by decide +kernel
theorem dX6_reckon_132 : decode cX6_reckon 132 = .ok (.getfield 64, 3) := by decide +kernel
theorem dX6_reckon_135 : decode cX6_reckon 135 = .ok (.aload_n 2, 1) := by decide +kernel
theorem dX6_reckon_136 : decode cX6_reckon 136 = .ok (.getfield 68, 3) := by decide +kernel
theorem dX6_reckon_139 : decode cX6_reckon 139 = .ok (.lmul, 1) := by decide +kernel
theorem dX6_reckon_140 : decode cX6_reckon 140 = .ok (.aload_n 2, 1) := by decide +kernel
theorem dX6_reckon_141 : decode cX6_reckon 141 = .ok (.getfield 64, 3) := by decide +kernel
theorem dX6_reckon_144 : decode cX6_reckon 144 = .ok (.invokestatic 82, 3) := by decide +kernel
theorem dX6_reckon_147 : decode cX6_reckon 147 = .ok (.i2l, 1) := by decide +kernel
theorem dX6_reckon_148 : decode cX6_reckon 148 = .ok (.lmul, 1) := by decide +kernel
theorem dX6_reckon_149 : decode cX6_reckon 149 = .ok (.lstore_n 3, 1) := by decide +kernel
theorem dX6_reckon_150 : decode cX6_reckon 150 = .ok (.aload_n 1, 1) := by decide +kernel
theorem dX6_reckon_151 : decode cX6_reckon 151 = .ok (.getfield 68, 3) := by decide +kernel
theorem dX6_reckon_154 : decode cX6_reckon 154 = .ok (.aload_n 2, 1) := by decide +kernel
theorem dX6_reckon_155 : decode cX6_reckon 155 = .ok (.getfield 64, 3) := by decide +kernel
theorem dX6_reckon_158 : decode cX6_reckon 158 = .ok (.invokestatic 88, 3) := by decide +kernel
theorem dX6_reckon_161 : decode cX6_reckon 161 = .ok (.lmul, 1) := by decide +kernel
theorem dX6_reckon_162 : decode cX6_reckon 162 = .ok (.lstore 5, 2) := by decide +kernel
theorem dX6_reckon_164 : decode cX6_reckon 164 = .ok (.new 62, 3) := by decide +kernel
theorem dX6_reckon_167 : decode cX6_reckon 167 = .ok (.dup, 1) := by decide +kernel
theorem dX6_reckon_168 : decode cX6_reckon 168 = .ok (.iconst 2, 1) := by decide +kernel
theorem dX6_reckon_169 : decode cX6_reckon 169 = .ok (.lload_n 3, 1) := by decide +kernel
theorem dX6_reckon_170 : decode cX6_reckon 170 = .ok (.lload 5, 2) := by decide +kernel
theorem dX6_reckon_172 : decode cX6_reckon 172 = .ok (.invokespecial 94, 3) := by decide +kernel
theorem dX6_reckon_175 : decode cX6_reckon 175 = .ok (.astore 7, 2) := by decide +kernel
theorem dX6_reckon_177 : decode cX6_reckon 177 = .ok (.aload 7, 2) := by decide +kernel
theorem dX6_reckon_179 : decode cX6_reckon 179 = .ok (.getfield 64, 3) := by decide +kernel
theorem dX6_reckon_182 : decode cX6_reckon 182 = .ok (.invokestatic 88, 3) := by decide +kernel
theorem dX6_reckon_185 : decode cX6_reckon 185 = .ok (.ldc2_w 97, 3) := by decide +kernel
theorem dX6_reckon_188 : decode cX6_reckon 188 = .ok (.lcmp, 1) := by decide +kernel
theorem dX6_reckon_189 : decode cX6_reckon 189 = .ok (.ifCond .ge 20, 3) := by decide +kernel
theorem dX6_reckon_192 : decode cX6_reckon 192 = .ok (.aload 7, 2) := by decide +kernel
theorem dX6_reckon_194 : decode cX6_reckon 194 = .ok (.getfield 68, 3) := by decide +kernel
theorem dX6_reckon_197 : decode cX6_reckon 197 = .ok (.ldc2_w 97, 3) := by decide +kernel
theorem dX6_reckon_200 : decode cX6_reckon 200 = .ok (.lcmp, 1) := by decide +kernel
theorem dX6_reckon_201 : decode cX6_reckon 201 = .ok (.ifCond .ge 8, 3) := by decide +kernel
theorem dX6_reckon_204 : decode cX6_reckon 204 = .ok (.aload 7, 2) := by decide +kernel
theorem dX6_reckon_206 : decode cX6_reckon 206 = .ok (.goto 4, 3) := by decide +kernel
theorem dX6_reckon_209 : decode cX6_reckon 209 = .ok (.aconst_null, 1) := by decide +kernel
theorem dX6_reckon_210 : decode cX6_reckon 210 = .ok (.areturn, 1) := by decide +kernel
abbrev cX6_added : ByteArray := prog_10_method_16_code
def yX6_added : MethodName := ⟨RX6, "added", "(LKnowHouse$DatatypeValues$Time;LKnowHouse$DatatypeValues$Span;)LKnowHouse$DatatypeValues$Value;"⟩
theorem dX6_added_0 : decode cX6_added 0 = .ok (.aload_n 0, 1) := by decide +kernel
theorem dX6_added_1 : decode cX6_added 1 = .ok (.getfield 99, 3) := by decide +kernel
theorem dX6_added_4 : decode cX6_added 4 = .ok (.iconst 4, 1) := by decide +kernel
theorem dX6_added_5 : decode cX6_added 5 = .ok (.if_icmp .ne 20, 3) := by decide +kernel
theorem dX6_added_8 : decode cX6_added 8 = .ok (.ldc2_w 102, 3) := by decide +kernel
theorem dX6_added_11 : decode cX6_added 11 = .ok (.aload_n 1, 1) := by decide +kernel
theorem dX6_added_12 : decode cX6_added 12 = .ok (.getfield 104, 3) := by decide +kernel
theorem dX6_added_15 : decode cX6_added 15 = .ok (.ldc2_w 102, 3) := by decide +kernel
theorem dX6_added_18 : decode cX6_added 18 = .ok (.invokestatic 109, 3) := by decide +kernel
theorem dX6_added_21 : decode cX6_added 21 = .ok (.lmul, 1) := by decide +kernel
theorem dX6_added_22 : decode cX6_added 22 = .ok (.goto 7, 3) := by decide +kernel
theorem dX6_added_25 : decode cX6_added 25 = .ok (.aload_n 1, 1) := by decide +kernel
theorem dX6_added_26 : decode cX6_added 26 = .ok (.getfield 104, 3) := by decide +kernel
theorem dX6_added_29 : decode cX6_added 29 = .ok (.lstore_n 2, 1) := by decide +kernel
theorem dX6_added_30 : decode cX6_added 30 = .ok (.aload_n 0, 1) := by decide +kernel
theorem dX6_added_31 : decode cX6_added 31 = .ok (.getfield 113, 3) := by decide +kernel
theorem dX6_added_34 : decode cX6_added 34 = .ok (.aload_n 1, 1) := by decide +kernel
theorem dX6_added_35 : decode cX6_added 35 = .ok (.getfield 114, 3) := by decide +kernel
theorem dX6_added_38 : decode cX6_added 38 = .ok (.lload_n 2, 1) := by decide +kernel
theorem dX6_added_39 : decode cX6_added 39 = .ok (.invokestatic 117, 3) := by decide +kernel
theorem dX6_added_42 : decode cX6_added 42 = .ok (.lstore 4, 2) := by decide +kernel
theorem dX6_added_44 : decode cX6_added 44 = .ok (.lload 4, 2) := by decide +kernel
theorem dX6_added_46 : decode cX6_added 46 = .ok (.ldc2_w 102, 3) := by decide +kernel
theorem dX6_added_49 : decode cX6_added 49 = .ok (.lconst 1, 1) := by decide +kernel
theorem dX6_added_50 : decode cX6_added 50 = .ok (.iconst 1, 1) := by decide +kernel
theorem dX6_added_51 : decode cX6_added 51 = .ok (.iconst 1, 1) := by decide +kernel
theorem dX6_added_52 : decode cX6_added 52 = .ok (.invokestatic 123, 3) := by decide +kernel
theorem dX6_added_55 : decode cX6_added 55 = .ok (.lmul, 1) := by decide +kernel
theorem dX6_added_56 : decode cX6_added 56 = .ok (.lcmp, 1) := by decide +kernel
theorem dX6_added_57 : decode cX6_added 57 = .ok (.ifCond .lt 25, 3) := by decide +kernel
theorem dX6_added_60 : decode cX6_added 60 = .ok (.lload 4, 2) := by decide +kernel
theorem dX6_added_62 : decode cX6_added 62 = .ok (.ldc2_w 102, 3) := by decide +kernel
theorem dX6_added_65 : decode cX6_added 65 = .ok (.ldc2_w 127, 3) := by decide +kernel
theorem dX6_added_68 : decode cX6_added 68 = .ok (.iconst 1, 1) := by decide +kernel
theorem dX6_added_69 : decode cX6_added 69 = .ok (.iconst 1, 1) := by decide +kernel
theorem dX6_added_70 : decode cX6_added 70 = .ok (.invokestatic 123, 3) := by decide +kernel
theorem dX6_added_73 : decode cX6_added 73 = .ok (.lmul, 1) := by decide +kernel
theorem dX6_added_74 : decode cX6_added 74 = .ok (.lcmp, 1) := by decide +kernel
theorem dX6_added_75 : decode cX6_added 75 = .ok (.ifCond .ge 7, 3) := by decide +kernel
theorem dX6_added_78 : decode cX6_added 78 = .ok (.iconst 1, 1) := by decide +kernel
theorem dX6_added_79 : decode cX6_added 79 = .ok (.goto 4, 3) := by decide +kernel
theorem dX6_added_82 : decode cX6_added 82 = .ok (.iconst 0, 1) := by decide +kernel
theorem dX6_added_83 : decode cX6_added 83 = .ok (.istore 6, 2) := by decide +kernel
theorem dX6_added_85 : decode cX6_added 85 = .ok (.iload 6, 2) := by decide +kernel
theorem dX6_added_87 : decode cX6_added 87 = .ok (.ifCond .eq 23, 3) := by decide +kernel
theorem dX6_added_90 : decode cX6_added 90 = .ok (.new 100, 3) := by decide +kernel
theorem dX6_added_93 : decode cX6_added 93 = .ok (.dup, 1) := by decide +kernel
theorem dX6_added_94 : decode cX6_added 94 = .ok (.aload_n 0, 1) := by decide +kernel
theorem dX6_added_95 : decode cX6_added 95 = .ok (.getfield 99, 3) := by decide +kernel
theorem dX6_added_98 : decode cX6_added 98 = .ok (.lload 4, 2) := by decide +kernel
theorem dX6_added_100 : decode cX6_added 100 = .ok (.aload_n 0, 1) := by decide +kernel
theorem dX6_added_101 : decode cX6_added 101 = .ok (.getfield 129, 3) := by decide +kernel
theorem dX6_added_104 : decode cX6_added 104 = .ok (.invokespecial 132, 3) := by decide +kernel
theorem dX6_added_107 : decode cX6_added 107 = .ok (.goto 4, 3) := by decide +kernel
theorem dX6_added_110 : decode cX6_added 110 = .ok (.aconst_null, 1) := by decide +kernel
theorem dX6_added_111 : decode cX6_added 111 = .ok (.areturn, 1) := by decide +kernel
abbrev cX6_between : ByteArray := prog_10_method_19_code
def yX6_between : MethodName := ⟨RX6, "between", "(LKnowHouse$DatatypeValues$Time;LKnowHouse$DatatypeValues$Time;)LKnowHouse$DatatypeValues$Value;"⟩
theorem dX6_between_0 : decode cX6_between 0 = .ok (.aload_n 0, 1) := by decide +kernel
theorem dX6_between_1 : decode cX6_between 1 = .ok (.getfield 129, 3) := by decide +kernel
theorem dX6_between_4 : decode cX6_between 4 = .ok (.sipush 10000, 3) := by decide +kernel
theorem dX6_between_7 : decode cX6_between 7 = .ok (.if_icmp .ne 7, 3) := by decide +kernel
theorem dX6_between_10 : decode cX6_between 10 = .ok (.iconst 1, 1) := by decide +kernel
theorem dX6_between_11 : decode cX6_between 11 = .ok (.goto 4, 3) := by decide +kernel
theorem dX6_between_14 : decode cX6_between 14 = .ok (.iconst 0, 1) := by decide +kernel
theorem dX6_between_15 : decode cX6_between 15 = .ok (.aload_n 1, 1) := by decide +kernel
theorem dX6_between_16 : decode cX6_between 16 = .ok (.getfield 129, 3) := by decide +kernel
theorem dX6_between_19 : decode cX6_between 19 = .ok (.sipush 10000, 3) := by decide +kernel
theorem dX6_between_22 : decode cX6_between 22 = .ok (.if_icmp .ne 7, 3) := by decide +kernel
theorem dX6_between_25 : decode cX6_between 25 = .ok (.iconst 1, 1) := by decide +kernel
theorem dX6_between_26 : decode cX6_between 26 = .ok (.goto 4, 3) := by decide +kernel
theorem dX6_between_29 : decode cX6_between 29 = .ok (.iconst 0, 1) := by decide +kernel
theorem dX6_between_30 : decode cX6_between 30 = .ok (.if_icmp .eq 7, 3) := by decide +kernel
theorem dX6_between_33 : decode cX6_between 33 = .ok (.aconst_null, 1) := by decide +kernel
theorem dX6_between_34 : decode cX6_between 34 = .ok (.goto 16, 3) := by decide +kernel
theorem dX6_between_37 : decode cX6_between 37 = .ok (.lconst 0, 1) := by decide +kernel
theorem dX6_between_38 : decode cX6_between 38 = .ok (.aload_n 0, 1) := by decide +kernel
theorem dX6_between_39 : decode cX6_between 39 = .ok (.invokevirtual 156, 3) := by decide +kernel
theorem dX6_between_42 : decode cX6_between 42 = .ok (.aload_n 1, 1) := by decide +kernel
theorem dX6_between_43 : decode cX6_between 43 = .ok (.invokevirtual 156, 3) := by decide +kernel
theorem dX6_between_46 : decode cX6_between 46 = .ok (.lsub, 1) := by decide +kernel
theorem dX6_between_47 : decode cX6_between 47 = .ok (.invokestatic 152, 3) := by decide +kernel
theorem dX6_between_50 : decode cX6_between 50 = .ok (.areturn, 1) := by decide +kernel
abbrev cX6_span : ByteArray := prog_10_method_17_code
def yX6_span : MethodName := ⟨RX6, "span", "(JJ)LKnowHouse$DatatypeValues$Value;"⟩
theorem dX6_span_0 : decode cX6_span 0 = .ok (.lload_n 0, 1) := by decide +kernel
theorem dX6_span_1 : decode cX6_span 1 = .ok (.invokestatic 88, 3) := by decide +kernel
theorem dX6_span_4 : decode cX6_span 4 = .ok (.ldc2_w 97, 3) := by decide +kernel
theorem dX6_span_7 : decode cX6_span 7 = .ok (.lcmp, 1) := by decide +kernel
theorem dX6_span_8 : decode cX6_span 8 = .ok (.ifCond .ge 26, 3) := by decide +kernel
theorem dX6_span_11 : decode cX6_span 11 = .ok (.lload_n 2, 1) := by decide +kernel
theorem dX6_span_12 : decode cX6_span 12 = .ok (.invokestatic 88, 3) := by decide +kernel
theorem dX6_span_15 : decode cX6_span 15 = .ok (.ldc2_w 135, 3) := by decide +kernel
theorem dX6_span_18 : decode cX6_span 18 = .ok (.lcmp, 1) := by decide +kernel
theorem dX6_span_19 : decode cX6_span 19 = .ok (.ifCond .ge 15, 3) := by decide +kernel
theorem dX6_span_22 : decode cX6_span 22 = .ok (.new 105, 3) := by decide +kernel
theorem dX6_span_25 : decode cX6_span 25 = .ok (.dup, 1) := by decide +kernel
theorem dX6_span_26 : decode cX6_span 26 = .ok (.lload_n 0, 1) := by decide +kernel
theorem dX6_span_27 : decode cX6_span 27 = .ok (.lload_n 2, 1) := by decide +kernel
theorem dX6_span_28 : decode cX6_span 28 = .ok (.invokespecial 137, 3) := by decide +kernel
theorem dX6_span_31 : decode cX6_span 31 = .ok (.goto 4, 3) := by decide +kernel
theorem dX6_span_34 : decode cX6_span 34 = .ok (.aconst_null, 1) := by decide +kernel
theorem dX6_span_35 : decode cX6_span 35 = .ok (.areturn, 1) := by decide +kernel
theorem in_X6 : ∀ w ∈ wsX60, w ∈ lw_all := lw_in wsX60 [900, 902, 904, 906, 908] (by decide +kernel) (by decide +kernel)
def RX7 : String := "KnowHouse$DatatypeValues$Writer"
def TX7 : u_T := fun k => match k with
  | 0 => ("KnowHouse$DatatypeValues$Writer", "bytes", "[B", true)
  | _ => ("KnowHouse$DatatypeValues$Writer", "size", "I", false)
def tyX7 : Nat → FieldType := fun k => match k with
  | 0 => .array .byte
  | _ => .int
abbrev wsX70 : List Cond := u_ws RX7 TX7 2
theorem nmX7 : ∀ a, a < 2 → ∀ b, b < 2 → a ≠ b → (TX7 a).2.1 ≠ (TX7 b).2.1 := by decide +kernel
theorem tyX7_ok : ∀ k, k < 2 → parseFieldDescriptor (TX7 k).2.2.1 = some (tyX7 k) := by decide +kernel
abbrev cX7_init : ByteArray := prog_19_method_1_code
def yX7_init : MethodName := ⟨RX7, "<init>", "()V"⟩
theorem dX7_init_0 : decode cX7_init 0 = .ok (.aload_n 0, 1) := by decide +kernel
theorem dX7_init_1 : decode cX7_init 1 = .ok (.invokespecial 1, 3) := by decide +kernel
theorem dX7_init_4 : decode cX7_init 4 = .ok (.aload_n 0, 1) := by decide +kernel
theorem dX7_init_5 : decode cX7_init 5 = .ok (.bipush 80, 2) := by decide +kernel
theorem dX7_init_7 : decode cX7_init 7 = .ok (.newarray .byte, 2) := by decide +kernel
theorem dX7_init_9 : decode cX7_init 9 = .ok (.putfield 7, 3) := by decide +kernel
theorem dX7_init_12 : decode cX7_init 12 = .ok (.return_, 1) := by decide +kernel
abbrev cX7_number : ByteArray := prog_19_method_4_code
def yX7_number : MethodName := ⟨RX7, "number", "(JI)V"⟩
theorem dX7_number_0 : decode cX7_number 0 = .ok (.lload_n 1, 1) := by decide +kernel
theorem dX7_number_1 : decode cX7_number 1 = .ok (.lconst 0, 1) := by decide +kernel
theorem dX7_number_2 : decode cX7_number 2 = .ok (.lcmp, 1) := by decide +kernel
theorem dX7_number_3 : decode cX7_number 3 = .ok (.ifCond .ge 9, 3) := by decide +kernel
theorem dX7_number_6 : decode cX7_number 6 = .ok (.aload_n 0, 1) := by decide +kernel
theorem dX7_number_7 : decode cX7_number 7 = .ok (.bipush 45, 2) := by decide +kernel
theorem dX7_number_9 : decode cX7_number 9 = .ok (.invokevirtual 27, 3) := by decide +kernel
theorem dX7_number_12 : decode cX7_number 12 = .ok (.lload_n 1, 1) := by decide +kernel
theorem dX7_number_13 : decode cX7_number 13 = .ok (.invokestatic 31, 3) := by decide +kernel
theorem dX7_number_16 : decode cX7_number 16 = .ok (.lstore 4, 2) := by decide +kernel
theorem dX7_number_18 : decode cX7_number 18 = .ok (.iconst 1, 1) := by decide +kernel
theorem dX7_number_19 : decode cX7_number 19 = .ok (.istore 6, 2) := by decide +kernel
theorem dX7_number_21 : decode cX7_number 21 = .ok (.lconst 1, 1) := by decide +kernel
theorem dX7_number_22 : decode cX7_number 22 = .ok (.lstore 7, 2) := by decide +kernel
theorem dX7_number_24 : decode cX7_number 24 = .ok (.lload 4, 2) := by decide +kernel
theorem dX7_number_26 : decode cX7_number 26 = .ok (.lload 7, 2) := by decide +kernel
theorem dX7_number_28 : decode cX7_number 28 = .ok (.ldiv, 1) := by decide +kernel
theorem dX7_number_29 : decode cX7_number 29 = .ok (.ldc2_w 37, 3) := by decide +kernel
theorem dX7_number_32 : decode cX7_number 32 = .ok (.lcmp, 1) := by decide +kernel
theorem dX7_number_33 : decode cX7_number 33 = .ok (.ifCond .gt 9, 3) := by decide +kernel
theorem dX7_number_36 : decode cX7_number 36 = .ok (.iload 6, 2) := by decide +kernel
theorem dX7_number_38 : decode cX7_number 38 = .ok (.iload_n 3, 1) := by decide +kernel
theorem dX7_number_39 : decode cX7_number 39 = .ok (.if_icmp .ge 17, 3) := by decide +kernel
theorem dX7_number_42 : decode cX7_number 42 = .ok (.lload 7, 2) := by decide +kernel
theorem dX7_number_44 : decode cX7_number 44 = .ok (.ldc2_w 39, 3) := by decide +kernel
theorem dX7_number_47 : decode cX7_number 47 = .ok (.lmul, 1) := by decide +kernel
theorem dX7_number_48 : decode cX7_number 48 = .ok (.lstore 7, 2) := by decide +kernel
theorem dX7_number_50 : decode cX7_number 50 = .ok (.iinc 6 1, 3) := by decide +kernel
theorem dX7_number_53 : decode cX7_number 53 = .ok (.goto (-29), 3) := by decide +kernel
theorem dX7_number_56 : decode cX7_number 56 = .ok (.lload 7, 2) := by decide +kernel
theorem dX7_number_58 : decode cX7_number 58 = .ok (.lconst 0, 1) := by decide +kernel
theorem dX7_number_59 : decode cX7_number 59 = .ok (.lcmp, 1) := by decide +kernel
theorem dX7_number_60 : decode cX7_number 60 = .ok (.ifCond .le 32, 3) := by decide +kernel
theorem dX7_number_63 : decode cX7_number 63 = .ok (.aload_n 0, 1) := by decide +kernel
theorem dX7_number_64 : decode cX7_number 64 = .ok (.ldc2_w 41, 3) := by decide +kernel
theorem dX7_number_67 : decode cX7_number 67 = .ok (.lload 4, 2) := by decide +kernel
theorem dX7_number_69 : decode cX7_number 69 = .ok (.lload 7, 2) := by decide +kernel
theorem dX7_number_71 : decode cX7_number 71 = .ok (.ldiv, 1) := by decide +kernel
theorem dX7_number_72 : decode cX7_number 72 = .ok (.ldc2_w 39, 3) := by decide +kernel
theorem dX7_number_75 : decode cX7_number 75 = .ok (.lrem, 1) := by decide +kernel
theorem dX7_number_76 : decode cX7_number 76 = .ok (.ladd, 1) := by decide +kernel
theorem dX7_number_77 : decode cX7_number 77 = .ok (.l2i, 1) := by decide +kernel
theorem dX7_number_78 : decode cX7_number 78 = .ok (.invokevirtual 27, 3) := by decide +kernel
theorem dX7_number_81 : decode cX7_number 81 = .ok (.lload 7, 2) := by decide +kernel
theorem dX7_number_83 : decode cX7_number 83 = .ok (.ldc2_w 39, 3) := by decide +kernel
theorem dX7_number_86 : decode cX7_number 86 = .ok (.ldiv, 1) := by decide +kernel
theorem dX7_number_87 : decode cX7_number 87 = .ok (.lstore 7, 2) := by decide +kernel
theorem dX7_number_89 : decode cX7_number 89 = .ok (.goto (-33), 3) := by decide +kernel
theorem dX7_number_92 : decode cX7_number 92 = .ok (.return_, 1) := by decide +kernel
abbrev cX7_add : ByteArray := prog_19_method_2_code
def yX7_add : MethodName := ⟨RX7, "add", "(I)V"⟩
theorem dX7_add_0 : decode cX7_add 0 = .ok (.aload_n 0, 1) := by decide +kernel
theorem dX7_add_1 : decode cX7_add 1 = .ok (.getfield 7, 3) := by decide +kernel
theorem dX7_add_4 : decode cX7_add 4 = .ok (.aload_n 0, 1) := by decide +kernel
theorem dX7_add_5 : decode cX7_add 5 = .ok (.getfield 13, 3) := by decide +kernel
theorem dX7_add_8 : decode cX7_add 8 = .ok (.iload_n 1, 1) := by decide +kernel
theorem dX7_add_9 : decode cX7_add 9 = .ok (.i2b, 1) := by decide +kernel
theorem dX7_add_10 : decode cX7_add 10 = .ok (.bastore, 1) := by decide +kernel
theorem dX7_add_11 : decode cX7_add 11 = .ok (.aload_n 0, 1) := by decide +kernel
theorem dX7_add_12 : decode cX7_add 12 = .ok (.dup, 1) := by decide +kernel
theorem dX7_add_13 : decode cX7_add 13 = .ok (.getfield 13, 3) := by decide +kernel
theorem dX7_add_16 : decode cX7_add 16 = .ok (.iconst 1, 1) := by decide +kernel
theorem dX7_add_17 : decode cX7_add 17 = .ok (.iadd, 1) := by decide +kernel
theorem dX7_add_18 : decode cX7_add 18 = .ok (.putfield 13, 3) := by decide +kernel
theorem dX7_add_21 : decode cX7_add 21 = .ok (.return_, 1) := by decide +kernel
abbrev cX7_addAll : ByteArray := prog_19_method_3_code
def yX7_addAll : MethodName := ⟨RX7, "addAll", "(Ljava/lang/String;)V"⟩
theorem dX7_addAll_0 : decode cX7_addAll 0 = .ok (.iconst 0, 1) := by decide +kernel
theorem dX7_addAll_1 : decode cX7_addAll 1 = .ok (.istore_n 2, 1) := by decide +kernel
theorem dX7_addAll_2 : decode cX7_addAll 2 = .ok (.iload_n 2, 1) := by decide +kernel
theorem dX7_addAll_3 : decode cX7_addAll 3 = .ok (.aload_n 1, 1) := by decide +kernel
theorem dX7_addAll_4 : decode cX7_addAll 4 = .ok (.invokevirtual 17, 3) := by decide +kernel
theorem dX7_addAll_7 : decode cX7_addAll 7 = .ok (.if_icmp .ge 18, 3) := by decide +kernel
theorem dX7_addAll_10 : decode cX7_addAll 10 = .ok (.aload_n 0, 1) := by decide +kernel
theorem dX7_addAll_11 : decode cX7_addAll 11 = .ok (.aload_n 1, 1) := by decide +kernel
theorem dX7_addAll_12 : decode cX7_addAll 12 = .ok (.iload_n 2, 1) := by decide +kernel
theorem dX7_addAll_13 : decode cX7_addAll 13 = .ok (.invokevirtual 23, 3) := by decide +kernel
theorem dX7_addAll_16 : decode cX7_addAll 16 = .ok (.invokevirtual 27, 3) := by decide +kernel
theorem dX7_addAll_19 : decode cX7_addAll 19 = .ok (.iinc 2 1, 3) := by decide +kernel
theorem dX7_addAll_22 : decode cX7_addAll 22 = .ok (.goto (-20), 3) := by decide +kernel
theorem dX7_addAll_25 : decode cX7_addAll 25 = .ok (.return_, 1) := by decide +kernel
abbrev cX7_some : ByteArray := prog_19_method_5_code
def yX7_some : MethodName := ⟨RX7, "some", "(JI)V"⟩
theorem dX7_some_0 : decode cX7_some 0 = .ok (.lload_n 1, 1) := by decide +kernel
theorem dX7_some_1 : decode cX7_some 1 = .ok (.lconst 0, 1) := by decide +kernel
theorem dX7_some_2 : decode cX7_some 2 = .ok (.lcmp, 1) := by decide +kernel
theorem dX7_some_3 : decode cX7_some 3 = .ok (.ifCond .ne 4, 3) := by decide +kernel
theorem dX7_some_6 : decode cX7_some 6 = .ok (.return_, 1) := by decide +kernel
theorem dX7_some_7 : decode cX7_some 7 = .ok (.aload_n 0, 1) := by decide +kernel
theorem dX7_some_8 : decode cX7_some 8 = .ok (.lload_n 1, 1) := by decide +kernel
theorem dX7_some_9 : decode cX7_some 9 = .ok (.iconst 1, 1) := by decide +kernel
theorem dX7_some_10 : decode cX7_some 10 = .ok (.invokevirtual 43, 3) := by decide +kernel
theorem dX7_some_13 : decode cX7_some 13 = .ok (.aload_n 0, 1) := by decide +kernel
theorem dX7_some_14 : decode cX7_some 14 = .ok (.iload_n 3, 1) := by decide +kernel
theorem dX7_some_15 : decode cX7_some 15 = .ok (.invokevirtual 27, 3) := by decide +kernel
theorem dX7_some_18 : decode cX7_some 18 = .ok (.return_, 1) := by decide +kernel
abbrev cX7_fraction : ByteArray := prog_19_method_6_code
def yX7_fraction : MethodName := ⟨RX7, "fraction", "(J)V"⟩
theorem dX7_fraction_0 : decode cX7_fraction 0 = .ok (.lload_n 1, 1) := by decide +kernel
theorem dX7_fraction_1 : decode cX7_fraction 1 = .ok (.lconst 0, 1) := by decide +kernel
theorem dX7_fraction_2 : decode cX7_fraction 2 = .ok (.lcmp, 1) := by decide +kernel
theorem dX7_fraction_3 : decode cX7_fraction 3 = .ok (.ifCond .ne 4, 3) := by decide +kernel
theorem dX7_fraction_6 : decode cX7_fraction 6 = .ok (.return_, 1) := by decide +kernel
theorem dX7_fraction_7 : decode cX7_fraction 7 = .ok (.aload_n 0, 1) := by decide +kernel
theorem dX7_fraction_8 : decode cX7_fraction 8 = .ok (.bipush 46, 2) := by decide +kernel
theorem dX7_fraction_10 : decode cX7_fraction 10 = .ok (.invokevirtual 27, 3) := by decide +kernel
theorem dX7_fraction_13 : decode cX7_fraction 13 = .ok (.aload_n 0, 1) := by decide +kernel
theorem dX7_fraction_14 : decode cX7_fraction 14 = .ok (.lload_n 1, 1) := by decide +kernel
theorem dX7_fraction_15 : decode cX7_fraction 15 = .ok (.iconst 3, 1) := by decide +kernel
theorem dX7_fraction_16 : decode cX7_fraction 16 = .ok (.invokevirtual 43, 3) := by decide +kernel
theorem dX7_fraction_19 : decode cX7_fraction 19 = .ok (.return_, 1) := by decide +kernel
abbrev cX7_clock : ByteArray := prog_19_method_7_code
def yX7_clock : MethodName := ⟨RX7, "clock", "(J)V"⟩
theorem dX7_clock_0 : decode cX7_clock 0 = .ok (.aload_n 0, 1) := by decide +kernel
theorem dX7_clock_1 : decode cX7_clock 1 = .ok (.bipush 84, 2) := by decide +kernel
theorem dX7_clock_3 : decode cX7_clock 3 = .ok (.invokevirtual 27, 3) := by decide +kernel
theorem dX7_clock_6 : decode cX7_clock 6 = .ok (.aload_n 0, 1) := by decide +kernel
theorem dX7_clock_7 : decode cX7_clock 7 = .ok (.lload_n 1, 1) := by decide +kernel
theorem dX7_clock_8 : decode cX7_clock 8 = .ok (.ldc2_w 47, 3) := by decide +kernel
theorem dX7_clock_11 : decode cX7_clock 11 = .ok (.ldiv, 1) := by decide +kernel
theorem dX7_clock_12 : decode cX7_clock 12 = .ok (.iconst 2, 1) := by decide +kernel
theorem dX7_clock_13 : decode cX7_clock 13 = .ok (.invokevirtual 43, 3) := by decide +kernel
theorem dX7_clock_16 : decode cX7_clock 16 = .ok (.aload_n 0, 1) := by decide +kernel
theorem dX7_clock_17 : decode cX7_clock 17 = .ok (.bipush 58, 2) := by decide +kernel
theorem dX7_clock_19 : decode cX7_clock 19 = .ok (.invokevirtual 27, 3) := by decide +kernel
theorem dX7_clock_22 : decode cX7_clock 22 = .ok (.aload_n 0, 1) := by decide +kernel
theorem dX7_clock_23 : decode cX7_clock 23 = .ok (.lload_n 1, 1) := by decide +kernel
theorem dX7_clock_24 : decode cX7_clock 24 = .ok (.ldc2_w 49, 3) := by decide +kernel
theorem dX7_clock_27 : decode cX7_clock 27 = .ok (.ldiv, 1) := by decide +kernel
theorem dX7_clock_28 : decode cX7_clock 28 = .ok (.ldc2_w 51, 3) := by decide +kernel
theorem dX7_clock_31 : decode cX7_clock 31 = .ok (.lrem, 1) := by decide +kernel
theorem dX7_clock_32 : decode cX7_clock 32 = .ok (.iconst 2, 1) := by decide +kernel
theorem dX7_clock_33 : decode cX7_clock 33 = .ok (.invokevirtual 43, 3) := by decide +kernel
theorem dX7_clock_36 : decode cX7_clock 36 = .ok (.aload_n 0, 1) := by decide +kernel
theorem dX7_clock_37 : decode cX7_clock 37 = .ok (.bipush 58, 2) := by decide +kernel
theorem dX7_clock_39 : decode cX7_clock 39 = .ok (.invokevirtual 27, 3) := by decide +kernel
theorem dX7_clock_42 : decode cX7_clock 42 = .ok (.aload_n 0, 1) := by decide +kernel
theorem dX7_clock_43 : decode cX7_clock 43 = .ok (.lload_n 1, 1) := by decide +kernel
theorem dX7_clock_44 : decode cX7_clock 44 = .ok (.ldc2_w 53, 3) := by decide +kernel
theorem dX7_clock_47 : decode cX7_clock 47 = .ok (.ldiv, 1) := by decide +kernel
theorem dX7_clock_48 : decode cX7_clock 48 = .ok (.ldc2_w 51, 3) := by decide +kernel
theorem dX7_clock_51 : decode cX7_clock 51 = .ok (.lrem, 1) := by decide +kernel
theorem dX7_clock_52 : decode cX7_clock 52 = .ok (.iconst 2, 1) := by decide +kernel
theorem dX7_clock_53 : decode cX7_clock 53 = .ok (.invokevirtual 43, 3) := by decide +kernel
theorem dX7_clock_56 : decode cX7_clock 56 = .ok (.aload_n 0, 1) := by decide +kernel
theorem dX7_clock_57 : decode cX7_clock 57 = .ok (.lload_n 1, 1) := by decide +kernel
theorem dX7_clock_58 : decode cX7_clock 58 = .ok (.ldc2_w 53, 3) := by decide +kernel
theorem dX7_clock_61 : decode cX7_clock 61 = .ok (.lrem, 1) := by decide +kernel
theorem dX7_clock_62 : decode cX7_clock 62 = .ok (.invokevirtual 55, 3) := by decide +kernel
theorem dX7_clock_65 : decode cX7_clock 65 = .ok (.return_, 1) := by decide +kernel
theorem in_X7 : ∀ w ∈ wsX70, w ∈ lw_all := lw_in wsX70 [890, 892] (by decide +kernel) (by decide +kernel)
def RX67 : String := "KnowHouse$DatatypeValues$Reader"
def TX67 : u_T := fun k => match k with
  | 0 => ("KnowHouse$DatatypeValues$Reader", "tape", "[B", true)
  | 1 => ("KnowHouse$DatatypeValues$Reader", "size", "I", true)
  | 2 => ("KnowHouse$DatatypeValues$Reader", "at", "I", false)
  | 3 => ("KnowHouse$DatatypeValues$Reader", "wrong", "Ljava/lang/IllegalStateException;", true)
  | _ => ("KnowHouse$DatatypeValues$Reader", "place", "I", false)
def tyX67 : Nat → FieldType := fun k => match k with
  | 0 => .array .byte
  | 1 => .int
  | 2 => .int
  | 3 => .object "java/lang/IllegalStateException"
  | _ => .int
abbrev wsX670 : List Cond := u_ws RX67 TX67 5
theorem nmX67 : ∀ a, a < 5 → ∀ b, b < 5 → a ≠ b → (TX67 a).2.1 ≠ (TX67 b).2.1 := by decide +kernel
theorem tyX67_ok : ∀ k, k < 5 → parseFieldDescriptor (TX67 k).2.2.1 = some (tyX67 k) := by decide +kernel
abbrev cX67_init : ByteArray := prog_13_method_1_code
def yX67_init : MethodName := ⟨RX67, "<init>", "([BI)V"⟩
theorem dX67_init_0 : decode cX67_init 0 = .ok (.aload_n 0, 1) := by decide +kernel
theorem dX67_init_1 : decode cX67_init 1 = .ok (.invokespecial 3, 3) := by decide +kernel
theorem dX67_init_4 : decode cX67_init 4 = .ok (.aload_n 0, 1) := by decide +kernel
theorem dX67_init_5 : decode cX67_init 5 = .ok (.new 9, 3) := by decide +kernel
theorem dX67_init_8 : decode cX67_init 8 = .ok (.dup, 1) := by decide +kernel
theorem dX67_init_9 : decode cX67_init 9 = .ok (.ldc 11, 2) := by decide +kernel
theorem dX67_init_11 : decode cX67_init 11 = .ok (.invokespecial 13, 3) := by decide +kernel
theorem dX67_init_14 : decode cX67_init 14 = .ok (.putfield 16, 3) := by decide +kernel
theorem dX67_init_17 : decode cX67_init 17 = .ok (.aload_n 0, 1) := by decide +kernel
theorem dX67_init_18 : decode cX67_init 18 = .ok (.aload_n 1, 1) := by decide +kernel
theorem dX67_init_19 : decode cX67_init 19 = .ok (.putfield 21, 3) := by decide +kernel
theorem dX67_init_22 : decode cX67_init 22 = .ok (.aload_n 0, 1) := by decide +kernel
theorem dX67_init_23 : decode cX67_init 23 = .ok (.iload_n 2, 1) := by decide +kernel
theorem dX67_init_24 : decode cX67_init 24 = .ok (.putfield 25, 3) := by decide +kernel
theorem dX67_init_27 : decode cX67_init 27 = .ok (.return_, 1) := by decide +kernel
abbrev cX67_read : ByteArray := prog_13_method_9_code
def yX67_read : MethodName := ⟨RX67, "read", "(I)LKnowHouse$DatatypeValues$Value;"⟩
theorem dX67_read_0 : decode cX67_read 0 = .ok (.aload_n 0, 1) := by decide +kernel
theorem dX67_read_1 : decode cX67_read 1 = .ok (.iload_n 1, 1) := by decide +kernel
theorem dX67_read_2 : decode cX67_read 2 = .ok (.invokevirtual 59, 3) := by decide +kernel
theorem dX67_read_5 : decode cX67_read 5 = .ok (.astore_n 2, 1) := by decide +kernel
theorem dX67_read_6 : decode cX67_read 6 = .ok (.aload_n 0, 1) := by decide +kernel
theorem dX67_read_7 : decode cX67_read 7 = .ok (.aload_n 0, 1) := by decide +kernel
theorem dX67_read_8 : decode cX67_read 8 = .ok (.getfield 32, 3) := by decide +kernel
theorem dX67_read_11 : decode cX67_read 11 = .ok (.aload_n 0, 1) := by decide +kernel
theorem dX67_read_12 : decode cX67_read 12 = .ok (.getfield 25, 3) := by decide +kernel
theorem dX67_read_15 : decode cX67_read 15 = .ok (.if_icmp .ne 7, 3) := by decide +kernel
theorem dX67_read_18 : decode cX67_read 18 = .ok (.iconst 1, 1) := by decide +kernel
theorem dX67_read_19 : decode cX67_read 19 = .ok (.goto 4, 3) := by decide +kernel
theorem dX67_read_22 : decode cX67_read 22 = .ok (.iconst 0, 1) := by decide +kernel
theorem dX67_read_23 : decode cX67_read 23 = .ok (.aload_n 0, 1) := by decide +kernel
theorem dX67_read_24 : decode cX67_read 24 = .ok (.getfield 32, 3) := by decide +kernel
theorem dX67_read_27 : decode cX67_read 27 = .ok (.invokevirtual 43, 3) := by decide +kernel
theorem dX67_read_30 : decode cX67_read 30 = .ok (.aload_n 2, 1) := by decide +kernel
theorem dX67_read_31 : decode cX67_read 31 = .ok (.areturn, 1) := by decide +kernel
theorem dX67_read_32 : decode cX67_read 32 = .ok (.astore_n 2, 1) := by decide +kernel
theorem dX67_read_33 : decode cX67_read 33 = .ok (.aconst_null, 1) := by decide +kernel
theorem dX67_read_34 : decode cX67_read 34 = .ok (.areturn, 1) := by decide +kernel
abbrev cX67_value : ByteArray := prog_13_method_10_code
def yX67_value : MethodName := ⟨RX67, "value", "(I)LKnowHouse$DatatypeValues$Value;"⟩
theorem dX67_value_0 : decode cX67_value 0 = .ok (.iload_n 1, 1) := by decide +kernel
theorem dX67_value_1 : decode cX67_value 1 = .ok (.tableswitch 78 0 7 #[47, 47, 47, 53, 58, 63, 68, 73], 47) := by decide +kernel
theorem dX67_value_48 : decode cX67_value 48 = .ok (.aload_n 0, 1) := by decide +kernel
theorem dX67_value_49 : decode cX67_value 49 = .ok (.iload_n 1, 1) := by decide +kernel
theorem dX67_value_50 : decode cX67_value 50 = .ok (.invokevirtual 63, 3) := by decide +kernel
theorem dX67_value_53 : decode cX67_value 53 = .ok (.areturn, 1) := by decide +kernel
theorem dX67_value_54 : decode cX67_value 54 = .ok (.aload_n 0, 1) := by decide +kernel
theorem dX67_value_55 : decode cX67_value 55 = .ok (.invokevirtual 66, 3) := by decide +kernel
theorem dX67_value_58 : decode cX67_value 58 = .ok (.areturn, 1) := by decide +kernel
theorem dX67_value_59 : decode cX67_value 59 = .ok (.aload_n 0, 1) := by decide +kernel
theorem dX67_value_60 : decode cX67_value 60 = .ok (.invokevirtual 70, 3) := by decide +kernel
theorem dX67_value_63 : decode cX67_value 63 = .ok (.areturn, 1) := by decide +kernel
theorem dX67_value_64 : decode cX67_value 64 = .ok (.aload_n 0, 1) := by decide +kernel
theorem dX67_value_65 : decode cX67_value 65 = .ok (.invokevirtual 73, 3) := by decide +kernel
theorem dX67_value_68 : decode cX67_value 68 = .ok (.areturn, 1) := by decide +kernel
theorem dX67_value_69 : decode cX67_value 69 = .ok (.aload_n 0, 1) := by decide +kernel
theorem dX67_value_70 : decode cX67_value 70 = .ok (.invokevirtual 76, 3) := by decide +kernel
theorem dX67_value_73 : decode cX67_value 73 = .ok (.areturn, 1) := by decide +kernel
theorem dX67_value_74 : decode cX67_value 74 = .ok (.aload_n 0, 1) := by decide +kernel
theorem dX67_value_75 : decode cX67_value 75 = .ok (.invokevirtual 79, 3) := by decide +kernel
theorem dX67_value_78 : decode cX67_value 78 = .ok (.areturn, 1) := by decide +kernel
theorem dX67_value_79 : decode cX67_value 79 = .ok (.aload_n 0, 1) := by decide +kernel
theorem dX67_value_80 : decode cX67_value 80 = .ok (.invokevirtual 82, 3) := by decide +kernel
theorem dX67_value_83 : decode cX67_value 83 = .ok (.areturn, 1) := by decide +kernel
abbrev cX67_number : ByteArray := prog_13_method_11_code
def yX67_number : MethodName := ⟨RX67, "number", "(I)LKnowHouse$DatatypeValues$Value;"⟩
theorem dX67_number_0 : decode cX67_number 0 = .ok (.aload_n 0, 1) := by decide +kernel
theorem dX67_number_1 : decode cX67_number 1 = .ok (.bipush 45, 2) := by decide +kernel
theorem dX67_number_3 : decode cX67_number 3 = .ok (.invokevirtual 39, 3) := by decide +kernel
theorem dX67_number_6 : decode cX67_number 6 = .ok (.istore_n 2, 1) := by decide +kernel
theorem dX67_number_7 : decode cX67_number 7 = .ok (.iload_n 2, 1) := by decide +kernel
theorem dX67_number_8 : decode cX67_number 8 = .ok (.ifCond .ne 10, 3) := by decide +kernel
theorem dX67_number_11 : decode cX67_number 11 = .ok (.aload_n 0, 1) := by decide +kernel
theorem dX67_number_12 : decode cX67_number 12 = .ok (.bipush 43, 2) := by decide +kernel
theorem dX67_number_14 : decode cX67_number 14 = .ok (.invokevirtual 39, 3) := by decide +kernel
theorem dX67_number_17 : decode cX67_number 17 = .ok (.pop, 1) := by decide +kernel
theorem dX67_number_18 : decode cX67_number 18 = .ok (.aload_n 0, 1) := by decide +kernel
theorem dX67_number_19 : decode cX67_number 19 = .ok (.getfield 32, 3) := by decide +kernel
theorem dX67_number_22 : decode cX67_number 22 = .ok (.istore_n 3, 1) := by decide +kernel
theorem dX67_number_23 : decode cX67_number 23 = .ok (.aload_n 0, 1) := by decide +kernel
theorem dX67_number_24 : decode cX67_number 24 = .ok (.iconst 1, 1) := by decide +kernel
theorem dX67_number_25 : decode cX67_number 25 = .ok (.bipush 9, 2) := by decide +kernel
theorem dX67_number_27 : decode cX67_number 27 = .ok (.invokevirtual 55, 3) := by decide +kernel
theorem dX67_number_30 : decode cX67_number 30 = .ok (.lstore 4, 2) := by decide +kernel
theorem dX67_number_32 : decode cX67_number 32 = .ok (.iload_n 2, 1) := by decide +kernel
theorem dX67_number_33 : decode cX67_number 33 = .ok (.ifCond .eq 8, 3) := by decide +kernel
theorem dX67_number_36 : decode cX67_number 36 = .ok (.lload 4, 2) := by decide +kernel
theorem dX67_number_38 : decode cX67_number 38 = .ok (.lneg, 1) := by decide +kernel
theorem dX67_number_39 : decode cX67_number 39 = .ok (.lstore 4, 2) := by decide +kernel
theorem dX67_number_41 : decode cX67_number 41 = .ok (.aload_n 0, 1) := by decide +kernel
theorem dX67_number_42 : decode cX67_number 42 = .ok (.iload_n 1, 1) := by decide +kernel
theorem dX67_number_43 : decode cX67_number 43 = .ok (.iconst 1, 1) := by decide +kernel
theorem dX67_number_44 : decode cX67_number 44 = .ok (.if_icmp .ne 21, 3) := by decide +kernel
theorem dX67_number_47 : decode cX67_number 47 = .ok (.lload 4, 2) := by decide +kernel
theorem dX67_number_49 : decode cX67_number 49 = .ok (.ldc2_w 85, 3) := by decide +kernel
theorem dX67_number_52 : decode cX67_number 52 = .ok (.lcmp, 1) := by decide +kernel
theorem dX67_number_53 : decode cX67_number 53 = .ok (.ifCond .lt 16, 3) := by decide +kernel
theorem dX67_number_56 : decode cX67_number 56 = .ok (.lload 4, 2) := by decide +kernel
theorem dX67_number_58 : decode cX67_number 58 = .ok (.ldc2_w 87, 3) := by decide +kernel
theorem dX67_number_61 : decode cX67_number 61 = .ok (.lcmp, 1) := by decide +kernel
theorem dX67_number_62 : decode cX67_number 62 = .ok (.ifCond .gt 7, 3) := by decide +kernel
theorem dX67_number_65 : decode cX67_number 65 = .ok (.iconst 1, 1) := by decide +kernel
theorem dX67_number_66 : decode cX67_number 66 = .ok (.goto 4, 3) := by decide +kernel
theorem dX67_number_69 : decode cX67_number 69 = .ok (.iconst 0, 1) := by decide +kernel
theorem dX67_number_70 : decode cX67_number 70 = .ok (.iload_n 3, 1) := by decide +kernel
theorem dX67_number_71 : decode cX67_number 71 = .ok (.invokevirtual 43, 3) := by decide +kernel
theorem dX67_number_74 : decode cX67_number 74 = .ok (.lconst 1, 1) := by decide +kernel
theorem dX67_number_75 : decode cX67_number 75 = .ok (.lstore 6, 2) := by decide +kernel
theorem dX67_number_77 : decode cX67_number 77 = .ok (.iload_n 1, 1) := by decide +kernel
theorem dX67_number_78 : decode cX67_number 78 = .ok (.iconst 2, 1) := by decide +kernel
theorem dX67_number_79 : decode cX67_number 79 = .ok (.if_icmp .ne 43, 3) := by decide +kernel
theorem dX67_number_82 : decode cX67_number 82 = .ok (.aload_n 0, 1) := by decide +kernel
theorem dX67_number_83 : decode cX67_number 83 = .ok (.bipush 47, 2) := by decide +kernel
theorem dX67_number_85 : decode cX67_number 85 = .ok (.invokevirtual 39, 3) := by decide +kernel
theorem dX67_number_88 : decode cX67_number 88 = .ok (.ifCond .eq 34, 3) := by decide +kernel
theorem dX67_number_91 : decode cX67_number 91 = .ok (.aload_n 0, 1) := by decide +kernel
theorem dX67_number_92 : decode cX67_number 92 = .ok (.getfield 32, 3) := by decide +kernel
theorem dX67_number_95 : decode cX67_number 95 = .ok (.istore_n 3, 1) := by decide +kernel
theorem dX67_number_96 : decode cX67_number 96 = .ok (.aload_n 0, 1) := by decide +kernel
theorem dX67_number_97 : decode cX67_number 97 = .ok (.iconst 1, 1) := by decide +kernel
theorem dX67_number_98 : decode cX67_number 98 = .ok (.bipush 9, 2) := by decide +kernel
theorem dX67_number_100 : decode cX67_number 100 = .ok (.invokevirtual 55, 3) := by decide +kernel
theorem dX67_number_103 : decode cX67_number 103 = .ok (.lstore 6, 2) := by decide +kernel
theorem dX67_number_105 : decode cX67_number 105 = .ok (.aload_n 0, 1) := by decide +kernel
theorem dX67_number_106 : decode cX67_number 106 = .ok (.lload 6, 2) := by decide +kernel
theorem dX67_number_108 : decode cX67_number 108 = .ok (.lconst 0, 1) := by decide +kernel
theorem dX67_number_109 : decode cX67_number 109 = .ok (.lcmp, 1) := by decide +kernel
theorem dX67_number_110 : decode cX67_number 110 = .ok (.ifCond .le 7, 3) := by decide +kernel
theorem dX67_number_113 : decode cX67_number 113 = .ok (.iconst 1, 1) := by decide +kernel
theorem dX67_number_114 : decode cX67_number 114 = .ok (.goto 4, 3) := by decide +kernel
theorem dX67_number_117 : decode cX67_number 117 = .ok (.iconst 0, 1) := by decide +kernel
theorem dX67_number_118 : decode cX67_number 118 = .ok (.iload_n 3, 1) := by decide +kernel
theorem dX67_number_119 : decode cX67_number 119 = .ok (.invokevirtual 43, 3) := by decide +kernel
theorem dX67_number_122 : decode cX67_number 122 = .ok (.new 89, 3) := by decide +kernel
theorem dX67_number_125 : decode cX67_number 125 = .ok (.dup, 1) := by decide +kernel
theorem dX67_number_126 : decode cX67_number 126 = .ok (.iload_n 1, 1) := by decide +kernel
theorem dX67_number_127 : decode cX67_number 127 = .ok (.lload 4, 2) := by decide +kernel
theorem dX67_number_129 : decode cX67_number 129 = .ok (.lload 6, 2) := by decide +kernel
theorem dX67_number_131 : decode cX67_number 131 = .ok (.invokespecial 91, 3) := by decide +kernel
theorem dX67_number_134 : decode cX67_number 134 = .ok (.areturn, 1) := by decide +kernel
abbrev cX67_takes : ByteArray := prog_13_method_5_code
def yX67_takes : MethodName := ⟨RX67, "takes", "(I)Z"⟩
theorem dX67_takes_0 : decode cX67_takes 0 = .ok (.aload_n 0, 1) := by decide +kernel
theorem dX67_takes_1 : decode cX67_takes 1 = .ok (.invokevirtual 35, 3) := by decide +kernel
theorem dX67_takes_4 : decode cX67_takes 4 = .ok (.iload_n 1, 1) := by decide +kernel
theorem dX67_takes_5 : decode cX67_takes 5 = .ok (.if_icmp .eq 5, 3) := by decide +kernel
theorem dX67_takes_8 : decode cX67_takes 8 = .ok (.iconst 0, 1) := by decide +kernel
theorem dX67_takes_9 : decode cX67_takes 9 = .ok (.ireturn, 1) := by decide +kernel
theorem dX67_takes_10 : decode cX67_takes 10 = .ok (.aload_n 0, 1) := by decide +kernel
theorem dX67_takes_11 : decode cX67_takes 11 = .ok (.dup, 1) := by decide +kernel
theorem dX67_takes_12 : decode cX67_takes 12 = .ok (.getfield 32, 3) := by decide +kernel
theorem dX67_takes_15 : decode cX67_takes 15 = .ok (.iconst 1, 1) := by decide +kernel
theorem dX67_takes_16 : decode cX67_takes 16 = .ok (.iadd, 1) := by decide +kernel
theorem dX67_takes_17 : decode cX67_takes 17 = .ok (.putfield 32, 3) := by decide +kernel
theorem dX67_takes_20 : decode cX67_takes 20 = .ok (.iconst 1, 1) := by decide +kernel
theorem dX67_takes_21 : decode cX67_takes 21 = .ok (.ireturn, 1) := by decide +kernel
abbrev cX67_here : ByteArray := prog_13_method_3_code
def yX67_here : MethodName := ⟨RX67, "here", "()I"⟩
theorem dX67_here_0 : decode cX67_here 0 = .ok (.aload_n 0, 1) := by decide +kernel
theorem dX67_here_1 : decode cX67_here 1 = .ok (.getfield 32, 3) := by decide +kernel
theorem dX67_here_4 : decode cX67_here 4 = .ok (.aload_n 0, 1) := by decide +kernel
theorem dX67_here_5 : decode cX67_here 5 = .ok (.getfield 25, 3) := by decide +kernel
theorem dX67_here_8 : decode cX67_here 8 = .ok (.if_icmp .ge 15, 3) := by decide +kernel
theorem dX67_here_11 : decode cX67_here 11 = .ok (.aload_n 0, 1) := by decide +kernel
theorem dX67_here_12 : decode cX67_here 12 = .ok (.getfield 21, 3) := by decide +kernel
theorem dX67_here_15 : decode cX67_here 15 = .ok (.aload_n 0, 1) := by decide +kernel
theorem dX67_here_16 : decode cX67_here 16 = .ok (.getfield 32, 3) := by decide +kernel
theorem dX67_here_19 : decode cX67_here 19 = .ok (.baload, 1) := by decide +kernel
theorem dX67_here_20 : decode cX67_here 20 = .ok (.goto 4, 3) := by decide +kernel
theorem dX67_here_23 : decode cX67_here 23 = .ok (.iconst (-1), 1) := by decide +kernel
theorem dX67_here_24 : decode cX67_here 24 = .ok (.ireturn, 1) := by decide +kernel
abbrev cX67_digits : ByteArray := prog_13_method_7_code
def yX67_digits : MethodName := ⟨RX67, "digits", "(II)J"⟩
theorem dX67_digits_0 : decode cX67_digits 0 = .ok (.lconst 0, 1) := by decide +kernel
theorem dX67_digits_1 : decode cX67_digits 1 = .ok (.lstore_n 3, 1) := by decide +kernel
theorem dX67_digits_2 : decode cX67_digits 2 = .ok (.iconst 0, 1) := by decide +kernel
theorem dX67_digits_3 : decode cX67_digits 3 = .ok (.istore 5, 2) := by decide +kernel
theorem dX67_digits_5 : decode cX67_digits 5 = .ok (.iload 5, 2) := by decide +kernel
theorem dX67_digits_7 : decode cX67_digits 7 = .ok (.iload_n 2, 1) := by decide +kernel
theorem dX67_digits_8 : decode cX67_digits 8 = .ok (.if_icmp .ge 42, 3) := by decide +kernel
theorem dX67_digits_11 : decode cX67_digits 11 = .ok (.aload_n 0, 1) := by decide +kernel
theorem dX67_digits_12 : decode cX67_digits 12 = .ok (.invokevirtual 47, 3) := by decide +kernel
theorem dX67_digits_15 : decode cX67_digits 15 = .ok (.ifCond .eq 35, 3) := by decide +kernel
theorem dX67_digits_18 : decode cX67_digits 18 = .ok (.ldc2_w 51, 3) := by decide +kernel
theorem dX67_digits_21 : decode cX67_digits 21 = .ok (.lload_n 3, 1) := by decide +kernel
theorem dX67_digits_22 : decode cX67_digits 22 = .ok (.lmul, 1) := by decide +kernel
theorem dX67_digits_23 : decode cX67_digits 23 = .ok (.aload_n 0, 1) := by decide +kernel
theorem dX67_digits_24 : decode cX67_digits 24 = .ok (.invokevirtual 35, 3) := by decide +kernel
theorem dX67_digits_27 : decode cX67_digits 27 = .ok (.i2l, 1) := by decide +kernel
theorem dX67_digits_28 : decode cX67_digits 28 = .ok (.ladd, 1) := by decide +kernel
theorem dX67_digits_29 : decode cX67_digits 29 = .ok (.ldc2_w 53, 3) := by decide +kernel
theorem dX67_digits_32 : decode cX67_digits 32 = .ok (.lsub, 1) := by decide +kernel
theorem dX67_digits_33 : decode cX67_digits 33 = .ok (.lstore_n 3, 1) := by decide +kernel
theorem dX67_digits_34 : decode cX67_digits 34 = .ok (.aload_n 0, 1) := by decide +kernel
theorem dX67_digits_35 : decode cX67_digits 35 = .ok (.dup, 1) := by decide +kernel
theorem dX67_digits_36 : decode cX67_digits 36 = .ok (.getfield 32, 3) := by decide +kernel
theorem dX67_digits_39 : decode cX67_digits 39 = .ok (.iconst 1, 1) := by decide +kernel
theorem dX67_digits_40 : decode cX67_digits 40 = .ok (.iadd, 1) := by decide +kernel
theorem dX67_digits_41 : decode cX67_digits 41 = .ok (.putfield 32, 3) := by decide +kernel
theorem dX67_digits_44 : decode cX67_digits 44 = .ok (.iinc 5 1, 3) := by decide +kernel
theorem dX67_digits_47 : decode cX67_digits 47 = .ok (.goto (-42), 3) := by decide +kernel
theorem dX67_digits_50 : decode cX67_digits 50 = .ok (.aload_n 0, 1) := by decide +kernel
theorem dX67_digits_51 : decode cX67_digits 51 = .ok (.iload 5, 2) := by decide +kernel
theorem dX67_digits_53 : decode cX67_digits 53 = .ok (.iload_n 1, 1) := by decide +kernel
theorem dX67_digits_54 : decode cX67_digits 54 = .ok (.if_icmp .lt 7, 3) := by decide +kernel
theorem dX67_digits_57 : decode cX67_digits 57 = .ok (.iconst 1, 1) := by decide +kernel
theorem dX67_digits_58 : decode cX67_digits 58 = .ok (.goto 4, 3) := by decide +kernel
theorem dX67_digits_61 : decode cX67_digits 61 = .ok (.iconst 0, 1) := by decide +kernel
theorem dX67_digits_62 : decode cX67_digits 62 = .ok (.aload_n 0, 1) := by decide +kernel
theorem dX67_digits_63 : decode cX67_digits 63 = .ok (.getfield 32, 3) := by decide +kernel
theorem dX67_digits_66 : decode cX67_digits 66 = .ok (.invokevirtual 43, 3) := by decide +kernel
theorem dX67_digits_69 : decode cX67_digits 69 = .ok (.lload_n 3, 1) := by decide +kernel
theorem dX67_digits_70 : decode cX67_digits 70 = .ok (.lreturn, 1) := by decide +kernel
abbrev cX67_isDigit : ByteArray := prog_13_method_4_code
def yX67_isDigit : MethodName := ⟨RX67, "isDigit", "()Z"⟩
theorem dX67_isDigit_0 : decode cX67_isDigit 0 = .ok (.aload_n 0, 1) := by decide +kernel
theorem dX67_isDigit_1 : decode cX67_isDigit 1 = .ok (.invokevirtual 35, 3) := by decide +kernel
theorem dX67_isDigit_4 : decode cX67_isDigit 4 = .ok (.bipush 48, 2) := by decide +kernel
theorem dX67_isDigit_6 : decode cX67_isDigit 6 = .ok (.if_icmp .lt 16, 3) := by decide +kernel
theorem dX67_isDigit_9 : decode cX67_isDigit 9 = .ok (.aload_n 0, 1) := by decide +kernel
theorem dX67_isDigit_10 : decode cX67_isDigit 10 = .ok (.invokevirtual 35, 3) := by decide +kernel
theorem dX67_isDigit_13 : decode cX67_isDigit 13 = .ok (.bipush 57, 2) := by decide +kernel
theorem dX67_isDigit_15 : decode cX67_isDigit 15 = .ok (.if_icmp .gt 7, 3) := by decide +kernel
theorem dX67_isDigit_18 : decode cX67_isDigit 18 = .ok (.iconst 1, 1) := by decide +kernel
theorem dX67_isDigit_19 : decode cX67_isDigit 19 = .ok (.goto 4, 3) := by decide +kernel
theorem dX67_isDigit_22 : decode cX67_isDigit 22 = .ok (.iconst 0, 1) := by decide +kernel
theorem dX67_isDigit_23 : decode cX67_isDigit 23 = .ok (.ireturn, 1) := by decide +kernel
abbrev cX67_need : ByteArray := prog_13_method_2_code
def yX67_need : MethodName := ⟨RX67, "need", "(ZI)V"⟩
theorem dX67_need_0 : decode cX67_need 0 = .ok (.iload_n 1, 1) := by decide +kernel
theorem dX67_need_1 : decode cX67_need 1 = .ok (.ifCond .eq 4, 3) := by decide +kernel
theorem dX67_need_4 : decode cX67_need 4 = .ok (.return_, 1) := by decide +kernel
theorem dX67_need_5 : decode cX67_need 5 = .ok (.aload_n 0, 1) := by decide +kernel
theorem dX67_need_6 : decode cX67_need 6 = .ok (.iload_n 2, 1) := by decide +kernel
theorem dX67_need_7 : decode cX67_need 7 = .ok (.putfield 29, 3) := by decide +kernel
theorem dX67_need_10 : decode cX67_need 10 = .ok (.aload_n 0, 1) := by decide +kernel
theorem dX67_need_11 : decode cX67_need 11 = .ok (.getfield 16, 3) := by decide +kernel
theorem dX67_need_14 : decode cX67_need 14 = .ok (.athrow, 1) := by decide +kernel
abbrev cX67_truth : ByteArray := prog_13_method_12_code
def yX67_truth : MethodName := ⟨RX67, "truth", "()LKnowHouse$DatatypeValues$Value;"⟩
theorem dX67_truth_0 : decode cX67_truth 0 = .ok (.aload_n 0, 1) := by decide +kernel
theorem dX67_truth_1 : decode cX67_truth 1 = .ok (.bipush 49, 2) := by decide +kernel
theorem dX67_truth_3 : decode cX67_truth 3 = .ok (.invokevirtual 39, 3) := by decide +kernel
theorem dX67_truth_6 : decode cX67_truth 6 = .ok (.ifCond .eq 12, 3) := by decide +kernel
theorem dX67_truth_9 : decode cX67_truth 9 = .ok (.new 94, 3) := by decide +kernel
theorem dX67_truth_12 : decode cX67_truth 12 = .ok (.dup, 1) := by decide +kernel
theorem dX67_truth_13 : decode cX67_truth 13 = .ok (.iconst 1, 1) := by decide +kernel
theorem dX67_truth_14 : decode cX67_truth 14 = .ok (.invokespecial 96, 3) := by decide +kernel
theorem dX67_truth_17 : decode cX67_truth 17 = .ok (.areturn, 1) := by decide +kernel
theorem dX67_truth_18 : decode cX67_truth 18 = .ok (.aload_n 0, 1) := by decide +kernel
theorem dX67_truth_19 : decode cX67_truth 19 = .ok (.bipush 48, 2) := by decide +kernel
theorem dX67_truth_21 : decode cX67_truth 21 = .ok (.invokevirtual 39, 3) := by decide +kernel
theorem dX67_truth_24 : decode cX67_truth 24 = .ok (.ifCond .eq 12, 3) := by decide +kernel
theorem dX67_truth_27 : decode cX67_truth 27 = .ok (.new 94, 3) := by decide +kernel
theorem dX67_truth_30 : decode cX67_truth 30 = .ok (.dup, 1) := by decide +kernel
theorem dX67_truth_31 : decode cX67_truth 31 = .ok (.iconst 0, 1) := by decide +kernel
theorem dX67_truth_32 : decode cX67_truth 32 = .ok (.invokespecial 96, 3) := by decide +kernel
theorem dX67_truth_35 : decode cX67_truth 35 = .ok (.areturn, 1) := by decide +kernel
theorem dX67_truth_36 : decode cX67_truth 36 = .ok (.aload_n 0, 1) := by decide +kernel
theorem dX67_truth_37 : decode cX67_truth 37 = .ok (.invokevirtual 35, 3) := by decide +kernel
theorem dX67_truth_40 : decode cX67_truth 40 = .ok (.bipush 116, 2) := by decide +kernel
theorem dX67_truth_42 : decode cX67_truth 42 = .ok (.if_icmp .ne 7, 3) := by decide +kernel
theorem dX67_truth_45 : decode cX67_truth 45 = .ok (.iconst 1, 1) := by decide +kernel
theorem dX67_truth_46 : decode cX67_truth 46 = .ok (.goto 4, 3) := by decide +kernel
theorem dX67_truth_49 : decode cX67_truth 49 = .ok (.iconst 0, 1) := by decide +kernel
theorem dX67_truth_50 : decode cX67_truth 50 = .ok (.istore_n 1, 1) := by decide +kernel
theorem dX67_truth_51 : decode cX67_truth 51 = .ok (.iload_n 1, 1) := by decide +kernel
theorem dX67_truth_52 : decode cX67_truth 52 = .ok (.ifCond .eq 8, 3) := by decide +kernel
theorem dX67_truth_55 : decode cX67_truth 55 = .ok (.ldc 99, 2) := by decide +kernel
theorem dX67_truth_57 : decode cX67_truth 57 = .ok (.goto 5, 3) := by decide +kernel
theorem dX67_truth_60 : decode cX67_truth 60 = .ok (.ldc 101, 2) := by decide +kernel
theorem dX67_truth_62 : decode cX67_truth 62 = .ok (.astore_n 2, 1) := by decide +kernel
theorem dX67_truth_63 : decode cX67_truth 63 = .ok (.iconst 0, 1) := by decide +kernel
theorem dX67_truth_64 : decode cX67_truth 64 = .ok (.istore_n 3, 1) := by decide +kernel
theorem dX67_truth_65 : decode cX67_truth 65 = .ok (.iload_n 3, 1) := by decide +kernel
theorem dX67_truth_66 : decode cX67_truth 66 = .ok (.aload_n 2, 1) := by decide +kernel
theorem dX67_truth_67 : decode cX67_truth 67 = .ok (.invokevirtual 103, 3) := by decide +kernel
theorem dX67_truth_70 : decode cX67_truth 70 = .ok (.if_icmp .ge 18, 3) := by decide +kernel
theorem dX67_truth_73 : decode cX67_truth 73 = .ok (.aload_n 0, 1) := by decide +kernel
theorem dX67_truth_74 : decode cX67_truth 74 = .ok (.aload_n 2, 1) := by decide +kernel
theorem dX67_truth_75 : decode cX67_truth 75 = .ok (.iload_n 3, 1) := by decide +kernel
theorem dX67_truth_76 : decode cX67_truth 76 = .ok (.invokevirtual 108, 3) := by decide +kernel
theorem dX67_truth_79 : decode cX67_truth 79 = .ok (.invokevirtual 112, 3) := by decide +kernel
theorem dX67_truth_82 : decode cX67_truth 82 = .ok (.iinc 3 1, 3) := by decide +kernel
theorem dX67_truth_85 : decode cX67_truth 85 = .ok (.goto (-20), 3) := by decide +kernel
theorem dX67_truth_88 : decode cX67_truth 88 = .ok (.new 94, 3) := by decide +kernel
theorem dX67_truth_91 : decode cX67_truth 91 = .ok (.dup, 1) := by decide +kernel
theorem dX67_truth_92 : decode cX67_truth 92 = .ok (.iload_n 1, 1) := by decide +kernel
theorem dX67_truth_93 : decode cX67_truth 93 = .ok (.invokespecial 96, 3) := by decide +kernel
theorem dX67_truth_96 : decode cX67_truth 96 = .ok (.areturn, 1) := by decide +kernel
abbrev cX67_want : ByteArray := prog_13_method_6_code
def yX67_want : MethodName := ⟨RX67, "want", "(I)V"⟩
theorem dX67_want_0 : decode cX67_want 0 = .ok (.aload_n 0, 1) := by decide +kernel
theorem dX67_want_1 : decode cX67_want 1 = .ok (.aload_n 0, 1) := by decide +kernel
theorem dX67_want_2 : decode cX67_want 2 = .ok (.iload_n 1, 1) := by decide +kernel
theorem dX67_want_3 : decode cX67_want 3 = .ok (.invokevirtual 39, 3) := by decide +kernel
theorem dX67_want_6 : decode cX67_want 6 = .ok (.aload_n 0, 1) := by decide +kernel
theorem dX67_want_7 : decode cX67_want 7 = .ok (.getfield 32, 3) := by decide +kernel
theorem dX67_want_10 : decode cX67_want 10 = .ok (.invokevirtual 43, 3) := by decide +kernel
theorem dX67_want_13 : decode cX67_want 13 = .ok (.return_, 1) := by decide +kernel
abbrev cX67_date : ByteArray := prog_13_method_15_code
def yX67_date : MethodName := ⟨RX67, "date", "()LKnowHouse$DatatypeValues$Value;"⟩
theorem dX67_date_0 : decode cX67_date 0 = .ok (.aload_n 0, 1) := by decide +kernel
theorem dX67_date_1 : decode cX67_date 1 = .ok (.invokevirtual 129, 3) := by decide +kernel
theorem dX67_date_4 : decode cX67_date 4 = .ok (.lstore_n 1, 1) := by decide +kernel
theorem dX67_date_5 : decode cX67_date 5 = .ok (.new 133, 3) := by decide +kernel
theorem dX67_date_8 : decode cX67_date 8 = .ok (.dup, 1) := by decide +kernel
theorem dX67_date_9 : decode cX67_date 9 = .ok (.iconst 4, 1) := by decide +kernel
theorem dX67_date_10 : decode cX67_date 10 = .ok (.ldc2_w 135, 3) := by decide +kernel
theorem dX67_date_13 : decode cX67_date 13 = .ok (.lload_n 1, 1) := by decide +kernel
theorem dX67_date_14 : decode cX67_date 14 = .ok (.lmul, 1) := by decide +kernel
theorem dX67_date_15 : decode cX67_date 15 = .ok (.aload_n 0, 1) := by decide +kernel
theorem dX67_date_16 : decode cX67_date 16 = .ok (.invokevirtual 137, 3) := by decide +kernel
theorem dX67_date_19 : decode cX67_date 19 = .ok (.invokespecial 140, 3) := by decide +kernel
theorem dX67_date_22 : decode cX67_date 22 = .ok (.areturn, 1) := by decide +kernel
abbrev cX67_day : ByteArray := prog_13_method_13_code
def yX67_day : MethodName := ⟨RX67, "day", "()J"⟩
theorem dX67_day_0 : decode cX67_day 0 = .ok (.aload_n 0, 1) := by decide +kernel
theorem dX67_day_1 : decode cX67_day 1 = .ok (.getfield 32, 3) := by decide +kernel
theorem dX67_day_4 : decode cX67_day 4 = .ok (.istore_n 1, 1) := by decide +kernel
theorem dX67_day_5 : decode cX67_day 5 = .ok (.aload_n 0, 1) := by decide +kernel
theorem dX67_day_6 : decode cX67_day 6 = .ok (.iconst 4, 1) := by decide +kernel
theorem dX67_day_7 : decode cX67_day 7 = .ok (.iconst 4, 1) := by decide +kernel
theorem dX67_day_8 : decode cX67_day 8 = .ok (.invokevirtual 55, 3) := by decide +kernel
theorem dX67_day_11 : decode cX67_day 11 = .ok (.l2i, 1) := by decide +kernel
theorem dX67_day_12 : decode cX67_day 12 = .ok (.istore_n 2, 1) := by decide +kernel
theorem dX67_day_13 : decode cX67_day 13 = .ok (.aload_n 0, 1) := by decide +kernel
theorem dX67_day_14 : decode cX67_day 14 = .ok (.iload_n 2, 1) := by decide +kernel
theorem dX67_day_15 : decode cX67_day 15 = .ok (.ifCond .le 7, 3) := by decide +kernel
theorem dX67_day_18 : decode cX67_day 18 = .ok (.iconst 1, 1) := by decide +kernel
theorem dX67_day_19 : decode cX67_day 19 = .ok (.goto 4, 3) := by decide +kernel
theorem dX67_day_22 : decode cX67_day 22 = .ok (.iconst 0, 1) := by decide +kernel
theorem dX67_day_23 : decode cX67_day 23 = .ok (.iload_n 1, 1) := by decide +kernel
theorem dX67_day_24 : decode cX67_day 24 = .ok (.invokevirtual 43, 3) := by decide +kernel
theorem dX67_day_27 : decode cX67_day 27 = .ok (.aload_n 0, 1) := by decide +kernel
theorem dX67_day_28 : decode cX67_day 28 = .ok (.bipush 45, 2) := by decide +kernel
theorem dX67_day_30 : decode cX67_day 30 = .ok (.invokevirtual 112, 3) := by decide +kernel
theorem dX67_day_33 : decode cX67_day 33 = .ok (.aload_n 0, 1) := by decide +kernel
theorem dX67_day_34 : decode cX67_day 34 = .ok (.iconst 1, 1) := by decide +kernel
theorem dX67_day_35 : decode cX67_day 35 = .ok (.bipush 12, 2) := by decide +kernel
theorem dX67_day_37 : decode cX67_day 37 = .ok (.invokevirtual 116, 3) := by decide +kernel
theorem dX67_day_40 : decode cX67_day 40 = .ok (.istore_n 3, 1) := by decide +kernel
theorem dX67_day_41 : decode cX67_day 41 = .ok (.aload_n 0, 1) := by decide +kernel
theorem dX67_day_42 : decode cX67_day 42 = .ok (.bipush 45, 2) := by decide +kernel
theorem dX67_day_44 : decode cX67_day 44 = .ok (.invokevirtual 112, 3) := by decide +kernel
theorem dX67_day_47 : decode cX67_day 47 = .ok (.aload_n 0, 1) := by decide +kernel
theorem dX67_day_48 : decode cX67_day 48 = .ok (.iconst 1, 1) := by decide +kernel
theorem dX67_day_49 : decode cX67_day 49 = .ok (.iload_n 2, 1) := by decide +kernel
theorem dX67_day_50 : decode cX67_day 50 = .ok (.i2l, 1) := by decide +kernel
theorem dX67_day_51 : decode cX67_day 51 = .ok (.iload_n 3, 1) := by decide +kernel
theorem dX67_day_52 : decode cX67_day 52 = .ok (.invokestatic 120, 3) := by decide +kernel
theorem dX67_day_55 : decode cX67_day 55 = .ok (.invokevirtual 116, 3) := by decide +kernel
theorem dX67_day_58 : decode cX67_day 58 = .ok (.istore 4, 2) := by decide +kernel
theorem dX67_day_60 : decode cX67_day 60 = .ok (.iload_n 2, 1) := by decide +kernel
theorem dX67_day_61 : decode cX67_day 61 = .ok (.i2l, 1) := by decide +kernel
theorem dX67_day_62 : decode cX67_day 62 = .ok (.iload_n 3, 1) := by decide +kernel
theorem dX67_day_63 : decode cX67_day 63 = .ok (.iload 4, 2) := by decide +kernel
theorem dX67_day_65 : decode cX67_day 65 = .ok (.invokestatic 125, 3) := by decide +kernel
theorem dX67_day_68 : decode cX67_day 68 = .ok (.lreturn, 1) := by decide +kernel
abbrev cX67_two : ByteArray := prog_13_method_8_code
def yX67_two : MethodName := ⟨RX67, "two", "(II)I"⟩
theorem dX67_two_0 : decode cX67_two 0 = .ok (.aload_n 0, 1) := by decide +kernel
theorem dX67_two_1 : decode cX67_two 1 = .ok (.getfield 32, 3) := by decide +kernel
theorem dX67_two_4 : decode cX67_two 4 = .ok (.istore_n 3, 1) := by decide +kernel
theorem dX67_two_5 : decode cX67_two 5 = .ok (.aload_n 0, 1) := by decide +kernel
theorem dX67_two_6 : decode cX67_two 6 = .ok (.iconst 2, 1) := by decide +kernel
theorem dX67_two_7 : decode cX67_two 7 = .ok (.iconst 2, 1) := by decide +kernel
theorem dX67_two_8 : decode cX67_two 8 = .ok (.invokevirtual 55, 3) := by decide +kernel
theorem dX67_two_11 : decode cX67_two 11 = .ok (.l2i, 1) := by decide +kernel
theorem dX67_two_12 : decode cX67_two 12 = .ok (.istore 4, 2) := by decide +kernel
theorem dX67_two_14 : decode cX67_two 14 = .ok (.aload_n 0, 1) := by decide +kernel
theorem dX67_two_15 : decode cX67_two 15 = .ok (.iload 4, 2) := by decide +kernel
theorem dX67_two_17 : decode cX67_two 17 = .ok (.iload_n 1, 1) := by decide +kernel
theorem dX67_two_18 : decode cX67_two 18 = .ok (.if_icmp .lt 13, 3) := by decide +kernel
theorem dX67_two_21 : decode cX67_two 21 = .ok (.iload 4, 2) := by decide +kernel
theorem dX67_two_23 : decode cX67_two 23 = .ok (.iload_n 2, 1) := by decide +kernel
theorem dX67_two_24 : decode cX67_two 24 = .ok (.if_icmp .gt 7, 3) := by decide +kernel
theorem dX67_two_27 : decode cX67_two 27 = .ok (.iconst 1, 1) := by decide +kernel
theorem dX67_two_28 : decode cX67_two 28 = .ok (.goto 4, 3) := by decide +kernel
theorem dX67_two_31 : decode cX67_two 31 = .ok (.iconst 0, 1) := by decide +kernel
theorem dX67_two_32 : decode cX67_two 32 = .ok (.iload_n 3, 1) := by decide +kernel
theorem dX67_two_33 : decode cX67_two 33 = .ok (.invokevirtual 43, 3) := by decide +kernel
theorem dX67_two_36 : decode cX67_two 36 = .ok (.iload 4, 2) := by decide +kernel
theorem dX67_two_38 : decode cX67_two 38 = .ok (.ireturn, 1) := by decide +kernel
abbrev cX67_zone : ByteArray := prog_13_method_14_code
def yX67_zone : MethodName := ⟨RX67, "zone", "()I"⟩
theorem dX67_zone_0 : decode cX67_zone 0 = .ok (.aload_n 0, 1) := by decide +kernel
theorem dX67_zone_1 : decode cX67_zone 1 = .ok (.bipush 90, 2) := by decide +kernel
theorem dX67_zone_3 : decode cX67_zone 3 = .ok (.invokevirtual 39, 3) := by decide +kernel
theorem dX67_zone_6 : decode cX67_zone 6 = .ok (.ifCond .eq 5, 3) := by decide +kernel
theorem dX67_zone_9 : decode cX67_zone 9 = .ok (.iconst 0, 1) := by decide +kernel
theorem dX67_zone_10 : decode cX67_zone 10 = .ok (.ireturn, 1) := by decide +kernel
theorem dX67_zone_11 : decode cX67_zone 11 = .ok (.aload_n 0, 1) := by decide +kernel
theorem dX67_zone_12 : decode cX67_zone 12 = .ok (.invokevirtual 35, 3) := by decide +kernel
theorem dX67_zone_15 : decode cX67_zone 15 = .ok (.bipush 45, 2) := by decide +kernel
theorem dX67_zone_17 : decode cX67_zone 17 = .ok (.if_icmp .ne 7, 3) := by decide +kernel
theorem dX67_zone_20 : decode cX67_zone 20 = .ok (.iconst (-1), 1) := by decide +kernel
theorem dX67_zone_21 : decode cX67_zone 21 = .ok (.goto 4, 3) := by decide +kernel
theorem dX67_zone_24 : decode cX67_zone 24 = .ok (.iconst 1, 1) := by decide +kernel
theorem dX67_zone_25 : decode cX67_zone 25 = .ok (.istore_n 1, 1) := by decide +kernel
theorem dX67_zone_26 : decode cX67_zone 26 = .ok (.aload_n 0, 1) := by decide +kernel
theorem dX67_zone_27 : decode cX67_zone 27 = .ok (.bipush 45, 2) := by decide +kernel
theorem dX67_zone_29 : decode cX67_zone 29 = .ok (.invokevirtual 39, 3) := by decide +kernel
theorem dX67_zone_32 : decode cX67_zone 32 = .ok (.ifCond .ne 16, 3) := by decide +kernel
theorem dX67_zone_35 : decode cX67_zone 35 = .ok (.aload_n 0, 1) := by decide +kernel
theorem dX67_zone_36 : decode cX67_zone 36 = .ok (.bipush 43, 2) := by decide +kernel
theorem dX67_zone_38 : decode cX67_zone 38 = .ok (.invokevirtual 39, 3) := by decide +kernel
theorem dX67_zone_41 : decode cX67_zone 41 = .ok (.ifCond .ne 7, 3) := by decide +kernel
theorem dX67_zone_44 : decode cX67_zone 44 = .ok (.sipush 10000, 3) := by decide +kernel
theorem dX67_zone_47 : decode cX67_zone 47 = .ok (.ireturn, 1) := by decide +kernel
theorem dX67_zone_48 : decode cX67_zone 48 = .ok (.aload_n 0, 1) := by decide +kernel
theorem dX67_zone_49 : decode cX67_zone 49 = .ok (.iconst 0, 1) := by decide +kernel
theorem dX67_zone_50 : decode cX67_zone 50 = .ok (.bipush 14, 2) := by decide +kernel
theorem dX67_zone_52 : decode cX67_zone 52 = .ok (.invokevirtual 116, 3) := by decide +kernel
theorem dX67_zone_55 : decode cX67_zone 55 = .ok (.istore_n 2, 1) := by decide +kernel
theorem dX67_zone_56 : decode cX67_zone 56 = .ok (.aload_n 0, 1) := by decide +kernel
theorem dX67_zone_57 : decode cX67_zone 57 = .ok (.bipush 58, 2) := by decide +kernel
theorem dX67_zone_59 : decode cX67_zone 59 = .ok (.invokevirtual 112, 3) := by decide +kernel
theorem dX67_zone_62 : decode cX67_zone 62 = .ok (.aload_n 0, 1) := by decide +kernel
theorem dX67_zone_63 : decode cX67_zone 63 = .ok (.iconst 0, 1) := by decide +kernel
theorem dX67_zone_64 : decode cX67_zone 64 = .ok (.iload_n 2, 1) := by decide +kernel
theorem dX67_zone_65 : decode cX67_zone 65 = .ok (.bipush 14, 2) := by decide +kernel
theorem dX67_zone_67 : decode cX67_zone 67 = .ok (.if_icmp .ne 7, 3) := by decide +kernel
theorem dX67_zone_70 : decode cX67_zone 70 = .ok (.iconst 0, 1) := by decide +kernel
theorem dX67_zone_71 : decode cX67_zone 71 = .ok (.goto 5, 3) := by decide +kernel
theorem dX67_zone_74 : decode cX67_zone 74 = .ok (.bipush 59, 2) := by decide +kernel
theorem dX67_zone_76 : decode cX67_zone 76 = .ok (.invokevirtual 116, 3) := by decide +kernel
theorem dX67_zone_79 : decode cX67_zone 79 = .ok (.istore_n 3, 1) := by decide +kernel
theorem dX67_zone_80 : decode cX67_zone 80 = .ok (.iload_n 1, 1) := by decide +kernel
theorem dX67_zone_81 : decode cX67_zone 81 = .ok (.bipush 60, 2) := by decide +kernel
theorem dX67_zone_83 : decode cX67_zone 83 = .ok (.iload_n 2, 1) := by decide +kernel
theorem dX67_zone_84 : decode cX67_zone 84 = .ok (.imul, 1) := by decide +kernel
theorem dX67_zone_85 : decode cX67_zone 85 = .ok (.iload_n 3, 1) := by decide +kernel
theorem dX67_zone_86 : decode cX67_zone 86 = .ok (.iadd, 1) := by decide +kernel
theorem dX67_zone_87 : decode cX67_zone 87 = .ok (.imul, 1) := by decide +kernel
theorem dX67_zone_88 : decode cX67_zone 88 = .ok (.ireturn, 1) := by decide +kernel
abbrev cX67_instant : ByteArray := prog_13_method_16_code
def yX67_instant : MethodName := ⟨RX67, "instant", "()LKnowHouse$DatatypeValues$Value;"⟩
theorem dX67_instant_0 : decode cX67_instant 0 = .ok (.aload_n 0, 1) := by decide +kernel
theorem dX67_instant_1 : decode cX67_instant 1 = .ok (.invokevirtual 129, 3) := by decide +kernel
theorem dX67_instant_4 : decode cX67_instant 4 = .ok (.lstore_n 1, 1) := by decide +kernel
theorem dX67_instant_5 : decode cX67_instant 5 = .ok (.aload_n 0, 1) := by decide +kernel
theorem dX67_instant_6 : decode cX67_instant 6 = .ok (.bipush 84, 2) := by decide +kernel
theorem dX67_instant_8 : decode cX67_instant 8 = .ok (.invokevirtual 112, 3) := by decide +kernel
theorem dX67_instant_11 : decode cX67_instant 11 = .ok (.aload_n 0, 1) := by decide +kernel
theorem dX67_instant_12 : decode cX67_instant 12 = .ok (.getfield 32, 3) := by decide +kernel
theorem dX67_instant_15 : decode cX67_instant 15 = .ok (.istore_n 3, 1) := by decide +kernel
theorem dX67_instant_16 : decode cX67_instant 16 = .ok (.aload_n 0, 1) := by decide +kernel
theorem dX67_instant_17 : decode cX67_instant 17 = .ok (.iconst 0, 1) := by decide +kernel
theorem dX67_instant_18 : decode cX67_instant 18 = .ok (.bipush 24, 2) := by decide +kernel
theorem dX67_instant_20 : decode cX67_instant 20 = .ok (.invokevirtual 116, 3) := by decide +kernel
theorem dX67_instant_23 : decode cX67_instant 23 = .ok (.istore 4, 2) := by decide +kernel
theorem dX67_instant_25 : decode cX67_instant 25 = .ok (.aload_n 0, 1) := by decide +kernel
theorem dX67_instant_26 : decode cX67_instant 26 = .ok (.bipush 58, 2) := by decide +kernel
theorem dX67_instant_28 : decode cX67_instant 28 = .ok (.invokevirtual 112, 3) := by decide +kernel
theorem dX67_instant_31 : decode cX67_instant 31 = .ok (.aload_n 0, 1) := by decide +kernel
theorem dX67_instant_32 : decode cX67_instant 32 = .ok (.iconst 0, 1) := by decide +kernel
theorem dX67_instant_33 : decode cX67_instant 33 = .ok (.bipush 59, 2) := by decide +kernel
theorem dX67_instant_35 : decode cX67_instant 35 = .ok (.invokevirtual 116, 3) := by decide +kernel
theorem dX67_instant_38 : decode cX67_instant 38 = .ok (.istore 5, 2) := by decide +kernel
theorem dX67_instant_40 : decode cX67_instant 40 = .ok (.aload_n 0, 1) := by decide +kernel
theorem dX67_instant_41 : decode cX67_instant 41 = .ok (.iload 4, 2) := by decide +kernel
theorem dX67_instant_43 : decode cX67_instant 43 = .ok (.bipush 24, 2) := by decide +kernel
theorem dX67_instant_45 : decode cX67_instant 45 = .ok (.if_icmp .lt 8, 3) := by decide +kernel
theorem dX67_instant_48 : decode cX67_instant 48 = .ok (.iload 5, 2) := by decide +kernel
theorem dX67_instant_50 : decode cX67_instant 50 = .ok (.ifCond .ne 7, 3) := by decide +kernel
theorem dX67_instant_53 : decode cX67_instant 53 = .ok (.iconst 1, 1) := by decide +kernel
theorem dX67_instant_54 : decode cX67_instant 54 = .ok (.goto 4, 3) := by decide +kernel
theorem dX67_instant_57 : decode cX67_instant 57 = .ok (.iconst 0, 1) := by decide +kernel
theorem dX67_instant_58 : decode cX67_instant 58 = .ok (.iload_n 3, 1) := by decide +kernel
theorem dX67_instant_59 : decode cX67_instant 59 = .ok (.invokevirtual 43, 3) := by decide +kernel
theorem dX67_instant_62 : decode cX67_instant 62 = .ok (.aload_n 0, 1) := by decide +kernel
theorem dX67_instant_63 : decode cX67_instant 63 = .ok (.bipush 58, 2) := by decide +kernel
theorem dX67_instant_65 : decode cX67_instant 65 = .ok (.invokevirtual 112, 3) := by decide +kernel
theorem dX67_instant_68 : decode cX67_instant 68 = .ok (.aload_n 0, 1) := by decide +kernel
theorem dX67_instant_69 : decode cX67_instant 69 = .ok (.iconst 0, 1) := by decide +kernel
theorem dX67_instant_70 : decode cX67_instant 70 = .ok (.iload 5, 2) := by decide +kernel
theorem dX67_instant_72 : decode cX67_instant 72 = .ok (.bipush 59, 2) := by decide +kernel
theorem dX67_instant_74 : decode cX67_instant 74 = .ok (.if_icmp .ne 8, 3) := by decide +kernel
theorem dX67_instant_77 : decode cX67_instant 77 = .ok (.bipush 60, 2) := by decide +kernel
theorem dX67_instant_79 : decode cX67_instant 79 = .ok (.goto 5, 3) := by decide +kernel
theorem dX67_instant_82 : decode cX67_instant 82 = .ok (.bipush 59, 2) := by decide +kernel
theorem dX67_instant_84 : decode cX67_instant 84 = .ok (.invokevirtual 116, 3) := by decide +kernel
theorem dX67_instant_87 : decode cX67_instant 87 = .ok (.istore 6, 2) := by decide +kernel
theorem dX67_instant_89 : decode cX67_instant 89 = .ok (.aload_n 0, 1) := by decide +kernel
theorem dX67_instant_90 : decode cX67_instant 90 = .ok (.iload 4, 2) := by decide +kernel
theorem dX67_instant_92 : decode cX67_instant 92 = .ok (.bipush 24, 2) := by decide +kernel
theorem dX67_instant_94 : decode cX67_instant 94 = .ok (.if_icmp .lt 23, 3) := by decide +kernel
theorem dX67_instant_97 : decode cX67_instant 97 = .ok (.iload 6, 2) := by decide +kernel
theorem dX67_instant_99 : decode cX67_instant 99 = .ok (.ifCond .ne 22, 3) := by decide +kernel
theorem dX67_instant_102 : decode cX67_instant 102 = .ok (.lload_n 1, 1) := by decide +kernel
theorem dX67_instant_103 : decode cX67_instant 103 = .ok (.ldc2_w 143, 3) := by decide +kernel
theorem dX67_instant_106 : decode cX67_instant 106 = .ok (.bipush 12, 2) := by decide +kernel
theorem dX67_instant_108 : decode cX67_instant 108 = .ok (.bipush 31, 2) := by decide +kernel
theorem dX67_instant_110 : decode cX67_instant 110 = .ok (.invokestatic 125, 3) := by decide +kernel
theorem dX67_instant_113 : decode cX67_instant 113 = .ok (.lcmp, 1) := by decide +kernel
theorem dX67_instant_114 : decode cX67_instant 114 = .ok (.ifCond .ge 7, 3) := by decide +kernel
theorem dX67_instant_117 : decode cX67_instant 117 = .ok (.iconst 1, 1) := by decide +kernel
theorem dX67_instant_118 : decode cX67_instant 118 = .ok (.goto 4, 3) := by decide +kernel
theorem dX67_instant_121 : decode cX67_instant 121 = .ok (.iconst 0, 1) := by decide +kernel
theorem dX67_instant_122 : decode cX67_instant 122 = .ok (.iload_n 3, 1) := by decide +kernel
theorem dX67_instant_123 : decode cX67_instant 123 = .ok (.invokevirtual 43, 3) := by decide +kernel
theorem dX67_instant_126 : decode cX67_instant 126 = .ok (.ldc2_w 145, 3) := by decide +kernel
theorem dX67_instant_129 : decode cX67_instant 129 = .ok (.iload 6, 2) := by decide +kernel
theorem dX67_instant_131 : decode cX67_instant 131 = .ok (.bipush 59, 2) := by decide +kernel
theorem dX67_instant_133 : decode cX67_instant 133 = .ok (.invokestatic 147, 3) := by decide +kernel
theorem dX67_instant_136 : decode cX67_instant 136 = .ok (.i2l, 1) := by decide +kernel
theorem dX67_instant_137 : decode cX67_instant 137 = .ok (.lmul, 1) := by decide +kernel
theorem dX67_instant_138 : decode cX67_instant 138 = .ok (.lstore 7, 2) := by decide +kernel
theorem dX67_instant_140 : decode cX67_instant 140 = .ok (.iload 4, 2) := by decide +kernel
theorem dX67_instant_142 : decode cX67_instant 142 = .ok (.bipush 24, 2) := by decide +kernel
theorem dX67_instant_144 : decode cX67_instant 144 = .ok (.if_icmp .ge 28, 3) := by decide +kernel
theorem dX67_instant_147 : decode cX67_instant 147 = .ok (.iload 6, 2) := by decide +kernel
theorem dX67_instant_149 : decode cX67_instant 149 = .ok (.bipush 60, 2) := by decide +kernel
theorem dX67_instant_151 : decode cX67_instant 151 = .ok (.if_icmp .ge 21, 3) := by decide +kernel
theorem dX67_instant_154 : decode cX67_instant 154 = .ok (.aload_n 0, 1) := by decide +kernel
theorem dX67_instant_155 : decode cX67_instant 155 = .ok (.bipush 46, 2) := by decide +kernel
theorem dX67_instant_157 : decode cX67_instant 157 = .ok (.invokevirtual 39, 3) := by decide +kernel
theorem dX67_instant_160 : decode cX67_instant 160 = .ok (.ifCond .eq 12, 3) := by decide +kernel
theorem dX67_instant_163 : decode cX67_instant 163 = .ok (.lload 7, 2) := by decide +kernel
theorem dX67_instant_165 : decode cX67_instant 165 = .ok (.aload_n 0, 1) := by decide +kernel
theorem dX67_instant_166 : decode cX67_instant 166 = .ok (.invokevirtual 152, 3) := by decide +kernel
theorem dX67_instant_169 : decode cX67_instant 169 = .ok (.ladd, 1) := by decide +kernel
theorem dX67_instant_170 : decode cX67_instant 170 = .ok (.lstore 7, 2) := by decide +kernel
theorem dX67_instant_172 : decode cX67_instant 172 = .ok (.new 133, 3) := by decide +kernel
theorem dX67_instant_175 : decode cX67_instant 175 = .ok (.dup, 1) := by decide +kernel
theorem dX67_instant_176 : decode cX67_instant 176 = .ok (.iconst 5, 1) := by decide +kernel
theorem dX67_instant_177 : decode cX67_instant 177 = .ok (.ldc2_w 135, 3) := by decide +kernel
theorem dX67_instant_180 : decode cX67_instant 180 = .ok (.lload_n 1, 1) := by decide +kernel
theorem dX67_instant_181 : decode cX67_instant 181 = .ok (.lmul, 1) := by decide +kernel
theorem dX67_instant_182 : decode cX67_instant 182 = .ok (.ldc2_w 155, 3) := by decide +kernel
theorem dX67_instant_185 : decode cX67_instant 185 = .ok (.iload 4, 2) := by decide +kernel
theorem dX67_instant_187 : decode cX67_instant 187 = .ok (.i2l, 1) := by decide +kernel
theorem dX67_instant_188 : decode cX67_instant 188 = .ok (.lmul, 1) := by decide +kernel
theorem dX67_instant_189 : decode cX67_instant 189 = .ok (.ladd, 1) := by decide +kernel
theorem dX67_instant_190 : decode cX67_instant 190 = .ok (.ldc2_w 157, 3) := by decide +kernel
theorem dX67_instant_193 : decode cX67_instant 193 = .ok (.iload 5, 2) := by decide +kernel
theorem dX67_instant_195 : decode cX67_instant 195 = .ok (.i2l, 1) := by decide +kernel
theorem dX67_instant_196 : decode cX67_instant 196 = .ok (.lmul, 1) := by decide +kernel
theorem dX67_instant_197 : decode cX67_instant 197 = .ok (.ladd, 1) := by decide +kernel
theorem dX67_instant_198 : decode cX67_instant 198 = .ok (.lload 7, 2) := by decide +kernel
theorem dX67_instant_200 : decode cX67_instant 200 = .ok (.ladd, 1) := by decide +kernel
theorem dX67_instant_201 : decode cX67_instant 201 = .ok (.aload_n 0, 1) := by decide +kernel
theorem dX67_instant_202 : decode cX67_instant 202 = .ok (.invokevirtual 137, 3) := by decide +kernel
theorem dX67_instant_205 : decode cX67_instant 205 = .ok (.invokespecial 140, 3) := by decide +kernel
theorem dX67_instant_208 : decode cX67_instant 208 = .ok (.areturn, 1) := by decide +kernel
abbrev cX67_fraction : ByteArray := prog_13_method_17_code
def yX67_fraction : MethodName := ⟨RX67, "fraction", "()J"⟩
theorem dX67_fraction_0 : decode cX67_fraction 0 = .ok (.aload_n 0, 1) := by decide +kernel
theorem dX67_fraction_1 : decode cX67_fraction 1 = .ok (.getfield 32, 3) := by decide +kernel
theorem dX67_fraction_4 : decode cX67_fraction 4 = .ok (.istore_n 1, 1) := by decide +kernel
theorem dX67_fraction_5 : decode cX67_fraction 5 = .ok (.aload_n 0, 1) := by decide +kernel
theorem dX67_fraction_6 : decode cX67_fraction 6 = .ok (.iconst 1, 1) := by decide +kernel
theorem dX67_fraction_7 : decode cX67_fraction 7 = .ok (.iconst 3, 1) := by decide +kernel
theorem dX67_fraction_8 : decode cX67_fraction 8 = .ok (.invokevirtual 55, 3) := by decide +kernel
theorem dX67_fraction_11 : decode cX67_fraction 11 = .ok (.lstore_n 2, 1) := by decide +kernel
theorem dX67_fraction_12 : decode cX67_fraction 12 = .ok (.aload_n 0, 1) := by decide +kernel
theorem dX67_fraction_13 : decode cX67_fraction 13 = .ok (.getfield 32, 3) := by decide +kernel
theorem dX67_fraction_16 : decode cX67_fraction 16 = .ok (.iload_n 1, 1) := by decide +kernel
theorem dX67_fraction_17 : decode cX67_fraction 17 = .ok (.isub, 1) := by decide +kernel
theorem dX67_fraction_18 : decode cX67_fraction 18 = .ok (.istore 4, 2) := by decide +kernel
theorem dX67_fraction_20 : decode cX67_fraction 20 = .ok (.iload 4, 2) := by decide +kernel
theorem dX67_fraction_22 : decode cX67_fraction 22 = .ok (.iconst 3, 1) := by decide +kernel
theorem dX67_fraction_23 : decode cX67_fraction 23 = .ok (.if_icmp .ge 15, 3) := by decide +kernel
theorem dX67_fraction_26 : decode cX67_fraction 26 = .ok (.lload_n 2, 1) := by decide +kernel
theorem dX67_fraction_27 : decode cX67_fraction 27 = .ok (.ldc2_w 51, 3) := by decide +kernel
theorem dX67_fraction_30 : decode cX67_fraction 30 = .ok (.lmul, 1) := by decide +kernel
theorem dX67_fraction_31 : decode cX67_fraction 31 = .ok (.lstore_n 2, 1) := by decide +kernel
theorem dX67_fraction_32 : decode cX67_fraction 32 = .ok (.iinc 4 1, 3) := by decide +kernel
theorem dX67_fraction_35 : decode cX67_fraction 35 = .ok (.goto (-15), 3) := by decide +kernel
theorem dX67_fraction_38 : decode cX67_fraction 38 = .ok (.lload_n 2, 1) := by decide +kernel
theorem dX67_fraction_39 : decode cX67_fraction 39 = .ok (.lreturn, 1) := by decide +kernel
abbrev cX67_span : ByteArray := prog_13_method_18_code
def yX67_span : MethodName := ⟨RX67, "span", "()LKnowHouse$DatatypeValues$Value;"⟩
theorem dX67_span_0 : decode cX67_span 0 = .ok (.aload_n 0, 1) := by decide +kernel
theorem dX67_span_1 : decode cX67_span 1 = .ok (.bipush 45, 2) := by decide +kernel
theorem dX67_span_3 : decode cX67_span 3 = .ok (.invokevirtual 39, 3) := by decide +kernel
theorem dX67_span_6 : decode cX67_span 6 = .ok (.istore_n 1, 1) := by decide +kernel
theorem dX67_span_7 : decode cX67_span 7 = .ok (.aload_n 0, 1) := by decide +kernel
theorem dX67_span_8 : decode cX67_span 8 = .ok (.bipush 80, 2) := by decide +kernel
theorem dX67_span_10 : decode cX67_span 10 = .ok (.invokevirtual 112, 3) := by decide +kernel
theorem dX67_span_13 : decode cX67_span 13 = .ok (.lconst 0, 1) := by decide +kernel
theorem dX67_span_14 : decode cX67_span 14 = .ok (.lstore_n 2, 1) := by decide +kernel
theorem dX67_span_15 : decode cX67_span 15 = .ok (.lconst 0, 1) := by decide +kernel
theorem dX67_span_16 : decode cX67_span 16 = .ok (.lstore 4, 2) := by decide +kernel
theorem dX67_span_18 : decode cX67_span 18 = .ok (.iconst 0, 1) := by decide +kernel
theorem dX67_span_19 : decode cX67_span 19 = .ok (.istore 6, 2) := by decide +kernel
theorem dX67_span_21 : decode cX67_span 21 = .ok (.iconst 0, 1) := by decide +kernel
theorem dX67_span_22 : decode cX67_span 22 = .ok (.istore 7, 2) := by decide +kernel
theorem dX67_span_24 : decode cX67_span 24 = .ok (.iload 6, 2) := by decide +kernel
theorem dX67_span_26 : decode cX67_span 26 = .ok (.iconst 3, 1) := by decide +kernel
theorem dX67_span_27 : decode cX67_span 27 = .ok (.if_icmp .ge 129, 3) := by decide +kernel
theorem dX67_span_30 : decode cX67_span 30 = .ok (.aload_n 0, 1) := by decide +kernel
theorem dX67_span_31 : decode cX67_span 31 = .ok (.invokevirtual 47, 3) := by decide +kernel
theorem dX67_span_34 : decode cX67_span 34 = .ok (.ifCond .eq 122, 3) := by decide +kernel
theorem dX67_span_37 : decode cX67_span 37 = .ok (.aload_n 0, 1) := by decide +kernel
theorem dX67_span_38 : decode cX67_span 38 = .ok (.iconst 1, 1) := by decide +kernel
theorem dX67_span_39 : decode cX67_span 39 = .ok (.bipush 6, 2) := by decide +kernel
theorem dX67_span_41 : decode cX67_span 41 = .ok (.invokevirtual 55, 3) := by decide +kernel
theorem dX67_span_44 : decode cX67_span 44 = .ok (.lstore 8, 2) := by decide +kernel
theorem dX67_span_46 : decode cX67_span 46 = .ok (.iload 6, 2) := by decide +kernel
theorem dX67_span_48 : decode cX67_span 48 = .ok (.istore 10, 2) := by decide +kernel
theorem dX67_span_50 : decode cX67_span 50 = .ok (.iload 10, 2) := by decide +kernel
theorem dX67_span_52 : decode cX67_span 52 = .ok (.iconst 3, 1) := by decide +kernel
theorem dX67_span_53 : decode cX67_span 53 = .ok (.if_icmp .ge 23, 3) := by decide +kernel
theorem dX67_span_56 : decode cX67_span 56 = .ok (.aload_n 0, 1) := by decide +kernel
theorem dX67_span_57 : decode cX67_span 57 = .ok (.invokevirtual 35, 3) := by decide +kernel
theorem dX67_span_60 : decode cX67_span 60 = .ok (.ldc 159, 2) := by decide +kernel
theorem dX67_span_62 : decode cX67_span 62 = .ok (.iload 10, 2) := by decide +kernel
theorem dX67_span_64 : decode cX67_span 64 = .ok (.invokevirtual 108, 3) := by decide +kernel
theorem dX67_span_67 : decode cX67_span 67 = .ok (.if_icmp .eq 9, 3) := by decide +kernel
theorem dX67_span_70 : decode cX67_span 70 = .ok (.iinc 10 1, 3) := by decide +kernel
theorem dX67_span_73 : decode cX67_span 73 = .ok (.goto (-23), 3) := by decide +kernel
theorem dX67_span_76 : decode cX67_span 76 = .ok (.aload_n 0, 1) := by decide +kernel
theorem dX67_span_77 : decode cX67_span 77 = .ok (.iload 10, 2) := by decide +kernel
theorem dX67_span_79 : decode cX67_span 79 = .ok (.iconst 3, 1) := by decide +kernel
theorem dX67_span_80 : decode cX67_span 80 = .ok (.if_icmp .ge 7, 3) := by decide +kernel
theorem dX67_span_83 : decode cX67_span 83 = .ok (.iconst 1, 1) := by decide +kernel
theorem dX67_span_84 : decode cX67_span 84 = .ok (.goto 4, 3) := by decide +kernel
theorem dX67_span_87 : decode cX67_span 87 = .ok (.iconst 0, 1) := by decide +kernel
theorem dX67_span_88 : decode cX67_span 88 = .ok (.aload_n 0, 1) := by decide +kernel
theorem dX67_span_89 : decode cX67_span 89 = .ok (.getfield 32, 3) := by decide +kernel
theorem dX67_span_92 : decode cX67_span 92 = .ok (.invokevirtual 43, 3) := by decide +kernel
theorem dX67_span_95 : decode cX67_span 95 = .ok (.aload_n 0, 1) := by decide +kernel
theorem dX67_span_96 : decode cX67_span 96 = .ok (.dup, 1) := by decide +kernel
theorem dX67_span_97 : decode cX67_span 97 = .ok (.getfield 32, 3) := by decide +kernel
theorem dX67_span_100 : decode cX67_span 100 = .ok (.iconst 1, 1) := by decide +kernel
theorem dX67_span_101 : decode cX67_span 101 = .ok (.iadd, 1) := by decide +kernel
theorem dX67_span_102 : decode cX67_span 102 = .ok (.putfield 32, 3) := by decide +kernel
theorem dX67_span_105 : decode cX67_span 105 = .ok (.iload 10, 2) := by decide +kernel
theorem dX67_span_107 : decode cX67_span 107 = .ok (.iconst 2, 1) := by decide +kernel
theorem dX67_span_108 : decode cX67_span 108 = .ok (.if_icmp .ne 17, 3) := by decide +kernel
theorem dX67_span_111 : decode cX67_span 111 = .ok (.lload 4, 2) := by decide +kernel
theorem dX67_span_113 : decode cX67_span 113 = .ok (.ldc2_w 135, 3) := by decide +kernel
theorem dX67_span_116 : decode cX67_span 116 = .ok (.lload 8, 2) := by decide +kernel
theorem dX67_span_118 : decode cX67_span 118 = .ok (.lmul, 1) := by decide +kernel
theorem dX67_span_119 : decode cX67_span 119 = .ok (.ladd, 1) := by decide +kernel
theorem dX67_span_120 : decode cX67_span 120 = .ok (.lstore 4, 2) := by decide +kernel
theorem dX67_span_122 : decode cX67_span 122 = .ok (.goto 22, 3) := by decide +kernel
theorem dX67_span_125 : decode cX67_span 125 = .ok (.lload_n 2, 1) := by decide +kernel
theorem dX67_span_126 : decode cX67_span 126 = .ok (.iload 10, 2) := by decide +kernel
theorem dX67_span_128 : decode cX67_span 128 = .ok (.ifCond .ne 12, 3) := by decide +kernel
theorem dX67_span_131 : decode cX67_span 131 = .ok (.ldc2_w 161, 3) := by decide +kernel
theorem dX67_span_134 : decode cX67_span 134 = .ok (.lload 8, 2) := by decide +kernel
theorem dX67_span_136 : decode cX67_span 136 = .ok (.lmul, 1) := by decide +kernel
theorem dX67_span_137 : decode cX67_span 137 = .ok (.goto 5, 3) := by decide +kernel
theorem dX67_span_140 : decode cX67_span 140 = .ok (.lload 8, 2) := by decide +kernel
theorem dX67_span_142 : decode cX67_span 142 = .ok (.ladd, 1) := by decide +kernel
theorem dX67_span_143 : decode cX67_span 143 = .ok (.lstore_n 2, 1) := by decide +kernel
theorem dX67_span_144 : decode cX67_span 144 = .ok (.iload 10, 2) := by decide +kernel
theorem dX67_span_146 : decode cX67_span 146 = .ok (.iconst 1, 1) := by decide +kernel
theorem dX67_span_147 : decode cX67_span 147 = .ok (.iadd, 1) := by decide +kernel
theorem dX67_span_148 : decode cX67_span 148 = .ok (.istore 6, 2) := by decide +kernel
theorem dX67_span_150 : decode cX67_span 150 = .ok (.iconst 1, 1) := by decide +kernel
theorem dX67_span_151 : decode cX67_span 151 = .ok (.istore 7, 2) := by decide +kernel
theorem dX67_span_153 : decode cX67_span 153 = .ok (.goto (-129), 3) := by decide +kernel
theorem dX67_span_156 : decode cX67_span 156 = .ok (.aload_n 0, 1) := by decide +kernel
theorem dX67_span_157 : decode cX67_span 157 = .ok (.bipush 84, 2) := by decide +kernel
theorem dX67_span_159 : decode cX67_span 159 = .ok (.invokevirtual 39, 3) := by decide +kernel
theorem dX67_span_162 : decode cX67_span 162 = .ok (.ifCond .eq 15, 3) := by decide +kernel
theorem dX67_span_165 : decode cX67_span 165 = .ok (.lload 4, 2) := by decide +kernel
theorem dX67_span_167 : decode cX67_span 167 = .ok (.aload_n 0, 1) := by decide +kernel
theorem dX67_span_168 : decode cX67_span 168 = .ok (.invokevirtual 163, 3) := by decide +kernel
theorem dX67_span_171 : decode cX67_span 171 = .ok (.ladd, 1) := by decide +kernel
theorem dX67_span_172 : decode cX67_span 172 = .ok (.lstore 4, 2) := by decide +kernel
theorem dX67_span_174 : decode cX67_span 174 = .ok (.iconst 1, 1) := by decide +kernel
theorem dX67_span_175 : decode cX67_span 175 = .ok (.istore 7, 2) := by decide +kernel
theorem dX67_span_177 : decode cX67_span 177 = .ok (.aload_n 0, 1) := by decide +kernel
theorem dX67_span_178 : decode cX67_span 178 = .ok (.iload 7, 2) := by decide +kernel
theorem dX67_span_180 : decode cX67_span 180 = .ok (.aload_n 0, 1) := by decide +kernel
theorem dX67_span_181 : decode cX67_span 181 = .ok (.getfield 32, 3) := by decide +kernel
theorem dX67_span_184 : decode cX67_span 184 = .ok (.invokevirtual 43, 3) := by decide +kernel
theorem dX67_span_187 : decode cX67_span 187 = .ok (.iload_n 1, 1) := by decide +kernel
theorem dX67_span_188 : decode cX67_span 188 = .ok (.ifCond .eq 18, 3) := by decide +kernel
theorem dX67_span_191 : decode cX67_span 191 = .ok (.new 166, 3) := by decide +kernel
theorem dX67_span_194 : decode cX67_span 194 = .ok (.dup, 1) := by decide +kernel
theorem dX67_span_195 : decode cX67_span 195 = .ok (.lload_n 2, 1) := by decide +kernel
theorem dX67_span_196 : decode cX67_span 196 = .ok (.lneg, 1) := by decide +kernel
theorem dX67_span_197 : decode cX67_span 197 = .ok (.lload 4, 2) := by decide +kernel
theorem dX67_span_199 : decode cX67_span 199 = .ok (.lneg, 1) := by decide +kernel
theorem dX67_span_200 : decode cX67_span 200 = .ok (.invokespecial 168, 3) := by decide +kernel
theorem dX67_span_203 : decode cX67_span 203 = .ok (.goto 13, 3) := by decide +kernel
theorem dX67_span_206 : decode cX67_span 206 = .ok (.new 166, 3) := by decide +kernel
theorem dX67_span_209 : decode cX67_span 209 = .ok (.dup, 1) := by decide +kernel
theorem dX67_span_210 : decode cX67_span 210 = .ok (.lload_n 2, 1) := by decide +kernel
theorem dX67_span_211 : decode cX67_span 211 = .ok (.lload 4, 2) := by decide +kernel
theorem dX67_span_213 : decode cX67_span 213 = .ok (.invokespecial 168, 3) := by decide +kernel
theorem dX67_span_216 : decode cX67_span 216 = .ok (.areturn, 1) := by decide +kernel
abbrev cX67_clock : ByteArray := prog_13_method_19_code
def yX67_clock : MethodName := ⟨RX67, "clock", "()J"⟩
theorem dX67_clock_0 : decode cX67_clock 0 = .ok (.lconst 0, 1) := by decide +kernel
theorem dX67_clock_1 : decode cX67_clock 1 = .ok (.lstore_n 1, 1) := by decide +kernel
theorem dX67_clock_2 : decode cX67_clock 2 = .ok (.iconst 0, 1) := by decide +kernel
theorem dX67_clock_3 : decode cX67_clock 3 = .ok (.istore_n 3, 1) := by decide +kernel
theorem dX67_clock_4 : decode cX67_clock 4 = .ok (.aload_n 0, 1) := by decide +kernel
theorem dX67_clock_5 : decode cX67_clock 5 = .ok (.iconst 1, 1) := by decide +kernel
theorem dX67_clock_6 : decode cX67_clock 6 = .ok (.bipush 6, 2) := by decide +kernel
theorem dX67_clock_8 : decode cX67_clock 8 = .ok (.invokevirtual 55, 3) := by decide +kernel
theorem dX67_clock_11 : decode cX67_clock 11 = .ok (.lstore 4, 2) := by decide +kernel
theorem dX67_clock_13 : decode cX67_clock 13 = .ok (.aload_n 0, 1) := by decide +kernel
theorem dX67_clock_14 : decode cX67_clock 14 = .ok (.invokevirtual 35, 3) := by decide +kernel
theorem dX67_clock_17 : decode cX67_clock 17 = .ok (.bipush 46, 2) := by decide +kernel
theorem dX67_clock_19 : decode cX67_clock 19 = .ok (.if_icmp .ne 35, 3) := by decide +kernel
theorem dX67_clock_22 : decode cX67_clock 22 = .ok (.aload_n 0, 1) := by decide +kernel
theorem dX67_clock_23 : decode cX67_clock 23 = .ok (.dup, 1) := by decide +kernel
theorem dX67_clock_24 : decode cX67_clock 24 = .ok (.getfield 32, 3) := by decide +kernel
theorem dX67_clock_27 : decode cX67_clock 27 = .ok (.iconst 1, 1) := by decide +kernel
theorem dX67_clock_28 : decode cX67_clock 28 = .ok (.iadd, 1) := by decide +kernel
theorem dX67_clock_29 : decode cX67_clock 29 = .ok (.putfield 32, 3) := by decide +kernel
theorem dX67_clock_32 : decode cX67_clock 32 = .ok (.lload_n 1, 1) := by decide +kernel
theorem dX67_clock_33 : decode cX67_clock 33 = .ok (.ldc2_w 145, 3) := by decide +kernel
theorem dX67_clock_36 : decode cX67_clock 36 = .ok (.lload 4, 2) := by decide +kernel
theorem dX67_clock_38 : decode cX67_clock 38 = .ok (.lmul, 1) := by decide +kernel
theorem dX67_clock_39 : decode cX67_clock 39 = .ok (.aload_n 0, 1) := by decide +kernel
theorem dX67_clock_40 : decode cX67_clock 40 = .ok (.invokevirtual 152, 3) := by decide +kernel
theorem dX67_clock_43 : decode cX67_clock 43 = .ok (.ladd, 1) := by decide +kernel
theorem dX67_clock_44 : decode cX67_clock 44 = .ok (.ladd, 1) := by decide +kernel
theorem dX67_clock_45 : decode cX67_clock 45 = .ok (.lstore_n 1, 1) := by decide +kernel
theorem dX67_clock_46 : decode cX67_clock 46 = .ok (.aload_n 0, 1) := by decide +kernel
theorem dX67_clock_47 : decode cX67_clock 47 = .ok (.bipush 83, 2) := by decide +kernel
theorem dX67_clock_49 : decode cX67_clock 49 = .ok (.invokevirtual 112, 3) := by decide +kernel
theorem dX67_clock_52 : decode cX67_clock 52 = .ok (.lload_n 1, 1) := by decide +kernel
theorem dX67_clock_53 : decode cX67_clock 53 = .ok (.lreturn, 1) := by decide +kernel
theorem dX67_clock_54 : decode cX67_clock 54 = .ok (.iload_n 3, 1) := by decide +kernel
theorem dX67_clock_55 : decode cX67_clock 55 = .ok (.istore 6, 2) := by decide +kernel
theorem dX67_clock_57 : decode cX67_clock 57 = .ok (.iload 6, 2) := by decide +kernel
theorem dX67_clock_59 : decode cX67_clock 59 = .ok (.iconst 3, 1) := by decide +kernel
theorem dX67_clock_60 : decode cX67_clock 60 = .ok (.if_icmp .ge 23, 3) := by decide +kernel
theorem dX67_clock_63 : decode cX67_clock 63 = .ok (.aload_n 0, 1) := by decide +kernel
theorem dX67_clock_64 : decode cX67_clock 64 = .ok (.invokevirtual 35, 3) := by decide +kernel
theorem dX67_clock_67 : decode cX67_clock 67 = .ok (.ldc 171, 2) := by decide +kernel
theorem dX67_clock_69 : decode cX67_clock 69 = .ok (.iload 6, 2) := by decide +kernel
theorem dX67_clock_71 : decode cX67_clock 71 = .ok (.invokevirtual 108, 3) := by decide +kernel
theorem dX67_clock_74 : decode cX67_clock 74 = .ok (.if_icmp .eq 9, 3) := by decide +kernel
theorem dX67_clock_77 : decode cX67_clock 77 = .ok (.iinc 6 1, 3) := by decide +kernel
theorem dX67_clock_80 : decode cX67_clock 80 = .ok (.goto (-23), 3) := by decide +kernel
theorem dX67_clock_83 : decode cX67_clock 83 = .ok (.aload_n 0, 1) := by decide +kernel
theorem dX67_clock_84 : decode cX67_clock 84 = .ok (.iload 6, 2) := by decide +kernel
theorem dX67_clock_86 : decode cX67_clock 86 = .ok (.iconst 3, 1) := by decide +kernel
theorem dX67_clock_87 : decode cX67_clock 87 = .ok (.if_icmp .ge 7, 3) := by decide +kernel
theorem dX67_clock_90 : decode cX67_clock 90 = .ok (.iconst 1, 1) := by decide +kernel
theorem dX67_clock_91 : decode cX67_clock 91 = .ok (.goto 4, 3) := by decide +kernel
theorem dX67_clock_94 : decode cX67_clock 94 = .ok (.iconst 0, 1) := by decide +kernel
theorem dX67_clock_95 : decode cX67_clock 95 = .ok (.aload_n 0, 1) := by decide +kernel
theorem dX67_clock_96 : decode cX67_clock 96 = .ok (.getfield 32, 3) := by decide +kernel
theorem dX67_clock_99 : decode cX67_clock 99 = .ok (.invokevirtual 43, 3) := by decide +kernel
theorem dX67_clock_102 : decode cX67_clock 102 = .ok (.aload_n 0, 1) := by decide +kernel
theorem dX67_clock_103 : decode cX67_clock 103 = .ok (.dup, 1) := by decide +kernel
theorem dX67_clock_104 : decode cX67_clock 104 = .ok (.getfield 32, 3) := by decide +kernel
theorem dX67_clock_107 : decode cX67_clock 107 = .ok (.iconst 1, 1) := by decide +kernel
theorem dX67_clock_108 : decode cX67_clock 108 = .ok (.iadd, 1) := by decide +kernel
theorem dX67_clock_109 : decode cX67_clock 109 = .ok (.putfield 32, 3) := by decide +kernel
theorem dX67_clock_112 : decode cX67_clock 112 = .ok (.lload_n 1, 1) := by decide +kernel
theorem dX67_clock_113 : decode cX67_clock 113 = .ok (.iload 6, 2) := by decide +kernel
theorem dX67_clock_115 : decode cX67_clock 115 = .ok (.ifCond .ne 12, 3) := by decide +kernel
theorem dX67_clock_118 : decode cX67_clock 118 = .ok (.ldc2_w 155, 3) := by decide +kernel
theorem dX67_clock_121 : decode cX67_clock 121 = .ok (.lload 4, 2) := by decide +kernel
theorem dX67_clock_123 : decode cX67_clock 123 = .ok (.lmul, 1) := by decide +kernel
theorem dX67_clock_124 : decode cX67_clock 124 = .ok (.goto 24, 3) := by decide +kernel
theorem dX67_clock_127 : decode cX67_clock 127 = .ok (.iload 6, 2) := by decide +kernel
theorem dX67_clock_129 : decode cX67_clock 129 = .ok (.iconst 1, 1) := by decide +kernel
theorem dX67_clock_130 : decode cX67_clock 130 = .ok (.if_icmp .ne 12, 3) := by decide +kernel
theorem dX67_clock_133 : decode cX67_clock 133 = .ok (.ldc2_w 157, 3) := by decide +kernel
theorem dX67_clock_136 : decode cX67_clock 136 = .ok (.lload 4, 2) := by decide +kernel
theorem dX67_clock_138 : decode cX67_clock 138 = .ok (.lmul, 1) := by decide +kernel
theorem dX67_clock_139 : decode cX67_clock 139 = .ok (.goto 9, 3) := by decide +kernel
theorem dX67_clock_142 : decode cX67_clock 142 = .ok (.ldc2_w 145, 3) := by decide +kernel
theorem dX67_clock_145 : decode cX67_clock 145 = .ok (.lload 4, 2) := by decide +kernel
theorem dX67_clock_147 : decode cX67_clock 147 = .ok (.lmul, 1) := by decide +kernel
theorem dX67_clock_148 : decode cX67_clock 148 = .ok (.ladd, 1) := by decide +kernel
theorem dX67_clock_149 : decode cX67_clock 149 = .ok (.lstore_n 1, 1) := by decide +kernel
theorem dX67_clock_150 : decode cX67_clock 150 = .ok (.iload 6, 2) := by decide +kernel
theorem dX67_clock_152 : decode cX67_clock 152 = .ok (.iconst 1, 1) := by decide +kernel
theorem dX67_clock_153 : decode cX67_clock 153 = .ok (.iadd, 1) := by decide +kernel
theorem dX67_clock_154 : decode cX67_clock 154 = .ok (.istore_n 3, 1) := by decide +kernel
theorem dX67_clock_155 : decode cX67_clock 155 = .ok (.iload_n 3, 1) := by decide +kernel
theorem dX67_clock_156 : decode cX67_clock 156 = .ok (.iconst 3, 1) := by decide +kernel
theorem dX67_clock_157 : decode cX67_clock 157 = .ok (.if_icmp .ge 10, 3) := by decide +kernel
theorem dX67_clock_160 : decode cX67_clock 160 = .ok (.aload_n 0, 1) := by decide +kernel
theorem dX67_clock_161 : decode cX67_clock 161 = .ok (.invokevirtual 47, 3) := by decide +kernel
theorem dX67_clock_164 : decode cX67_clock 164 = .ok (.ifCond .ne (-160), 3) := by decide +kernel
theorem dX67_clock_167 : decode cX67_clock 167 = .ok (.lload_n 1, 1) := by decide +kernel
theorem dX67_clock_168 : decode cX67_clock 168 = .ok (.lreturn, 1) := by decide +kernel
abbrev cX67_hex : ByteArray := prog_13_method_21_code
def yX67_hex : MethodName := ⟨RX67, "hex", "()LKnowHouse$DatatypeValues$Value;"⟩
theorem dX67_hex_0 : decode cX67_hex 0 = .ok (.bipush 20, 2) := by decide +kernel
theorem dX67_hex_2 : decode cX67_hex 2 = .ok (.newarray .byte, 2) := by decide +kernel
theorem dX67_hex_4 : decode cX67_hex 4 = .ok (.astore_n 1, 1) := by decide +kernel
theorem dX67_hex_5 : decode cX67_hex 5 = .ok (.iconst 0, 1) := by decide +kernel
theorem dX67_hex_6 : decode cX67_hex 6 = .ok (.istore_n 2, 1) := by decide +kernel
theorem dX67_hex_7 : decode cX67_hex 7 = .ok (.aload_n 0, 1) := by decide +kernel
theorem dX67_hex_8 : decode cX67_hex 8 = .ok (.getfield 32, 3) := by decide +kernel
theorem dX67_hex_11 : decode cX67_hex 11 = .ok (.aload_n 0, 1) := by decide +kernel
theorem dX67_hex_12 : decode cX67_hex 12 = .ok (.getfield 25, 3) := by decide +kernel
theorem dX67_hex_15 : decode cX67_hex 15 = .ok (.if_icmp .ge 50, 3) := by decide +kernel
theorem dX67_hex_18 : decode cX67_hex 18 = .ok (.aload_n 0, 1) := by decide +kernel
theorem dX67_hex_19 : decode cX67_hex 19 = .ok (.iload_n 2, 1) := by decide +kernel
theorem dX67_hex_20 : decode cX67_hex 20 = .ok (.bipush 20, 2) := by decide +kernel
theorem dX67_hex_22 : decode cX67_hex 22 = .ok (.if_icmp .ge 7, 3) := by decide +kernel
theorem dX67_hex_25 : decode cX67_hex 25 = .ok (.iconst 1, 1) := by decide +kernel
theorem dX67_hex_26 : decode cX67_hex 26 = .ok (.goto 4, 3) := by decide +kernel
theorem dX67_hex_29 : decode cX67_hex 29 = .ok (.iconst 0, 1) := by decide +kernel
theorem dX67_hex_30 : decode cX67_hex 30 = .ok (.aload_n 0, 1) := by decide +kernel
theorem dX67_hex_31 : decode cX67_hex 31 = .ok (.getfield 32, 3) := by decide +kernel
theorem dX67_hex_34 : decode cX67_hex 34 = .ok (.invokevirtual 43, 3) := by decide +kernel
theorem dX67_hex_37 : decode cX67_hex 37 = .ok (.aload_n 1, 1) := by decide +kernel
theorem dX67_hex_38 : decode cX67_hex 38 = .ok (.iload_n 2, 1) := by decide +kernel
theorem dX67_hex_39 : decode cX67_hex 39 = .ok (.aload_n 0, 1) := by decide +kernel
theorem dX67_hex_40 : decode cX67_hex 40 = .ok (.invokevirtual 173, 3) := by decide +kernel
theorem dX67_hex_43 : decode cX67_hex 43 = .ok (.iconst 4, 1) := by decide +kernel
theorem dX67_hex_44 : decode cX67_hex 44 = .ok (.ishl, 1) := by decide +kernel
theorem dX67_hex_45 : decode cX67_hex 45 = .ok (.i2b, 1) := by decide +kernel
theorem dX67_hex_46 : decode cX67_hex 46 = .ok (.bastore, 1) := by decide +kernel
theorem dX67_hex_47 : decode cX67_hex 47 = .ok (.aload_n 1, 1) := by decide +kernel
theorem dX67_hex_48 : decode cX67_hex 48 = .ok (.iload_n 2, 1) := by decide +kernel
theorem dX67_hex_49 : decode cX67_hex 49 = .ok (.dup2, 1) := by decide +kernel
theorem dX67_hex_50 : decode cX67_hex 50 = .ok (.baload, 1) := by decide +kernel
theorem dX67_hex_51 : decode cX67_hex 51 = .ok (.aload_n 0, 1) := by decide +kernel
theorem dX67_hex_52 : decode cX67_hex 52 = .ok (.invokevirtual 173, 3) := by decide +kernel
theorem dX67_hex_55 : decode cX67_hex 55 = .ok (.i2b, 1) := by decide +kernel
theorem dX67_hex_56 : decode cX67_hex 56 = .ok (.ior, 1) := by decide +kernel
theorem dX67_hex_57 : decode cX67_hex 57 = .ok (.i2b, 1) := by decide +kernel
theorem dX67_hex_58 : decode cX67_hex 58 = .ok (.bastore, 1) := by decide +kernel
theorem dX67_hex_59 : decode cX67_hex 59 = .ok (.iinc 2 1, 3) := by decide +kernel
theorem dX67_hex_62 : decode cX67_hex 62 = .ok (.goto (-55), 3) := by decide +kernel
theorem dX67_hex_65 : decode cX67_hex 65 = .ok (.new 176, 3) := by decide +kernel
theorem dX67_hex_68 : decode cX67_hex 68 = .ok (.dup, 1) := by decide +kernel
theorem dX67_hex_69 : decode cX67_hex 69 = .ok (.bipush 7, 2) := by decide +kernel
theorem dX67_hex_71 : decode cX67_hex 71 = .ok (.aload_n 1, 1) := by decide +kernel
theorem dX67_hex_72 : decode cX67_hex 72 = .ok (.iload_n 2, 1) := by decide +kernel
theorem dX67_hex_73 : decode cX67_hex 73 = .ok (.invokestatic 178, 3) := by decide +kernel
theorem dX67_hex_76 : decode cX67_hex 76 = .ok (.invokespecial 182, 3) := by decide +kernel
theorem dX67_hex_79 : decode cX67_hex 79 = .ok (.areturn, 1) := by decide +kernel
abbrev cX67_nibble : ByteArray := prog_13_method_20_code
def yX67_nibble : MethodName := ⟨RX67, "nibble", "()I"⟩
theorem dX67_nibble_0 : decode cX67_nibble 0 = .ok (.aload_n 0, 1) := by decide +kernel
theorem dX67_nibble_1 : decode cX67_nibble 1 = .ok (.invokevirtual 35, 3) := by decide +kernel
theorem dX67_nibble_4 : decode cX67_nibble 4 = .ok (.bipush 32, 2) := by decide +kernel
theorem dX67_nibble_6 : decode cX67_nibble 6 = .ok (.ior, 1) := by decide +kernel
theorem dX67_nibble_7 : decode cX67_nibble 7 = .ok (.istore_n 1, 1) := by decide +kernel
theorem dX67_nibble_8 : decode cX67_nibble 8 = .ok (.aload_n 0, 1) := by decide +kernel
theorem dX67_nibble_9 : decode cX67_nibble 9 = .ok (.invokevirtual 47, 3) := by decide +kernel
theorem dX67_nibble_12 : decode cX67_nibble 12 = .ok (.ifCond .eq 13, 3) := by decide +kernel
theorem dX67_nibble_15 : decode cX67_nibble 15 = .ok (.aload_n 0, 1) := by decide +kernel
theorem dX67_nibble_16 : decode cX67_nibble 16 = .ok (.invokevirtual 35, 3) := by decide +kernel
theorem dX67_nibble_19 : decode cX67_nibble 19 = .ok (.bipush 48, 2) := by decide +kernel
theorem dX67_nibble_21 : decode cX67_nibble 21 = .ok (.isub, 1) := by decide +kernel
theorem dX67_nibble_22 : decode cX67_nibble 22 = .ok (.goto 33, 3) := by decide +kernel
theorem dX67_nibble_25 : decode cX67_nibble 25 = .ok (.aload_n 0, 1) := by decide +kernel
theorem dX67_nibble_26 : decode cX67_nibble 26 = .ok (.invokevirtual 35, 3) := by decide +kernel
theorem dX67_nibble_29 : decode cX67_nibble 29 = .ok (.ifCond .le 25, 3) := by decide +kernel
theorem dX67_nibble_32 : decode cX67_nibble 32 = .ok (.iload_n 1, 1) := by decide +kernel
theorem dX67_nibble_33 : decode cX67_nibble 33 = .ok (.bipush 97, 2) := by decide +kernel
theorem dX67_nibble_35 : decode cX67_nibble 35 = .ok (.if_icmp .lt 19, 3) := by decide +kernel
theorem dX67_nibble_38 : decode cX67_nibble 38 = .ok (.iload_n 1, 1) := by decide +kernel
theorem dX67_nibble_39 : decode cX67_nibble 39 = .ok (.bipush 102, 2) := by decide +kernel
theorem dX67_nibble_41 : decode cX67_nibble 41 = .ok (.if_icmp .gt 13, 3) := by decide +kernel
theorem dX67_nibble_44 : decode cX67_nibble 44 = .ok (.iload_n 1, 1) := by decide +kernel
theorem dX67_nibble_45 : decode cX67_nibble 45 = .ok (.bipush 97, 2) := by decide +kernel
theorem dX67_nibble_47 : decode cX67_nibble 47 = .ok (.isub, 1) := by decide +kernel
theorem dX67_nibble_48 : decode cX67_nibble 48 = .ok (.bipush 10, 2) := by decide +kernel
theorem dX67_nibble_50 : decode cX67_nibble 50 = .ok (.iadd, 1) := by decide +kernel
theorem dX67_nibble_51 : decode cX67_nibble 51 = .ok (.goto 4, 3) := by decide +kernel
theorem dX67_nibble_54 : decode cX67_nibble 54 = .ok (.iconst (-1), 1) := by decide +kernel
theorem dX67_nibble_55 : decode cX67_nibble 55 = .ok (.istore_n 2, 1) := by decide +kernel
theorem dX67_nibble_56 : decode cX67_nibble 56 = .ok (.aload_n 0, 1) := by decide +kernel
theorem dX67_nibble_57 : decode cX67_nibble 57 = .ok (.iload_n 2, 1) := by decide +kernel
theorem dX67_nibble_58 : decode cX67_nibble 58 = .ok (.ifCond .lt 7, 3) := by decide +kernel
theorem dX67_nibble_61 : decode cX67_nibble 61 = .ok (.iconst 1, 1) := by decide +kernel
theorem dX67_nibble_62 : decode cX67_nibble 62 = .ok (.goto 4, 3) := by decide +kernel
theorem dX67_nibble_65 : decode cX67_nibble 65 = .ok (.iconst 0, 1) := by decide +kernel
theorem dX67_nibble_66 : decode cX67_nibble 66 = .ok (.aload_n 0, 1) := by decide +kernel
theorem dX67_nibble_67 : decode cX67_nibble 67 = .ok (.getfield 32, 3) := by decide +kernel
theorem dX67_nibble_70 : decode cX67_nibble 70 = .ok (.invokevirtual 43, 3) := by decide +kernel
theorem dX67_nibble_73 : decode cX67_nibble 73 = .ok (.aload_n 0, 1) := by decide +kernel
theorem dX67_nibble_74 : decode cX67_nibble 74 = .ok (.dup, 1) := by decide +kernel
theorem dX67_nibble_75 : decode cX67_nibble 75 = .ok (.getfield 32, 3) := by decide +kernel
theorem dX67_nibble_78 : decode cX67_nibble 78 = .ok (.iconst 1, 1) := by decide +kernel
theorem dX67_nibble_79 : decode cX67_nibble 79 = .ok (.iadd, 1) := by decide +kernel
theorem dX67_nibble_80 : decode cX67_nibble 80 = .ok (.putfield 32, 3) := by decide +kernel
theorem dX67_nibble_83 : decode cX67_nibble 83 = .ok (.iload_n 2, 1) := by decide +kernel
theorem dX67_nibble_84 : decode cX67_nibble 84 = .ok (.ireturn, 1) := by decide +kernel
abbrev cX67_row : ByteArray := prog_13_method_22_code
def yX67_row : MethodName := ⟨RX67, "row", "([BI)[B"⟩
theorem dX67_row_0 : decode cX67_row 0 = .ok (.iload_n 1, 1) := by decide +kernel
theorem dX67_row_1 : decode cX67_row 1 = .ok (.newarray .byte, 2) := by decide +kernel
theorem dX67_row_3 : decode cX67_row 3 = .ok (.astore_n 2, 1) := by decide +kernel
theorem dX67_row_4 : decode cX67_row 4 = .ok (.iconst 0, 1) := by decide +kernel
theorem dX67_row_5 : decode cX67_row 5 = .ok (.istore_n 3, 1) := by decide +kernel
theorem dX67_row_6 : decode cX67_row 6 = .ok (.iload_n 3, 1) := by decide +kernel
theorem dX67_row_7 : decode cX67_row 7 = .ok (.iload_n 1, 1) := by decide +kernel
theorem dX67_row_8 : decode cX67_row 8 = .ok (.if_icmp .ge 15, 3) := by decide +kernel
theorem dX67_row_11 : decode cX67_row 11 = .ok (.aload_n 2, 1) := by decide +kernel
theorem dX67_row_12 : decode cX67_row 12 = .ok (.iload_n 3, 1) := by decide +kernel
theorem dX67_row_13 : decode cX67_row 13 = .ok (.aload_n 0, 1) := by decide +kernel
theorem dX67_row_14 : decode cX67_row 14 = .ok (.iload_n 3, 1) := by decide +kernel
theorem dX67_row_15 : decode cX67_row 15 = .ok (.baload, 1) := by decide +kernel
theorem dX67_row_16 : decode cX67_row 16 = .ok (.bastore, 1) := by decide +kernel
theorem dX67_row_17 : decode cX67_row 17 = .ok (.iinc 3 1, 3) := by decide +kernel
theorem dX67_row_20 : decode cX67_row 20 = .ok (.goto (-14), 3) := by decide +kernel
theorem dX67_row_23 : decode cX67_row 23 = .ok (.aload_n 2, 1) := by decide +kernel
theorem dX67_row_24 : decode cX67_row 24 = .ok (.areturn, 1) := by decide +kernel
abbrev cX67_base : ByteArray := prog_13_method_24_code
def yX67_base : MethodName := ⟨RX67, "base", "()LKnowHouse$DatatypeValues$Value;"⟩
theorem dX67_base_0 : decode cX67_base 0 = .ok (.bipush 24, 2) := by decide +kernel
theorem dX67_base_2 : decode cX67_base 2 = .ok (.newarray .byte, 2) := by decide +kernel
theorem dX67_base_4 : decode cX67_base 4 = .ok (.astore_n 1, 1) := by decide +kernel
theorem dX67_base_5 : decode cX67_base 5 = .ok (.iconst 0, 1) := by decide +kernel
theorem dX67_base_6 : decode cX67_base 6 = .ok (.istore_n 2, 1) := by decide +kernel
theorem dX67_base_7 : decode cX67_base 7 = .ok (.aload_n 0, 1) := by decide +kernel
theorem dX67_base_8 : decode cX67_base 8 = .ok (.getfield 32, 3) := by decide +kernel
theorem dX67_base_11 : decode cX67_base 11 = .ok (.aload_n 0, 1) := by decide +kernel
theorem dX67_base_12 : decode cX67_base 12 = .ok (.getfield 25, 3) := by decide +kernel
theorem dX67_base_15 : decode cX67_base 15 = .ok (.if_icmp .ge 7, 3) := by decide +kernel
theorem dX67_base_18 : decode cX67_base 18 = .ok (.iconst 1, 1) := by decide +kernel
theorem dX67_base_19 : decode cX67_base 19 = .ok (.goto 4, 3) := by decide +kernel
theorem dX67_base_22 : decode cX67_base 22 = .ok (.iconst 0, 1) := by decide +kernel
theorem dX67_base_23 : decode cX67_base 23 = .ok (.istore_n 3, 1) := by decide +kernel
theorem dX67_base_24 : decode cX67_base 24 = .ok (.iload_n 3, 1) := by decide +kernel
theorem dX67_base_25 : decode cX67_base 25 = .ok (.ifCond .eq 245, 3) := by decide +kernel
theorem dX67_base_28 : decode cX67_base 28 = .ok (.aload_n 0, 1) := by decide +kernel
theorem dX67_base_29 : decode cX67_base 29 = .ok (.invokevirtual 191, 3) := by decide +kernel
theorem dX67_base_32 : decode cX67_base 32 = .ok (.bipush 18, 2) := by decide +kernel
theorem dX67_base_34 : decode cX67_base 34 = .ok (.ishl, 1) := by decide +kernel
theorem dX67_base_35 : decode cX67_base 35 = .ok (.aload_n 0, 1) := by decide +kernel
theorem dX67_base_36 : decode cX67_base 36 = .ok (.invokevirtual 191, 3) := by decide +kernel
theorem dX67_base_39 : decode cX67_base 39 = .ok (.bipush 12, 2) := by decide +kernel
theorem dX67_base_41 : decode cX67_base 41 = .ok (.ishl, 1) := by decide +kernel
theorem dX67_base_42 : decode cX67_base 42 = .ok (.ior, 1) := by decide +kernel
theorem dX67_base_43 : decode cX67_base 43 = .ok (.istore 4, 2) := by decide +kernel
theorem dX67_base_45 : decode cX67_base 45 = .ok (.aload_n 1, 1) := by decide +kernel
theorem dX67_base_46 : decode cX67_base 46 = .ok (.iload_n 2, 1) := by decide +kernel
theorem dX67_base_47 : decode cX67_base 47 = .ok (.iload 4, 2) := by decide +kernel
theorem dX67_base_49 : decode cX67_base 49 = .ok (.bipush 16, 2) := by decide +kernel
theorem dX67_base_51 : decode cX67_base 51 = .ok (.ishr, 1) := by decide +kernel
theorem dX67_base_52 : decode cX67_base 52 = .ok (.i2b, 1) := by decide +kernel
theorem dX67_base_53 : decode cX67_base 53 = .ok (.bastore, 1) := by decide +kernel
theorem dX67_base_54 : decode cX67_base 54 = .ok (.iinc 2 1, 3) := by decide +kernel
theorem dX67_base_57 : decode cX67_base 57 = .ok (.aload_n 0, 1) := by decide +kernel
theorem dX67_base_58 : decode cX67_base 58 = .ok (.invokevirtual 35, 3) := by decide +kernel
theorem dX67_base_61 : decode cX67_base 61 = .ok (.bipush 61, 2) := by decide +kernel
theorem dX67_base_63 : decode cX67_base 63 = .ok (.if_icmp .ne 48, 3) := by decide +kernel
theorem dX67_base_66 : decode cX67_base 66 = .ok (.aload_n 0, 1) := by decide +kernel
theorem dX67_base_67 : decode cX67_base 67 = .ok (.iload 4, 2) := by decide +kernel
theorem dX67_base_69 : decode cX67_base 69 = .ok (.bipush 12, 2) := by decide +kernel
theorem dX67_base_71 : decode cX67_base 71 = .ok (.ishr, 1) := by decide +kernel
theorem dX67_base_72 : decode cX67_base 72 = .ok (.bipush 15, 2) := by decide +kernel
theorem dX67_base_74 : decode cX67_base 74 = .ok (.iand, 1) := by decide +kernel
theorem dX67_base_75 : decode cX67_base 75 = .ok (.ifCond .ne 7, 3) := by decide +kernel
theorem dX67_base_78 : decode cX67_base 78 = .ok (.iconst 1, 1) := by decide +kernel
theorem dX67_base_79 : decode cX67_base 79 = .ok (.goto 4, 3) := by decide +kernel
theorem dX67_base_82 : decode cX67_base 82 = .ok (.iconst 0, 1) := by decide +kernel
theorem dX67_base_83 : decode cX67_base 83 = .ok (.aload_n 0, 1) := by decide +kernel
theorem dX67_base_84 : decode cX67_base 84 = .ok (.getfield 32, 3) := by decide +kernel
theorem dX67_base_87 : decode cX67_base 87 = .ok (.invokevirtual 43, 3) := by decide +kernel
theorem dX67_base_90 : decode cX67_base 90 = .ok (.aload_n 0, 1) := by decide +kernel
theorem dX67_base_91 : decode cX67_base 91 = .ok (.dup, 1) := by decide +kernel
theorem dX67_base_92 : decode cX67_base 92 = .ok (.getfield 32, 3) := by decide +kernel
theorem dX67_base_95 : decode cX67_base 95 = .ok (.iconst 1, 1) := by decide +kernel
theorem dX67_base_96 : decode cX67_base 96 = .ok (.iadd, 1) := by decide +kernel
theorem dX67_base_97 : decode cX67_base 97 = .ok (.putfield 32, 3) := by decide +kernel
theorem dX67_base_100 : decode cX67_base 100 = .ok (.aload_n 0, 1) := by decide +kernel
theorem dX67_base_101 : decode cX67_base 101 = .ok (.bipush 61, 2) := by decide +kernel
theorem dX67_base_103 : decode cX67_base 103 = .ok (.invokevirtual 112, 3) := by decide +kernel
theorem dX67_base_106 : decode cX67_base 106 = .ok (.iconst 0, 1) := by decide +kernel
theorem dX67_base_107 : decode cX67_base 107 = .ok (.istore_n 3, 1) := by decide +kernel
theorem dX67_base_108 : decode cX67_base 108 = .ok (.goto (-84), 3) := by decide +kernel
theorem dX67_base_111 : decode cX67_base 111 = .ok (.iload 4, 2) := by decide +kernel
theorem dX67_base_113 : decode cX67_base 113 = .ok (.aload_n 0, 1) := by decide +kernel
theorem dX67_base_114 : decode cX67_base 114 = .ok (.invokevirtual 191, 3) := by decide +kernel
theorem dX67_base_117 : decode cX67_base 117 = .ok (.bipush 6, 2) := by decide +kernel
theorem dX67_base_119 : decode cX67_base 119 = .ok (.ishl, 1) := by decide +kernel
theorem dX67_base_120 : decode cX67_base 120 = .ok (.ior, 1) := by decide +kernel
theorem dX67_base_121 : decode cX67_base 121 = .ok (.istore 4, 2) := by decide +kernel
theorem dX67_base_123 : decode cX67_base 123 = .ok (.aload_n 1, 1) := by decide +kernel
theorem dX67_base_124 : decode cX67_base 124 = .ok (.iload_n 2, 1) := by decide +kernel
theorem dX67_base_125 : decode cX67_base 125 = .ok (.iload 4, 2) := by decide +kernel
theorem dX67_base_127 : decode cX67_base 127 = .ok (.bipush 8, 2) := by decide +kernel
theorem dX67_base_129 : decode cX67_base 129 = .ok (.ishr, 1) := by decide +kernel
theorem dX67_base_130 : decode cX67_base 130 = .ok (.i2b, 1) := by decide +kernel
theorem dX67_base_131 : decode cX67_base 131 = .ok (.bastore, 1) := by decide +kernel
theorem dX67_base_132 : decode cX67_base 132 = .ok (.iinc 2 1, 3) := by decide +kernel
theorem dX67_base_135 : decode cX67_base 135 = .ok (.aload_n 0, 1) := by decide +kernel
theorem dX67_base_136 : decode cX67_base 136 = .ok (.iload_n 2, 1) := by decide +kernel
theorem dX67_base_137 : decode cX67_base 137 = .ok (.bipush 20, 2) := by decide +kernel
theorem dX67_base_139 : decode cX67_base 139 = .ok (.if_icmp .lt 13, 3) := by decide +kernel
theorem dX67_base_142 : decode cX67_base 142 = .ok (.iload 4, 2) := by decide +kernel
theorem dX67_base_144 : decode cX67_base 144 = .ok (.bipush 6, 2) := by decide +kernel
theorem dX67_base_146 : decode cX67_base 146 = .ok (.ishr, 1) := by decide +kernel
theorem dX67_base_147 : decode cX67_base 147 = .ok (.iconst 3, 1) := by decide +kernel
theorem dX67_base_148 : decode cX67_base 148 = .ok (.iand, 1) := by decide +kernel
theorem dX67_base_149 : decode cX67_base 149 = .ok (.ifCond .ne 7, 3) := by decide +kernel
theorem dX67_base_152 : decode cX67_base 152 = .ok (.iconst 1, 1) := by decide +kernel
theorem dX67_base_153 : decode cX67_base 153 = .ok (.goto 4, 3) := by decide +kernel
theorem dX67_base_156 : decode cX67_base 156 = .ok (.iconst 0, 1) := by decide +kernel
theorem dX67_base_157 : decode cX67_base 157 = .ok (.aload_n 0, 1) := by decide +kernel
theorem dX67_base_158 : decode cX67_base 158 = .ok (.getfield 32, 3) := by decide +kernel
theorem dX67_base_161 : decode cX67_base 161 = .ok (.iconst 1, 1) := by decide +kernel
theorem dX67_base_162 : decode cX67_base 162 = .ok (.isub, 1) := by decide +kernel
theorem dX67_base_163 : decode cX67_base 163 = .ok (.invokevirtual 43, 3) := by decide +kernel
theorem dX67_base_166 : decode cX67_base 166 = .ok (.aload_n 0, 1) := by decide +kernel
theorem dX67_base_167 : decode cX67_base 167 = .ok (.invokevirtual 35, 3) := by decide +kernel
theorem dX67_base_170 : decode cX67_base 170 = .ok (.bipush 61, 2) := by decide +kernel
theorem dX67_base_172 : decode cX67_base 172 = .ok (.if_icmp .ne 41, 3) := by decide +kernel
theorem dX67_base_175 : decode cX67_base 175 = .ok (.aload_n 0, 1) := by decide +kernel
theorem dX67_base_176 : decode cX67_base 176 = .ok (.iload 4, 2) := by decide +kernel
theorem dX67_base_178 : decode cX67_base 178 = .ok (.bipush 6, 2) := by decide +kernel
theorem dX67_base_180 : decode cX67_base 180 = .ok (.ishr, 1) := by decide +kernel
theorem dX67_base_181 : decode cX67_base 181 = .ok (.iconst 3, 1) := by decide +kernel
theorem dX67_base_182 : decode cX67_base 182 = .ok (.iand, 1) := by decide +kernel
theorem dX67_base_183 : decode cX67_base 183 = .ok (.ifCond .ne 7, 3) := by decide +kernel
theorem dX67_base_186 : decode cX67_base 186 = .ok (.iconst 1, 1) := by decide +kernel
theorem dX67_base_187 : decode cX67_base 187 = .ok (.goto 4, 3) := by decide +kernel
theorem dX67_base_190 : decode cX67_base 190 = .ok (.iconst 0, 1) := by decide +kernel
theorem dX67_base_191 : decode cX67_base 191 = .ok (.aload_n 0, 1) := by decide +kernel
theorem dX67_base_192 : decode cX67_base 192 = .ok (.getfield 32, 3) := by decide +kernel
theorem dX67_base_195 : decode cX67_base 195 = .ok (.invokevirtual 43, 3) := by decide +kernel
theorem dX67_base_198 : decode cX67_base 198 = .ok (.aload_n 0, 1) := by decide +kernel
theorem dX67_base_199 : decode cX67_base 199 = .ok (.dup, 1) := by decide +kernel
theorem dX67_base_200 : decode cX67_base 200 = .ok (.getfield 32, 3) := by decide +kernel
theorem dX67_base_203 : decode cX67_base 203 = .ok (.iconst 1, 1) := by decide +kernel
theorem dX67_base_204 : decode cX67_base 204 = .ok (.iadd, 1) := by decide +kernel
theorem dX67_base_205 : decode cX67_base 205 = .ok (.putfield 32, 3) := by decide +kernel
theorem dX67_base_208 : decode cX67_base 208 = .ok (.iconst 0, 1) := by decide +kernel
theorem dX67_base_209 : decode cX67_base 209 = .ok (.istore_n 3, 1) := by decide +kernel
theorem dX67_base_210 : decode cX67_base 210 = .ok (.goto (-186), 3) := by decide +kernel
theorem dX67_base_213 : decode cX67_base 213 = .ok (.aload_n 0, 1) := by decide +kernel
theorem dX67_base_214 : decode cX67_base 214 = .ok (.iload_n 2, 1) := by decide +kernel
theorem dX67_base_215 : decode cX67_base 215 = .ok (.bipush 20, 2) := by decide +kernel
theorem dX67_base_217 : decode cX67_base 217 = .ok (.if_icmp .ge 7, 3) := by decide +kernel
theorem dX67_base_220 : decode cX67_base 220 = .ok (.iconst 1, 1) := by decide +kernel
theorem dX67_base_221 : decode cX67_base 221 = .ok (.goto 4, 3) := by decide +kernel
theorem dX67_base_224 : decode cX67_base 224 = .ok (.iconst 0, 1) := by decide +kernel
theorem dX67_base_225 : decode cX67_base 225 = .ok (.aload_n 0, 1) := by decide +kernel
theorem dX67_base_226 : decode cX67_base 226 = .ok (.getfield 32, 3) := by decide +kernel
theorem dX67_base_229 : decode cX67_base 229 = .ok (.invokevirtual 43, 3) := by decide +kernel
theorem dX67_base_232 : decode cX67_base 232 = .ok (.iload 4, 2) := by decide +kernel
theorem dX67_base_234 : decode cX67_base 234 = .ok (.aload_n 0, 1) := by decide +kernel
theorem dX67_base_235 : decode cX67_base 235 = .ok (.invokevirtual 191, 3) := by decide +kernel
theorem dX67_base_238 : decode cX67_base 238 = .ok (.ior, 1) := by decide +kernel
theorem dX67_base_239 : decode cX67_base 239 = .ok (.istore 4, 2) := by decide +kernel
theorem dX67_base_241 : decode cX67_base 241 = .ok (.aload_n 1, 1) := by decide +kernel
theorem dX67_base_242 : decode cX67_base 242 = .ok (.iload_n 2, 1) := by decide +kernel
theorem dX67_base_243 : decode cX67_base 243 = .ok (.iload 4, 2) := by decide +kernel
theorem dX67_base_245 : decode cX67_base 245 = .ok (.i2b, 1) := by decide +kernel
theorem dX67_base_246 : decode cX67_base 246 = .ok (.bastore, 1) := by decide +kernel
theorem dX67_base_247 : decode cX67_base 247 = .ok (.iinc 2 1, 3) := by decide +kernel
theorem dX67_base_250 : decode cX67_base 250 = .ok (.aload_n 0, 1) := by decide +kernel
theorem dX67_base_251 : decode cX67_base 251 = .ok (.getfield 32, 3) := by decide +kernel
theorem dX67_base_254 : decode cX67_base 254 = .ok (.aload_n 0, 1) := by decide +kernel
theorem dX67_base_255 : decode cX67_base 255 = .ok (.getfield 25, 3) := by decide +kernel
theorem dX67_base_258 : decode cX67_base 258 = .ok (.if_icmp .ge 7, 3) := by decide +kernel
theorem dX67_base_261 : decode cX67_base 261 = .ok (.iconst 1, 1) := by decide +kernel
theorem dX67_base_262 : decode cX67_base 262 = .ok (.goto 4, 3) := by decide +kernel
theorem dX67_base_265 : decode cX67_base 265 = .ok (.iconst 0, 1) := by decide +kernel
theorem dX67_base_266 : decode cX67_base 266 = .ok (.istore_n 3, 1) := by decide +kernel
theorem dX67_base_267 : decode cX67_base 267 = .ok (.goto (-243), 3) := by decide +kernel
theorem dX67_base_270 : decode cX67_base 270 = .ok (.new 176, 3) := by decide +kernel
theorem dX67_base_273 : decode cX67_base 273 = .ok (.dup, 1) := by decide +kernel
theorem dX67_base_274 : decode cX67_base 274 = .ok (.bipush 8, 2) := by decide +kernel
theorem dX67_base_276 : decode cX67_base 276 = .ok (.aload_n 1, 1) := by decide +kernel
theorem dX67_base_277 : decode cX67_base 277 = .ok (.iload_n 2, 1) := by decide +kernel
theorem dX67_base_278 : decode cX67_base 278 = .ok (.invokestatic 178, 3) := by decide +kernel
theorem dX67_base_281 : decode cX67_base 281 = .ok (.invokespecial 182, 3) := by decide +kernel
theorem dX67_base_284 : decode cX67_base 284 = .ok (.areturn, 1) := by decide +kernel
abbrev cX67_letter : ByteArray := prog_13_method_23_code
def yX67_letter : MethodName := ⟨RX67, "letter", "()I"⟩
theorem dX67_letter_0 : decode cX67_letter 0 = .ok (.aload_n 0, 1) := by decide +kernel
theorem dX67_letter_1 : decode cX67_letter 1 = .ok (.invokevirtual 35, 3) := by decide +kernel
theorem dX67_letter_4 : decode cX67_letter 4 = .ok (.ifCond .le 15, 3) := by decide +kernel
theorem dX67_letter_7 : decode cX67_letter 7 = .ok (.ldc 185, 2) := by decide +kernel
theorem dX67_letter_9 : decode cX67_letter 9 = .ok (.aload_n 0, 1) := by decide +kernel
theorem dX67_letter_10 : decode cX67_letter 10 = .ok (.invokevirtual 35, 3) := by decide +kernel
theorem dX67_letter_13 : decode cX67_letter 13 = .ok (.invokevirtual 187, 3) := by decide +kernel
theorem dX67_letter_16 : decode cX67_letter 16 = .ok (.goto 4, 3) := by decide +kernel
theorem dX67_letter_19 : decode cX67_letter 19 = .ok (.iconst (-1), 1) := by decide +kernel
theorem dX67_letter_20 : decode cX67_letter 20 = .ok (.istore_n 1, 1) := by decide +kernel
theorem dX67_letter_21 : decode cX67_letter 21 = .ok (.aload_n 0, 1) := by decide +kernel
theorem dX67_letter_22 : decode cX67_letter 22 = .ok (.iload_n 1, 1) := by decide +kernel
theorem dX67_letter_23 : decode cX67_letter 23 = .ok (.ifCond .lt 7, 3) := by decide +kernel
theorem dX67_letter_26 : decode cX67_letter 26 = .ok (.iconst 1, 1) := by decide +kernel
theorem dX67_letter_27 : decode cX67_letter 27 = .ok (.goto 4, 3) := by decide +kernel
theorem dX67_letter_30 : decode cX67_letter 30 = .ok (.iconst 0, 1) := by decide +kernel
theorem dX67_letter_31 : decode cX67_letter 31 = .ok (.aload_n 0, 1) := by decide +kernel
theorem dX67_letter_32 : decode cX67_letter 32 = .ok (.getfield 32, 3) := by decide +kernel
theorem dX67_letter_35 : decode cX67_letter 35 = .ok (.invokevirtual 43, 3) := by decide +kernel
theorem dX67_letter_38 : decode cX67_letter 38 = .ok (.aload_n 0, 1) := by decide +kernel
theorem dX67_letter_39 : decode cX67_letter 39 = .ok (.dup, 1) := by decide +kernel
theorem dX67_letter_40 : decode cX67_letter 40 = .ok (.getfield 32, 3) := by decide +kernel
theorem dX67_letter_43 : decode cX67_letter 43 = .ok (.iconst 1, 1) := by decide +kernel
theorem dX67_letter_44 : decode cX67_letter 44 = .ok (.iadd, 1) := by decide +kernel
theorem dX67_letter_45 : decode cX67_letter 45 = .ok (.putfield 32, 3) := by decide +kernel
theorem dX67_letter_48 : decode cX67_letter 48 = .ok (.iload_n 1, 1) := by decide +kernel
theorem dX67_letter_49 : decode cX67_letter 49 = .ok (.ireturn, 1) := by decide +kernel
theorem in_X67 : ∀ w ∈ wsX670, w ∈ lw_all := lw_in wsX670 [4044, 4046, 4048, 4050, 4052] (by decide +kernel) (by decide +kernel)
def RX69 : String := "KnowHouse$DatatypeValues$Number"
def TX69 : u_T := fun k => match k with
  | 0 => ("KnowHouse$DatatypeValues$Value", "kind", "I", true)
  | 1 => ("KnowHouse$DatatypeValues$Number", "upper", "J", true)
  | _ => ("KnowHouse$DatatypeValues$Number", "lower", "J", true)
def tyX69 : Nat → FieldType := fun k => match k with
  | 0 => .int
  | 1 => .long
  | _ => .long
abbrev wsX690 : List Cond := u_ws RX69 TX69 3
theorem nmX69 : ∀ a, a < 3 → ∀ b, b < 3 → a ≠ b → (TX69 a).2.1 ≠ (TX69 b).2.1 := by decide +kernel
theorem tyX69_ok : ∀ k, k < 3 → parseFieldDescriptor (TX69 k).2.2.1 = some (tyX69 k) := by decide +kernel
abbrev cX69_init : ByteArray := prog_12_method_1_code
def yX69_init : MethodName := ⟨RX69, "<init>", "(IJJ)V"⟩
theorem dX69_init_0 : decode cX69_init 0 = .ok (.aload_n 0, 1) := by decide +kernel
theorem dX69_init_1 : decode cX69_init 1 = .ok (.iload_n 1, 1) := by decide +kernel
theorem dX69_init_2 : decode cX69_init 2 = .ok (.invokespecial 1, 3) := by decide +kernel
theorem dX69_init_5 : decode cX69_init 5 = .ok (.lload_n 2, 1) := by decide +kernel
theorem dX69_init_6 : decode cX69_init 6 = .ok (.invokestatic 7, 3) := by decide +kernel
theorem dX69_init_9 : decode cX69_init 9 = .ok (.lstore 6, 2) := by decide +kernel
theorem dX69_init_11 : decode cX69_init 11 = .ok (.lload 4, 2) := by decide +kernel
theorem dX69_init_13 : decode cX69_init 13 = .ok (.lstore 8, 2) := by decide +kernel
theorem dX69_init_15 : decode cX69_init 15 = .ok (.lload 8, 2) := by decide +kernel
theorem dX69_init_17 : decode cX69_init 17 = .ok (.lconst 0, 1) := by decide +kernel
theorem dX69_init_18 : decode cX69_init 18 = .ok (.lcmp, 1) := by decide +kernel
theorem dX69_init_19 : decode cX69_init 19 = .ok (.ifCond .eq 21, 3) := by decide +kernel
theorem dX69_init_22 : decode cX69_init 22 = .ok (.lload 6, 2) := by decide +kernel
theorem dX69_init_24 : decode cX69_init 24 = .ok (.lload 8, 2) := by decide +kernel
theorem dX69_init_26 : decode cX69_init 26 = .ok (.lrem, 1) := by decide +kernel
theorem dX69_init_27 : decode cX69_init 27 = .ok (.lstore 10, 2) := by decide +kernel
theorem dX69_init_29 : decode cX69_init 29 = .ok (.lload 8, 2) := by decide +kernel
theorem dX69_init_31 : decode cX69_init 31 = .ok (.lstore 6, 2) := by decide +kernel
theorem dX69_init_33 : decode cX69_init 33 = .ok (.lload 10, 2) := by decide +kernel
theorem dX69_init_35 : decode cX69_init 35 = .ok (.lstore 8, 2) := by decide +kernel
theorem dX69_init_37 : decode cX69_init 37 = .ok (.goto (-22), 3) := by decide +kernel
theorem dX69_init_40 : decode cX69_init 40 = .ok (.aload_n 0, 1) := by decide +kernel
theorem dX69_init_41 : decode cX69_init 41 = .ok (.lload_n 2, 1) := by decide +kernel
theorem dX69_init_42 : decode cX69_init 42 = .ok (.lload 6, 2) := by decide +kernel
theorem dX69_init_44 : decode cX69_init 44 = .ok (.ldiv, 1) := by decide +kernel
theorem dX69_init_45 : decode cX69_init 45 = .ok (.putfield 13, 3) := by decide +kernel
theorem dX69_init_48 : decode cX69_init 48 = .ok (.aload_n 0, 1) := by decide +kernel
theorem dX69_init_49 : decode cX69_init 49 = .ok (.lload 4, 2) := by decide +kernel
theorem dX69_init_51 : decode cX69_init 51 = .ok (.lload 6, 2) := by decide +kernel
theorem dX69_init_53 : decode cX69_init 53 = .ok (.ldiv, 1) := by decide +kernel
theorem dX69_init_54 : decode cX69_init 54 = .ok (.putfield 19, 3) := by decide +kernel
theorem dX69_init_57 : decode cX69_init 57 = .ok (.return_, 1) := by decide +kernel
abbrev cX69_compare : ByteArray := prog_12_method_4_code
def yX69_compare : MethodName := ⟨RX69, "compare", "(LKnowHouse$DatatypeValues$Value;)I"⟩
theorem dX69_compare_0 : decode cX69_compare 0 = .ok (.aload_n 1, 1) := by decide +kernel
theorem dX69_compare_1 : decode cX69_compare 1 = .ok (.instanceof 14, 3) := by decide +kernel
theorem dX69_compare_4 : decode cX69_compare 4 = .ok (.ifCond .eq 32, 3) := by decide +kernel
theorem dX69_compare_7 : decode cX69_compare 7 = .ok (.aload_n 1, 1) := by decide +kernel
theorem dX69_compare_8 : decode cX69_compare 8 = .ok (.checkcast 14, 3) := by decide +kernel
theorem dX69_compare_11 : decode cX69_compare 11 = .ok (.astore_n 2, 1) := by decide +kernel
theorem dX69_compare_12 : decode cX69_compare 12 = .ok (.aload_n 0, 1) := by decide +kernel
theorem dX69_compare_13 : decode cX69_compare 13 = .ok (.getfield 13, 3) := by decide +kernel
theorem dX69_compare_16 : decode cX69_compare 16 = .ok (.aload_n 2, 1) := by decide +kernel
theorem dX69_compare_17 : decode cX69_compare 17 = .ok (.getfield 19, 3) := by decide +kernel
theorem dX69_compare_20 : decode cX69_compare 20 = .ok (.lmul, 1) := by decide +kernel
theorem dX69_compare_21 : decode cX69_compare 21 = .ok (.aload_n 2, 1) := by decide +kernel
theorem dX69_compare_22 : decode cX69_compare 22 = .ok (.getfield 13, 3) := by decide +kernel
theorem dX69_compare_25 : decode cX69_compare 25 = .ok (.aload_n 0, 1) := by decide +kernel
theorem dX69_compare_26 : decode cX69_compare 26 = .ok (.getfield 19, 3) := by decide +kernel
theorem dX69_compare_29 : decode cX69_compare 29 = .ok (.lmul, 1) := by decide +kernel
theorem dX69_compare_30 : decode cX69_compare 30 = .ok (.invokestatic 31, 3) := by decide +kernel
theorem dX69_compare_33 : decode cX69_compare 33 = .ok (.goto 4, 3) := by decide +kernel
theorem dX69_compare_36 : decode cX69_compare 36 = .ok (.iconst 2, 1) := by decide +kernel
theorem dX69_compare_37 : decode cX69_compare 37 = .ok (.ireturn, 1) := by decide +kernel
abbrev cX69_part : ByteArray := prog_12_method_2_code
def yX69_part : MethodName := ⟨RX69, "part", "(I)J"⟩
theorem dX69_part_0 : decode cX69_part 0 = .ok (.iload_n 1, 1) := by decide +kernel
theorem dX69_part_1 : decode cX69_part 1 = .ok (.ifCond .ne 10, 3) := by decide +kernel
theorem dX69_part_4 : decode cX69_part 4 = .ok (.aload_n 0, 1) := by decide +kernel
theorem dX69_part_5 : decode cX69_part 5 = .ok (.getfield 13, 3) := by decide +kernel
theorem dX69_part_8 : decode cX69_part 8 = .ok (.goto 16, 3) := by decide +kernel
theorem dX69_part_11 : decode cX69_part 11 = .ok (.iload_n 1, 1) := by decide +kernel
theorem dX69_part_12 : decode cX69_part 12 = .ok (.iconst 1, 1) := by decide +kernel
theorem dX69_part_13 : decode cX69_part 13 = .ok (.if_icmp .ne 10, 3) := by decide +kernel
theorem dX69_part_16 : decode cX69_part 16 = .ok (.aload_n 0, 1) := by decide +kernel
theorem dX69_part_17 : decode cX69_part 17 = .ok (.getfield 19, 3) := by decide +kernel
theorem dX69_part_20 : decode cX69_part 20 = .ok (.goto 4, 3) := by decide +kernel
theorem dX69_part_23 : decode cX69_part 23 = .ok (.lconst 0, 1) := by decide +kernel
theorem dX69_part_24 : decode cX69_part 24 = .ok (.lreturn, 1) := by decide +kernel
abbrev cX69_tell : ByteArray := prog_12_method_3_code
def yX69_tell : MethodName := ⟨RX69, "tell", "(LKnowHouse$DatatypeValues$Writer;)V"⟩
theorem dX69_tell_0 : decode cX69_tell 0 = .ok (.aload_n 1, 1) := by decide +kernel
theorem dX69_tell_1 : decode cX69_tell 1 = .ok (.aload_n 0, 1) := by decide +kernel
theorem dX69_tell_2 : decode cX69_tell 2 = .ok (.getfield 13, 3) := by decide +kernel
theorem dX69_tell_5 : decode cX69_tell 5 = .ok (.iconst 1, 1) := by decide +kernel
theorem dX69_tell_6 : decode cX69_tell 6 = .ok (.invokevirtual 22, 3) := by decide +kernel
theorem dX69_tell_9 : decode cX69_tell 9 = .ok (.aload_n 0, 1) := by decide +kernel
theorem dX69_tell_10 : decode cX69_tell 10 = .ok (.getfield 19, 3) := by decide +kernel
theorem dX69_tell_13 : decode cX69_tell 13 = .ok (.lconst 1, 1) := by decide +kernel
theorem dX69_tell_14 : decode cX69_tell 14 = .ok (.lcmp, 1) := by decide +kernel
theorem dX69_tell_15 : decode cX69_tell 15 = .ok (.ifCond .ne 4, 3) := by decide +kernel
theorem dX69_tell_18 : decode cX69_tell 18 = .ok (.return_, 1) := by decide +kernel
theorem dX69_tell_19 : decode cX69_tell 19 = .ok (.aload_n 1, 1) := by decide +kernel
theorem dX69_tell_20 : decode cX69_tell 20 = .ok (.bipush 47, 2) := by decide +kernel
theorem dX69_tell_22 : decode cX69_tell 22 = .ok (.invokevirtual 28, 3) := by decide +kernel
theorem dX69_tell_25 : decode cX69_tell 25 = .ok (.aload_n 1, 1) := by decide +kernel
theorem dX69_tell_26 : decode cX69_tell 26 = .ok (.aload_n 0, 1) := by decide +kernel
theorem dX69_tell_27 : decode cX69_tell 27 = .ok (.getfield 19, 3) := by decide +kernel
theorem dX69_tell_30 : decode cX69_tell 30 = .ok (.iconst 1, 1) := by decide +kernel
theorem dX69_tell_31 : decode cX69_tell 31 = .ok (.invokevirtual 22, 3) := by decide +kernel
theorem dX69_tell_34 : decode cX69_tell 34 = .ok (.return_, 1) := by decide +kernel
theorem in_X69 : ∀ w ∈ wsX690, w ∈ lw_all := lw_in wsX690 [4119, 4115, 4117] (by decide +kernel) (by decide +kernel)
def RX70 : String := "KnowHouse$DatatypeValues$Truth"
def TX70 : u_T := fun k => match k with
  | 0 => ("KnowHouse$DatatypeValues$Value", "kind", "I", true)
  | _ => ("KnowHouse$DatatypeValues$Truth", "is", "Z", true)
def tyX70 : Nat → FieldType := fun k => match k with
  | 0 => .int
  | _ => .boolean
abbrev wsX700 : List Cond := u_ws RX70 TX70 2
theorem nmX70 : ∀ a, a < 2 → ∀ b, b < 2 → a ≠ b → (TX70 a).2.1 ≠ (TX70 b).2.1 := by decide +kernel
theorem tyX70_ok : ∀ k, k < 2 → parseFieldDescriptor (TX70 k).2.2.1 = some (tyX70 k) := by decide +kernel
abbrev cX70_init : ByteArray := prog_17_method_1_code
def yX70_init : MethodName := ⟨RX70, "<init>", "(Z)V"⟩
theorem dX70_init_0 : decode cX70_init 0 = .ok (.aload_n 0, 1) := by decide +kernel
theorem dX70_init_1 : decode cX70_init 1 = .ok (.iconst 3, 1) := by decide +kernel
theorem dX70_init_2 : decode cX70_init 2 = .ok (.invokespecial 3, 3) := by decide +kernel
theorem dX70_init_5 : decode cX70_init 5 = .ok (.aload_n 0, 1) := by decide +kernel
theorem dX70_init_6 : decode cX70_init 6 = .ok (.iload_n 1, 1) := by decide +kernel
theorem dX70_init_7 : decode cX70_init 7 = .ok (.putfield 9, 3) := by decide +kernel
theorem dX70_init_10 : decode cX70_init 10 = .ok (.return_, 1) := by decide +kernel
abbrev cX70_compare : ByteArray := prog_17_method_4_code
def yX70_compare : MethodName := ⟨RX70, "compare", "(LKnowHouse$DatatypeValues$Value;)I"⟩
theorem dX70_compare_0 : decode cX70_compare 0 = .ok (.aload_n 1, 1) := by decide +kernel
theorem dX70_compare_1 : decode cX70_compare 1 = .ok (.instanceof 10, 3) := by decide +kernel
theorem dX70_compare_4 : decode cX70_compare 4 = .ok (.ifCond .eq 22, 3) := by decide +kernel
theorem dX70_compare_7 : decode cX70_compare 7 = .ok (.aload_n 1, 1) := by decide +kernel
theorem dX70_compare_8 : decode cX70_compare 8 = .ok (.checkcast 10, 3) := by decide +kernel
theorem dX70_compare_11 : decode cX70_compare 11 = .ok (.astore_n 2, 1) := by decide +kernel
theorem dX70_compare_12 : decode cX70_compare 12 = .ok (.aload_n 0, 1) := by decide +kernel
theorem dX70_compare_13 : decode cX70_compare 13 = .ok (.getfield 9, 3) := by decide +kernel
theorem dX70_compare_16 : decode cX70_compare 16 = .ok (.aload_n 2, 1) := by decide +kernel
theorem dX70_compare_17 : decode cX70_compare 17 = .ok (.getfield 9, 3) := by decide +kernel
theorem dX70_compare_20 : decode cX70_compare 20 = .ok (.invokestatic 25, 3) := by decide +kernel
theorem dX70_compare_23 : decode cX70_compare 23 = .ok (.goto 4, 3) := by decide +kernel
theorem dX70_compare_26 : decode cX70_compare 26 = .ok (.iconst 2, 1) := by decide +kernel
theorem dX70_compare_27 : decode cX70_compare 27 = .ok (.ireturn, 1) := by decide +kernel
abbrev cX70_part : ByteArray := prog_17_method_2_code
def yX70_part : MethodName := ⟨RX70, "part", "(I)J"⟩
theorem dX70_part_0 : decode cX70_part 0 = .ok (.iload_n 1, 1) := by decide +kernel
theorem dX70_part_1 : decode cX70_part 1 = .ok (.ifCond .ne 14, 3) := by decide +kernel
theorem dX70_part_4 : decode cX70_part 4 = .ok (.aload_n 0, 1) := by decide +kernel
theorem dX70_part_5 : decode cX70_part 5 = .ok (.getfield 9, 3) := by decide +kernel
theorem dX70_part_8 : decode cX70_part 8 = .ok (.ifCond .eq 7, 3) := by decide +kernel
theorem dX70_part_11 : decode cX70_part 11 = .ok (.lconst 1, 1) := by decide +kernel
theorem dX70_part_12 : decode cX70_part 12 = .ok (.goto 4, 3) := by decide +kernel
theorem dX70_part_15 : decode cX70_part 15 = .ok (.lconst 0, 1) := by decide +kernel
theorem dX70_part_16 : decode cX70_part 16 = .ok (.lreturn, 1) := by decide +kernel
abbrev cX70_tell : ByteArray := prog_17_method_3_code
def yX70_tell : MethodName := ⟨RX70, "tell", "(LKnowHouse$DatatypeValues$Writer;)V"⟩
theorem dX70_tell_0 : decode cX70_tell 0 = .ok (.aload_n 1, 1) := by decide +kernel
theorem dX70_tell_1 : decode cX70_tell 1 = .ok (.aload_n 0, 1) := by decide +kernel
theorem dX70_tell_2 : decode cX70_tell 2 = .ok (.getfield 9, 3) := by decide +kernel
theorem dX70_tell_5 : decode cX70_tell 5 = .ok (.ifCond .eq 8, 3) := by decide +kernel
theorem dX70_tell_8 : decode cX70_tell 8 = .ok (.ldc 15, 2) := by decide +kernel
theorem dX70_tell_10 : decode cX70_tell 10 = .ok (.goto 5, 3) := by decide +kernel
theorem dX70_tell_13 : decode cX70_tell 13 = .ok (.ldc 17, 2) := by decide +kernel
theorem dX70_tell_15 : decode cX70_tell 15 = .ok (.invokevirtual 19, 3) := by decide +kernel
theorem dX70_tell_18 : decode cX70_tell 18 = .ok (.return_, 1) := by decide +kernel
theorem in_X70 : ∀ w ∈ wsX700, w ∈ lw_all := lw_in wsX700 [4135, 4133] (by decide +kernel) (by decide +kernel)
def RX72 : String := "KnowHouse$DatatypeValues$Time"
def TX72 : u_T := fun k => match k with
  | 0 => ("KnowHouse$DatatypeValues$Value", "kind", "I", true)
  | 1 => ("KnowHouse$DatatypeValues$Time", "millis", "J", true)
  | _ => ("KnowHouse$DatatypeValues$Time", "zone", "I", true)
def tyX72 : Nat → FieldType := fun k => match k with
  | 0 => .int
  | 1 => .long
  | _ => .int
abbrev wsX720 : List Cond := u_ws RX72 TX72 3
theorem nmX72 : ∀ a, a < 3 → ∀ b, b < 3 → a ≠ b → (TX72 a).2.1 ≠ (TX72 b).2.1 := by decide +kernel
theorem tyX72_ok : ∀ k, k < 3 → parseFieldDescriptor (TX72 k).2.2.1 = some (tyX72 k) := by decide +kernel
abbrev cX72_init : ByteArray := prog_16_method_1_code
def yX72_init : MethodName := ⟨RX72, "<init>", "(IJI)V"⟩
theorem dX72_init_0 : decode cX72_init 0 = .ok (.aload_n 0, 1) := by decide +kernel
theorem dX72_init_1 : decode cX72_init 1 = .ok (.iload_n 1, 1) := by decide +kernel
theorem dX72_init_2 : decode cX72_init 2 = .ok (.invokespecial 3, 3) := by decide +kernel
theorem dX72_init_5 : decode cX72_init 5 = .ok (.aload_n 0, 1) := by decide +kernel
theorem dX72_init_6 : decode cX72_init 6 = .ok (.lload_n 2, 1) := by decide +kernel
theorem dX72_init_7 : decode cX72_init 7 = .ok (.putfield 9, 3) := by decide +kernel
theorem dX72_init_10 : decode cX72_init 10 = .ok (.aload_n 0, 1) := by decide +kernel
theorem dX72_init_11 : decode cX72_init 11 = .ok (.iload 4, 2) := by decide +kernel
theorem dX72_init_13 : decode cX72_init 13 = .ok (.putfield 15, 3) := by decide +kernel
theorem dX72_init_16 : decode cX72_init 16 = .ok (.return_, 1) := by decide +kernel
abbrev cX72_compare : ByteArray := prog_16_method_5_code
def yX72_compare : MethodName := ⟨RX72, "compare", "(LKnowHouse$DatatypeValues$Value;)I"⟩
theorem dX72_compare_0 : decode cX72_compare 0 = .ok (.aload_n 1, 1) := by decide +kernel
theorem dX72_compare_1 : decode cX72_compare 1 = .ok (.getfield 58, 3) := by decide +kernel
theorem dX72_compare_4 : decode cX72_compare 4 = .ok (.aload_n 0, 1) := by decide +kernel
theorem dX72_compare_5 : decode cX72_compare 5 = .ok (.getfield 42, 3) := by decide +kernel
theorem dX72_compare_8 : decode cX72_compare 8 = .ok (.if_icmp .eq 5, 3) := by decide +kernel
theorem dX72_compare_11 : decode cX72_compare 11 = .ok (.iconst 2, 1) := by decide +kernel
theorem dX72_compare_12 : decode cX72_compare 12 = .ok (.ireturn, 1) := by decide +kernel
theorem dX72_compare_13 : decode cX72_compare 13 = .ok (.aload_n 1, 1) := by decide +kernel
theorem dX72_compare_14 : decode cX72_compare 14 = .ok (.checkcast 10, 3) := by decide +kernel
theorem dX72_compare_17 : decode cX72_compare 17 = .ok (.astore_n 2, 1) := by decide +kernel
theorem dX72_compare_18 : decode cX72_compare 18 = .ok (.aload_n 0, 1) := by decide +kernel
theorem dX72_compare_19 : decode cX72_compare 19 = .ok (.getfield 15, 3) := by decide +kernel
theorem dX72_compare_22 : decode cX72_compare 22 = .ok (.sipush 10000, 3) := by decide +kernel
theorem dX72_compare_25 : decode cX72_compare 25 = .ok (.if_icmp .ne 7, 3) := by decide +kernel
theorem dX72_compare_28 : decode cX72_compare 28 = .ok (.iconst 1, 1) := by decide +kernel
theorem dX72_compare_29 : decode cX72_compare 29 = .ok (.goto 4, 3) := by decide +kernel
theorem dX72_compare_32 : decode cX72_compare 32 = .ok (.iconst 0, 1) := by decide +kernel
theorem dX72_compare_33 : decode cX72_compare 33 = .ok (.aload_n 2, 1) := by decide +kernel
theorem dX72_compare_34 : decode cX72_compare 34 = .ok (.getfield 15, 3) := by decide +kernel
theorem dX72_compare_37 : decode cX72_compare 37 = .ok (.sipush 10000, 3) := by decide +kernel
theorem dX72_compare_40 : decode cX72_compare 40 = .ok (.if_icmp .ne 7, 3) := by decide +kernel
theorem dX72_compare_43 : decode cX72_compare 43 = .ok (.iconst 1, 1) := by decide +kernel
theorem dX72_compare_44 : decode cX72_compare 44 = .ok (.goto 4, 3) := by decide +kernel
theorem dX72_compare_47 : decode cX72_compare 47 = .ok (.iconst 0, 1) := by decide +kernel
theorem dX72_compare_48 : decode cX72_compare 48 = .ok (.if_icmp .ne 15, 3) := by decide +kernel
theorem dX72_compare_51 : decode cX72_compare 51 = .ok (.aload_n 0, 1) := by decide +kernel
theorem dX72_compare_52 : decode cX72_compare 52 = .ok (.invokevirtual 59, 3) := by decide +kernel
theorem dX72_compare_55 : decode cX72_compare 55 = .ok (.aload_n 2, 1) := by decide +kernel
theorem dX72_compare_56 : decode cX72_compare 56 = .ok (.invokevirtual 59, 3) := by decide +kernel
theorem dX72_compare_59 : decode cX72_compare 59 = .ok (.invokestatic 63, 3) := by decide +kernel
theorem dX72_compare_62 : decode cX72_compare 62 = .ok (.ireturn, 1) := by decide +kernel
theorem dX72_compare_63 : decode cX72_compare 63 = .ok (.aload_n 0, 1) := by decide +kernel
theorem dX72_compare_64 : decode cX72_compare 64 = .ok (.invokevirtual 59, 3) := by decide +kernel
theorem dX72_compare_67 : decode cX72_compare 67 = .ok (.aload_n 2, 1) := by decide +kernel
theorem dX72_compare_68 : decode cX72_compare 68 = .ok (.invokevirtual 59, 3) := by decide +kernel
theorem dX72_compare_71 : decode cX72_compare 71 = .ok (.lsub, 1) := by decide +kernel
theorem dX72_compare_72 : decode cX72_compare 72 = .ok (.lstore_n 3, 1) := by decide +kernel
theorem dX72_compare_73 : decode cX72_compare 73 = .ok (.lload_n 3, 1) := by decide +kernel
theorem dX72_compare_74 : decode cX72_compare 74 = .ok (.ldc2_w 69, 3) := by decide +kernel
theorem dX72_compare_77 : decode cX72_compare 77 = .ok (.lcmp, 1) := by decide +kernel
theorem dX72_compare_78 : decode cX72_compare 78 = .ok (.ifCond .ge 7, 3) := by decide +kernel
theorem dX72_compare_81 : decode cX72_compare 81 = .ok (.iconst (-1), 1) := by decide +kernel
theorem dX72_compare_82 : decode cX72_compare 82 = .ok (.goto 16, 3) := by decide +kernel
theorem dX72_compare_85 : decode cX72_compare 85 = .ok (.lload_n 3, 1) := by decide +kernel
theorem dX72_compare_86 : decode cX72_compare 86 = .ok (.ldc2_w 71, 3) := by decide +kernel
theorem dX72_compare_89 : decode cX72_compare 89 = .ok (.lcmp, 1) := by decide +kernel
theorem dX72_compare_90 : decode cX72_compare 90 = .ok (.ifCond .le 7, 3) := by decide +kernel
theorem dX72_compare_93 : decode cX72_compare 93 = .ok (.iconst 1, 1) := by decide +kernel
theorem dX72_compare_94 : decode cX72_compare 94 = .ok (.goto 4, 3) := by decide +kernel
theorem dX72_compare_97 : decode cX72_compare 97 = .ok (.iconst 2, 1) := by decide +kernel
theorem dX72_compare_98 : decode cX72_compare 98 = .ok (.ireturn, 1) := by decide +kernel
abbrev cX72_point : ByteArray := prog_16_method_4_code
def yX72_point : MethodName := ⟨RX72, "point", "()J"⟩
theorem dX72_point_0 : decode cX72_point 0 = .ok (.aload_n 0, 1) := by decide +kernel
theorem dX72_point_1 : decode cX72_point 1 = .ok (.getfield 15, 3) := by decide +kernel
theorem dX72_point_4 : decode cX72_point 4 = .ok (.sipush 10000, 3) := by decide +kernel
theorem dX72_point_7 : decode cX72_point 7 = .ok (.if_icmp .ne 10, 3) := by decide +kernel
theorem dX72_point_10 : decode cX72_point 10 = .ok (.aload_n 0, 1) := by decide +kernel
theorem dX72_point_11 : decode cX72_point 11 = .ok (.getfield 9, 3) := by decide +kernel
theorem dX72_point_14 : decode cX72_point 14 = .ok (.goto 17, 3) := by decide +kernel
theorem dX72_point_17 : decode cX72_point 17 = .ok (.aload_n 0, 1) := by decide +kernel
theorem dX72_point_18 : decode cX72_point 18 = .ok (.getfield 9, 3) := by decide +kernel
theorem dX72_point_21 : decode cX72_point 21 = .ok (.ldc2_w 56, 3) := by decide +kernel
theorem dX72_point_24 : decode cX72_point 24 = .ok (.aload_n 0, 1) := by decide +kernel
theorem dX72_point_25 : decode cX72_point 25 = .ok (.getfield 15, 3) := by decide +kernel
theorem dX72_point_28 : decode cX72_point 28 = .ok (.i2l, 1) := by decide +kernel
theorem dX72_point_29 : decode cX72_point 29 = .ok (.lmul, 1) := by decide +kernel
theorem dX72_point_30 : decode cX72_point 30 = .ok (.lsub, 1) := by decide +kernel
theorem dX72_point_31 : decode cX72_point 31 = .ok (.lreturn, 1) := by decide +kernel
abbrev cX72_part : ByteArray := prog_16_method_2_code
def yX72_part : MethodName := ⟨RX72, "part", "(I)J"⟩
theorem dX72_part_0 : decode cX72_part 0 = .ok (.iload_n 1, 1) := by decide +kernel
theorem dX72_part_1 : decode cX72_part 1 = .ok (.ifCond .ne 10, 3) := by decide +kernel
theorem dX72_part_4 : decode cX72_part 4 = .ok (.aload_n 0, 1) := by decide +kernel
theorem dX72_part_5 : decode cX72_part 5 = .ok (.getfield 9, 3) := by decide +kernel
theorem dX72_part_8 : decode cX72_part 8 = .ok (.goto 17, 3) := by decide +kernel
theorem dX72_part_11 : decode cX72_part 11 = .ok (.iload_n 1, 1) := by decide +kernel
theorem dX72_part_12 : decode cX72_part 12 = .ok (.iconst 1, 1) := by decide +kernel
theorem dX72_part_13 : decode cX72_part 13 = .ok (.if_icmp .ne 11, 3) := by decide +kernel
theorem dX72_part_16 : decode cX72_part 16 = .ok (.aload_n 0, 1) := by decide +kernel
theorem dX72_part_17 : decode cX72_part 17 = .ok (.getfield 15, 3) := by decide +kernel
theorem dX72_part_20 : decode cX72_part 20 = .ok (.i2l, 1) := by decide +kernel
theorem dX72_part_21 : decode cX72_part 21 = .ok (.goto 4, 3) := by decide +kernel
theorem dX72_part_24 : decode cX72_part 24 = .ok (.lconst 0, 1) := by decide +kernel
theorem dX72_part_25 : decode cX72_part 25 = .ok (.lreturn, 1) := by decide +kernel
abbrev cX72_tell : ByteArray := prog_16_method_3_code
def yX72_tell : MethodName := ⟨RX72, "tell", "(LKnowHouse$DatatypeValues$Writer;)V"⟩
theorem dX72_tell_0 : decode cX72_tell 0 = .ok (.aload_n 0, 1) := by decide +kernel
theorem dX72_tell_1 : decode cX72_tell 1 = .ok (.getfield 9, 3) := by decide +kernel
theorem dX72_tell_4 : decode cX72_tell 4 = .ok (.ldc2_w 19, 3) := by decide +kernel
theorem dX72_tell_7 : decode cX72_tell 7 = .ok (.invokestatic 21, 3) := by decide +kernel
theorem dX72_tell_10 : decode cX72_tell 10 = .ok (.lstore_n 2, 1) := by decide +kernel
theorem dX72_tell_11 : decode cX72_tell 11 = .ok (.lload_n 2, 1) := by decide +kernel
theorem dX72_tell_12 : decode cX72_tell 12 = .ok (.invokestatic 27, 3) := by decide +kernel
theorem dX72_tell_15 : decode cX72_tell 15 = .ok (.astore 4, 2) := by decide +kernel
theorem dX72_tell_17 : decode cX72_tell 17 = .ok (.aload_n 1, 1) := by decide +kernel
theorem dX72_tell_18 : decode cX72_tell 18 = .ok (.aload 4, 2) := by decide +kernel
theorem dX72_tell_20 : decode cX72_tell 20 = .ok (.iconst 0, 1) := by decide +kernel
theorem dX72_tell_21 : decode cX72_tell 21 = .ok (.iaload, 1) := by decide +kernel
theorem dX72_tell_22 : decode cX72_tell 22 = .ok (.i2l, 1) := by decide +kernel
theorem dX72_tell_23 : decode cX72_tell 23 = .ok (.iconst 4, 1) := by decide +kernel
theorem dX72_tell_24 : decode cX72_tell 24 = .ok (.invokevirtual 33, 3) := by decide +kernel
theorem dX72_tell_27 : decode cX72_tell 27 = .ok (.aload_n 1, 1) := by decide +kernel
theorem dX72_tell_28 : decode cX72_tell 28 = .ok (.bipush 45, 2) := by decide +kernel
theorem dX72_tell_30 : decode cX72_tell 30 = .ok (.invokevirtual 39, 3) := by decide +kernel
theorem dX72_tell_33 : decode cX72_tell 33 = .ok (.aload_n 1, 1) := by decide +kernel
theorem dX72_tell_34 : decode cX72_tell 34 = .ok (.aload 4, 2) := by decide +kernel
theorem dX72_tell_36 : decode cX72_tell 36 = .ok (.iconst 1, 1) := by decide +kernel
theorem dX72_tell_37 : decode cX72_tell 37 = .ok (.iaload, 1) := by decide +kernel
theorem dX72_tell_38 : decode cX72_tell 38 = .ok (.i2l, 1) := by decide +kernel
theorem dX72_tell_39 : decode cX72_tell 39 = .ok (.iconst 2, 1) := by decide +kernel
theorem dX72_tell_40 : decode cX72_tell 40 = .ok (.invokevirtual 33, 3) := by decide +kernel
theorem dX72_tell_43 : decode cX72_tell 43 = .ok (.aload_n 1, 1) := by decide +kernel
theorem dX72_tell_44 : decode cX72_tell 44 = .ok (.bipush 45, 2) := by decide +kernel
theorem dX72_tell_46 : decode cX72_tell 46 = .ok (.invokevirtual 39, 3) := by decide +kernel
theorem dX72_tell_49 : decode cX72_tell 49 = .ok (.aload_n 1, 1) := by decide +kernel
theorem dX72_tell_50 : decode cX72_tell 50 = .ok (.aload 4, 2) := by decide +kernel
theorem dX72_tell_52 : decode cX72_tell 52 = .ok (.iconst 2, 1) := by decide +kernel
theorem dX72_tell_53 : decode cX72_tell 53 = .ok (.iaload, 1) := by decide +kernel
theorem dX72_tell_54 : decode cX72_tell 54 = .ok (.i2l, 1) := by decide +kernel
theorem dX72_tell_55 : decode cX72_tell 55 = .ok (.iconst 2, 1) := by decide +kernel
theorem dX72_tell_56 : decode cX72_tell 56 = .ok (.invokevirtual 33, 3) := by decide +kernel
theorem dX72_tell_59 : decode cX72_tell 59 = .ok (.aload_n 0, 1) := by decide +kernel
theorem dX72_tell_60 : decode cX72_tell 60 = .ok (.getfield 42, 3) := by decide +kernel
theorem dX72_tell_63 : decode cX72_tell 63 = .ok (.iconst 5, 1) := by decide +kernel
theorem dX72_tell_64 : decode cX72_tell 64 = .ok (.if_icmp .ne 17, 3) := by decide +kernel
theorem dX72_tell_67 : decode cX72_tell 67 = .ok (.aload_n 1, 1) := by decide +kernel
theorem dX72_tell_68 : decode cX72_tell 68 = .ok (.aload_n 0, 1) := by decide +kernel
theorem dX72_tell_69 : decode cX72_tell 69 = .ok (.getfield 9, 3) := by decide +kernel
theorem dX72_tell_72 : decode cX72_tell 72 = .ok (.ldc2_w 19, 3) := by decide +kernel
theorem dX72_tell_75 : decode cX72_tell 75 = .ok (.invokestatic 45, 3) := by decide +kernel
theorem dX72_tell_78 : decode cX72_tell 78 = .ok (.invokevirtual 48, 3) := by decide +kernel
theorem dX72_tell_81 : decode cX72_tell 81 = .ok (.aload_n 0, 1) := by decide +kernel
theorem dX72_tell_82 : decode cX72_tell 82 = .ok (.getfield 15, 3) := by decide +kernel
theorem dX72_tell_85 : decode cX72_tell 85 = .ok (.ifCond .ne 9, 3) := by decide +kernel
theorem dX72_tell_88 : decode cX72_tell 88 = .ok (.aload_n 1, 1) := by decide +kernel
theorem dX72_tell_89 : decode cX72_tell 89 = .ok (.bipush 90, 2) := by decide +kernel
theorem dX72_tell_91 : decode cX72_tell 91 = .ok (.invokevirtual 39, 3) := by decide +kernel
theorem dX72_tell_94 : decode cX72_tell 94 = .ok (.aload_n 0, 1) := by decide +kernel
theorem dX72_tell_95 : decode cX72_tell 95 = .ok (.getfield 15, 3) := by decide +kernel
theorem dX72_tell_98 : decode cX72_tell 98 = .ok (.ifCond .eq 13, 3) := by decide +kernel
theorem dX72_tell_101 : decode cX72_tell 101 = .ok (.aload_n 0, 1) := by decide +kernel
theorem dX72_tell_102 : decode cX72_tell 102 = .ok (.getfield 15, 3) := by decide +kernel
theorem dX72_tell_105 : decode cX72_tell 105 = .ok (.sipush 10000, 3) := by decide +kernel
theorem dX72_tell_108 : decode cX72_tell 108 = .ok (.if_icmp .ne 4, 3) := by decide +kernel
theorem dX72_tell_111 : decode cX72_tell 111 = .ok (.return_, 1) := by decide +kernel
theorem dX72_tell_112 : decode cX72_tell 112 = .ok (.aload_n 1, 1) := by decide +kernel
theorem dX72_tell_113 : decode cX72_tell 113 = .ok (.aload_n 0, 1) := by decide +kernel
theorem dX72_tell_114 : decode cX72_tell 114 = .ok (.getfield 15, 3) := by decide +kernel
theorem dX72_tell_117 : decode cX72_tell 117 = .ok (.ifCond .ge 8, 3) := by decide +kernel
theorem dX72_tell_120 : decode cX72_tell 120 = .ok (.bipush 45, 2) := by decide +kernel
theorem dX72_tell_122 : decode cX72_tell 122 = .ok (.goto 5, 3) := by decide +kernel
theorem dX72_tell_125 : decode cX72_tell 125 = .ok (.bipush 43, 2) := by decide +kernel
theorem dX72_tell_127 : decode cX72_tell 127 = .ok (.invokevirtual 39, 3) := by decide +kernel
theorem dX72_tell_130 : decode cX72_tell 130 = .ok (.aload_n 1, 1) := by decide +kernel
theorem dX72_tell_131 : decode cX72_tell 131 = .ok (.aload_n 0, 1) := by decide +kernel
theorem dX72_tell_132 : decode cX72_tell 132 = .ok (.getfield 15, 3) := by decide +kernel
theorem dX72_tell_135 : decode cX72_tell 135 = .ok (.invokestatic 52, 3) := by decide +kernel
theorem dX72_tell_138 : decode cX72_tell 138 = .ok (.bipush 60, 2) := by decide +kernel
theorem dX72_tell_140 : decode cX72_tell 140 = .ok (.idiv, 1) := by decide +kernel
theorem dX72_tell_141 : decode cX72_tell 141 = .ok (.i2l, 1) := by decide +kernel
theorem dX72_tell_142 : decode cX72_tell 142 = .ok (.iconst 2, 1) := by decide +kernel
theorem dX72_tell_143 : decode cX72_tell 143 = .ok (.invokevirtual 33, 3) := by decide +kernel
theorem dX72_tell_146 : decode cX72_tell 146 = .ok (.aload_n 1, 1) := by decide +kernel
theorem dX72_tell_147 : decode cX72_tell 147 = .ok (.bipush 58, 2) := by decide +kernel
theorem dX72_tell_149 : decode cX72_tell 149 = .ok (.invokevirtual 39, 3) := by decide +kernel
theorem dX72_tell_152 : decode cX72_tell 152 = .ok (.aload_n 1, 1) := by decide +kernel
theorem dX72_tell_153 : decode cX72_tell 153 = .ok (.aload_n 0, 1) := by decide +kernel
theorem dX72_tell_154 : decode cX72_tell 154 = .ok (.getfield 15, 3) := by decide +kernel
theorem dX72_tell_157 : decode cX72_tell 157 = .ok (.invokestatic 52, 3) := by decide +kernel
theorem dX72_tell_160 : decode cX72_tell 160 = .ok (.bipush 60, 2) := by decide +kernel
theorem dX72_tell_162 : decode cX72_tell 162 = .ok (.irem, 1) := by decide +kernel
theorem dX72_tell_163 : decode cX72_tell 163 = .ok (.i2l, 1) := by decide +kernel
theorem dX72_tell_164 : decode cX72_tell 164 = .ok (.iconst 2, 1) := by decide +kernel
theorem dX72_tell_165 : decode cX72_tell 165 = .ok (.invokevirtual 33, 3) := by decide +kernel
theorem dX72_tell_168 : decode cX72_tell 168 = .ok (.return_, 1) := by decide +kernel
theorem in_X72 : ∀ w ∈ wsX720, w ∈ lw_all := lw_in wsX720 [4196, 4192, 4194] (by decide +kernel) (by decide +kernel)
def RX73 : String := "KnowHouse$DatatypeValues$Span"
def TX73 : u_T := fun k => match k with
  | 0 => ("KnowHouse$DatatypeValues$Value", "kind", "I", true)
  | 1 => ("KnowHouse$DatatypeValues$Span", "months", "J", true)
  | _ => ("KnowHouse$DatatypeValues$Span", "millis", "J", true)
def tyX73 : Nat → FieldType := fun k => match k with
  | 0 => .int
  | 1 => .long
  | _ => .long
abbrev wsX730 : List Cond := u_ws RX73 TX73 3
theorem nmX73 : ∀ a, a < 3 → ∀ b, b < 3 → a ≠ b → (TX73 a).2.1 ≠ (TX73 b).2.1 := by decide +kernel
theorem tyX73_ok : ∀ k, k < 3 → parseFieldDescriptor (TX73 k).2.2.1 = some (tyX73 k) := by decide +kernel
abbrev cX73_init : ByteArray := prog_15_method_1_code
def yX73_init : MethodName := ⟨RX73, "<init>", "(JJ)V"⟩
theorem dX73_init_0 : decode cX73_init 0 = .ok (.aload_n 0, 1) := by decide +kernel
theorem dX73_init_1 : decode cX73_init 1 = .ok (.bipush 6, 2) := by decide +kernel
theorem dX73_init_3 : decode cX73_init 3 = .ok (.invokespecial 3, 3) := by decide +kernel
theorem dX73_init_6 : decode cX73_init 6 = .ok (.aload_n 0, 1) := by decide +kernel
theorem dX73_init_7 : decode cX73_init 7 = .ok (.lload_n 1, 1) := by decide +kernel
theorem dX73_init_8 : decode cX73_init 8 = .ok (.putfield 9, 3) := by decide +kernel
theorem dX73_init_11 : decode cX73_init 11 = .ok (.aload_n 0, 1) := by decide +kernel
theorem dX73_init_12 : decode cX73_init 12 = .ok (.lload_n 3, 1) := by decide +kernel
theorem dX73_init_13 : decode cX73_init 13 = .ok (.putfield 15, 3) := by decide +kernel
theorem dX73_init_16 : decode cX73_init 16 = .ok (.return_, 1) := by decide +kernel
abbrev cX73_compare : ByteArray := prog_15_method_4_code
def yX73_compare : MethodName := ⟨RX73, "compare", "(LKnowHouse$DatatypeValues$Value;)I"⟩
theorem dX73_compare_0 : decode cX73_compare 0 = .ok (.aload_n 1, 1) := by decide +kernel
theorem dX73_compare_1 : decode cX73_compare 1 = .ok (.instanceof 10, 3) := by decide +kernel
theorem dX73_compare_4 : decode cX73_compare 4 = .ok (.ifCond .eq 11, 3) := by decide +kernel
theorem dX73_compare_7 : decode cX73_compare 7 = .ok (.aload_n 1, 1) := by decide +kernel
theorem dX73_compare_8 : decode cX73_compare 8 = .ok (.checkcast 10, 3) := by decide +kernel
theorem dX73_compare_11 : decode cX73_compare 11 = .ok (.astore_n 2, 1) := by decide +kernel
theorem dX73_compare_12 : decode cX73_compare 12 = .ok (.goto 5, 3) := by decide +kernel
theorem dX73_compare_15 : decode cX73_compare 15 = .ok (.iconst 2, 1) := by decide +kernel
theorem dX73_compare_16 : decode cX73_compare 16 = .ok (.ireturn, 1) := by decide +kernel
theorem dX73_compare_17 : decode cX73_compare 17 = .ok (.getstatic 58, 3) := by decide +kernel
theorem dX73_compare_20 : decode cX73_compare 20 = .ok (.iconst 0, 1) := by decide +kernel
theorem dX73_compare_21 : decode cX73_compare 21 = .ok (.laload, 1) := by decide +kernel
theorem dX73_compare_22 : decode cX73_compare 22 = .ok (.aload_n 0, 1) := by decide +kernel
theorem dX73_compare_23 : decode cX73_compare 23 = .ok (.getfield 9, 3) := by decide +kernel
theorem dX73_compare_26 : decode cX73_compare 26 = .ok (.aload_n 0, 1) := by decide +kernel
theorem dX73_compare_27 : decode cX73_compare 27 = .ok (.getfield 15, 3) := by decide +kernel
theorem dX73_compare_30 : decode cX73_compare 30 = .ok (.invokestatic 62, 3) := by decide +kernel
theorem dX73_compare_33 : decode cX73_compare 33 = .ok (.getstatic 58, 3) := by decide +kernel
theorem dX73_compare_36 : decode cX73_compare 36 = .ok (.iconst 0, 1) := by decide +kernel
theorem dX73_compare_37 : decode cX73_compare 37 = .ok (.laload, 1) := by decide +kernel
theorem dX73_compare_38 : decode cX73_compare 38 = .ok (.aload_n 2, 1) := by decide +kernel
theorem dX73_compare_39 : decode cX73_compare 39 = .ok (.getfield 9, 3) := by decide +kernel
theorem dX73_compare_42 : decode cX73_compare 42 = .ok (.aload_n 2, 1) := by decide +kernel
theorem dX73_compare_43 : decode cX73_compare 43 = .ok (.getfield 15, 3) := by decide +kernel
theorem dX73_compare_46 : decode cX73_compare 46 = .ok (.invokestatic 62, 3) := by decide +kernel
theorem dX73_compare_49 : decode cX73_compare 49 = .ok (.invokestatic 67, 3) := by decide +kernel
theorem dX73_compare_52 : decode cX73_compare 52 = .ok (.istore_n 3, 1) := by decide +kernel
theorem dX73_compare_53 : decode cX73_compare 53 = .ok (.iconst 1, 1) := by decide +kernel
theorem dX73_compare_54 : decode cX73_compare 54 = .ok (.istore 4, 2) := by decide +kernel
theorem dX73_compare_56 : decode cX73_compare 56 = .ok (.iload 4, 2) := by decide +kernel
theorem dX73_compare_58 : decode cX73_compare 58 = .ok (.iconst 4, 1) := by decide +kernel
theorem dX73_compare_59 : decode cX73_compare 59 = .ok (.if_icmp .ge 52, 3) := by decide +kernel
theorem dX73_compare_62 : decode cX73_compare 62 = .ok (.getstatic 58, 3) := by decide +kernel
theorem dX73_compare_65 : decode cX73_compare 65 = .ok (.iload 4, 2) := by decide +kernel
theorem dX73_compare_67 : decode cX73_compare 67 = .ok (.laload, 1) := by decide +kernel
theorem dX73_compare_68 : decode cX73_compare 68 = .ok (.aload_n 0, 1) := by decide +kernel
theorem dX73_compare_69 : decode cX73_compare 69 = .ok (.getfield 9, 3) := by decide +kernel
theorem dX73_compare_72 : decode cX73_compare 72 = .ok (.aload_n 0, 1) := by decide +kernel
theorem dX73_compare_73 : decode cX73_compare 73 = .ok (.getfield 15, 3) := by decide +kernel
theorem dX73_compare_76 : decode cX73_compare 76 = .ok (.invokestatic 62, 3) := by decide +kernel
theorem dX73_compare_79 : decode cX73_compare 79 = .ok (.getstatic 58, 3) := by decide +kernel
theorem dX73_compare_82 : decode cX73_compare 82 = .ok (.iload 4, 2) := by decide +kernel
theorem dX73_compare_84 : decode cX73_compare 84 = .ok (.laload, 1) := by decide +kernel
theorem dX73_compare_85 : decode cX73_compare 85 = .ok (.aload_n 2, 1) := by decide +kernel
theorem dX73_compare_86 : decode cX73_compare 86 = .ok (.getfield 9, 3) := by decide +kernel
theorem dX73_compare_89 : decode cX73_compare 89 = .ok (.aload_n 2, 1) := by decide +kernel
theorem dX73_compare_90 : decode cX73_compare 90 = .ok (.getfield 15, 3) := by decide +kernel
theorem dX73_compare_93 : decode cX73_compare 93 = .ok (.invokestatic 62, 3) := by decide +kernel
theorem dX73_compare_96 : decode cX73_compare 96 = .ok (.invokestatic 67, 3) := by decide +kernel
theorem dX73_compare_99 : decode cX73_compare 99 = .ok (.iload_n 3, 1) := by decide +kernel
theorem dX73_compare_100 : decode cX73_compare 100 = .ok (.if_icmp .eq 5, 3) := by decide +kernel
theorem dX73_compare_103 : decode cX73_compare 103 = .ok (.iconst 2, 1) := by decide +kernel
theorem dX73_compare_104 : decode cX73_compare 104 = .ok (.ireturn, 1) := by decide +kernel
theorem dX73_compare_105 : decode cX73_compare 105 = .ok (.iinc 4 1, 3) := by decide +kernel
theorem dX73_compare_108 : decode cX73_compare 108 = .ok (.goto (-52), 3) := by decide +kernel
theorem dX73_compare_111 : decode cX73_compare 111 = .ok (.iload_n 3, 1) := by decide +kernel
theorem dX73_compare_112 : decode cX73_compare 112 = .ok (.ireturn, 1) := by decide +kernel
abbrev cX73_part : ByteArray := prog_15_method_2_code
def yX73_part : MethodName := ⟨RX73, "part", "(I)J"⟩
theorem dX73_part_0 : decode cX73_part 0 = .ok (.iload_n 1, 1) := by decide +kernel
theorem dX73_part_1 : decode cX73_part 1 = .ok (.ifCond .ne 10, 3) := by decide +kernel
theorem dX73_part_4 : decode cX73_part 4 = .ok (.aload_n 0, 1) := by decide +kernel
theorem dX73_part_5 : decode cX73_part 5 = .ok (.getfield 9, 3) := by decide +kernel
theorem dX73_part_8 : decode cX73_part 8 = .ok (.goto 16, 3) := by decide +kernel
theorem dX73_part_11 : decode cX73_part 11 = .ok (.iload_n 1, 1) := by decide +kernel
theorem dX73_part_12 : decode cX73_part 12 = .ok (.iconst 1, 1) := by decide +kernel
theorem dX73_part_13 : decode cX73_part 13 = .ok (.if_icmp .ne 10, 3) := by decide +kernel
theorem dX73_part_16 : decode cX73_part 16 = .ok (.aload_n 0, 1) := by decide +kernel
theorem dX73_part_17 : decode cX73_part 17 = .ok (.getfield 15, 3) := by decide +kernel
theorem dX73_part_20 : decode cX73_part 20 = .ok (.goto 4, 3) := by decide +kernel
theorem dX73_part_23 : decode cX73_part 23 = .ok (.lconst 0, 1) := by decide +kernel
theorem dX73_part_24 : decode cX73_part 24 = .ok (.lreturn, 1) := by decide +kernel
abbrev cX73_tell : ByteArray := prog_15_method_3_code
def yX73_tell : MethodName := ⟨RX73, "tell", "(LKnowHouse$DatatypeValues$Writer;)V"⟩
theorem dX73_tell_0 : decode cX73_tell 0 = .ok (.aload_n 0, 1) := by decide +kernel
theorem dX73_tell_1 : decode cX73_tell 1 = .ok (.getfield 9, 3) := by decide +kernel
theorem dX73_tell_4 : decode cX73_tell 4 = .ok (.lconst 0, 1) := by decide +kernel
theorem dX73_tell_5 : decode cX73_tell 5 = .ok (.lcmp, 1) := by decide +kernel
theorem dX73_tell_6 : decode cX73_tell 6 = .ok (.ifCond .ge 12, 3) := by decide +kernel
theorem dX73_tell_9 : decode cX73_tell 9 = .ok (.aload_n 0, 1) := by decide +kernel
theorem dX73_tell_10 : decode cX73_tell 10 = .ok (.getfield 15, 3) := by decide +kernel
theorem dX73_tell_13 : decode cX73_tell 13 = .ok (.lconst 0, 1) := by decide +kernel
theorem dX73_tell_14 : decode cX73_tell 14 = .ok (.lcmp, 1) := by decide +kernel
theorem dX73_tell_15 : decode cX73_tell 15 = .ok (.ifCond .gt 21, 3) := by decide +kernel
theorem dX73_tell_18 : decode cX73_tell 18 = .ok (.aload_n 0, 1) := by decide +kernel
theorem dX73_tell_19 : decode cX73_tell 19 = .ok (.getfield 9, 3) := by decide +kernel
theorem dX73_tell_22 : decode cX73_tell 22 = .ok (.lconst 0, 1) := by decide +kernel
theorem dX73_tell_23 : decode cX73_tell 23 = .ok (.lcmp, 1) := by decide +kernel
theorem dX73_tell_24 : decode cX73_tell 24 = .ok (.ifCond .le 93, 3) := by decide +kernel
theorem dX73_tell_27 : decode cX73_tell 27 = .ok (.aload_n 0, 1) := by decide +kernel
theorem dX73_tell_28 : decode cX73_tell 28 = .ok (.getfield 15, 3) := by decide +kernel
theorem dX73_tell_31 : decode cX73_tell 31 = .ok (.lconst 0, 1) := by decide +kernel
theorem dX73_tell_32 : decode cX73_tell 32 = .ok (.lcmp, 1) := by decide +kernel
theorem dX73_tell_33 : decode cX73_tell 33 = .ok (.ifCond .ge 84, 3) := by decide +kernel
theorem dX73_tell_36 : decode cX73_tell 36 = .ok (.aload_n 1, 1) := by decide +kernel
theorem dX73_tell_37 : decode cX73_tell 37 = .ok (.bipush 80, 2) := by decide +kernel
theorem dX73_tell_39 : decode cX73_tell 39 = .ok (.invokevirtual 18, 3) := by decide +kernel
theorem dX73_tell_42 : decode cX73_tell 42 = .ok (.aload_n 1, 1) := by decide +kernel
theorem dX73_tell_43 : decode cX73_tell 43 = .ok (.aload_n 0, 1) := by decide +kernel
theorem dX73_tell_44 : decode cX73_tell 44 = .ok (.getfield 9, 3) := by decide +kernel
theorem dX73_tell_47 : decode cX73_tell 47 = .ok (.iconst 1, 1) := by decide +kernel
theorem dX73_tell_48 : decode cX73_tell 48 = .ok (.invokevirtual 23, 3) := by decide +kernel
theorem dX73_tell_51 : decode cX73_tell 51 = .ok (.aload_n 1, 1) := by decide +kernel
theorem dX73_tell_52 : decode cX73_tell 52 = .ok (.ldc 27, 2) := by decide +kernel
theorem dX73_tell_54 : decode cX73_tell 54 = .ok (.invokevirtual 29, 3) := by decide +kernel
theorem dX73_tell_57 : decode cX73_tell 57 = .ok (.aload_n 0, 1) := by decide +kernel
theorem dX73_tell_58 : decode cX73_tell 58 = .ok (.getfield 15, 3) := by decide +kernel
theorem dX73_tell_61 : decode cX73_tell 61 = .ok (.lconst 0, 1) := by decide +kernel
theorem dX73_tell_62 : decode cX73_tell 62 = .ok (.lcmp, 1) := by decide +kernel
theorem dX73_tell_63 : decode cX73_tell 63 = .ok (.ifCond .ge 9, 3) := by decide +kernel
theorem dX73_tell_66 : decode cX73_tell 66 = .ok (.aload_n 1, 1) := by decide +kernel
theorem dX73_tell_67 : decode cX73_tell 67 = .ok (.bipush 45, 2) := by decide +kernel
theorem dX73_tell_69 : decode cX73_tell 69 = .ok (.invokevirtual 18, 3) := by decide +kernel
theorem dX73_tell_72 : decode cX73_tell 72 = .ok (.aload_n 1, 1) := by decide +kernel
theorem dX73_tell_73 : decode cX73_tell 73 = .ok (.aload_n 0, 1) := by decide +kernel
theorem dX73_tell_74 : decode cX73_tell 74 = .ok (.getfield 15, 3) := by decide +kernel
theorem dX73_tell_77 : decode cX73_tell 77 = .ok (.invokestatic 33, 3) := by decide +kernel
theorem dX73_tell_80 : decode cX73_tell 80 = .ok (.ldc2_w 39, 3) := by decide +kernel
theorem dX73_tell_83 : decode cX73_tell 83 = .ok (.ldiv, 1) := by decide +kernel
theorem dX73_tell_84 : decode cX73_tell 84 = .ok (.iconst 1, 1) := by decide +kernel
theorem dX73_tell_85 : decode cX73_tell 85 = .ok (.invokevirtual 23, 3) := by decide +kernel
theorem dX73_tell_88 : decode cX73_tell 88 = .ok (.aload_n 1, 1) := by decide +kernel
theorem dX73_tell_89 : decode cX73_tell 89 = .ok (.bipush 46, 2) := by decide +kernel
theorem dX73_tell_91 : decode cX73_tell 91 = .ok (.invokevirtual 18, 3) := by decide +kernel
theorem dX73_tell_94 : decode cX73_tell 94 = .ok (.aload_n 1, 1) := by decide +kernel
theorem dX73_tell_95 : decode cX73_tell 95 = .ok (.aload_n 0, 1) := by decide +kernel
theorem dX73_tell_96 : decode cX73_tell 96 = .ok (.getfield 15, 3) := by decide +kernel
theorem dX73_tell_99 : decode cX73_tell 99 = .ok (.invokestatic 33, 3) := by decide +kernel
theorem dX73_tell_102 : decode cX73_tell 102 = .ok (.ldc2_w 39, 3) := by decide +kernel
theorem dX73_tell_105 : decode cX73_tell 105 = .ok (.lrem, 1) := by decide +kernel
theorem dX73_tell_106 : decode cX73_tell 106 = .ok (.iconst 3, 1) := by decide +kernel
theorem dX73_tell_107 : decode cX73_tell 107 = .ok (.invokevirtual 23, 3) := by decide +kernel
theorem dX73_tell_110 : decode cX73_tell 110 = .ok (.aload_n 1, 1) := by decide +kernel
theorem dX73_tell_111 : decode cX73_tell 111 = .ok (.bipush 83, 2) := by decide +kernel
theorem dX73_tell_113 : decode cX73_tell 113 = .ok (.invokevirtual 18, 3) := by decide +kernel
theorem dX73_tell_116 : decode cX73_tell 116 = .ok (.return_, 1) := by decide +kernel
theorem dX73_tell_117 : decode cX73_tell 117 = .ok (.aload_n 0, 1) := by decide +kernel
theorem dX73_tell_118 : decode cX73_tell 118 = .ok (.getfield 9, 3) := by decide +kernel
theorem dX73_tell_121 : decode cX73_tell 121 = .ok (.lconst 0, 1) := by decide +kernel
theorem dX73_tell_122 : decode cX73_tell 122 = .ok (.lcmp, 1) := by decide +kernel
theorem dX73_tell_123 : decode cX73_tell 123 = .ok (.ifCond .lt 12, 3) := by decide +kernel
theorem dX73_tell_126 : decode cX73_tell 126 = .ok (.aload_n 0, 1) := by decide +kernel
theorem dX73_tell_127 : decode cX73_tell 127 = .ok (.getfield 15, 3) := by decide +kernel
theorem dX73_tell_130 : decode cX73_tell 130 = .ok (.lconst 0, 1) := by decide +kernel
theorem dX73_tell_131 : decode cX73_tell 131 = .ok (.lcmp, 1) := by decide +kernel
theorem dX73_tell_132 : decode cX73_tell 132 = .ok (.ifCond .ge 9, 3) := by decide +kernel
theorem dX73_tell_135 : decode cX73_tell 135 = .ok (.aload_n 1, 1) := by decide +kernel
theorem dX73_tell_136 : decode cX73_tell 136 = .ok (.bipush 45, 2) := by decide +kernel
theorem dX73_tell_138 : decode cX73_tell 138 = .ok (.invokevirtual 18, 3) := by decide +kernel
theorem dX73_tell_141 : decode cX73_tell 141 = .ok (.aload_n 1, 1) := by decide +kernel
theorem dX73_tell_142 : decode cX73_tell 142 = .ok (.bipush 80, 2) := by decide +kernel
theorem dX73_tell_144 : decode cX73_tell 144 = .ok (.invokevirtual 18, 3) := by decide +kernel
theorem dX73_tell_147 : decode cX73_tell 147 = .ok (.aload_n 0, 1) := by decide +kernel
theorem dX73_tell_148 : decode cX73_tell 148 = .ok (.getfield 9, 3) := by decide +kernel
theorem dX73_tell_151 : decode cX73_tell 151 = .ok (.invokestatic 33, 3) := by decide +kernel
theorem dX73_tell_154 : decode cX73_tell 154 = .ok (.lstore_n 2, 1) := by decide +kernel
theorem dX73_tell_155 : decode cX73_tell 155 = .ok (.aload_n 0, 1) := by decide +kernel
theorem dX73_tell_156 : decode cX73_tell 156 = .ok (.getfield 15, 3) := by decide +kernel
theorem dX73_tell_159 : decode cX73_tell 159 = .ok (.invokestatic 33, 3) := by decide +kernel
theorem dX73_tell_162 : decode cX73_tell 162 = .ok (.lstore 4, 2) := by decide +kernel
theorem dX73_tell_164 : decode cX73_tell 164 = .ok (.aload_n 1, 1) := by decide +kernel
theorem dX73_tell_165 : decode cX73_tell 165 = .ok (.lload_n 2, 1) := by decide +kernel
theorem dX73_tell_166 : decode cX73_tell 166 = .ok (.ldc2_w 41, 3) := by decide +kernel
theorem dX73_tell_169 : decode cX73_tell 169 = .ok (.ldiv, 1) := by decide +kernel
theorem dX73_tell_170 : decode cX73_tell 170 = .ok (.bipush 89, 2) := by decide +kernel
theorem dX73_tell_172 : decode cX73_tell 172 = .ok (.invokevirtual 43, 3) := by decide +kernel
theorem dX73_tell_175 : decode cX73_tell 175 = .ok (.aload_n 1, 1) := by decide +kernel
theorem dX73_tell_176 : decode cX73_tell 176 = .ok (.lload_n 2, 1) := by decide +kernel
theorem dX73_tell_177 : decode cX73_tell 177 = .ok (.ldc2_w 41, 3) := by decide +kernel
theorem dX73_tell_180 : decode cX73_tell 180 = .ok (.lrem, 1) := by decide +kernel
theorem dX73_tell_181 : decode cX73_tell 181 = .ok (.bipush 77, 2) := by decide +kernel
theorem dX73_tell_183 : decode cX73_tell 183 = .ok (.invokevirtual 43, 3) := by decide +kernel
theorem dX73_tell_186 : decode cX73_tell 186 = .ok (.aload_n 1, 1) := by decide +kernel
theorem dX73_tell_187 : decode cX73_tell 187 = .ok (.lload 4, 2) := by decide +kernel
theorem dX73_tell_189 : decode cX73_tell 189 = .ok (.ldc2_w 46, 3) := by decide +kernel
theorem dX73_tell_192 : decode cX73_tell 192 = .ok (.ldiv, 1) := by decide +kernel
theorem dX73_tell_193 : decode cX73_tell 193 = .ok (.bipush 68, 2) := by decide +kernel
theorem dX73_tell_195 : decode cX73_tell 195 = .ok (.invokevirtual 43, 3) := by decide +kernel
theorem dX73_tell_198 : decode cX73_tell 198 = .ok (.lload 4, 2) := by decide +kernel
theorem dX73_tell_200 : decode cX73_tell 200 = .ok (.ldc2_w 46, 3) := by decide +kernel
theorem dX73_tell_203 : decode cX73_tell 203 = .ok (.lrem, 1) := by decide +kernel
theorem dX73_tell_204 : decode cX73_tell 204 = .ok (.lstore 4, 2) := by decide +kernel
theorem dX73_tell_206 : decode cX73_tell 206 = .ok (.lload 4, 2) := by decide +kernel
theorem dX73_tell_208 : decode cX73_tell 208 = .ok (.lconst 0, 1) := by decide +kernel
theorem dX73_tell_209 : decode cX73_tell 209 = .ok (.lcmp, 1) := by decide +kernel
theorem dX73_tell_210 : decode cX73_tell 210 = .ok (.ifCond .gt 18, 3) := by decide +kernel
theorem dX73_tell_213 : decode cX73_tell 213 = .ok (.lload_n 2, 1) := by decide +kernel
theorem dX73_tell_214 : decode cX73_tell 214 = .ok (.lconst 0, 1) := by decide +kernel
theorem dX73_tell_215 : decode cX73_tell 215 = .ok (.lcmp, 1) := by decide +kernel
theorem dX73_tell_216 : decode cX73_tell 216 = .ok (.ifCond .ne 18, 3) := by decide +kernel
theorem dX73_tell_219 : decode cX73_tell 219 = .ok (.aload_n 0, 1) := by decide +kernel
theorem dX73_tell_220 : decode cX73_tell 220 = .ok (.getfield 15, 3) := by decide +kernel
theorem dX73_tell_223 : decode cX73_tell 223 = .ok (.lconst 0, 1) := by decide +kernel
theorem dX73_tell_224 : decode cX73_tell 224 = .ok (.lcmp, 1) := by decide +kernel
theorem dX73_tell_225 : decode cX73_tell 225 = .ok (.ifCond .ne 9, 3) := by decide +kernel
theorem dX73_tell_228 : decode cX73_tell 228 = .ok (.aload_n 1, 1) := by decide +kernel
theorem dX73_tell_229 : decode cX73_tell 229 = .ok (.bipush 84, 2) := by decide +kernel
theorem dX73_tell_231 : decode cX73_tell 231 = .ok (.invokevirtual 18, 3) := by decide +kernel
theorem dX73_tell_234 : decode cX73_tell 234 = .ok (.aload_n 1, 1) := by decide +kernel
theorem dX73_tell_235 : decode cX73_tell 235 = .ok (.lload 4, 2) := by decide +kernel
theorem dX73_tell_237 : decode cX73_tell 237 = .ok (.ldc2_w 48, 3) := by decide +kernel
theorem dX73_tell_240 : decode cX73_tell 240 = .ok (.ldiv, 1) := by decide +kernel
theorem dX73_tell_241 : decode cX73_tell 241 = .ok (.bipush 72, 2) := by decide +kernel
theorem dX73_tell_243 : decode cX73_tell 243 = .ok (.invokevirtual 43, 3) := by decide +kernel
theorem dX73_tell_246 : decode cX73_tell 246 = .ok (.aload_n 1, 1) := by decide +kernel
theorem dX73_tell_247 : decode cX73_tell 247 = .ok (.lload 4, 2) := by decide +kernel
theorem dX73_tell_249 : decode cX73_tell 249 = .ok (.ldc2_w 50, 3) := by decide +kernel
theorem dX73_tell_252 : decode cX73_tell 252 = .ok (.ldiv, 1) := by decide +kernel
theorem dX73_tell_253 : decode cX73_tell 253 = .ok (.ldc2_w 52, 3) := by decide +kernel
theorem dX73_tell_256 : decode cX73_tell 256 = .ok (.lrem, 1) := by decide +kernel
theorem dX73_tell_257 : decode cX73_tell 257 = .ok (.bipush 77, 2) := by decide +kernel
theorem dX73_tell_259 : decode cX73_tell 259 = .ok (.invokevirtual 43, 3) := by decide +kernel
theorem dX73_tell_262 : decode cX73_tell 262 = .ok (.lload 4, 2) := by decide +kernel
theorem dX73_tell_264 : decode cX73_tell 264 = .ok (.ldc2_w 50, 3) := by decide +kernel
theorem dX73_tell_267 : decode cX73_tell 267 = .ok (.lrem, 1) := by decide +kernel
theorem dX73_tell_268 : decode cX73_tell 268 = .ok (.lstore 4, 2) := by decide +kernel
theorem dX73_tell_270 : decode cX73_tell 270 = .ok (.lload 4, 2) := by decide +kernel
theorem dX73_tell_272 : decode cX73_tell 272 = .ok (.lconst 0, 1) := by decide +kernel
theorem dX73_tell_273 : decode cX73_tell 273 = .ok (.lcmp, 1) := by decide +kernel
theorem dX73_tell_274 : decode cX73_tell 274 = .ok (.ifCond .ne 19, 3) := by decide +kernel
theorem dX73_tell_277 : decode cX73_tell 277 = .ok (.lload_n 2, 1) := by decide +kernel
theorem dX73_tell_278 : decode cX73_tell 278 = .ok (.lconst 0, 1) := by decide +kernel
theorem dX73_tell_279 : decode cX73_tell 279 = .ok (.lcmp, 1) := by decide +kernel
theorem dX73_tell_280 : decode cX73_tell 280 = .ok (.ifCond .ne 12, 3) := by decide +kernel
theorem dX73_tell_283 : decode cX73_tell 283 = .ok (.aload_n 0, 1) := by decide +kernel
theorem dX73_tell_284 : decode cX73_tell 284 = .ok (.getfield 15, 3) := by decide +kernel
theorem dX73_tell_287 : decode cX73_tell 287 = .ok (.lconst 0, 1) := by decide +kernel
theorem dX73_tell_288 : decode cX73_tell 288 = .ok (.lcmp, 1) := by decide +kernel
theorem dX73_tell_289 : decode cX73_tell 289 = .ok (.ifCond .eq 4, 3) := by decide +kernel
theorem dX73_tell_292 : decode cX73_tell 292 = .ok (.return_, 1) := by decide +kernel
theorem dX73_tell_293 : decode cX73_tell 293 = .ok (.aload_n 1, 1) := by decide +kernel
theorem dX73_tell_294 : decode cX73_tell 294 = .ok (.lload 4, 2) := by decide +kernel
theorem dX73_tell_296 : decode cX73_tell 296 = .ok (.ldc2_w 39, 3) := by decide +kernel
theorem dX73_tell_299 : decode cX73_tell 299 = .ok (.ldiv, 1) := by decide +kernel
theorem dX73_tell_300 : decode cX73_tell 300 = .ok (.iconst 1, 1) := by decide +kernel
theorem dX73_tell_301 : decode cX73_tell 301 = .ok (.invokevirtual 23, 3) := by decide +kernel
theorem dX73_tell_304 : decode cX73_tell 304 = .ok (.aload_n 1, 1) := by decide +kernel
theorem dX73_tell_305 : decode cX73_tell 305 = .ok (.lload 4, 2) := by decide +kernel
theorem dX73_tell_307 : decode cX73_tell 307 = .ok (.ldc2_w 39, 3) := by decide +kernel
theorem dX73_tell_310 : decode cX73_tell 310 = .ok (.lrem, 1) := by decide +kernel
theorem dX73_tell_311 : decode cX73_tell 311 = .ok (.invokevirtual 54, 3) := by decide +kernel
theorem dX73_tell_314 : decode cX73_tell 314 = .ok (.aload_n 1, 1) := by decide +kernel
theorem dX73_tell_315 : decode cX73_tell 315 = .ok (.bipush 83, 2) := by decide +kernel
theorem dX73_tell_317 : decode cX73_tell 317 = .ok (.invokevirtual 18, 3) := by decide +kernel
theorem dX73_tell_320 : decode cX73_tell 320 = .ok (.return_, 1) := by decide +kernel
theorem in_X73 : ∀ w ∈ wsX730, w ∈ lw_all := lw_in wsX730 [4236, 4232, 4234] (by decide +kernel) (by decide +kernel)
def RX74 : String := "KnowHouse$DatatypeValues$Row"
def TX74 : u_T := fun k => match k with
  | 0 => ("KnowHouse$DatatypeValues$Value", "kind", "I", true)
  | _ => ("KnowHouse$DatatypeValues$Row", "bytes", "[B", true)
def tyX74 : Nat → FieldType := fun k => match k with
  | 0 => .int
  | _ => .array .byte
abbrev wsX740 : List Cond := u_ws RX74 TX74 2
theorem nmX74 : ∀ a, a < 2 → ∀ b, b < 2 → a ≠ b → (TX74 a).2.1 ≠ (TX74 b).2.1 := by decide +kernel
theorem tyX74_ok : ∀ k, k < 2 → parseFieldDescriptor (TX74 k).2.2.1 = some (tyX74 k) := by decide +kernel
abbrev cX74_init : ByteArray := prog_14_method_1_code
def yX74_init : MethodName := ⟨RX74, "<init>", "(I[B)V"⟩
theorem dX74_init_0 : decode cX74_init 0 = .ok (.aload_n 0, 1) := by decide +kernel
theorem dX74_init_1 : decode cX74_init 1 = .ok (.iload_n 1, 1) := by decide +kernel
theorem dX74_init_2 : decode cX74_init 2 = .ok (.invokespecial 3, 3) := by decide +kernel
theorem dX74_init_5 : decode cX74_init 5 = .ok (.aload_n 0, 1) := by decide +kernel
theorem dX74_init_6 : decode cX74_init 6 = .ok (.aload_n 2, 1) := by decide +kernel
theorem dX74_init_7 : decode cX74_init 7 = .ok (.putfield 9, 3) := by decide +kernel
theorem dX74_init_10 : decode cX74_init 10 = .ok (.return_, 1) := by decide +kernel
abbrev cX74_compare : ByteArray := prog_14_method_5_code
def yX74_compare : MethodName := ⟨RX74, "compare", "(LKnowHouse$DatatypeValues$Value;)I"⟩
theorem dX74_compare_0 : decode cX74_compare 0 = .ok (.aload_n 1, 1) := by decide +kernel
theorem dX74_compare_1 : decode cX74_compare 1 = .ok (.instanceof 10, 3) := by decide +kernel
theorem dX74_compare_4 : decode cX74_compare 4 = .ok (.ifCond .eq 11, 3) := by decide +kernel
theorem dX74_compare_7 : decode cX74_compare 7 = .ok (.aload_n 1, 1) := by decide +kernel
theorem dX74_compare_8 : decode cX74_compare 8 = .ok (.checkcast 10, 3) := by decide +kernel
theorem dX74_compare_11 : decode cX74_compare 11 = .ok (.astore_n 2, 1) := by decide +kernel
theorem dX74_compare_12 : decode cX74_compare 12 = .ok (.goto 5, 3) := by decide +kernel
theorem dX74_compare_15 : decode cX74_compare 15 = .ok (.iconst 2, 1) := by decide +kernel
theorem dX74_compare_16 : decode cX74_compare 16 = .ok (.ireturn, 1) := by decide +kernel
theorem dX74_compare_17 : decode cX74_compare 17 = .ok (.iconst 0, 1) := by decide +kernel
theorem dX74_compare_18 : decode cX74_compare 18 = .ok (.istore_n 3, 1) := by decide +kernel
theorem dX74_compare_19 : decode cX74_compare 19 = .ok (.iload_n 3, 1) := by decide +kernel
theorem dX74_compare_20 : decode cX74_compare 20 = .ok (.aload_n 0, 1) := by decide +kernel
theorem dX74_compare_21 : decode cX74_compare 21 = .ok (.getfield 9, 3) := by decide +kernel
theorem dX74_compare_24 : decode cX74_compare 24 = .ok (.arraylength, 1) := by decide +kernel
theorem dX74_compare_25 : decode cX74_compare 25 = .ok (.if_icmp .ge 33, 3) := by decide +kernel
theorem dX74_compare_28 : decode cX74_compare 28 = .ok (.iload_n 3, 1) := by decide +kernel
theorem dX74_compare_29 : decode cX74_compare 29 = .ok (.aload_n 2, 1) := by decide +kernel
theorem dX74_compare_30 : decode cX74_compare 30 = .ok (.getfield 9, 3) := by decide +kernel
theorem dX74_compare_33 : decode cX74_compare 33 = .ok (.arraylength, 1) := by decide +kernel
theorem dX74_compare_34 : decode cX74_compare 34 = .ok (.if_icmp .ge 24, 3) := by decide +kernel
theorem dX74_compare_37 : decode cX74_compare 37 = .ok (.aload_n 0, 1) := by decide +kernel
theorem dX74_compare_38 : decode cX74_compare 38 = .ok (.getfield 9, 3) := by decide +kernel
theorem dX74_compare_41 : decode cX74_compare 41 = .ok (.iload_n 3, 1) := by decide +kernel
theorem dX74_compare_42 : decode cX74_compare 42 = .ok (.baload, 1) := by decide +kernel
theorem dX74_compare_43 : decode cX74_compare 43 = .ok (.aload_n 2, 1) := by decide +kernel
theorem dX74_compare_44 : decode cX74_compare 44 = .ok (.getfield 9, 3) := by decide +kernel
theorem dX74_compare_47 : decode cX74_compare 47 = .ok (.iload_n 3, 1) := by decide +kernel
theorem dX74_compare_48 : decode cX74_compare 48 = .ok (.baload, 1) := by decide +kernel
theorem dX74_compare_49 : decode cX74_compare 49 = .ok (.if_icmp .ne 9, 3) := by decide +kernel
theorem dX74_compare_52 : decode cX74_compare 52 = .ok (.iinc 3 1, 3) := by decide +kernel
theorem dX74_compare_55 : decode cX74_compare 55 = .ok (.goto (-36), 3) := by decide +kernel
theorem dX74_compare_58 : decode cX74_compare 58 = .ok (.iload_n 3, 1) := by decide +kernel
theorem dX74_compare_59 : decode cX74_compare 59 = .ok (.aload_n 0, 1) := by decide +kernel
theorem dX74_compare_60 : decode cX74_compare 60 = .ok (.getfield 9, 3) := by decide +kernel
theorem dX74_compare_63 : decode cX74_compare 63 = .ok (.arraylength, 1) := by decide +kernel
theorem dX74_compare_64 : decode cX74_compare 64 = .ok (.if_icmp .eq 12, 3) := by decide +kernel
theorem dX74_compare_67 : decode cX74_compare 67 = .ok (.iload_n 3, 1) := by decide +kernel
theorem dX74_compare_68 : decode cX74_compare 68 = .ok (.aload_n 2, 1) := by decide +kernel
theorem dX74_compare_69 : decode cX74_compare 69 = .ok (.getfield 9, 3) := by decide +kernel
theorem dX74_compare_72 : decode cX74_compare 72 = .ok (.arraylength, 1) := by decide +kernel
theorem dX74_compare_73 : decode cX74_compare 73 = .ok (.if_icmp .ne 17, 3) := by decide +kernel
theorem dX74_compare_76 : decode cX74_compare 76 = .ok (.aload_n 0, 1) := by decide +kernel
theorem dX74_compare_77 : decode cX74_compare 77 = .ok (.getfield 9, 3) := by decide +kernel
theorem dX74_compare_80 : decode cX74_compare 80 = .ok (.arraylength, 1) := by decide +kernel
theorem dX74_compare_81 : decode cX74_compare 81 = .ok (.aload_n 2, 1) := by decide +kernel
theorem dX74_compare_82 : decode cX74_compare 82 = .ok (.getfield 9, 3) := by decide +kernel
theorem dX74_compare_85 : decode cX74_compare 85 = .ok (.arraylength, 1) := by decide +kernel
theorem dX74_compare_86 : decode cX74_compare 86 = .ok (.invokestatic 40, 3) := by decide +kernel
theorem dX74_compare_89 : decode cX74_compare 89 = .ok (.ireturn, 1) := by decide +kernel
theorem dX74_compare_90 : decode cX74_compare 90 = .ok (.aload_n 0, 1) := by decide +kernel
theorem dX74_compare_91 : decode cX74_compare 91 = .ok (.getfield 9, 3) := by decide +kernel
theorem dX74_compare_94 : decode cX74_compare 94 = .ok (.iload_n 3, 1) := by decide +kernel
theorem dX74_compare_95 : decode cX74_compare 95 = .ok (.baload, 1) := by decide +kernel
theorem dX74_compare_96 : decode cX74_compare 96 = .ok (.sipush 255, 3) := by decide +kernel
theorem dX74_compare_99 : decode cX74_compare 99 = .ok (.iand, 1) := by decide +kernel
theorem dX74_compare_100 : decode cX74_compare 100 = .ok (.aload_n 2, 1) := by decide +kernel
theorem dX74_compare_101 : decode cX74_compare 101 = .ok (.getfield 9, 3) := by decide +kernel
theorem dX74_compare_104 : decode cX74_compare 104 = .ok (.iload_n 3, 1) := by decide +kernel
theorem dX74_compare_105 : decode cX74_compare 105 = .ok (.baload, 1) := by decide +kernel
theorem dX74_compare_106 : decode cX74_compare 106 = .ok (.sipush 255, 3) := by decide +kernel
theorem dX74_compare_109 : decode cX74_compare 109 = .ok (.iand, 1) := by decide +kernel
theorem dX74_compare_110 : decode cX74_compare 110 = .ok (.invokestatic 40, 3) := by decide +kernel
theorem dX74_compare_113 : decode cX74_compare 113 = .ok (.ifCond .ge 7, 3) := by decide +kernel
theorem dX74_compare_116 : decode cX74_compare 116 = .ok (.iconst (-1), 1) := by decide +kernel
theorem dX74_compare_117 : decode cX74_compare 117 = .ok (.goto 4, 3) := by decide +kernel
theorem dX74_compare_120 : decode cX74_compare 120 = .ok (.iconst 1, 1) := by decide +kernel
theorem dX74_compare_121 : decode cX74_compare 121 = .ok (.ireturn, 1) := by decide +kernel
abbrev cX74_part : ByteArray := prog_14_method_2_code
def yX74_part : MethodName := ⟨RX74, "part", "(I)J"⟩
theorem dX74_part_0 : decode cX74_part 0 = .ok (.iload_n 1, 1) := by decide +kernel
theorem dX74_part_1 : decode cX74_part 1 = .ok (.ifCond .ne 12, 3) := by decide +kernel
theorem dX74_part_4 : decode cX74_part 4 = .ok (.aload_n 0, 1) := by decide +kernel
theorem dX74_part_5 : decode cX74_part 5 = .ok (.getfield 9, 3) := by decide +kernel
theorem dX74_part_8 : decode cX74_part 8 = .ok (.arraylength, 1) := by decide +kernel
theorem dX74_part_9 : decode cX74_part 9 = .ok (.i2l, 1) := by decide +kernel
theorem dX74_part_10 : decode cX74_part 10 = .ok (.goto 4, 3) := by decide +kernel
theorem dX74_part_13 : decode cX74_part 13 = .ok (.lconst 0, 1) := by decide +kernel
theorem dX74_part_14 : decode cX74_part 14 = .ok (.lreturn, 1) := by decide +kernel
abbrev cX74_tell : ByteArray := prog_14_method_3_code
def yX74_tell : MethodName := ⟨RX74, "tell", "(LKnowHouse$DatatypeValues$Writer;)V"⟩
theorem dX74_tell_0 : decode cX74_tell 0 = .ok (.iconst 0, 1) := by decide +kernel
theorem dX74_tell_1 : decode cX74_tell 1 = .ok (.istore_n 2, 1) := by decide +kernel
theorem dX74_tell_2 : decode cX74_tell 2 = .ok (.iload_n 2, 1) := by decide +kernel
theorem dX74_tell_3 : decode cX74_tell 3 = .ok (.aload_n 0, 1) := by decide +kernel
theorem dX74_tell_4 : decode cX74_tell 4 = .ok (.getfield 9, 3) := by decide +kernel
theorem dX74_tell_7 : decode cX74_tell 7 = .ok (.arraylength, 1) := by decide +kernel
theorem dX74_tell_8 : decode cX74_tell 8 = .ok (.if_icmp .ge 56, 3) := by decide +kernel
theorem dX74_tell_11 : decode cX74_tell 11 = .ok (.aload_n 0, 1) := by decide +kernel
theorem dX74_tell_12 : decode cX74_tell 12 = .ok (.getfield 15, 3) := by decide +kernel
theorem dX74_tell_15 : decode cX74_tell 15 = .ok (.bipush 7, 2) := by decide +kernel
theorem dX74_tell_17 : decode cX74_tell 17 = .ok (.if_icmp .ne 47, 3) := by decide +kernel
theorem dX74_tell_20 : decode cX74_tell 20 = .ok (.aload_n 1, 1) := by decide +kernel
theorem dX74_tell_21 : decode cX74_tell 21 = .ok (.ldc 19, 2) := by decide +kernel
theorem dX74_tell_23 : decode cX74_tell 23 = .ok (.aload_n 0, 1) := by decide +kernel
theorem dX74_tell_24 : decode cX74_tell 24 = .ok (.getfield 9, 3) := by decide +kernel
theorem dX74_tell_27 : decode cX74_tell 27 = .ok (.iload_n 2, 1) := by decide +kernel
theorem dX74_tell_28 : decode cX74_tell 28 = .ok (.baload, 1) := by decide +kernel
theorem dX74_tell_29 : decode cX74_tell 29 = .ok (.iconst 4, 1) := by decide +kernel
theorem dX74_tell_30 : decode cX74_tell 30 = .ok (.ishr, 1) := by decide +kernel
theorem dX74_tell_31 : decode cX74_tell 31 = .ok (.bipush 15, 2) := by decide +kernel
theorem dX74_tell_33 : decode cX74_tell 33 = .ok (.iand, 1) := by decide +kernel
theorem dX74_tell_34 : decode cX74_tell 34 = .ok (.invokevirtual 21, 3) := by decide +kernel
theorem dX74_tell_37 : decode cX74_tell 37 = .ok (.invokevirtual 27, 3) := by decide +kernel
theorem dX74_tell_40 : decode cX74_tell 40 = .ok (.aload_n 1, 1) := by decide +kernel
theorem dX74_tell_41 : decode cX74_tell 41 = .ok (.ldc 19, 2) := by decide +kernel
theorem dX74_tell_43 : decode cX74_tell 43 = .ok (.aload_n 0, 1) := by decide +kernel
theorem dX74_tell_44 : decode cX74_tell 44 = .ok (.getfield 9, 3) := by decide +kernel
theorem dX74_tell_47 : decode cX74_tell 47 = .ok (.iload_n 2, 1) := by decide +kernel
theorem dX74_tell_48 : decode cX74_tell 48 = .ok (.baload, 1) := by decide +kernel
theorem dX74_tell_49 : decode cX74_tell 49 = .ok (.bipush 15, 2) := by decide +kernel
theorem dX74_tell_51 : decode cX74_tell 51 = .ok (.iand, 1) := by decide +kernel
theorem dX74_tell_52 : decode cX74_tell 52 = .ok (.invokevirtual 21, 3) := by decide +kernel
theorem dX74_tell_55 : decode cX74_tell 55 = .ok (.invokevirtual 27, 3) := by decide +kernel
theorem dX74_tell_58 : decode cX74_tell 58 = .ok (.iinc 2 1, 3) := by decide +kernel
theorem dX74_tell_61 : decode cX74_tell 61 = .ok (.goto (-59), 3) := by decide +kernel
theorem dX74_tell_64 : decode cX74_tell 64 = .ok (.iconst 0, 1) := by decide +kernel
theorem dX74_tell_65 : decode cX74_tell 65 = .ok (.istore_n 2, 1) := by decide +kernel
theorem dX74_tell_66 : decode cX74_tell 66 = .ok (.iload_n 2, 1) := by decide +kernel
theorem dX74_tell_67 : decode cX74_tell 67 = .ok (.aload_n 0, 1) := by decide +kernel
theorem dX74_tell_68 : decode cX74_tell 68 = .ok (.getfield 9, 3) := by decide +kernel
theorem dX74_tell_71 : decode cX74_tell 71 = .ok (.arraylength, 1) := by decide +kernel
theorem dX74_tell_72 : decode cX74_tell 72 = .ok (.if_icmp .ge 24, 3) := by decide +kernel
theorem dX74_tell_75 : decode cX74_tell 75 = .ok (.aload_n 0, 1) := by decide +kernel
theorem dX74_tell_76 : decode cX74_tell 76 = .ok (.getfield 15, 3) := by decide +kernel
theorem dX74_tell_79 : decode cX74_tell 79 = .ok (.bipush 8, 2) := by decide +kernel
theorem dX74_tell_81 : decode cX74_tell 81 = .ok (.if_icmp .ne 15, 3) := by decide +kernel
theorem dX74_tell_84 : decode cX74_tell 84 = .ok (.aload_n 0, 1) := by decide +kernel
theorem dX74_tell_85 : decode cX74_tell 85 = .ok (.aload_n 1, 1) := by decide +kernel
theorem dX74_tell_86 : decode cX74_tell 86 = .ok (.iload_n 2, 1) := by decide +kernel
theorem dX74_tell_87 : decode cX74_tell 87 = .ok (.invokevirtual 32, 3) := by decide +kernel
theorem dX74_tell_90 : decode cX74_tell 90 = .ok (.iinc 2 3, 3) := by decide +kernel
theorem dX74_tell_93 : decode cX74_tell 93 = .ok (.goto (-27), 3) := by decide +kernel
theorem dX74_tell_96 : decode cX74_tell 96 = .ok (.return_, 1) := by decide +kernel
abbrev cX74_group : ByteArray := prog_14_method_4_code
def yX74_group : MethodName := ⟨RX74, "group", "(LKnowHouse$DatatypeValues$Writer;I)V"⟩
theorem dX74_group_0 : decode cX74_group 0 = .ok (.iconst 0, 1) := by decide +kernel
theorem dX74_group_1 : decode cX74_group 1 = .ok (.istore_n 3, 1) := by decide +kernel
theorem dX74_group_2 : decode cX74_group 2 = .ok (.iconst 0, 1) := by decide +kernel
theorem dX74_group_3 : decode cX74_group 3 = .ok (.istore 4, 2) := by decide +kernel
theorem dX74_group_5 : decode cX74_group 5 = .ok (.iload 4, 2) := by decide +kernel
theorem dX74_group_7 : decode cX74_group 7 = .ok (.iconst 3, 1) := by decide +kernel
theorem dX74_group_8 : decode cX74_group 8 = .ok (.if_icmp .ge 44, 3) := by decide +kernel
theorem dX74_group_11 : decode cX74_group 11 = .ok (.iload_n 3, 1) := by decide +kernel
theorem dX74_group_12 : decode cX74_group 12 = .ok (.bipush 8, 2) := by decide +kernel
theorem dX74_group_14 : decode cX74_group 14 = .ok (.ishl, 1) := by decide +kernel
theorem dX74_group_15 : decode cX74_group 15 = .ok (.iload_n 2, 1) := by decide +kernel
theorem dX74_group_16 : decode cX74_group 16 = .ok (.iload 4, 2) := by decide +kernel
theorem dX74_group_18 : decode cX74_group 18 = .ok (.iadd, 1) := by decide +kernel
theorem dX74_group_19 : decode cX74_group 19 = .ok (.aload_n 0, 1) := by decide +kernel
theorem dX74_group_20 : decode cX74_group 20 = .ok (.getfield 9, 3) := by decide +kernel
theorem dX74_group_23 : decode cX74_group 23 = .ok (.arraylength, 1) := by decide +kernel
theorem dX74_group_24 : decode cX74_group 24 = .ok (.if_icmp .ge 19, 3) := by decide +kernel
theorem dX74_group_27 : decode cX74_group 27 = .ok (.aload_n 0, 1) := by decide +kernel
theorem dX74_group_28 : decode cX74_group 28 = .ok (.getfield 9, 3) := by decide +kernel
theorem dX74_group_31 : decode cX74_group 31 = .ok (.iload_n 2, 1) := by decide +kernel
theorem dX74_group_32 : decode cX74_group 32 = .ok (.iload 4, 2) := by decide +kernel
theorem dX74_group_34 : decode cX74_group 34 = .ok (.iadd, 1) := by decide +kernel
theorem dX74_group_35 : decode cX74_group 35 = .ok (.baload, 1) := by decide +kernel
theorem dX74_group_36 : decode cX74_group 36 = .ok (.sipush 255, 3) := by decide +kernel
theorem dX74_group_39 : decode cX74_group 39 = .ok (.iand, 1) := by decide +kernel
theorem dX74_group_40 : decode cX74_group 40 = .ok (.goto 4, 3) := by decide +kernel
theorem dX74_group_43 : decode cX74_group 43 = .ok (.iconst 0, 1) := by decide +kernel
theorem dX74_group_44 : decode cX74_group 44 = .ok (.ior, 1) := by decide +kernel
theorem dX74_group_45 : decode cX74_group 45 = .ok (.istore_n 3, 1) := by decide +kernel
theorem dX74_group_46 : decode cX74_group 46 = .ok (.iinc 4 1, 3) := by decide +kernel
theorem dX74_group_49 : decode cX74_group 49 = .ok (.goto (-44), 3) := by decide +kernel
theorem dX74_group_52 : decode cX74_group 52 = .ok (.iconst 0, 1) := by decide +kernel
theorem dX74_group_53 : decode cX74_group 53 = .ok (.istore 4, 2) := by decide +kernel
theorem dX74_group_55 : decode cX74_group 55 = .ok (.iload 4, 2) := by decide +kernel
theorem dX74_group_57 : decode cX74_group 57 = .ok (.iconst 4, 1) := by decide +kernel
theorem dX74_group_58 : decode cX74_group 58 = .ok (.if_icmp .ge 48, 3) := by decide +kernel
theorem dX74_group_61 : decode cX74_group 61 = .ok (.aload_n 1, 1) := by decide +kernel
theorem dX74_group_62 : decode cX74_group 62 = .ok (.iload 4, 2) := by decide +kernel
theorem dX74_group_64 : decode cX74_group 64 = .ok (.aload_n 0, 1) := by decide +kernel
theorem dX74_group_65 : decode cX74_group 65 = .ok (.getfield 9, 3) := by decide +kernel
theorem dX74_group_68 : decode cX74_group 68 = .ok (.arraylength, 1) := by decide +kernel
theorem dX74_group_69 : decode cX74_group 69 = .ok (.iload_n 2, 1) := by decide +kernel
theorem dX74_group_70 : decode cX74_group 70 = .ok (.isub, 1) := by decide +kernel
theorem dX74_group_71 : decode cX74_group 71 = .ok (.if_icmp .le 8, 3) := by decide +kernel
theorem dX74_group_74 : decode cX74_group 74 = .ok (.bipush 61, 2) := by decide +kernel
theorem dX74_group_76 : decode cX74_group 76 = .ok (.goto 21, 3) := by decide +kernel
theorem dX74_group_79 : decode cX74_group 79 = .ok (.ldc 38, 2) := by decide +kernel
theorem dX74_group_81 : decode cX74_group 81 = .ok (.iload_n 3, 1) := by decide +kernel
theorem dX74_group_82 : decode cX74_group 82 = .ok (.bipush 18, 2) := by decide +kernel
theorem dX74_group_84 : decode cX74_group 84 = .ok (.bipush 6, 2) := by decide +kernel
theorem dX74_group_86 : decode cX74_group 86 = .ok (.iload 4, 2) := by decide +kernel
theorem dX74_group_88 : decode cX74_group 88 = .ok (.imul, 1) := by decide +kernel
theorem dX74_group_89 : decode cX74_group 89 = .ok (.isub, 1) := by decide +kernel
theorem dX74_group_90 : decode cX74_group 90 = .ok (.ishr, 1) := by decide +kernel
theorem dX74_group_91 : decode cX74_group 91 = .ok (.bipush 63, 2) := by decide +kernel
theorem dX74_group_93 : decode cX74_group 93 = .ok (.iand, 1) := by decide +kernel
theorem dX74_group_94 : decode cX74_group 94 = .ok (.invokevirtual 21, 3) := by decide +kernel
theorem dX74_group_97 : decode cX74_group 97 = .ok (.invokevirtual 27, 3) := by decide +kernel
theorem dX74_group_100 : decode cX74_group 100 = .ok (.iinc 4 1, 3) := by decide +kernel
theorem dX74_group_103 : decode cX74_group 103 = .ok (.goto (-48), 3) := by decide +kernel
theorem dX74_group_106 : decode cX74_group 106 = .ok (.return_, 1) := by decide +kernel
theorem in_X74 : ∀ w ∈ wsX740, w ∈ lw_all := lw_in wsX740 [4259, 4257] (by decide +kernel) (by decide +kernel)
def RX68 : String := "KnowHouse$DatatypeValues$Value"
abbrev cX68_init : ByteArray := prog_18_method_1_code
def yX68_init : MethodName := ⟨RX68, "<init>", "(I)V"⟩
theorem dX68_init_0 : decode cX68_init 0 = .ok (.aload_n 0, 1) := by decide +kernel
theorem dX68_init_1 : decode cX68_init 1 = .ok (.invokespecial 1, 3) := by decide +kernel
theorem dX68_init_4 : decode cX68_init 4 = .ok (.aload_n 0, 1) := by decide +kernel
theorem dX68_init_5 : decode cX68_init 5 = .ok (.iload_n 1, 1) := by decide +kernel
theorem dX68_init_6 : decode cX68_init 6 = .ok (.putfield 7, 3) := by decide +kernel
theorem dX68_init_9 : decode cX68_init 9 = .ok (.return_, 1) := by decide +kernel
abbrev cX68_part : ByteArray := prog_18_method_2_code
def yX68_part : MethodName := ⟨RX68, "part", "(I)J"⟩
def RJ16 : String := "java/lang/String"
def TJ16 : u_T := fun k => match k with
  | 0 => ("java/lang/String", "value", "[B", true)
  | 1 => ("java/lang/String", "coder", "B", true)
  | 2 => ("java/lang/String", "hash", "I", false)
  | _ => ("java/lang/String", "hashIsZero", "Z", false)
def tyJ16 : Nat → FieldType := fun k => match k with
  | 0 => .array .byte
  | 1 => .byte
  | 2 => .int
  | _ => .boolean
abbrev wsJ160 : List Cond := u_ws RJ16 TJ16 4
theorem nmJ16 : ∀ a, a < 4 → ∀ b, b < 4 → a ≠ b → (TJ16 a).2.1 ≠ (TJ16 b).2.1 := by decide +kernel
theorem tyJ16_ok : ∀ k, k < 4 → parseFieldDescriptor (TJ16 k).2.2.1 = some (tyJ16 k) := by decide +kernel
abbrev cJ16_length : ByteArray := prog_110_method_54_code
def yJ16_length : MethodName := ⟨RJ16, "length", "()I"⟩
theorem dJ16_length_0 : decode cJ16_length 0 = .ok (.aload_n 0, 1) := by decide +kernel
theorem dJ16_length_1 : decode cJ16_length 1 = .ok (.getfield 9, 3) := by decide +kernel
theorem dJ16_length_4 : decode cJ16_length 4 = .ok (.arraylength, 1) := by decide +kernel
theorem dJ16_length_5 : decode cJ16_length 5 = .ok (.aload_n 0, 1) := by decide +kernel
theorem dJ16_length_6 : decode cJ16_length 6 = .ok (.invokevirtual 335, 3) := by decide +kernel
theorem dJ16_length_9 : decode cJ16_length 9 = .ok (.ishr, 1) := by decide +kernel
theorem dJ16_length_10 : decode cJ16_length 10 = .ok (.ireturn, 1) := by decide +kernel
abbrev cJ16_coder : ByteArray := prog_110_method_152_code
def yJ16_coder : MethodName := ⟨RJ16, "coder", "()B"⟩
theorem dJ16_coder_0 : decode cJ16_coder 0 = .ok (.getstatic 38, 3) := by decide +kernel
theorem dJ16_coder_3 : decode cJ16_coder 3 = .ok (.ifCond .eq 10, 3) := by decide +kernel
theorem dJ16_coder_6 : decode cJ16_coder 6 = .ok (.aload_n 0, 1) := by decide +kernel
theorem dJ16_coder_7 : decode cJ16_coder 7 = .ok (.getfield 15, 3) := by decide +kernel
theorem dJ16_coder_10 : decode cJ16_coder 10 = .ok (.goto 4, 3) := by decide +kernel
theorem dJ16_coder_13 : decode cJ16_coder 13 = .ok (.iconst 1, 1) := by decide +kernel
theorem dJ16_coder_14 : decode cJ16_coder 14 = .ok (.ireturn, 1) := by decide +kernel
abbrev cJ16_charAt : ByteArray := prog_110_method_56_code
def yJ16_charAt : MethodName := ⟨RJ16, "charAt", "(I)C"⟩
theorem dJ16_charAt_0 : decode cJ16_charAt 0 = .ok (.aload_n 0, 1) := by decide +kernel
theorem dJ16_charAt_1 : decode cJ16_charAt 1 = .ok (.invokevirtual 492, 3) := by decide +kernel
theorem dJ16_charAt_4 : decode cJ16_charAt 4 = .ok (.ifCond .eq 12, 3) := by decide +kernel
theorem dJ16_charAt_7 : decode cJ16_charAt 7 = .ok (.aload_n 0, 1) := by decide +kernel
theorem dJ16_charAt_8 : decode cJ16_charAt 8 = .ok (.getfield 9, 3) := by decide +kernel
theorem dJ16_charAt_11 : decode cJ16_charAt 11 = .ok (.iload_n 1, 1) := by decide +kernel
theorem dJ16_charAt_12 : decode cJ16_charAt 12 = .ok (.invokestatic 495, 3) := by decide +kernel
theorem dJ16_charAt_15 : decode cJ16_charAt 15 = .ok (.ireturn, 1) := by decide +kernel
theorem dJ16_charAt_16 : decode cJ16_charAt 16 = .ok (.aload_n 0, 1) := by decide +kernel
theorem dJ16_charAt_17 : decode cJ16_charAt 17 = .ok (.getfield 9, 3) := by decide +kernel
theorem dJ16_charAt_20 : decode cJ16_charAt 20 = .ok (.iload_n 1, 1) := by decide +kernel
theorem dJ16_charAt_21 : decode cJ16_charAt 21 = .ok (.invokestatic 498, 3) := by decide +kernel
theorem dJ16_charAt_24 : decode cJ16_charAt 24 = .ok (.ireturn, 1) := by decide +kernel
abbrev cJ16_isLatin1 : ByteArray := prog_110_method_154_code
def yJ16_isLatin1 : MethodName := ⟨RJ16, "isLatin1", "()Z"⟩
theorem dJ16_isLatin1_0 : decode cJ16_isLatin1 0 = .ok (.getstatic 38, 3) := by decide +kernel
theorem dJ16_isLatin1_3 : decode cJ16_isLatin1 3 = .ok (.ifCond .eq 14, 3) := by decide +kernel
theorem dJ16_isLatin1_6 : decode cJ16_isLatin1 6 = .ok (.aload_n 0, 1) := by decide +kernel
theorem dJ16_isLatin1_7 : decode cJ16_isLatin1 7 = .ok (.getfield 15, 3) := by decide +kernel
theorem dJ16_isLatin1_10 : decode cJ16_isLatin1 10 = .ok (.ifCond .ne 7, 3) := by decide +kernel
theorem dJ16_isLatin1_13 : decode cJ16_isLatin1 13 = .ok (.iconst 1, 1) := by decide +kernel
theorem dJ16_isLatin1_14 : decode cJ16_isLatin1 14 = .ok (.goto 4, 3) := by decide +kernel
theorem dJ16_isLatin1_17 : decode cJ16_isLatin1 17 = .ok (.iconst 0, 1) := by decide +kernel
theorem dJ16_isLatin1_18 : decode cJ16_isLatin1 18 = .ok (.ireturn, 1) := by decide +kernel
abbrev cJ16_checkIndex : ByteArray := prog_110_method_155_code
def yJ16_checkIndex : MethodName := ⟨RJ16, "checkIndex", "(II)V"⟩
theorem dJ16_checkIndex_0 : decode cJ16_checkIndex 0 = .ok (.iload_n 0, 1) := by decide +kernel
theorem dJ16_checkIndex_1 : decode cJ16_checkIndex 1 = .ok (.iload_n 1, 1) := by decide +kernel
theorem dJ16_checkIndex_2 : decode cJ16_checkIndex 2 = .ok (.getstatic 1053, 3) := by decide +kernel
theorem dJ16_checkIndex_5 : decode cJ16_checkIndex 5 = .ok (.invokestatic 1059, 3) := by decide +kernel
theorem dJ16_checkIndex_8 : decode cJ16_checkIndex 8 = .ok (.pop, 1) := by decide +kernel
theorem dJ16_checkIndex_9 : decode cJ16_checkIndex 9 = .ok (.return_, 1) := by decide +kernel
abbrev cJ16_indexOf : ByteArray := prog_110_method_79_code
def yJ16_indexOf : MethodName := ⟨RJ16, "indexOf", "(I)I"⟩
theorem dJ16_indexOf_0 : decode cJ16_indexOf 0 = .ok (.aload_n 0, 1) := by decide +kernel
theorem dJ16_indexOf_1 : decode cJ16_indexOf 1 = .ok (.iload_n 1, 1) := by decide +kernel
theorem dJ16_indexOf_2 : decode cJ16_indexOf 2 = .ok (.iconst 0, 1) := by decide +kernel
theorem dJ16_indexOf_3 : decode cJ16_indexOf 3 = .ok (.invokevirtual 633, 3) := by decide +kernel
theorem dJ16_indexOf_6 : decode cJ16_indexOf 6 = .ok (.ireturn, 1) := by decide +kernel
abbrev cJ16_indexOf_2 : ByteArray := prog_110_method_80_code
def yJ16_indexOf_2 : MethodName := ⟨RJ16, "indexOf", "(II)I"⟩
theorem dJ16_indexOf_2_0 : decode cJ16_indexOf_2 0 = .ok (.aload_n 0, 1) := by decide +kernel
theorem dJ16_indexOf_2_1 : decode cJ16_indexOf_2 1 = .ok (.invokevirtual 492, 3) := by decide +kernel
theorem dJ16_indexOf_2_4 : decode cJ16_indexOf_2 4 = .ok (.ifCond .eq 19, 3) := by decide +kernel
theorem dJ16_indexOf_2_7 : decode cJ16_indexOf_2 7 = .ok (.aload_n 0, 1) := by decide +kernel
theorem dJ16_indexOf_2_8 : decode cJ16_indexOf_2 8 = .ok (.getfield 9, 3) := by decide +kernel
theorem dJ16_indexOf_2_11 : decode cJ16_indexOf_2 11 = .ok (.iload_n 1, 1) := by decide +kernel
theorem dJ16_indexOf_2_12 : decode cJ16_indexOf_2 12 = .ok (.iload_n 2, 1) := by decide +kernel
theorem dJ16_indexOf_2_13 : decode cJ16_indexOf_2 13 = .ok (.aload_n 0, 1) := by decide +kernel
theorem dJ16_indexOf_2_14 : decode cJ16_indexOf_2 14 = .ok (.invokevirtual 505, 3) := by decide +kernel
theorem dJ16_indexOf_2_17 : decode cJ16_indexOf_2 17 = .ok (.invokestatic 637, 3) := by decide +kernel
theorem dJ16_indexOf_2_20 : decode cJ16_indexOf_2 20 = .ok (.goto 16, 3) := by decide +kernel
theorem dJ16_indexOf_2_23 : decode cJ16_indexOf_2 23 = .ok (.aload_n 0, 1) := by decide +kernel
theorem dJ16_indexOf_2_24 : decode cJ16_indexOf_2 24 = .ok (.getfield 9, 3) := by decide +kernel
theorem dJ16_indexOf_2_27 : decode cJ16_indexOf_2 27 = .ok (.iload_n 1, 1) := by decide +kernel
theorem dJ16_indexOf_2_28 : decode cJ16_indexOf_2 28 = .ok (.iload_n 2, 1) := by decide +kernel
theorem dJ16_indexOf_2_29 : decode cJ16_indexOf_2 29 = .ok (.aload_n 0, 1) := by decide +kernel
theorem dJ16_indexOf_2_30 : decode cJ16_indexOf_2 30 = .ok (.invokevirtual 505, 3) := by decide +kernel
theorem dJ16_indexOf_2_33 : decode cJ16_indexOf_2 33 = .ok (.invokestatic 640, 3) := by decide +kernel
theorem dJ16_indexOf_2_36 : decode cJ16_indexOf_2 36 = .ok (.ireturn, 1) := by decide +kernel
abbrev cJ16_checkBoundsBeginEnd : ByteArray := prog_110_method_158_code
def yJ16_checkBoundsBeginEnd : MethodName := ⟨RJ16, "checkBoundsBeginEnd", "(III)V"⟩
abbrev cJ16_substring : ByteArray := prog_110_method_91_code
def yJ16_substring : MethodName := ⟨RJ16, "substring", "(I)Ljava/lang/String;"⟩
abbrev cJ16_substring_2 : ByteArray := prog_110_method_92_code
def yJ16_substring_2 : MethodName := ⟨RJ16, "substring", "(II)Ljava/lang/String;"⟩
abbrev cJ16_checkBoundsOffCount : ByteArray := prog_110_method_157_code
def yJ16_checkBoundsOffCount : MethodName := ⟨RJ16, "checkBoundsOffCount", "(III)I"⟩
abbrev cJ16_getBytes : ByteArray := prog_110_method_147_code
def yJ16_getBytes : MethodName := ⟨RJ16, "getBytes", "([BIB)V"⟩
abbrev cJ16_init : ByteArray := prog_110_method_53_code
def yJ16_init : MethodName := ⟨RJ16, "<init>", "(Ljava/lang/StringBuilder;)V"⟩
abbrev cJ16_init_2 : ByteArray := prog_110_method_150_code
def yJ16_init_2 : MethodName := ⟨RJ16, "<init>", "(Ljava/lang/AbstractStringBuilder;Ljava/lang/Void;)V"⟩
abbrev cJ16_init_3 : ByteArray := prog_110_method_151_code
def yJ16_init_3 : MethodName := ⟨RJ16, "<init>", "([BB)V"⟩
theorem in_J16 : ∀ w ∈ wsJ160, w ∈ lw_all := lw_in wsJ160 [7158, 7160, 7162, 7164] (by decide +kernel) (by decide +kernel)
def RJ15 : String := "jdk/internal/util/Preconditions"
abbrev cJ15_checkIndex : ByteArray := prog_135_method_11_code
def yJ15_checkIndex : MethodName := ⟨RJ15, "checkIndex", "(IILjava/util/function/BiFunction;)I"⟩
theorem dJ15_checkIndex_0 : decode cJ15_checkIndex 0 = .ok (.iload_n 0, 1) := by decide +kernel
theorem dJ15_checkIndex_1 : decode cJ15_checkIndex 1 = .ok (.ifCond .lt 8, 3) := by decide +kernel
theorem dJ15_checkIndex_4 : decode cJ15_checkIndex 4 = .ok (.iload_n 0, 1) := by decide +kernel
theorem dJ15_checkIndex_5 : decode cJ15_checkIndex 5 = .ok (.iload_n 1, 1) := by decide +kernel
theorem dJ15_checkIndex_6 : decode cJ15_checkIndex 6 = .ok (.if_icmp .lt 10, 3) := by decide +kernel
theorem dJ15_checkIndex_9 : decode cJ15_checkIndex 9 = .ok (.aload_n 2, 1) := by decide +kernel
theorem dJ15_checkIndex_10 : decode cJ15_checkIndex 10 = .ok (.iload_n 0, 1) := by decide +kernel
theorem dJ15_checkIndex_11 : decode cJ15_checkIndex 11 = .ok (.iload_n 1, 1) := by decide +kernel
theorem dJ15_checkIndex_12 : decode cJ15_checkIndex 12 = .ok (.invokestatic 95, 3) := by decide +kernel
theorem dJ15_checkIndex_15 : decode cJ15_checkIndex 15 = .ok (.athrow, 1) := by decide +kernel
theorem dJ15_checkIndex_16 : decode cJ15_checkIndex 16 = .ok (.iload_n 0, 1) := by decide +kernel
theorem dJ15_checkIndex_17 : decode cJ15_checkIndex 17 = .ok (.ireturn, 1) := by decide +kernel
abbrev cJ15_checkFromToIndex : ByteArray := prog_135_method_12_code
def yJ15_checkFromToIndex : MethodName := ⟨RJ15, "checkFromToIndex", "(IIILjava/util/function/BiFunction;)I"⟩
abbrev cJ15_checkFromIndexSize : ByteArray := prog_135_method_13_code
def yJ15_checkFromIndexSize : MethodName := ⟨RJ15, "checkFromIndexSize", "(IIILjava/util/function/BiFunction;)I"⟩
def RJ17 : String := "java/lang/StringLatin1"
abbrev cJ17_charAt : ByteArray := prog_112_method_2_code
def yJ17_charAt : MethodName := ⟨RJ17, "charAt", "([BI)C"⟩
theorem dJ17_charAt_0 : decode cJ17_charAt 0 = .ok (.iload_n 1, 1) := by decide +kernel
theorem dJ17_charAt_1 : decode cJ17_charAt 1 = .ok (.aload_n 0, 1) := by decide +kernel
theorem dJ17_charAt_2 : decode cJ17_charAt 2 = .ok (.arraylength, 1) := by decide +kernel
theorem dJ17_charAt_3 : decode cJ17_charAt 3 = .ok (.invokestatic 9, 3) := by decide +kernel
theorem dJ17_charAt_6 : decode cJ17_charAt 6 = .ok (.aload_n 0, 1) := by decide +kernel
theorem dJ17_charAt_7 : decode cJ17_charAt 7 = .ok (.iload_n 1, 1) := by decide +kernel
theorem dJ17_charAt_8 : decode cJ17_charAt 8 = .ok (.baload, 1) := by decide +kernel
theorem dJ17_charAt_9 : decode cJ17_charAt 9 = .ok (.sipush 255, 3) := by decide +kernel
theorem dJ17_charAt_12 : decode cJ17_charAt 12 = .ok (.iand, 1) := by decide +kernel
theorem dJ17_charAt_13 : decode cJ17_charAt 13 = .ok (.i2c, 1) := by decide +kernel
theorem dJ17_charAt_14 : decode cJ17_charAt 14 = .ok (.ireturn, 1) := by decide +kernel
abbrev cJ17_indexOf : ByteArray := prog_112_method_22_code
def yJ17_indexOf : MethodName := ⟨RJ17, "indexOf", "([BIII)I"⟩
theorem dJ17_indexOf_0 : decode cJ17_indexOf 0 = .ok (.iload_n 1, 1) := by decide +kernel
theorem dJ17_indexOf_1 : decode cJ17_indexOf 1 = .ok (.invokestatic 88, 3) := by decide +kernel
theorem dJ17_indexOf_4 : decode cJ17_indexOf 4 = .ok (.ifCond .ne 5, 3) := by decide +kernel
theorem dJ17_indexOf_7 : decode cJ17_indexOf 7 = .ok (.iconst (-1), 1) := by decide +kernel
theorem dJ17_indexOf_8 : decode cJ17_indexOf 8 = .ok (.ireturn, 1) := by decide +kernel
theorem dJ17_indexOf_9 : decode cJ17_indexOf 9 = .ok (.iload_n 2, 1) := by decide +kernel
theorem dJ17_indexOf_10 : decode cJ17_indexOf 10 = .ok (.iconst 0, 1) := by decide +kernel
theorem dJ17_indexOf_11 : decode cJ17_indexOf 11 = .ok (.invokestatic 92, 3) := by decide +kernel
theorem dJ17_indexOf_14 : decode cJ17_indexOf 14 = .ok (.istore_n 2, 1) := by decide +kernel
theorem dJ17_indexOf_15 : decode cJ17_indexOf 15 = .ok (.iload_n 3, 1) := by decide +kernel
theorem dJ17_indexOf_16 : decode cJ17_indexOf 16 = .ok (.aload_n 0, 1) := by decide +kernel
theorem dJ17_indexOf_17 : decode cJ17_indexOf 17 = .ok (.arraylength, 1) := by decide +kernel
theorem dJ17_indexOf_18 : decode cJ17_indexOf 18 = .ok (.invokestatic 38, 3) := by decide +kernel
theorem dJ17_indexOf_21 : decode cJ17_indexOf 21 = .ok (.istore_n 3, 1) := by decide +kernel
theorem dJ17_indexOf_22 : decode cJ17_indexOf 22 = .ok (.iload_n 2, 1) := by decide +kernel
theorem dJ17_indexOf_23 : decode cJ17_indexOf 23 = .ok (.iload_n 3, 1) := by decide +kernel
theorem dJ17_indexOf_24 : decode cJ17_indexOf 24 = .ok (.if_icmp .lt 5, 3) := by decide +kernel
theorem dJ17_indexOf_27 : decode cJ17_indexOf 27 = .ok (.iconst (-1), 1) := by decide +kernel
theorem dJ17_indexOf_28 : decode cJ17_indexOf 28 = .ok (.ireturn, 1) := by decide +kernel
theorem dJ17_indexOf_29 : decode cJ17_indexOf 29 = .ok (.aload_n 0, 1) := by decide +kernel
theorem dJ17_indexOf_30 : decode cJ17_indexOf 30 = .ok (.iload_n 1, 1) := by decide +kernel
theorem dJ17_indexOf_31 : decode cJ17_indexOf 31 = .ok (.iload_n 2, 1) := by decide +kernel
theorem dJ17_indexOf_32 : decode cJ17_indexOf 32 = .ok (.iload_n 3, 1) := by decide +kernel
theorem dJ17_indexOf_33 : decode cJ17_indexOf 33 = .ok (.invokestatic 95, 3) := by decide +kernel
theorem dJ17_indexOf_36 : decode cJ17_indexOf 36 = .ok (.ireturn, 1) := by decide +kernel
abbrev cJ17_canEncode : ByteArray := prog_112_method_4_code
def yJ17_canEncode : MethodName := ⟨RJ17, "canEncode", "(I)Z"⟩
theorem dJ17_canEncode_0 : decode cJ17_canEncode 0 = .ok (.iload_n 0, 1) := by decide +kernel
theorem dJ17_canEncode_1 : decode cJ17_canEncode 1 = .ok (.ifCond .lt 14, 3) := by decide +kernel
theorem dJ17_canEncode_4 : decode cJ17_canEncode 4 = .ok (.iload_n 0, 1) := by decide +kernel
theorem dJ17_canEncode_5 : decode cJ17_canEncode 5 = .ok (.sipush 255, 3) := by decide +kernel
theorem dJ17_canEncode_8 : decode cJ17_canEncode 8 = .ok (.if_icmp .gt 7, 3) := by decide +kernel
theorem dJ17_canEncode_11 : decode cJ17_canEncode 11 = .ok (.iconst 1, 1) := by decide +kernel
theorem dJ17_canEncode_12 : decode cJ17_canEncode 12 = .ok (.goto 4, 3) := by decide +kernel
theorem dJ17_canEncode_15 : decode cJ17_canEncode 15 = .ok (.iconst 0, 1) := by decide +kernel
theorem dJ17_canEncode_16 : decode cJ17_canEncode 16 = .ok (.ireturn, 1) := by decide +kernel
abbrev cJ17_indexOfChar : ByteArray := prog_112_method_23_code
def yJ17_indexOfChar : MethodName := ⟨RJ17, "indexOfChar", "([BIII)I"⟩
theorem dJ17_indexOfChar_0 : decode cJ17_indexOfChar 0 = .ok (.iload_n 1, 1) := by decide +kernel
theorem dJ17_indexOfChar_1 : decode cJ17_indexOfChar 1 = .ok (.i2b, 1) := by decide +kernel
theorem dJ17_indexOfChar_2 : decode cJ17_indexOfChar 2 = .ok (.istore 4, 2) := by decide +kernel
theorem dJ17_indexOfChar_4 : decode cJ17_indexOfChar 4 = .ok (.iload_n 2, 1) := by decide +kernel
theorem dJ17_indexOfChar_5 : decode cJ17_indexOfChar 5 = .ok (.istore 5, 2) := by decide +kernel
theorem dJ17_indexOfChar_7 : decode cJ17_indexOfChar 7 = .ok (.iload 5, 2) := by decide +kernel
theorem dJ17_indexOfChar_9 : decode cJ17_indexOfChar 9 = .ok (.iload_n 3, 1) := by decide +kernel
theorem dJ17_indexOfChar_10 : decode cJ17_indexOfChar 10 = .ok (.if_icmp .ge 21, 3) := by decide +kernel
theorem dJ17_indexOfChar_13 : decode cJ17_indexOfChar 13 = .ok (.aload_n 0, 1) := by decide +kernel
theorem dJ17_indexOfChar_14 : decode cJ17_indexOfChar 14 = .ok (.iload 5, 2) := by decide +kernel
theorem dJ17_indexOfChar_16 : decode cJ17_indexOfChar 16 = .ok (.baload, 1) := by decide +kernel
theorem dJ17_indexOfChar_17 : decode cJ17_indexOfChar 17 = .ok (.iload 4, 2) := by decide +kernel
theorem dJ17_indexOfChar_19 : decode cJ17_indexOfChar 19 = .ok (.if_icmp .ne 6, 3) := by decide +kernel
theorem dJ17_indexOfChar_22 : decode cJ17_indexOfChar 22 = .ok (.iload 5, 2) := by decide +kernel
theorem dJ17_indexOfChar_24 : decode cJ17_indexOfChar 24 = .ok (.ireturn, 1) := by decide +kernel
theorem dJ17_indexOfChar_25 : decode cJ17_indexOfChar 25 = .ok (.iinc 5 1, 3) := by decide +kernel
theorem dJ17_indexOfChar_28 : decode cJ17_indexOfChar 28 = .ok (.goto (-21), 3) := by decide +kernel
theorem dJ17_indexOfChar_31 : decode cJ17_indexOfChar 31 = .ok (.iconst (-1), 1) := by decide +kernel
theorem dJ17_indexOfChar_32 : decode cJ17_indexOfChar 32 = .ok (.ireturn, 1) := by decide +kernel
abbrev cJ17_newString : ByteArray := prog_112_method_47_code
def yJ17_newString : MethodName := ⟨RJ17, "newString", "([BII)Ljava/lang/String;"⟩
abbrev cJ17_inflate : ByteArray := prog_112_method_50_code
def yJ17_inflate : MethodName := ⟨RJ17, "inflate", "([BI[BII)V"⟩
def RX71 : String := "KnowHouse$DatatypeValues$Days"
abbrev cX71_length : ByteArray := prog_11_method_5_code
def yX71_length : MethodName := ⟨RX71, "length", "(JI)I"⟩
theorem dX71_length_0 : decode cX71_length 0 = .ok (.iload_n 2, 1) := by decide +kernel
theorem dX71_length_1 : decode cX71_length 1 = .ok (.iconst 2, 1) := by decide +kernel
theorem dX71_length_2 : decode cX71_length 2 = .ok (.if_icmp .ne 20, 3) := by decide +kernel
theorem dX71_length_5 : decode cX71_length 5 = .ok (.lload_n 0, 1) := by decide +kernel
theorem dX71_length_6 : decode cX71_length 6 = .ok (.invokestatic 40, 3) := by decide +kernel
theorem dX71_length_9 : decode cX71_length 9 = .ok (.ifCond .eq 8, 3) := by decide +kernel
theorem dX71_length_12 : decode cX71_length 12 = .ok (.bipush 29, 2) := by decide +kernel
theorem dX71_length_14 : decode cX71_length 14 = .ok (.goto 38, 3) := by decide +kernel
theorem dX71_length_17 : decode cX71_length 17 = .ok (.bipush 28, 2) := by decide +kernel
theorem dX71_length_19 : decode cX71_length 19 = .ok (.goto 33, 3) := by decide +kernel
theorem dX71_length_22 : decode cX71_length 22 = .ok (.iload_n 2, 1) := by decide +kernel
theorem dX71_length_23 : decode cX71_length 23 = .ok (.iconst 4, 1) := by decide +kernel
theorem dX71_length_24 : decode cX71_length 24 = .ok (.if_icmp .eq 21, 3) := by decide +kernel
theorem dX71_length_27 : decode cX71_length 27 = .ok (.iload_n 2, 1) := by decide +kernel
theorem dX71_length_28 : decode cX71_length 28 = .ok (.bipush 6, 2) := by decide +kernel
theorem dX71_length_30 : decode cX71_length 30 = .ok (.if_icmp .eq 15, 3) := by decide +kernel
theorem dX71_length_33 : decode cX71_length 33 = .ok (.iload_n 2, 1) := by decide +kernel
theorem dX71_length_34 : decode cX71_length 34 = .ok (.bipush 9, 2) := by decide +kernel
theorem dX71_length_36 : decode cX71_length 36 = .ok (.if_icmp .eq 9, 3) := by decide +kernel
theorem dX71_length_39 : decode cX71_length 39 = .ok (.iload_n 2, 1) := by decide +kernel
theorem dX71_length_40 : decode cX71_length 40 = .ok (.bipush 11, 2) := by decide +kernel
theorem dX71_length_42 : decode cX71_length 42 = .ok (.if_icmp .ne 8, 3) := by decide +kernel
theorem dX71_length_45 : decode cX71_length 45 = .ok (.bipush 30, 2) := by decide +kernel
theorem dX71_length_47 : decode cX71_length 47 = .ok (.goto 5, 3) := by decide +kernel
theorem dX71_length_50 : decode cX71_length 50 = .ok (.bipush 31, 2) := by decide +kernel
theorem dX71_length_52 : decode cX71_length 52 = .ok (.ireturn, 1) := by decide +kernel
abbrev cX71_isLeap : ByteArray := prog_11_method_4_code
def yX71_isLeap : MethodName := ⟨RX71, "isLeap", "(J)Z"⟩
theorem dX71_isLeap_0 : decode cX71_isLeap 0 = .ok (.lload_n 0, 1) := by decide +kernel
theorem dX71_isLeap_1 : decode cX71_isLeap 1 = .ok (.ldc2_w 11, 3) := by decide +kernel
theorem dX71_isLeap_4 : decode cX71_isLeap 4 = .ok (.lrem, 1) := by decide +kernel
theorem dX71_isLeap_5 : decode cX71_isLeap 5 = .ok (.lconst 0, 1) := by decide +kernel
theorem dX71_isLeap_6 : decode cX71_isLeap 6 = .ok (.lcmp, 1) := by decide +kernel
theorem dX71_isLeap_7 : decode cX71_isLeap 7 = .ok (.ifCond .ne 27, 3) := by decide +kernel
theorem dX71_isLeap_10 : decode cX71_isLeap 10 = .ok (.lload_n 0, 1) := by decide +kernel
theorem dX71_isLeap_11 : decode cX71_isLeap 11 = .ok (.ldc2_w 19, 3) := by decide +kernel
theorem dX71_isLeap_14 : decode cX71_isLeap 14 = .ok (.lrem, 1) := by decide +kernel
theorem dX71_isLeap_15 : decode cX71_isLeap 15 = .ok (.lconst 0, 1) := by decide +kernel
theorem dX71_isLeap_16 : decode cX71_isLeap 16 = .ok (.lcmp, 1) := by decide +kernel
theorem dX71_isLeap_17 : decode cX71_isLeap 17 = .ok (.ifCond .ne 13, 3) := by decide +kernel
theorem dX71_isLeap_20 : decode cX71_isLeap 20 = .ok (.lload_n 0, 1) := by decide +kernel
theorem dX71_isLeap_21 : decode cX71_isLeap 21 = .ok (.ldc2_w 21, 3) := by decide +kernel
theorem dX71_isLeap_24 : decode cX71_isLeap 24 = .ok (.lrem, 1) := by decide +kernel
theorem dX71_isLeap_25 : decode cX71_isLeap 25 = .ok (.lconst 0, 1) := by decide +kernel
theorem dX71_isLeap_26 : decode cX71_isLeap 26 = .ok (.lcmp, 1) := by decide +kernel
theorem dX71_isLeap_27 : decode cX71_isLeap 27 = .ok (.ifCond .ne 7, 3) := by decide +kernel
theorem dX71_isLeap_30 : decode cX71_isLeap 30 = .ok (.iconst 1, 1) := by decide +kernel
theorem dX71_isLeap_31 : decode cX71_isLeap 31 = .ok (.goto 4, 3) := by decide +kernel
theorem dX71_isLeap_34 : decode cX71_isLeap 34 = .ok (.iconst 0, 1) := by decide +kernel
theorem dX71_isLeap_35 : decode cX71_isLeap 35 = .ok (.ireturn, 1) := by decide +kernel
abbrev cX71_of : ByteArray := prog_11_method_2_code
def yX71_of : MethodName := ⟨RX71, "of", "(JII)J"⟩
theorem dX71_of_0 : decode cX71_of 0 = .ok (.iload_n 2, 1) := by decide +kernel
theorem dX71_of_1 : decode cX71_of 1 = .ok (.iconst 3, 1) := by decide +kernel
theorem dX71_of_2 : decode cX71_of 2 = .ok (.if_icmp .ge 9, 3) := by decide +kernel
theorem dX71_of_5 : decode cX71_of 5 = .ok (.lload_n 0, 1) := by decide +kernel
theorem dX71_of_6 : decode cX71_of 6 = .ok (.lconst 1, 1) := by decide +kernel
theorem dX71_of_7 : decode cX71_of 7 = .ok (.lsub, 1) := by decide +kernel
theorem dX71_of_8 : decode cX71_of 8 = .ok (.goto 4, 3) := by decide +kernel
theorem dX71_of_11 : decode cX71_of 11 = .ok (.lload_n 0, 1) := by decide +kernel
theorem dX71_of_12 : decode cX71_of 12 = .ok (.lstore 4, 2) := by decide +kernel
theorem dX71_of_14 : decode cX71_of 14 = .ok (.iload_n 2, 1) := by decide +kernel
theorem dX71_of_15 : decode cX71_of 15 = .ok (.iconst 3, 1) := by decide +kernel
theorem dX71_of_16 : decode cX71_of 16 = .ok (.if_icmp .ge 10, 3) := by decide +kernel
theorem dX71_of_19 : decode cX71_of 19 = .ok (.iload_n 2, 1) := by decide +kernel
theorem dX71_of_20 : decode cX71_of 20 = .ok (.bipush 9, 2) := by decide +kernel
theorem dX71_of_22 : decode cX71_of 22 = .ok (.iadd, 1) := by decide +kernel
theorem dX71_of_23 : decode cX71_of 23 = .ok (.goto 6, 3) := by decide +kernel
theorem dX71_of_26 : decode cX71_of 26 = .ok (.iload_n 2, 1) := by decide +kernel
theorem dX71_of_27 : decode cX71_of 27 = .ok (.iconst 3, 1) := by decide +kernel
theorem dX71_of_28 : decode cX71_of 28 = .ok (.isub, 1) := by decide +kernel
theorem dX71_of_29 : decode cX71_of 29 = .ok (.istore 6, 2) := by decide +kernel
theorem dX71_of_31 : decode cX71_of 31 = .ok (.ldc2_w 9, 3) := by decide +kernel
theorem dX71_of_34 : decode cX71_of 34 = .ok (.lload 4, 2) := by decide +kernel
theorem dX71_of_36 : decode cX71_of 36 = .ok (.lmul, 1) := by decide +kernel
theorem dX71_of_37 : decode cX71_of 37 = .ok (.lload 4, 2) := by decide +kernel
theorem dX71_of_39 : decode cX71_of 39 = .ok (.ldc2_w 11, 3) := by decide +kernel
theorem dX71_of_42 : decode cX71_of 42 = .ok (.invokestatic 13, 3) := by decide +kernel
theorem dX71_of_45 : decode cX71_of 45 = .ok (.ladd, 1) := by decide +kernel
theorem dX71_of_46 : decode cX71_of 46 = .ok (.lload 4, 2) := by decide +kernel
theorem dX71_of_48 : decode cX71_of 48 = .ok (.ldc2_w 19, 3) := by decide +kernel
theorem dX71_of_51 : decode cX71_of 51 = .ok (.invokestatic 13, 3) := by decide +kernel
theorem dX71_of_54 : decode cX71_of 54 = .ok (.lsub, 1) := by decide +kernel
theorem dX71_of_55 : decode cX71_of 55 = .ok (.lload 4, 2) := by decide +kernel
theorem dX71_of_57 : decode cX71_of 57 = .ok (.ldc2_w 21, 3) := by decide +kernel
theorem dX71_of_60 : decode cX71_of 60 = .ok (.invokestatic 13, 3) := by decide +kernel
theorem dX71_of_63 : decode cX71_of 63 = .ok (.ladd, 1) := by decide +kernel
theorem dX71_of_64 : decode cX71_of 64 = .ok (.ldc2_w 23, 3) := by decide +kernel
theorem dX71_of_67 : decode cX71_of 67 = .ok (.iload 6, 2) := by decide +kernel
theorem dX71_of_69 : decode cX71_of 69 = .ok (.i2l, 1) := by decide +kernel
theorem dX71_of_70 : decode cX71_of 70 = .ok (.lmul, 1) := by decide +kernel
theorem dX71_of_71 : decode cX71_of 71 = .ok (.ldc2_w 25, 3) := by decide +kernel
theorem dX71_of_74 : decode cX71_of 74 = .ok (.ladd, 1) := by decide +kernel
theorem dX71_of_75 : decode cX71_of 75 = .ok (.ldc2_w 27, 3) := by decide +kernel
theorem dX71_of_78 : decode cX71_of 78 = .ok (.ldiv, 1) := by decide +kernel
theorem dX71_of_79 : decode cX71_of 79 = .ok (.ladd, 1) := by decide +kernel
theorem dX71_of_80 : decode cX71_of 80 = .ok (.iload_n 3, 1) := by decide +kernel
theorem dX71_of_81 : decode cX71_of 81 = .ok (.i2l, 1) := by decide +kernel
theorem dX71_of_82 : decode cX71_of 82 = .ok (.ladd, 1) := by decide +kernel
theorem dX71_of_83 : decode cX71_of 83 = .ok (.ldc2_w 29, 3) := by decide +kernel
theorem dX71_of_86 : decode cX71_of 86 = .ok (.lsub, 1) := by decide +kernel
theorem dX71_of_87 : decode cX71_of 87 = .ok (.lreturn, 1) := by decide +kernel
abbrev cX71_add : ByteArray := prog_11_method_6_code
def yX71_add : MethodName := ⟨RX71, "add", "(JJJ)J"⟩
theorem dX71_add_0 : decode cX71_add 0 = .ok (.lload_n 0, 1) := by decide +kernel
theorem dX71_add_1 : decode cX71_add 1 = .ok (.ldc2_w 46, 3) := by decide +kernel
theorem dX71_add_4 : decode cX71_add 4 = .ok (.invokestatic 13, 3) := by decide +kernel
theorem dX71_add_7 : decode cX71_add 7 = .ok (.invokestatic 48, 3) := by decide +kernel
theorem dX71_add_10 : decode cX71_add 10 = .ok (.astore 6, 2) := by decide +kernel
theorem dX71_add_12 : decode cX71_add 12 = .ok (.ldc2_w 52, 3) := by decide +kernel
theorem dX71_add_15 : decode cX71_add 15 = .ok (.aload 6, 2) := by decide +kernel
theorem dX71_add_17 : decode cX71_add 17 = .ok (.iconst 0, 1) := by decide +kernel
theorem dX71_add_18 : decode cX71_add 18 = .ok (.iaload, 1) := by decide +kernel
theorem dX71_add_19 : decode cX71_add 19 = .ok (.i2l, 1) := by decide +kernel
theorem dX71_add_20 : decode cX71_add 20 = .ok (.lmul, 1) := by decide +kernel
theorem dX71_add_21 : decode cX71_add 21 = .ok (.aload 6, 2) := by decide +kernel
theorem dX71_add_23 : decode cX71_add 23 = .ok (.iconst 1, 1) := by decide +kernel
theorem dX71_add_24 : decode cX71_add 24 = .ok (.iaload, 1) := by decide +kernel
theorem dX71_add_25 : decode cX71_add 25 = .ok (.i2l, 1) := by decide +kernel
theorem dX71_add_26 : decode cX71_add 26 = .ok (.ladd, 1) := by decide +kernel
theorem dX71_add_27 : decode cX71_add 27 = .ok (.lconst 1, 1) := by decide +kernel
theorem dX71_add_28 : decode cX71_add 28 = .ok (.lsub, 1) := by decide +kernel
theorem dX71_add_29 : decode cX71_add 29 = .ok (.lload_n 2, 1) := by decide +kernel
theorem dX71_add_30 : decode cX71_add 30 = .ok (.ladd, 1) := by decide +kernel
theorem dX71_add_31 : decode cX71_add 31 = .ok (.lstore 7, 2) := by decide +kernel
theorem dX71_add_33 : decode cX71_add 33 = .ok (.lload 7, 2) := by decide +kernel
theorem dX71_add_35 : decode cX71_add 35 = .ok (.ldc2_w 52, 3) := by decide +kernel
theorem dX71_add_38 : decode cX71_add 38 = .ok (.invokestatic 13, 3) := by decide +kernel
theorem dX71_add_41 : decode cX71_add 41 = .ok (.lstore 9, 2) := by decide +kernel
theorem dX71_add_43 : decode cX71_add 43 = .ok (.lload 7, 2) := by decide +kernel
theorem dX71_add_45 : decode cX71_add 45 = .ok (.ldc2_w 52, 3) := by decide +kernel
theorem dX71_add_48 : decode cX71_add 48 = .ok (.invokestatic 35, 3) := by decide +kernel
theorem dX71_add_51 : decode cX71_add 51 = .ok (.l2i, 1) := by decide +kernel
theorem dX71_add_52 : decode cX71_add 52 = .ok (.iconst 1, 1) := by decide +kernel
theorem dX71_add_53 : decode cX71_add 53 = .ok (.iadd, 1) := by decide +kernel
theorem dX71_add_54 : decode cX71_add 54 = .ok (.istore 11, 2) := by decide +kernel
theorem dX71_add_56 : decode cX71_add 56 = .ok (.ldc2_w 46, 3) := by decide +kernel
theorem dX71_add_59 : decode cX71_add 59 = .ok (.lload 9, 2) := by decide +kernel
theorem dX71_add_61 : decode cX71_add 61 = .ok (.iload 11, 2) := by decide +kernel
theorem dX71_add_63 : decode cX71_add 63 = .ok (.aload 6, 2) := by decide +kernel
theorem dX71_add_65 : decode cX71_add 65 = .ok (.iconst 2, 1) := by decide +kernel
theorem dX71_add_66 : decode cX71_add 66 = .ok (.iaload, 1) := by decide +kernel
theorem dX71_add_67 : decode cX71_add 67 = .ok (.lload 9, 2) := by decide +kernel
theorem dX71_add_69 : decode cX71_add 69 = .ok (.iload 11, 2) := by decide +kernel
theorem dX71_add_71 : decode cX71_add 71 = .ok (.invokestatic 54, 3) := by decide +kernel
theorem dX71_add_74 : decode cX71_add 74 = .ok (.invokestatic 58, 3) := by decide +kernel
theorem dX71_add_77 : decode cX71_add 77 = .ok (.invokestatic 62, 3) := by decide +kernel
theorem dX71_add_80 : decode cX71_add 80 = .ok (.lmul, 1) := by decide +kernel
theorem dX71_add_81 : decode cX71_add 81 = .ok (.lload_n 0, 1) := by decide +kernel
theorem dX71_add_82 : decode cX71_add 82 = .ok (.ldc2_w 46, 3) := by decide +kernel
theorem dX71_add_85 : decode cX71_add 85 = .ok (.invokestatic 35, 3) := by decide +kernel
theorem dX71_add_88 : decode cX71_add 88 = .ok (.ladd, 1) := by decide +kernel
theorem dX71_add_89 : decode cX71_add 89 = .ok (.lload 4, 2) := by decide +kernel
theorem dX71_add_91 : decode cX71_add 91 = .ok (.ladd, 1) := by decide +kernel
theorem dX71_add_92 : decode cX71_add 92 = .ok (.lreturn, 1) := by decide +kernel
abbrev cX71_date : ByteArray := prog_11_method_3_code
def yX71_date : MethodName := ⟨RX71, "date", "(J)[I"⟩
theorem dX71_date_0 : decode cX71_date 0 = .ok (.lload_n 0, 1) := by decide +kernel
theorem dX71_date_1 : decode cX71_date 1 = .ok (.ldc2_w 31, 3) := by decide +kernel
theorem dX71_date_4 : decode cX71_date 4 = .ok (.ladd, 1) := by decide +kernel
theorem dX71_date_5 : decode cX71_date 5 = .ok (.lstore_n 2, 1) := by decide +kernel
theorem dX71_date_6 : decode cX71_date 6 = .ok (.lload_n 2, 1) := by decide +kernel
theorem dX71_date_7 : decode cX71_date 7 = .ok (.ldc2_w 33, 3) := by decide +kernel
theorem dX71_date_10 : decode cX71_date 10 = .ok (.invokestatic 13, 3) := by decide +kernel
theorem dX71_date_13 : decode cX71_date 13 = .ok (.lstore 4, 2) := by decide +kernel
theorem dX71_date_15 : decode cX71_date 15 = .ok (.lload_n 2, 1) := by decide +kernel
theorem dX71_date_16 : decode cX71_date 16 = .ok (.ldc2_w 33, 3) := by decide +kernel
theorem dX71_date_19 : decode cX71_date 19 = .ok (.invokestatic 35, 3) := by decide +kernel
theorem dX71_date_22 : decode cX71_date 22 = .ok (.l2i, 1) := by decide +kernel
theorem dX71_date_23 : decode cX71_date 23 = .ok (.istore 6, 2) := by decide +kernel
theorem dX71_date_25 : decode cX71_date 25 = .ok (.iload 6, 2) := by decide +kernel
theorem dX71_date_27 : decode cX71_date 27 = .ok (.iload 6, 2) := by decide +kernel
theorem dX71_date_29 : decode cX71_date 29 = .ok (.sipush 1460, 3) := by decide +kernel
theorem dX71_date_32 : decode cX71_date 32 = .ok (.idiv, 1) := by decide +kernel
theorem dX71_date_33 : decode cX71_date 33 = .ok (.isub, 1) := by decide +kernel
theorem dX71_date_34 : decode cX71_date 34 = .ok (.iload 6, 2) := by decide +kernel
theorem dX71_date_36 : decode cX71_date 36 = .ok (.ldc 38, 2) := by decide +kernel
theorem dX71_date_38 : decode cX71_date 38 = .ok (.idiv, 1) := by decide +kernel
theorem dX71_date_39 : decode cX71_date 39 = .ok (.iadd, 1) := by decide +kernel
theorem dX71_date_40 : decode cX71_date 40 = .ok (.iload 6, 2) := by decide +kernel
theorem dX71_date_42 : decode cX71_date 42 = .ok (.ldc 39, 2) := by decide +kernel
theorem dX71_date_44 : decode cX71_date 44 = .ok (.idiv, 1) := by decide +kernel
theorem dX71_date_45 : decode cX71_date 45 = .ok (.isub, 1) := by decide +kernel
theorem dX71_date_46 : decode cX71_date 46 = .ok (.sipush 365, 3) := by decide +kernel
theorem dX71_date_49 : decode cX71_date 49 = .ok (.idiv, 1) := by decide +kernel
theorem dX71_date_50 : decode cX71_date 50 = .ok (.istore 7, 2) := by decide +kernel
theorem dX71_date_52 : decode cX71_date 52 = .ok (.iload 6, 2) := by decide +kernel
theorem dX71_date_54 : decode cX71_date 54 = .ok (.sipush 365, 3) := by decide +kernel
theorem dX71_date_57 : decode cX71_date 57 = .ok (.iload 7, 2) := by decide +kernel
theorem dX71_date_59 : decode cX71_date 59 = .ok (.imul, 1) := by decide +kernel
theorem dX71_date_60 : decode cX71_date 60 = .ok (.iload 7, 2) := by decide +kernel
theorem dX71_date_62 : decode cX71_date 62 = .ok (.iconst 4, 1) := by decide +kernel
theorem dX71_date_63 : decode cX71_date 63 = .ok (.idiv, 1) := by decide +kernel
theorem dX71_date_64 : decode cX71_date 64 = .ok (.iadd, 1) := by decide +kernel
theorem dX71_date_65 : decode cX71_date 65 = .ok (.iload 7, 2) := by decide +kernel
theorem dX71_date_67 : decode cX71_date 67 = .ok (.bipush 100, 2) := by decide +kernel
theorem dX71_date_69 : decode cX71_date 69 = .ok (.idiv, 1) := by decide +kernel
theorem dX71_date_70 : decode cX71_date 70 = .ok (.isub, 1) := by decide +kernel
theorem dX71_date_71 : decode cX71_date 71 = .ok (.isub, 1) := by decide +kernel
theorem dX71_date_72 : decode cX71_date 72 = .ok (.istore 8, 2) := by decide +kernel
theorem dX71_date_74 : decode cX71_date 74 = .ok (.iconst 5, 1) := by decide +kernel
theorem dX71_date_75 : decode cX71_date 75 = .ok (.iload 8, 2) := by decide +kernel
theorem dX71_date_77 : decode cX71_date 77 = .ok (.imul, 1) := by decide +kernel
theorem dX71_date_78 : decode cX71_date 78 = .ok (.iconst 2, 1) := by decide +kernel
theorem dX71_date_79 : decode cX71_date 79 = .ok (.iadd, 1) := by decide +kernel
theorem dX71_date_80 : decode cX71_date 80 = .ok (.sipush 153, 3) := by decide +kernel
theorem dX71_date_83 : decode cX71_date 83 = .ok (.idiv, 1) := by decide +kernel
theorem dX71_date_84 : decode cX71_date 84 = .ok (.istore 9, 2) := by decide +kernel
theorem dX71_date_86 : decode cX71_date 86 = .ok (.iconst 3, 1) := by decide +kernel
theorem dX71_date_87 : decode cX71_date 87 = .ok (.newarray .int, 2) := by decide +kernel
theorem dX71_date_89 : decode cX71_date 89 = .ok (.dup, 1) := by decide +kernel
theorem dX71_date_90 : decode cX71_date 90 = .ok (.iconst 0, 1) := by decide +kernel
theorem dX71_date_91 : decode cX71_date 91 = .ok (.ldc2_w 21, 3) := by decide +kernel
theorem dX71_date_94 : decode cX71_date 94 = .ok (.lload 4, 2) := by decide +kernel
theorem dX71_date_96 : decode cX71_date 96 = .ok (.lmul, 1) := by decide +kernel
theorem dX71_date_97 : decode cX71_date 97 = .ok (.iload 7, 2) := by decide +kernel
theorem dX71_date_99 : decode cX71_date 99 = .ok (.i2l, 1) := by decide +kernel
theorem dX71_date_100 : decode cX71_date 100 = .ok (.ladd, 1) := by decide +kernel
theorem dX71_date_101 : decode cX71_date 101 = .ok (.iload 9, 2) := by decide +kernel
theorem dX71_date_103 : decode cX71_date 103 = .ok (.bipush 9, 2) := by decide +kernel
theorem dX71_date_105 : decode cX71_date 105 = .ok (.if_icmp .le 7, 3) := by decide +kernel
theorem dX71_date_108 : decode cX71_date 108 = .ok (.iconst 1, 1) := by decide +kernel
theorem dX71_date_109 : decode cX71_date 109 = .ok (.goto 4, 3) := by decide +kernel
theorem dX71_date_112 : decode cX71_date 112 = .ok (.iconst 0, 1) := by decide +kernel
theorem dX71_date_113 : decode cX71_date 113 = .ok (.i2l, 1) := by decide +kernel
theorem dX71_date_114 : decode cX71_date 114 = .ok (.ladd, 1) := by decide +kernel
theorem dX71_date_115 : decode cX71_date 115 = .ok (.l2i, 1) := by decide +kernel
theorem dX71_date_116 : decode cX71_date 116 = .ok (.iastore, 1) := by decide +kernel
theorem dX71_date_117 : decode cX71_date 117 = .ok (.dup, 1) := by decide +kernel
theorem dX71_date_118 : decode cX71_date 118 = .ok (.iconst 1, 1) := by decide +kernel
theorem dX71_date_119 : decode cX71_date 119 = .ok (.iload 9, 2) := by decide +kernel
theorem dX71_date_121 : decode cX71_date 121 = .ok (.bipush 9, 2) := by decide +kernel
theorem dX71_date_123 : decode cX71_date 123 = .ok (.if_icmp .le 11, 3) := by decide +kernel
theorem dX71_date_126 : decode cX71_date 126 = .ok (.iload 9, 2) := by decide +kernel
theorem dX71_date_128 : decode cX71_date 128 = .ok (.bipush 9, 2) := by decide +kernel
theorem dX71_date_130 : decode cX71_date 130 = .ok (.isub, 1) := by decide +kernel
theorem dX71_date_131 : decode cX71_date 131 = .ok (.goto 7, 3) := by decide +kernel
theorem dX71_date_134 : decode cX71_date 134 = .ok (.iload 9, 2) := by decide +kernel
theorem dX71_date_136 : decode cX71_date 136 = .ok (.iconst 3, 1) := by decide +kernel
theorem dX71_date_137 : decode cX71_date 137 = .ok (.iadd, 1) := by decide +kernel
theorem dX71_date_138 : decode cX71_date 138 = .ok (.iastore, 1) := by decide +kernel
theorem dX71_date_139 : decode cX71_date 139 = .ok (.dup, 1) := by decide +kernel
theorem dX71_date_140 : decode cX71_date 140 = .ok (.iconst 2, 1) := by decide +kernel
theorem dX71_date_141 : decode cX71_date 141 = .ok (.iload 8, 2) := by decide +kernel
theorem dX71_date_143 : decode cX71_date 143 = .ok (.sipush 153, 3) := by decide +kernel
theorem dX71_date_146 : decode cX71_date 146 = .ok (.iload 9, 2) := by decide +kernel
theorem dX71_date_148 : decode cX71_date 148 = .ok (.imul, 1) := by decide +kernel
theorem dX71_date_149 : decode cX71_date 149 = .ok (.iconst 2, 1) := by decide +kernel
theorem dX71_date_150 : decode cX71_date 150 = .ok (.iadd, 1) := by decide +kernel
theorem dX71_date_151 : decode cX71_date 151 = .ok (.iconst 5, 1) := by decide +kernel
theorem dX71_date_152 : decode cX71_date 152 = .ok (.idiv, 1) := by decide +kernel
theorem dX71_date_153 : decode cX71_date 153 = .ok (.isub, 1) := by decide +kernel
theorem dX71_date_154 : decode cX71_date 154 = .ok (.iconst 1, 1) := by decide +kernel
theorem dX71_date_155 : decode cX71_date 155 = .ok (.iadd, 1) := by decide +kernel
theorem dX71_date_156 : decode cX71_date 156 = .ok (.iastore, 1) := by decide +kernel
theorem dX71_date_157 : decode cX71_date 157 = .ok (.astore 10, 2) := by decide +kernel
theorem dX71_date_159 : decode cX71_date 159 = .ok (.aload 10, 2) := by decide +kernel
theorem dX71_date_161 : decode cX71_date 161 = .ok (.areturn, 1) := by decide +kernel
def RJ6 : String := "java/lang/Math"
abbrev cJ6_floorMod : ByteArray := prog_106_method_50_code
def yJ6_floorMod : MethodName := ⟨RJ6, "floorMod", "(II)I"⟩
abbrev cJ6_min : ByteArray := prog_106_method_69_code
def yJ6_min : MethodName := ⟨RJ6, "min", "(II)I"⟩
abbrev cJ6_max : ByteArray := prog_106_method_65_code
def yJ6_max : MethodName := ⟨RJ6, "max", "(II)I"⟩
abbrev cJ6_min_2 : ByteArray := prog_106_method_70_code
def yJ6_min_2 : MethodName := ⟨RJ6, "min", "(JJ)J"⟩
abbrev cJ6_abs : ByteArray := prog_106_method_61_code
def yJ6_abs : MethodName := ⟨RJ6, "abs", "(J)J"⟩
abbrev cJ6_floorDiv : ByteArray := prog_106_method_49_code
def yJ6_floorDiv : MethodName := ⟨RJ6, "floorDiv", "(JJ)J"⟩
theorem dJ6_floorDiv_0 : decode cJ6_floorDiv 0 = .ok (.lload_n 0, 1) := by decide +kernel
theorem dJ6_floorDiv_1 : decode cJ6_floorDiv 1 = .ok (.lload_n 2, 1) := by decide +kernel
theorem dJ6_floorDiv_2 : decode cJ6_floorDiv 2 = .ok (.ldiv, 1) := by decide +kernel
theorem dJ6_floorDiv_3 : decode cJ6_floorDiv 3 = .ok (.lstore 4, 2) := by decide +kernel
theorem dJ6_floorDiv_5 : decode cJ6_floorDiv 5 = .ok (.lload_n 0, 1) := by decide +kernel
theorem dJ6_floorDiv_6 : decode cJ6_floorDiv 6 = .ok (.lload_n 2, 1) := by decide +kernel
theorem dJ6_floorDiv_7 : decode cJ6_floorDiv 7 = .ok (.lxor, 1) := by decide +kernel
theorem dJ6_floorDiv_8 : decode cJ6_floorDiv 8 = .ok (.lconst 0, 1) := by decide +kernel
theorem dJ6_floorDiv_9 : decode cJ6_floorDiv 9 = .ok (.lcmp, 1) := by decide +kernel
theorem dJ6_floorDiv_10 : decode cJ6_floorDiv 10 = .ok (.ifCond .ge 17, 3) := by decide +kernel
theorem dJ6_floorDiv_13 : decode cJ6_floorDiv 13 = .ok (.lload 4, 2) := by decide +kernel
theorem dJ6_floorDiv_15 : decode cJ6_floorDiv 15 = .ok (.lload_n 2, 1) := by decide +kernel
theorem dJ6_floorDiv_16 : decode cJ6_floorDiv 16 = .ok (.lmul, 1) := by decide +kernel
theorem dJ6_floorDiv_17 : decode cJ6_floorDiv 17 = .ok (.lload_n 0, 1) := by decide +kernel
theorem dJ6_floorDiv_18 : decode cJ6_floorDiv 18 = .ok (.lcmp, 1) := by decide +kernel
theorem dJ6_floorDiv_19 : decode cJ6_floorDiv 19 = .ok (.ifCond .eq 8, 3) := by decide +kernel
theorem dJ6_floorDiv_22 : decode cJ6_floorDiv 22 = .ok (.lload 4, 2) := by decide +kernel
theorem dJ6_floorDiv_24 : decode cJ6_floorDiv 24 = .ok (.lconst 1, 1) := by decide +kernel
theorem dJ6_floorDiv_25 : decode cJ6_floorDiv 25 = .ok (.lsub, 1) := by decide +kernel
theorem dJ6_floorDiv_26 : decode cJ6_floorDiv 26 = .ok (.lreturn, 1) := by decide +kernel
theorem dJ6_floorDiv_27 : decode cJ6_floorDiv 27 = .ok (.lload 4, 2) := by decide +kernel
theorem dJ6_floorDiv_29 : decode cJ6_floorDiv 29 = .ok (.lreturn, 1) := by decide +kernel
abbrev cJ6_floorMod_2 : ByteArray := prog_106_method_52_code
def yJ6_floorMod_2 : MethodName := ⟨RJ6, "floorMod", "(JJ)J"⟩
theorem dJ6_floorMod_2_0 : decode cJ6_floorMod_2 0 = .ok (.lload_n 0, 1) := by decide +kernel
theorem dJ6_floorMod_2_1 : decode cJ6_floorMod_2 1 = .ok (.lload_n 2, 1) := by decide +kernel
theorem dJ6_floorMod_2_2 : decode cJ6_floorMod_2 2 = .ok (.lrem, 1) := by decide +kernel
theorem dJ6_floorMod_2_3 : decode cJ6_floorMod_2 3 = .ok (.lstore 4, 2) := by decide +kernel
theorem dJ6_floorMod_2_5 : decode cJ6_floorMod_2 5 = .ok (.lload_n 0, 1) := by decide +kernel
theorem dJ6_floorMod_2_6 : decode cJ6_floorMod_2 6 = .ok (.lload_n 2, 1) := by decide +kernel
theorem dJ6_floorMod_2_7 : decode cJ6_floorMod_2 7 = .ok (.lxor, 1) := by decide +kernel
theorem dJ6_floorMod_2_8 : decode cJ6_floorMod_2 8 = .ok (.lconst 0, 1) := by decide +kernel
theorem dJ6_floorMod_2_9 : decode cJ6_floorMod_2 9 = .ok (.lcmp, 1) := by decide +kernel
theorem dJ6_floorMod_2_10 : decode cJ6_floorMod_2 10 = .ok (.ifCond .ge 15, 3) := by decide +kernel
theorem dJ6_floorMod_2_13 : decode cJ6_floorMod_2 13 = .ok (.lload 4, 2) := by decide +kernel
theorem dJ6_floorMod_2_15 : decode cJ6_floorMod_2 15 = .ok (.lconst 0, 1) := by decide +kernel
theorem dJ6_floorMod_2_16 : decode cJ6_floorMod_2 16 = .ok (.lcmp, 1) := by decide +kernel
theorem dJ6_floorMod_2_17 : decode cJ6_floorMod_2 17 = .ok (.ifCond .eq 8, 3) := by decide +kernel
theorem dJ6_floorMod_2_20 : decode cJ6_floorMod_2 20 = .ok (.lload 4, 2) := by decide +kernel
theorem dJ6_floorMod_2_22 : decode cJ6_floorMod_2 22 = .ok (.lload_n 2, 1) := by decide +kernel
theorem dJ6_floorMod_2_23 : decode cJ6_floorMod_2 23 = .ok (.ladd, 1) := by decide +kernel
theorem dJ6_floorMod_2_24 : decode cJ6_floorMod_2 24 = .ok (.lreturn, 1) := by decide +kernel
theorem dJ6_floorMod_2_25 : decode cJ6_floorMod_2 25 = .ok (.lload 4, 2) := by decide +kernel
theorem dJ6_floorMod_2_27 : decode cJ6_floorMod_2 27 = .ok (.lreturn, 1) := by decide +kernel
abbrev cJ6_abs_2 : ByteArray := prog_106_method_59_code
def yJ6_abs_2 : MethodName := ⟨RJ6, "abs", "(I)I"⟩
theorem dJ21_signum_0 : decode cJ21_signum 0 = .ok (.lload_n 0, 1) := by decide +kernel
theorem dJ21_signum_1 : decode cJ21_signum 1 = .ok (.bipush 63, 2) := by decide +kernel
theorem dJ21_signum_3 : decode cJ21_signum 3 = .ok (.lshr, 1) := by decide +kernel
theorem dJ21_signum_4 : decode cJ21_signum 4 = .ok (.lload_n 0, 1) := by decide +kernel
theorem dJ21_signum_5 : decode cJ21_signum 5 = .ok (.lneg, 1) := by decide +kernel
theorem dJ21_signum_6 : decode cJ21_signum 6 = .ok (.bipush 63, 2) := by decide +kernel
theorem dJ21_signum_8 : decode cJ21_signum 8 = .ok (.lushr, 1) := by decide +kernel
theorem dJ21_signum_9 : decode cJ21_signum 9 = .ok (.lor, 1) := by decide +kernel
theorem dJ21_signum_10 : decode cJ21_signum 10 = .ok (.l2i, 1) := by decide +kernel
theorem dJ21_signum_11 : decode cJ21_signum 11 = .ok (.ireturn, 1) := by decide +kernel
def RJ25 : String := "java/lang/Boolean"
abbrev cJ25_compare : ByteArray := prog_94_method_14_code
def yJ25_compare : MethodName := ⟨RJ25, "compare", "(ZZ)I"⟩
theorem dJ25_compare_0 : decode cJ25_compare 0 = .ok (.iload_n 0, 1) := by decide +kernel
theorem dJ25_compare_1 : decode cJ25_compare 1 = .ok (.iload_n 1, 1) := by decide +kernel
theorem dJ25_compare_2 : decode cJ25_compare 2 = .ok (.if_icmp .ne 7, 3) := by decide +kernel
theorem dJ25_compare_5 : decode cJ25_compare 5 = .ok (.iconst 0, 1) := by decide +kernel
theorem dJ25_compare_6 : decode cJ25_compare 6 = .ok (.goto 12, 3) := by decide +kernel
theorem dJ25_compare_9 : decode cJ25_compare 9 = .ok (.iload_n 0, 1) := by decide +kernel
theorem dJ25_compare_10 : decode cJ25_compare 10 = .ok (.ifCond .eq 7, 3) := by decide +kernel
theorem dJ25_compare_13 : decode cJ25_compare 13 = .ok (.iconst 1, 1) := by decide +kernel
theorem dJ25_compare_14 : decode cJ25_compare 14 = .ok (.goto 4, 3) := by decide +kernel
theorem dJ25_compare_17 : decode cJ25_compare 17 = .ok (.iconst (-1), 1) := by decide +kernel
theorem dJ25_compare_18 : decode cJ25_compare 18 = .ok (.ireturn, 1) := by decide +kernel
theorem q491 : (Jvm.Cond.initialized "KnowHouse$DatatypeValues") ∈ lw_all := lw_g (lw_at lw_m1 13 rfl) rfl
theorem q492 : (Jvm.Cond.initialized "KnowHouse$DatatypeValues$Writer") ∈ lw_all := lw_g (lw_at lw_m1 14 rfl) rfl
theorem q554 : (Jvm.Cond.initialized "jdk/internal/util/Preconditions") ∈ lw_all := lw_g (lw_at lw_m1 76 rfl) rfl
theorem q555 : (Jvm.Cond.initialized "java/lang/String") ∈ lw_all := lw_g (lw_at lw_m1 77 rfl) rfl
theorem q556 : (Jvm.Cond.initialized "java/lang/StringLatin1") ∈ lw_all := lw_g (lw_at lw_m1 78 rfl) rfl
theorem q573 : (Jvm.Cond.initialized "KnowHouse$DatatypeValues$Reader") ∈ lw_all := lw_g (lw_at lw_m1 95 rfl) rfl
theorem q574 : (Jvm.Cond.initialized "KnowHouse$DatatypeValues$Value") ∈ lw_all := lw_g (lw_at lw_m1 96 rfl) rfl
theorem q575 : (Jvm.Cond.initialized "KnowHouse$DatatypeValues$Number") ∈ lw_all := lw_g (lw_at lw_m1 97 rfl) rfl
theorem q576 : (Jvm.Cond.initialized "KnowHouse$DatatypeValues$Truth") ∈ lw_all := lw_g (lw_at lw_m1 98 rfl) rfl
theorem q577 : (Jvm.Cond.initialized "KnowHouse$DatatypeValues$Days") ∈ lw_all := lw_g (lw_at lw_m1 99 rfl) rfl
theorem q578 : (Jvm.Cond.initialized "KnowHouse$DatatypeValues$Time") ∈ lw_all := lw_g (lw_at lw_m1 100 rfl) rfl
theorem q579 : (Jvm.Cond.initialized "KnowHouse$DatatypeValues$Span") ∈ lw_all := lw_g (lw_at lw_m1 101 rfl) rfl
theorem q580 : (Jvm.Cond.initialized "KnowHouse$DatatypeValues$Row") ∈ lw_all := lw_g (lw_at lw_m1 102 rfl) rfl
theorem q582 : (Jvm.Cond.initialized "java/lang/Boolean") ∈ lw_all := lw_g (lw_at lw_m1 104 rfl) rfl
theorem q877 : (Jvm.Cond.methodLink "KnowHouse$DatatypeValues" (1 : Nat) ({ cls := "java/lang/Object", name := "<init>", desc := "()V" } : Jvm.MethodName)) ∈ lw_all := lw_g (lw_at lw_m2 159 rfl) rfl
theorem q878 : (Jvm.Cond.classLink "KnowHouse$DatatypeValues" (13 : Nat) "KnowHouse$DatatypeValues$Value") ∈ lw_all := lw_g (lw_at lw_m2 160 rfl) rfl
theorem q879 : (Jvm.Cond.arrayOver (Jvm.ClassFile.FieldType.object "KnowHouse$DatatypeValues$Value")) ∈ lw_tbl := lw_at lw_m2 161 rfl
theorem q880 : (Jvm.Cond.classLink "KnowHouse$DatatypeValues" (19 : Nat) "KnowHouse$DatatypeValues$Writer") ∈ lw_all := lw_g (lw_at lw_m2 162 rfl) rfl
theorem q881 : (Jvm.Cond.instantiable "KnowHouse$DatatypeValues$Writer" (2 : Nat)) ∈ lw_all := lw_g (lw_at lw_m2 163 rfl) rfl
theorem q882 : (Jvm.Cond.methodLinkNest "KnowHouse$DatatypeValues" (21 : Nat) ({ cls := "KnowHouse$DatatypeValues$Writer", name := "<init>", desc := "()V" } : Jvm.MethodName) "KnowHouse") ∈ lw_tbl := lw_at lw_m2 164 rfl
theorem q883 : (Jvm.Cond.instanceMethod ({ cls := "KnowHouse$DatatypeValues$Writer", name := "<init>", desc := "()V" } : Jvm.MethodName)) ∈ lw_all := lw_g (lw_at lw_m2 165 rfl) rfl
theorem q884 : (Jvm.Cond.code ({ cls := "KnowHouse$DatatypeValues$Writer", name := "<init>", desc := "()V" } : Jvm.MethodName) prog_19_method_1_code (1 : Nat) (Option.none : Option Jvm.ClassFile.FieldType)) ∈ lw_all := lw_g (lw_at lw_m2 166 rfl) rfl
theorem q885 : (Jvm.Cond.methodLink "KnowHouse$DatatypeValues$Writer" (1 : Nat) ({ cls := "java/lang/Object", name := "<init>", desc := "()V" } : Jvm.MethodName)) ∈ lw_all := lw_g (lw_at lw_m2 167 rfl) rfl
theorem q886 : (Jvm.Cond.fieldLink "KnowHouse$DatatypeValues$Writer" (7 : Nat) "KnowHouse$DatatypeValues$Writer" "bytes" "[B") ∈ lw_all := lw_g (lw_at lw_m2 168 rfl) rfl
theorem q887 : (Jvm.Cond.fieldLinkNest "KnowHouse$DatatypeValues" (81 : Nat) "KnowHouse$DatatypeValues$Writer" "bytes" "[B" "KnowHouse") ∈ lw_tbl := lw_at lw_m2 169 rfl
theorem q888 : (Jvm.Cond.fieldLink "KnowHouse$DatatypeValues$Writer" (13 : Nat) "KnowHouse$DatatypeValues$Writer" "size" "I") ∈ lw_all := lw_g (lw_at lw_m2 170 rfl) rfl
theorem q889 : (Jvm.Cond.fieldLinkNest "KnowHouse$DatatypeValues" (76 : Nat) "KnowHouse$DatatypeValues$Writer" "size" "I" "KnowHouse") ∈ lw_tbl := lw_at lw_m2 171 rfl
theorem q895 : (Jvm.Cond.fieldLink "KnowHouse$DatatypeValues" (9 : Nat) "KnowHouse$DatatypeValues" "tape" "[B") ∈ lw_all := lw_g (lw_at lw_m2 177 rfl) rfl
theorem q896 : (Jvm.Cond.fieldLink "KnowHouse$DatatypeValues" (26 : Nat) "KnowHouse$DatatypeValues" "size" "I") ∈ lw_all := lw_g (lw_at lw_m2 178 rfl) rfl
theorem q897 : (Jvm.Cond.fieldLink "KnowHouse$DatatypeValues" (15 : Nat) "KnowHouse$DatatypeValues" "values" "[LKnowHouse$DatatypeValues$Value;") ∈ lw_all := lw_g (lw_at lw_m2 179 rfl) rfl
theorem q898 : (Jvm.Cond.fieldLink "KnowHouse$DatatypeValues" (30 : Nat) "KnowHouse$DatatypeValues" "count" "I") ∈ lw_all := lw_g (lw_at lw_m2 180 rfl) rfl
theorem q899 : (Jvm.Cond.fieldLink "KnowHouse$DatatypeValues" (22 : Nat) "KnowHouse$DatatypeValues" "writer" "LKnowHouse$DatatypeValues$Writer;") ∈ lw_all := lw_g (lw_at lw_m2 181 rfl) rfl
theorem q2422 : (Jvm.Cond.static ({ cls := "jdk/internal/util/Preconditions", name := "checkIndex", desc := "(IILjava/util/function/BiFunction;)I" } : Jvm.MethodName)) ∈ lw_all := lw_g (lw_at lw_m9 24 rfl) rfl
theorem q2423 : (Jvm.Cond.code ({ cls := "jdk/internal/util/Preconditions", name := "checkIndex", desc := "(IILjava/util/function/BiFunction;)I" } : Jvm.MethodName) prog_135_method_11_code (3 : Nat) (Option.some Jvm.ClassFile.FieldType.int)) ∈ lw_all := lw_g (lw_at lw_m9 25 rfl) rfl
theorem q2434 : (Jvm.Cond.instanceMethod ({ cls := "java/lang/String", name := "length", desc := "()I" } : Jvm.MethodName)) ∈ lw_all := lw_g (lw_at lw_m9 36 rfl) rfl
theorem q2435 : (Jvm.Cond.selects "java/lang/String" ({ cls := "java/lang/String", name := "length", desc := "()I" } : Jvm.MethodName) ({ cls := "java/lang/String", name := "length", desc := "()I" } : Jvm.MethodName)) ∈ lw_all := lw_g (lw_at lw_m9 37 rfl) rfl
theorem q2436 : (Jvm.Cond.code ({ cls := "java/lang/String", name := "length", desc := "()I" } : Jvm.MethodName) prog_110_method_54_code (1 : Nat) (Option.some Jvm.ClassFile.FieldType.int)) ∈ lw_all := lw_g (lw_at lw_m9 38 rfl) rfl
theorem q2437 : (Jvm.Cond.methodLink "java/lang/String" (335 : Nat) ({ cls := "java/lang/String", name := "coder", desc := "()B" } : Jvm.MethodName)) ∈ lw_all := lw_g (lw_at lw_m9 39 rfl) rfl
theorem q2438 : (Jvm.Cond.instanceMethod ({ cls := "java/lang/String", name := "coder", desc := "()B" } : Jvm.MethodName)) ∈ lw_all := lw_g (lw_at lw_m9 40 rfl) rfl
theorem q2439 : (Jvm.Cond.selects "java/lang/String" ({ cls := "java/lang/String", name := "coder", desc := "()B" } : Jvm.MethodName) ({ cls := "java/lang/String", name := "coder", desc := "()B" } : Jvm.MethodName)) ∈ lw_all := lw_g (lw_at lw_m9 41 rfl) rfl
theorem q2440 : (Jvm.Cond.code ({ cls := "java/lang/String", name := "coder", desc := "()B" } : Jvm.MethodName) prog_110_method_152_code (1 : Nat) (Option.some Jvm.ClassFile.FieldType.byte)) ∈ lw_all := lw_g (lw_at lw_m9 42 rfl) rfl
theorem q2441 : (Jvm.Cond.fieldLink "java/lang/String" (38 : Nat) "java/lang/String" "COMPACT_STRINGS" "Z") ∈ lw_all := lw_g (lw_at lw_m9 43 rfl) rfl
theorem q2444 : (Jvm.Cond.instanceMethod ({ cls := "java/lang/String", name := "charAt", desc := "(I)C" } : Jvm.MethodName)) ∈ lw_all := lw_g (lw_at lw_m9 46 rfl) rfl
theorem q2445 : (Jvm.Cond.selects "java/lang/String" ({ cls := "java/lang/String", name := "charAt", desc := "(I)C" } : Jvm.MethodName) ({ cls := "java/lang/String", name := "charAt", desc := "(I)C" } : Jvm.MethodName)) ∈ lw_all := lw_g (lw_at lw_m9 47 rfl) rfl
theorem q2446 : (Jvm.Cond.code ({ cls := "java/lang/String", name := "charAt", desc := "(I)C" } : Jvm.MethodName) prog_110_method_56_code (2 : Nat) (Option.some Jvm.ClassFile.FieldType.char)) ∈ lw_all := lw_g (lw_at lw_m9 48 rfl) rfl
theorem q2447 : (Jvm.Cond.methodLink "java/lang/String" (492 : Nat) ({ cls := "java/lang/String", name := "isLatin1", desc := "()Z" } : Jvm.MethodName)) ∈ lw_all := lw_g (lw_at lw_m9 49 rfl) rfl
theorem q2448 : (Jvm.Cond.instanceMethod ({ cls := "java/lang/String", name := "isLatin1", desc := "()Z" } : Jvm.MethodName)) ∈ lw_all := lw_g (lw_at lw_m9 50 rfl) rfl
theorem q2449 : (Jvm.Cond.selects "java/lang/String" ({ cls := "java/lang/String", name := "isLatin1", desc := "()Z" } : Jvm.MethodName) ({ cls := "java/lang/String", name := "isLatin1", desc := "()Z" } : Jvm.MethodName)) ∈ lw_all := lw_g (lw_at lw_m9 51 rfl) rfl
theorem q2450 : (Jvm.Cond.code ({ cls := "java/lang/String", name := "isLatin1", desc := "()Z" } : Jvm.MethodName) prog_110_method_154_code (1 : Nat) (Option.some Jvm.ClassFile.FieldType.boolean)) ∈ lw_all := lw_g (lw_at lw_m9 52 rfl) rfl
theorem q2451 : (Jvm.Cond.methodLink "java/lang/String" (495 : Nat) ({ cls := "java/lang/StringLatin1", name := "charAt", desc := "([BI)C" } : Jvm.MethodName)) ∈ lw_all := lw_g (lw_at lw_m9 53 rfl) rfl
theorem q2452 : (Jvm.Cond.static ({ cls := "java/lang/StringLatin1", name := "charAt", desc := "([BI)C" } : Jvm.MethodName)) ∈ lw_all := lw_g (lw_at lw_m9 54 rfl) rfl
theorem q2453 : (Jvm.Cond.code ({ cls := "java/lang/StringLatin1", name := "charAt", desc := "([BI)C" } : Jvm.MethodName) prog_112_method_2_code (2 : Nat) (Option.some Jvm.ClassFile.FieldType.char)) ∈ lw_all := lw_g (lw_at lw_m9 55 rfl) rfl
theorem q2454 : (Jvm.Cond.methodLink "java/lang/StringLatin1" (9 : Nat) ({ cls := "java/lang/String", name := "checkIndex", desc := "(II)V" } : Jvm.MethodName)) ∈ lw_all := lw_g (lw_at lw_m9 56 rfl) rfl
theorem q2455 : (Jvm.Cond.static ({ cls := "java/lang/String", name := "checkIndex", desc := "(II)V" } : Jvm.MethodName)) ∈ lw_all := lw_g (lw_at lw_m9 57 rfl) rfl
theorem q2456 : (Jvm.Cond.code ({ cls := "java/lang/String", name := "checkIndex", desc := "(II)V" } : Jvm.MethodName) prog_110_method_155_code (2 : Nat) (Option.none : Option Jvm.ClassFile.FieldType)) ∈ lw_all := lw_g (lw_at lw_m9 58 rfl) rfl
theorem q2457 : (Jvm.Cond.fieldLink "java/lang/String" (1053 : Nat) "jdk/internal/util/Preconditions" "SIOOBE_FORMATTER" "Ljava/util/function/BiFunction;") ∈ lw_all := lw_g (lw_at lw_m9 59 rfl) rfl
theorem q2459 : (Jvm.Cond.methodLink "java/lang/String" (1059 : Nat) ({ cls := "jdk/internal/util/Preconditions", name := "checkIndex", desc := "(IILjava/util/function/BiFunction;)I" } : Jvm.MethodName)) ∈ lw_all := lw_g (lw_at lw_m9 61 rfl) rfl
theorem q4029 : (Jvm.Cond.classLink "KnowHouse$DatatypeValues" (33 : Nat) "KnowHouse$DatatypeValues$Reader") ∈ lw_all := lw_g (lw_at lw_m15 191 rfl) rfl
theorem q4030 : (Jvm.Cond.instantiable "KnowHouse$DatatypeValues$Reader" (5 : Nat)) ∈ lw_all := lw_g (lw_at lw_m15 192 rfl) rfl
theorem q4031 : (Jvm.Cond.methodLink "KnowHouse$DatatypeValues" (35 : Nat) ({ cls := "KnowHouse$DatatypeValues$Reader", name := "<init>", desc := "([BI)V" } : Jvm.MethodName)) ∈ lw_all := lw_g (lw_at lw_m15 193 rfl) rfl
theorem q4032 : (Jvm.Cond.instanceMethod ({ cls := "KnowHouse$DatatypeValues$Reader", name := "<init>", desc := "([BI)V" } : Jvm.MethodName)) ∈ lw_all := lw_g (lw_at lw_m15 194 rfl) rfl
theorem q4033 : (Jvm.Cond.code ({ cls := "KnowHouse$DatatypeValues$Reader", name := "<init>", desc := "([BI)V" } : Jvm.MethodName) prog_13_method_1_code (3 : Nat) (Option.none : Option Jvm.ClassFile.FieldType)) ∈ lw_all := lw_g (lw_at lw_m15 195 rfl) rfl
theorem q4034 : (Jvm.Cond.methodLink "KnowHouse$DatatypeValues$Reader" (3 : Nat) ({ cls := "java/lang/Object", name := "<init>", desc := "()V" } : Jvm.MethodName)) ∈ lw_all := lw_g (lw_at lw_m15 196 rfl) rfl
theorem q4035 : (Jvm.Cond.classLink "KnowHouse$DatatypeValues$Reader" (9 : Nat) "java/lang/IllegalStateException") ∈ lw_all := lw_g (lw_at lw_m15 197 rfl) rfl
theorem q4038 : (Jvm.Cond.fieldLink "KnowHouse$DatatypeValues$Reader" (21 : Nat) "KnowHouse$DatatypeValues$Reader" "tape" "[B") ∈ lw_all := lw_g (lw_at lw_m15 200 rfl) rfl
theorem q4039 : (Jvm.Cond.fieldLink "KnowHouse$DatatypeValues$Reader" (25 : Nat) "KnowHouse$DatatypeValues$Reader" "size" "I") ∈ lw_all := lw_g (lw_at lw_m15 201 rfl) rfl
theorem q4040 : (Jvm.Cond.fieldLink "KnowHouse$DatatypeValues$Reader" (32 : Nat) "KnowHouse$DatatypeValues$Reader" "at" "I") ∈ lw_all := lw_g (lw_at lw_m15 202 rfl) rfl
theorem q4041 : (Jvm.Cond.fieldLink "KnowHouse$DatatypeValues$Reader" (16 : Nat) "KnowHouse$DatatypeValues$Reader" "wrong" "Ljava/lang/IllegalStateException;") ∈ lw_all := lw_g (lw_at lw_m15 203 rfl) rfl
theorem q4042 : (Jvm.Cond.fieldLink "KnowHouse$DatatypeValues$Reader" (29 : Nat) "KnowHouse$DatatypeValues$Reader" "place" "I") ∈ lw_all := lw_g (lw_at lw_m15 204 rfl) rfl
theorem q4043 : (Jvm.Cond.fieldLinkNest "KnowHouse$DatatypeValues" (42 : Nat) "KnowHouse$DatatypeValues$Reader" "place" "I" "KnowHouse") ∈ lw_tbl := lw_at lw_m15 205 rfl
theorem q4055 : (Jvm.Cond.methodLink "KnowHouse$DatatypeValues" (38 : Nat) ({ cls := "KnowHouse$DatatypeValues$Reader", name := "read", desc := "(I)LKnowHouse$DatatypeValues$Value;" } : Jvm.MethodName)) ∈ lw_all := lw_g (lw_at lw_m15 217 rfl) rfl
theorem q4056 : (Jvm.Cond.instanceMethod ({ cls := "KnowHouse$DatatypeValues$Reader", name := "read", desc := "(I)LKnowHouse$DatatypeValues$Value;" } : Jvm.MethodName)) ∈ lw_all := lw_g (lw_at lw_m15 218 rfl) rfl
theorem q4057 : (Jvm.Cond.selects "KnowHouse$DatatypeValues$Reader" ({ cls := "KnowHouse$DatatypeValues$Reader", name := "read", desc := "(I)LKnowHouse$DatatypeValues$Value;" } : Jvm.MethodName) ({ cls := "KnowHouse$DatatypeValues$Reader", name := "read", desc := "(I)LKnowHouse$DatatypeValues$Value;" } : Jvm.MethodName)) ∈ lw_all := lw_g (lw_at lw_m15 219 rfl) rfl
theorem q4058 : (Jvm.Cond.codeWith ({ cls := "KnowHouse$DatatypeValues$Reader", name := "read", desc := "(I)LKnowHouse$DatatypeValues$Value;" } : Jvm.MethodName) prog_13_method_9_code (3 : Nat) (Option.some (Jvm.ClassFile.FieldType.object "KnowHouse$DatatypeValues$Value")) [((0 : Nat), (31 : Nat), (32 : Nat), (9 : Nat))]) ∈ lw_all := lw_g (lw_at lw_m15 220 rfl) rfl
theorem q4059 : (Jvm.Cond.methodLink "KnowHouse$DatatypeValues$Reader" (59 : Nat) ({ cls := "KnowHouse$DatatypeValues$Reader", name := "value", desc := "(I)LKnowHouse$DatatypeValues$Value;" } : Jvm.MethodName)) ∈ lw_all := lw_g (lw_at lw_m15 221 rfl) rfl
theorem q4061 : (Jvm.Cond.instanceMethod ({ cls := "KnowHouse$DatatypeValues$Reader", name := "value", desc := "(I)LKnowHouse$DatatypeValues$Value;" } : Jvm.MethodName)) ∈ lw_all := lw_g (lw_at lw_m15 223 rfl) rfl
theorem q4062 : (Jvm.Cond.code ({ cls := "KnowHouse$DatatypeValues$Reader", name := "value", desc := "(I)LKnowHouse$DatatypeValues$Value;" } : Jvm.MethodName) prog_13_method_10_code (2 : Nat) (Option.some (Jvm.ClassFile.FieldType.object "KnowHouse$DatatypeValues$Value"))) ∈ lw_all := lw_g (lw_at lw_m15 224 rfl) rfl
theorem q4063 : (Jvm.Cond.methodLink "KnowHouse$DatatypeValues$Reader" (63 : Nat) ({ cls := "KnowHouse$DatatypeValues$Reader", name := "number", desc := "(I)LKnowHouse$DatatypeValues$Value;" } : Jvm.MethodName)) ∈ lw_all := lw_g (lw_at lw_m15 225 rfl) rfl
theorem q4065 : (Jvm.Cond.instanceMethod ({ cls := "KnowHouse$DatatypeValues$Reader", name := "number", desc := "(I)LKnowHouse$DatatypeValues$Value;" } : Jvm.MethodName)) ∈ lw_all := lw_g (lw_at lw_m15 227 rfl) rfl
theorem q4066 : (Jvm.Cond.code ({ cls := "KnowHouse$DatatypeValues$Reader", name := "number", desc := "(I)LKnowHouse$DatatypeValues$Value;" } : Jvm.MethodName) prog_13_method_11_code (8 : Nat) (Option.some (Jvm.ClassFile.FieldType.object "KnowHouse$DatatypeValues$Value"))) ∈ lw_all := lw_g (lw_at lw_m15 228 rfl) rfl
theorem q4067 : (Jvm.Cond.methodLink "KnowHouse$DatatypeValues$Reader" (39 : Nat) ({ cls := "KnowHouse$DatatypeValues$Reader", name := "takes", desc := "(I)Z" } : Jvm.MethodName)) ∈ lw_all := lw_g (lw_at lw_m15 229 rfl) rfl
theorem q4069 : (Jvm.Cond.instanceMethod ({ cls := "KnowHouse$DatatypeValues$Reader", name := "takes", desc := "(I)Z" } : Jvm.MethodName)) ∈ lw_all := lw_g (lw_at lw_m15 231 rfl) rfl
theorem q4070 : (Jvm.Cond.code ({ cls := "KnowHouse$DatatypeValues$Reader", name := "takes", desc := "(I)Z" } : Jvm.MethodName) prog_13_method_5_code (2 : Nat) (Option.some Jvm.ClassFile.FieldType.boolean)) ∈ lw_all := lw_g (lw_at lw_m15 232 rfl) rfl
theorem q4071 : (Jvm.Cond.methodLink "KnowHouse$DatatypeValues$Reader" (35 : Nat) ({ cls := "KnowHouse$DatatypeValues$Reader", name := "here", desc := "()I" } : Jvm.MethodName)) ∈ lw_all := lw_g (lw_at lw_m15 233 rfl) rfl
theorem q4073 : (Jvm.Cond.instanceMethod ({ cls := "KnowHouse$DatatypeValues$Reader", name := "here", desc := "()I" } : Jvm.MethodName)) ∈ lw_all := lw_g (lw_at lw_m15 235 rfl) rfl
theorem q4074 : (Jvm.Cond.code ({ cls := "KnowHouse$DatatypeValues$Reader", name := "here", desc := "()I" } : Jvm.MethodName) prog_13_method_3_code (1 : Nat) (Option.some Jvm.ClassFile.FieldType.int)) ∈ lw_all := lw_g (lw_at lw_m15 236 rfl) rfl
theorem q4075 : (Jvm.Cond.methodLink "KnowHouse$DatatypeValues$Reader" (55 : Nat) ({ cls := "KnowHouse$DatatypeValues$Reader", name := "digits", desc := "(II)J" } : Jvm.MethodName)) ∈ lw_all := lw_g (lw_at lw_m15 237 rfl) rfl
theorem q4077 : (Jvm.Cond.instanceMethod ({ cls := "KnowHouse$DatatypeValues$Reader", name := "digits", desc := "(II)J" } : Jvm.MethodName)) ∈ lw_all := lw_g (lw_at lw_m15 239 rfl) rfl
theorem q4078 : (Jvm.Cond.code ({ cls := "KnowHouse$DatatypeValues$Reader", name := "digits", desc := "(II)J" } : Jvm.MethodName) prog_13_method_7_code (6 : Nat) (Option.some Jvm.ClassFile.FieldType.long)) ∈ lw_all := lw_g (lw_at lw_m16 0 rfl) rfl
theorem q4079 : (Jvm.Cond.methodLink "KnowHouse$DatatypeValues$Reader" (47 : Nat) ({ cls := "KnowHouse$DatatypeValues$Reader", name := "isDigit", desc := "()Z" } : Jvm.MethodName)) ∈ lw_all := lw_g (lw_at lw_m16 1 rfl) rfl
theorem q4081 : (Jvm.Cond.instanceMethod ({ cls := "KnowHouse$DatatypeValues$Reader", name := "isDigit", desc := "()Z" } : Jvm.MethodName)) ∈ lw_all := lw_g (lw_at lw_m16 3 rfl) rfl
theorem q4082 : (Jvm.Cond.code ({ cls := "KnowHouse$DatatypeValues$Reader", name := "isDigit", desc := "()Z" } : Jvm.MethodName) prog_13_method_4_code (1 : Nat) (Option.some Jvm.ClassFile.FieldType.boolean)) ∈ lw_all := lw_g (lw_at lw_m16 4 rfl) rfl
theorem q4083 : (Jvm.Cond.constantLong "KnowHouse$DatatypeValues$Reader" (51 : Nat) (10 : Int64)) ∈ lw_all := lw_g (lw_at lw_m16 5 rfl) rfl
theorem q4084 : (Jvm.Cond.constantLong "KnowHouse$DatatypeValues$Reader" (53 : Nat) (48 : Int64)) ∈ lw_all := lw_g (lw_at lw_m16 6 rfl) rfl
theorem q4085 : (Jvm.Cond.methodLink "KnowHouse$DatatypeValues$Reader" (43 : Nat) ({ cls := "KnowHouse$DatatypeValues$Reader", name := "need", desc := "(ZI)V" } : Jvm.MethodName)) ∈ lw_all := lw_g (lw_at lw_m16 7 rfl) rfl
theorem q4087 : (Jvm.Cond.instanceMethod ({ cls := "KnowHouse$DatatypeValues$Reader", name := "need", desc := "(ZI)V" } : Jvm.MethodName)) ∈ lw_all := lw_g (lw_at lw_m16 9 rfl) rfl
theorem q4088 : (Jvm.Cond.code ({ cls := "KnowHouse$DatatypeValues$Reader", name := "need", desc := "(ZI)V" } : Jvm.MethodName) prog_13_method_2_code (3 : Nat) (Option.none : Option Jvm.ClassFile.FieldType)) ∈ lw_all := lw_g (lw_at lw_m16 10 rfl) rfl
theorem q4089 : (Jvm.Cond.constantLong "KnowHouse$DatatypeValues$Reader" (85 : Nat) (-128 : Int64)) ∈ lw_all := lw_g (lw_at lw_m16 11 rfl) rfl
theorem q4090 : (Jvm.Cond.constantLong "KnowHouse$DatatypeValues$Reader" (87 : Nat) (127 : Int64)) ∈ lw_all := lw_g (lw_at lw_m16 12 rfl) rfl
theorem q4091 : (Jvm.Cond.classLink "KnowHouse$DatatypeValues$Reader" (89 : Nat) "KnowHouse$DatatypeValues$Number") ∈ lw_all := lw_g (lw_at lw_m16 13 rfl) rfl
theorem q4092 : (Jvm.Cond.instantiable "KnowHouse$DatatypeValues$Number" (3 : Nat)) ∈ lw_all := lw_g (lw_at lw_m16 14 rfl) rfl
theorem q4093 : (Jvm.Cond.methodLink "KnowHouse$DatatypeValues$Reader" (91 : Nat) ({ cls := "KnowHouse$DatatypeValues$Number", name := "<init>", desc := "(IJJ)V" } : Jvm.MethodName)) ∈ lw_all := lw_g (lw_at lw_m16 15 rfl) rfl
theorem q4094 : (Jvm.Cond.instanceMethod ({ cls := "KnowHouse$DatatypeValues$Number", name := "<init>", desc := "(IJJ)V" } : Jvm.MethodName)) ∈ lw_all := lw_g (lw_at lw_m16 16 rfl) rfl
theorem q4095 : (Jvm.Cond.code ({ cls := "KnowHouse$DatatypeValues$Number", name := "<init>", desc := "(IJJ)V" } : Jvm.MethodName) prog_12_method_1_code (12 : Nat) (Option.none : Option Jvm.ClassFile.FieldType)) ∈ lw_all := lw_g (lw_at lw_m16 17 rfl) rfl
theorem q4096 : (Jvm.Cond.methodLink "KnowHouse$DatatypeValues$Number" (1 : Nat) ({ cls := "KnowHouse$DatatypeValues$Value", name := "<init>", desc := "(I)V" } : Jvm.MethodName)) ∈ lw_all := lw_g (lw_at lw_m16 18 rfl) rfl
theorem q4097 : (Jvm.Cond.instanceMethod ({ cls := "KnowHouse$DatatypeValues$Value", name := "<init>", desc := "(I)V" } : Jvm.MethodName)) ∈ lw_all := lw_g (lw_at lw_m16 19 rfl) rfl
theorem q4098 : (Jvm.Cond.code ({ cls := "KnowHouse$DatatypeValues$Value", name := "<init>", desc := "(I)V" } : Jvm.MethodName) prog_18_method_1_code (2 : Nat) (Option.none : Option Jvm.ClassFile.FieldType)) ∈ lw_all := lw_g (lw_at lw_m16 20 rfl) rfl
theorem q4099 : (Jvm.Cond.methodLink "KnowHouse$DatatypeValues$Value" (1 : Nat) ({ cls := "java/lang/Object", name := "<init>", desc := "()V" } : Jvm.MethodName)) ∈ lw_all := lw_g (lw_at lw_m16 21 rfl) rfl
theorem q4100 : (Jvm.Cond.methodLink "KnowHouse$DatatypeValues$Number" (7 : Nat) ({ cls := "java/lang/Math", name := "abs", desc := "(J)J" } : Jvm.MethodName)) ∈ lw_all := lw_g (lw_at lw_m16 22 rfl) rfl
theorem q4101 : (Jvm.Cond.static ({ cls := "java/lang/Math", name := "abs", desc := "(J)J" } : Jvm.MethodName)) ∈ lw_all := lw_g (lw_at lw_m16 23 rfl) rfl
theorem q4102 : (Jvm.Cond.code ({ cls := "java/lang/Math", name := "abs", desc := "(J)J" } : Jvm.MethodName) prog_106_method_61_code (2 : Nat) (Option.some Jvm.ClassFile.FieldType.long)) ∈ lw_all := lw_g (lw_at lw_m16 24 rfl) rfl
theorem q4103 : (Jvm.Cond.fieldLink "KnowHouse$DatatypeValues$Number" (13 : Nat) "KnowHouse$DatatypeValues$Number" "upper" "J") ∈ lw_all := lw_g (lw_at lw_m16 25 rfl) rfl
theorem q4104 : (Jvm.Cond.fieldLinkNest "KnowHouse$DatatypeValues" (64 : Nat) "KnowHouse$DatatypeValues$Number" "upper" "J" "KnowHouse") ∈ lw_tbl := lw_at lw_m16 26 rfl
theorem q4105 : (Jvm.Cond.fieldLink "KnowHouse$DatatypeValues$Number" (19 : Nat) "KnowHouse$DatatypeValues$Number" "lower" "J") ∈ lw_all := lw_g (lw_at lw_m16 27 rfl) rfl
theorem q4106 : (Jvm.Cond.fieldLinkNest "KnowHouse$DatatypeValues" (68 : Nat) "KnowHouse$DatatypeValues$Number" "lower" "J" "KnowHouse") ∈ lw_tbl := lw_at lw_m16 28 rfl
theorem q4107 : (Jvm.Cond.fieldLink "KnowHouse$DatatypeValues$Value" (7 : Nat) "KnowHouse$DatatypeValues$Value" "kind" "I") ∈ lw_all := lw_g (lw_at lw_m16 29 rfl) rfl
theorem q4108 : (Jvm.Cond.fieldLink "KnowHouse$DatatypeValues$Row" (15 : Nat) "KnowHouse$DatatypeValues$Row" "kind" "I") ∈ lw_all := lw_g (lw_at lw_m16 30 rfl) rfl
theorem q4109 : (Jvm.Cond.sameField "KnowHouse$DatatypeValues$Row" "KnowHouse$DatatypeValues$Value" "kind" "I") ∈ lw_all := lw_g (lw_at lw_m16 31 rfl) rfl
theorem q4110 : (Jvm.Cond.fieldLink "KnowHouse$DatatypeValues$Time" (42 : Nat) "KnowHouse$DatatypeValues$Time" "kind" "I") ∈ lw_all := lw_g (lw_at lw_m16 32 rfl) rfl
theorem q4111 : (Jvm.Cond.sameField "KnowHouse$DatatypeValues$Time" "KnowHouse$DatatypeValues$Value" "kind" "I") ∈ lw_all := lw_g (lw_at lw_m16 33 rfl) rfl
theorem q4112 : (Jvm.Cond.fieldLink "KnowHouse$DatatypeValues$Time" (58 : Nat) "KnowHouse$DatatypeValues$Value" "kind" "I") ∈ lw_all := lw_g (lw_at lw_m16 34 rfl) rfl
theorem q4113 : (Jvm.Cond.fieldLink "KnowHouse$DatatypeValues" (52 : Nat) "KnowHouse$DatatypeValues$Value" "kind" "I") ∈ lw_all := lw_g (lw_at lw_m16 35 rfl) rfl
theorem q4114 : (Jvm.Cond.fieldLink "KnowHouse$DatatypeValues" (99 : Nat) "KnowHouse$DatatypeValues$Time" "kind" "I") ∈ lw_all := lw_g (lw_at lw_m16 36 rfl) rfl
theorem q4122 : (Jvm.Cond.methodLink "KnowHouse$DatatypeValues$Reader" (66 : Nat) ({ cls := "KnowHouse$DatatypeValues$Reader", name := "truth", desc := "()LKnowHouse$DatatypeValues$Value;" } : Jvm.MethodName)) ∈ lw_all := lw_g (lw_at lw_m16 44 rfl) rfl
theorem q4124 : (Jvm.Cond.instanceMethod ({ cls := "KnowHouse$DatatypeValues$Reader", name := "truth", desc := "()LKnowHouse$DatatypeValues$Value;" } : Jvm.MethodName)) ∈ lw_all := lw_g (lw_at lw_m16 46 rfl) rfl
theorem q4125 : (Jvm.Cond.code ({ cls := "KnowHouse$DatatypeValues$Reader", name := "truth", desc := "()LKnowHouse$DatatypeValues$Value;" } : Jvm.MethodName) prog_13_method_12_code (4 : Nat) (Option.some (Jvm.ClassFile.FieldType.object "KnowHouse$DatatypeValues$Value"))) ∈ lw_all := lw_g (lw_at lw_m16 47 rfl) rfl
theorem q4126 : (Jvm.Cond.classLink "KnowHouse$DatatypeValues$Reader" (94 : Nat) "KnowHouse$DatatypeValues$Truth") ∈ lw_all := lw_g (lw_at lw_m16 48 rfl) rfl
theorem q4127 : (Jvm.Cond.instantiable "KnowHouse$DatatypeValues$Truth" (2 : Nat)) ∈ lw_all := lw_g (lw_at lw_m16 49 rfl) rfl
theorem q4128 : (Jvm.Cond.methodLink "KnowHouse$DatatypeValues$Reader" (96 : Nat) ({ cls := "KnowHouse$DatatypeValues$Truth", name := "<init>", desc := "(Z)V" } : Jvm.MethodName)) ∈ lw_all := lw_g (lw_at lw_m16 50 rfl) rfl
theorem q4129 : (Jvm.Cond.instanceMethod ({ cls := "KnowHouse$DatatypeValues$Truth", name := "<init>", desc := "(Z)V" } : Jvm.MethodName)) ∈ lw_all := lw_g (lw_at lw_m16 51 rfl) rfl
theorem q4130 : (Jvm.Cond.code ({ cls := "KnowHouse$DatatypeValues$Truth", name := "<init>", desc := "(Z)V" } : Jvm.MethodName) prog_17_method_1_code (2 : Nat) (Option.none : Option Jvm.ClassFile.FieldType)) ∈ lw_all := lw_g (lw_at lw_m16 52 rfl) rfl
theorem q4131 : (Jvm.Cond.methodLink "KnowHouse$DatatypeValues$Truth" (3 : Nat) ({ cls := "KnowHouse$DatatypeValues$Value", name := "<init>", desc := "(I)V" } : Jvm.MethodName)) ∈ lw_all := lw_g (lw_at lw_m16 53 rfl) rfl
theorem q4132 : (Jvm.Cond.fieldLink "KnowHouse$DatatypeValues$Truth" (9 : Nat) "KnowHouse$DatatypeValues$Truth" "is" "Z") ∈ lw_all := lw_g (lw_at lw_m16 54 rfl) rfl
theorem q4139 : (Jvm.Cond.methodLink "KnowHouse$DatatypeValues$Reader" (103 : Nat) ({ cls := "java/lang/String", name := "length", desc := "()I" } : Jvm.MethodName)) ∈ lw_all := lw_g (lw_at lw_m16 61 rfl) rfl
theorem q4140 : (Jvm.Cond.methodLink "KnowHouse$DatatypeValues$Reader" (108 : Nat) ({ cls := "java/lang/String", name := "charAt", desc := "(I)C" } : Jvm.MethodName)) ∈ lw_all := lw_g (lw_at lw_m16 62 rfl) rfl
theorem q4141 : (Jvm.Cond.methodLink "KnowHouse$DatatypeValues$Reader" (112 : Nat) ({ cls := "KnowHouse$DatatypeValues$Reader", name := "want", desc := "(I)V" } : Jvm.MethodName)) ∈ lw_all := lw_g (lw_at lw_m16 63 rfl) rfl
theorem q4143 : (Jvm.Cond.instanceMethod ({ cls := "KnowHouse$DatatypeValues$Reader", name := "want", desc := "(I)V" } : Jvm.MethodName)) ∈ lw_all := lw_g (lw_at lw_m16 65 rfl) rfl
theorem q4144 : (Jvm.Cond.code ({ cls := "KnowHouse$DatatypeValues$Reader", name := "want", desc := "(I)V" } : Jvm.MethodName) prog_13_method_6_code (2 : Nat) (Option.none : Option Jvm.ClassFile.FieldType)) ∈ lw_all := lw_g (lw_at lw_m16 66 rfl) rfl
theorem q4145 : (Jvm.Cond.methodLink "KnowHouse$DatatypeValues$Reader" (70 : Nat) ({ cls := "KnowHouse$DatatypeValues$Reader", name := "date", desc := "()LKnowHouse$DatatypeValues$Value;" } : Jvm.MethodName)) ∈ lw_all := lw_g (lw_at lw_m16 67 rfl) rfl
theorem q4147 : (Jvm.Cond.instanceMethod ({ cls := "KnowHouse$DatatypeValues$Reader", name := "date", desc := "()LKnowHouse$DatatypeValues$Value;" } : Jvm.MethodName)) ∈ lw_all := lw_g (lw_at lw_m16 69 rfl) rfl
theorem q4148 : (Jvm.Cond.code ({ cls := "KnowHouse$DatatypeValues$Reader", name := "date", desc := "()LKnowHouse$DatatypeValues$Value;" } : Jvm.MethodName) prog_13_method_15_code (3 : Nat) (Option.some (Jvm.ClassFile.FieldType.object "KnowHouse$DatatypeValues$Value"))) ∈ lw_all := lw_g (lw_at lw_m16 70 rfl) rfl
theorem q4149 : (Jvm.Cond.methodLink "KnowHouse$DatatypeValues$Reader" (129 : Nat) ({ cls := "KnowHouse$DatatypeValues$Reader", name := "day", desc := "()J" } : Jvm.MethodName)) ∈ lw_all := lw_g (lw_at lw_m16 71 rfl) rfl
theorem q4151 : (Jvm.Cond.instanceMethod ({ cls := "KnowHouse$DatatypeValues$Reader", name := "day", desc := "()J" } : Jvm.MethodName)) ∈ lw_all := lw_g (lw_at lw_m16 73 rfl) rfl
theorem q4152 : (Jvm.Cond.code ({ cls := "KnowHouse$DatatypeValues$Reader", name := "day", desc := "()J" } : Jvm.MethodName) prog_13_method_13_code (5 : Nat) (Option.some Jvm.ClassFile.FieldType.long)) ∈ lw_all := lw_g (lw_at lw_m16 74 rfl) rfl
theorem q4153 : (Jvm.Cond.methodLink "KnowHouse$DatatypeValues$Reader" (116 : Nat) ({ cls := "KnowHouse$DatatypeValues$Reader", name := "two", desc := "(II)I" } : Jvm.MethodName)) ∈ lw_all := lw_g (lw_at lw_m16 75 rfl) rfl
theorem q4155 : (Jvm.Cond.instanceMethod ({ cls := "KnowHouse$DatatypeValues$Reader", name := "two", desc := "(II)I" } : Jvm.MethodName)) ∈ lw_all := lw_g (lw_at lw_m16 77 rfl) rfl
theorem q4156 : (Jvm.Cond.code ({ cls := "KnowHouse$DatatypeValues$Reader", name := "two", desc := "(II)I" } : Jvm.MethodName) prog_13_method_8_code (5 : Nat) (Option.some Jvm.ClassFile.FieldType.int)) ∈ lw_all := lw_g (lw_at lw_m16 78 rfl) rfl
theorem q4157 : (Jvm.Cond.methodLink "KnowHouse$DatatypeValues$Reader" (120 : Nat) ({ cls := "KnowHouse$DatatypeValues$Days", name := "length", desc := "(JI)I" } : Jvm.MethodName)) ∈ lw_all := lw_g (lw_at lw_m16 79 rfl) rfl
theorem q4158 : (Jvm.Cond.static ({ cls := "KnowHouse$DatatypeValues$Days", name := "length", desc := "(JI)I" } : Jvm.MethodName)) ∈ lw_all := lw_g (lw_at lw_m16 80 rfl) rfl
theorem q4159 : (Jvm.Cond.code ({ cls := "KnowHouse$DatatypeValues$Days", name := "length", desc := "(JI)I" } : Jvm.MethodName) prog_11_method_5_code (3 : Nat) (Option.some Jvm.ClassFile.FieldType.int)) ∈ lw_all := lw_g (lw_at lw_m16 81 rfl) rfl
theorem q4160 : (Jvm.Cond.methodLink "KnowHouse$DatatypeValues$Days" (40 : Nat) ({ cls := "KnowHouse$DatatypeValues$Days", name := "isLeap", desc := "(J)Z" } : Jvm.MethodName)) ∈ lw_all := lw_g (lw_at lw_m16 82 rfl) rfl
theorem q4161 : (Jvm.Cond.static ({ cls := "KnowHouse$DatatypeValues$Days", name := "isLeap", desc := "(J)Z" } : Jvm.MethodName)) ∈ lw_all := lw_g (lw_at lw_m16 83 rfl) rfl
theorem q4162 : (Jvm.Cond.code ({ cls := "KnowHouse$DatatypeValues$Days", name := "isLeap", desc := "(J)Z" } : Jvm.MethodName) prog_11_method_4_code (2 : Nat) (Option.some Jvm.ClassFile.FieldType.boolean)) ∈ lw_all := lw_g (lw_at lw_m16 84 rfl) rfl
theorem q4163 : (Jvm.Cond.constantLong "KnowHouse$DatatypeValues$Days" (11 : Nat) (4 : Int64)) ∈ lw_all := lw_g (lw_at lw_m16 85 rfl) rfl
theorem q4164 : (Jvm.Cond.constantLong "KnowHouse$DatatypeValues$Days" (19 : Nat) (100 : Int64)) ∈ lw_all := lw_g (lw_at lw_m16 86 rfl) rfl
theorem q4165 : (Jvm.Cond.constantLong "KnowHouse$DatatypeValues$Days" (21 : Nat) (400 : Int64)) ∈ lw_all := lw_g (lw_at lw_m16 87 rfl) rfl
theorem q4166 : (Jvm.Cond.methodLink "KnowHouse$DatatypeValues$Reader" (125 : Nat) ({ cls := "KnowHouse$DatatypeValues$Days", name := "of", desc := "(JII)J" } : Jvm.MethodName)) ∈ lw_all := lw_g (lw_at lw_m16 88 rfl) rfl
theorem q4167 : (Jvm.Cond.static ({ cls := "KnowHouse$DatatypeValues$Days", name := "of", desc := "(JII)J" } : Jvm.MethodName)) ∈ lw_all := lw_g (lw_at lw_m16 89 rfl) rfl
theorem q4168 : (Jvm.Cond.code ({ cls := "KnowHouse$DatatypeValues$Days", name := "of", desc := "(JII)J" } : Jvm.MethodName) prog_11_method_2_code (7 : Nat) (Option.some Jvm.ClassFile.FieldType.long)) ∈ lw_all := lw_g (lw_at lw_m16 90 rfl) rfl
theorem q4169 : (Jvm.Cond.constantLong "KnowHouse$DatatypeValues$Days" (9 : Nat) (365 : Int64)) ∈ lw_all := lw_g (lw_at lw_m16 91 rfl) rfl
theorem q4170 : (Jvm.Cond.methodLink "KnowHouse$DatatypeValues$Days" (13 : Nat) ({ cls := "java/lang/Math", name := "floorDiv", desc := "(JJ)J" } : Jvm.MethodName)) ∈ lw_all := lw_g (lw_at lw_m16 92 rfl) rfl
theorem q4171 : (Jvm.Cond.static ({ cls := "java/lang/Math", name := "floorDiv", desc := "(JJ)J" } : Jvm.MethodName)) ∈ lw_all := lw_g (lw_at lw_m16 93 rfl) rfl
theorem q4172 : (Jvm.Cond.code ({ cls := "java/lang/Math", name := "floorDiv", desc := "(JJ)J" } : Jvm.MethodName) prog_106_method_49_code (6 : Nat) (Option.some Jvm.ClassFile.FieldType.long)) ∈ lw_all := lw_g (lw_at lw_m16 94 rfl) rfl
theorem q4173 : (Jvm.Cond.constantLong "KnowHouse$DatatypeValues$Days" (23 : Nat) (153 : Int64)) ∈ lw_all := lw_g (lw_at lw_m16 95 rfl) rfl
theorem q4174 : (Jvm.Cond.constantLong "KnowHouse$DatatypeValues$Days" (25 : Nat) (2 : Int64)) ∈ lw_all := lw_g (lw_at lw_m16 96 rfl) rfl
theorem q4175 : (Jvm.Cond.constantLong "KnowHouse$DatatypeValues$Days" (27 : Nat) (5 : Int64)) ∈ lw_all := lw_g (lw_at lw_m16 97 rfl) rfl
theorem q4176 : (Jvm.Cond.constantLong "KnowHouse$DatatypeValues$Days" (29 : Nat) (719469 : Int64)) ∈ lw_all := lw_g (lw_at lw_m16 98 rfl) rfl
theorem q4177 : (Jvm.Cond.classLink "KnowHouse$DatatypeValues$Reader" (133 : Nat) "KnowHouse$DatatypeValues$Time") ∈ lw_all := lw_g (lw_at lw_m16 99 rfl) rfl
theorem q4178 : (Jvm.Cond.instantiable "KnowHouse$DatatypeValues$Time" (3 : Nat)) ∈ lw_all := lw_g (lw_at lw_m16 100 rfl) rfl
theorem q4179 : (Jvm.Cond.constantLong "KnowHouse$DatatypeValues$Reader" (135 : Nat) (86400000 : Int64)) ∈ lw_all := lw_g (lw_at lw_m16 101 rfl) rfl
theorem q4180 : (Jvm.Cond.methodLink "KnowHouse$DatatypeValues$Reader" (137 : Nat) ({ cls := "KnowHouse$DatatypeValues$Reader", name := "zone", desc := "()I" } : Jvm.MethodName)) ∈ lw_all := lw_g (lw_at lw_m16 102 rfl) rfl
theorem q4182 : (Jvm.Cond.instanceMethod ({ cls := "KnowHouse$DatatypeValues$Reader", name := "zone", desc := "()I" } : Jvm.MethodName)) ∈ lw_all := lw_g (lw_at lw_m16 104 rfl) rfl
theorem q4183 : (Jvm.Cond.code ({ cls := "KnowHouse$DatatypeValues$Reader", name := "zone", desc := "()I" } : Jvm.MethodName) prog_13_method_14_code (4 : Nat) (Option.some Jvm.ClassFile.FieldType.int)) ∈ lw_all := lw_g (lw_at lw_m16 105 rfl) rfl
theorem q4184 : (Jvm.Cond.methodLink "KnowHouse$DatatypeValues$Reader" (140 : Nat) ({ cls := "KnowHouse$DatatypeValues$Time", name := "<init>", desc := "(IJI)V" } : Jvm.MethodName)) ∈ lw_all := lw_g (lw_at lw_m16 106 rfl) rfl
theorem q4185 : (Jvm.Cond.instanceMethod ({ cls := "KnowHouse$DatatypeValues$Time", name := "<init>", desc := "(IJI)V" } : Jvm.MethodName)) ∈ lw_all := lw_g (lw_at lw_m16 107 rfl) rfl
theorem q4186 : (Jvm.Cond.code ({ cls := "KnowHouse$DatatypeValues$Time", name := "<init>", desc := "(IJI)V" } : Jvm.MethodName) prog_16_method_1_code (5 : Nat) (Option.none : Option Jvm.ClassFile.FieldType)) ∈ lw_all := lw_g (lw_at lw_m16 108 rfl) rfl
theorem q4187 : (Jvm.Cond.methodLink "KnowHouse$DatatypeValues$Time" (3 : Nat) ({ cls := "KnowHouse$DatatypeValues$Value", name := "<init>", desc := "(I)V" } : Jvm.MethodName)) ∈ lw_all := lw_g (lw_at lw_m16 109 rfl) rfl
theorem q4188 : (Jvm.Cond.fieldLink "KnowHouse$DatatypeValues$Time" (9 : Nat) "KnowHouse$DatatypeValues$Time" "millis" "J") ∈ lw_all := lw_g (lw_at lw_m16 110 rfl) rfl
theorem q4189 : (Jvm.Cond.fieldLinkNest "KnowHouse$DatatypeValues" (113 : Nat) "KnowHouse$DatatypeValues$Time" "millis" "J" "KnowHouse") ∈ lw_tbl := lw_at lw_m16 111 rfl
theorem q4190 : (Jvm.Cond.fieldLink "KnowHouse$DatatypeValues$Time" (15 : Nat) "KnowHouse$DatatypeValues$Time" "zone" "I") ∈ lw_all := lw_g (lw_at lw_m16 112 rfl) rfl
theorem q4191 : (Jvm.Cond.fieldLinkNest "KnowHouse$DatatypeValues" (129 : Nat) "KnowHouse$DatatypeValues$Time" "zone" "I" "KnowHouse") ∈ lw_tbl := lw_at lw_m16 113 rfl
theorem q4198 : (Jvm.Cond.methodLink "KnowHouse$DatatypeValues$Reader" (73 : Nat) ({ cls := "KnowHouse$DatatypeValues$Reader", name := "instant", desc := "()LKnowHouse$DatatypeValues$Value;" } : Jvm.MethodName)) ∈ lw_all := lw_g (lw_at lw_m16 120 rfl) rfl
theorem q4200 : (Jvm.Cond.instanceMethod ({ cls := "KnowHouse$DatatypeValues$Reader", name := "instant", desc := "()LKnowHouse$DatatypeValues$Value;" } : Jvm.MethodName)) ∈ lw_all := lw_g (lw_at lw_m16 122 rfl) rfl
theorem q4201 : (Jvm.Cond.code ({ cls := "KnowHouse$DatatypeValues$Reader", name := "instant", desc := "()LKnowHouse$DatatypeValues$Value;" } : Jvm.MethodName) prog_13_method_16_code (9 : Nat) (Option.some (Jvm.ClassFile.FieldType.object "KnowHouse$DatatypeValues$Value"))) ∈ lw_all := lw_g (lw_at lw_m16 123 rfl) rfl
theorem q4202 : (Jvm.Cond.constantLong "KnowHouse$DatatypeValues$Reader" (143 : Nat) (9999 : Int64)) ∈ lw_all := lw_g (lw_at lw_m16 124 rfl) rfl
theorem q4203 : (Jvm.Cond.constantLong "KnowHouse$DatatypeValues$Reader" (145 : Nat) (1000 : Int64)) ∈ lw_all := lw_g (lw_at lw_m16 125 rfl) rfl
theorem q4204 : (Jvm.Cond.methodLink "KnowHouse$DatatypeValues$Reader" (147 : Nat) ({ cls := "java/lang/Math", name := "min", desc := "(II)I" } : Jvm.MethodName)) ∈ lw_all := lw_g (lw_at lw_m16 126 rfl) rfl
theorem q4205 : (Jvm.Cond.methodLink "KnowHouse$DatatypeValues$Reader" (152 : Nat) ({ cls := "KnowHouse$DatatypeValues$Reader", name := "fraction", desc := "()J" } : Jvm.MethodName)) ∈ lw_all := lw_g (lw_at lw_m16 127 rfl) rfl
theorem q4207 : (Jvm.Cond.instanceMethod ({ cls := "KnowHouse$DatatypeValues$Reader", name := "fraction", desc := "()J" } : Jvm.MethodName)) ∈ lw_all := lw_g (lw_at lw_m16 129 rfl) rfl
theorem q4208 : (Jvm.Cond.code ({ cls := "KnowHouse$DatatypeValues$Reader", name := "fraction", desc := "()J" } : Jvm.MethodName) prog_13_method_17_code (5 : Nat) (Option.some Jvm.ClassFile.FieldType.long)) ∈ lw_all := lw_g (lw_at lw_m16 130 rfl) rfl
theorem q4209 : (Jvm.Cond.constantLong "KnowHouse$DatatypeValues$Reader" (155 : Nat) (3600000 : Int64)) ∈ lw_all := lw_g (lw_at lw_m16 131 rfl) rfl
theorem q4210 : (Jvm.Cond.constantLong "KnowHouse$DatatypeValues$Reader" (157 : Nat) (60000 : Int64)) ∈ lw_all := lw_g (lw_at lw_m16 132 rfl) rfl
theorem q4211 : (Jvm.Cond.methodLink "KnowHouse$DatatypeValues$Reader" (76 : Nat) ({ cls := "KnowHouse$DatatypeValues$Reader", name := "span", desc := "()LKnowHouse$DatatypeValues$Value;" } : Jvm.MethodName)) ∈ lw_all := lw_g (lw_at lw_m16 133 rfl) rfl
theorem q4213 : (Jvm.Cond.instanceMethod ({ cls := "KnowHouse$DatatypeValues$Reader", name := "span", desc := "()LKnowHouse$DatatypeValues$Value;" } : Jvm.MethodName)) ∈ lw_all := lw_g (lw_at lw_m16 135 rfl) rfl
theorem q4214 : (Jvm.Cond.code ({ cls := "KnowHouse$DatatypeValues$Reader", name := "span", desc := "()LKnowHouse$DatatypeValues$Value;" } : Jvm.MethodName) prog_13_method_18_code (11 : Nat) (Option.some (Jvm.ClassFile.FieldType.object "KnowHouse$DatatypeValues$Value"))) ∈ lw_all := lw_g (lw_at lw_m16 136 rfl) rfl
theorem q4216 : (Jvm.Cond.constantLong "KnowHouse$DatatypeValues$Reader" (161 : Nat) (12 : Int64)) ∈ lw_all := lw_g (lw_at lw_m16 138 rfl) rfl
theorem q4217 : (Jvm.Cond.methodLink "KnowHouse$DatatypeValues$Reader" (163 : Nat) ({ cls := "KnowHouse$DatatypeValues$Reader", name := "clock", desc := "()J" } : Jvm.MethodName)) ∈ lw_all := lw_g (lw_at lw_m16 139 rfl) rfl
theorem q4219 : (Jvm.Cond.instanceMethod ({ cls := "KnowHouse$DatatypeValues$Reader", name := "clock", desc := "()J" } : Jvm.MethodName)) ∈ lw_all := lw_g (lw_at lw_m16 141 rfl) rfl
theorem q4220 : (Jvm.Cond.code ({ cls := "KnowHouse$DatatypeValues$Reader", name := "clock", desc := "()J" } : Jvm.MethodName) prog_13_method_19_code (7 : Nat) (Option.some Jvm.ClassFile.FieldType.long)) ∈ lw_all := lw_g (lw_at lw_m16 142 rfl) rfl
theorem q4222 : (Jvm.Cond.classLink "KnowHouse$DatatypeValues$Reader" (166 : Nat) "KnowHouse$DatatypeValues$Span") ∈ lw_all := lw_g (lw_at lw_m16 144 rfl) rfl
theorem q4223 : (Jvm.Cond.instantiable "KnowHouse$DatatypeValues$Span" (3 : Nat)) ∈ lw_all := lw_g (lw_at lw_m16 145 rfl) rfl
theorem q4224 : (Jvm.Cond.methodLink "KnowHouse$DatatypeValues$Reader" (168 : Nat) ({ cls := "KnowHouse$DatatypeValues$Span", name := "<init>", desc := "(JJ)V" } : Jvm.MethodName)) ∈ lw_all := lw_g (lw_at lw_m16 146 rfl) rfl
theorem q4225 : (Jvm.Cond.instanceMethod ({ cls := "KnowHouse$DatatypeValues$Span", name := "<init>", desc := "(JJ)V" } : Jvm.MethodName)) ∈ lw_all := lw_g (lw_at lw_m16 147 rfl) rfl
theorem q4226 : (Jvm.Cond.code ({ cls := "KnowHouse$DatatypeValues$Span", name := "<init>", desc := "(JJ)V" } : Jvm.MethodName) prog_15_method_1_code (5 : Nat) (Option.none : Option Jvm.ClassFile.FieldType)) ∈ lw_all := lw_g (lw_at lw_m16 148 rfl) rfl
theorem q4227 : (Jvm.Cond.methodLink "KnowHouse$DatatypeValues$Span" (3 : Nat) ({ cls := "KnowHouse$DatatypeValues$Value", name := "<init>", desc := "(I)V" } : Jvm.MethodName)) ∈ lw_all := lw_g (lw_at lw_m16 149 rfl) rfl
theorem q4228 : (Jvm.Cond.fieldLink "KnowHouse$DatatypeValues$Span" (9 : Nat) "KnowHouse$DatatypeValues$Span" "months" "J") ∈ lw_all := lw_g (lw_at lw_m16 150 rfl) rfl
theorem q4229 : (Jvm.Cond.fieldLinkNest "KnowHouse$DatatypeValues" (114 : Nat) "KnowHouse$DatatypeValues$Span" "months" "J" "KnowHouse") ∈ lw_tbl := lw_at lw_m16 151 rfl
theorem q4230 : (Jvm.Cond.fieldLink "KnowHouse$DatatypeValues$Span" (15 : Nat) "KnowHouse$DatatypeValues$Span" "millis" "J") ∈ lw_all := lw_g (lw_at lw_m16 152 rfl) rfl
theorem q4231 : (Jvm.Cond.fieldLinkNest "KnowHouse$DatatypeValues" (104 : Nat) "KnowHouse$DatatypeValues$Span" "millis" "J" "KnowHouse") ∈ lw_tbl := lw_at lw_m16 153 rfl
theorem q4238 : (Jvm.Cond.methodLink "KnowHouse$DatatypeValues$Reader" (79 : Nat) ({ cls := "KnowHouse$DatatypeValues$Reader", name := "hex", desc := "()LKnowHouse$DatatypeValues$Value;" } : Jvm.MethodName)) ∈ lw_all := lw_g (lw_at lw_m16 160 rfl) rfl
theorem q4240 : (Jvm.Cond.instanceMethod ({ cls := "KnowHouse$DatatypeValues$Reader", name := "hex", desc := "()LKnowHouse$DatatypeValues$Value;" } : Jvm.MethodName)) ∈ lw_all := lw_g (lw_at lw_m16 162 rfl) rfl
theorem q4241 : (Jvm.Cond.code ({ cls := "KnowHouse$DatatypeValues$Reader", name := "hex", desc := "()LKnowHouse$DatatypeValues$Value;" } : Jvm.MethodName) prog_13_method_21_code (3 : Nat) (Option.some (Jvm.ClassFile.FieldType.object "KnowHouse$DatatypeValues$Value"))) ∈ lw_all := lw_g (lw_at lw_m16 163 rfl) rfl
theorem q4242 : (Jvm.Cond.methodLink "KnowHouse$DatatypeValues$Reader" (173 : Nat) ({ cls := "KnowHouse$DatatypeValues$Reader", name := "nibble", desc := "()I" } : Jvm.MethodName)) ∈ lw_all := lw_g (lw_at lw_m16 164 rfl) rfl
theorem q4244 : (Jvm.Cond.instanceMethod ({ cls := "KnowHouse$DatatypeValues$Reader", name := "nibble", desc := "()I" } : Jvm.MethodName)) ∈ lw_all := lw_g (lw_at lw_m16 166 rfl) rfl
theorem q4245 : (Jvm.Cond.code ({ cls := "KnowHouse$DatatypeValues$Reader", name := "nibble", desc := "()I" } : Jvm.MethodName) prog_13_method_20_code (3 : Nat) (Option.some Jvm.ClassFile.FieldType.int)) ∈ lw_all := lw_g (lw_at lw_m16 167 rfl) rfl
theorem q4246 : (Jvm.Cond.classLink "KnowHouse$DatatypeValues$Reader" (176 : Nat) "KnowHouse$DatatypeValues$Row") ∈ lw_all := lw_g (lw_at lw_m16 168 rfl) rfl
theorem q4247 : (Jvm.Cond.instantiable "KnowHouse$DatatypeValues$Row" (2 : Nat)) ∈ lw_all := lw_g (lw_at lw_m16 169 rfl) rfl
theorem q4248 : (Jvm.Cond.methodLink "KnowHouse$DatatypeValues$Reader" (178 : Nat) ({ cls := "KnowHouse$DatatypeValues$Reader", name := "row", desc := "([BI)[B" } : Jvm.MethodName)) ∈ lw_all := lw_g (lw_at lw_m16 170 rfl) rfl
theorem q4249 : (Jvm.Cond.static ({ cls := "KnowHouse$DatatypeValues$Reader", name := "row", desc := "([BI)[B" } : Jvm.MethodName)) ∈ lw_all := lw_g (lw_at lw_m16 171 rfl) rfl
theorem q4250 : (Jvm.Cond.code ({ cls := "KnowHouse$DatatypeValues$Reader", name := "row", desc := "([BI)[B" } : Jvm.MethodName) prog_13_method_22_code (4 : Nat) (Option.some (Jvm.ClassFile.FieldType.array Jvm.ClassFile.FieldType.byte))) ∈ lw_all := lw_g (lw_at lw_m16 172 rfl) rfl
theorem q4251 : (Jvm.Cond.methodLink "KnowHouse$DatatypeValues$Reader" (182 : Nat) ({ cls := "KnowHouse$DatatypeValues$Row", name := "<init>", desc := "(I[B)V" } : Jvm.MethodName)) ∈ lw_all := lw_g (lw_at lw_m16 173 rfl) rfl
theorem q4252 : (Jvm.Cond.instanceMethod ({ cls := "KnowHouse$DatatypeValues$Row", name := "<init>", desc := "(I[B)V" } : Jvm.MethodName)) ∈ lw_all := lw_g (lw_at lw_m16 174 rfl) rfl
theorem q4253 : (Jvm.Cond.code ({ cls := "KnowHouse$DatatypeValues$Row", name := "<init>", desc := "(I[B)V" } : Jvm.MethodName) prog_14_method_1_code (3 : Nat) (Option.none : Option Jvm.ClassFile.FieldType)) ∈ lw_all := lw_g (lw_at lw_m16 175 rfl) rfl
theorem q4254 : (Jvm.Cond.methodLink "KnowHouse$DatatypeValues$Row" (3 : Nat) ({ cls := "KnowHouse$DatatypeValues$Value", name := "<init>", desc := "(I)V" } : Jvm.MethodName)) ∈ lw_all := lw_g (lw_at lw_m16 176 rfl) rfl
theorem q4255 : (Jvm.Cond.fieldLink "KnowHouse$DatatypeValues$Row" (9 : Nat) "KnowHouse$DatatypeValues$Row" "bytes" "[B") ∈ lw_all := lw_g (lw_at lw_m16 177 rfl) rfl
theorem q4256 : (Jvm.Cond.fieldLinkNest "KnowHouse$DatatypeValues" (73 : Nat) "KnowHouse$DatatypeValues$Row" "bytes" "[B" "KnowHouse") ∈ lw_tbl := lw_at lw_m16 178 rfl
theorem q4261 : (Jvm.Cond.methodLink "KnowHouse$DatatypeValues$Reader" (82 : Nat) ({ cls := "KnowHouse$DatatypeValues$Reader", name := "base", desc := "()LKnowHouse$DatatypeValues$Value;" } : Jvm.MethodName)) ∈ lw_all := lw_g (lw_at lw_m16 183 rfl) rfl
theorem q4263 : (Jvm.Cond.instanceMethod ({ cls := "KnowHouse$DatatypeValues$Reader", name := "base", desc := "()LKnowHouse$DatatypeValues$Value;" } : Jvm.MethodName)) ∈ lw_all := lw_g (lw_at lw_m16 185 rfl) rfl
theorem q4264 : (Jvm.Cond.code ({ cls := "KnowHouse$DatatypeValues$Reader", name := "base", desc := "()LKnowHouse$DatatypeValues$Value;" } : Jvm.MethodName) prog_13_method_24_code (5 : Nat) (Option.some (Jvm.ClassFile.FieldType.object "KnowHouse$DatatypeValues$Value"))) ∈ lw_all := lw_g (lw_at lw_m16 186 rfl) rfl
theorem q4265 : (Jvm.Cond.methodLink "KnowHouse$DatatypeValues$Reader" (191 : Nat) ({ cls := "KnowHouse$DatatypeValues$Reader", name := "letter", desc := "()I" } : Jvm.MethodName)) ∈ lw_all := lw_g (lw_at lw_m16 187 rfl) rfl
theorem q4267 : (Jvm.Cond.instanceMethod ({ cls := "KnowHouse$DatatypeValues$Reader", name := "letter", desc := "()I" } : Jvm.MethodName)) ∈ lw_all := lw_g (lw_at lw_m16 189 rfl) rfl
theorem q4268 : (Jvm.Cond.code ({ cls := "KnowHouse$DatatypeValues$Reader", name := "letter", desc := "()I" } : Jvm.MethodName) prog_13_method_23_code (2 : Nat) (Option.some Jvm.ClassFile.FieldType.int)) ∈ lw_all := lw_g (lw_at lw_m16 190 rfl) rfl
theorem q4270 : (Jvm.Cond.methodLink "KnowHouse$DatatypeValues$Reader" (187 : Nat) ({ cls := "java/lang/String", name := "indexOf", desc := "(I)I" } : Jvm.MethodName)) ∈ lw_all := lw_g (lw_at lw_m16 192 rfl) rfl
theorem q4271 : (Jvm.Cond.instanceMethod ({ cls := "java/lang/String", name := "indexOf", desc := "(I)I" } : Jvm.MethodName)) ∈ lw_all := lw_g (lw_at lw_m16 193 rfl) rfl
theorem q4272 : (Jvm.Cond.selects "java/lang/String" ({ cls := "java/lang/String", name := "indexOf", desc := "(I)I" } : Jvm.MethodName) ({ cls := "java/lang/String", name := "indexOf", desc := "(I)I" } : Jvm.MethodName)) ∈ lw_all := lw_g (lw_at lw_m16 194 rfl) rfl
theorem q4273 : (Jvm.Cond.code ({ cls := "java/lang/String", name := "indexOf", desc := "(I)I" } : Jvm.MethodName) prog_110_method_79_code (2 : Nat) (Option.some Jvm.ClassFile.FieldType.int)) ∈ lw_all := lw_g (lw_at lw_m16 195 rfl) rfl
theorem q4274 : (Jvm.Cond.methodLink "java/lang/String" (633 : Nat) ({ cls := "java/lang/String", name := "indexOf", desc := "(II)I" } : Jvm.MethodName)) ∈ lw_all := lw_g (lw_at lw_m16 196 rfl) rfl
theorem q4275 : (Jvm.Cond.instanceMethod ({ cls := "java/lang/String", name := "indexOf", desc := "(II)I" } : Jvm.MethodName)) ∈ lw_all := lw_g (lw_at lw_m16 197 rfl) rfl
theorem q4276 : (Jvm.Cond.selects "java/lang/String" ({ cls := "java/lang/String", name := "indexOf", desc := "(II)I" } : Jvm.MethodName) ({ cls := "java/lang/String", name := "indexOf", desc := "(II)I" } : Jvm.MethodName)) ∈ lw_all := lw_g (lw_at lw_m16 198 rfl) rfl
theorem q4277 : (Jvm.Cond.code ({ cls := "java/lang/String", name := "indexOf", desc := "(II)I" } : Jvm.MethodName) prog_110_method_80_code (3 : Nat) (Option.some Jvm.ClassFile.FieldType.int)) ∈ lw_all := lw_g (lw_at lw_m16 199 rfl) rfl
theorem q4278 : (Jvm.Cond.methodLink "java/lang/String" (505 : Nat) ({ cls := "java/lang/String", name := "length", desc := "()I" } : Jvm.MethodName)) ∈ lw_all := lw_g (lw_at lw_m16 200 rfl) rfl
theorem q4279 : (Jvm.Cond.methodLink "java/lang/String" (637 : Nat) ({ cls := "java/lang/StringLatin1", name := "indexOf", desc := "([BIII)I" } : Jvm.MethodName)) ∈ lw_all := lw_g (lw_at lw_m16 201 rfl) rfl
theorem q4280 : (Jvm.Cond.static ({ cls := "java/lang/StringLatin1", name := "indexOf", desc := "([BIII)I" } : Jvm.MethodName)) ∈ lw_all := lw_g (lw_at lw_m16 202 rfl) rfl
theorem q4281 : (Jvm.Cond.code ({ cls := "java/lang/StringLatin1", name := "indexOf", desc := "([BIII)I" } : Jvm.MethodName) prog_112_method_22_code (4 : Nat) (Option.some Jvm.ClassFile.FieldType.int)) ∈ lw_all := lw_g (lw_at lw_m16 203 rfl) rfl
theorem q4282 : (Jvm.Cond.methodLink "java/lang/StringLatin1" (88 : Nat) ({ cls := "java/lang/StringLatin1", name := "canEncode", desc := "(I)Z" } : Jvm.MethodName)) ∈ lw_all := lw_g (lw_at lw_m16 204 rfl) rfl
theorem q4283 : (Jvm.Cond.static ({ cls := "java/lang/StringLatin1", name := "canEncode", desc := "(I)Z" } : Jvm.MethodName)) ∈ lw_all := lw_g (lw_at lw_m16 205 rfl) rfl
theorem q4284 : (Jvm.Cond.code ({ cls := "java/lang/StringLatin1", name := "canEncode", desc := "(I)Z" } : Jvm.MethodName) prog_112_method_4_code (1 : Nat) (Option.some Jvm.ClassFile.FieldType.boolean)) ∈ lw_all := lw_g (lw_at lw_m16 206 rfl) rfl
theorem q4285 : (Jvm.Cond.methodLink "java/lang/StringLatin1" (92 : Nat) ({ cls := "java/lang/Math", name := "max", desc := "(II)I" } : Jvm.MethodName)) ∈ lw_all := lw_g (lw_at lw_m16 207 rfl) rfl
theorem q4286 : (Jvm.Cond.methodLink "java/lang/StringLatin1" (38 : Nat) ({ cls := "java/lang/Math", name := "min", desc := "(II)I" } : Jvm.MethodName)) ∈ lw_all := lw_g (lw_at lw_m16 208 rfl) rfl
theorem q4287 : (Jvm.Cond.methodLink "java/lang/StringLatin1" (95 : Nat) ({ cls := "java/lang/StringLatin1", name := "indexOfChar", desc := "([BIII)I" } : Jvm.MethodName)) ∈ lw_all := lw_g (lw_at lw_m16 209 rfl) rfl
theorem q4288 : (Jvm.Cond.static ({ cls := "java/lang/StringLatin1", name := "indexOfChar", desc := "([BIII)I" } : Jvm.MethodName)) ∈ lw_all := lw_g (lw_at lw_m16 210 rfl) rfl
theorem q4289 : (Jvm.Cond.code ({ cls := "java/lang/StringLatin1", name := "indexOfChar", desc := "([BIII)I" } : Jvm.MethodName) prog_112_method_23_code (6 : Nat) (Option.some Jvm.ClassFile.FieldType.int)) ∈ lw_all := lw_g (lw_at lw_m16 211 rfl) rfl
theorem q4325 : (Jvm.Cond.methodLink "KnowHouse$DatatypeValues" (45 : Nat) ({ cls := "KnowHouse$DatatypeValues", name := "keep", desc := "(LKnowHouse$DatatypeValues$Value;)I" } : Jvm.MethodName)) ∈ lw_all := lw_g (lw_at lw_m17 7 rfl) rfl
theorem q4327 : (Jvm.Cond.instanceMethod ({ cls := "KnowHouse$DatatypeValues", name := "keep", desc := "(LKnowHouse$DatatypeValues$Value;)I" } : Jvm.MethodName)) ∈ lw_all := lw_g (lw_at lw_m17 9 rfl) rfl
theorem q4328 : (Jvm.Cond.code ({ cls := "KnowHouse$DatatypeValues", name := "keep", desc := "(LKnowHouse$DatatypeValues$Value;)I" } : Jvm.MethodName) prog_10_method_3_code (2 : Nat) (Option.some Jvm.ClassFile.FieldType.int)) ∈ lw_all := lw_g (lw_at lw_m17 10 rfl) rfl
theorem q4337 : (Jvm.Cond.methodLink "KnowHouse$DatatypeValues" (49 : Nat) ({ cls := "KnowHouse$DatatypeValues", name := "at", desc := "(I)LKnowHouse$DatatypeValues$Value;" } : Jvm.MethodName)) ∈ lw_all := lw_g (lw_at lw_m17 19 rfl) rfl
theorem q4339 : (Jvm.Cond.instanceMethod ({ cls := "KnowHouse$DatatypeValues", name := "at", desc := "(I)LKnowHouse$DatatypeValues$Value;" } : Jvm.MethodName)) ∈ lw_all := lw_g (lw_at lw_m17 21 rfl) rfl
theorem q4340 : (Jvm.Cond.code ({ cls := "KnowHouse$DatatypeValues", name := "at", desc := "(I)LKnowHouse$DatatypeValues$Value;" } : Jvm.MethodName) prog_10_method_6_code (2 : Nat) (Option.some (Jvm.ClassFile.FieldType.object "KnowHouse$DatatypeValues$Value"))) ∈ lw_all := lw_g (lw_at lw_m17 22 rfl) rfl
theorem q4345 : (Jvm.Cond.methodLink "KnowHouse$DatatypeValues" (55 : Nat) ({ cls := "KnowHouse$DatatypeValues$Value", name := "compare", desc := "(LKnowHouse$DatatypeValues$Value;)I" } : Jvm.MethodName)) ∈ lw_all := lw_g (lw_at lw_m17 27 rfl) rfl
theorem q4346 : (Jvm.Cond.declares ({ cls := "KnowHouse$DatatypeValues$Value", name := "compare", desc := "(LKnowHouse$DatatypeValues$Value;)I" } : Jvm.MethodName)) ∈ lw_tbl := lw_at lw_m17 28 rfl
theorem q4347 : (Jvm.Cond.sameMethod "KnowHouse$DatatypeValues$Value" "KnowHouse$DatatypeValues$Value" "compare" "(LKnowHouse$DatatypeValues$Value;)I") ∈ lw_all := lw_g (lw_at lw_m17 29 rfl) rfl
theorem q4348 : (Jvm.Cond.selects "KnowHouse$DatatypeValues$Number" ({ cls := "KnowHouse$DatatypeValues$Value", name := "compare", desc := "(LKnowHouse$DatatypeValues$Value;)I" } : Jvm.MethodName) ({ cls := "KnowHouse$DatatypeValues$Number", name := "compare", desc := "(LKnowHouse$DatatypeValues$Value;)I" } : Jvm.MethodName)) ∈ lw_all := lw_g (lw_at lw_m17 30 rfl) rfl
theorem q4349 : (Jvm.Cond.instanceMethod ({ cls := "KnowHouse$DatatypeValues$Number", name := "compare", desc := "(LKnowHouse$DatatypeValues$Value;)I" } : Jvm.MethodName)) ∈ lw_all := lw_g (lw_at lw_m17 31 rfl) rfl
theorem q4350 : (Jvm.Cond.code ({ cls := "KnowHouse$DatatypeValues$Number", name := "compare", desc := "(LKnowHouse$DatatypeValues$Value;)I" } : Jvm.MethodName) prog_12_method_4_code (3 : Nat) (Option.some Jvm.ClassFile.FieldType.int)) ∈ lw_all := lw_g (lw_at lw_m17 32 rfl) rfl
theorem q4351 : (Jvm.Cond.classLink "KnowHouse$DatatypeValues$Number" (14 : Nat) "KnowHouse$DatatypeValues$Number") ∈ lw_all := lw_g (lw_at lw_m17 33 rfl) rfl
theorem q4352 : (Jvm.Cond.methodLink "KnowHouse$DatatypeValues$Number" (31 : Nat) ({ cls := "java/lang/Long", name := "compare", desc := "(JJ)I" } : Jvm.MethodName)) ∈ lw_all := lw_g (lw_at lw_m17 34 rfl) rfl
theorem q4353 : (Jvm.Cond.selects "KnowHouse$DatatypeValues$Row" ({ cls := "KnowHouse$DatatypeValues$Value", name := "compare", desc := "(LKnowHouse$DatatypeValues$Value;)I" } : Jvm.MethodName) ({ cls := "KnowHouse$DatatypeValues$Row", name := "compare", desc := "(LKnowHouse$DatatypeValues$Value;)I" } : Jvm.MethodName)) ∈ lw_all := lw_g (lw_at lw_m17 35 rfl) rfl
theorem q4354 : (Jvm.Cond.instanceMethod ({ cls := "KnowHouse$DatatypeValues$Row", name := "compare", desc := "(LKnowHouse$DatatypeValues$Value;)I" } : Jvm.MethodName)) ∈ lw_all := lw_g (lw_at lw_m17 36 rfl) rfl
theorem q4355 : (Jvm.Cond.code ({ cls := "KnowHouse$DatatypeValues$Row", name := "compare", desc := "(LKnowHouse$DatatypeValues$Value;)I" } : Jvm.MethodName) prog_14_method_5_code (4 : Nat) (Option.some Jvm.ClassFile.FieldType.int)) ∈ lw_all := lw_g (lw_at lw_m17 37 rfl) rfl
theorem q4356 : (Jvm.Cond.classLink "KnowHouse$DatatypeValues$Row" (10 : Nat) "KnowHouse$DatatypeValues$Row") ∈ lw_all := lw_g (lw_at lw_m17 38 rfl) rfl
theorem q4357 : (Jvm.Cond.methodLink "KnowHouse$DatatypeValues$Row" (40 : Nat) ({ cls := "java/lang/Integer", name := "compare", desc := "(II)I" } : Jvm.MethodName)) ∈ lw_all := lw_g (lw_at lw_m17 39 rfl) rfl
theorem q4358 : (Jvm.Cond.selects "KnowHouse$DatatypeValues$Span" ({ cls := "KnowHouse$DatatypeValues$Value", name := "compare", desc := "(LKnowHouse$DatatypeValues$Value;)I" } : Jvm.MethodName) ({ cls := "KnowHouse$DatatypeValues$Span", name := "compare", desc := "(LKnowHouse$DatatypeValues$Value;)I" } : Jvm.MethodName)) ∈ lw_all := lw_g (lw_at lw_m17 40 rfl) rfl
theorem q4359 : (Jvm.Cond.instanceMethod ({ cls := "KnowHouse$DatatypeValues$Span", name := "compare", desc := "(LKnowHouse$DatatypeValues$Value;)I" } : Jvm.MethodName)) ∈ lw_all := lw_g (lw_at lw_m17 41 rfl) rfl
theorem q4360 : (Jvm.Cond.code ({ cls := "KnowHouse$DatatypeValues$Span", name := "compare", desc := "(LKnowHouse$DatatypeValues$Value;)I" } : Jvm.MethodName) prog_15_method_4_code (5 : Nat) (Option.some Jvm.ClassFile.FieldType.int)) ∈ lw_all := lw_g (lw_at lw_m17 42 rfl) rfl
theorem q4361 : (Jvm.Cond.classLink "KnowHouse$DatatypeValues$Span" (10 : Nat) "KnowHouse$DatatypeValues$Span") ∈ lw_all := lw_g (lw_at lw_m17 43 rfl) rfl
theorem q4362 : (Jvm.Cond.fieldLink "KnowHouse$DatatypeValues$Span" (58 : Nat) "KnowHouse$DatatypeValues$Span" "FROM" "[J") ∈ lw_all := lw_g (lw_at lw_m17 44 rfl) rfl
theorem q4364 : (Jvm.Cond.methodLink "KnowHouse$DatatypeValues$Span" (62 : Nat) ({ cls := "KnowHouse$DatatypeValues$Days", name := "add", desc := "(JJJ)J" } : Jvm.MethodName)) ∈ lw_all := lw_g (lw_at lw_m17 46 rfl) rfl
theorem q4365 : (Jvm.Cond.static ({ cls := "KnowHouse$DatatypeValues$Days", name := "add", desc := "(JJJ)J" } : Jvm.MethodName)) ∈ lw_all := lw_g (lw_at lw_m17 47 rfl) rfl
theorem q4366 : (Jvm.Cond.code ({ cls := "KnowHouse$DatatypeValues$Days", name := "add", desc := "(JJJ)J" } : Jvm.MethodName) prog_11_method_6_code (12 : Nat) (Option.some Jvm.ClassFile.FieldType.long)) ∈ lw_all := lw_g (lw_at lw_m17 48 rfl) rfl
theorem q4367 : (Jvm.Cond.constantLong "KnowHouse$DatatypeValues$Days" (46 : Nat) (86400000 : Int64)) ∈ lw_all := lw_g (lw_at lw_m17 49 rfl) rfl
theorem q4368 : (Jvm.Cond.methodLink "KnowHouse$DatatypeValues$Days" (48 : Nat) ({ cls := "KnowHouse$DatatypeValues$Days", name := "date", desc := "(J)[I" } : Jvm.MethodName)) ∈ lw_all := lw_g (lw_at lw_m17 50 rfl) rfl
theorem q4369 : (Jvm.Cond.static ({ cls := "KnowHouse$DatatypeValues$Days", name := "date", desc := "(J)[I" } : Jvm.MethodName)) ∈ lw_all := lw_g (lw_at lw_m17 51 rfl) rfl
theorem q4370 : (Jvm.Cond.code ({ cls := "KnowHouse$DatatypeValues$Days", name := "date", desc := "(J)[I" } : Jvm.MethodName) prog_11_method_3_code (11 : Nat) (Option.some (Jvm.ClassFile.FieldType.array Jvm.ClassFile.FieldType.int))) ∈ lw_all := lw_g (lw_at lw_m17 52 rfl) rfl
theorem q4371 : (Jvm.Cond.constantLong "KnowHouse$DatatypeValues$Days" (31 : Nat) (719468 : Int64)) ∈ lw_all := lw_g (lw_at lw_m17 53 rfl) rfl
theorem q4372 : (Jvm.Cond.constantLong "KnowHouse$DatatypeValues$Days" (33 : Nat) (146097 : Int64)) ∈ lw_all := lw_g (lw_at lw_m17 54 rfl) rfl
theorem q4373 : (Jvm.Cond.methodLink "KnowHouse$DatatypeValues$Days" (35 : Nat) ({ cls := "java/lang/Math", name := "floorMod", desc := "(JJ)J" } : Jvm.MethodName)) ∈ lw_all := lw_g (lw_at lw_m17 55 rfl) rfl
theorem q4374 : (Jvm.Cond.static ({ cls := "java/lang/Math", name := "floorMod", desc := "(JJ)J" } : Jvm.MethodName)) ∈ lw_all := lw_g (lw_at lw_m17 56 rfl) rfl
theorem q4375 : (Jvm.Cond.code ({ cls := "java/lang/Math", name := "floorMod", desc := "(JJ)J" } : Jvm.MethodName) prog_106_method_52_code (6 : Nat) (Option.some Jvm.ClassFile.FieldType.long)) ∈ lw_all := lw_g (lw_at lw_m17 57 rfl) rfl
theorem q4376 : (Jvm.Cond.constant "KnowHouse$DatatypeValues$Days" (38 : Nat) (36524 : Int32)) ∈ lw_all := lw_g (lw_at lw_m17 58 rfl) rfl
theorem q4377 : (Jvm.Cond.constant "KnowHouse$DatatypeValues$Days" (39 : Nat) (146096 : Int32)) ∈ lw_all := lw_g (lw_at lw_m17 59 rfl) rfl
theorem q4378 : (Jvm.Cond.constantLong "KnowHouse$DatatypeValues$Days" (52 : Nat) (12 : Int64)) ∈ lw_all := lw_g (lw_at lw_m17 60 rfl) rfl
theorem q4379 : (Jvm.Cond.methodLink "KnowHouse$DatatypeValues$Days" (54 : Nat) ({ cls := "KnowHouse$DatatypeValues$Days", name := "length", desc := "(JI)I" } : Jvm.MethodName)) ∈ lw_all := lw_g (lw_at lw_m17 61 rfl) rfl
theorem q4380 : (Jvm.Cond.methodLink "KnowHouse$DatatypeValues$Days" (58 : Nat) ({ cls := "java/lang/Math", name := "min", desc := "(II)I" } : Jvm.MethodName)) ∈ lw_all := lw_g (lw_at lw_m17 62 rfl) rfl
theorem q4381 : (Jvm.Cond.methodLink "KnowHouse$DatatypeValues$Days" (62 : Nat) ({ cls := "KnowHouse$DatatypeValues$Days", name := "of", desc := "(JII)J" } : Jvm.MethodName)) ∈ lw_all := lw_g (lw_at lw_m17 63 rfl) rfl
theorem q4382 : (Jvm.Cond.methodLink "KnowHouse$DatatypeValues$Span" (67 : Nat) ({ cls := "java/lang/Long", name := "compare", desc := "(JJ)I" } : Jvm.MethodName)) ∈ lw_all := lw_g (lw_at lw_m17 64 rfl) rfl
theorem q4383 : (Jvm.Cond.selects "KnowHouse$DatatypeValues$Time" ({ cls := "KnowHouse$DatatypeValues$Value", name := "compare", desc := "(LKnowHouse$DatatypeValues$Value;)I" } : Jvm.MethodName) ({ cls := "KnowHouse$DatatypeValues$Time", name := "compare", desc := "(LKnowHouse$DatatypeValues$Value;)I" } : Jvm.MethodName)) ∈ lw_all := lw_g (lw_at lw_m17 65 rfl) rfl
theorem q4384 : (Jvm.Cond.instanceMethod ({ cls := "KnowHouse$DatatypeValues$Time", name := "compare", desc := "(LKnowHouse$DatatypeValues$Value;)I" } : Jvm.MethodName)) ∈ lw_all := lw_g (lw_at lw_m17 66 rfl) rfl
theorem q4385 : (Jvm.Cond.code ({ cls := "KnowHouse$DatatypeValues$Time", name := "compare", desc := "(LKnowHouse$DatatypeValues$Value;)I" } : Jvm.MethodName) prog_16_method_5_code (5 : Nat) (Option.some Jvm.ClassFile.FieldType.int)) ∈ lw_all := lw_g (lw_at lw_m17 67 rfl) rfl
theorem q4386 : (Jvm.Cond.classLink "KnowHouse$DatatypeValues$Time" (10 : Nat) "KnowHouse$DatatypeValues$Time") ∈ lw_all := lw_g (lw_at lw_m17 68 rfl) rfl
theorem q4387 : (Jvm.Cond.methodLink "KnowHouse$DatatypeValues$Time" (59 : Nat) ({ cls := "KnowHouse$DatatypeValues$Time", name := "point", desc := "()J" } : Jvm.MethodName)) ∈ lw_all := lw_g (lw_at lw_m17 69 rfl) rfl
theorem q4389 : (Jvm.Cond.instanceMethod ({ cls := "KnowHouse$DatatypeValues$Time", name := "point", desc := "()J" } : Jvm.MethodName)) ∈ lw_all := lw_g (lw_at lw_m17 71 rfl) rfl
theorem q4390 : (Jvm.Cond.code ({ cls := "KnowHouse$DatatypeValues$Time", name := "point", desc := "()J" } : Jvm.MethodName) prog_16_method_4_code (1 : Nat) (Option.some Jvm.ClassFile.FieldType.long)) ∈ lw_all := lw_g (lw_at lw_m17 72 rfl) rfl
theorem q4391 : (Jvm.Cond.constantLong "KnowHouse$DatatypeValues$Time" (56 : Nat) (60000 : Int64)) ∈ lw_all := lw_g (lw_at lw_m17 73 rfl) rfl
theorem q4392 : (Jvm.Cond.methodLink "KnowHouse$DatatypeValues$Time" (63 : Nat) ({ cls := "java/lang/Long", name := "compare", desc := "(JJ)I" } : Jvm.MethodName)) ∈ lw_all := lw_g (lw_at lw_m17 74 rfl) rfl
theorem q4393 : (Jvm.Cond.constantLong "KnowHouse$DatatypeValues$Time" (69 : Nat) (-50400000 : Int64)) ∈ lw_all := lw_g (lw_at lw_m17 75 rfl) rfl
theorem q4394 : (Jvm.Cond.constantLong "KnowHouse$DatatypeValues$Time" (71 : Nat) (50400000 : Int64)) ∈ lw_all := lw_g (lw_at lw_m17 76 rfl) rfl
theorem q4395 : (Jvm.Cond.selects "KnowHouse$DatatypeValues$Truth" ({ cls := "KnowHouse$DatatypeValues$Value", name := "compare", desc := "(LKnowHouse$DatatypeValues$Value;)I" } : Jvm.MethodName) ({ cls := "KnowHouse$DatatypeValues$Truth", name := "compare", desc := "(LKnowHouse$DatatypeValues$Value;)I" } : Jvm.MethodName)) ∈ lw_all := lw_g (lw_at lw_m17 77 rfl) rfl
theorem q4396 : (Jvm.Cond.instanceMethod ({ cls := "KnowHouse$DatatypeValues$Truth", name := "compare", desc := "(LKnowHouse$DatatypeValues$Value;)I" } : Jvm.MethodName)) ∈ lw_all := lw_g (lw_at lw_m17 78 rfl) rfl
theorem q4397 : (Jvm.Cond.code ({ cls := "KnowHouse$DatatypeValues$Truth", name := "compare", desc := "(LKnowHouse$DatatypeValues$Value;)I" } : Jvm.MethodName) prog_17_method_4_code (3 : Nat) (Option.some Jvm.ClassFile.FieldType.int)) ∈ lw_all := lw_g (lw_at lw_m17 79 rfl) rfl
theorem q4398 : (Jvm.Cond.classLink "KnowHouse$DatatypeValues$Truth" (10 : Nat) "KnowHouse$DatatypeValues$Truth") ∈ lw_all := lw_g (lw_at lw_m17 80 rfl) rfl
theorem q4399 : (Jvm.Cond.methodLink "KnowHouse$DatatypeValues$Truth" (25 : Nat) ({ cls := "java/lang/Boolean", name := "compare", desc := "(ZZ)I" } : Jvm.MethodName)) ∈ lw_all := lw_g (lw_at lw_m17 81 rfl) rfl
theorem q4400 : (Jvm.Cond.static ({ cls := "java/lang/Boolean", name := "compare", desc := "(ZZ)I" } : Jvm.MethodName)) ∈ lw_all := lw_g (lw_at lw_m17 82 rfl) rfl
theorem q4401 : (Jvm.Cond.code ({ cls := "java/lang/Boolean", name := "compare", desc := "(ZZ)I" } : Jvm.MethodName) prog_94_method_14_code (2 : Nat) (Option.some Jvm.ClassFile.FieldType.int)) ∈ lw_all := lw_g (lw_at lw_m17 83 rfl) rfl
theorem q4406 : (Jvm.Cond.methodLink "KnowHouse$DatatypeValues" (58 : Nat) ({ cls := "KnowHouse$DatatypeValues$Value", name := "part", desc := "(I)J" } : Jvm.MethodName)) ∈ lw_all := lw_g (lw_at lw_m17 88 rfl) rfl
theorem q4407 : (Jvm.Cond.instanceMethod ({ cls := "KnowHouse$DatatypeValues$Value", name := "part", desc := "(I)J" } : Jvm.MethodName)) ∈ lw_all := lw_g (lw_at lw_m17 89 rfl) rfl
theorem q4408 : (Jvm.Cond.sameMethod "KnowHouse$DatatypeValues$Value" "KnowHouse$DatatypeValues$Value" "part" "(I)J") ∈ lw_all := lw_g (lw_at lw_m17 90 rfl) rfl
theorem q4409 : (Jvm.Cond.selects "KnowHouse$DatatypeValues$Number" ({ cls := "KnowHouse$DatatypeValues$Value", name := "part", desc := "(I)J" } : Jvm.MethodName) ({ cls := "KnowHouse$DatatypeValues$Number", name := "part", desc := "(I)J" } : Jvm.MethodName)) ∈ lw_all := lw_g (lw_at lw_m17 91 rfl) rfl
theorem q4410 : (Jvm.Cond.instanceMethod ({ cls := "KnowHouse$DatatypeValues$Number", name := "part", desc := "(I)J" } : Jvm.MethodName)) ∈ lw_all := lw_g (lw_at lw_m17 92 rfl) rfl
theorem q4411 : (Jvm.Cond.code ({ cls := "KnowHouse$DatatypeValues$Number", name := "part", desc := "(I)J" } : Jvm.MethodName) prog_12_method_2_code (2 : Nat) (Option.some Jvm.ClassFile.FieldType.long)) ∈ lw_all := lw_g (lw_at lw_m17 93 rfl) rfl
theorem q4412 : (Jvm.Cond.selects "KnowHouse$DatatypeValues$Row" ({ cls := "KnowHouse$DatatypeValues$Value", name := "part", desc := "(I)J" } : Jvm.MethodName) ({ cls := "KnowHouse$DatatypeValues$Row", name := "part", desc := "(I)J" } : Jvm.MethodName)) ∈ lw_all := lw_g (lw_at lw_m17 94 rfl) rfl
theorem q4413 : (Jvm.Cond.instanceMethod ({ cls := "KnowHouse$DatatypeValues$Row", name := "part", desc := "(I)J" } : Jvm.MethodName)) ∈ lw_all := lw_g (lw_at lw_m17 95 rfl) rfl
theorem q4414 : (Jvm.Cond.code ({ cls := "KnowHouse$DatatypeValues$Row", name := "part", desc := "(I)J" } : Jvm.MethodName) prog_14_method_2_code (2 : Nat) (Option.some Jvm.ClassFile.FieldType.long)) ∈ lw_all := lw_g (lw_at lw_m17 96 rfl) rfl
theorem q4415 : (Jvm.Cond.selects "KnowHouse$DatatypeValues$Span" ({ cls := "KnowHouse$DatatypeValues$Value", name := "part", desc := "(I)J" } : Jvm.MethodName) ({ cls := "KnowHouse$DatatypeValues$Span", name := "part", desc := "(I)J" } : Jvm.MethodName)) ∈ lw_all := lw_g (lw_at lw_m17 97 rfl) rfl
theorem q4416 : (Jvm.Cond.instanceMethod ({ cls := "KnowHouse$DatatypeValues$Span", name := "part", desc := "(I)J" } : Jvm.MethodName)) ∈ lw_all := lw_g (lw_at lw_m17 98 rfl) rfl
theorem q4417 : (Jvm.Cond.code ({ cls := "KnowHouse$DatatypeValues$Span", name := "part", desc := "(I)J" } : Jvm.MethodName) prog_15_method_2_code (2 : Nat) (Option.some Jvm.ClassFile.FieldType.long)) ∈ lw_all := lw_g (lw_at lw_m17 99 rfl) rfl
theorem q4418 : (Jvm.Cond.selects "KnowHouse$DatatypeValues$Time" ({ cls := "KnowHouse$DatatypeValues$Value", name := "part", desc := "(I)J" } : Jvm.MethodName) ({ cls := "KnowHouse$DatatypeValues$Time", name := "part", desc := "(I)J" } : Jvm.MethodName)) ∈ lw_all := lw_g (lw_at lw_m17 100 rfl) rfl
theorem q4419 : (Jvm.Cond.instanceMethod ({ cls := "KnowHouse$DatatypeValues$Time", name := "part", desc := "(I)J" } : Jvm.MethodName)) ∈ lw_all := lw_g (lw_at lw_m17 101 rfl) rfl
theorem q4420 : (Jvm.Cond.code ({ cls := "KnowHouse$DatatypeValues$Time", name := "part", desc := "(I)J" } : Jvm.MethodName) prog_16_method_2_code (2 : Nat) (Option.some Jvm.ClassFile.FieldType.long)) ∈ lw_all := lw_g (lw_at lw_m17 102 rfl) rfl
theorem q4421 : (Jvm.Cond.selects "KnowHouse$DatatypeValues$Truth" ({ cls := "KnowHouse$DatatypeValues$Value", name := "part", desc := "(I)J" } : Jvm.MethodName) ({ cls := "KnowHouse$DatatypeValues$Truth", name := "part", desc := "(I)J" } : Jvm.MethodName)) ∈ lw_all := lw_g (lw_at lw_m17 103 rfl) rfl
theorem q4422 : (Jvm.Cond.instanceMethod ({ cls := "KnowHouse$DatatypeValues$Truth", name := "part", desc := "(I)J" } : Jvm.MethodName)) ∈ lw_all := lw_g (lw_at lw_m17 104 rfl) rfl
theorem q4423 : (Jvm.Cond.code ({ cls := "KnowHouse$DatatypeValues$Truth", name := "part", desc := "(I)J" } : Jvm.MethodName) prog_17_method_2_code (2 : Nat) (Option.some Jvm.ClassFile.FieldType.long)) ∈ lw_all := lw_g (lw_at lw_m17 105 rfl) rfl
theorem q4424 : (Jvm.Cond.code ({ cls := "KnowHouse$DatatypeValues$Value", name := "part", desc := "(I)J" } : Jvm.MethodName) prog_18_method_2_code (2 : Nat) (Option.some Jvm.ClassFile.FieldType.long)) ∈ lw_all := lw_g (lw_at lw_m17 106 rfl) rfl
theorem q4429 : (Jvm.Cond.classLink "KnowHouse$DatatypeValues" (71 : Nat) "KnowHouse$DatatypeValues$Row") ∈ lw_all := lw_g (lw_at lw_m17 111 rfl) rfl
theorem q4434 : (Jvm.Cond.methodLink "KnowHouse$DatatypeValues" (77 : Nat) ({ cls := "KnowHouse$DatatypeValues$Value", name := "tell", desc := "(LKnowHouse$DatatypeValues$Writer;)V" } : Jvm.MethodName)) ∈ lw_all := lw_g (lw_at lw_m17 116 rfl) rfl
theorem q4435 : (Jvm.Cond.declares ({ cls := "KnowHouse$DatatypeValues$Value", name := "tell", desc := "(LKnowHouse$DatatypeValues$Writer;)V" } : Jvm.MethodName)) ∈ lw_tbl := lw_at lw_m17 117 rfl
theorem q4436 : (Jvm.Cond.sameMethod "KnowHouse$DatatypeValues$Value" "KnowHouse$DatatypeValues$Value" "tell" "(LKnowHouse$DatatypeValues$Writer;)V") ∈ lw_all := lw_g (lw_at lw_m17 118 rfl) rfl
theorem q4437 : (Jvm.Cond.selects "KnowHouse$DatatypeValues$Number" ({ cls := "KnowHouse$DatatypeValues$Value", name := "tell", desc := "(LKnowHouse$DatatypeValues$Writer;)V" } : Jvm.MethodName) ({ cls := "KnowHouse$DatatypeValues$Number", name := "tell", desc := "(LKnowHouse$DatatypeValues$Writer;)V" } : Jvm.MethodName)) ∈ lw_all := lw_g (lw_at lw_m17 119 rfl) rfl
theorem q4438 : (Jvm.Cond.instanceMethod ({ cls := "KnowHouse$DatatypeValues$Number", name := "tell", desc := "(LKnowHouse$DatatypeValues$Writer;)V" } : Jvm.MethodName)) ∈ lw_all := lw_g (lw_at lw_m17 120 rfl) rfl
theorem q4439 : (Jvm.Cond.code ({ cls := "KnowHouse$DatatypeValues$Number", name := "tell", desc := "(LKnowHouse$DatatypeValues$Writer;)V" } : Jvm.MethodName) prog_12_method_3_code (2 : Nat) (Option.none : Option Jvm.ClassFile.FieldType)) ∈ lw_all := lw_g (lw_at lw_m17 121 rfl) rfl
theorem q4440 : (Jvm.Cond.methodLink "KnowHouse$DatatypeValues$Number" (22 : Nat) ({ cls := "KnowHouse$DatatypeValues$Writer", name := "number", desc := "(JI)V" } : Jvm.MethodName)) ∈ lw_all := lw_g (lw_at lw_m17 122 rfl) rfl
theorem q4441 : (Jvm.Cond.instanceMethod ({ cls := "KnowHouse$DatatypeValues$Writer", name := "number", desc := "(JI)V" } : Jvm.MethodName)) ∈ lw_all := lw_g (lw_at lw_m17 123 rfl) rfl
theorem q4442 : (Jvm.Cond.selects "KnowHouse$DatatypeValues$Writer" ({ cls := "KnowHouse$DatatypeValues$Writer", name := "number", desc := "(JI)V" } : Jvm.MethodName) ({ cls := "KnowHouse$DatatypeValues$Writer", name := "number", desc := "(JI)V" } : Jvm.MethodName)) ∈ lw_all := lw_g (lw_at lw_m17 124 rfl) rfl
theorem q4443 : (Jvm.Cond.code ({ cls := "KnowHouse$DatatypeValues$Writer", name := "number", desc := "(JI)V" } : Jvm.MethodName) prog_19_method_4_code (9 : Nat) (Option.none : Option Jvm.ClassFile.FieldType)) ∈ lw_all := lw_g (lw_at lw_m17 125 rfl) rfl
theorem q4444 : (Jvm.Cond.methodLink "KnowHouse$DatatypeValues$Writer" (27 : Nat) ({ cls := "KnowHouse$DatatypeValues$Writer", name := "add", desc := "(I)V" } : Jvm.MethodName)) ∈ lw_all := lw_g (lw_at lw_m17 126 rfl) rfl
theorem q4445 : (Jvm.Cond.instanceMethod ({ cls := "KnowHouse$DatatypeValues$Writer", name := "add", desc := "(I)V" } : Jvm.MethodName)) ∈ lw_all := lw_g (lw_at lw_m17 127 rfl) rfl
theorem q4446 : (Jvm.Cond.selects "KnowHouse$DatatypeValues$Writer" ({ cls := "KnowHouse$DatatypeValues$Writer", name := "add", desc := "(I)V" } : Jvm.MethodName) ({ cls := "KnowHouse$DatatypeValues$Writer", name := "add", desc := "(I)V" } : Jvm.MethodName)) ∈ lw_all := lw_g (lw_at lw_m17 128 rfl) rfl
theorem q4447 : (Jvm.Cond.code ({ cls := "KnowHouse$DatatypeValues$Writer", name := "add", desc := "(I)V" } : Jvm.MethodName) prog_19_method_2_code (2 : Nat) (Option.none : Option Jvm.ClassFile.FieldType)) ∈ lw_all := lw_g (lw_at lw_m17 129 rfl) rfl
theorem q4448 : (Jvm.Cond.methodLink "KnowHouse$DatatypeValues$Writer" (31 : Nat) ({ cls := "java/lang/Math", name := "abs", desc := "(J)J" } : Jvm.MethodName)) ∈ lw_all := lw_g (lw_at lw_m17 130 rfl) rfl
theorem q4449 : (Jvm.Cond.constantLong "KnowHouse$DatatypeValues$Writer" (37 : Nat) (9 : Int64)) ∈ lw_all := lw_g (lw_at lw_m17 131 rfl) rfl
theorem q4450 : (Jvm.Cond.constantLong "KnowHouse$DatatypeValues$Writer" (39 : Nat) (10 : Int64)) ∈ lw_all := lw_g (lw_at lw_m17 132 rfl) rfl
theorem q4451 : (Jvm.Cond.constantLong "KnowHouse$DatatypeValues$Writer" (41 : Nat) (48 : Int64)) ∈ lw_all := lw_g (lw_at lw_m17 133 rfl) rfl
theorem q4452 : (Jvm.Cond.methodLink "KnowHouse$DatatypeValues$Number" (28 : Nat) ({ cls := "KnowHouse$DatatypeValues$Writer", name := "add", desc := "(I)V" } : Jvm.MethodName)) ∈ lw_all := lw_g (lw_at lw_m17 134 rfl) rfl
theorem q4453 : (Jvm.Cond.selects "KnowHouse$DatatypeValues$Row" ({ cls := "KnowHouse$DatatypeValues$Value", name := "tell", desc := "(LKnowHouse$DatatypeValues$Writer;)V" } : Jvm.MethodName) ({ cls := "KnowHouse$DatatypeValues$Row", name := "tell", desc := "(LKnowHouse$DatatypeValues$Writer;)V" } : Jvm.MethodName)) ∈ lw_all := lw_g (lw_at lw_m17 135 rfl) rfl
theorem q4454 : (Jvm.Cond.instanceMethod ({ cls := "KnowHouse$DatatypeValues$Row", name := "tell", desc := "(LKnowHouse$DatatypeValues$Writer;)V" } : Jvm.MethodName)) ∈ lw_all := lw_g (lw_at lw_m17 136 rfl) rfl
theorem q4455 : (Jvm.Cond.code ({ cls := "KnowHouse$DatatypeValues$Row", name := "tell", desc := "(LKnowHouse$DatatypeValues$Writer;)V" } : Jvm.MethodName) prog_14_method_3_code (3 : Nat) (Option.none : Option Jvm.ClassFile.FieldType)) ∈ lw_all := lw_g (lw_at lw_m17 137 rfl) rfl
theorem q4457 : (Jvm.Cond.methodLink "KnowHouse$DatatypeValues$Row" (21 : Nat) ({ cls := "java/lang/String", name := "charAt", desc := "(I)C" } : Jvm.MethodName)) ∈ lw_all := lw_g (lw_at lw_m17 139 rfl) rfl
theorem q4458 : (Jvm.Cond.methodLink "KnowHouse$DatatypeValues$Row" (27 : Nat) ({ cls := "KnowHouse$DatatypeValues$Writer", name := "add", desc := "(I)V" } : Jvm.MethodName)) ∈ lw_all := lw_g (lw_at lw_m17 140 rfl) rfl
theorem q4459 : (Jvm.Cond.methodLink "KnowHouse$DatatypeValues$Row" (32 : Nat) ({ cls := "KnowHouse$DatatypeValues$Row", name := "group", desc := "(LKnowHouse$DatatypeValues$Writer;I)V" } : Jvm.MethodName)) ∈ lw_all := lw_g (lw_at lw_m17 141 rfl) rfl
theorem q4461 : (Jvm.Cond.instanceMethod ({ cls := "KnowHouse$DatatypeValues$Row", name := "group", desc := "(LKnowHouse$DatatypeValues$Writer;I)V" } : Jvm.MethodName)) ∈ lw_all := lw_g (lw_at lw_m17 143 rfl) rfl
theorem q4462 : (Jvm.Cond.code ({ cls := "KnowHouse$DatatypeValues$Row", name := "group", desc := "(LKnowHouse$DatatypeValues$Writer;I)V" } : Jvm.MethodName) prog_14_method_4_code (5 : Nat) (Option.none : Option Jvm.ClassFile.FieldType)) ∈ lw_all := lw_g (lw_at lw_m17 144 rfl) rfl
theorem q4464 : (Jvm.Cond.selects "KnowHouse$DatatypeValues$Span" ({ cls := "KnowHouse$DatatypeValues$Value", name := "tell", desc := "(LKnowHouse$DatatypeValues$Writer;)V" } : Jvm.MethodName) ({ cls := "KnowHouse$DatatypeValues$Span", name := "tell", desc := "(LKnowHouse$DatatypeValues$Writer;)V" } : Jvm.MethodName)) ∈ lw_all := lw_g (lw_at lw_m17 146 rfl) rfl
theorem q4465 : (Jvm.Cond.instanceMethod ({ cls := "KnowHouse$DatatypeValues$Span", name := "tell", desc := "(LKnowHouse$DatatypeValues$Writer;)V" } : Jvm.MethodName)) ∈ lw_all := lw_g (lw_at lw_m17 147 rfl) rfl
theorem q4466 : (Jvm.Cond.code ({ cls := "KnowHouse$DatatypeValues$Span", name := "tell", desc := "(LKnowHouse$DatatypeValues$Writer;)V" } : Jvm.MethodName) prog_15_method_3_code (6 : Nat) (Option.none : Option Jvm.ClassFile.FieldType)) ∈ lw_all := lw_g (lw_at lw_m17 148 rfl) rfl
theorem q4467 : (Jvm.Cond.methodLink "KnowHouse$DatatypeValues$Span" (18 : Nat) ({ cls := "KnowHouse$DatatypeValues$Writer", name := "add", desc := "(I)V" } : Jvm.MethodName)) ∈ lw_all := lw_g (lw_at lw_m17 149 rfl) rfl
theorem q4468 : (Jvm.Cond.methodLink "KnowHouse$DatatypeValues$Span" (23 : Nat) ({ cls := "KnowHouse$DatatypeValues$Writer", name := "number", desc := "(JI)V" } : Jvm.MethodName)) ∈ lw_all := lw_g (lw_at lw_m17 150 rfl) rfl
theorem q4470 : (Jvm.Cond.methodLink "KnowHouse$DatatypeValues$Span" (29 : Nat) ({ cls := "KnowHouse$DatatypeValues$Writer", name := "addAll", desc := "(Ljava/lang/String;)V" } : Jvm.MethodName)) ∈ lw_all := lw_g (lw_at lw_m17 152 rfl) rfl
theorem q4471 : (Jvm.Cond.instanceMethod ({ cls := "KnowHouse$DatatypeValues$Writer", name := "addAll", desc := "(Ljava/lang/String;)V" } : Jvm.MethodName)) ∈ lw_all := lw_g (lw_at lw_m17 153 rfl) rfl
theorem q4472 : (Jvm.Cond.selects "KnowHouse$DatatypeValues$Writer" ({ cls := "KnowHouse$DatatypeValues$Writer", name := "addAll", desc := "(Ljava/lang/String;)V" } : Jvm.MethodName) ({ cls := "KnowHouse$DatatypeValues$Writer", name := "addAll", desc := "(Ljava/lang/String;)V" } : Jvm.MethodName)) ∈ lw_all := lw_g (lw_at lw_m17 154 rfl) rfl
theorem q4473 : (Jvm.Cond.code ({ cls := "KnowHouse$DatatypeValues$Writer", name := "addAll", desc := "(Ljava/lang/String;)V" } : Jvm.MethodName) prog_19_method_3_code (3 : Nat) (Option.none : Option Jvm.ClassFile.FieldType)) ∈ lw_all := lw_g (lw_at lw_m17 155 rfl) rfl
theorem q4474 : (Jvm.Cond.methodLink "KnowHouse$DatatypeValues$Writer" (17 : Nat) ({ cls := "java/lang/String", name := "length", desc := "()I" } : Jvm.MethodName)) ∈ lw_all := lw_g (lw_at lw_m17 156 rfl) rfl
theorem q4475 : (Jvm.Cond.methodLink "KnowHouse$DatatypeValues$Writer" (23 : Nat) ({ cls := "java/lang/String", name := "charAt", desc := "(I)C" } : Jvm.MethodName)) ∈ lw_all := lw_g (lw_at lw_m17 157 rfl) rfl
theorem q4476 : (Jvm.Cond.methodLink "KnowHouse$DatatypeValues$Span" (33 : Nat) ({ cls := "java/lang/Math", name := "abs", desc := "(J)J" } : Jvm.MethodName)) ∈ lw_all := lw_g (lw_at lw_m17 158 rfl) rfl
theorem q4477 : (Jvm.Cond.constantLong "KnowHouse$DatatypeValues$Span" (39 : Nat) (1000 : Int64)) ∈ lw_all := lw_g (lw_at lw_m17 159 rfl) rfl
theorem q4478 : (Jvm.Cond.constantLong "KnowHouse$DatatypeValues$Span" (41 : Nat) (12 : Int64)) ∈ lw_all := lw_g (lw_at lw_m17 160 rfl) rfl
theorem q4479 : (Jvm.Cond.methodLink "KnowHouse$DatatypeValues$Span" (43 : Nat) ({ cls := "KnowHouse$DatatypeValues$Writer", name := "some", desc := "(JI)V" } : Jvm.MethodName)) ∈ lw_all := lw_g (lw_at lw_m17 161 rfl) rfl
theorem q4480 : (Jvm.Cond.instanceMethod ({ cls := "KnowHouse$DatatypeValues$Writer", name := "some", desc := "(JI)V" } : Jvm.MethodName)) ∈ lw_all := lw_g (lw_at lw_m17 162 rfl) rfl
theorem q4481 : (Jvm.Cond.selects "KnowHouse$DatatypeValues$Writer" ({ cls := "KnowHouse$DatatypeValues$Writer", name := "some", desc := "(JI)V" } : Jvm.MethodName) ({ cls := "KnowHouse$DatatypeValues$Writer", name := "some", desc := "(JI)V" } : Jvm.MethodName)) ∈ lw_all := lw_g (lw_at lw_m17 163 rfl) rfl
theorem q4482 : (Jvm.Cond.code ({ cls := "KnowHouse$DatatypeValues$Writer", name := "some", desc := "(JI)V" } : Jvm.MethodName) prog_19_method_5_code (4 : Nat) (Option.none : Option Jvm.ClassFile.FieldType)) ∈ lw_all := lw_g (lw_at lw_m17 164 rfl) rfl
theorem q4483 : (Jvm.Cond.methodLink "KnowHouse$DatatypeValues$Writer" (43 : Nat) ({ cls := "KnowHouse$DatatypeValues$Writer", name := "number", desc := "(JI)V" } : Jvm.MethodName)) ∈ lw_all := lw_g (lw_at lw_m17 165 rfl) rfl
theorem q4484 : (Jvm.Cond.constantLong "KnowHouse$DatatypeValues$Span" (46 : Nat) (86400000 : Int64)) ∈ lw_all := lw_g (lw_at lw_m17 166 rfl) rfl
theorem q4485 : (Jvm.Cond.constantLong "KnowHouse$DatatypeValues$Span" (48 : Nat) (3600000 : Int64)) ∈ lw_all := lw_g (lw_at lw_m17 167 rfl) rfl
theorem q4486 : (Jvm.Cond.constantLong "KnowHouse$DatatypeValues$Span" (50 : Nat) (60000 : Int64)) ∈ lw_all := lw_g (lw_at lw_m17 168 rfl) rfl
theorem q4487 : (Jvm.Cond.constantLong "KnowHouse$DatatypeValues$Span" (52 : Nat) (60 : Int64)) ∈ lw_all := lw_g (lw_at lw_m17 169 rfl) rfl
theorem q4488 : (Jvm.Cond.methodLink "KnowHouse$DatatypeValues$Span" (54 : Nat) ({ cls := "KnowHouse$DatatypeValues$Writer", name := "fraction", desc := "(J)V" } : Jvm.MethodName)) ∈ lw_all := lw_g (lw_at lw_m17 170 rfl) rfl
theorem q4489 : (Jvm.Cond.instanceMethod ({ cls := "KnowHouse$DatatypeValues$Writer", name := "fraction", desc := "(J)V" } : Jvm.MethodName)) ∈ lw_all := lw_g (lw_at lw_m17 171 rfl) rfl
theorem q4490 : (Jvm.Cond.selects "KnowHouse$DatatypeValues$Writer" ({ cls := "KnowHouse$DatatypeValues$Writer", name := "fraction", desc := "(J)V" } : Jvm.MethodName) ({ cls := "KnowHouse$DatatypeValues$Writer", name := "fraction", desc := "(J)V" } : Jvm.MethodName)) ∈ lw_all := lw_g (lw_at lw_m17 172 rfl) rfl
theorem q4491 : (Jvm.Cond.code ({ cls := "KnowHouse$DatatypeValues$Writer", name := "fraction", desc := "(J)V" } : Jvm.MethodName) prog_19_method_6_code (3 : Nat) (Option.none : Option Jvm.ClassFile.FieldType)) ∈ lw_all := lw_g (lw_at lw_m17 173 rfl) rfl
theorem q4492 : (Jvm.Cond.selects "KnowHouse$DatatypeValues$Time" ({ cls := "KnowHouse$DatatypeValues$Value", name := "tell", desc := "(LKnowHouse$DatatypeValues$Writer;)V" } : Jvm.MethodName) ({ cls := "KnowHouse$DatatypeValues$Time", name := "tell", desc := "(LKnowHouse$DatatypeValues$Writer;)V" } : Jvm.MethodName)) ∈ lw_all := lw_g (lw_at lw_m17 174 rfl) rfl
theorem q4493 : (Jvm.Cond.instanceMethod ({ cls := "KnowHouse$DatatypeValues$Time", name := "tell", desc := "(LKnowHouse$DatatypeValues$Writer;)V" } : Jvm.MethodName)) ∈ lw_all := lw_g (lw_at lw_m17 175 rfl) rfl
theorem q4494 : (Jvm.Cond.code ({ cls := "KnowHouse$DatatypeValues$Time", name := "tell", desc := "(LKnowHouse$DatatypeValues$Writer;)V" } : Jvm.MethodName) prog_16_method_3_code (5 : Nat) (Option.none : Option Jvm.ClassFile.FieldType)) ∈ lw_all := lw_g (lw_at lw_m17 176 rfl) rfl
theorem q4495 : (Jvm.Cond.constantLong "KnowHouse$DatatypeValues$Time" (19 : Nat) (86400000 : Int64)) ∈ lw_all := lw_g (lw_at lw_m17 177 rfl) rfl
theorem q4496 : (Jvm.Cond.methodLink "KnowHouse$DatatypeValues$Time" (21 : Nat) ({ cls := "java/lang/Math", name := "floorDiv", desc := "(JJ)J" } : Jvm.MethodName)) ∈ lw_all := lw_g (lw_at lw_m17 178 rfl) rfl
theorem q4497 : (Jvm.Cond.methodLink "KnowHouse$DatatypeValues$Time" (27 : Nat) ({ cls := "KnowHouse$DatatypeValues$Days", name := "date", desc := "(J)[I" } : Jvm.MethodName)) ∈ lw_all := lw_g (lw_at lw_m17 179 rfl) rfl
theorem q4498 : (Jvm.Cond.methodLink "KnowHouse$DatatypeValues$Time" (33 : Nat) ({ cls := "KnowHouse$DatatypeValues$Writer", name := "number", desc := "(JI)V" } : Jvm.MethodName)) ∈ lw_all := lw_g (lw_at lw_m17 180 rfl) rfl
theorem q4499 : (Jvm.Cond.methodLink "KnowHouse$DatatypeValues$Time" (39 : Nat) ({ cls := "KnowHouse$DatatypeValues$Writer", name := "add", desc := "(I)V" } : Jvm.MethodName)) ∈ lw_all := lw_g (lw_at lw_m17 181 rfl) rfl
theorem q4500 : (Jvm.Cond.methodLink "KnowHouse$DatatypeValues$Time" (45 : Nat) ({ cls := "java/lang/Math", name := "floorMod", desc := "(JJ)J" } : Jvm.MethodName)) ∈ lw_all := lw_g (lw_at lw_m17 182 rfl) rfl
theorem q4501 : (Jvm.Cond.methodLink "KnowHouse$DatatypeValues$Time" (48 : Nat) ({ cls := "KnowHouse$DatatypeValues$Writer", name := "clock", desc := "(J)V" } : Jvm.MethodName)) ∈ lw_all := lw_g (lw_at lw_m17 183 rfl) rfl
theorem q4502 : (Jvm.Cond.instanceMethod ({ cls := "KnowHouse$DatatypeValues$Writer", name := "clock", desc := "(J)V" } : Jvm.MethodName)) ∈ lw_all := lw_g (lw_at lw_m17 184 rfl) rfl
theorem q4503 : (Jvm.Cond.selects "KnowHouse$DatatypeValues$Writer" ({ cls := "KnowHouse$DatatypeValues$Writer", name := "clock", desc := "(J)V" } : Jvm.MethodName) ({ cls := "KnowHouse$DatatypeValues$Writer", name := "clock", desc := "(J)V" } : Jvm.MethodName)) ∈ lw_all := lw_g (lw_at lw_m17 185 rfl) rfl
theorem q4504 : (Jvm.Cond.code ({ cls := "KnowHouse$DatatypeValues$Writer", name := "clock", desc := "(J)V" } : Jvm.MethodName) prog_19_method_7_code (3 : Nat) (Option.none : Option Jvm.ClassFile.FieldType)) ∈ lw_all := lw_g (lw_at lw_m17 186 rfl) rfl
theorem q4505 : (Jvm.Cond.constantLong "KnowHouse$DatatypeValues$Writer" (47 : Nat) (3600000 : Int64)) ∈ lw_all := lw_g (lw_at lw_m17 187 rfl) rfl
theorem q4506 : (Jvm.Cond.constantLong "KnowHouse$DatatypeValues$Writer" (49 : Nat) (60000 : Int64)) ∈ lw_all := lw_g (lw_at lw_m17 188 rfl) rfl
theorem q4507 : (Jvm.Cond.constantLong "KnowHouse$DatatypeValues$Writer" (51 : Nat) (60 : Int64)) ∈ lw_all := lw_g (lw_at lw_m17 189 rfl) rfl
theorem q4508 : (Jvm.Cond.constantLong "KnowHouse$DatatypeValues$Writer" (53 : Nat) (1000 : Int64)) ∈ lw_all := lw_g (lw_at lw_m17 190 rfl) rfl
theorem q4509 : (Jvm.Cond.methodLink "KnowHouse$DatatypeValues$Writer" (55 : Nat) ({ cls := "KnowHouse$DatatypeValues$Writer", name := "fraction", desc := "(J)V" } : Jvm.MethodName)) ∈ lw_all := lw_g (lw_at lw_m17 191 rfl) rfl
theorem q4510 : (Jvm.Cond.methodLink "KnowHouse$DatatypeValues$Time" (52 : Nat) ({ cls := "java/lang/Math", name := "abs", desc := "(I)I" } : Jvm.MethodName)) ∈ lw_all := lw_g (lw_at lw_m17 192 rfl) rfl
theorem q4511 : (Jvm.Cond.static ({ cls := "java/lang/Math", name := "abs", desc := "(I)I" } : Jvm.MethodName)) ∈ lw_all := lw_g (lw_at lw_m17 193 rfl) rfl
theorem q4512 : (Jvm.Cond.code ({ cls := "java/lang/Math", name := "abs", desc := "(I)I" } : Jvm.MethodName) prog_106_method_59_code (1 : Nat) (Option.some Jvm.ClassFile.FieldType.int)) ∈ lw_all := lw_g (lw_at lw_m17 194 rfl) rfl
theorem q4513 : (Jvm.Cond.selects "KnowHouse$DatatypeValues$Truth" ({ cls := "KnowHouse$DatatypeValues$Value", name := "tell", desc := "(LKnowHouse$DatatypeValues$Writer;)V" } : Jvm.MethodName) ({ cls := "KnowHouse$DatatypeValues$Truth", name := "tell", desc := "(LKnowHouse$DatatypeValues$Writer;)V" } : Jvm.MethodName)) ∈ lw_all := lw_g (lw_at lw_m17 195 rfl) rfl
theorem q4514 : (Jvm.Cond.instanceMethod ({ cls := "KnowHouse$DatatypeValues$Truth", name := "tell", desc := "(LKnowHouse$DatatypeValues$Writer;)V" } : Jvm.MethodName)) ∈ lw_all := lw_g (lw_at lw_m17 196 rfl) rfl
theorem q4515 : (Jvm.Cond.code ({ cls := "KnowHouse$DatatypeValues$Truth", name := "tell", desc := "(LKnowHouse$DatatypeValues$Writer;)V" } : Jvm.MethodName) prog_17_method_3_code (2 : Nat) (Option.none : Option Jvm.ClassFile.FieldType)) ∈ lw_all := lw_g (lw_at lw_m17 197 rfl) rfl
theorem q4518 : (Jvm.Cond.methodLink "KnowHouse$DatatypeValues$Truth" (19 : Nat) ({ cls := "KnowHouse$DatatypeValues$Writer", name := "addAll", desc := "(Ljava/lang/String;)V" } : Jvm.MethodName)) ∈ lw_all := lw_g (lw_at lw_m17 200 rfl) rfl
theorem q4527 : (Jvm.Cond.classLink "KnowHouse$DatatypeValues" (62 : Nat) "KnowHouse$DatatypeValues$Number") ∈ lw_all := lw_g (lw_at lw_m17 209 rfl) rfl
theorem q4528 : (Jvm.Cond.methodLink "KnowHouse$DatatypeValues" (140 : Nat) ({ cls := "KnowHouse$DatatypeValues", name := "reckon", desc := "(ILKnowHouse$DatatypeValues$Number;LKnowHouse$DatatypeValues$Number;)LKnowHouse$DatatypeValues$Value;" } : Jvm.MethodName)) ∈ lw_all := lw_g (lw_at lw_m17 210 rfl) rfl
theorem q4529 : (Jvm.Cond.static ({ cls := "KnowHouse$DatatypeValues", name := "reckon", desc := "(ILKnowHouse$DatatypeValues$Number;LKnowHouse$DatatypeValues$Number;)LKnowHouse$DatatypeValues$Value;" } : Jvm.MethodName)) ∈ lw_all := lw_g (lw_at lw_m17 211 rfl) rfl
theorem q4530 : (Jvm.Cond.code ({ cls := "KnowHouse$DatatypeValues", name := "reckon", desc := "(ILKnowHouse$DatatypeValues$Number;LKnowHouse$DatatypeValues$Number;)LKnowHouse$DatatypeValues$Value;" } : Jvm.MethodName) prog_10_method_15_code (8 : Nat) (Option.some (Jvm.ClassFile.FieldType.object "KnowHouse$DatatypeValues$Value"))) ∈ lw_all := lw_g (lw_at lw_m17 212 rfl) rfl
theorem q4531 : (Jvm.Cond.methodLink "KnowHouse$DatatypeValues" (82 : Nat) ({ cls := "java/lang/Long", name := "signum", desc := "(J)I" } : Jvm.MethodName)) ∈ lw_all := lw_g (lw_at lw_m17 213 rfl) rfl
theorem q4532 : (Jvm.Cond.static ({ cls := "java/lang/Long", name := "signum", desc := "(J)I" } : Jvm.MethodName)) ∈ lw_all := lw_g (lw_at lw_m17 214 rfl) rfl
theorem q4533 : (Jvm.Cond.code ({ cls := "java/lang/Long", name := "signum", desc := "(J)I" } : Jvm.MethodName) prog_105_method_57_code (2 : Nat) (Option.some Jvm.ClassFile.FieldType.int)) ∈ lw_all := lw_g (lw_at lw_m17 215 rfl) rfl
theorem q4534 : (Jvm.Cond.methodLink "KnowHouse$DatatypeValues" (88 : Nat) ({ cls := "java/lang/Math", name := "abs", desc := "(J)J" } : Jvm.MethodName)) ∈ lw_all := lw_g (lw_at lw_m17 216 rfl) rfl
theorem q4535 : (Jvm.Cond.methodLink "KnowHouse$DatatypeValues" (94 : Nat) ({ cls := "KnowHouse$DatatypeValues$Number", name := "<init>", desc := "(IJJ)V" } : Jvm.MethodName)) ∈ lw_all := lw_g (lw_at lw_m17 217 rfl) rfl
theorem q4536 : (Jvm.Cond.constantLong "KnowHouse$DatatypeValues" (97 : Nat) (1000000000 : Int64)) ∈ lw_all := lw_g (lw_at lw_m17 218 rfl) rfl
theorem q4537 : (Jvm.Cond.classLink "KnowHouse$DatatypeValues" (100 : Nat) "KnowHouse$DatatypeValues$Time") ∈ lw_all := lw_g (lw_at lw_m17 219 rfl) rfl
theorem q4538 : (Jvm.Cond.classLink "KnowHouse$DatatypeValues" (105 : Nat) "KnowHouse$DatatypeValues$Span") ∈ lw_all := lw_g (lw_at lw_m17 220 rfl) rfl
theorem q4539 : (Jvm.Cond.methodLink "KnowHouse$DatatypeValues" (144 : Nat) ({ cls := "KnowHouse$DatatypeValues", name := "added", desc := "(LKnowHouse$DatatypeValues$Time;LKnowHouse$DatatypeValues$Span;)LKnowHouse$DatatypeValues$Value;" } : Jvm.MethodName)) ∈ lw_all := lw_g (lw_at lw_m17 221 rfl) rfl
theorem q4540 : (Jvm.Cond.static ({ cls := "KnowHouse$DatatypeValues", name := "added", desc := "(LKnowHouse$DatatypeValues$Time;LKnowHouse$DatatypeValues$Span;)LKnowHouse$DatatypeValues$Value;" } : Jvm.MethodName)) ∈ lw_all := lw_g (lw_at lw_m17 222 rfl) rfl
theorem q4541 : (Jvm.Cond.code ({ cls := "KnowHouse$DatatypeValues", name := "added", desc := "(LKnowHouse$DatatypeValues$Time;LKnowHouse$DatatypeValues$Span;)LKnowHouse$DatatypeValues$Value;" } : Jvm.MethodName) prog_10_method_16_code (7 : Nat) (Option.some (Jvm.ClassFile.FieldType.object "KnowHouse$DatatypeValues$Value"))) ∈ lw_all := lw_g (lw_at lw_m17 223 rfl) rfl
theorem q4542 : (Jvm.Cond.constantLong "KnowHouse$DatatypeValues" (102 : Nat) (86400000 : Int64)) ∈ lw_all := lw_g (lw_at lw_m17 224 rfl) rfl
theorem q4543 : (Jvm.Cond.methodLink "KnowHouse$DatatypeValues" (109 : Nat) ({ cls := "java/lang/Math", name := "floorDiv", desc := "(JJ)J" } : Jvm.MethodName)) ∈ lw_all := lw_g (lw_at lw_m17 225 rfl) rfl
theorem q4544 : (Jvm.Cond.methodLink "KnowHouse$DatatypeValues" (117 : Nat) ({ cls := "KnowHouse$DatatypeValues$Days", name := "add", desc := "(JJJ)J" } : Jvm.MethodName)) ∈ lw_all := lw_g (lw_at lw_m17 226 rfl) rfl
theorem q4545 : (Jvm.Cond.methodLink "KnowHouse$DatatypeValues" (123 : Nat) ({ cls := "KnowHouse$DatatypeValues$Days", name := "of", desc := "(JII)J" } : Jvm.MethodName)) ∈ lw_all := lw_g (lw_at lw_m17 227 rfl) rfl
theorem q4546 : (Jvm.Cond.constantLong "KnowHouse$DatatypeValues" (127 : Nat) (10000 : Int64)) ∈ lw_all := lw_g (lw_at lw_m17 228 rfl) rfl
theorem q4547 : (Jvm.Cond.methodLink "KnowHouse$DatatypeValues" (132 : Nat) ({ cls := "KnowHouse$DatatypeValues$Time", name := "<init>", desc := "(IJI)V" } : Jvm.MethodName)) ∈ lw_all := lw_g (lw_at lw_m17 229 rfl) rfl
theorem q4548 : (Jvm.Cond.methodLink "KnowHouse$DatatypeValues" (148 : Nat) ({ cls := "KnowHouse$DatatypeValues", name := "between", desc := "(LKnowHouse$DatatypeValues$Time;LKnowHouse$DatatypeValues$Time;)LKnowHouse$DatatypeValues$Value;" } : Jvm.MethodName)) ∈ lw_all := lw_g (lw_at lw_m17 230 rfl) rfl
theorem q4549 : (Jvm.Cond.static ({ cls := "KnowHouse$DatatypeValues", name := "between", desc := "(LKnowHouse$DatatypeValues$Time;LKnowHouse$DatatypeValues$Time;)LKnowHouse$DatatypeValues$Value;" } : Jvm.MethodName)) ∈ lw_all := lw_g (lw_at lw_m17 231 rfl) rfl
theorem q4550 : (Jvm.Cond.code ({ cls := "KnowHouse$DatatypeValues", name := "between", desc := "(LKnowHouse$DatatypeValues$Time;LKnowHouse$DatatypeValues$Time;)LKnowHouse$DatatypeValues$Value;" } : Jvm.MethodName) prog_10_method_19_code (2 : Nat) (Option.some (Jvm.ClassFile.FieldType.object "KnowHouse$DatatypeValues$Value"))) ∈ lw_all := lw_g (lw_at lw_m17 232 rfl) rfl
theorem q4551 : (Jvm.Cond.methodLinkNest "KnowHouse$DatatypeValues" (156 : Nat) ({ cls := "KnowHouse$DatatypeValues$Time", name := "point", desc := "()J" } : Jvm.MethodName) "KnowHouse") ∈ lw_tbl := lw_at lw_m17 233 rfl
theorem q4552 : (Jvm.Cond.methodLink "KnowHouse$DatatypeValues" (152 : Nat) ({ cls := "KnowHouse$DatatypeValues", name := "span", desc := "(JJ)LKnowHouse$DatatypeValues$Value;" } : Jvm.MethodName)) ∈ lw_all := lw_g (lw_at lw_m17 234 rfl) rfl
theorem q4553 : (Jvm.Cond.static ({ cls := "KnowHouse$DatatypeValues", name := "span", desc := "(JJ)LKnowHouse$DatatypeValues$Value;" } : Jvm.MethodName)) ∈ lw_all := lw_g (lw_at lw_m17 235 rfl) rfl
theorem q4554 : (Jvm.Cond.code ({ cls := "KnowHouse$DatatypeValues", name := "span", desc := "(JJ)LKnowHouse$DatatypeValues$Value;" } : Jvm.MethodName) prog_10_method_17_code (4 : Nat) (Option.some (Jvm.ClassFile.FieldType.object "KnowHouse$DatatypeValues$Value"))) ∈ lw_all := lw_g (lw_at lw_m17 236 rfl) rfl
theorem q4555 : (Jvm.Cond.constantLong "KnowHouse$DatatypeValues" (135 : Nat) (1000000000000000 : Int64)) ∈ lw_all := lw_g (lw_at lw_m17 237 rfl) rfl
theorem q4556 : (Jvm.Cond.methodLink "KnowHouse$DatatypeValues" (137 : Nat) ({ cls := "KnowHouse$DatatypeValues$Span", name := "<init>", desc := "(JJ)V" } : Jvm.MethodName)) ∈ lw_all := lw_g (lw_at lw_m17 238 rfl) rfl
theorem q7156 : (Jvm.Cond.fieldLink "java/lang/String" (9 : Nat) "java/lang/String" "value" "[B") ∈ lw_all := lw_g (lw_at lw_m28 198 rfl) rfl
theorem q7157 : (Jvm.Cond.fieldLink "java/lang/String" (15 : Nat) "java/lang/String" "coder" "B") ∈ lw_all := lw_g (lw_at lw_m28 199 rfl) rfl
theorem q9148 : (Jvm.Cond.castable "KnowHouse$DatatypeValues$Number" "KnowHouse$DatatypeValues$Value") ∈ lw_tbl := lw_at lw_m37 30 rfl
theorem q9149 : (Jvm.Cond.castable "KnowHouse$DatatypeValues$Row" "KnowHouse$DatatypeValues$Value") ∈ lw_tbl := lw_at lw_m37 31 rfl
theorem q9150 : (Jvm.Cond.castable "KnowHouse$DatatypeValues$Span" "KnowHouse$DatatypeValues$Value") ∈ lw_tbl := lw_at lw_m37 32 rfl
theorem q9151 : (Jvm.Cond.castable "KnowHouse$DatatypeValues$Time" "KnowHouse$DatatypeValues$Value") ∈ lw_tbl := lw_at lw_m37 33 rfl
theorem q9152 : (Jvm.Cond.castable "KnowHouse$DatatypeValues$Truth" "KnowHouse$DatatypeValues$Value") ∈ lw_tbl := lw_at lw_m37 34 rfl
theorem hDVx29_X6_compare : "KnowHouse$DatatypeValues$Value" ≠ "java/lang/invoke/MethodHandle" ∧ "KnowHouse$DatatypeValues$Value" ≠ "java/lang/invoke/VarHandle" ∧ (parseMethodDescriptor "(LKnowHouse$DatatypeValues$Value;)I").map (fun d => d.parameters.length) = some 1 := by decide +kernel
theorem hDVx16_X6_part : "KnowHouse$DatatypeValues$Value" ≠ "java/lang/invoke/MethodHandle" ∧ "KnowHouse$DatatypeValues$Value" ≠ "java/lang/invoke/VarHandle" ∧ (parseMethodDescriptor "(I)J").map (fun d => d.parameters.length) = some 1 := by decide +kernel
theorem hDVx25_X6_tell : "KnowHouse$DatatypeValues$Value" ≠ "java/lang/invoke/MethodHandle" ∧ "KnowHouse$DatatypeValues$Value" ≠ "java/lang/invoke/VarHandle" ∧ (parseMethodDescriptor "(LKnowHouse$DatatypeValues$Writer;)V").map (fun d => d.parameters.length) = some 1 := by decide +kernel
theorem hDVX7_init : yX7_init.cls ≠ "java/lang/invoke/MethodHandle" ∧ yX7_init.cls ≠ "java/lang/invoke/VarHandle" ∧ (parseMethodDescriptor yX7_init.desc).map (fun d => d.parameters.length) = some 0 := by decide +kernel
theorem hDVX67_here : yX67_here.cls ≠ "java/lang/invoke/MethodHandle" ∧ yX67_here.cls ≠ "java/lang/invoke/VarHandle" ∧ (parseMethodDescriptor yX67_here.desc).map (fun d => d.parameters.length) = some 0 := by decide +kernel
theorem hDVX67_isDigit : yX67_isDigit.cls ≠ "java/lang/invoke/MethodHandle" ∧ yX67_isDigit.cls ≠ "java/lang/invoke/VarHandle" ∧ (parseMethodDescriptor yX67_isDigit.desc).map (fun d => d.parameters.length) = some 0 := by decide +kernel
theorem hDVX67_need : yX67_need.cls ≠ "java/lang/invoke/MethodHandle" ∧ yX67_need.cls ≠ "java/lang/invoke/VarHandle" ∧ (parseMethodDescriptor yX67_need.desc).map (fun d => d.parameters.length) = some 2 := by decide +kernel
theorem hDVX68_init : yX68_init.cls ≠ "java/lang/invoke/MethodHandle" ∧ yX68_init.cls ≠ "java/lang/invoke/VarHandle" ∧ (parseMethodDescriptor yX68_init.desc).map (fun d => d.parameters.length) = some 1 := by decide +kernel
theorem hDVX67_takes : yX67_takes.cls ≠ "java/lang/invoke/MethodHandle" ∧ yX67_takes.cls ≠ "java/lang/invoke/VarHandle" ∧ (parseMethodDescriptor yX67_takes.desc).map (fun d => d.parameters.length) = some 1 := by decide +kernel
theorem hDVX67_digits : yX67_digits.cls ≠ "java/lang/invoke/MethodHandle" ∧ yX67_digits.cls ≠ "java/lang/invoke/VarHandle" ∧ (parseMethodDescriptor yX67_digits.desc).map (fun d => d.parameters.length) = some 2 := by decide +kernel
theorem hDVX69_init : yX69_init.cls ≠ "java/lang/invoke/MethodHandle" ∧ yX69_init.cls ≠ "java/lang/invoke/VarHandle" ∧ (parseMethodDescriptor yX69_init.desc).map (fun d => d.parameters.length) = some 3 := by decide +kernel
theorem hDVJ16_coder : yJ16_coder.cls ≠ "java/lang/invoke/MethodHandle" ∧ yJ16_coder.cls ≠ "java/lang/invoke/VarHandle" ∧ (parseMethodDescriptor yJ16_coder.desc).map (fun d => d.parameters.length) = some 0 := by decide +kernel
theorem hDVJ15_checkIndex : yJ15_checkIndex.cls ≠ "java/lang/invoke/MethodHandle" ∧ yJ15_checkIndex.cls ≠ "java/lang/invoke/VarHandle" ∧ (parseMethodDescriptor yJ15_checkIndex.desc).map (fun d => d.parameters.length) = some 3 := by decide +kernel
theorem hDVJ16_checkIndex : yJ16_checkIndex.cls ≠ "java/lang/invoke/MethodHandle" ∧ yJ16_checkIndex.cls ≠ "java/lang/invoke/VarHandle" ∧ (parseMethodDescriptor yJ16_checkIndex.desc).map (fun d => d.parameters.length) = some 2 := by decide +kernel
theorem hDVJ16_isLatin1 : yJ16_isLatin1.cls ≠ "java/lang/invoke/MethodHandle" ∧ yJ16_isLatin1.cls ≠ "java/lang/invoke/VarHandle" ∧ (parseMethodDescriptor yJ16_isLatin1.desc).map (fun d => d.parameters.length) = some 0 := by decide +kernel
theorem hDVJ17_charAt : yJ17_charAt.cls ≠ "java/lang/invoke/MethodHandle" ∧ yJ17_charAt.cls ≠ "java/lang/invoke/VarHandle" ∧ (parseMethodDescriptor yJ17_charAt.desc).map (fun d => d.parameters.length) = some 2 := by decide +kernel
theorem hDVX70_init : yX70_init.cls ≠ "java/lang/invoke/MethodHandle" ∧ yX70_init.cls ≠ "java/lang/invoke/VarHandle" ∧ (parseMethodDescriptor yX70_init.desc).map (fun d => d.parameters.length) = some 1 := by decide +kernel
theorem hDVJ16_length : yJ16_length.cls ≠ "java/lang/invoke/MethodHandle" ∧ yJ16_length.cls ≠ "java/lang/invoke/VarHandle" ∧ (parseMethodDescriptor yJ16_length.desc).map (fun d => d.parameters.length) = some 0 := by decide +kernel
theorem hDVJ16_charAt : yJ16_charAt.cls ≠ "java/lang/invoke/MethodHandle" ∧ yJ16_charAt.cls ≠ "java/lang/invoke/VarHandle" ∧ (parseMethodDescriptor yJ16_charAt.desc).map (fun d => d.parameters.length) = some 1 := by decide +kernel
theorem hDVX67_want : yX67_want.cls ≠ "java/lang/invoke/MethodHandle" ∧ yX67_want.cls ≠ "java/lang/invoke/VarHandle" ∧ (parseMethodDescriptor yX67_want.desc).map (fun d => d.parameters.length) = some 1 := by decide +kernel
theorem hDVX71_isLeap : yX71_isLeap.cls ≠ "java/lang/invoke/MethodHandle" ∧ yX71_isLeap.cls ≠ "java/lang/invoke/VarHandle" ∧ (parseMethodDescriptor yX71_isLeap.desc).map (fun d => d.parameters.length) = some 1 := by decide +kernel
theorem hDVJ6_floorDiv : yJ6_floorDiv.cls ≠ "java/lang/invoke/MethodHandle" ∧ yJ6_floorDiv.cls ≠ "java/lang/invoke/VarHandle" ∧ (parseMethodDescriptor yJ6_floorDiv.desc).map (fun d => d.parameters.length) = some 2 := by decide +kernel
theorem hDVX67_two : yX67_two.cls ≠ "java/lang/invoke/MethodHandle" ∧ yX67_two.cls ≠ "java/lang/invoke/VarHandle" ∧ (parseMethodDescriptor yX67_two.desc).map (fun d => d.parameters.length) = some 2 := by decide +kernel
theorem hDVX71_length : yX71_length.cls ≠ "java/lang/invoke/MethodHandle" ∧ yX71_length.cls ≠ "java/lang/invoke/VarHandle" ∧ (parseMethodDescriptor yX71_length.desc).map (fun d => d.parameters.length) = some 2 := by decide +kernel
theorem hDVX71_of : yX71_of.cls ≠ "java/lang/invoke/MethodHandle" ∧ yX71_of.cls ≠ "java/lang/invoke/VarHandle" ∧ (parseMethodDescriptor yX71_of.desc).map (fun d => d.parameters.length) = some 3 := by decide +kernel
theorem hDVX67_day : yX67_day.cls ≠ "java/lang/invoke/MethodHandle" ∧ yX67_day.cls ≠ "java/lang/invoke/VarHandle" ∧ (parseMethodDescriptor yX67_day.desc).map (fun d => d.parameters.length) = some 0 := by decide +kernel
theorem hDVX67_zone : yX67_zone.cls ≠ "java/lang/invoke/MethodHandle" ∧ yX67_zone.cls ≠ "java/lang/invoke/VarHandle" ∧ (parseMethodDescriptor yX67_zone.desc).map (fun d => d.parameters.length) = some 0 := by decide +kernel
theorem hDVX72_init : yX72_init.cls ≠ "java/lang/invoke/MethodHandle" ∧ yX72_init.cls ≠ "java/lang/invoke/VarHandle" ∧ (parseMethodDescriptor yX72_init.desc).map (fun d => d.parameters.length) = some 3 := by decide +kernel
theorem hDVX67_fraction : yX67_fraction.cls ≠ "java/lang/invoke/MethodHandle" ∧ yX67_fraction.cls ≠ "java/lang/invoke/VarHandle" ∧ (parseMethodDescriptor yX67_fraction.desc).map (fun d => d.parameters.length) = some 0 := by decide +kernel
theorem hDVX67_clock : yX67_clock.cls ≠ "java/lang/invoke/MethodHandle" ∧ yX67_clock.cls ≠ "java/lang/invoke/VarHandle" ∧ (parseMethodDescriptor yX67_clock.desc).map (fun d => d.parameters.length) = some 0 := by decide +kernel
theorem hDVX73_init : yX73_init.cls ≠ "java/lang/invoke/MethodHandle" ∧ yX73_init.cls ≠ "java/lang/invoke/VarHandle" ∧ (parseMethodDescriptor yX73_init.desc).map (fun d => d.parameters.length) = some 2 := by decide +kernel
theorem hDVX67_nibble : yX67_nibble.cls ≠ "java/lang/invoke/MethodHandle" ∧ yX67_nibble.cls ≠ "java/lang/invoke/VarHandle" ∧ (parseMethodDescriptor yX67_nibble.desc).map (fun d => d.parameters.length) = some 0 := by decide +kernel
theorem hDVX67_row : yX67_row.cls ≠ "java/lang/invoke/MethodHandle" ∧ yX67_row.cls ≠ "java/lang/invoke/VarHandle" ∧ (parseMethodDescriptor yX67_row.desc).map (fun d => d.parameters.length) = some 2 := by decide +kernel
theorem hDVX74_init : yX74_init.cls ≠ "java/lang/invoke/MethodHandle" ∧ yX74_init.cls ≠ "java/lang/invoke/VarHandle" ∧ (parseMethodDescriptor yX74_init.desc).map (fun d => d.parameters.length) = some 2 := by decide +kernel
theorem hDVJ17_canEncode : yJ17_canEncode.cls ≠ "java/lang/invoke/MethodHandle" ∧ yJ17_canEncode.cls ≠ "java/lang/invoke/VarHandle" ∧ (parseMethodDescriptor yJ17_canEncode.desc).map (fun d => d.parameters.length) = some 1 := by decide +kernel
theorem hDVJ17_indexOfChar : yJ17_indexOfChar.cls ≠ "java/lang/invoke/MethodHandle" ∧ yJ17_indexOfChar.cls ≠ "java/lang/invoke/VarHandle" ∧ (parseMethodDescriptor yJ17_indexOfChar.desc).map (fun d => d.parameters.length) = some 4 := by decide +kernel
theorem hDVJ17_indexOf : yJ17_indexOf.cls ≠ "java/lang/invoke/MethodHandle" ∧ yJ17_indexOf.cls ≠ "java/lang/invoke/VarHandle" ∧ (parseMethodDescriptor yJ17_indexOf.desc).map (fun d => d.parameters.length) = some 4 := by decide +kernel
theorem hDVJ16_indexOf_2 : yJ16_indexOf_2.cls ≠ "java/lang/invoke/MethodHandle" ∧ yJ16_indexOf_2.cls ≠ "java/lang/invoke/VarHandle" ∧ (parseMethodDescriptor yJ16_indexOf_2.desc).map (fun d => d.parameters.length) = some 2 := by decide +kernel
theorem hDVJ16_indexOf : yJ16_indexOf.cls ≠ "java/lang/invoke/MethodHandle" ∧ yJ16_indexOf.cls ≠ "java/lang/invoke/VarHandle" ∧ (parseMethodDescriptor yJ16_indexOf.desc).map (fun d => d.parameters.length) = some 1 := by decide +kernel
theorem hDVX67_letter : yX67_letter.cls ≠ "java/lang/invoke/MethodHandle" ∧ yX67_letter.cls ≠ "java/lang/invoke/VarHandle" ∧ (parseMethodDescriptor yX67_letter.desc).map (fun d => d.parameters.length) = some 0 := by decide +kernel
theorem hDVX67_number : yX67_number.cls ≠ "java/lang/invoke/MethodHandle" ∧ yX67_number.cls ≠ "java/lang/invoke/VarHandle" ∧ (parseMethodDescriptor yX67_number.desc).map (fun d => d.parameters.length) = some 1 := by decide +kernel
theorem hDVX67_truth : yX67_truth.cls ≠ "java/lang/invoke/MethodHandle" ∧ yX67_truth.cls ≠ "java/lang/invoke/VarHandle" ∧ (parseMethodDescriptor yX67_truth.desc).map (fun d => d.parameters.length) = some 0 := by decide +kernel
theorem hDVX67_date : yX67_date.cls ≠ "java/lang/invoke/MethodHandle" ∧ yX67_date.cls ≠ "java/lang/invoke/VarHandle" ∧ (parseMethodDescriptor yX67_date.desc).map (fun d => d.parameters.length) = some 0 := by decide +kernel
theorem hDVX67_instant : yX67_instant.cls ≠ "java/lang/invoke/MethodHandle" ∧ yX67_instant.cls ≠ "java/lang/invoke/VarHandle" ∧ (parseMethodDescriptor yX67_instant.desc).map (fun d => d.parameters.length) = some 0 := by decide +kernel
theorem hDVX67_span : yX67_span.cls ≠ "java/lang/invoke/MethodHandle" ∧ yX67_span.cls ≠ "java/lang/invoke/VarHandle" ∧ (parseMethodDescriptor yX67_span.desc).map (fun d => d.parameters.length) = some 0 := by decide +kernel
theorem hDVX67_hex : yX67_hex.cls ≠ "java/lang/invoke/MethodHandle" ∧ yX67_hex.cls ≠ "java/lang/invoke/VarHandle" ∧ (parseMethodDescriptor yX67_hex.desc).map (fun d => d.parameters.length) = some 0 := by decide +kernel
theorem hDVX67_base : yX67_base.cls ≠ "java/lang/invoke/MethodHandle" ∧ yX67_base.cls ≠ "java/lang/invoke/VarHandle" ∧ (parseMethodDescriptor yX67_base.desc).map (fun d => d.parameters.length) = some 0 := by decide +kernel
theorem hDVX67_value : yX67_value.cls ≠ "java/lang/invoke/MethodHandle" ∧ yX67_value.cls ≠ "java/lang/invoke/VarHandle" ∧ (parseMethodDescriptor yX67_value.desc).map (fun d => d.parameters.length) = some 1 := by decide +kernel
theorem hDVX67_init : yX67_init.cls ≠ "java/lang/invoke/MethodHandle" ∧ yX67_init.cls ≠ "java/lang/invoke/VarHandle" ∧ (parseMethodDescriptor yX67_init.desc).map (fun d => d.parameters.length) = some 2 := by decide +kernel
theorem hDVX67_read : yX67_read.cls ≠ "java/lang/invoke/MethodHandle" ∧ yX67_read.cls ≠ "java/lang/invoke/VarHandle" ∧ (parseMethodDescriptor yX67_read.desc).map (fun d => d.parameters.length) = some 1 := by decide +kernel
theorem hDVX6_keep : yX6_keep.cls ≠ "java/lang/invoke/MethodHandle" ∧ yX6_keep.cls ≠ "java/lang/invoke/VarHandle" ∧ (parseMethodDescriptor yX6_keep.desc).map (fun d => d.parameters.length) = some 1 := by decide +kernel
theorem hDVX6_at : yX6_at.cls ≠ "java/lang/invoke/MethodHandle" ∧ yX6_at.cls ≠ "java/lang/invoke/VarHandle" ∧ (parseMethodDescriptor yX6_at.desc).map (fun d => d.parameters.length) = some 1 := by decide +kernel
theorem hDVJ21_compare : yJ21_compare.cls ≠ "java/lang/invoke/MethodHandle" ∧ yJ21_compare.cls ≠ "java/lang/invoke/VarHandle" ∧ (parseMethodDescriptor yJ21_compare.desc).map (fun d => d.parameters.length) = some 2 := by decide +kernel
theorem hDVJ25_compare : yJ25_compare.cls ≠ "java/lang/invoke/MethodHandle" ∧ yJ25_compare.cls ≠ "java/lang/invoke/VarHandle" ∧ (parseMethodDescriptor yJ25_compare.desc).map (fun d => d.parameters.length) = some 2 := by decide +kernel
theorem hDVX72_point : yX72_point.cls ≠ "java/lang/invoke/MethodHandle" ∧ yX72_point.cls ≠ "java/lang/invoke/VarHandle" ∧ (parseMethodDescriptor yX72_point.desc).map (fun d => d.parameters.length) = some 0 := by decide +kernel
theorem hDVJ6_floorMod_2 : yJ6_floorMod_2.cls ≠ "java/lang/invoke/MethodHandle" ∧ yJ6_floorMod_2.cls ≠ "java/lang/invoke/VarHandle" ∧ (parseMethodDescriptor yJ6_floorMod_2.desc).map (fun d => d.parameters.length) = some 2 := by decide +kernel
theorem hDVX71_date : yX71_date.cls ≠ "java/lang/invoke/MethodHandle" ∧ yX71_date.cls ≠ "java/lang/invoke/VarHandle" ∧ (parseMethodDescriptor yX71_date.desc).map (fun d => d.parameters.length) = some 1 := by decide +kernel
theorem hDVX71_add : yX71_add.cls ≠ "java/lang/invoke/MethodHandle" ∧ yX71_add.cls ≠ "java/lang/invoke/VarHandle" ∧ (parseMethodDescriptor yX71_add.desc).map (fun d => d.parameters.length) = some 3 := by decide +kernel
theorem hDVJ3_compare : yJ3_compare.cls ≠ "java/lang/invoke/MethodHandle" ∧ yJ3_compare.cls ≠ "java/lang/invoke/VarHandle" ∧ (parseMethodDescriptor yJ3_compare.desc).map (fun d => d.parameters.length) = some 2 := by decide +kernel
theorem hDVX7_add : yX7_add.cls ≠ "java/lang/invoke/MethodHandle" ∧ yX7_add.cls ≠ "java/lang/invoke/VarHandle" ∧ (parseMethodDescriptor yX7_add.desc).map (fun d => d.parameters.length) = some 1 := by decide +kernel
theorem hDVX7_number : yX7_number.cls ≠ "java/lang/invoke/MethodHandle" ∧ yX7_number.cls ≠ "java/lang/invoke/VarHandle" ∧ (parseMethodDescriptor yX7_number.desc).map (fun d => d.parameters.length) = some 2 := by decide +kernel
theorem hDVX7_addAll : yX7_addAll.cls ≠ "java/lang/invoke/MethodHandle" ∧ yX7_addAll.cls ≠ "java/lang/invoke/VarHandle" ∧ (parseMethodDescriptor yX7_addAll.desc).map (fun d => d.parameters.length) = some 1 := by decide +kernel
theorem hDVX7_fraction : yX7_fraction.cls ≠ "java/lang/invoke/MethodHandle" ∧ yX7_fraction.cls ≠ "java/lang/invoke/VarHandle" ∧ (parseMethodDescriptor yX7_fraction.desc).map (fun d => d.parameters.length) = some 1 := by decide +kernel
theorem hDVX7_clock : yX7_clock.cls ≠ "java/lang/invoke/MethodHandle" ∧ yX7_clock.cls ≠ "java/lang/invoke/VarHandle" ∧ (parseMethodDescriptor yX7_clock.desc).map (fun d => d.parameters.length) = some 1 := by decide +kernel
theorem hDVX7_some : yX7_some.cls ≠ "java/lang/invoke/MethodHandle" ∧ yX7_some.cls ≠ "java/lang/invoke/VarHandle" ∧ (parseMethodDescriptor yX7_some.desc).map (fun d => d.parameters.length) = some 2 := by decide +kernel
theorem hDVX74_group : yX74_group.cls ≠ "java/lang/invoke/MethodHandle" ∧ yX74_group.cls ≠ "java/lang/invoke/VarHandle" ∧ (parseMethodDescriptor yX74_group.desc).map (fun d => d.parameters.length) = some 2 := by decide +kernel
theorem hDVJ21_signum : yJ21_signum.cls ≠ "java/lang/invoke/MethodHandle" ∧ yJ21_signum.cls ≠ "java/lang/invoke/VarHandle" ∧ (parseMethodDescriptor yJ21_signum.desc).map (fun d => d.parameters.length) = some 1 := by decide +kernel
theorem hDVX6_span : yX6_span.cls ≠ "java/lang/invoke/MethodHandle" ∧ yX6_span.cls ≠ "java/lang/invoke/VarHandle" ∧ (parseMethodDescriptor yX6_span.desc).map (fun d => d.parameters.length) = some 2 := by decide +kernel
theorem hDVX6_reckon : yX6_reckon.cls ≠ "java/lang/invoke/MethodHandle" ∧ yX6_reckon.cls ≠ "java/lang/invoke/VarHandle" ∧ (parseMethodDescriptor yX6_reckon.desc).map (fun d => d.parameters.length) = some 3 := by decide +kernel
theorem hDVX6_added : yX6_added.cls ≠ "java/lang/invoke/MethodHandle" ∧ yX6_added.cls ≠ "java/lang/invoke/VarHandle" ∧ (parseMethodDescriptor yX6_added.desc).map (fun d => d.parameters.length) = some 2 := by decide +kernel
theorem hDVX6_between : yX6_between.cls ≠ "java/lang/invoke/MethodHandle" ∧ yX6_between.cls ≠ "java/lang/invoke/VarHandle" ∧ (parseMethodDescriptor yX6_between.desc).map (fun d => d.parameters.length) = some 2 := by decide +kernel
def sg3 : Nat → Int64 := fun j => ([-8625484800000, -8612265600000, -2109283200000, -2098742400000] : List Int64).getD j 0
def kEDV (G : kGt) (sa : Nat → Nat) (so : kSo) : Prop := ∀ (A : Nat → Prop) (s : State) (H : Heap), G A s H → kOe 2 (sa 20) A s H ∧ va_Z "java/lang/String" "COMPACT_STRINGS" "Z" (.int 1) A s H ∧ kSf so A s H ∧ va_Z "jdk/internal/util/Preconditions" "SIOOBE_FORMATTER" "Ljava/util/function/BiFunction;" (.ref (sa 11)) A s H ∧ vk_R "KnowHouse$DatatypeValues$Reader" 101 "false" (sa 258) s ∧ vk_R "KnowHouse$DatatypeValues$Reader" 99 "true" (sa 257) s ∧ vk_R "KnowHouse$DatatypeValues$Reader" 171 "HMS" (sa 260) s ∧ vk_R "KnowHouse$DatatypeValues$Reader" 159 "YMD" (sa 259) s ∧ vk_R "KnowHouse$DatatypeValues$Reader" 185 "ABCDEFGHIJKLMNOPQRSTUVWXYZabcdefghijklmnopqrstuvwxyz0123456789+/" (sa 261) s ∧ va_Nc "KnowHouse$DatatypeValues$Truth" "KnowHouse$DatatypeValues$Number" s ∧ va_Nc "KnowHouse$DatatypeValues$Time" "KnowHouse$DatatypeValues$Number" s ∧ va_Nc "KnowHouse$DatatypeValues$Span" "KnowHouse$DatatypeValues$Number" s ∧ va_Nc "KnowHouse$DatatypeValues$Row" "KnowHouse$DatatypeValues$Number" s ∧ va_Nc "KnowHouse$DatatypeValues$Number" "KnowHouse$DatatypeValues$Truth" s ∧ va_Nc "KnowHouse$DatatypeValues$Time" "KnowHouse$DatatypeValues$Truth" s ∧ va_Nc "KnowHouse$DatatypeValues$Span" "KnowHouse$DatatypeValues$Truth" s ∧ va_Nc "KnowHouse$DatatypeValues$Row" "KnowHouse$DatatypeValues$Truth" s ∧ va_Nc "KnowHouse$DatatypeValues$Number" "KnowHouse$DatatypeValues$Span" s ∧ va_Nc "KnowHouse$DatatypeValues$Truth" "KnowHouse$DatatypeValues$Span" s ∧ va_Nc "KnowHouse$DatatypeValues$Time" "KnowHouse$DatatypeValues$Span" s ∧ va_Nc "KnowHouse$DatatypeValues$Row" "KnowHouse$DatatypeValues$Span" s ∧ va_Z "KnowHouse$DatatypeValues$Span" "FROM" "[J" (.ref (sa 3)) A s H ∧ va_T .long (sa 3) 4 (fun j => .long (sg3 j)) A s H ∧ va_Nc "KnowHouse$DatatypeValues$Number" "KnowHouse$DatatypeValues$Row" s ∧ va_Nc "KnowHouse$DatatypeValues$Truth" "KnowHouse$DatatypeValues$Row" s ∧ va_Nc "KnowHouse$DatatypeValues$Time" "KnowHouse$DatatypeValues$Row" s ∧ va_Nc "KnowHouse$DatatypeValues$Span" "KnowHouse$DatatypeValues$Row" s ∧ vk_R "KnowHouse$DatatypeValues$Truth" 17 "false" (sa 266) s ∧ vk_R "KnowHouse$DatatypeValues$Truth" 15 "true" (sa 265) s ∧ vk_R "KnowHouse$DatatypeValues$Span" 27 "MT" (sa 264) s ∧ vk_R "KnowHouse$DatatypeValues$Row" 38 "ABCDEFGHIJKLMNOPQRSTUVWXYZabcdefghijklmnopqrstuvwxyz0123456789+/" (sa 263) s ∧ vk_R "KnowHouse$DatatypeValues$Row" 19 "0123456789ABCDEF" (sa 262) s ∧ va_Nc "KnowHouse$DatatypeValues$Number" "KnowHouse$DatatypeValues$Time" s ∧ va_Nc "KnowHouse$DatatypeValues$Truth" "KnowHouse$DatatypeValues$Time" s ∧ va_Nc "KnowHouse$DatatypeValues$Span" "KnowHouse$DatatypeValues$Time" s ∧ va_Nc "KnowHouse$DatatypeValues$Row" "KnowHouse$DatatypeValues$Time" s ∧ True
theorem kEDV_0 {G : kGt} {sa : Nat → Nat} {so : kSo} (h : kEDV G sa so) {A : Nat → Prop} {s : State} {H : Heap} (g : G A s H) : kOe 2 (sa 20) A s H := (h A s H g).1
theorem kEDV_1 {G : kGt} {sa : Nat → Nat} {so : kSo} (h : kEDV G sa so) {A : Nat → Prop} {s : State} {H : Heap} (g : G A s H) : va_Z "java/lang/String" "COMPACT_STRINGS" "Z" (.int 1) A s H := (h A s H g).2.1
theorem kEDV_2 {G : kGt} {sa : Nat → Nat} {so : kSo} (h : kEDV G sa so) {A : Nat → Prop} {s : State} {H : Heap} (g : G A s H) : kSf so A s H := (h A s H g).2.2.1
theorem kEDV_3 {G : kGt} {sa : Nat → Nat} {so : kSo} (h : kEDV G sa so) {A : Nat → Prop} {s : State} {H : Heap} (g : G A s H) : va_Z "jdk/internal/util/Preconditions" "SIOOBE_FORMATTER" "Ljava/util/function/BiFunction;" (.ref (sa 11)) A s H := (h A s H g).2.2.2.1
theorem kEDV_4 {G : kGt} {sa : Nat → Nat} {so : kSo} (h : kEDV G sa so) {A : Nat → Prop} {s : State} {H : Heap} (g : G A s H) : vk_R "KnowHouse$DatatypeValues$Reader" 101 "false" (sa 258) s := (h A s H g).2.2.2.2.1
theorem kEDV_5 {G : kGt} {sa : Nat → Nat} {so : kSo} (h : kEDV G sa so) {A : Nat → Prop} {s : State} {H : Heap} (g : G A s H) : vk_R "KnowHouse$DatatypeValues$Reader" 99 "true" (sa 257) s := (h A s H g).2.2.2.2.2.1
theorem kEDV_6 {G : kGt} {sa : Nat → Nat} {so : kSo} (h : kEDV G sa so) {A : Nat → Prop} {s : State} {H : Heap} (g : G A s H) : vk_R "KnowHouse$DatatypeValues$Reader" 171 "HMS" (sa 260) s := (h A s H g).2.2.2.2.2.2.1
theorem kEDV_7 {G : kGt} {sa : Nat → Nat} {so : kSo} (h : kEDV G sa so) {A : Nat → Prop} {s : State} {H : Heap} (g : G A s H) : vk_R "KnowHouse$DatatypeValues$Reader" 159 "YMD" (sa 259) s := (h A s H g).2.2.2.2.2.2.2.1
theorem kEDV_8 {G : kGt} {sa : Nat → Nat} {so : kSo} (h : kEDV G sa so) {A : Nat → Prop} {s : State} {H : Heap} (g : G A s H) : vk_R "KnowHouse$DatatypeValues$Reader" 185 "ABCDEFGHIJKLMNOPQRSTUVWXYZabcdefghijklmnopqrstuvwxyz0123456789+/" (sa 261) s := (h A s H g).2.2.2.2.2.2.2.2.1
theorem kEDV_9 {G : kGt} {sa : Nat → Nat} {so : kSo} (h : kEDV G sa so) {A : Nat → Prop} {s : State} {H : Heap} (g : G A s H) : va_Nc "KnowHouse$DatatypeValues$Truth" "KnowHouse$DatatypeValues$Number" s := (h A s H g).2.2.2.2.2.2.2.2.2.1
theorem kEDV_10 {G : kGt} {sa : Nat → Nat} {so : kSo} (h : kEDV G sa so) {A : Nat → Prop} {s : State} {H : Heap} (g : G A s H) : va_Nc "KnowHouse$DatatypeValues$Time" "KnowHouse$DatatypeValues$Number" s := (h A s H g).2.2.2.2.2.2.2.2.2.2.1
theorem kEDV_11 {G : kGt} {sa : Nat → Nat} {so : kSo} (h : kEDV G sa so) {A : Nat → Prop} {s : State} {H : Heap} (g : G A s H) : va_Nc "KnowHouse$DatatypeValues$Span" "KnowHouse$DatatypeValues$Number" s := (h A s H g).2.2.2.2.2.2.2.2.2.2.2.1
theorem kEDV_12 {G : kGt} {sa : Nat → Nat} {so : kSo} (h : kEDV G sa so) {A : Nat → Prop} {s : State} {H : Heap} (g : G A s H) : va_Nc "KnowHouse$DatatypeValues$Row" "KnowHouse$DatatypeValues$Number" s := (h A s H g).2.2.2.2.2.2.2.2.2.2.2.2.1
theorem kEDV_13 {G : kGt} {sa : Nat → Nat} {so : kSo} (h : kEDV G sa so) {A : Nat → Prop} {s : State} {H : Heap} (g : G A s H) : va_Nc "KnowHouse$DatatypeValues$Number" "KnowHouse$DatatypeValues$Truth" s := (h A s H g).2.2.2.2.2.2.2.2.2.2.2.2.2.1
theorem kEDV_14 {G : kGt} {sa : Nat → Nat} {so : kSo} (h : kEDV G sa so) {A : Nat → Prop} {s : State} {H : Heap} (g : G A s H) : va_Nc "KnowHouse$DatatypeValues$Time" "KnowHouse$DatatypeValues$Truth" s := (h A s H g).2.2.2.2.2.2.2.2.2.2.2.2.2.2.1
theorem kEDV_15 {G : kGt} {sa : Nat → Nat} {so : kSo} (h : kEDV G sa so) {A : Nat → Prop} {s : State} {H : Heap} (g : G A s H) : va_Nc "KnowHouse$DatatypeValues$Span" "KnowHouse$DatatypeValues$Truth" s := (h A s H g).2.2.2.2.2.2.2.2.2.2.2.2.2.2.2.1
theorem kEDV_16 {G : kGt} {sa : Nat → Nat} {so : kSo} (h : kEDV G sa so) {A : Nat → Prop} {s : State} {H : Heap} (g : G A s H) : va_Nc "KnowHouse$DatatypeValues$Row" "KnowHouse$DatatypeValues$Truth" s := (h A s H g).2.2.2.2.2.2.2.2.2.2.2.2.2.2.2.2.1
theorem kEDV_17 {G : kGt} {sa : Nat → Nat} {so : kSo} (h : kEDV G sa so) {A : Nat → Prop} {s : State} {H : Heap} (g : G A s H) : va_Nc "KnowHouse$DatatypeValues$Number" "KnowHouse$DatatypeValues$Span" s := (h A s H g).2.2.2.2.2.2.2.2.2.2.2.2.2.2.2.2.2.1
theorem kEDV_18 {G : kGt} {sa : Nat → Nat} {so : kSo} (h : kEDV G sa so) {A : Nat → Prop} {s : State} {H : Heap} (g : G A s H) : va_Nc "KnowHouse$DatatypeValues$Truth" "KnowHouse$DatatypeValues$Span" s := (h A s H g).2.2.2.2.2.2.2.2.2.2.2.2.2.2.2.2.2.2.1
theorem kEDV_19 {G : kGt} {sa : Nat → Nat} {so : kSo} (h : kEDV G sa so) {A : Nat → Prop} {s : State} {H : Heap} (g : G A s H) : va_Nc "KnowHouse$DatatypeValues$Time" "KnowHouse$DatatypeValues$Span" s := (h A s H g).2.2.2.2.2.2.2.2.2.2.2.2.2.2.2.2.2.2.2.1
theorem kEDV_20 {G : kGt} {sa : Nat → Nat} {so : kSo} (h : kEDV G sa so) {A : Nat → Prop} {s : State} {H : Heap} (g : G A s H) : va_Nc "KnowHouse$DatatypeValues$Row" "KnowHouse$DatatypeValues$Span" s := (h A s H g).2.2.2.2.2.2.2.2.2.2.2.2.2.2.2.2.2.2.2.2.1
theorem kEDV_21 {G : kGt} {sa : Nat → Nat} {so : kSo} (h : kEDV G sa so) {A : Nat → Prop} {s : State} {H : Heap} (g : G A s H) : va_Z "KnowHouse$DatatypeValues$Span" "FROM" "[J" (.ref (sa 3)) A s H := (h A s H g).2.2.2.2.2.2.2.2.2.2.2.2.2.2.2.2.2.2.2.2.2.1
theorem kEDV_22 {G : kGt} {sa : Nat → Nat} {so : kSo} (h : kEDV G sa so) {A : Nat → Prop} {s : State} {H : Heap} (g : G A s H) : va_T .long (sa 3) 4 (fun j => .long (sg3 j)) A s H := (h A s H g).2.2.2.2.2.2.2.2.2.2.2.2.2.2.2.2.2.2.2.2.2.2.1
theorem kEDV_23 {G : kGt} {sa : Nat → Nat} {so : kSo} (h : kEDV G sa so) {A : Nat → Prop} {s : State} {H : Heap} (g : G A s H) : va_Nc "KnowHouse$DatatypeValues$Number" "KnowHouse$DatatypeValues$Row" s := (h A s H g).2.2.2.2.2.2.2.2.2.2.2.2.2.2.2.2.2.2.2.2.2.2.2.1
theorem kEDV_24 {G : kGt} {sa : Nat → Nat} {so : kSo} (h : kEDV G sa so) {A : Nat → Prop} {s : State} {H : Heap} (g : G A s H) : va_Nc "KnowHouse$DatatypeValues$Truth" "KnowHouse$DatatypeValues$Row" s := (h A s H g).2.2.2.2.2.2.2.2.2.2.2.2.2.2.2.2.2.2.2.2.2.2.2.2.1
theorem kEDV_25 {G : kGt} {sa : Nat → Nat} {so : kSo} (h : kEDV G sa so) {A : Nat → Prop} {s : State} {H : Heap} (g : G A s H) : va_Nc "KnowHouse$DatatypeValues$Time" "KnowHouse$DatatypeValues$Row" s := (h A s H g).2.2.2.2.2.2.2.2.2.2.2.2.2.2.2.2.2.2.2.2.2.2.2.2.2.1
theorem kEDV_26 {G : kGt} {sa : Nat → Nat} {so : kSo} (h : kEDV G sa so) {A : Nat → Prop} {s : State} {H : Heap} (g : G A s H) : va_Nc "KnowHouse$DatatypeValues$Span" "KnowHouse$DatatypeValues$Row" s := (h A s H g).2.2.2.2.2.2.2.2.2.2.2.2.2.2.2.2.2.2.2.2.2.2.2.2.2.2.1
theorem kEDV_27 {G : kGt} {sa : Nat → Nat} {so : kSo} (h : kEDV G sa so) {A : Nat → Prop} {s : State} {H : Heap} (g : G A s H) : vk_R "KnowHouse$DatatypeValues$Truth" 17 "false" (sa 266) s := (h A s H g).2.2.2.2.2.2.2.2.2.2.2.2.2.2.2.2.2.2.2.2.2.2.2.2.2.2.2.1
theorem kEDV_28 {G : kGt} {sa : Nat → Nat} {so : kSo} (h : kEDV G sa so) {A : Nat → Prop} {s : State} {H : Heap} (g : G A s H) : vk_R "KnowHouse$DatatypeValues$Truth" 15 "true" (sa 265) s := (h A s H g).2.2.2.2.2.2.2.2.2.2.2.2.2.2.2.2.2.2.2.2.2.2.2.2.2.2.2.2.1
theorem kEDV_29 {G : kGt} {sa : Nat → Nat} {so : kSo} (h : kEDV G sa so) {A : Nat → Prop} {s : State} {H : Heap} (g : G A s H) : vk_R "KnowHouse$DatatypeValues$Span" 27 "MT" (sa 264) s := (h A s H g).2.2.2.2.2.2.2.2.2.2.2.2.2.2.2.2.2.2.2.2.2.2.2.2.2.2.2.2.2.1
theorem kEDV_30 {G : kGt} {sa : Nat → Nat} {so : kSo} (h : kEDV G sa so) {A : Nat → Prop} {s : State} {H : Heap} (g : G A s H) : vk_R "KnowHouse$DatatypeValues$Row" 38 "ABCDEFGHIJKLMNOPQRSTUVWXYZabcdefghijklmnopqrstuvwxyz0123456789+/" (sa 263) s := (h A s H g).2.2.2.2.2.2.2.2.2.2.2.2.2.2.2.2.2.2.2.2.2.2.2.2.2.2.2.2.2.2.1
theorem kEDV_31 {G : kGt} {sa : Nat → Nat} {so : kSo} (h : kEDV G sa so) {A : Nat → Prop} {s : State} {H : Heap} (g : G A s H) : vk_R "KnowHouse$DatatypeValues$Row" 19 "0123456789ABCDEF" (sa 262) s := (h A s H g).2.2.2.2.2.2.2.2.2.2.2.2.2.2.2.2.2.2.2.2.2.2.2.2.2.2.2.2.2.2.2.1
theorem kEDV_32 {G : kGt} {sa : Nat → Nat} {so : kSo} (h : kEDV G sa so) {A : Nat → Prop} {s : State} {H : Heap} (g : G A s H) : va_Nc "KnowHouse$DatatypeValues$Number" "KnowHouse$DatatypeValues$Time" s := (h A s H g).2.2.2.2.2.2.2.2.2.2.2.2.2.2.2.2.2.2.2.2.2.2.2.2.2.2.2.2.2.2.2.2.1
theorem kEDV_33 {G : kGt} {sa : Nat → Nat} {so : kSo} (h : kEDV G sa so) {A : Nat → Prop} {s : State} {H : Heap} (g : G A s H) : va_Nc "KnowHouse$DatatypeValues$Truth" "KnowHouse$DatatypeValues$Time" s := (h A s H g).2.2.2.2.2.2.2.2.2.2.2.2.2.2.2.2.2.2.2.2.2.2.2.2.2.2.2.2.2.2.2.2.2.1
theorem kEDV_34 {G : kGt} {sa : Nat → Nat} {so : kSo} (h : kEDV G sa so) {A : Nat → Prop} {s : State} {H : Heap} (g : G A s H) : va_Nc "KnowHouse$DatatypeValues$Span" "KnowHouse$DatatypeValues$Time" s := (h A s H g).2.2.2.2.2.2.2.2.2.2.2.2.2.2.2.2.2.2.2.2.2.2.2.2.2.2.2.2.2.2.2.2.2.2.1
theorem kEDV_35 {G : kGt} {sa : Nat → Nat} {so : kSo} (h : kEDV G sa so) {A : Nat → Prop} {s : State} {H : Heap} (g : G A s H) : va_Nc "KnowHouse$DatatypeValues$Row" "KnowHouse$DatatypeValues$Time" s := (h A s H g).2.2.2.2.2.2.2.2.2.2.2.2.2.2.2.2.2.2.2.2.2.2.2.2.2.2.2.2.2.2.2.2.2.2.2.1
def cDV (ci : Nat → Nat) (d : Nat → ClassId) (kd : Nat → Nat) (an : Nat → Nat) (ai : Nat → Nat → Int32) (al : Nat → Nat → Int64) (ar : Nat → Nat → Option Nat) (mX6_tape : Nat → Option Nat) (mX6_size : Nat → Int32) (mX6_values : Nat → Option Nat) (mX6_count : Nat → Int32) (mX6_writer : Nat → Option Nat) (mX7_bytes : Nat → Option Nat) (mX7_size : Nat → Int32) (mX67_tape : Nat → Option Nat) (mX67_size : Nat → Int32) (mX67_at : Nat → Int32) (mX67_wrong : Nat → Option Nat) (mX67_place : Nat → Int32) (mX68_kind : Nat → Int32) (mX69_upper : Nat → Int64) (mX69_lower : Nat → Int64) (mX70_is : Nat → Int32) (mX72_millis : Nat → Int64) (mX72_zone : Nat → Int32) (mX73_months : Nat → Int64) (mX73_millis : Nat → Int64) (mX74_bytes : Nat → Option Nat) : Nat → va_E := fun a => match kd a with
  | 1 => .inr (ci 0, [va_rf (mX6_tape a), .int (mX6_size a), va_rf (mX6_values a), .int (mX6_count a), va_rf (mX6_writer a)])
  | 2 => .inr (ci 1, [va_rf (mX7_bytes a), .int (mX7_size a)])
  | 3 => .inr (ci 2, [va_rf (mX67_tape a), .int (mX67_size a), .int (mX67_at a), va_rf (mX67_wrong a), .int (mX67_place a)])
  | 4 => .inr (ci 3, [.int (mX68_kind a), .long (mX69_upper a), .long (mX69_lower a)])
  | 5 => .inr (ci 4, [.int (mX68_kind a), .int (mX70_is a)])
  | 6 => .inr (ci 5, [.int (mX68_kind a), .long (mX72_millis a), .int (mX72_zone a)])
  | 7 => .inr (ci 6, [.int (mX68_kind a), .long (mX73_months a), .long (mX73_millis a)])
  | 8 => .inr (ci 7, [.int (mX68_kind a), va_rf (mX74_bytes a)])
  | 9 => .inl (d 0, an a, .inl (ai a))
  | 10 => .inl (d 1, an a, .inl (ai a))
  | 11 => .inl (d 2, an a, .inr (.inl (al a)))
  | 12 => .inl (d 3, an a, .inr (.inr (.inr (.inr (ar a)))))
  | _ => .inl (d 0, 0, .inl (fun _ => 0))
abbrev kDV : List vw_C := [(RX6, TX6, 5), (RX7, TX7, 2), (RX67, TX67, 5), (RX69, TX69, 3), (RX70, TX70, 2), (RX72, TX72, 3), (RX73, TX73, 3), (RX74, TX74, 2)]
abbrev tDV (d : Nat → ClassId) : List (ClassId × FieldType) := [(d 0, .int), (d 1, .byte), (d 2, .long), (d 3, (.object "KnowHouse$DatatypeValues$Value"))]
theorem cDV_1 {ci : Nat → Nat} {d : Nat → ClassId} {kd : Nat → Nat} {an : Nat → Nat} {ai : Nat → Nat → Int32} {al : Nat → Nat → Int64} {ar : Nat → Nat → Option Nat} {mX6_tape : Nat → Option Nat} {mX6_size : Nat → Int32} {mX6_values : Nat → Option Nat} {mX6_count : Nat → Int32} {mX6_writer : Nat → Option Nat} {mX7_bytes : Nat → Option Nat} {mX7_size : Nat → Int32} {mX67_tape : Nat → Option Nat} {mX67_size : Nat → Int32} {mX67_at : Nat → Int32} {mX67_wrong : Nat → Option Nat} {mX67_place : Nat → Int32} {mX68_kind : Nat → Int32} {mX69_upper : Nat → Int64} {mX69_lower : Nat → Int64} {mX70_is : Nat → Int32} {mX72_millis : Nat → Int64} {mX72_zone : Nat → Int32} {mX73_months : Nat → Int64} {mX73_millis : Nat → Int64} {mX74_bytes : Nat → Option Nat} {a : Nat} (hk : kd a = 1) : (cDV ci d kd an ai al ar mX6_tape mX6_size mX6_values mX6_count mX6_writer mX7_bytes mX7_size mX67_tape mX67_size mX67_at mX67_wrong mX67_place mX68_kind mX69_upper mX69_lower mX70_is mX72_millis mX72_zone mX73_months mX73_millis mX74_bytes) a = .inr (ci 0, [va_rf (mX6_tape a), .int (mX6_size a), va_rf (mX6_values a), .int (mX6_count a), va_rf (mX6_writer a)]) := by unfold cDV; simp only [hk]
theorem cDV_1_0 {ci : Nat → Nat} {d : Nat → ClassId} {kd : Nat → Nat} {an : Nat → Nat} {ai : Nat → Nat → Int32} {al : Nat → Nat → Int64} {ar : Nat → Nat → Option Nat} {mX6_tape : Nat → Option Nat} {mX6_size : Nat → Int32} {mX6_values : Nat → Option Nat} {mX6_count : Nat → Int32} {mX6_writer : Nat → Option Nat} {mX7_bytes : Nat → Option Nat} {mX7_size : Nat → Int32} {mX67_tape : Nat → Option Nat} {mX67_size : Nat → Int32} {mX67_at : Nat → Int32} {mX67_wrong : Nat → Option Nat} {mX67_place : Nat → Int32} {mX68_kind : Nat → Int32} {mX69_upper : Nat → Int64} {mX69_lower : Nat → Int64} {mX70_is : Nat → Int32} {mX72_millis : Nat → Int64} {mX72_zone : Nat → Int32} {mX73_months : Nat → Int64} {mX73_millis : Nat → Int64} {mX74_bytes : Nat → Option Nat} {a : Nat} {v : Option Nat} (hk : kd a = 1) : va_up (cDV ci d kd an ai al ar mX6_tape mX6_size mX6_values mX6_count mX6_writer mX7_bytes mX7_size mX67_tape mX67_size mX67_at mX67_wrong mX67_place mX68_kind mX69_upper mX69_lower mX70_is mX72_millis mX72_zone mX73_months mX73_millis mX74_bytes) a (.inr (ci 0, [va_rf v, .int (mX6_size a), va_rf (mX6_values a), .int (mX6_count a), va_rf (mX6_writer a)])) = (cDV ci d kd an ai al ar (va_up mX6_tape a v) mX6_size mX6_values mX6_count mX6_writer mX7_bytes mX7_size mX67_tape mX67_size mX67_at mX67_wrong mX67_place mX68_kind mX69_upper mX69_lower mX70_is mX72_millis mX72_zone mX73_months mX73_millis mX74_bytes) := by
  funext b
  by_cases h : b = a
  · subst h
    rw [va_up_self]
    unfold cDV
    rw [hk]
    simp only [va_up_self]
  · rw [va_up_ne _ _ h]
    unfold cDV
    simp only [va_up_ne _ _ h]
theorem cDV_1_1 {ci : Nat → Nat} {d : Nat → ClassId} {kd : Nat → Nat} {an : Nat → Nat} {ai : Nat → Nat → Int32} {al : Nat → Nat → Int64} {ar : Nat → Nat → Option Nat} {mX6_tape : Nat → Option Nat} {mX6_size : Nat → Int32} {mX6_values : Nat → Option Nat} {mX6_count : Nat → Int32} {mX6_writer : Nat → Option Nat} {mX7_bytes : Nat → Option Nat} {mX7_size : Nat → Int32} {mX67_tape : Nat → Option Nat} {mX67_size : Nat → Int32} {mX67_at : Nat → Int32} {mX67_wrong : Nat → Option Nat} {mX67_place : Nat → Int32} {mX68_kind : Nat → Int32} {mX69_upper : Nat → Int64} {mX69_lower : Nat → Int64} {mX70_is : Nat → Int32} {mX72_millis : Nat → Int64} {mX72_zone : Nat → Int32} {mX73_months : Nat → Int64} {mX73_millis : Nat → Int64} {mX74_bytes : Nat → Option Nat} {a : Nat} {v : Int32} (hk : kd a = 1) : va_up (cDV ci d kd an ai al ar mX6_tape mX6_size mX6_values mX6_count mX6_writer mX7_bytes mX7_size mX67_tape mX67_size mX67_at mX67_wrong mX67_place mX68_kind mX69_upper mX69_lower mX70_is mX72_millis mX72_zone mX73_months mX73_millis mX74_bytes) a (.inr (ci 0, [va_rf (mX6_tape a), .int v, va_rf (mX6_values a), .int (mX6_count a), va_rf (mX6_writer a)])) = (cDV ci d kd an ai al ar mX6_tape (va_up mX6_size a v) mX6_values mX6_count mX6_writer mX7_bytes mX7_size mX67_tape mX67_size mX67_at mX67_wrong mX67_place mX68_kind mX69_upper mX69_lower mX70_is mX72_millis mX72_zone mX73_months mX73_millis mX74_bytes) := by
  funext b
  by_cases h : b = a
  · subst h
    rw [va_up_self]
    unfold cDV
    rw [hk]
    simp only [va_up_self]
  · rw [va_up_ne _ _ h]
    unfold cDV
    simp only [va_up_ne _ _ h]
theorem cDV_1_2 {ci : Nat → Nat} {d : Nat → ClassId} {kd : Nat → Nat} {an : Nat → Nat} {ai : Nat → Nat → Int32} {al : Nat → Nat → Int64} {ar : Nat → Nat → Option Nat} {mX6_tape : Nat → Option Nat} {mX6_size : Nat → Int32} {mX6_values : Nat → Option Nat} {mX6_count : Nat → Int32} {mX6_writer : Nat → Option Nat} {mX7_bytes : Nat → Option Nat} {mX7_size : Nat → Int32} {mX67_tape : Nat → Option Nat} {mX67_size : Nat → Int32} {mX67_at : Nat → Int32} {mX67_wrong : Nat → Option Nat} {mX67_place : Nat → Int32} {mX68_kind : Nat → Int32} {mX69_upper : Nat → Int64} {mX69_lower : Nat → Int64} {mX70_is : Nat → Int32} {mX72_millis : Nat → Int64} {mX72_zone : Nat → Int32} {mX73_months : Nat → Int64} {mX73_millis : Nat → Int64} {mX74_bytes : Nat → Option Nat} {a : Nat} {v : Option Nat} (hk : kd a = 1) : va_up (cDV ci d kd an ai al ar mX6_tape mX6_size mX6_values mX6_count mX6_writer mX7_bytes mX7_size mX67_tape mX67_size mX67_at mX67_wrong mX67_place mX68_kind mX69_upper mX69_lower mX70_is mX72_millis mX72_zone mX73_months mX73_millis mX74_bytes) a (.inr (ci 0, [va_rf (mX6_tape a), .int (mX6_size a), va_rf v, .int (mX6_count a), va_rf (mX6_writer a)])) = (cDV ci d kd an ai al ar mX6_tape mX6_size (va_up mX6_values a v) mX6_count mX6_writer mX7_bytes mX7_size mX67_tape mX67_size mX67_at mX67_wrong mX67_place mX68_kind mX69_upper mX69_lower mX70_is mX72_millis mX72_zone mX73_months mX73_millis mX74_bytes) := by
  funext b
  by_cases h : b = a
  · subst h
    rw [va_up_self]
    unfold cDV
    rw [hk]
    simp only [va_up_self]
  · rw [va_up_ne _ _ h]
    unfold cDV
    simp only [va_up_ne _ _ h]
theorem cDV_1_3 {ci : Nat → Nat} {d : Nat → ClassId} {kd : Nat → Nat} {an : Nat → Nat} {ai : Nat → Nat → Int32} {al : Nat → Nat → Int64} {ar : Nat → Nat → Option Nat} {mX6_tape : Nat → Option Nat} {mX6_size : Nat → Int32} {mX6_values : Nat → Option Nat} {mX6_count : Nat → Int32} {mX6_writer : Nat → Option Nat} {mX7_bytes : Nat → Option Nat} {mX7_size : Nat → Int32} {mX67_tape : Nat → Option Nat} {mX67_size : Nat → Int32} {mX67_at : Nat → Int32} {mX67_wrong : Nat → Option Nat} {mX67_place : Nat → Int32} {mX68_kind : Nat → Int32} {mX69_upper : Nat → Int64} {mX69_lower : Nat → Int64} {mX70_is : Nat → Int32} {mX72_millis : Nat → Int64} {mX72_zone : Nat → Int32} {mX73_months : Nat → Int64} {mX73_millis : Nat → Int64} {mX74_bytes : Nat → Option Nat} {a : Nat} {v : Int32} (hk : kd a = 1) : va_up (cDV ci d kd an ai al ar mX6_tape mX6_size mX6_values mX6_count mX6_writer mX7_bytes mX7_size mX67_tape mX67_size mX67_at mX67_wrong mX67_place mX68_kind mX69_upper mX69_lower mX70_is mX72_millis mX72_zone mX73_months mX73_millis mX74_bytes) a (.inr (ci 0, [va_rf (mX6_tape a), .int (mX6_size a), va_rf (mX6_values a), .int v, va_rf (mX6_writer a)])) = (cDV ci d kd an ai al ar mX6_tape mX6_size mX6_values (va_up mX6_count a v) mX6_writer mX7_bytes mX7_size mX67_tape mX67_size mX67_at mX67_wrong mX67_place mX68_kind mX69_upper mX69_lower mX70_is mX72_millis mX72_zone mX73_months mX73_millis mX74_bytes) := by
  funext b
  by_cases h : b = a
  · subst h
    rw [va_up_self]
    unfold cDV
    rw [hk]
    simp only [va_up_self]
  · rw [va_up_ne _ _ h]
    unfold cDV
    simp only [va_up_ne _ _ h]
theorem cDV_1_4 {ci : Nat → Nat} {d : Nat → ClassId} {kd : Nat → Nat} {an : Nat → Nat} {ai : Nat → Nat → Int32} {al : Nat → Nat → Int64} {ar : Nat → Nat → Option Nat} {mX6_tape : Nat → Option Nat} {mX6_size : Nat → Int32} {mX6_values : Nat → Option Nat} {mX6_count : Nat → Int32} {mX6_writer : Nat → Option Nat} {mX7_bytes : Nat → Option Nat} {mX7_size : Nat → Int32} {mX67_tape : Nat → Option Nat} {mX67_size : Nat → Int32} {mX67_at : Nat → Int32} {mX67_wrong : Nat → Option Nat} {mX67_place : Nat → Int32} {mX68_kind : Nat → Int32} {mX69_upper : Nat → Int64} {mX69_lower : Nat → Int64} {mX70_is : Nat → Int32} {mX72_millis : Nat → Int64} {mX72_zone : Nat → Int32} {mX73_months : Nat → Int64} {mX73_millis : Nat → Int64} {mX74_bytes : Nat → Option Nat} {a : Nat} {v : Option Nat} (hk : kd a = 1) : va_up (cDV ci d kd an ai al ar mX6_tape mX6_size mX6_values mX6_count mX6_writer mX7_bytes mX7_size mX67_tape mX67_size mX67_at mX67_wrong mX67_place mX68_kind mX69_upper mX69_lower mX70_is mX72_millis mX72_zone mX73_months mX73_millis mX74_bytes) a (.inr (ci 0, [va_rf (mX6_tape a), .int (mX6_size a), va_rf (mX6_values a), .int (mX6_count a), va_rf v])) = (cDV ci d kd an ai al ar mX6_tape mX6_size mX6_values mX6_count (va_up mX6_writer a v) mX7_bytes mX7_size mX67_tape mX67_size mX67_at mX67_wrong mX67_place mX68_kind mX69_upper mX69_lower mX70_is mX72_millis mX72_zone mX73_months mX73_millis mX74_bytes) := by
  funext b
  by_cases h : b = a
  · subst h
    rw [va_up_self]
    unfold cDV
    rw [hk]
    simp only [va_up_self]
  · rw [va_up_ne _ _ h]
    unfold cDV
    simp only [va_up_ne _ _ h]
theorem cDV_1_n {ci : Nat → Nat} {d : Nat → ClassId} {kd : Nat → Nat} {an : Nat → Nat} {ai : Nat → Nat → Int32} {al : Nat → Nat → Int64} {ar : Nat → Nat → Option Nat} {mX6_tape : Nat → Option Nat} {mX6_size : Nat → Int32} {mX6_values : Nat → Option Nat} {mX6_count : Nat → Int32} {mX6_writer : Nat → Option Nat} {mX7_bytes : Nat → Option Nat} {mX7_size : Nat → Int32} {mX67_tape : Nat → Option Nat} {mX67_size : Nat → Int32} {mX67_at : Nat → Int32} {mX67_wrong : Nat → Option Nat} {mX67_place : Nat → Int32} {mX68_kind : Nat → Int32} {mX69_upper : Nat → Int64} {mX69_lower : Nat → Int64} {mX70_is : Nat → Int32} {mX72_millis : Nat → Int64} {mX72_zone : Nat → Int32} {mX73_months : Nat → Int64} {mX73_millis : Nat → Int64} {mX74_bytes : Nat → Option Nat} (q : Nat) : va_up (cDV ci d kd an ai al ar mX6_tape mX6_size mX6_values mX6_count mX6_writer mX7_bytes mX7_size mX67_tape mX67_size mX67_at mX67_wrong mX67_place mX68_kind mX69_upper mX69_lower mX70_is mX72_millis mX72_zone mX73_months mX73_millis mX74_bytes) q (.inr (ci 0, [va_rf none, .int 0, va_rf none, .int 0, va_rf none])) = (cDV ci d (va_up kd q 1) an ai al ar (va_up mX6_tape q none) (va_up mX6_size q 0) (va_up mX6_values q none) (va_up mX6_count q 0) (va_up mX6_writer q none) mX7_bytes mX7_size mX67_tape mX67_size mX67_at mX67_wrong mX67_place mX68_kind mX69_upper mX69_lower mX70_is mX72_millis mX72_zone mX73_months mX73_millis mX74_bytes) := by
  funext b
  by_cases h : b = q
  · subst h
    rw [va_up_self]
    unfold cDV
    simp only [va_up_self]
  · rw [va_up_ne _ _ h]
    unfold cDV
    simp only [va_up_ne _ _ h]
theorem cDV_2 {ci : Nat → Nat} {d : Nat → ClassId} {kd : Nat → Nat} {an : Nat → Nat} {ai : Nat → Nat → Int32} {al : Nat → Nat → Int64} {ar : Nat → Nat → Option Nat} {mX6_tape : Nat → Option Nat} {mX6_size : Nat → Int32} {mX6_values : Nat → Option Nat} {mX6_count : Nat → Int32} {mX6_writer : Nat → Option Nat} {mX7_bytes : Nat → Option Nat} {mX7_size : Nat → Int32} {mX67_tape : Nat → Option Nat} {mX67_size : Nat → Int32} {mX67_at : Nat → Int32} {mX67_wrong : Nat → Option Nat} {mX67_place : Nat → Int32} {mX68_kind : Nat → Int32} {mX69_upper : Nat → Int64} {mX69_lower : Nat → Int64} {mX70_is : Nat → Int32} {mX72_millis : Nat → Int64} {mX72_zone : Nat → Int32} {mX73_months : Nat → Int64} {mX73_millis : Nat → Int64} {mX74_bytes : Nat → Option Nat} {a : Nat} (hk : kd a = 2) : (cDV ci d kd an ai al ar mX6_tape mX6_size mX6_values mX6_count mX6_writer mX7_bytes mX7_size mX67_tape mX67_size mX67_at mX67_wrong mX67_place mX68_kind mX69_upper mX69_lower mX70_is mX72_millis mX72_zone mX73_months mX73_millis mX74_bytes) a = .inr (ci 1, [va_rf (mX7_bytes a), .int (mX7_size a)]) := by unfold cDV; simp only [hk]
theorem cDV_2_0 {ci : Nat → Nat} {d : Nat → ClassId} {kd : Nat → Nat} {an : Nat → Nat} {ai : Nat → Nat → Int32} {al : Nat → Nat → Int64} {ar : Nat → Nat → Option Nat} {mX6_tape : Nat → Option Nat} {mX6_size : Nat → Int32} {mX6_values : Nat → Option Nat} {mX6_count : Nat → Int32} {mX6_writer : Nat → Option Nat} {mX7_bytes : Nat → Option Nat} {mX7_size : Nat → Int32} {mX67_tape : Nat → Option Nat} {mX67_size : Nat → Int32} {mX67_at : Nat → Int32} {mX67_wrong : Nat → Option Nat} {mX67_place : Nat → Int32} {mX68_kind : Nat → Int32} {mX69_upper : Nat → Int64} {mX69_lower : Nat → Int64} {mX70_is : Nat → Int32} {mX72_millis : Nat → Int64} {mX72_zone : Nat → Int32} {mX73_months : Nat → Int64} {mX73_millis : Nat → Int64} {mX74_bytes : Nat → Option Nat} {a : Nat} {v : Option Nat} (hk : kd a = 2) : va_up (cDV ci d kd an ai al ar mX6_tape mX6_size mX6_values mX6_count mX6_writer mX7_bytes mX7_size mX67_tape mX67_size mX67_at mX67_wrong mX67_place mX68_kind mX69_upper mX69_lower mX70_is mX72_millis mX72_zone mX73_months mX73_millis mX74_bytes) a (.inr (ci 1, [va_rf v, .int (mX7_size a)])) = (cDV ci d kd an ai al ar mX6_tape mX6_size mX6_values mX6_count mX6_writer (va_up mX7_bytes a v) mX7_size mX67_tape mX67_size mX67_at mX67_wrong mX67_place mX68_kind mX69_upper mX69_lower mX70_is mX72_millis mX72_zone mX73_months mX73_millis mX74_bytes) := by
  funext b
  by_cases h : b = a
  · subst h
    rw [va_up_self]
    unfold cDV
    rw [hk]
    simp only [va_up_self]
  · rw [va_up_ne _ _ h]
    unfold cDV
    simp only [va_up_ne _ _ h]
theorem cDV_2_1 {ci : Nat → Nat} {d : Nat → ClassId} {kd : Nat → Nat} {an : Nat → Nat} {ai : Nat → Nat → Int32} {al : Nat → Nat → Int64} {ar : Nat → Nat → Option Nat} {mX6_tape : Nat → Option Nat} {mX6_size : Nat → Int32} {mX6_values : Nat → Option Nat} {mX6_count : Nat → Int32} {mX6_writer : Nat → Option Nat} {mX7_bytes : Nat → Option Nat} {mX7_size : Nat → Int32} {mX67_tape : Nat → Option Nat} {mX67_size : Nat → Int32} {mX67_at : Nat → Int32} {mX67_wrong : Nat → Option Nat} {mX67_place : Nat → Int32} {mX68_kind : Nat → Int32} {mX69_upper : Nat → Int64} {mX69_lower : Nat → Int64} {mX70_is : Nat → Int32} {mX72_millis : Nat → Int64} {mX72_zone : Nat → Int32} {mX73_months : Nat → Int64} {mX73_millis : Nat → Int64} {mX74_bytes : Nat → Option Nat} {a : Nat} {v : Int32} (hk : kd a = 2) : va_up (cDV ci d kd an ai al ar mX6_tape mX6_size mX6_values mX6_count mX6_writer mX7_bytes mX7_size mX67_tape mX67_size mX67_at mX67_wrong mX67_place mX68_kind mX69_upper mX69_lower mX70_is mX72_millis mX72_zone mX73_months mX73_millis mX74_bytes) a (.inr (ci 1, [va_rf (mX7_bytes a), .int v])) = (cDV ci d kd an ai al ar mX6_tape mX6_size mX6_values mX6_count mX6_writer mX7_bytes (va_up mX7_size a v) mX67_tape mX67_size mX67_at mX67_wrong mX67_place mX68_kind mX69_upper mX69_lower mX70_is mX72_millis mX72_zone mX73_months mX73_millis mX74_bytes) := by
  funext b
  by_cases h : b = a
  · subst h
    rw [va_up_self]
    unfold cDV
    rw [hk]
    simp only [va_up_self]
  · rw [va_up_ne _ _ h]
    unfold cDV
    simp only [va_up_ne _ _ h]
theorem cDV_2_n {ci : Nat → Nat} {d : Nat → ClassId} {kd : Nat → Nat} {an : Nat → Nat} {ai : Nat → Nat → Int32} {al : Nat → Nat → Int64} {ar : Nat → Nat → Option Nat} {mX6_tape : Nat → Option Nat} {mX6_size : Nat → Int32} {mX6_values : Nat → Option Nat} {mX6_count : Nat → Int32} {mX6_writer : Nat → Option Nat} {mX7_bytes : Nat → Option Nat} {mX7_size : Nat → Int32} {mX67_tape : Nat → Option Nat} {mX67_size : Nat → Int32} {mX67_at : Nat → Int32} {mX67_wrong : Nat → Option Nat} {mX67_place : Nat → Int32} {mX68_kind : Nat → Int32} {mX69_upper : Nat → Int64} {mX69_lower : Nat → Int64} {mX70_is : Nat → Int32} {mX72_millis : Nat → Int64} {mX72_zone : Nat → Int32} {mX73_months : Nat → Int64} {mX73_millis : Nat → Int64} {mX74_bytes : Nat → Option Nat} (q : Nat) : va_up (cDV ci d kd an ai al ar mX6_tape mX6_size mX6_values mX6_count mX6_writer mX7_bytes mX7_size mX67_tape mX67_size mX67_at mX67_wrong mX67_place mX68_kind mX69_upper mX69_lower mX70_is mX72_millis mX72_zone mX73_months mX73_millis mX74_bytes) q (.inr (ci 1, [va_rf none, .int 0])) = (cDV ci d (va_up kd q 2) an ai al ar mX6_tape mX6_size mX6_values mX6_count mX6_writer (va_up mX7_bytes q none) (va_up mX7_size q 0) mX67_tape mX67_size mX67_at mX67_wrong mX67_place mX68_kind mX69_upper mX69_lower mX70_is mX72_millis mX72_zone mX73_months mX73_millis mX74_bytes) := by
  funext b
  by_cases h : b = q
  · subst h
    rw [va_up_self]
    unfold cDV
    simp only [va_up_self]
  · rw [va_up_ne _ _ h]
    unfold cDV
    simp only [va_up_ne _ _ h]
theorem cDV_3 {ci : Nat → Nat} {d : Nat → ClassId} {kd : Nat → Nat} {an : Nat → Nat} {ai : Nat → Nat → Int32} {al : Nat → Nat → Int64} {ar : Nat → Nat → Option Nat} {mX6_tape : Nat → Option Nat} {mX6_size : Nat → Int32} {mX6_values : Nat → Option Nat} {mX6_count : Nat → Int32} {mX6_writer : Nat → Option Nat} {mX7_bytes : Nat → Option Nat} {mX7_size : Nat → Int32} {mX67_tape : Nat → Option Nat} {mX67_size : Nat → Int32} {mX67_at : Nat → Int32} {mX67_wrong : Nat → Option Nat} {mX67_place : Nat → Int32} {mX68_kind : Nat → Int32} {mX69_upper : Nat → Int64} {mX69_lower : Nat → Int64} {mX70_is : Nat → Int32} {mX72_millis : Nat → Int64} {mX72_zone : Nat → Int32} {mX73_months : Nat → Int64} {mX73_millis : Nat → Int64} {mX74_bytes : Nat → Option Nat} {a : Nat} (hk : kd a = 3) : (cDV ci d kd an ai al ar mX6_tape mX6_size mX6_values mX6_count mX6_writer mX7_bytes mX7_size mX67_tape mX67_size mX67_at mX67_wrong mX67_place mX68_kind mX69_upper mX69_lower mX70_is mX72_millis mX72_zone mX73_months mX73_millis mX74_bytes) a = .inr (ci 2, [va_rf (mX67_tape a), .int (mX67_size a), .int (mX67_at a), va_rf (mX67_wrong a), .int (mX67_place a)]) := by unfold cDV; simp only [hk]
theorem cDV_3_0 {ci : Nat → Nat} {d : Nat → ClassId} {kd : Nat → Nat} {an : Nat → Nat} {ai : Nat → Nat → Int32} {al : Nat → Nat → Int64} {ar : Nat → Nat → Option Nat} {mX6_tape : Nat → Option Nat} {mX6_size : Nat → Int32} {mX6_values : Nat → Option Nat} {mX6_count : Nat → Int32} {mX6_writer : Nat → Option Nat} {mX7_bytes : Nat → Option Nat} {mX7_size : Nat → Int32} {mX67_tape : Nat → Option Nat} {mX67_size : Nat → Int32} {mX67_at : Nat → Int32} {mX67_wrong : Nat → Option Nat} {mX67_place : Nat → Int32} {mX68_kind : Nat → Int32} {mX69_upper : Nat → Int64} {mX69_lower : Nat → Int64} {mX70_is : Nat → Int32} {mX72_millis : Nat → Int64} {mX72_zone : Nat → Int32} {mX73_months : Nat → Int64} {mX73_millis : Nat → Int64} {mX74_bytes : Nat → Option Nat} {a : Nat} {v : Option Nat} (hk : kd a = 3) : va_up (cDV ci d kd an ai al ar mX6_tape mX6_size mX6_values mX6_count mX6_writer mX7_bytes mX7_size mX67_tape mX67_size mX67_at mX67_wrong mX67_place mX68_kind mX69_upper mX69_lower mX70_is mX72_millis mX72_zone mX73_months mX73_millis mX74_bytes) a (.inr (ci 2, [va_rf v, .int (mX67_size a), .int (mX67_at a), va_rf (mX67_wrong a), .int (mX67_place a)])) = (cDV ci d kd an ai al ar mX6_tape mX6_size mX6_values mX6_count mX6_writer mX7_bytes mX7_size (va_up mX67_tape a v) mX67_size mX67_at mX67_wrong mX67_place mX68_kind mX69_upper mX69_lower mX70_is mX72_millis mX72_zone mX73_months mX73_millis mX74_bytes) := by
  funext b
  by_cases h : b = a
  · subst h
    rw [va_up_self]
    unfold cDV
    rw [hk]
    simp only [va_up_self]
  · rw [va_up_ne _ _ h]
    unfold cDV
    simp only [va_up_ne _ _ h]
theorem cDV_3_1 {ci : Nat → Nat} {d : Nat → ClassId} {kd : Nat → Nat} {an : Nat → Nat} {ai : Nat → Nat → Int32} {al : Nat → Nat → Int64} {ar : Nat → Nat → Option Nat} {mX6_tape : Nat → Option Nat} {mX6_size : Nat → Int32} {mX6_values : Nat → Option Nat} {mX6_count : Nat → Int32} {mX6_writer : Nat → Option Nat} {mX7_bytes : Nat → Option Nat} {mX7_size : Nat → Int32} {mX67_tape : Nat → Option Nat} {mX67_size : Nat → Int32} {mX67_at : Nat → Int32} {mX67_wrong : Nat → Option Nat} {mX67_place : Nat → Int32} {mX68_kind : Nat → Int32} {mX69_upper : Nat → Int64} {mX69_lower : Nat → Int64} {mX70_is : Nat → Int32} {mX72_millis : Nat → Int64} {mX72_zone : Nat → Int32} {mX73_months : Nat → Int64} {mX73_millis : Nat → Int64} {mX74_bytes : Nat → Option Nat} {a : Nat} {v : Int32} (hk : kd a = 3) : va_up (cDV ci d kd an ai al ar mX6_tape mX6_size mX6_values mX6_count mX6_writer mX7_bytes mX7_size mX67_tape mX67_size mX67_at mX67_wrong mX67_place mX68_kind mX69_upper mX69_lower mX70_is mX72_millis mX72_zone mX73_months mX73_millis mX74_bytes) a (.inr (ci 2, [va_rf (mX67_tape a), .int v, .int (mX67_at a), va_rf (mX67_wrong a), .int (mX67_place a)])) = (cDV ci d kd an ai al ar mX6_tape mX6_size mX6_values mX6_count mX6_writer mX7_bytes mX7_size mX67_tape (va_up mX67_size a v) mX67_at mX67_wrong mX67_place mX68_kind mX69_upper mX69_lower mX70_is mX72_millis mX72_zone mX73_months mX73_millis mX74_bytes) := by
  funext b
  by_cases h : b = a
  · subst h
    rw [va_up_self]
    unfold cDV
    rw [hk]
    simp only [va_up_self]
  · rw [va_up_ne _ _ h]
    unfold cDV
    simp only [va_up_ne _ _ h]
theorem cDV_3_2 {ci : Nat → Nat} {d : Nat → ClassId} {kd : Nat → Nat} {an : Nat → Nat} {ai : Nat → Nat → Int32} {al : Nat → Nat → Int64} {ar : Nat → Nat → Option Nat} {mX6_tape : Nat → Option Nat} {mX6_size : Nat → Int32} {mX6_values : Nat → Option Nat} {mX6_count : Nat → Int32} {mX6_writer : Nat → Option Nat} {mX7_bytes : Nat → Option Nat} {mX7_size : Nat → Int32} {mX67_tape : Nat → Option Nat} {mX67_size : Nat → Int32} {mX67_at : Nat → Int32} {mX67_wrong : Nat → Option Nat} {mX67_place : Nat → Int32} {mX68_kind : Nat → Int32} {mX69_upper : Nat → Int64} {mX69_lower : Nat → Int64} {mX70_is : Nat → Int32} {mX72_millis : Nat → Int64} {mX72_zone : Nat → Int32} {mX73_months : Nat → Int64} {mX73_millis : Nat → Int64} {mX74_bytes : Nat → Option Nat} {a : Nat} {v : Int32} (hk : kd a = 3) : va_up (cDV ci d kd an ai al ar mX6_tape mX6_size mX6_values mX6_count mX6_writer mX7_bytes mX7_size mX67_tape mX67_size mX67_at mX67_wrong mX67_place mX68_kind mX69_upper mX69_lower mX70_is mX72_millis mX72_zone mX73_months mX73_millis mX74_bytes) a (.inr (ci 2, [va_rf (mX67_tape a), .int (mX67_size a), .int v, va_rf (mX67_wrong a), .int (mX67_place a)])) = (cDV ci d kd an ai al ar mX6_tape mX6_size mX6_values mX6_count mX6_writer mX7_bytes mX7_size mX67_tape mX67_size (va_up mX67_at a v) mX67_wrong mX67_place mX68_kind mX69_upper mX69_lower mX70_is mX72_millis mX72_zone mX73_months mX73_millis mX74_bytes) := by
  funext b
  by_cases h : b = a
  · subst h
    rw [va_up_self]
    unfold cDV
    rw [hk]
    simp only [va_up_self]
  · rw [va_up_ne _ _ h]
    unfold cDV
    simp only [va_up_ne _ _ h]
theorem cDV_3_3 {ci : Nat → Nat} {d : Nat → ClassId} {kd : Nat → Nat} {an : Nat → Nat} {ai : Nat → Nat → Int32} {al : Nat → Nat → Int64} {ar : Nat → Nat → Option Nat} {mX6_tape : Nat → Option Nat} {mX6_size : Nat → Int32} {mX6_values : Nat → Option Nat} {mX6_count : Nat → Int32} {mX6_writer : Nat → Option Nat} {mX7_bytes : Nat → Option Nat} {mX7_size : Nat → Int32} {mX67_tape : Nat → Option Nat} {mX67_size : Nat → Int32} {mX67_at : Nat → Int32} {mX67_wrong : Nat → Option Nat} {mX67_place : Nat → Int32} {mX68_kind : Nat → Int32} {mX69_upper : Nat → Int64} {mX69_lower : Nat → Int64} {mX70_is : Nat → Int32} {mX72_millis : Nat → Int64} {mX72_zone : Nat → Int32} {mX73_months : Nat → Int64} {mX73_millis : Nat → Int64} {mX74_bytes : Nat → Option Nat} {a : Nat} {v : Option Nat} (hk : kd a = 3) : va_up (cDV ci d kd an ai al ar mX6_tape mX6_size mX6_values mX6_count mX6_writer mX7_bytes mX7_size mX67_tape mX67_size mX67_at mX67_wrong mX67_place mX68_kind mX69_upper mX69_lower mX70_is mX72_millis mX72_zone mX73_months mX73_millis mX74_bytes) a (.inr (ci 2, [va_rf (mX67_tape a), .int (mX67_size a), .int (mX67_at a), va_rf v, .int (mX67_place a)])) = (cDV ci d kd an ai al ar mX6_tape mX6_size mX6_values mX6_count mX6_writer mX7_bytes mX7_size mX67_tape mX67_size mX67_at (va_up mX67_wrong a v) mX67_place mX68_kind mX69_upper mX69_lower mX70_is mX72_millis mX72_zone mX73_months mX73_millis mX74_bytes) := by
  funext b
  by_cases h : b = a
  · subst h
    rw [va_up_self]
    unfold cDV
    rw [hk]
    simp only [va_up_self]
  · rw [va_up_ne _ _ h]
    unfold cDV
    simp only [va_up_ne _ _ h]
theorem cDV_3_4 {ci : Nat → Nat} {d : Nat → ClassId} {kd : Nat → Nat} {an : Nat → Nat} {ai : Nat → Nat → Int32} {al : Nat → Nat → Int64} {ar : Nat → Nat → Option Nat} {mX6_tape : Nat → Option Nat} {mX6_size : Nat → Int32} {mX6_values : Nat → Option Nat} {mX6_count : Nat → Int32} {mX6_writer : Nat → Option Nat} {mX7_bytes : Nat → Option Nat} {mX7_size : Nat → Int32} {mX67_tape : Nat → Option Nat} {mX67_size : Nat → Int32} {mX67_at : Nat → Int32} {mX67_wrong : Nat → Option Nat} {mX67_place : Nat → Int32} {mX68_kind : Nat → Int32} {mX69_upper : Nat → Int64} {mX69_lower : Nat → Int64} {mX70_is : Nat → Int32} {mX72_millis : Nat → Int64} {mX72_zone : Nat → Int32} {mX73_months : Nat → Int64} {mX73_millis : Nat → Int64} {mX74_bytes : Nat → Option Nat} {a : Nat} {v : Int32} (hk : kd a = 3) : va_up (cDV ci d kd an ai al ar mX6_tape mX6_size mX6_values mX6_count mX6_writer mX7_bytes mX7_size mX67_tape mX67_size mX67_at mX67_wrong mX67_place mX68_kind mX69_upper mX69_lower mX70_is mX72_millis mX72_zone mX73_months mX73_millis mX74_bytes) a (.inr (ci 2, [va_rf (mX67_tape a), .int (mX67_size a), .int (mX67_at a), va_rf (mX67_wrong a), .int v])) = (cDV ci d kd an ai al ar mX6_tape mX6_size mX6_values mX6_count mX6_writer mX7_bytes mX7_size mX67_tape mX67_size mX67_at mX67_wrong (va_up mX67_place a v) mX68_kind mX69_upper mX69_lower mX70_is mX72_millis mX72_zone mX73_months mX73_millis mX74_bytes) := by
  funext b
  by_cases h : b = a
  · subst h
    rw [va_up_self]
    unfold cDV
    rw [hk]
    simp only [va_up_self]
  · rw [va_up_ne _ _ h]
    unfold cDV
    simp only [va_up_ne _ _ h]
theorem cDV_3_n {ci : Nat → Nat} {d : Nat → ClassId} {kd : Nat → Nat} {an : Nat → Nat} {ai : Nat → Nat → Int32} {al : Nat → Nat → Int64} {ar : Nat → Nat → Option Nat} {mX6_tape : Nat → Option Nat} {mX6_size : Nat → Int32} {mX6_values : Nat → Option Nat} {mX6_count : Nat → Int32} {mX6_writer : Nat → Option Nat} {mX7_bytes : Nat → Option Nat} {mX7_size : Nat → Int32} {mX67_tape : Nat → Option Nat} {mX67_size : Nat → Int32} {mX67_at : Nat → Int32} {mX67_wrong : Nat → Option Nat} {mX67_place : Nat → Int32} {mX68_kind : Nat → Int32} {mX69_upper : Nat → Int64} {mX69_lower : Nat → Int64} {mX70_is : Nat → Int32} {mX72_millis : Nat → Int64} {mX72_zone : Nat → Int32} {mX73_months : Nat → Int64} {mX73_millis : Nat → Int64} {mX74_bytes : Nat → Option Nat} (q : Nat) : va_up (cDV ci d kd an ai al ar mX6_tape mX6_size mX6_values mX6_count mX6_writer mX7_bytes mX7_size mX67_tape mX67_size mX67_at mX67_wrong mX67_place mX68_kind mX69_upper mX69_lower mX70_is mX72_millis mX72_zone mX73_months mX73_millis mX74_bytes) q (.inr (ci 2, [va_rf none, .int 0, .int 0, va_rf none, .int 0])) = (cDV ci d (va_up kd q 3) an ai al ar mX6_tape mX6_size mX6_values mX6_count mX6_writer mX7_bytes mX7_size (va_up mX67_tape q none) (va_up mX67_size q 0) (va_up mX67_at q 0) (va_up mX67_wrong q none) (va_up mX67_place q 0) mX68_kind mX69_upper mX69_lower mX70_is mX72_millis mX72_zone mX73_months mX73_millis mX74_bytes) := by
  funext b
  by_cases h : b = q
  · subst h
    rw [va_up_self]
    unfold cDV
    simp only [va_up_self]
  · rw [va_up_ne _ _ h]
    unfold cDV
    simp only [va_up_ne _ _ h]
theorem cDV_4 {ci : Nat → Nat} {d : Nat → ClassId} {kd : Nat → Nat} {an : Nat → Nat} {ai : Nat → Nat → Int32} {al : Nat → Nat → Int64} {ar : Nat → Nat → Option Nat} {mX6_tape : Nat → Option Nat} {mX6_size : Nat → Int32} {mX6_values : Nat → Option Nat} {mX6_count : Nat → Int32} {mX6_writer : Nat → Option Nat} {mX7_bytes : Nat → Option Nat} {mX7_size : Nat → Int32} {mX67_tape : Nat → Option Nat} {mX67_size : Nat → Int32} {mX67_at : Nat → Int32} {mX67_wrong : Nat → Option Nat} {mX67_place : Nat → Int32} {mX68_kind : Nat → Int32} {mX69_upper : Nat → Int64} {mX69_lower : Nat → Int64} {mX70_is : Nat → Int32} {mX72_millis : Nat → Int64} {mX72_zone : Nat → Int32} {mX73_months : Nat → Int64} {mX73_millis : Nat → Int64} {mX74_bytes : Nat → Option Nat} {a : Nat} (hk : kd a = 4) : (cDV ci d kd an ai al ar mX6_tape mX6_size mX6_values mX6_count mX6_writer mX7_bytes mX7_size mX67_tape mX67_size mX67_at mX67_wrong mX67_place mX68_kind mX69_upper mX69_lower mX70_is mX72_millis mX72_zone mX73_months mX73_millis mX74_bytes) a = .inr (ci 3, [.int (mX68_kind a), .long (mX69_upper a), .long (mX69_lower a)]) := by unfold cDV; simp only [hk]
theorem cDV_4_0 {ci : Nat → Nat} {d : Nat → ClassId} {kd : Nat → Nat} {an : Nat → Nat} {ai : Nat → Nat → Int32} {al : Nat → Nat → Int64} {ar : Nat → Nat → Option Nat} {mX6_tape : Nat → Option Nat} {mX6_size : Nat → Int32} {mX6_values : Nat → Option Nat} {mX6_count : Nat → Int32} {mX6_writer : Nat → Option Nat} {mX7_bytes : Nat → Option Nat} {mX7_size : Nat → Int32} {mX67_tape : Nat → Option Nat} {mX67_size : Nat → Int32} {mX67_at : Nat → Int32} {mX67_wrong : Nat → Option Nat} {mX67_place : Nat → Int32} {mX68_kind : Nat → Int32} {mX69_upper : Nat → Int64} {mX69_lower : Nat → Int64} {mX70_is : Nat → Int32} {mX72_millis : Nat → Int64} {mX72_zone : Nat → Int32} {mX73_months : Nat → Int64} {mX73_millis : Nat → Int64} {mX74_bytes : Nat → Option Nat} {a : Nat} {v : Int32} (hk : kd a = 4) : va_up (cDV ci d kd an ai al ar mX6_tape mX6_size mX6_values mX6_count mX6_writer mX7_bytes mX7_size mX67_tape mX67_size mX67_at mX67_wrong mX67_place mX68_kind mX69_upper mX69_lower mX70_is mX72_millis mX72_zone mX73_months mX73_millis mX74_bytes) a (.inr (ci 3, [.int v, .long (mX69_upper a), .long (mX69_lower a)])) = (cDV ci d kd an ai al ar mX6_tape mX6_size mX6_values mX6_count mX6_writer mX7_bytes mX7_size mX67_tape mX67_size mX67_at mX67_wrong mX67_place (va_up mX68_kind a v) mX69_upper mX69_lower mX70_is mX72_millis mX72_zone mX73_months mX73_millis mX74_bytes) := by
  funext b
  by_cases h : b = a
  · subst h
    rw [va_up_self]
    unfold cDV
    rw [hk]
    simp only [va_up_self]
  · rw [va_up_ne _ _ h]
    unfold cDV
    simp only [va_up_ne _ _ h]
theorem cDV_4_1 {ci : Nat → Nat} {d : Nat → ClassId} {kd : Nat → Nat} {an : Nat → Nat} {ai : Nat → Nat → Int32} {al : Nat → Nat → Int64} {ar : Nat → Nat → Option Nat} {mX6_tape : Nat → Option Nat} {mX6_size : Nat → Int32} {mX6_values : Nat → Option Nat} {mX6_count : Nat → Int32} {mX6_writer : Nat → Option Nat} {mX7_bytes : Nat → Option Nat} {mX7_size : Nat → Int32} {mX67_tape : Nat → Option Nat} {mX67_size : Nat → Int32} {mX67_at : Nat → Int32} {mX67_wrong : Nat → Option Nat} {mX67_place : Nat → Int32} {mX68_kind : Nat → Int32} {mX69_upper : Nat → Int64} {mX69_lower : Nat → Int64} {mX70_is : Nat → Int32} {mX72_millis : Nat → Int64} {mX72_zone : Nat → Int32} {mX73_months : Nat → Int64} {mX73_millis : Nat → Int64} {mX74_bytes : Nat → Option Nat} {a : Nat} {v : Int64} (hk : kd a = 4) : va_up (cDV ci d kd an ai al ar mX6_tape mX6_size mX6_values mX6_count mX6_writer mX7_bytes mX7_size mX67_tape mX67_size mX67_at mX67_wrong mX67_place mX68_kind mX69_upper mX69_lower mX70_is mX72_millis mX72_zone mX73_months mX73_millis mX74_bytes) a (.inr (ci 3, [.int (mX68_kind a), .long v, .long (mX69_lower a)])) = (cDV ci d kd an ai al ar mX6_tape mX6_size mX6_values mX6_count mX6_writer mX7_bytes mX7_size mX67_tape mX67_size mX67_at mX67_wrong mX67_place mX68_kind (va_up mX69_upper a v) mX69_lower mX70_is mX72_millis mX72_zone mX73_months mX73_millis mX74_bytes) := by
  funext b
  by_cases h : b = a
  · subst h
    rw [va_up_self]
    unfold cDV
    rw [hk]
    simp only [va_up_self]
  · rw [va_up_ne _ _ h]
    unfold cDV
    simp only [va_up_ne _ _ h]
theorem cDV_4_2 {ci : Nat → Nat} {d : Nat → ClassId} {kd : Nat → Nat} {an : Nat → Nat} {ai : Nat → Nat → Int32} {al : Nat → Nat → Int64} {ar : Nat → Nat → Option Nat} {mX6_tape : Nat → Option Nat} {mX6_size : Nat → Int32} {mX6_values : Nat → Option Nat} {mX6_count : Nat → Int32} {mX6_writer : Nat → Option Nat} {mX7_bytes : Nat → Option Nat} {mX7_size : Nat → Int32} {mX67_tape : Nat → Option Nat} {mX67_size : Nat → Int32} {mX67_at : Nat → Int32} {mX67_wrong : Nat → Option Nat} {mX67_place : Nat → Int32} {mX68_kind : Nat → Int32} {mX69_upper : Nat → Int64} {mX69_lower : Nat → Int64} {mX70_is : Nat → Int32} {mX72_millis : Nat → Int64} {mX72_zone : Nat → Int32} {mX73_months : Nat → Int64} {mX73_millis : Nat → Int64} {mX74_bytes : Nat → Option Nat} {a : Nat} {v : Int64} (hk : kd a = 4) : va_up (cDV ci d kd an ai al ar mX6_tape mX6_size mX6_values mX6_count mX6_writer mX7_bytes mX7_size mX67_tape mX67_size mX67_at mX67_wrong mX67_place mX68_kind mX69_upper mX69_lower mX70_is mX72_millis mX72_zone mX73_months mX73_millis mX74_bytes) a (.inr (ci 3, [.int (mX68_kind a), .long (mX69_upper a), .long v])) = (cDV ci d kd an ai al ar mX6_tape mX6_size mX6_values mX6_count mX6_writer mX7_bytes mX7_size mX67_tape mX67_size mX67_at mX67_wrong mX67_place mX68_kind mX69_upper (va_up mX69_lower a v) mX70_is mX72_millis mX72_zone mX73_months mX73_millis mX74_bytes) := by
  funext b
  by_cases h : b = a
  · subst h
    rw [va_up_self]
    unfold cDV
    rw [hk]
    simp only [va_up_self]
  · rw [va_up_ne _ _ h]
    unfold cDV
    simp only [va_up_ne _ _ h]
theorem cDV_4_n {ci : Nat → Nat} {d : Nat → ClassId} {kd : Nat → Nat} {an : Nat → Nat} {ai : Nat → Nat → Int32} {al : Nat → Nat → Int64} {ar : Nat → Nat → Option Nat} {mX6_tape : Nat → Option Nat} {mX6_size : Nat → Int32} {mX6_values : Nat → Option Nat} {mX6_count : Nat → Int32} {mX6_writer : Nat → Option Nat} {mX7_bytes : Nat → Option Nat} {mX7_size : Nat → Int32} {mX67_tape : Nat → Option Nat} {mX67_size : Nat → Int32} {mX67_at : Nat → Int32} {mX67_wrong : Nat → Option Nat} {mX67_place : Nat → Int32} {mX68_kind : Nat → Int32} {mX69_upper : Nat → Int64} {mX69_lower : Nat → Int64} {mX70_is : Nat → Int32} {mX72_millis : Nat → Int64} {mX72_zone : Nat → Int32} {mX73_months : Nat → Int64} {mX73_millis : Nat → Int64} {mX74_bytes : Nat → Option Nat} (q : Nat) : va_up (cDV ci d kd an ai al ar mX6_tape mX6_size mX6_values mX6_count mX6_writer mX7_bytes mX7_size mX67_tape mX67_size mX67_at mX67_wrong mX67_place mX68_kind mX69_upper mX69_lower mX70_is mX72_millis mX72_zone mX73_months mX73_millis mX74_bytes) q (.inr (ci 3, [.int 0, .long 0, .long 0])) = (cDV ci d (va_up kd q 4) an ai al ar mX6_tape mX6_size mX6_values mX6_count mX6_writer mX7_bytes mX7_size mX67_tape mX67_size mX67_at mX67_wrong mX67_place (va_up mX68_kind q 0) (va_up mX69_upper q 0) (va_up mX69_lower q 0) mX70_is mX72_millis mX72_zone mX73_months mX73_millis mX74_bytes) := by
  funext b
  by_cases h : b = q
  · subst h
    rw [va_up_self]
    unfold cDV
    simp only [va_up_self]
  · rw [va_up_ne _ _ h]
    unfold cDV
    simp only [va_up_ne _ _ h]
theorem cDV_5 {ci : Nat → Nat} {d : Nat → ClassId} {kd : Nat → Nat} {an : Nat → Nat} {ai : Nat → Nat → Int32} {al : Nat → Nat → Int64} {ar : Nat → Nat → Option Nat} {mX6_tape : Nat → Option Nat} {mX6_size : Nat → Int32} {mX6_values : Nat → Option Nat} {mX6_count : Nat → Int32} {mX6_writer : Nat → Option Nat} {mX7_bytes : Nat → Option Nat} {mX7_size : Nat → Int32} {mX67_tape : Nat → Option Nat} {mX67_size : Nat → Int32} {mX67_at : Nat → Int32} {mX67_wrong : Nat → Option Nat} {mX67_place : Nat → Int32} {mX68_kind : Nat → Int32} {mX69_upper : Nat → Int64} {mX69_lower : Nat → Int64} {mX70_is : Nat → Int32} {mX72_millis : Nat → Int64} {mX72_zone : Nat → Int32} {mX73_months : Nat → Int64} {mX73_millis : Nat → Int64} {mX74_bytes : Nat → Option Nat} {a : Nat} (hk : kd a = 5) : (cDV ci d kd an ai al ar mX6_tape mX6_size mX6_values mX6_count mX6_writer mX7_bytes mX7_size mX67_tape mX67_size mX67_at mX67_wrong mX67_place mX68_kind mX69_upper mX69_lower mX70_is mX72_millis mX72_zone mX73_months mX73_millis mX74_bytes) a = .inr (ci 4, [.int (mX68_kind a), .int (mX70_is a)]) := by unfold cDV; simp only [hk]
theorem cDV_5_0 {ci : Nat → Nat} {d : Nat → ClassId} {kd : Nat → Nat} {an : Nat → Nat} {ai : Nat → Nat → Int32} {al : Nat → Nat → Int64} {ar : Nat → Nat → Option Nat} {mX6_tape : Nat → Option Nat} {mX6_size : Nat → Int32} {mX6_values : Nat → Option Nat} {mX6_count : Nat → Int32} {mX6_writer : Nat → Option Nat} {mX7_bytes : Nat → Option Nat} {mX7_size : Nat → Int32} {mX67_tape : Nat → Option Nat} {mX67_size : Nat → Int32} {mX67_at : Nat → Int32} {mX67_wrong : Nat → Option Nat} {mX67_place : Nat → Int32} {mX68_kind : Nat → Int32} {mX69_upper : Nat → Int64} {mX69_lower : Nat → Int64} {mX70_is : Nat → Int32} {mX72_millis : Nat → Int64} {mX72_zone : Nat → Int32} {mX73_months : Nat → Int64} {mX73_millis : Nat → Int64} {mX74_bytes : Nat → Option Nat} {a : Nat} {v : Int32} (hk : kd a = 5) : va_up (cDV ci d kd an ai al ar mX6_tape mX6_size mX6_values mX6_count mX6_writer mX7_bytes mX7_size mX67_tape mX67_size mX67_at mX67_wrong mX67_place mX68_kind mX69_upper mX69_lower mX70_is mX72_millis mX72_zone mX73_months mX73_millis mX74_bytes) a (.inr (ci 4, [.int v, .int (mX70_is a)])) = (cDV ci d kd an ai al ar mX6_tape mX6_size mX6_values mX6_count mX6_writer mX7_bytes mX7_size mX67_tape mX67_size mX67_at mX67_wrong mX67_place (va_up mX68_kind a v) mX69_upper mX69_lower mX70_is mX72_millis mX72_zone mX73_months mX73_millis mX74_bytes) := by
  funext b
  by_cases h : b = a
  · subst h
    rw [va_up_self]
    unfold cDV
    rw [hk]
    simp only [va_up_self]
  · rw [va_up_ne _ _ h]
    unfold cDV
    simp only [va_up_ne _ _ h]
theorem cDV_5_1 {ci : Nat → Nat} {d : Nat → ClassId} {kd : Nat → Nat} {an : Nat → Nat} {ai : Nat → Nat → Int32} {al : Nat → Nat → Int64} {ar : Nat → Nat → Option Nat} {mX6_tape : Nat → Option Nat} {mX6_size : Nat → Int32} {mX6_values : Nat → Option Nat} {mX6_count : Nat → Int32} {mX6_writer : Nat → Option Nat} {mX7_bytes : Nat → Option Nat} {mX7_size : Nat → Int32} {mX67_tape : Nat → Option Nat} {mX67_size : Nat → Int32} {mX67_at : Nat → Int32} {mX67_wrong : Nat → Option Nat} {mX67_place : Nat → Int32} {mX68_kind : Nat → Int32} {mX69_upper : Nat → Int64} {mX69_lower : Nat → Int64} {mX70_is : Nat → Int32} {mX72_millis : Nat → Int64} {mX72_zone : Nat → Int32} {mX73_months : Nat → Int64} {mX73_millis : Nat → Int64} {mX74_bytes : Nat → Option Nat} {a : Nat} {v : Int32} (hk : kd a = 5) : va_up (cDV ci d kd an ai al ar mX6_tape mX6_size mX6_values mX6_count mX6_writer mX7_bytes mX7_size mX67_tape mX67_size mX67_at mX67_wrong mX67_place mX68_kind mX69_upper mX69_lower mX70_is mX72_millis mX72_zone mX73_months mX73_millis mX74_bytes) a (.inr (ci 4, [.int (mX68_kind a), .int v])) = (cDV ci d kd an ai al ar mX6_tape mX6_size mX6_values mX6_count mX6_writer mX7_bytes mX7_size mX67_tape mX67_size mX67_at mX67_wrong mX67_place mX68_kind mX69_upper mX69_lower (va_up mX70_is a v) mX72_millis mX72_zone mX73_months mX73_millis mX74_bytes) := by
  funext b
  by_cases h : b = a
  · subst h
    rw [va_up_self]
    unfold cDV
    rw [hk]
    simp only [va_up_self]
  · rw [va_up_ne _ _ h]
    unfold cDV
    simp only [va_up_ne _ _ h]
theorem cDV_5_n {ci : Nat → Nat} {d : Nat → ClassId} {kd : Nat → Nat} {an : Nat → Nat} {ai : Nat → Nat → Int32} {al : Nat → Nat → Int64} {ar : Nat → Nat → Option Nat} {mX6_tape : Nat → Option Nat} {mX6_size : Nat → Int32} {mX6_values : Nat → Option Nat} {mX6_count : Nat → Int32} {mX6_writer : Nat → Option Nat} {mX7_bytes : Nat → Option Nat} {mX7_size : Nat → Int32} {mX67_tape : Nat → Option Nat} {mX67_size : Nat → Int32} {mX67_at : Nat → Int32} {mX67_wrong : Nat → Option Nat} {mX67_place : Nat → Int32} {mX68_kind : Nat → Int32} {mX69_upper : Nat → Int64} {mX69_lower : Nat → Int64} {mX70_is : Nat → Int32} {mX72_millis : Nat → Int64} {mX72_zone : Nat → Int32} {mX73_months : Nat → Int64} {mX73_millis : Nat → Int64} {mX74_bytes : Nat → Option Nat} (q : Nat) : va_up (cDV ci d kd an ai al ar mX6_tape mX6_size mX6_values mX6_count mX6_writer mX7_bytes mX7_size mX67_tape mX67_size mX67_at mX67_wrong mX67_place mX68_kind mX69_upper mX69_lower mX70_is mX72_millis mX72_zone mX73_months mX73_millis mX74_bytes) q (.inr (ci 4, [.int 0, .int 0])) = (cDV ci d (va_up kd q 5) an ai al ar mX6_tape mX6_size mX6_values mX6_count mX6_writer mX7_bytes mX7_size mX67_tape mX67_size mX67_at mX67_wrong mX67_place (va_up mX68_kind q 0) mX69_upper mX69_lower (va_up mX70_is q 0) mX72_millis mX72_zone mX73_months mX73_millis mX74_bytes) := by
  funext b
  by_cases h : b = q
  · subst h
    rw [va_up_self]
    unfold cDV
    simp only [va_up_self]
  · rw [va_up_ne _ _ h]
    unfold cDV
    simp only [va_up_ne _ _ h]
theorem cDV_6 {ci : Nat → Nat} {d : Nat → ClassId} {kd : Nat → Nat} {an : Nat → Nat} {ai : Nat → Nat → Int32} {al : Nat → Nat → Int64} {ar : Nat → Nat → Option Nat} {mX6_tape : Nat → Option Nat} {mX6_size : Nat → Int32} {mX6_values : Nat → Option Nat} {mX6_count : Nat → Int32} {mX6_writer : Nat → Option Nat} {mX7_bytes : Nat → Option Nat} {mX7_size : Nat → Int32} {mX67_tape : Nat → Option Nat} {mX67_size : Nat → Int32} {mX67_at : Nat → Int32} {mX67_wrong : Nat → Option Nat} {mX67_place : Nat → Int32} {mX68_kind : Nat → Int32} {mX69_upper : Nat → Int64} {mX69_lower : Nat → Int64} {mX70_is : Nat → Int32} {mX72_millis : Nat → Int64} {mX72_zone : Nat → Int32} {mX73_months : Nat → Int64} {mX73_millis : Nat → Int64} {mX74_bytes : Nat → Option Nat} {a : Nat} (hk : kd a = 6) : (cDV ci d kd an ai al ar mX6_tape mX6_size mX6_values mX6_count mX6_writer mX7_bytes mX7_size mX67_tape mX67_size mX67_at mX67_wrong mX67_place mX68_kind mX69_upper mX69_lower mX70_is mX72_millis mX72_zone mX73_months mX73_millis mX74_bytes) a = .inr (ci 5, [.int (mX68_kind a), .long (mX72_millis a), .int (mX72_zone a)]) := by unfold cDV; simp only [hk]
theorem cDV_6_0 {ci : Nat → Nat} {d : Nat → ClassId} {kd : Nat → Nat} {an : Nat → Nat} {ai : Nat → Nat → Int32} {al : Nat → Nat → Int64} {ar : Nat → Nat → Option Nat} {mX6_tape : Nat → Option Nat} {mX6_size : Nat → Int32} {mX6_values : Nat → Option Nat} {mX6_count : Nat → Int32} {mX6_writer : Nat → Option Nat} {mX7_bytes : Nat → Option Nat} {mX7_size : Nat → Int32} {mX67_tape : Nat → Option Nat} {mX67_size : Nat → Int32} {mX67_at : Nat → Int32} {mX67_wrong : Nat → Option Nat} {mX67_place : Nat → Int32} {mX68_kind : Nat → Int32} {mX69_upper : Nat → Int64} {mX69_lower : Nat → Int64} {mX70_is : Nat → Int32} {mX72_millis : Nat → Int64} {mX72_zone : Nat → Int32} {mX73_months : Nat → Int64} {mX73_millis : Nat → Int64} {mX74_bytes : Nat → Option Nat} {a : Nat} {v : Int32} (hk : kd a = 6) : va_up (cDV ci d kd an ai al ar mX6_tape mX6_size mX6_values mX6_count mX6_writer mX7_bytes mX7_size mX67_tape mX67_size mX67_at mX67_wrong mX67_place mX68_kind mX69_upper mX69_lower mX70_is mX72_millis mX72_zone mX73_months mX73_millis mX74_bytes) a (.inr (ci 5, [.int v, .long (mX72_millis a), .int (mX72_zone a)])) = (cDV ci d kd an ai al ar mX6_tape mX6_size mX6_values mX6_count mX6_writer mX7_bytes mX7_size mX67_tape mX67_size mX67_at mX67_wrong mX67_place (va_up mX68_kind a v) mX69_upper mX69_lower mX70_is mX72_millis mX72_zone mX73_months mX73_millis mX74_bytes) := by
  funext b
  by_cases h : b = a
  · subst h
    rw [va_up_self]
    unfold cDV
    rw [hk]
    simp only [va_up_self]
  · rw [va_up_ne _ _ h]
    unfold cDV
    simp only [va_up_ne _ _ h]
theorem cDV_6_1 {ci : Nat → Nat} {d : Nat → ClassId} {kd : Nat → Nat} {an : Nat → Nat} {ai : Nat → Nat → Int32} {al : Nat → Nat → Int64} {ar : Nat → Nat → Option Nat} {mX6_tape : Nat → Option Nat} {mX6_size : Nat → Int32} {mX6_values : Nat → Option Nat} {mX6_count : Nat → Int32} {mX6_writer : Nat → Option Nat} {mX7_bytes : Nat → Option Nat} {mX7_size : Nat → Int32} {mX67_tape : Nat → Option Nat} {mX67_size : Nat → Int32} {mX67_at : Nat → Int32} {mX67_wrong : Nat → Option Nat} {mX67_place : Nat → Int32} {mX68_kind : Nat → Int32} {mX69_upper : Nat → Int64} {mX69_lower : Nat → Int64} {mX70_is : Nat → Int32} {mX72_millis : Nat → Int64} {mX72_zone : Nat → Int32} {mX73_months : Nat → Int64} {mX73_millis : Nat → Int64} {mX74_bytes : Nat → Option Nat} {a : Nat} {v : Int64} (hk : kd a = 6) : va_up (cDV ci d kd an ai al ar mX6_tape mX6_size mX6_values mX6_count mX6_writer mX7_bytes mX7_size mX67_tape mX67_size mX67_at mX67_wrong mX67_place mX68_kind mX69_upper mX69_lower mX70_is mX72_millis mX72_zone mX73_months mX73_millis mX74_bytes) a (.inr (ci 5, [.int (mX68_kind a), .long v, .int (mX72_zone a)])) = (cDV ci d kd an ai al ar mX6_tape mX6_size mX6_values mX6_count mX6_writer mX7_bytes mX7_size mX67_tape mX67_size mX67_at mX67_wrong mX67_place mX68_kind mX69_upper mX69_lower mX70_is (va_up mX72_millis a v) mX72_zone mX73_months mX73_millis mX74_bytes) := by
  funext b
  by_cases h : b = a
  · subst h
    rw [va_up_self]
    unfold cDV
    rw [hk]
    simp only [va_up_self]
  · rw [va_up_ne _ _ h]
    unfold cDV
    simp only [va_up_ne _ _ h]
theorem cDV_6_2 {ci : Nat → Nat} {d : Nat → ClassId} {kd : Nat → Nat} {an : Nat → Nat} {ai : Nat → Nat → Int32} {al : Nat → Nat → Int64} {ar : Nat → Nat → Option Nat} {mX6_tape : Nat → Option Nat} {mX6_size : Nat → Int32} {mX6_values : Nat → Option Nat} {mX6_count : Nat → Int32} {mX6_writer : Nat → Option Nat} {mX7_bytes : Nat → Option Nat} {mX7_size : Nat → Int32} {mX67_tape : Nat → Option Nat} {mX67_size : Nat → Int32} {mX67_at : Nat → Int32} {mX67_wrong : Nat → Option Nat} {mX67_place : Nat → Int32} {mX68_kind : Nat → Int32} {mX69_upper : Nat → Int64} {mX69_lower : Nat → Int64} {mX70_is : Nat → Int32} {mX72_millis : Nat → Int64} {mX72_zone : Nat → Int32} {mX73_months : Nat → Int64} {mX73_millis : Nat → Int64} {mX74_bytes : Nat → Option Nat} {a : Nat} {v : Int32} (hk : kd a = 6) : va_up (cDV ci d kd an ai al ar mX6_tape mX6_size mX6_values mX6_count mX6_writer mX7_bytes mX7_size mX67_tape mX67_size mX67_at mX67_wrong mX67_place mX68_kind mX69_upper mX69_lower mX70_is mX72_millis mX72_zone mX73_months mX73_millis mX74_bytes) a (.inr (ci 5, [.int (mX68_kind a), .long (mX72_millis a), .int v])) = (cDV ci d kd an ai al ar mX6_tape mX6_size mX6_values mX6_count mX6_writer mX7_bytes mX7_size mX67_tape mX67_size mX67_at mX67_wrong mX67_place mX68_kind mX69_upper mX69_lower mX70_is mX72_millis (va_up mX72_zone a v) mX73_months mX73_millis mX74_bytes) := by
  funext b
  by_cases h : b = a
  · subst h
    rw [va_up_self]
    unfold cDV
    rw [hk]
    simp only [va_up_self]
  · rw [va_up_ne _ _ h]
    unfold cDV
    simp only [va_up_ne _ _ h]
theorem cDV_6_n {ci : Nat → Nat} {d : Nat → ClassId} {kd : Nat → Nat} {an : Nat → Nat} {ai : Nat → Nat → Int32} {al : Nat → Nat → Int64} {ar : Nat → Nat → Option Nat} {mX6_tape : Nat → Option Nat} {mX6_size : Nat → Int32} {mX6_values : Nat → Option Nat} {mX6_count : Nat → Int32} {mX6_writer : Nat → Option Nat} {mX7_bytes : Nat → Option Nat} {mX7_size : Nat → Int32} {mX67_tape : Nat → Option Nat} {mX67_size : Nat → Int32} {mX67_at : Nat → Int32} {mX67_wrong : Nat → Option Nat} {mX67_place : Nat → Int32} {mX68_kind : Nat → Int32} {mX69_upper : Nat → Int64} {mX69_lower : Nat → Int64} {mX70_is : Nat → Int32} {mX72_millis : Nat → Int64} {mX72_zone : Nat → Int32} {mX73_months : Nat → Int64} {mX73_millis : Nat → Int64} {mX74_bytes : Nat → Option Nat} (q : Nat) : va_up (cDV ci d kd an ai al ar mX6_tape mX6_size mX6_values mX6_count mX6_writer mX7_bytes mX7_size mX67_tape mX67_size mX67_at mX67_wrong mX67_place mX68_kind mX69_upper mX69_lower mX70_is mX72_millis mX72_zone mX73_months mX73_millis mX74_bytes) q (.inr (ci 5, [.int 0, .long 0, .int 0])) = (cDV ci d (va_up kd q 6) an ai al ar mX6_tape mX6_size mX6_values mX6_count mX6_writer mX7_bytes mX7_size mX67_tape mX67_size mX67_at mX67_wrong mX67_place (va_up mX68_kind q 0) mX69_upper mX69_lower mX70_is (va_up mX72_millis q 0) (va_up mX72_zone q 0) mX73_months mX73_millis mX74_bytes) := by
  funext b
  by_cases h : b = q
  · subst h
    rw [va_up_self]
    unfold cDV
    simp only [va_up_self]
  · rw [va_up_ne _ _ h]
    unfold cDV
    simp only [va_up_ne _ _ h]
theorem cDV_7 {ci : Nat → Nat} {d : Nat → ClassId} {kd : Nat → Nat} {an : Nat → Nat} {ai : Nat → Nat → Int32} {al : Nat → Nat → Int64} {ar : Nat → Nat → Option Nat} {mX6_tape : Nat → Option Nat} {mX6_size : Nat → Int32} {mX6_values : Nat → Option Nat} {mX6_count : Nat → Int32} {mX6_writer : Nat → Option Nat} {mX7_bytes : Nat → Option Nat} {mX7_size : Nat → Int32} {mX67_tape : Nat → Option Nat} {mX67_size : Nat → Int32} {mX67_at : Nat → Int32} {mX67_wrong : Nat → Option Nat} {mX67_place : Nat → Int32} {mX68_kind : Nat → Int32} {mX69_upper : Nat → Int64} {mX69_lower : Nat → Int64} {mX70_is : Nat → Int32} {mX72_millis : Nat → Int64} {mX72_zone : Nat → Int32} {mX73_months : Nat → Int64} {mX73_millis : Nat → Int64} {mX74_bytes : Nat → Option Nat} {a : Nat} (hk : kd a = 7) : (cDV ci d kd an ai al ar mX6_tape mX6_size mX6_values mX6_count mX6_writer mX7_bytes mX7_size mX67_tape mX67_size mX67_at mX67_wrong mX67_place mX68_kind mX69_upper mX69_lower mX70_is mX72_millis mX72_zone mX73_months mX73_millis mX74_bytes) a = .inr (ci 6, [.int (mX68_kind a), .long (mX73_months a), .long (mX73_millis a)]) := by unfold cDV; simp only [hk]
theorem cDV_7_0 {ci : Nat → Nat} {d : Nat → ClassId} {kd : Nat → Nat} {an : Nat → Nat} {ai : Nat → Nat → Int32} {al : Nat → Nat → Int64} {ar : Nat → Nat → Option Nat} {mX6_tape : Nat → Option Nat} {mX6_size : Nat → Int32} {mX6_values : Nat → Option Nat} {mX6_count : Nat → Int32} {mX6_writer : Nat → Option Nat} {mX7_bytes : Nat → Option Nat} {mX7_size : Nat → Int32} {mX67_tape : Nat → Option Nat} {mX67_size : Nat → Int32} {mX67_at : Nat → Int32} {mX67_wrong : Nat → Option Nat} {mX67_place : Nat → Int32} {mX68_kind : Nat → Int32} {mX69_upper : Nat → Int64} {mX69_lower : Nat → Int64} {mX70_is : Nat → Int32} {mX72_millis : Nat → Int64} {mX72_zone : Nat → Int32} {mX73_months : Nat → Int64} {mX73_millis : Nat → Int64} {mX74_bytes : Nat → Option Nat} {a : Nat} {v : Int32} (hk : kd a = 7) : va_up (cDV ci d kd an ai al ar mX6_tape mX6_size mX6_values mX6_count mX6_writer mX7_bytes mX7_size mX67_tape mX67_size mX67_at mX67_wrong mX67_place mX68_kind mX69_upper mX69_lower mX70_is mX72_millis mX72_zone mX73_months mX73_millis mX74_bytes) a (.inr (ci 6, [.int v, .long (mX73_months a), .long (mX73_millis a)])) = (cDV ci d kd an ai al ar mX6_tape mX6_size mX6_values mX6_count mX6_writer mX7_bytes mX7_size mX67_tape mX67_size mX67_at mX67_wrong mX67_place (va_up mX68_kind a v) mX69_upper mX69_lower mX70_is mX72_millis mX72_zone mX73_months mX73_millis mX74_bytes) := by
  funext b
  by_cases h : b = a
  · subst h
    rw [va_up_self]
    unfold cDV
    rw [hk]
    simp only [va_up_self]
  · rw [va_up_ne _ _ h]
    unfold cDV
    simp only [va_up_ne _ _ h]
theorem cDV_7_1 {ci : Nat → Nat} {d : Nat → ClassId} {kd : Nat → Nat} {an : Nat → Nat} {ai : Nat → Nat → Int32} {al : Nat → Nat → Int64} {ar : Nat → Nat → Option Nat} {mX6_tape : Nat → Option Nat} {mX6_size : Nat → Int32} {mX6_values : Nat → Option Nat} {mX6_count : Nat → Int32} {mX6_writer : Nat → Option Nat} {mX7_bytes : Nat → Option Nat} {mX7_size : Nat → Int32} {mX67_tape : Nat → Option Nat} {mX67_size : Nat → Int32} {mX67_at : Nat → Int32} {mX67_wrong : Nat → Option Nat} {mX67_place : Nat → Int32} {mX68_kind : Nat → Int32} {mX69_upper : Nat → Int64} {mX69_lower : Nat → Int64} {mX70_is : Nat → Int32} {mX72_millis : Nat → Int64} {mX72_zone : Nat → Int32} {mX73_months : Nat → Int64} {mX73_millis : Nat → Int64} {mX74_bytes : Nat → Option Nat} {a : Nat} {v : Int64} (hk : kd a = 7) : va_up (cDV ci d kd an ai al ar mX6_tape mX6_size mX6_values mX6_count mX6_writer mX7_bytes mX7_size mX67_tape mX67_size mX67_at mX67_wrong mX67_place mX68_kind mX69_upper mX69_lower mX70_is mX72_millis mX72_zone mX73_months mX73_millis mX74_bytes) a (.inr (ci 6, [.int (mX68_kind a), .long v, .long (mX73_millis a)])) = (cDV ci d kd an ai al ar mX6_tape mX6_size mX6_values mX6_count mX6_writer mX7_bytes mX7_size mX67_tape mX67_size mX67_at mX67_wrong mX67_place mX68_kind mX69_upper mX69_lower mX70_is mX72_millis mX72_zone (va_up mX73_months a v) mX73_millis mX74_bytes) := by
  funext b
  by_cases h : b = a
  · subst h
    rw [va_up_self]
    unfold cDV
    rw [hk]
    simp only [va_up_self]
  · rw [va_up_ne _ _ h]
    unfold cDV
    simp only [va_up_ne _ _ h]
theorem cDV_7_2 {ci : Nat → Nat} {d : Nat → ClassId} {kd : Nat → Nat} {an : Nat → Nat} {ai : Nat → Nat → Int32} {al : Nat → Nat → Int64} {ar : Nat → Nat → Option Nat} {mX6_tape : Nat → Option Nat} {mX6_size : Nat → Int32} {mX6_values : Nat → Option Nat} {mX6_count : Nat → Int32} {mX6_writer : Nat → Option Nat} {mX7_bytes : Nat → Option Nat} {mX7_size : Nat → Int32} {mX67_tape : Nat → Option Nat} {mX67_size : Nat → Int32} {mX67_at : Nat → Int32} {mX67_wrong : Nat → Option Nat} {mX67_place : Nat → Int32} {mX68_kind : Nat → Int32} {mX69_upper : Nat → Int64} {mX69_lower : Nat → Int64} {mX70_is : Nat → Int32} {mX72_millis : Nat → Int64} {mX72_zone : Nat → Int32} {mX73_months : Nat → Int64} {mX73_millis : Nat → Int64} {mX74_bytes : Nat → Option Nat} {a : Nat} {v : Int64} (hk : kd a = 7) : va_up (cDV ci d kd an ai al ar mX6_tape mX6_size mX6_values mX6_count mX6_writer mX7_bytes mX7_size mX67_tape mX67_size mX67_at mX67_wrong mX67_place mX68_kind mX69_upper mX69_lower mX70_is mX72_millis mX72_zone mX73_months mX73_millis mX74_bytes) a (.inr (ci 6, [.int (mX68_kind a), .long (mX73_months a), .long v])) = (cDV ci d kd an ai al ar mX6_tape mX6_size mX6_values mX6_count mX6_writer mX7_bytes mX7_size mX67_tape mX67_size mX67_at mX67_wrong mX67_place mX68_kind mX69_upper mX69_lower mX70_is mX72_millis mX72_zone mX73_months (va_up mX73_millis a v) mX74_bytes) := by
  funext b
  by_cases h : b = a
  · subst h
    rw [va_up_self]
    unfold cDV
    rw [hk]
    simp only [va_up_self]
  · rw [va_up_ne _ _ h]
    unfold cDV
    simp only [va_up_ne _ _ h]
theorem cDV_7_n {ci : Nat → Nat} {d : Nat → ClassId} {kd : Nat → Nat} {an : Nat → Nat} {ai : Nat → Nat → Int32} {al : Nat → Nat → Int64} {ar : Nat → Nat → Option Nat} {mX6_tape : Nat → Option Nat} {mX6_size : Nat → Int32} {mX6_values : Nat → Option Nat} {mX6_count : Nat → Int32} {mX6_writer : Nat → Option Nat} {mX7_bytes : Nat → Option Nat} {mX7_size : Nat → Int32} {mX67_tape : Nat → Option Nat} {mX67_size : Nat → Int32} {mX67_at : Nat → Int32} {mX67_wrong : Nat → Option Nat} {mX67_place : Nat → Int32} {mX68_kind : Nat → Int32} {mX69_upper : Nat → Int64} {mX69_lower : Nat → Int64} {mX70_is : Nat → Int32} {mX72_millis : Nat → Int64} {mX72_zone : Nat → Int32} {mX73_months : Nat → Int64} {mX73_millis : Nat → Int64} {mX74_bytes : Nat → Option Nat} (q : Nat) : va_up (cDV ci d kd an ai al ar mX6_tape mX6_size mX6_values mX6_count mX6_writer mX7_bytes mX7_size mX67_tape mX67_size mX67_at mX67_wrong mX67_place mX68_kind mX69_upper mX69_lower mX70_is mX72_millis mX72_zone mX73_months mX73_millis mX74_bytes) q (.inr (ci 6, [.int 0, .long 0, .long 0])) = (cDV ci d (va_up kd q 7) an ai al ar mX6_tape mX6_size mX6_values mX6_count mX6_writer mX7_bytes mX7_size mX67_tape mX67_size mX67_at mX67_wrong mX67_place (va_up mX68_kind q 0) mX69_upper mX69_lower mX70_is mX72_millis mX72_zone (va_up mX73_months q 0) (va_up mX73_millis q 0) mX74_bytes) := by
  funext b
  by_cases h : b = q
  · subst h
    rw [va_up_self]
    unfold cDV
    simp only [va_up_self]
  · rw [va_up_ne _ _ h]
    unfold cDV
    simp only [va_up_ne _ _ h]
theorem cDV_8 {ci : Nat → Nat} {d : Nat → ClassId} {kd : Nat → Nat} {an : Nat → Nat} {ai : Nat → Nat → Int32} {al : Nat → Nat → Int64} {ar : Nat → Nat → Option Nat} {mX6_tape : Nat → Option Nat} {mX6_size : Nat → Int32} {mX6_values : Nat → Option Nat} {mX6_count : Nat → Int32} {mX6_writer : Nat → Option Nat} {mX7_bytes : Nat → Option Nat} {mX7_size : Nat → Int32} {mX67_tape : Nat → Option Nat} {mX67_size : Nat → Int32} {mX67_at : Nat → Int32} {mX67_wrong : Nat → Option Nat} {mX67_place : Nat → Int32} {mX68_kind : Nat → Int32} {mX69_upper : Nat → Int64} {mX69_lower : Nat → Int64} {mX70_is : Nat → Int32} {mX72_millis : Nat → Int64} {mX72_zone : Nat → Int32} {mX73_months : Nat → Int64} {mX73_millis : Nat → Int64} {mX74_bytes : Nat → Option Nat} {a : Nat} (hk : kd a = 8) : (cDV ci d kd an ai al ar mX6_tape mX6_size mX6_values mX6_count mX6_writer mX7_bytes mX7_size mX67_tape mX67_size mX67_at mX67_wrong mX67_place mX68_kind mX69_upper mX69_lower mX70_is mX72_millis mX72_zone mX73_months mX73_millis mX74_bytes) a = .inr (ci 7, [.int (mX68_kind a), va_rf (mX74_bytes a)]) := by unfold cDV; simp only [hk]
theorem cDV_8_0 {ci : Nat → Nat} {d : Nat → ClassId} {kd : Nat → Nat} {an : Nat → Nat} {ai : Nat → Nat → Int32} {al : Nat → Nat → Int64} {ar : Nat → Nat → Option Nat} {mX6_tape : Nat → Option Nat} {mX6_size : Nat → Int32} {mX6_values : Nat → Option Nat} {mX6_count : Nat → Int32} {mX6_writer : Nat → Option Nat} {mX7_bytes : Nat → Option Nat} {mX7_size : Nat → Int32} {mX67_tape : Nat → Option Nat} {mX67_size : Nat → Int32} {mX67_at : Nat → Int32} {mX67_wrong : Nat → Option Nat} {mX67_place : Nat → Int32} {mX68_kind : Nat → Int32} {mX69_upper : Nat → Int64} {mX69_lower : Nat → Int64} {mX70_is : Nat → Int32} {mX72_millis : Nat → Int64} {mX72_zone : Nat → Int32} {mX73_months : Nat → Int64} {mX73_millis : Nat → Int64} {mX74_bytes : Nat → Option Nat} {a : Nat} {v : Int32} (hk : kd a = 8) : va_up (cDV ci d kd an ai al ar mX6_tape mX6_size mX6_values mX6_count mX6_writer mX7_bytes mX7_size mX67_tape mX67_size mX67_at mX67_wrong mX67_place mX68_kind mX69_upper mX69_lower mX70_is mX72_millis mX72_zone mX73_months mX73_millis mX74_bytes) a (.inr (ci 7, [.int v, va_rf (mX74_bytes a)])) = (cDV ci d kd an ai al ar mX6_tape mX6_size mX6_values mX6_count mX6_writer mX7_bytes mX7_size mX67_tape mX67_size mX67_at mX67_wrong mX67_place (va_up mX68_kind a v) mX69_upper mX69_lower mX70_is mX72_millis mX72_zone mX73_months mX73_millis mX74_bytes) := by
  funext b
  by_cases h : b = a
  · subst h
    rw [va_up_self]
    unfold cDV
    rw [hk]
    simp only [va_up_self]
  · rw [va_up_ne _ _ h]
    unfold cDV
    simp only [va_up_ne _ _ h]
theorem cDV_8_1 {ci : Nat → Nat} {d : Nat → ClassId} {kd : Nat → Nat} {an : Nat → Nat} {ai : Nat → Nat → Int32} {al : Nat → Nat → Int64} {ar : Nat → Nat → Option Nat} {mX6_tape : Nat → Option Nat} {mX6_size : Nat → Int32} {mX6_values : Nat → Option Nat} {mX6_count : Nat → Int32} {mX6_writer : Nat → Option Nat} {mX7_bytes : Nat → Option Nat} {mX7_size : Nat → Int32} {mX67_tape : Nat → Option Nat} {mX67_size : Nat → Int32} {mX67_at : Nat → Int32} {mX67_wrong : Nat → Option Nat} {mX67_place : Nat → Int32} {mX68_kind : Nat → Int32} {mX69_upper : Nat → Int64} {mX69_lower : Nat → Int64} {mX70_is : Nat → Int32} {mX72_millis : Nat → Int64} {mX72_zone : Nat → Int32} {mX73_months : Nat → Int64} {mX73_millis : Nat → Int64} {mX74_bytes : Nat → Option Nat} {a : Nat} {v : Option Nat} (hk : kd a = 8) : va_up (cDV ci d kd an ai al ar mX6_tape mX6_size mX6_values mX6_count mX6_writer mX7_bytes mX7_size mX67_tape mX67_size mX67_at mX67_wrong mX67_place mX68_kind mX69_upper mX69_lower mX70_is mX72_millis mX72_zone mX73_months mX73_millis mX74_bytes) a (.inr (ci 7, [.int (mX68_kind a), va_rf v])) = (cDV ci d kd an ai al ar mX6_tape mX6_size mX6_values mX6_count mX6_writer mX7_bytes mX7_size mX67_tape mX67_size mX67_at mX67_wrong mX67_place mX68_kind mX69_upper mX69_lower mX70_is mX72_millis mX72_zone mX73_months mX73_millis (va_up mX74_bytes a v)) := by
  funext b
  by_cases h : b = a
  · subst h
    rw [va_up_self]
    unfold cDV
    rw [hk]
    simp only [va_up_self]
  · rw [va_up_ne _ _ h]
    unfold cDV
    simp only [va_up_ne _ _ h]
theorem cDV_8_n {ci : Nat → Nat} {d : Nat → ClassId} {kd : Nat → Nat} {an : Nat → Nat} {ai : Nat → Nat → Int32} {al : Nat → Nat → Int64} {ar : Nat → Nat → Option Nat} {mX6_tape : Nat → Option Nat} {mX6_size : Nat → Int32} {mX6_values : Nat → Option Nat} {mX6_count : Nat → Int32} {mX6_writer : Nat → Option Nat} {mX7_bytes : Nat → Option Nat} {mX7_size : Nat → Int32} {mX67_tape : Nat → Option Nat} {mX67_size : Nat → Int32} {mX67_at : Nat → Int32} {mX67_wrong : Nat → Option Nat} {mX67_place : Nat → Int32} {mX68_kind : Nat → Int32} {mX69_upper : Nat → Int64} {mX69_lower : Nat → Int64} {mX70_is : Nat → Int32} {mX72_millis : Nat → Int64} {mX72_zone : Nat → Int32} {mX73_months : Nat → Int64} {mX73_millis : Nat → Int64} {mX74_bytes : Nat → Option Nat} (q : Nat) : va_up (cDV ci d kd an ai al ar mX6_tape mX6_size mX6_values mX6_count mX6_writer mX7_bytes mX7_size mX67_tape mX67_size mX67_at mX67_wrong mX67_place mX68_kind mX69_upper mX69_lower mX70_is mX72_millis mX72_zone mX73_months mX73_millis mX74_bytes) q (.inr (ci 7, [.int 0, va_rf none])) = (cDV ci d (va_up kd q 8) an ai al ar mX6_tape mX6_size mX6_values mX6_count mX6_writer mX7_bytes mX7_size mX67_tape mX67_size mX67_at mX67_wrong mX67_place (va_up mX68_kind q 0) mX69_upper mX69_lower mX70_is mX72_millis mX72_zone mX73_months mX73_millis (va_up mX74_bytes q none)) := by
  funext b
  by_cases h : b = q
  · subst h
    rw [va_up_self]
    unfold cDV
    simp only [va_up_self]
  · rw [va_up_ne _ _ h]
    unfold cDV
    simp only [va_up_ne _ _ h]
theorem cDV_9 {ci : Nat → Nat} {d : Nat → ClassId} {kd : Nat → Nat} {an : Nat → Nat} {ai : Nat → Nat → Int32} {al : Nat → Nat → Int64} {ar : Nat → Nat → Option Nat} {mX6_tape : Nat → Option Nat} {mX6_size : Nat → Int32} {mX6_values : Nat → Option Nat} {mX6_count : Nat → Int32} {mX6_writer : Nat → Option Nat} {mX7_bytes : Nat → Option Nat} {mX7_size : Nat → Int32} {mX67_tape : Nat → Option Nat} {mX67_size : Nat → Int32} {mX67_at : Nat → Int32} {mX67_wrong : Nat → Option Nat} {mX67_place : Nat → Int32} {mX68_kind : Nat → Int32} {mX69_upper : Nat → Int64} {mX69_lower : Nat → Int64} {mX70_is : Nat → Int32} {mX72_millis : Nat → Int64} {mX72_zone : Nat → Int32} {mX73_months : Nat → Int64} {mX73_millis : Nat → Int64} {mX74_bytes : Nat → Option Nat} {a : Nat} (hk : kd a = 9) : (cDV ci d kd an ai al ar mX6_tape mX6_size mX6_values mX6_count mX6_writer mX7_bytes mX7_size mX67_tape mX67_size mX67_at mX67_wrong mX67_place mX68_kind mX69_upper mX69_lower mX70_is mX72_millis mX72_zone mX73_months mX73_millis mX74_bytes) a = .inl (d 0, an a, .inl (ai a)) := by unfold cDV; simp only [hk]
theorem cDV_9_s {ci : Nat → Nat} {d : Nat → ClassId} {kd : Nat → Nat} {an : Nat → Nat} {ai : Nat → Nat → Int32} {al : Nat → Nat → Int64} {ar : Nat → Nat → Option Nat} {mX6_tape : Nat → Option Nat} {mX6_size : Nat → Int32} {mX6_values : Nat → Option Nat} {mX6_count : Nat → Int32} {mX6_writer : Nat → Option Nat} {mX7_bytes : Nat → Option Nat} {mX7_size : Nat → Int32} {mX67_tape : Nat → Option Nat} {mX67_size : Nat → Int32} {mX67_at : Nat → Int32} {mX67_wrong : Nat → Option Nat} {mX67_place : Nat → Int32} {mX68_kind : Nat → Int32} {mX69_upper : Nat → Int64} {mX69_lower : Nat → Int64} {mX70_is : Nat → Int32} {mX72_millis : Nat → Int64} {mX72_zone : Nat → Int32} {mX73_months : Nat → Int64} {mX73_millis : Nat → Int64} {mX74_bytes : Nat → Option Nat} {a : Nat} {g : Nat → Int32} (hk : kd a = 9) : va_up (cDV ci d kd an ai al ar mX6_tape mX6_size mX6_values mX6_count mX6_writer mX7_bytes mX7_size mX67_tape mX67_size mX67_at mX67_wrong mX67_place mX68_kind mX69_upper mX69_lower mX70_is mX72_millis mX72_zone mX73_months mX73_millis mX74_bytes) a (.inl (d 0, an a, .inl g)) = (cDV ci d kd an (va_up ai a g) al ar mX6_tape mX6_size mX6_values mX6_count mX6_writer mX7_bytes mX7_size mX67_tape mX67_size mX67_at mX67_wrong mX67_place mX68_kind mX69_upper mX69_lower mX70_is mX72_millis mX72_zone mX73_months mX73_millis mX74_bytes) := by
  funext b
  by_cases h : b = a
  · subst h
    rw [va_up_self]
    unfold cDV
    rw [hk]
    simp only [va_up_self]
  · rw [va_up_ne _ _ h]
    unfold cDV
    simp only [va_up_ne _ _ h]
theorem cDV_9_n {ci : Nat → Nat} {d : Nat → ClassId} {kd : Nat → Nat} {an : Nat → Nat} {ai : Nat → Nat → Int32} {al : Nat → Nat → Int64} {ar : Nat → Nat → Option Nat} {mX6_tape : Nat → Option Nat} {mX6_size : Nat → Int32} {mX6_values : Nat → Option Nat} {mX6_count : Nat → Int32} {mX6_writer : Nat → Option Nat} {mX7_bytes : Nat → Option Nat} {mX7_size : Nat → Int32} {mX67_tape : Nat → Option Nat} {mX67_size : Nat → Int32} {mX67_at : Nat → Int32} {mX67_wrong : Nat → Option Nat} {mX67_place : Nat → Int32} {mX68_kind : Nat → Int32} {mX69_upper : Nat → Int64} {mX69_lower : Nat → Int64} {mX70_is : Nat → Int32} {mX72_millis : Nat → Int64} {mX72_zone : Nat → Int32} {mX73_months : Nat → Int64} {mX73_millis : Nat → Int64} {mX74_bytes : Nat → Option Nat} (n q : Nat) : va_up (cDV ci d kd an ai al ar mX6_tape mX6_size mX6_values mX6_count mX6_writer mX7_bytes mX7_size mX67_tape mX67_size mX67_at mX67_wrong mX67_place mX68_kind mX69_upper mX69_lower mX70_is mX72_millis mX72_zone mX73_months mX73_millis mX74_bytes) q (.inl (d 0, n, .inl (fun _ => 0))) = (cDV ci d (va_up kd q 9) (va_up an q n) (va_up ai q (fun _ => 0)) al ar mX6_tape mX6_size mX6_values mX6_count mX6_writer mX7_bytes mX7_size mX67_tape mX67_size mX67_at mX67_wrong mX67_place mX68_kind mX69_upper mX69_lower mX70_is mX72_millis mX72_zone mX73_months mX73_millis mX74_bytes) := by
  funext b
  by_cases h : b = q
  · subst h
    rw [va_up_self]
    unfold cDV
    simp only [va_up_self]
  · rw [va_up_ne _ _ h]
    unfold cDV
    simp only [va_up_ne _ _ h]
theorem cDV_10 {ci : Nat → Nat} {d : Nat → ClassId} {kd : Nat → Nat} {an : Nat → Nat} {ai : Nat → Nat → Int32} {al : Nat → Nat → Int64} {ar : Nat → Nat → Option Nat} {mX6_tape : Nat → Option Nat} {mX6_size : Nat → Int32} {mX6_values : Nat → Option Nat} {mX6_count : Nat → Int32} {mX6_writer : Nat → Option Nat} {mX7_bytes : Nat → Option Nat} {mX7_size : Nat → Int32} {mX67_tape : Nat → Option Nat} {mX67_size : Nat → Int32} {mX67_at : Nat → Int32} {mX67_wrong : Nat → Option Nat} {mX67_place : Nat → Int32} {mX68_kind : Nat → Int32} {mX69_upper : Nat → Int64} {mX69_lower : Nat → Int64} {mX70_is : Nat → Int32} {mX72_millis : Nat → Int64} {mX72_zone : Nat → Int32} {mX73_months : Nat → Int64} {mX73_millis : Nat → Int64} {mX74_bytes : Nat → Option Nat} {a : Nat} (hk : kd a = 10) : (cDV ci d kd an ai al ar mX6_tape mX6_size mX6_values mX6_count mX6_writer mX7_bytes mX7_size mX67_tape mX67_size mX67_at mX67_wrong mX67_place mX68_kind mX69_upper mX69_lower mX70_is mX72_millis mX72_zone mX73_months mX73_millis mX74_bytes) a = .inl (d 1, an a, .inl (ai a)) := by unfold cDV; simp only [hk]
theorem cDV_10_s {ci : Nat → Nat} {d : Nat → ClassId} {kd : Nat → Nat} {an : Nat → Nat} {ai : Nat → Nat → Int32} {al : Nat → Nat → Int64} {ar : Nat → Nat → Option Nat} {mX6_tape : Nat → Option Nat} {mX6_size : Nat → Int32} {mX6_values : Nat → Option Nat} {mX6_count : Nat → Int32} {mX6_writer : Nat → Option Nat} {mX7_bytes : Nat → Option Nat} {mX7_size : Nat → Int32} {mX67_tape : Nat → Option Nat} {mX67_size : Nat → Int32} {mX67_at : Nat → Int32} {mX67_wrong : Nat → Option Nat} {mX67_place : Nat → Int32} {mX68_kind : Nat → Int32} {mX69_upper : Nat → Int64} {mX69_lower : Nat → Int64} {mX70_is : Nat → Int32} {mX72_millis : Nat → Int64} {mX72_zone : Nat → Int32} {mX73_months : Nat → Int64} {mX73_millis : Nat → Int64} {mX74_bytes : Nat → Option Nat} {a : Nat} {g : Nat → Int32} (hk : kd a = 10) : va_up (cDV ci d kd an ai al ar mX6_tape mX6_size mX6_values mX6_count mX6_writer mX7_bytes mX7_size mX67_tape mX67_size mX67_at mX67_wrong mX67_place mX68_kind mX69_upper mX69_lower mX70_is mX72_millis mX72_zone mX73_months mX73_millis mX74_bytes) a (.inl (d 1, an a, .inl g)) = (cDV ci d kd an (va_up ai a g) al ar mX6_tape mX6_size mX6_values mX6_count mX6_writer mX7_bytes mX7_size mX67_tape mX67_size mX67_at mX67_wrong mX67_place mX68_kind mX69_upper mX69_lower mX70_is mX72_millis mX72_zone mX73_months mX73_millis mX74_bytes) := by
  funext b
  by_cases h : b = a
  · subst h
    rw [va_up_self]
    unfold cDV
    rw [hk]
    simp only [va_up_self]
  · rw [va_up_ne _ _ h]
    unfold cDV
    simp only [va_up_ne _ _ h]
theorem cDV_10_n {ci : Nat → Nat} {d : Nat → ClassId} {kd : Nat → Nat} {an : Nat → Nat} {ai : Nat → Nat → Int32} {al : Nat → Nat → Int64} {ar : Nat → Nat → Option Nat} {mX6_tape : Nat → Option Nat} {mX6_size : Nat → Int32} {mX6_values : Nat → Option Nat} {mX6_count : Nat → Int32} {mX6_writer : Nat → Option Nat} {mX7_bytes : Nat → Option Nat} {mX7_size : Nat → Int32} {mX67_tape : Nat → Option Nat} {mX67_size : Nat → Int32} {mX67_at : Nat → Int32} {mX67_wrong : Nat → Option Nat} {mX67_place : Nat → Int32} {mX68_kind : Nat → Int32} {mX69_upper : Nat → Int64} {mX69_lower : Nat → Int64} {mX70_is : Nat → Int32} {mX72_millis : Nat → Int64} {mX72_zone : Nat → Int32} {mX73_months : Nat → Int64} {mX73_millis : Nat → Int64} {mX74_bytes : Nat → Option Nat} (n q : Nat) : va_up (cDV ci d kd an ai al ar mX6_tape mX6_size mX6_values mX6_count mX6_writer mX7_bytes mX7_size mX67_tape mX67_size mX67_at mX67_wrong mX67_place mX68_kind mX69_upper mX69_lower mX70_is mX72_millis mX72_zone mX73_months mX73_millis mX74_bytes) q (.inl (d 1, n, .inl (fun _ => 0))) = (cDV ci d (va_up kd q 10) (va_up an q n) (va_up ai q (fun _ => 0)) al ar mX6_tape mX6_size mX6_values mX6_count mX6_writer mX7_bytes mX7_size mX67_tape mX67_size mX67_at mX67_wrong mX67_place mX68_kind mX69_upper mX69_lower mX70_is mX72_millis mX72_zone mX73_months mX73_millis mX74_bytes) := by
  funext b
  by_cases h : b = q
  · subst h
    rw [va_up_self]
    unfold cDV
    simp only [va_up_self]
  · rw [va_up_ne _ _ h]
    unfold cDV
    simp only [va_up_ne _ _ h]
theorem cDV_11 {ci : Nat → Nat} {d : Nat → ClassId} {kd : Nat → Nat} {an : Nat → Nat} {ai : Nat → Nat → Int32} {al : Nat → Nat → Int64} {ar : Nat → Nat → Option Nat} {mX6_tape : Nat → Option Nat} {mX6_size : Nat → Int32} {mX6_values : Nat → Option Nat} {mX6_count : Nat → Int32} {mX6_writer : Nat → Option Nat} {mX7_bytes : Nat → Option Nat} {mX7_size : Nat → Int32} {mX67_tape : Nat → Option Nat} {mX67_size : Nat → Int32} {mX67_at : Nat → Int32} {mX67_wrong : Nat → Option Nat} {mX67_place : Nat → Int32} {mX68_kind : Nat → Int32} {mX69_upper : Nat → Int64} {mX69_lower : Nat → Int64} {mX70_is : Nat → Int32} {mX72_millis : Nat → Int64} {mX72_zone : Nat → Int32} {mX73_months : Nat → Int64} {mX73_millis : Nat → Int64} {mX74_bytes : Nat → Option Nat} {a : Nat} (hk : kd a = 11) : (cDV ci d kd an ai al ar mX6_tape mX6_size mX6_values mX6_count mX6_writer mX7_bytes mX7_size mX67_tape mX67_size mX67_at mX67_wrong mX67_place mX68_kind mX69_upper mX69_lower mX70_is mX72_millis mX72_zone mX73_months mX73_millis mX74_bytes) a = .inl (d 2, an a, .inr (.inl (al a))) := by unfold cDV; simp only [hk]
theorem cDV_11_s {ci : Nat → Nat} {d : Nat → ClassId} {kd : Nat → Nat} {an : Nat → Nat} {ai : Nat → Nat → Int32} {al : Nat → Nat → Int64} {ar : Nat → Nat → Option Nat} {mX6_tape : Nat → Option Nat} {mX6_size : Nat → Int32} {mX6_values : Nat → Option Nat} {mX6_count : Nat → Int32} {mX6_writer : Nat → Option Nat} {mX7_bytes : Nat → Option Nat} {mX7_size : Nat → Int32} {mX67_tape : Nat → Option Nat} {mX67_size : Nat → Int32} {mX67_at : Nat → Int32} {mX67_wrong : Nat → Option Nat} {mX67_place : Nat → Int32} {mX68_kind : Nat → Int32} {mX69_upper : Nat → Int64} {mX69_lower : Nat → Int64} {mX70_is : Nat → Int32} {mX72_millis : Nat → Int64} {mX72_zone : Nat → Int32} {mX73_months : Nat → Int64} {mX73_millis : Nat → Int64} {mX74_bytes : Nat → Option Nat} {a : Nat} {g : Nat → Int64} (hk : kd a = 11) : va_up (cDV ci d kd an ai al ar mX6_tape mX6_size mX6_values mX6_count mX6_writer mX7_bytes mX7_size mX67_tape mX67_size mX67_at mX67_wrong mX67_place mX68_kind mX69_upper mX69_lower mX70_is mX72_millis mX72_zone mX73_months mX73_millis mX74_bytes) a (.inl (d 2, an a, .inr (.inl g))) = (cDV ci d kd an ai (va_up al a g) ar mX6_tape mX6_size mX6_values mX6_count mX6_writer mX7_bytes mX7_size mX67_tape mX67_size mX67_at mX67_wrong mX67_place mX68_kind mX69_upper mX69_lower mX70_is mX72_millis mX72_zone mX73_months mX73_millis mX74_bytes) := by
  funext b
  by_cases h : b = a
  · subst h
    rw [va_up_self]
    unfold cDV
    rw [hk]
    simp only [va_up_self]
  · rw [va_up_ne _ _ h]
    unfold cDV
    simp only [va_up_ne _ _ h]
theorem cDV_11_n {ci : Nat → Nat} {d : Nat → ClassId} {kd : Nat → Nat} {an : Nat → Nat} {ai : Nat → Nat → Int32} {al : Nat → Nat → Int64} {ar : Nat → Nat → Option Nat} {mX6_tape : Nat → Option Nat} {mX6_size : Nat → Int32} {mX6_values : Nat → Option Nat} {mX6_count : Nat → Int32} {mX6_writer : Nat → Option Nat} {mX7_bytes : Nat → Option Nat} {mX7_size : Nat → Int32} {mX67_tape : Nat → Option Nat} {mX67_size : Nat → Int32} {mX67_at : Nat → Int32} {mX67_wrong : Nat → Option Nat} {mX67_place : Nat → Int32} {mX68_kind : Nat → Int32} {mX69_upper : Nat → Int64} {mX69_lower : Nat → Int64} {mX70_is : Nat → Int32} {mX72_millis : Nat → Int64} {mX72_zone : Nat → Int32} {mX73_months : Nat → Int64} {mX73_millis : Nat → Int64} {mX74_bytes : Nat → Option Nat} (n q : Nat) : va_up (cDV ci d kd an ai al ar mX6_tape mX6_size mX6_values mX6_count mX6_writer mX7_bytes mX7_size mX67_tape mX67_size mX67_at mX67_wrong mX67_place mX68_kind mX69_upper mX69_lower mX70_is mX72_millis mX72_zone mX73_months mX73_millis mX74_bytes) q (.inl (d 2, n, .inr (.inl (fun _ => 0)))) = (cDV ci d (va_up kd q 11) (va_up an q n) ai (va_up al q (fun _ => 0)) ar mX6_tape mX6_size mX6_values mX6_count mX6_writer mX7_bytes mX7_size mX67_tape mX67_size mX67_at mX67_wrong mX67_place mX68_kind mX69_upper mX69_lower mX70_is mX72_millis mX72_zone mX73_months mX73_millis mX74_bytes) := by
  funext b
  by_cases h : b = q
  · subst h
    rw [va_up_self]
    unfold cDV
    simp only [va_up_self]
  · rw [va_up_ne _ _ h]
    unfold cDV
    simp only [va_up_ne _ _ h]
theorem cDV_12 {ci : Nat → Nat} {d : Nat → ClassId} {kd : Nat → Nat} {an : Nat → Nat} {ai : Nat → Nat → Int32} {al : Nat → Nat → Int64} {ar : Nat → Nat → Option Nat} {mX6_tape : Nat → Option Nat} {mX6_size : Nat → Int32} {mX6_values : Nat → Option Nat} {mX6_count : Nat → Int32} {mX6_writer : Nat → Option Nat} {mX7_bytes : Nat → Option Nat} {mX7_size : Nat → Int32} {mX67_tape : Nat → Option Nat} {mX67_size : Nat → Int32} {mX67_at : Nat → Int32} {mX67_wrong : Nat → Option Nat} {mX67_place : Nat → Int32} {mX68_kind : Nat → Int32} {mX69_upper : Nat → Int64} {mX69_lower : Nat → Int64} {mX70_is : Nat → Int32} {mX72_millis : Nat → Int64} {mX72_zone : Nat → Int32} {mX73_months : Nat → Int64} {mX73_millis : Nat → Int64} {mX74_bytes : Nat → Option Nat} {a : Nat} (hk : kd a = 12) : (cDV ci d kd an ai al ar mX6_tape mX6_size mX6_values mX6_count mX6_writer mX7_bytes mX7_size mX67_tape mX67_size mX67_at mX67_wrong mX67_place mX68_kind mX69_upper mX69_lower mX70_is mX72_millis mX72_zone mX73_months mX73_millis mX74_bytes) a = .inl (d 3, an a, .inr (.inr (.inr (.inr (ar a))))) := by unfold cDV; simp only [hk]
theorem cDV_12_s {ci : Nat → Nat} {d : Nat → ClassId} {kd : Nat → Nat} {an : Nat → Nat} {ai : Nat → Nat → Int32} {al : Nat → Nat → Int64} {ar : Nat → Nat → Option Nat} {mX6_tape : Nat → Option Nat} {mX6_size : Nat → Int32} {mX6_values : Nat → Option Nat} {mX6_count : Nat → Int32} {mX6_writer : Nat → Option Nat} {mX7_bytes : Nat → Option Nat} {mX7_size : Nat → Int32} {mX67_tape : Nat → Option Nat} {mX67_size : Nat → Int32} {mX67_at : Nat → Int32} {mX67_wrong : Nat → Option Nat} {mX67_place : Nat → Int32} {mX68_kind : Nat → Int32} {mX69_upper : Nat → Int64} {mX69_lower : Nat → Int64} {mX70_is : Nat → Int32} {mX72_millis : Nat → Int64} {mX72_zone : Nat → Int32} {mX73_months : Nat → Int64} {mX73_millis : Nat → Int64} {mX74_bytes : Nat → Option Nat} {a : Nat} {g : Nat → Option Nat} (hk : kd a = 12) : va_up (cDV ci d kd an ai al ar mX6_tape mX6_size mX6_values mX6_count mX6_writer mX7_bytes mX7_size mX67_tape mX67_size mX67_at mX67_wrong mX67_place mX68_kind mX69_upper mX69_lower mX70_is mX72_millis mX72_zone mX73_months mX73_millis mX74_bytes) a (.inl (d 3, an a, .inr (.inr (.inr (.inr g))))) = (cDV ci d kd an ai al (va_up ar a g) mX6_tape mX6_size mX6_values mX6_count mX6_writer mX7_bytes mX7_size mX67_tape mX67_size mX67_at mX67_wrong mX67_place mX68_kind mX69_upper mX69_lower mX70_is mX72_millis mX72_zone mX73_months mX73_millis mX74_bytes) := by
  funext b
  by_cases h : b = a
  · subst h
    rw [va_up_self]
    unfold cDV
    rw [hk]
    simp only [va_up_self]
  · rw [va_up_ne _ _ h]
    unfold cDV
    simp only [va_up_ne _ _ h]
theorem cDV_12_n {ci : Nat → Nat} {d : Nat → ClassId} {kd : Nat → Nat} {an : Nat → Nat} {ai : Nat → Nat → Int32} {al : Nat → Nat → Int64} {ar : Nat → Nat → Option Nat} {mX6_tape : Nat → Option Nat} {mX6_size : Nat → Int32} {mX6_values : Nat → Option Nat} {mX6_count : Nat → Int32} {mX6_writer : Nat → Option Nat} {mX7_bytes : Nat → Option Nat} {mX7_size : Nat → Int32} {mX67_tape : Nat → Option Nat} {mX67_size : Nat → Int32} {mX67_at : Nat → Int32} {mX67_wrong : Nat → Option Nat} {mX67_place : Nat → Int32} {mX68_kind : Nat → Int32} {mX69_upper : Nat → Int64} {mX69_lower : Nat → Int64} {mX70_is : Nat → Int32} {mX72_millis : Nat → Int64} {mX72_zone : Nat → Int32} {mX73_months : Nat → Int64} {mX73_millis : Nat → Int64} {mX74_bytes : Nat → Option Nat} (n q : Nat) : va_up (cDV ci d kd an ai al ar mX6_tape mX6_size mX6_values mX6_count mX6_writer mX7_bytes mX7_size mX67_tape mX67_size mX67_at mX67_wrong mX67_place mX68_kind mX69_upper mX69_lower mX70_is mX72_millis mX72_zone mX73_months mX73_millis mX74_bytes) q (.inl (d 3, n, .inr (.inr (.inr (.inr (fun _ => none)))))) = (cDV ci d (va_up kd q 12) (va_up an q n) ai al (va_up ar q (fun _ => none)) mX6_tape mX6_size mX6_values mX6_count mX6_writer mX7_bytes mX7_size mX67_tape mX67_size mX67_at mX67_wrong mX67_place mX68_kind mX69_upper mX69_lower mX70_is mX72_millis mX72_zone mX73_months mX73_millis mX74_bytes) := by
  funext b
  by_cases h : b = q
  · subst h
    rw [va_up_self]
    unfold cDV
    simp only [va_up_self]
  · rw [va_up_ne _ _ h]
    unfold cDV
    simp only [va_up_ne _ _ h]
