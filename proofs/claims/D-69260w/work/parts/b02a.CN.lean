/-! room CN (printed by tools/zgen2.py) -/
set_option maxRecDepth 100000
def RX1 : String := "KnowHouse$CanonNames"
def TX1 : u_T := fun k => match k with
  | 0 => ("KnowHouse$CanonNames", "graph", "LKnowHouse$CanonNames$Graph;", false)
  | 1 => ("KnowHouse$CanonNames", "kept", "[LKnowHouse$CanonNames$Graph;", true)
  | 2 => ("KnowHouse$CanonNames", "keptCount", "I", false)
  | 3 => ("KnowHouse$CanonNames", "digest", "LKnowHouse$CanonNames$Digest;", true)
  | 4 => ("KnowHouse$CanonNames", "hashed", "Z", false)
  | 5 => ("KnowHouse$CanonNames", "rounds", "I", false)
  | 6 => ("KnowHouse$CanonNames", "hashes", "[[I", false)
  | 7 => ("KnowHouse$CanonNames", "next", "[[I", false)
  | 8 => ("KnowHouse$CanonNames", "descriptions", "[LKnowHouse$CanonNames$Description;", true)
  | 9 => ("KnowHouse$CanonNames", "order", "[I", true)
  | 10 => ("KnowHouse$CanonNames", "begins", "[I", true)
  | 11 => ("KnowHouse$CanonNames", "groups", "I", false)
  | 12 => ("KnowHouse$CanonNames", "numbers", "[I", true)
  | 13 => ("KnowHouse$CanonNames", "best", "[I", true)
  | 14 => ("KnowHouse$CanonNames", "row", "[J", true)
  | 15 => ("KnowHouse$CanonNames", "leastRow", "[J", true)
  | 16 => ("KnowHouse$CanonNames", "found", "Z", false)
  | 17 => ("KnowHouse$CanonNames", "many", "I", false)
  | 18 => ("KnowHouse$CanonNames", "namedBlanks", "I", false)
  | 19 => ("KnowHouse$CanonNames", "formCount", "I", false)
  | 20 => ("KnowHouse$CanonNames", "given", "[I", true)
  | 21 => ("KnowHouse$CanonNames", "form", "[J", true)
  | 22 => ("KnowHouse$CanonNames", "octets", "[B", true)
  | 23 => ("KnowHouse$CanonNames", "ways", "I", false)
  | 24 => ("KnowHouse$CanonNames", "wanted", "I", false)
  | _ => ("KnowHouse$CanonNames", "taken", "I", false)
def tyX1 : Nat → FieldType := fun k => match k with
  | 0 => .object "KnowHouse$CanonNames$Graph"
  | 1 => .array (.object "KnowHouse$CanonNames$Graph")
  | 2 => .int
  | 3 => .object "KnowHouse$CanonNames$Digest"
  | 4 => .boolean
  | 5 => .int
  | 6 => .array (.array .int)
  | 7 => .array (.array .int)
  | 8 => .array (.object "KnowHouse$CanonNames$Description")
  | 9 => .array .int
  | 10 => .array .int
  | 11 => .int
  | 12 => .array .int
  | 13 => .array .int
  | 14 => .array .long
  | 15 => .array .long
  | 16 => .boolean
  | 17 => .int
  | 18 => .int
  | 19 => .int
  | 20 => .array .int
  | 21 => .array .long
  | 22 => .array .byte
  | 23 => .int
  | 24 => .int
  | _ => .int
abbrev wsX10 : List Cond := u_ws RX1 TX1 26
theorem nmX1 : ∀ a, a < 26 → ∀ b, b < 26 → a ≠ b → (TX1 a).2.1 ≠ (TX1 b).2.1 := by decide +kernel
theorem tyX1_ok : ∀ k, k < 26 → parseFieldDescriptor (TX1 k).2.2.1 = some (tyX1 k) := by decide +kernel
abbrev cX1_init : ByteArray := prog_3_method_5_code
def yX1_init : MethodName := ⟨RX1, "<init>", "()V"⟩
abbrev cX1_makeDescriptions : ByteArray := prog_3_method_10_code
def yX1_makeDescriptions : MethodName := ⟨RX1, "makeDescriptions", "()[LKnowHouse$CanonNames$Description;"⟩
theorem dX1_makeDescriptions_0 : decode cX1_makeDescriptions 0 = .ok (.bipush 40, 2) := by decide +kernel
theorem dX1_makeDescriptions_2 : decode cX1_makeDescriptions 2 = .ok (.anewarray 125, 3) := by decide +kernel
theorem dX1_makeDescriptions_5 : decode cX1_makeDescriptions 5 = .ok (.astore_n 0, 1) := by decide +kernel
theorem dX1_makeDescriptions_6 : decode cX1_makeDescriptions 6 = .ok (.iconst 0, 1) := by decide +kernel
theorem dX1_makeDescriptions_7 : decode cX1_makeDescriptions 7 = .ok (.istore_n 1, 1) := by decide +kernel
theorem dX1_makeDescriptions_8 : decode cX1_makeDescriptions 8 = .ok (.iload_n 1, 1) := by decide +kernel
theorem dX1_makeDescriptions_9 : decode cX1_makeDescriptions 9 = .ok (.bipush 40, 2) := by decide +kernel
theorem dX1_makeDescriptions_11 : decode cX1_makeDescriptions 11 = .ok (.if_icmp .ge 19, 3) := by decide +kernel
theorem dX1_makeDescriptions_14 : decode cX1_makeDescriptions 14 = .ok (.aload_n 0, 1) := by decide +kernel
theorem dX1_makeDescriptions_15 : decode cX1_makeDescriptions 15 = .ok (.iload_n 1, 1) := by decide +kernel
theorem dX1_makeDescriptions_16 : decode cX1_makeDescriptions 16 = .ok (.new 125, 3) := by decide +kernel
theorem dX1_makeDescriptions_19 : decode cX1_makeDescriptions 19 = .ok (.dup, 1) := by decide +kernel
theorem dX1_makeDescriptions_20 : decode cX1_makeDescriptions 20 = .ok (.invokespecial 127, 3) := by decide +kernel
theorem dX1_makeDescriptions_23 : decode cX1_makeDescriptions 23 = .ok (.aastore, 1) := by decide +kernel
theorem dX1_makeDescriptions_24 : decode cX1_makeDescriptions 24 = .ok (.iinc 1 1, 3) := by decide +kernel
theorem dX1_makeDescriptions_27 : decode cX1_makeDescriptions 27 = .ok (.goto (-19), 3) := by decide +kernel
theorem dX1_makeDescriptions_30 : decode cX1_makeDescriptions 30 = .ok (.aload_n 0, 1) := by decide +kernel
theorem dX1_makeDescriptions_31 : decode cX1_makeDescriptions 31 = .ok (.areturn, 1) := by decide +kernel
abbrev cX1_keep : ByteArray := prog_3_method_27_code
def yX1_keep : MethodName := ⟨RX1, "keep", "()I"⟩
theorem dX1_keep_0 : decode cX1_keep 0 = .ok (.aload_n 0, 1) := by decide +kernel
theorem dX1_keep_1 : decode cX1_keep 1 = .ok (.getfield 222, 3) := by decide +kernel
theorem dX1_keep_4 : decode cX1_keep 4 = .ok (.bipush 8, 2) := by decide +kernel
theorem dX1_keep_6 : decode cX1_keep 6 = .ok (.if_icmp .ne 6, 3) := by decide +kernel
theorem dX1_keep_9 : decode cX1_keep 9 = .ok (.bipush (-2), 2) := by decide +kernel
theorem dX1_keep_11 : decode cX1_keep 11 = .ok (.ireturn, 1) := by decide +kernel
theorem dX1_keep_12 : decode cX1_keep 12 = .ok (.aload_n 0, 1) := by decide +kernel
theorem dX1_keep_13 : decode cX1_keep 13 = .ok (.getfield 26, 3) := by decide +kernel
theorem dX1_keep_16 : decode cX1_keep 16 = .ok (.aload_n 0, 1) := by decide +kernel
theorem dX1_keep_17 : decode cX1_keep 17 = .ok (.getfield 222, 3) := by decide +kernel
theorem dX1_keep_20 : decode cX1_keep 20 = .ok (.aload_n 0, 1) := by decide +kernel
theorem dX1_keep_21 : decode cX1_keep 21 = .ok (.getfield 22, 3) := by decide +kernel
theorem dX1_keep_24 : decode cX1_keep 24 = .ok (.aastore, 1) := by decide +kernel
theorem dX1_keep_25 : decode cX1_keep 25 = .ok (.aload_n 0, 1) := by decide +kernel
theorem dX1_keep_26 : decode cX1_keep 26 = .ok (.dup, 1) := by decide +kernel
theorem dX1_keep_27 : decode cX1_keep 27 = .ok (.getfield 222, 3) := by decide +kernel
theorem dX1_keep_30 : decode cX1_keep 30 = .ok (.iconst 1, 1) := by decide +kernel
theorem dX1_keep_31 : decode cX1_keep 31 = .ok (.iadd, 1) := by decide +kernel
theorem dX1_keep_32 : decode cX1_keep 32 = .ok (.putfield 222, 3) := by decide +kernel
theorem dX1_keep_35 : decode cX1_keep 35 = .ok (.aload_n 0, 1) := by decide +kernel
theorem dX1_keep_36 : decode cX1_keep 36 = .ok (.new 19, 3) := by decide +kernel
theorem dX1_keep_39 : decode cX1_keep 39 = .ok (.dup, 1) := by decide +kernel
theorem dX1_keep_40 : decode cX1_keep 40 = .ok (.invokespecial 21, 3) := by decide +kernel
theorem dX1_keep_43 : decode cX1_keep 43 = .ok (.putfield 22, 3) := by decide +kernel
theorem dX1_keep_46 : decode cX1_keep 46 = .ok (.aload_n 0, 1) := by decide +kernel
theorem dX1_keep_47 : decode cX1_keep 47 = .ok (.iconst 0, 1) := by decide +kernel
theorem dX1_keep_48 : decode cX1_keep 48 = .ok (.putfield 96, 3) := by decide +kernel
theorem dX1_keep_51 : decode cX1_keep 51 = .ok (.aload_n 0, 1) := by decide +kernel
theorem dX1_keep_52 : decode cX1_keep 52 = .ok (.getfield 222, 3) := by decide +kernel
theorem dX1_keep_55 : decode cX1_keep 55 = .ok (.iconst 1, 1) := by decide +kernel
theorem dX1_keep_56 : decode cX1_keep 56 = .ok (.isub, 1) := by decide +kernel
theorem dX1_keep_57 : decode cX1_keep 57 = .ok (.ireturn, 1) := by decide +kernel
abbrev cX1_blank : ByteArray := prog_3_method_6_code
def yX1_blank : MethodName := ⟨RX1, "blank", "()I"⟩
theorem dX1_blank_0 : decode cX1_blank 0 = .ok (.aload_n 0, 1) := by decide +kernel
theorem dX1_blank_1 : decode cX1_blank 1 = .ok (.getfield 22, 3) := by decide +kernel
theorem dX1_blank_4 : decode cX1_blank 4 = .ok (.getfield 92, 3) := by decide +kernel
theorem dX1_blank_7 : decode cX1_blank 7 = .ok (.bipush 8, 2) := by decide +kernel
theorem dX1_blank_9 : decode cX1_blank 9 = .ok (.if_icmp .ne 6, 3) := by decide +kernel
theorem dX1_blank_12 : decode cX1_blank 12 = .ok (.bipush (-2), 2) := by decide +kernel
theorem dX1_blank_14 : decode cX1_blank 14 = .ok (.ireturn, 1) := by decide +kernel
theorem dX1_blank_15 : decode cX1_blank 15 = .ok (.aload_n 0, 1) := by decide +kernel
theorem dX1_blank_16 : decode cX1_blank 16 = .ok (.getfield 22, 3) := by decide +kernel
theorem dX1_blank_19 : decode cX1_blank 19 = .ok (.dup, 1) := by decide +kernel
theorem dX1_blank_20 : decode cX1_blank 20 = .ok (.getfield 92, 3) := by decide +kernel
theorem dX1_blank_23 : decode cX1_blank 23 = .ok (.iconst 1, 1) := by decide +kernel
theorem dX1_blank_24 : decode cX1_blank 24 = .ok (.iadd, 1) := by decide +kernel
theorem dX1_blank_25 : decode cX1_blank 25 = .ok (.putfield 92, 3) := by decide +kernel
theorem dX1_blank_28 : decode cX1_blank 28 = .ok (.aload_n 0, 1) := by decide +kernel
theorem dX1_blank_29 : decode cX1_blank 29 = .ok (.iconst 0, 1) := by decide +kernel
theorem dX1_blank_30 : decode cX1_blank 30 = .ok (.putfield 96, 3) := by decide +kernel
theorem dX1_blank_33 : decode cX1_blank 33 = .ok (.aload_n 0, 1) := by decide +kernel
theorem dX1_blank_34 : decode cX1_blank 34 = .ok (.getfield 22, 3) := by decide +kernel
theorem dX1_blank_37 : decode cX1_blank 37 = .ok (.getfield 92, 3) := by decide +kernel
theorem dX1_blank_40 : decode cX1_blank 40 = .ok (.ireturn, 1) := by decide +kernel
abbrev cX1_triple : ByteArray := prog_3_method_8_code
def yX1_triple : MethodName := ⟨RX1, "triple", "(III)I"⟩
theorem dX1_triple_0 : decode cX1_triple 0 = .ok (.aload_n 0, 1) := by decide +kernel
theorem dX1_triple_1 : decode cX1_triple 1 = .ok (.iload_n 1, 1) := by decide +kernel
theorem dX1_triple_2 : decode cX1_triple 2 = .ok (.iload_n 2, 1) := by decide +kernel
theorem dX1_triple_3 : decode cX1_triple 3 = .ok (.iload_n 3, 1) := by decide +kernel
theorem dX1_triple_4 : decode cX1_triple 4 = .ok (.invokevirtual 103, 3) := by decide +kernel
theorem dX1_triple_7 : decode cX1_triple 7 = .ok (.ifCond .ne 5, 3) := by decide +kernel
theorem dX1_triple_10 : decode cX1_triple 10 = .ok (.iconst (-1), 1) := by decide +kernel
theorem dX1_triple_11 : decode cX1_triple 11 = .ok (.ireturn, 1) := by decide +kernel
theorem dX1_triple_12 : decode cX1_triple 12 = .ok (.iload_n 1, 1) := by decide +kernel
theorem dX1_triple_13 : decode cX1_triple 13 = .ok (.iload_n 2, 1) := by decide +kernel
theorem dX1_triple_14 : decode cX1_triple 14 = .ok (.iload_n 3, 1) := by decide +kernel
theorem dX1_triple_15 : decode cX1_triple 15 = .ok (.invokestatic 107, 3) := by decide +kernel
theorem dX1_triple_18 : decode cX1_triple 18 = .ok (.lstore 4, 2) := by decide +kernel
theorem dX1_triple_20 : decode cX1_triple 20 = .ok (.aload_n 0, 1) := by decide +kernel
theorem dX1_triple_21 : decode cX1_triple 21 = .ok (.getfield 22, 3) := by decide +kernel
theorem dX1_triple_24 : decode cX1_triple 24 = .ok (.lload 4, 2) := by decide +kernel
theorem dX1_triple_26 : decode cX1_triple 26 = .ok (.invokevirtual 111, 3) := by decide +kernel
theorem dX1_triple_29 : decode cX1_triple 29 = .ok (.ifCond .eq 5, 3) := by decide +kernel
theorem dX1_triple_32 : decode cX1_triple 32 = .ok (.iconst 0, 1) := by decide +kernel
theorem dX1_triple_33 : decode cX1_triple 33 = .ok (.ireturn, 1) := by decide +kernel
theorem dX1_triple_34 : decode cX1_triple 34 = .ok (.aload_n 0, 1) := by decide +kernel
theorem dX1_triple_35 : decode cX1_triple 35 = .ok (.getfield 22, 3) := by decide +kernel
theorem dX1_triple_38 : decode cX1_triple 38 = .ok (.getfield 115, 3) := by decide +kernel
theorem dX1_triple_41 : decode cX1_triple 41 = .ok (.bipush 40, 2) := by decide +kernel
theorem dX1_triple_43 : decode cX1_triple 43 = .ok (.if_icmp .ne 6, 3) := by decide +kernel
theorem dX1_triple_46 : decode cX1_triple 46 = .ok (.bipush (-2), 2) := by decide +kernel
theorem dX1_triple_48 : decode cX1_triple 48 = .ok (.ireturn, 1) := by decide +kernel
theorem dX1_triple_49 : decode cX1_triple 49 = .ok (.aload_n 0, 1) := by decide +kernel
theorem dX1_triple_50 : decode cX1_triple 50 = .ok (.getfield 22, 3) := by decide +kernel
theorem dX1_triple_53 : decode cX1_triple 53 = .ok (.lload 4, 2) := by decide +kernel
theorem dX1_triple_55 : decode cX1_triple 55 = .ok (.invokevirtual 118, 3) := by decide +kernel
theorem dX1_triple_58 : decode cX1_triple 58 = .ok (.aload_n 0, 1) := by decide +kernel
theorem dX1_triple_59 : decode cX1_triple 59 = .ok (.iconst 0, 1) := by decide +kernel
theorem dX1_triple_60 : decode cX1_triple 60 = .ok (.putfield 96, 3) := by decide +kernel
theorem dX1_triple_63 : decode cX1_triple 63 = .ok (.iconst 1, 1) := by decide +kernel
theorem dX1_triple_64 : decode cX1_triple 64 = .ok (.ireturn, 1) := by decide +kernel
abbrev cX1_are : ByteArray := prog_3_method_7_code
def yX1_are : MethodName := ⟨RX1, "are", "(III)Z"⟩
theorem dX1_are_0 : decode cX1_are 0 = .ok (.aload_n 0, 1) := by decide +kernel
theorem dX1_are_1 : decode cX1_are 1 = .ok (.getfield 22, 3) := by decide +kernel
theorem dX1_are_4 : decode cX1_are 4 = .ok (.iload_n 1, 1) := by decide +kernel
theorem dX1_are_5 : decode cX1_are 5 = .ok (.invokevirtual 100, 3) := by decide +kernel
theorem dX1_are_8 : decode cX1_are 8 = .ok (.ifCond .eq 29, 3) := by decide +kernel
theorem dX1_are_11 : decode cX1_are 11 = .ok (.aload_n 0, 1) := by decide +kernel
theorem dX1_are_12 : decode cX1_are 12 = .ok (.getfield 22, 3) := by decide +kernel
theorem dX1_are_15 : decode cX1_are 15 = .ok (.iload_n 2, 1) := by decide +kernel
theorem dX1_are_16 : decode cX1_are 16 = .ok (.invokevirtual 100, 3) := by decide +kernel
theorem dX1_are_19 : decode cX1_are 19 = .ok (.ifCond .eq 18, 3) := by decide +kernel
theorem dX1_are_22 : decode cX1_are 22 = .ok (.aload_n 0, 1) := by decide +kernel
theorem dX1_are_23 : decode cX1_are 23 = .ok (.getfield 22, 3) := by decide +kernel
theorem dX1_are_26 : decode cX1_are 26 = .ok (.iload_n 3, 1) := by decide +kernel
theorem dX1_are_27 : decode cX1_are 27 = .ok (.invokevirtual 100, 3) := by decide +kernel
theorem dX1_are_30 : decode cX1_are 30 = .ok (.ifCond .eq 7, 3) := by decide +kernel
theorem dX1_are_33 : decode cX1_are 33 = .ok (.iconst 1, 1) := by decide +kernel
theorem dX1_are_34 : decode cX1_are 34 = .ok (.goto 4, 3) := by decide +kernel
theorem dX1_are_37 : decode cX1_are 37 = .ok (.iconst 0, 1) := by decide +kernel
theorem dX1_are_38 : decode cX1_are 38 = .ok (.ireturn, 1) := by decide +kernel
abbrev cX1_name : ByteArray := prog_3_method_21_code
def yX1_name : MethodName := ⟨RX1, "name", "(J)I"⟩
theorem dX1_name_0 : decode cX1_name 0 = .ok (.aload_n 0, 1) := by decide +kernel
theorem dX1_name_1 : decode cX1_name 1 = .ok (.invokevirtual 189, 3) := by decide +kernel
theorem dX1_name_4 : decode cX1_name 4 = .ok (.aload_n 0, 1) := by decide +kernel
theorem dX1_name_5 : decode cX1_name 5 = .ok (.invokevirtual 192, 3) := by decide +kernel
theorem dX1_name_8 : decode cX1_name 8 = .ok (.lload_n 1, 1) := by decide +kernel
theorem dX1_name_9 : decode cX1_name 9 = .ok (.lcmp, 1) := by decide +kernel
theorem dX1_name_10 : decode cX1_name 10 = .ok (.ifCond .le 5, 3) := by decide +kernel
theorem dX1_name_13 : decode cX1_name 13 = .ok (.iconst (-1), 1) := by decide +kernel
theorem dX1_name_14 : decode cX1_name 14 = .ok (.ireturn, 1) := by decide +kernel
theorem dX1_name_15 : decode cX1_name 15 = .ok (.aload_n 0, 1) := by decide +kernel
theorem dX1_name_16 : decode cX1_name 16 = .ok (.iconst 0, 1) := by decide +kernel
theorem dX1_name_17 : decode cX1_name 17 = .ok (.putfield 196, 3) := by decide +kernel
theorem dX1_name_20 : decode cX1_name 20 = .ok (.aload_n 0, 1) := by decide +kernel
theorem dX1_name_21 : decode cX1_name 21 = .ok (.iconst 0, 1) := by decide +kernel
theorem dX1_name_22 : decode cX1_name 22 = .ok (.putfield 199, 3) := by decide +kernel
theorem dX1_name_25 : decode cX1_name 25 = .ok (.iconst 0, 1) := by decide +kernel
theorem dX1_name_26 : decode cX1_name 26 = .ok (.istore_n 3, 1) := by decide +kernel
theorem dX1_name_27 : decode cX1_name 27 = .ok (.iload_n 3, 1) := by decide +kernel
theorem dX1_name_28 : decode cX1_name 28 = .ok (.bipush 8, 2) := by decide +kernel
theorem dX1_name_30 : decode cX1_name 30 = .ok (.if_icmp .gt 16, 3) := by decide +kernel
theorem dX1_name_33 : decode cX1_name 33 = .ok (.aload_n 0, 1) := by decide +kernel
theorem dX1_name_34 : decode cX1_name 34 = .ok (.getfield 60, 3) := by decide +kernel
theorem dX1_name_37 : decode cX1_name 37 = .ok (.iload_n 3, 1) := by decide +kernel
theorem dX1_name_38 : decode cX1_name 38 = .ok (.iconst 0, 1) := by decide +kernel
theorem dX1_name_39 : decode cX1_name 39 = .ok (.iastore, 1) := by decide +kernel
theorem dX1_name_40 : decode cX1_name 40 = .ok (.iinc 3 1, 3) := by decide +kernel
theorem dX1_name_43 : decode cX1_name 43 = .ok (.goto (-16), 3) := by decide +kernel
theorem dX1_name_46 : decode cX1_name 46 = .ok (.aload_n 0, 1) := by decide +kernel
theorem dX1_name_47 : decode cX1_name 47 = .ok (.iconst 0, 1) := by decide +kernel
theorem dX1_name_48 : decode cX1_name 48 = .ok (.iconst 0, 1) := by decide +kernel
theorem dX1_name_49 : decode cX1_name 49 = .ok (.invokestatic 202, 3) := by decide +kernel
theorem dX1_name_52 : decode cX1_name 52 = .ok (.aload_n 0, 1) := by decide +kernel
theorem dX1_name_53 : decode cX1_name 53 = .ok (.aload_n 0, 1) := by decide +kernel
theorem dX1_name_54 : decode cX1_name 54 = .ok (.getfield 22, 3) := by decide +kernel
theorem dX1_name_57 : decode cX1_name 57 = .ok (.getfield 92, 3) := by decide +kernel
theorem dX1_name_60 : decode cX1_name 60 = .ok (.putfield 206, 3) := by decide +kernel
theorem dX1_name_63 : decode cX1_name 63 = .ok (.aload_n 0, 1) := by decide +kernel
theorem dX1_name_64 : decode cX1_name 64 = .ok (.aload_n 0, 1) := by decide +kernel
theorem dX1_name_65 : decode cX1_name 65 = .ok (.getfield 22, 3) := by decide +kernel
theorem dX1_name_68 : decode cX1_name 68 = .ok (.getfield 115, 3) := by decide +kernel
theorem dX1_name_71 : decode cX1_name 71 = .ok (.putfield 209, 3) := by decide +kernel
theorem dX1_name_74 : decode cX1_name 74 = .ok (.aload_n 0, 1) := by decide +kernel
theorem dX1_name_75 : decode cX1_name 75 = .ok (.getfield 63, 3) := by decide +kernel
theorem dX1_name_78 : decode cX1_name 78 = .ok (.iconst 0, 1) := by decide +kernel
theorem dX1_name_79 : decode cX1_name 79 = .ok (.aload_n 0, 1) := by decide +kernel
theorem dX1_name_80 : decode cX1_name 80 = .ok (.getfield 73, 3) := by decide +kernel
theorem dX1_name_83 : decode cX1_name 83 = .ok (.iconst 0, 1) := by decide +kernel
theorem dX1_name_84 : decode cX1_name 84 = .ok (.bipush 9, 2) := by decide +kernel
theorem dX1_name_86 : decode cX1_name 86 = .ok (.invokestatic 157, 3) := by decide +kernel
theorem dX1_name_89 : decode cX1_name 89 = .ok (.aload_n 0, 1) := by decide +kernel
theorem dX1_name_90 : decode cX1_name 90 = .ok (.getfield 70, 3) := by decide +kernel
theorem dX1_name_93 : decode cX1_name 93 = .ok (.iconst 0, 1) := by decide +kernel
theorem dX1_name_94 : decode cX1_name 94 = .ok (.aload_n 0, 1) := by decide +kernel
theorem dX1_name_95 : decode cX1_name 95 = .ok (.getfield 76, 3) := by decide +kernel
theorem dX1_name_98 : decode cX1_name 98 = .ok (.iconst 0, 1) := by decide +kernel
theorem dX1_name_99 : decode cX1_name 99 = .ok (.aload_n 0, 1) := by decide +kernel
theorem dX1_name_100 : decode cX1_name 100 = .ok (.getfield 209, 3) := by decide +kernel
theorem dX1_name_103 : decode cX1_name 103 = .ok (.invokestatic 157, 3) := by decide +kernel
theorem dX1_name_106 : decode cX1_name 106 = .ok (.aload_n 0, 1) := by decide +kernel
theorem dX1_name_107 : decode cX1_name 107 = .ok (.getfield 33, 3) := by decide +kernel
theorem dX1_name_110 : decode cX1_name 110 = .ok (.invokevirtual 83, 3) := by decide +kernel
theorem dX1_name_113 : decode cX1_name 113 = .ok (.iconst 0, 1) := by decide +kernel
theorem dX1_name_114 : decode cX1_name 114 = .ok (.istore_n 3, 1) := by decide +kernel
theorem dX1_name_115 : decode cX1_name 115 = .ok (.iload_n 3, 1) := by decide +kernel
theorem dX1_name_116 : decode cX1_name 116 = .ok (.aload_n 0, 1) := by decide +kernel
theorem dX1_name_117 : decode cX1_name 117 = .ok (.getfield 209, 3) := by decide +kernel
theorem dX1_name_120 : decode cX1_name 120 = .ok (.if_icmp .ge 42, 3) := by decide +kernel
theorem dX1_name_123 : decode cX1_name 123 = .ok (.iconst 0, 1) := by decide +kernel
theorem dX1_name_124 : decode cX1_name 124 = .ok (.istore 4, 2) := by decide +kernel
theorem dX1_name_126 : decode cX1_name 126 = .ok (.iload 4, 2) := by decide +kernel
theorem dX1_name_128 : decode cX1_name 128 = .ok (.iconst 3, 1) := by decide +kernel
theorem dX1_name_129 : decode cX1_name 129 = .ok (.if_icmp .ge 27, 3) := by decide +kernel
theorem dX1_name_132 : decode cX1_name 132 = .ok (.aload_n 0, 1) := by decide +kernel
theorem dX1_name_133 : decode cX1_name 133 = .ok (.getfield 33, 3) := by decide +kernel
theorem dX1_name_136 : decode cX1_name 136 = .ok (.aload_n 0, 1) := by decide +kernel
theorem dX1_name_137 : decode cX1_name 137 = .ok (.getfield 76, 3) := by decide +kernel
theorem dX1_name_140 : decode cX1_name 140 = .ok (.iload_n 3, 1) := by decide +kernel
theorem dX1_name_141 : decode cX1_name 141 = .ok (.laload, 1) := by decide +kernel
theorem dX1_name_142 : decode cX1_name 142 = .ok (.iload 4, 2) := by decide +kernel
theorem dX1_name_144 : decode cX1_name 144 = .ok (.invokestatic 131, 3) := by decide +kernel
theorem dX1_name_147 : decode cX1_name 147 = .ok (.invokevirtual 152, 3) := by decide +kernel
theorem dX1_name_150 : decode cX1_name 150 = .ok (.iinc 4 1, 3) := by decide +kernel
theorem dX1_name_153 : decode cX1_name 153 = .ok (.goto (-27), 3) := by decide +kernel
theorem dX1_name_156 : decode cX1_name 156 = .ok (.iinc 3 1, 3) := by decide +kernel
theorem dX1_name_159 : decode cX1_name 159 = .ok (.goto (-44), 3) := by decide +kernel
theorem dX1_name_162 : decode cX1_name 162 = .ok (.aload_n 0, 1) := by decide +kernel
theorem dX1_name_163 : decode cX1_name 163 = .ok (.getfield 33, 3) := by decide +kernel
theorem dX1_name_166 : decode cX1_name 166 = .ok (.invokevirtual 86, 3) := by decide +kernel
theorem dX1_name_169 : decode cX1_name 169 = .ok (.iconst 0, 1) := by decide +kernel
theorem dX1_name_170 : decode cX1_name 170 = .ok (.istore_n 3, 1) := by decide +kernel
theorem dX1_name_171 : decode cX1_name 171 = .ok (.iload_n 3, 1) := by decide +kernel
theorem dX1_name_172 : decode cX1_name 172 = .ok (.bipush 32, 2) := by decide +kernel
theorem dX1_name_174 : decode cX1_name 174 = .ok (.if_icmp .ge 37, 3) := by decide +kernel
theorem dX1_name_177 : decode cX1_name 177 = .ok (.aload_n 0, 1) := by decide +kernel
theorem dX1_name_178 : decode cX1_name 178 = .ok (.getfield 79, 3) := by decide +kernel
theorem dX1_name_181 : decode cX1_name 181 = .ok (.iload_n 3, 1) := by decide +kernel
theorem dX1_name_182 : decode cX1_name 182 = .ok (.aload_n 0, 1) := by decide +kernel
theorem dX1_name_183 : decode cX1_name 183 = .ok (.getfield 33, 3) := by decide +kernel
theorem dX1_name_186 : decode cX1_name 186 = .ok (.getfield 89, 3) := by decide +kernel
theorem dX1_name_189 : decode cX1_name 189 = .ok (.iload_n 3, 1) := by decide +kernel
theorem dX1_name_190 : decode cX1_name 190 = .ok (.iconst 2, 1) := by decide +kernel
theorem dX1_name_191 : decode cX1_name 191 = .ok (.ishr, 1) := by decide +kernel
theorem dX1_name_192 : decode cX1_name 192 = .ok (.iaload, 1) := by decide +kernel
theorem dX1_name_193 : decode cX1_name 193 = .ok (.bipush 24, 2) := by decide +kernel
theorem dX1_name_195 : decode cX1_name 195 = .ok (.bipush 8, 2) := by decide +kernel
theorem dX1_name_197 : decode cX1_name 197 = .ok (.iload_n 3, 1) := by decide +kernel
theorem dX1_name_198 : decode cX1_name 198 = .ok (.iconst 3, 1) := by decide +kernel
theorem dX1_name_199 : decode cX1_name 199 = .ok (.iand, 1) := by decide +kernel
theorem dX1_name_200 : decode cX1_name 200 = .ok (.imul, 1) := by decide +kernel
theorem dX1_name_201 : decode cX1_name 201 = .ok (.isub, 1) := by decide +kernel
theorem dX1_name_202 : decode cX1_name 202 = .ok (.ishr, 1) := by decide +kernel
theorem dX1_name_203 : decode cX1_name 203 = .ok (.i2b, 1) := by decide +kernel
theorem dX1_name_204 : decode cX1_name 204 = .ok (.bastore, 1) := by decide +kernel
theorem dX1_name_205 : decode cX1_name 205 = .ok (.iinc 3 1, 3) := by decide +kernel
theorem dX1_name_208 : decode cX1_name 208 = .ok (.goto (-37), 3) := by decide +kernel
theorem dX1_name_211 : decode cX1_name 211 = .ok (.aload_n 0, 1) := by decide +kernel
theorem dX1_name_212 : decode cX1_name 212 = .ok (.getfield 199, 3) := by decide +kernel
theorem dX1_name_215 : decode cX1_name 215 = .ok (.ireturn, 1) := by decide +kernel
abbrev cX1_makeHashes : ByteArray := prog_3_method_15_code
def yX1_makeHashes : MethodName := ⟨RX1, "makeHashes", "()V"⟩
theorem dX1_makeHashes_0 : decode cX1_makeHashes 0 = .ok (.aload_n 0, 1) := by decide +kernel
theorem dX1_makeHashes_1 : decode cX1_makeHashes 1 = .ok (.getfield 96, 3) := by decide +kernel
theorem dX1_makeHashes_4 : decode cX1_makeHashes 4 = .ok (.ifCond .eq 4, 3) := by decide +kernel
theorem dX1_makeHashes_7 : decode cX1_makeHashes 7 = .ok (.return_, 1) := by decide +kernel
theorem dX1_makeHashes_8 : decode cX1_makeHashes 8 = .ok (.aload_n 0, 1) := by decide +kernel
theorem dX1_makeHashes_9 : decode cX1_makeHashes 9 = .ok (.getfield 33, 3) := by decide +kernel
theorem dX1_makeHashes_12 : decode cX1_makeHashes 12 = .ok (.invokevirtual 83, 3) := by decide +kernel
theorem dX1_makeHashes_15 : decode cX1_makeHashes 15 = .ok (.aload_n 0, 1) := by decide +kernel
theorem dX1_makeHashes_16 : decode cX1_makeHashes 16 = .ok (.getfield 33, 3) := by decide +kernel
theorem dX1_makeHashes_19 : decode cX1_makeHashes 19 = .ok (.invokevirtual 86, 3) := by decide +kernel
theorem dX1_makeHashes_22 : decode cX1_makeHashes 22 = .ok (.iconst 1, 1) := by decide +kernel
theorem dX1_makeHashes_23 : decode cX1_makeHashes 23 = .ok (.istore_n 1, 1) := by decide +kernel
theorem dX1_makeHashes_24 : decode cX1_makeHashes 24 = .ok (.iload_n 1, 1) := by decide +kernel
theorem dX1_makeHashes_25 : decode cX1_makeHashes 25 = .ok (.aload_n 0, 1) := by decide +kernel
theorem dX1_makeHashes_26 : decode cX1_makeHashes 26 = .ok (.getfield 22, 3) := by decide +kernel
theorem dX1_makeHashes_29 : decode cX1_makeHashes 29 = .ok (.getfield 92, 3) := by decide +kernel
theorem dX1_makeHashes_32 : decode cX1_makeHashes 32 = .ok (.if_icmp .gt 29, 3) := by decide +kernel
theorem dX1_makeHashes_35 : decode cX1_makeHashes 35 = .ok (.aload_n 0, 1) := by decide +kernel
theorem dX1_makeHashes_36 : decode cX1_makeHashes 36 = .ok (.getfield 33, 3) := by decide +kernel
theorem dX1_makeHashes_39 : decode cX1_makeHashes 39 = .ok (.getfield 89, 3) := by decide +kernel
theorem dX1_makeHashes_42 : decode cX1_makeHashes 42 = .ok (.iconst 0, 1) := by decide +kernel
theorem dX1_makeHashes_43 : decode cX1_makeHashes 43 = .ok (.aload_n 0, 1) := by decide +kernel
theorem dX1_makeHashes_44 : decode cX1_makeHashes 44 = .ok (.getfield 39, 3) := by decide +kernel
theorem dX1_makeHashes_47 : decode cX1_makeHashes 47 = .ok (.iload_n 1, 1) := by decide +kernel
theorem dX1_makeHashes_48 : decode cX1_makeHashes 48 = .ok (.aaload, 1) := by decide +kernel
theorem dX1_makeHashes_49 : decode cX1_makeHashes 49 = .ok (.iconst 0, 1) := by decide +kernel
theorem dX1_makeHashes_50 : decode cX1_makeHashes 50 = .ok (.bipush 8, 2) := by decide +kernel
theorem dX1_makeHashes_52 : decode cX1_makeHashes 52 = .ok (.invokestatic 157, 3) := by decide +kernel
theorem dX1_makeHashes_55 : decode cX1_makeHashes 55 = .ok (.iinc 1 1, 3) := by decide +kernel
theorem dX1_makeHashes_58 : decode cX1_makeHashes 58 = .ok (.goto (-34), 3) := by decide +kernel
theorem dX1_makeHashes_61 : decode cX1_makeHashes 61 = .ok (.aload_n 0, 1) := by decide +kernel
theorem dX1_makeHashes_62 : decode cX1_makeHashes 62 = .ok (.iconst 0, 1) := by decide +kernel
theorem dX1_makeHashes_63 : decode cX1_makeHashes 63 = .ok (.putfield 173, 3) := by decide +kernel
theorem dX1_makeHashes_66 : decode cX1_makeHashes 66 = .ok (.iconst 1, 1) := by decide +kernel
theorem dX1_makeHashes_67 : decode cX1_makeHashes 67 = .ok (.istore_n 1, 1) := by decide +kernel
theorem dX1_makeHashes_68 : decode cX1_makeHashes 68 = .ok (.iload_n 1, 1) := by decide +kernel
theorem dX1_makeHashes_69 : decode cX1_makeHashes 69 = .ok (.ifCond .eq 101, 3) := by decide +kernel
theorem dX1_makeHashes_72 : decode cX1_makeHashes 72 = .ok (.iconst 1, 1) := by decide +kernel
theorem dX1_makeHashes_73 : decode cX1_makeHashes 73 = .ok (.istore_n 2, 1) := by decide +kernel
theorem dX1_makeHashes_74 : decode cX1_makeHashes 74 = .ok (.iload_n 2, 1) := by decide +kernel
theorem dX1_makeHashes_75 : decode cX1_makeHashes 75 = .ok (.aload_n 0, 1) := by decide +kernel
theorem dX1_makeHashes_76 : decode cX1_makeHashes 76 = .ok (.getfield 22, 3) := by decide +kernel
theorem dX1_makeHashes_79 : decode cX1_makeHashes 79 = .ok (.getfield 92, 3) := by decide +kernel
theorem dX1_makeHashes_82 : decode cX1_makeHashes 82 = .ok (.if_icmp .gt 14, 3) := by decide +kernel
theorem dX1_makeHashes_85 : decode cX1_makeHashes 85 = .ok (.aload_n 0, 1) := by decide +kernel
theorem dX1_makeHashes_86 : decode cX1_makeHashes 86 = .ok (.iload_n 2, 1) := by decide +kernel
theorem dX1_makeHashes_87 : decode cX1_makeHashes 87 = .ok (.invokevirtual 176, 3) := by decide +kernel
theorem dX1_makeHashes_90 : decode cX1_makeHashes 90 = .ok (.iinc 2 1, 3) := by decide +kernel
theorem dX1_makeHashes_93 : decode cX1_makeHashes 93 = .ok (.goto (-19), 3) := by decide +kernel
theorem dX1_makeHashes_96 : decode cX1_makeHashes 96 = .ok (.aload_n 0, 1) := by decide +kernel
theorem dX1_makeHashes_97 : decode cX1_makeHashes 97 = .ok (.dup, 1) := by decide +kernel
theorem dX1_makeHashes_98 : decode cX1_makeHashes 98 = .ok (.getfield 173, 3) := by decide +kernel
theorem dX1_makeHashes_101 : decode cX1_makeHashes 101 = .ok (.iconst 1, 1) := by decide +kernel
theorem dX1_makeHashes_102 : decode cX1_makeHashes 102 = .ok (.iadd, 1) := by decide +kernel
theorem dX1_makeHashes_103 : decode cX1_makeHashes 103 = .ok (.putfield 173, 3) := by decide +kernel
theorem dX1_makeHashes_106 : decode cX1_makeHashes 106 = .ok (.aload_n 0, 1) := by decide +kernel
theorem dX1_makeHashes_107 : decode cX1_makeHashes 107 = .ok (.aload_n 0, 1) := by decide +kernel
theorem dX1_makeHashes_108 : decode cX1_makeHashes 108 = .ok (.getfield 42, 3) := by decide +kernel
theorem dX1_makeHashes_111 : decode cX1_makeHashes 111 = .ok (.invokevirtual 179, 3) := by decide +kernel
theorem dX1_makeHashes_114 : decode cX1_makeHashes 114 = .ok (.aload_n 0, 1) := by decide +kernel
theorem dX1_makeHashes_115 : decode cX1_makeHashes 115 = .ok (.aload_n 0, 1) := by decide +kernel
theorem dX1_makeHashes_116 : decode cX1_makeHashes 116 = .ok (.getfield 39, 3) := by decide +kernel
theorem dX1_makeHashes_119 : decode cX1_makeHashes 119 = .ok (.invokevirtual 179, 3) := by decide +kernel
theorem dX1_makeHashes_122 : decode cX1_makeHashes 122 = .ok (.if_icmp .le 7, 3) := by decide +kernel
theorem dX1_makeHashes_125 : decode cX1_makeHashes 125 = .ok (.iconst 1, 1) := by decide +kernel
theorem dX1_makeHashes_126 : decode cX1_makeHashes 126 = .ok (.goto 4, 3) := by decide +kernel
theorem dX1_makeHashes_129 : decode cX1_makeHashes 129 = .ok (.iconst 0, 1) := by decide +kernel
theorem dX1_makeHashes_130 : decode cX1_makeHashes 130 = .ok (.istore_n 1, 1) := by decide +kernel
theorem dX1_makeHashes_131 : decode cX1_makeHashes 131 = .ok (.iload_n 1, 1) := by decide +kernel
theorem dX1_makeHashes_132 : decode cX1_makeHashes 132 = .ok (.ifCond .ne 17, 3) := by decide +kernel
theorem dX1_makeHashes_135 : decode cX1_makeHashes 135 = .ok (.aload_n 0, 1) := by decide +kernel
theorem dX1_makeHashes_136 : decode cX1_makeHashes 136 = .ok (.getfield 22, 3) := by decide +kernel
theorem dX1_makeHashes_139 : decode cX1_makeHashes 139 = .ok (.getfield 92, 3) := by decide +kernel
theorem dX1_makeHashes_142 : decode cX1_makeHashes 142 = .ok (.iconst 1, 1) := by decide +kernel
theorem dX1_makeHashes_143 : decode cX1_makeHashes 143 = .ok (.if_icmp .le 6, 3) := by decide +kernel
theorem dX1_makeHashes_146 : decode cX1_makeHashes 146 = .ok (.goto 24, 3) := by decide +kernel
theorem dX1_makeHashes_149 : decode cX1_makeHashes 149 = .ok (.aload_n 0, 1) := by decide +kernel
theorem dX1_makeHashes_150 : decode cX1_makeHashes 150 = .ok (.getfield 39, 3) := by decide +kernel
theorem dX1_makeHashes_153 : decode cX1_makeHashes 153 = .ok (.astore_n 2, 1) := by decide +kernel
theorem dX1_makeHashes_154 : decode cX1_makeHashes 154 = .ok (.aload_n 0, 1) := by decide +kernel
theorem dX1_makeHashes_155 : decode cX1_makeHashes 155 = .ok (.aload_n 0, 1) := by decide +kernel
theorem dX1_makeHashes_156 : decode cX1_makeHashes 156 = .ok (.getfield 42, 3) := by decide +kernel
theorem dX1_makeHashes_159 : decode cX1_makeHashes 159 = .ok (.putfield 39, 3) := by decide +kernel
theorem dX1_makeHashes_162 : decode cX1_makeHashes 162 = .ok (.aload_n 0, 1) := by decide +kernel
theorem dX1_makeHashes_163 : decode cX1_makeHashes 163 = .ok (.aload_n 2, 1) := by decide +kernel
theorem dX1_makeHashes_164 : decode cX1_makeHashes 164 = .ok (.putfield 42, 3) := by decide +kernel
theorem dX1_makeHashes_167 : decode cX1_makeHashes 167 = .ok (.goto (-99), 3) := by decide +kernel
theorem dX1_makeHashes_170 : decode cX1_makeHashes 170 = .ok (.aload_n 0, 1) := by decide +kernel
theorem dX1_makeHashes_171 : decode cX1_makeHashes 171 = .ok (.invokevirtual 183, 3) := by decide +kernel
theorem dX1_makeHashes_174 : decode cX1_makeHashes 174 = .ok (.aload_n 0, 1) := by decide +kernel
theorem dX1_makeHashes_175 : decode cX1_makeHashes 175 = .ok (.iconst 1, 1) := by decide +kernel
theorem dX1_makeHashes_176 : decode cX1_makeHashes 176 = .ok (.putfield 96, 3) := by decide +kernel
theorem dX1_makeHashes_179 : decode cX1_makeHashes 179 = .ok (.return_, 1) := by decide +kernel
abbrev cX1_hashOne : ByteArray := prog_3_method_12_code
def yX1_hashOne : MethodName := ⟨RX1, "hashOne", "(I)V"⟩
theorem dX1_hashOne_0 : decode cX1_hashOne 0 = .ok (.iconst 0, 1) := by decide +kernel
theorem dX1_hashOne_1 : decode cX1_hashOne 1 = .ok (.istore_n 2, 1) := by decide +kernel
theorem dX1_hashOne_2 : decode cX1_hashOne 2 = .ok (.iconst 0, 1) := by decide +kernel
theorem dX1_hashOne_3 : decode cX1_hashOne 3 = .ok (.istore_n 3, 1) := by decide +kernel
theorem dX1_hashOne_4 : decode cX1_hashOne 4 = .ok (.iload_n 3, 1) := by decide +kernel
theorem dX1_hashOne_5 : decode cX1_hashOne 5 = .ok (.aload_n 0, 1) := by decide +kernel
theorem dX1_hashOne_6 : decode cX1_hashOne 6 = .ok (.getfield 22, 3) := by decide +kernel
theorem dX1_hashOne_9 : decode cX1_hashOne 9 = .ok (.getfield 115, 3) := by decide +kernel
theorem dX1_hashOne_12 : decode cX1_hashOne 12 = .ok (.if_icmp .ge 144, 3) := by decide +kernel
theorem dX1_hashOne_15 : decode cX1_hashOne 15 = .ok (.aload_n 0, 1) := by decide +kernel
theorem dX1_hashOne_16 : decode cX1_hashOne 16 = .ok (.getfield 22, 3) := by decide +kernel
theorem dX1_hashOne_19 : decode cX1_hashOne 19 = .ok (.getfield 141, 3) := by decide +kernel
theorem dX1_hashOne_22 : decode cX1_hashOne 22 = .ok (.iload_n 3, 1) := by decide +kernel
theorem dX1_hashOne_23 : decode cX1_hashOne 23 = .ok (.laload, 1) := by decide +kernel
theorem dX1_hashOne_24 : decode cX1_hashOne 24 = .ok (.lstore 4, 2) := by decide +kernel
theorem dX1_hashOne_26 : decode cX1_hashOne 26 = .ok (.iconst 0, 1) := by decide +kernel
theorem dX1_hashOne_27 : decode cX1_hashOne 27 = .ok (.istore 6, 2) := by decide +kernel
theorem dX1_hashOne_29 : decode cX1_hashOne 29 = .ok (.iconst 0, 1) := by decide +kernel
theorem dX1_hashOne_30 : decode cX1_hashOne 30 = .ok (.istore 7, 2) := by decide +kernel
theorem dX1_hashOne_32 : decode cX1_hashOne 32 = .ok (.iload 7, 2) := by decide +kernel
theorem dX1_hashOne_34 : decode cX1_hashOne 34 = .ok (.iconst 3, 1) := by decide +kernel
theorem dX1_hashOne_35 : decode cX1_hashOne 35 = .ok (.if_icmp .ge 31, 3) := by decide +kernel
theorem dX1_hashOne_38 : decode cX1_hashOne 38 = .ok (.iload 6, 2) := by decide +kernel
theorem dX1_hashOne_40 : decode cX1_hashOne 40 = .ok (.lload 4, 2) := by decide +kernel
theorem dX1_hashOne_42 : decode cX1_hashOne 42 = .ok (.iload 7, 2) := by decide +kernel
theorem dX1_hashOne_44 : decode cX1_hashOne 44 = .ok (.invokestatic 131, 3) := by decide +kernel
theorem dX1_hashOne_47 : decode cX1_hashOne 47 = .ok (.iload_n 1, 1) := by decide +kernel
theorem dX1_hashOne_48 : decode cX1_hashOne 48 = .ok (.ineg, 1) := by decide +kernel
theorem dX1_hashOne_49 : decode cX1_hashOne 49 = .ok (.if_icmp .ne 7, 3) := by decide +kernel
theorem dX1_hashOne_52 : decode cX1_hashOne 52 = .ok (.iconst 1, 1) := by decide +kernel
theorem dX1_hashOne_53 : decode cX1_hashOne 53 = .ok (.goto 4, 3) := by decide +kernel
theorem dX1_hashOne_56 : decode cX1_hashOne 56 = .ok (.iconst 0, 1) := by decide +kernel
theorem dX1_hashOne_57 : decode cX1_hashOne 57 = .ok (.ior, 1) := by decide +kernel
theorem dX1_hashOne_58 : decode cX1_hashOne 58 = .ok (.istore 6, 2) := by decide +kernel
theorem dX1_hashOne_60 : decode cX1_hashOne 60 = .ok (.iinc 7 1, 3) := by decide +kernel
theorem dX1_hashOne_63 : decode cX1_hashOne 63 = .ok (.goto (-31), 3) := by decide +kernel
theorem dX1_hashOne_66 : decode cX1_hashOne 66 = .ok (.iload 6, 2) := by decide +kernel
theorem dX1_hashOne_68 : decode cX1_hashOne 68 = .ok (.ifCond .ne 6, 3) := by decide +kernel
theorem dX1_hashOne_71 : decode cX1_hashOne 71 = .ok (.goto 79, 3) := by decide +kernel
theorem dX1_hashOne_74 : decode cX1_hashOne 74 = .ok (.aload_n 0, 1) := by decide +kernel
theorem dX1_hashOne_75 : decode cX1_hashOne 75 = .ok (.getfield 49, 3) := by decide +kernel
theorem dX1_hashOne_78 : decode cX1_hashOne 78 = .ok (.iload_n 2, 1) := by decide +kernel
theorem dX1_hashOne_79 : decode cX1_hashOne 79 = .ok (.aaload, 1) := by decide +kernel
theorem dX1_hashOne_80 : decode cX1_hashOne 80 = .ok (.astore 7, 2) := by decide +kernel
theorem dX1_hashOne_82 : decode cX1_hashOne 82 = .ok (.aload_n 0, 1) := by decide +kernel
theorem dX1_hashOne_83 : decode cX1_hashOne 83 = .ok (.aload 7, 2) := by decide +kernel
theorem dX1_hashOne_85 : decode cX1_hashOne 85 = .ok (.lload 4, 2) := by decide +kernel
theorem dX1_hashOne_87 : decode cX1_hashOne 87 = .ok (.iload_n 1, 1) := by decide +kernel
theorem dX1_hashOne_88 : decode cX1_hashOne 88 = .ok (.invokevirtual 144, 3) := by decide +kernel
theorem dX1_hashOne_91 : decode cX1_hashOne 91 = .ok (.iload_n 2, 1) := by decide +kernel
theorem dX1_hashOne_92 : decode cX1_hashOne 92 = .ok (.istore 8, 2) := by decide +kernel
theorem dX1_hashOne_94 : decode cX1_hashOne 94 = .ok (.iload 8, 2) := by decide +kernel
theorem dX1_hashOne_96 : decode cX1_hashOne 96 = .ok (.ifCond .le 42, 3) := by decide +kernel
theorem dX1_hashOne_99 : decode cX1_hashOne 99 = .ok (.aload_n 0, 1) := by decide +kernel
theorem dX1_hashOne_100 : decode cX1_hashOne 100 = .ok (.getfield 49, 3) := by decide +kernel
theorem dX1_hashOne_103 : decode cX1_hashOne 103 = .ok (.iload 8, 2) := by decide +kernel
theorem dX1_hashOne_105 : decode cX1_hashOne 105 = .ok (.iconst 1, 1) := by decide +kernel
theorem dX1_hashOne_106 : decode cX1_hashOne 106 = .ok (.isub, 1) := by decide +kernel
theorem dX1_hashOne_107 : decode cX1_hashOne 107 = .ok (.aaload, 1) := by decide +kernel
theorem dX1_hashOne_108 : decode cX1_hashOne 108 = .ok (.aload 7, 2) := by decide +kernel
theorem dX1_hashOne_110 : decode cX1_hashOne 110 = .ok (.invokevirtual 148, 3) := by decide +kernel
theorem dX1_hashOne_113 : decode cX1_hashOne 113 = .ok (.ifCond .le 25, 3) := by decide +kernel
theorem dX1_hashOne_116 : decode cX1_hashOne 116 = .ok (.aload_n 0, 1) := by decide +kernel
theorem dX1_hashOne_117 : decode cX1_hashOne 117 = .ok (.getfield 49, 3) := by decide +kernel
theorem dX1_hashOne_120 : decode cX1_hashOne 120 = .ok (.iload 8, 2) := by decide +kernel
theorem dX1_hashOne_122 : decode cX1_hashOne 122 = .ok (.aload_n 0, 1) := by decide +kernel
theorem dX1_hashOne_123 : decode cX1_hashOne 123 = .ok (.getfield 49, 3) := by decide +kernel
theorem dX1_hashOne_126 : decode cX1_hashOne 126 = .ok (.iload 8, 2) := by decide +kernel
theorem dX1_hashOne_128 : decode cX1_hashOne 128 = .ok (.iconst 1, 1) := by decide +kernel
theorem dX1_hashOne_129 : decode cX1_hashOne 129 = .ok (.isub, 1) := by decide +kernel
theorem dX1_hashOne_130 : decode cX1_hashOne 130 = .ok (.aaload, 1) := by decide +kernel
theorem dX1_hashOne_131 : decode cX1_hashOne 131 = .ok (.aastore, 1) := by decide +kernel
theorem dX1_hashOne_132 : decode cX1_hashOne 132 = .ok (.iinc 8 (-1), 3) := by decide +kernel
theorem dX1_hashOne_135 : decode cX1_hashOne 135 = .ok (.goto (-41), 3) := by decide +kernel
theorem dX1_hashOne_138 : decode cX1_hashOne 138 = .ok (.aload_n 0, 1) := by decide +kernel
theorem dX1_hashOne_139 : decode cX1_hashOne 139 = .ok (.getfield 49, 3) := by decide +kernel
theorem dX1_hashOne_142 : decode cX1_hashOne 142 = .ok (.iload 8, 2) := by decide +kernel
theorem dX1_hashOne_144 : decode cX1_hashOne 144 = .ok (.aload 7, 2) := by decide +kernel
theorem dX1_hashOne_146 : decode cX1_hashOne 146 = .ok (.aastore, 1) := by decide +kernel
theorem dX1_hashOne_147 : decode cX1_hashOne 147 = .ok (.iinc 2 1, 3) := by decide +kernel
theorem dX1_hashOne_150 : decode cX1_hashOne 150 = .ok (.iinc 3 1, 3) := by decide +kernel
theorem dX1_hashOne_153 : decode cX1_hashOne 153 = .ok (.goto (-149), 3) := by decide +kernel
theorem dX1_hashOne_156 : decode cX1_hashOne 156 = .ok (.aload_n 0, 1) := by decide +kernel
theorem dX1_hashOne_157 : decode cX1_hashOne 157 = .ok (.getfield 33, 3) := by decide +kernel
theorem dX1_hashOne_160 : decode cX1_hashOne 160 = .ok (.invokevirtual 83, 3) := by decide +kernel
theorem dX1_hashOne_163 : decode cX1_hashOne 163 = .ok (.aload_n 0, 1) := by decide +kernel
theorem dX1_hashOne_164 : decode cX1_hashOne 164 = .ok (.getfield 39, 3) := by decide +kernel
theorem dX1_hashOne_167 : decode cX1_hashOne 167 = .ok (.iload_n 1, 1) := by decide +kernel
theorem dX1_hashOne_168 : decode cX1_hashOne 168 = .ok (.aaload, 1) := by decide +kernel
theorem dX1_hashOne_169 : decode cX1_hashOne 169 = .ok (.astore_n 3, 1) := by decide +kernel
theorem dX1_hashOne_170 : decode cX1_hashOne 170 = .ok (.aload_n 3, 1) := by decide +kernel
theorem dX1_hashOne_171 : decode cX1_hashOne 171 = .ok (.arraylength, 1) := by decide +kernel
theorem dX1_hashOne_172 : decode cX1_hashOne 172 = .ok (.istore 4, 2) := by decide +kernel
theorem dX1_hashOne_174 : decode cX1_hashOne 174 = .ok (.iconst 0, 1) := by decide +kernel
theorem dX1_hashOne_175 : decode cX1_hashOne 175 = .ok (.istore 5, 2) := by decide +kernel
theorem dX1_hashOne_177 : decode cX1_hashOne 177 = .ok (.iload 5, 2) := by decide +kernel
theorem dX1_hashOne_179 : decode cX1_hashOne 179 = .ok (.iload 4, 2) := by decide +kernel
theorem dX1_hashOne_181 : decode cX1_hashOne 181 = .ok (.if_icmp .ge 24, 3) := by decide +kernel
theorem dX1_hashOne_184 : decode cX1_hashOne 184 = .ok (.aload_n 3, 1) := by decide +kernel
theorem dX1_hashOne_185 : decode cX1_hashOne 185 = .ok (.iload 5, 2) := by decide +kernel
theorem dX1_hashOne_187 : decode cX1_hashOne 187 = .ok (.iaload, 1) := by decide +kernel
theorem dX1_hashOne_188 : decode cX1_hashOne 188 = .ok (.istore 6, 2) := by decide +kernel
theorem dX1_hashOne_190 : decode cX1_hashOne 190 = .ok (.aload_n 0, 1) := by decide +kernel
theorem dX1_hashOne_191 : decode cX1_hashOne 191 = .ok (.getfield 33, 3) := by decide +kernel
theorem dX1_hashOne_194 : decode cX1_hashOne 194 = .ok (.iload 6, 2) := by decide +kernel
theorem dX1_hashOne_196 : decode cX1_hashOne 196 = .ok (.invokevirtual 152, 3) := by decide +kernel
theorem dX1_hashOne_199 : decode cX1_hashOne 199 = .ok (.iinc 5 1, 3) := by decide +kernel
theorem dX1_hashOne_202 : decode cX1_hashOne 202 = .ok (.goto (-25), 3) := by decide +kernel
theorem dX1_hashOne_205 : decode cX1_hashOne 205 = .ok (.iconst 0, 1) := by decide +kernel
theorem dX1_hashOne_206 : decode cX1_hashOne 206 = .ok (.istore_n 3, 1) := by decide +kernel
theorem dX1_hashOne_207 : decode cX1_hashOne 207 = .ok (.iload_n 3, 1) := by decide +kernel
theorem dX1_hashOne_208 : decode cX1_hashOne 208 = .ok (.iload_n 2, 1) := by decide +kernel
theorem dX1_hashOne_209 : decode cX1_hashOne 209 = .ok (.if_icmp .ge 51, 3) := by decide +kernel
theorem dX1_hashOne_212 : decode cX1_hashOne 212 = .ok (.iconst 0, 1) := by decide +kernel
theorem dX1_hashOne_213 : decode cX1_hashOne 213 = .ok (.istore 4, 2) := by decide +kernel
theorem dX1_hashOne_215 : decode cX1_hashOne 215 = .ok (.iload 4, 2) := by decide +kernel
theorem dX1_hashOne_217 : decode cX1_hashOne 217 = .ok (.aload_n 0, 1) := by decide +kernel
theorem dX1_hashOne_218 : decode cX1_hashOne 218 = .ok (.getfield 49, 3) := by decide +kernel
theorem dX1_hashOne_221 : decode cX1_hashOne 221 = .ok (.iload_n 3, 1) := by decide +kernel
theorem dX1_hashOne_222 : decode cX1_hashOne 222 = .ok (.aaload, 1) := by decide +kernel
theorem dX1_hashOne_223 : decode cX1_hashOne 223 = .ok (.getfield 128, 3) := by decide +kernel
theorem dX1_hashOne_226 : decode cX1_hashOne 226 = .ok (.if_icmp .ge 28, 3) := by decide +kernel
theorem dX1_hashOne_229 : decode cX1_hashOne 229 = .ok (.aload_n 0, 1) := by decide +kernel
theorem dX1_hashOne_230 : decode cX1_hashOne 230 = .ok (.getfield 33, 3) := by decide +kernel
theorem dX1_hashOne_233 : decode cX1_hashOne 233 = .ok (.aload_n 0, 1) := by decide +kernel
theorem dX1_hashOne_234 : decode cX1_hashOne 234 = .ok (.getfield 49, 3) := by decide +kernel
theorem dX1_hashOne_237 : decode cX1_hashOne 237 = .ok (.iload_n 3, 1) := by decide +kernel
theorem dX1_hashOne_238 : decode cX1_hashOne 238 = .ok (.aaload, 1) := by decide +kernel
theorem dX1_hashOne_239 : decode cX1_hashOne 239 = .ok (.getfield 153, 3) := by decide +kernel
theorem dX1_hashOne_242 : decode cX1_hashOne 242 = .ok (.iload 4, 2) := by decide +kernel
theorem dX1_hashOne_244 : decode cX1_hashOne 244 = .ok (.baload, 1) := by decide +kernel
theorem dX1_hashOne_245 : decode cX1_hashOne 245 = .ok (.invokevirtual 156, 3) := by decide +kernel
theorem dX1_hashOne_248 : decode cX1_hashOne 248 = .ok (.iinc 4 1, 3) := by decide +kernel
theorem dX1_hashOne_251 : decode cX1_hashOne 251 = .ok (.goto (-36), 3) := by decide +kernel
theorem dX1_hashOne_254 : decode cX1_hashOne 254 = .ok (.iinc 3 1, 3) := by decide +kernel
theorem dX1_hashOne_257 : decode cX1_hashOne 257 = .ok (.goto (-50), 3) := by decide +kernel
theorem dX1_hashOne_260 : decode cX1_hashOne 260 = .ok (.aload_n 0, 1) := by decide +kernel
theorem dX1_hashOne_261 : decode cX1_hashOne 261 = .ok (.getfield 33, 3) := by decide +kernel
theorem dX1_hashOne_264 : decode cX1_hashOne 264 = .ok (.invokevirtual 86, 3) := by decide +kernel
theorem dX1_hashOne_267 : decode cX1_hashOne 267 = .ok (.aload_n 0, 1) := by decide +kernel
theorem dX1_hashOne_268 : decode cX1_hashOne 268 = .ok (.getfield 33, 3) := by decide +kernel
theorem dX1_hashOne_271 : decode cX1_hashOne 271 = .ok (.getfield 89, 3) := by decide +kernel
theorem dX1_hashOne_274 : decode cX1_hashOne 274 = .ok (.iconst 0, 1) := by decide +kernel
theorem dX1_hashOne_275 : decode cX1_hashOne 275 = .ok (.aload_n 0, 1) := by decide +kernel
theorem dX1_hashOne_276 : decode cX1_hashOne 276 = .ok (.getfield 42, 3) := by decide +kernel
theorem dX1_hashOne_279 : decode cX1_hashOne 279 = .ok (.iload_n 1, 1) := by decide +kernel
theorem dX1_hashOne_280 : decode cX1_hashOne 280 = .ok (.aaload, 1) := by decide +kernel
theorem dX1_hashOne_281 : decode cX1_hashOne 281 = .ok (.iconst 0, 1) := by decide +kernel
theorem dX1_hashOne_282 : decode cX1_hashOne 282 = .ok (.bipush 8, 2) := by decide +kernel
theorem dX1_hashOne_284 : decode cX1_hashOne 284 = .ok (.invokestatic 157, 3) := by decide +kernel
theorem dX1_hashOne_287 : decode cX1_hashOne 287 = .ok (.return_, 1) := by decide +kernel
abbrev cX1_describe : ByteArray := prog_3_method_11_code
def yX1_describe : MethodName := ⟨RX1, "describe", "(LKnowHouse$CanonNames$Description;JI)V"⟩
theorem dX1_describe_0 : decode cX1_describe 0 = .ok (.aload_n 1, 1) := by decide +kernel
theorem dX1_describe_1 : decode cX1_describe 1 = .ok (.iconst 0, 1) := by decide +kernel
theorem dX1_describe_2 : decode cX1_describe 2 = .ok (.putfield 128, 3) := by decide +kernel
theorem dX1_describe_5 : decode cX1_describe 5 = .ok (.iconst 0, 1) := by decide +kernel
theorem dX1_describe_6 : decode cX1_describe 6 = .ok (.istore 5, 2) := by decide +kernel
theorem dX1_describe_8 : decode cX1_describe 8 = .ok (.iload 5, 2) := by decide +kernel
theorem dX1_describe_10 : decode cX1_describe 10 = .ok (.iconst 3, 1) := by decide +kernel
theorem dX1_describe_11 : decode cX1_describe 11 = .ok (.if_icmp .ge 109, 3) := by decide +kernel
theorem dX1_describe_14 : decode cX1_describe 14 = .ok (.lload_n 2, 1) := by decide +kernel
theorem dX1_describe_15 : decode cX1_describe 15 = .ok (.iload 5, 2) := by decide +kernel
theorem dX1_describe_17 : decode cX1_describe 17 = .ok (.invokestatic 131, 3) := by decide +kernel
theorem dX1_describe_20 : decode cX1_describe 20 = .ok (.istore 6, 2) := by decide +kernel
theorem dX1_describe_22 : decode cX1_describe 22 = .ok (.aload_n 1, 1) := by decide +kernel
theorem dX1_describe_23 : decode cX1_describe 23 = .ok (.iload 6, 2) := by decide +kernel
theorem dX1_describe_25 : decode cX1_describe 25 = .ok (.ifCond .le 7, 3) := by decide +kernel
theorem dX1_describe_28 : decode cX1_describe 28 = .ok (.iconst 0, 1) := by decide +kernel
theorem dX1_describe_29 : decode cX1_describe 29 = .ok (.goto 16, 3) := by decide +kernel
theorem dX1_describe_32 : decode cX1_describe 32 = .ok (.iload 6, 2) := by decide +kernel
theorem dX1_describe_34 : decode cX1_describe 34 = .ok (.ineg, 1) := by decide +kernel
theorem dX1_describe_35 : decode cX1_describe 35 = .ok (.iload 4, 2) := by decide +kernel
theorem dX1_describe_37 : decode cX1_describe 37 = .ok (.if_icmp .ne 7, 3) := by decide +kernel
theorem dX1_describe_40 : decode cX1_describe 40 = .ok (.iconst 1, 1) := by decide +kernel
theorem dX1_describe_41 : decode cX1_describe 41 = .ok (.goto 4, 3) := by decide +kernel
theorem dX1_describe_44 : decode cX1_describe 44 = .ok (.iconst 2, 1) := by decide +kernel
theorem dX1_describe_45 : decode cX1_describe 45 = .ok (.invokevirtual 135, 3) := by decide +kernel
theorem dX1_describe_48 : decode cX1_describe 48 = .ok (.iload 6, 2) := by decide +kernel
theorem dX1_describe_50 : decode cX1_describe 50 = .ok (.ifCond .le 12, 3) := by decide +kernel
theorem dX1_describe_53 : decode cX1_describe 53 = .ok (.aload_n 1, 1) := by decide +kernel
theorem dX1_describe_54 : decode cX1_describe 54 = .ok (.iload 6, 2) := by decide +kernel
theorem dX1_describe_56 : decode cX1_describe 56 = .ok (.invokevirtual 138, 3) := by decide +kernel
theorem dX1_describe_59 : decode cX1_describe 59 = .ok (.goto 55, 3) := by decide +kernel
theorem dX1_describe_62 : decode cX1_describe 62 = .ok (.iload 6, 2) := by decide +kernel
theorem dX1_describe_64 : decode cX1_describe 64 = .ok (.ineg, 1) := by decide +kernel
theorem dX1_describe_65 : decode cX1_describe 65 = .ok (.iload 4, 2) := by decide +kernel
theorem dX1_describe_67 : decode cX1_describe 67 = .ok (.if_icmp .eq 47, 3) := by decide +kernel
theorem dX1_describe_70 : decode cX1_describe 70 = .ok (.aload_n 0, 1) := by decide +kernel
theorem dX1_describe_71 : decode cX1_describe 71 = .ok (.getfield 39, 3) := by decide +kernel
theorem dX1_describe_74 : decode cX1_describe 74 = .ok (.iload 6, 2) := by decide +kernel
theorem dX1_describe_76 : decode cX1_describe 76 = .ok (.ineg, 1) := by decide +kernel
theorem dX1_describe_77 : decode cX1_describe 77 = .ok (.aaload, 1) := by decide +kernel
theorem dX1_describe_78 : decode cX1_describe 78 = .ok (.astore 7, 2) := by decide +kernel
theorem dX1_describe_80 : decode cX1_describe 80 = .ok (.aload 7, 2) := by decide +kernel
theorem dX1_describe_82 : decode cX1_describe 82 = .ok (.arraylength, 1) := by decide +kernel
theorem dX1_describe_83 : decode cX1_describe 83 = .ok (.istore 8, 2) := by decide +kernel
theorem dX1_describe_85 : decode cX1_describe 85 = .ok (.iconst 0, 1) := by decide +kernel
theorem dX1_describe_86 : decode cX1_describe 86 = .ok (.istore 9, 2) := by decide +kernel
theorem dX1_describe_88 : decode cX1_describe 88 = .ok (.iload 9, 2) := by decide +kernel
theorem dX1_describe_90 : decode cX1_describe 90 = .ok (.iload 8, 2) := by decide +kernel
theorem dX1_describe_92 : decode cX1_describe 92 = .ok (.if_icmp .ge 22, 3) := by decide +kernel
theorem dX1_describe_95 : decode cX1_describe 95 = .ok (.aload 7, 2) := by decide +kernel
theorem dX1_describe_97 : decode cX1_describe 97 = .ok (.iload 9, 2) := by decide +kernel
theorem dX1_describe_99 : decode cX1_describe 99 = .ok (.iaload, 1) := by decide +kernel
theorem dX1_describe_100 : decode cX1_describe 100 = .ok (.istore 10, 2) := by decide +kernel
theorem dX1_describe_102 : decode cX1_describe 102 = .ok (.aload_n 1, 1) := by decide +kernel
theorem dX1_describe_103 : decode cX1_describe 103 = .ok (.iload 10, 2) := by decide +kernel
theorem dX1_describe_105 : decode cX1_describe 105 = .ok (.invokevirtual 138, 3) := by decide +kernel
theorem dX1_describe_108 : decode cX1_describe 108 = .ok (.iinc 9 1, 3) := by decide +kernel
theorem dX1_describe_111 : decode cX1_describe 111 = .ok (.goto (-23), 3) := by decide +kernel
theorem dX1_describe_114 : decode cX1_describe 114 = .ok (.iinc 5 1, 3) := by decide +kernel
theorem dX1_describe_117 : decode cX1_describe 117 = .ok (.goto (-109), 3) := by decide +kernel
theorem dX1_describe_120 : decode cX1_describe 120 = .ok (.return_, 1) := by decide +kernel
abbrev cX1_different : ByteArray := prog_3_method_14_code
def yX1_different : MethodName := ⟨RX1, "different", "([[I)I"⟩
theorem dX1_different_0 : decode cX1_different 0 = .ok (.iconst 0, 1) := by decide +kernel
theorem dX1_different_1 : decode cX1_different 1 = .ok (.istore_n 2, 1) := by decide +kernel
theorem dX1_different_2 : decode cX1_different 2 = .ok (.iconst 1, 1) := by decide +kernel
theorem dX1_different_3 : decode cX1_different 3 = .ok (.istore_n 3, 1) := by decide +kernel
theorem dX1_different_4 : decode cX1_different 4 = .ok (.iload_n 3, 1) := by decide +kernel
theorem dX1_different_5 : decode cX1_different 5 = .ok (.aload_n 0, 1) := by decide +kernel
theorem dX1_different_6 : decode cX1_different 6 = .ok (.getfield 22, 3) := by decide +kernel
theorem dX1_different_9 : decode cX1_different 9 = .ok (.getfield 92, 3) := by decide +kernel
theorem dX1_different_12 : decode cX1_different 12 = .ok (.if_icmp .gt 65, 3) := by decide +kernel
theorem dX1_different_15 : decode cX1_different 15 = .ok (.iconst 1, 1) := by decide +kernel
theorem dX1_different_16 : decode cX1_different 16 = .ok (.istore 4, 2) := by decide +kernel
theorem dX1_different_18 : decode cX1_different 18 = .ok (.iconst 1, 1) := by decide +kernel
theorem dX1_different_19 : decode cX1_different 19 = .ok (.istore 5, 2) := by decide +kernel
theorem dX1_different_21 : decode cX1_different 21 = .ok (.iload 5, 2) := by decide +kernel
theorem dX1_different_23 : decode cX1_different 23 = .ok (.iload_n 3, 1) := by decide +kernel
theorem dX1_different_24 : decode cX1_different 24 = .ok (.if_icmp .ge 34, 3) := by decide +kernel
theorem dX1_different_27 : decode cX1_different 27 = .ok (.iload 4, 2) := by decide +kernel
theorem dX1_different_29 : decode cX1_different 29 = .ok (.ifCond .eq 29, 3) := by decide +kernel
theorem dX1_different_32 : decode cX1_different 32 = .ok (.aload_n 1, 1) := by decide +kernel
theorem dX1_different_33 : decode cX1_different 33 = .ok (.iload_n 3, 1) := by decide +kernel
theorem dX1_different_34 : decode cX1_different 34 = .ok (.aaload, 1) := by decide +kernel
theorem dX1_different_35 : decode cX1_different 35 = .ok (.aload_n 1, 1) := by decide +kernel
theorem dX1_different_36 : decode cX1_different 36 = .ok (.iload 5, 2) := by decide +kernel
theorem dX1_different_38 : decode cX1_different 38 = .ok (.aaload, 1) := by decide +kernel
theorem dX1_different_39 : decode cX1_different 39 = .ok (.invokestatic 169, 3) := by decide +kernel
theorem dX1_different_42 : decode cX1_different 42 = .ok (.ifCond .eq 7, 3) := by decide +kernel
theorem dX1_different_45 : decode cX1_different 45 = .ok (.iconst 1, 1) := by decide +kernel
theorem dX1_different_46 : decode cX1_different 46 = .ok (.goto 4, 3) := by decide +kernel
theorem dX1_different_49 : decode cX1_different 49 = .ok (.iconst 0, 1) := by decide +kernel
theorem dX1_different_50 : decode cX1_different 50 = .ok (.istore 4, 2) := by decide +kernel
theorem dX1_different_52 : decode cX1_different 52 = .ok (.iinc 5 1, 3) := by decide +kernel
theorem dX1_different_55 : decode cX1_different 55 = .ok (.goto (-34), 3) := by decide +kernel
theorem dX1_different_58 : decode cX1_different 58 = .ok (.iload_n 2, 1) := by decide +kernel
theorem dX1_different_59 : decode cX1_different 59 = .ok (.iload 4, 2) := by decide +kernel
theorem dX1_different_61 : decode cX1_different 61 = .ok (.ifCond .eq 7, 3) := by decide +kernel
theorem dX1_different_64 : decode cX1_different 64 = .ok (.iconst 1, 1) := by decide +kernel
theorem dX1_different_65 : decode cX1_different 65 = .ok (.goto 4, 3) := by decide +kernel
theorem dX1_different_68 : decode cX1_different 68 = .ok (.iconst 0, 1) := by decide +kernel
theorem dX1_different_69 : decode cX1_different 69 = .ok (.iadd, 1) := by decide +kernel
theorem dX1_different_70 : decode cX1_different 70 = .ok (.istore_n 2, 1) := by decide +kernel
theorem dX1_different_71 : decode cX1_different 71 = .ok (.iinc 3 1, 3) := by decide +kernel
theorem dX1_different_74 : decode cX1_different 74 = .ok (.goto (-70), 3) := by decide +kernel
theorem dX1_different_77 : decode cX1_different 77 = .ok (.iload_n 2, 1) := by decide +kernel
theorem dX1_different_78 : decode cX1_different 78 = .ok (.ireturn, 1) := by decide +kernel
abbrev cX1_compare : ByteArray := prog_3_method_13_code
def yX1_compare : MethodName := ⟨RX1, "compare", "([I[I)I"⟩
theorem dX1_compare_0 : decode cX1_compare 0 = .ok (.iconst 0, 1) := by decide +kernel
theorem dX1_compare_1 : decode cX1_compare 1 = .ok (.istore_n 2, 1) := by decide +kernel
theorem dX1_compare_2 : decode cX1_compare 2 = .ok (.iload_n 2, 1) := by decide +kernel
theorem dX1_compare_3 : decode cX1_compare 3 = .ok (.bipush 8, 2) := by decide +kernel
theorem dX1_compare_5 : decode cX1_compare 5 = .ok (.if_icmp .ge 18, 3) := by decide +kernel
theorem dX1_compare_8 : decode cX1_compare 8 = .ok (.aload_n 0, 1) := by decide +kernel
theorem dX1_compare_9 : decode cX1_compare 9 = .ok (.iload_n 2, 1) := by decide +kernel
theorem dX1_compare_10 : decode cX1_compare 10 = .ok (.iaload, 1) := by decide +kernel
theorem dX1_compare_11 : decode cX1_compare 11 = .ok (.aload_n 1, 1) := by decide +kernel
theorem dX1_compare_12 : decode cX1_compare 12 = .ok (.iload_n 2, 1) := by decide +kernel
theorem dX1_compare_13 : decode cX1_compare 13 = .ok (.iaload, 1) := by decide +kernel
theorem dX1_compare_14 : decode cX1_compare 14 = .ok (.if_icmp .ne 9, 3) := by decide +kernel
theorem dX1_compare_17 : decode cX1_compare 17 = .ok (.iinc 2 1, 3) := by decide +kernel
theorem dX1_compare_20 : decode cX1_compare 20 = .ok (.goto (-18), 3) := by decide +kernel
theorem dX1_compare_23 : decode cX1_compare 23 = .ok (.iload_n 2, 1) := by decide +kernel
theorem dX1_compare_24 : decode cX1_compare 24 = .ok (.bipush 8, 2) := by decide +kernel
theorem dX1_compare_26 : decode cX1_compare 26 = .ok (.if_icmp .ne 7, 3) := by decide +kernel
theorem dX1_compare_29 : decode cX1_compare 29 = .ok (.iconst 0, 1) := by decide +kernel
theorem dX1_compare_30 : decode cX1_compare 30 = .ok (.goto 12, 3) := by decide +kernel
theorem dX1_compare_33 : decode cX1_compare 33 = .ok (.aload_n 0, 1) := by decide +kernel
theorem dX1_compare_34 : decode cX1_compare 34 = .ok (.iload_n 2, 1) := by decide +kernel
theorem dX1_compare_35 : decode cX1_compare 35 = .ok (.iaload, 1) := by decide +kernel
theorem dX1_compare_36 : decode cX1_compare 36 = .ok (.aload_n 1, 1) := by decide +kernel
theorem dX1_compare_37 : decode cX1_compare 37 = .ok (.iload_n 2, 1) := by decide +kernel
theorem dX1_compare_38 : decode cX1_compare 38 = .ok (.iaload, 1) := by decide +kernel
theorem dX1_compare_39 : decode cX1_compare 39 = .ok (.invokestatic 163, 3) := by decide +kernel
theorem dX1_compare_42 : decode cX1_compare 42 = .ok (.ireturn, 1) := by decide +kernel
abbrev cX1_makeGroups : ByteArray := prog_3_method_16_code
def yX1_makeGroups : MethodName := ⟨RX1, "makeGroups", "()V"⟩
theorem dX1_makeGroups_0 : decode cX1_makeGroups 0 = .ok (.iconst 1, 1) := by decide +kernel
theorem dX1_makeGroups_1 : decode cX1_makeGroups 1 = .ok (.istore_n 1, 1) := by decide +kernel
theorem dX1_makeGroups_2 : decode cX1_makeGroups 2 = .ok (.iload_n 1, 1) := by decide +kernel
theorem dX1_makeGroups_3 : decode cX1_makeGroups 3 = .ok (.aload_n 0, 1) := by decide +kernel
theorem dX1_makeGroups_4 : decode cX1_makeGroups 4 = .ok (.getfield 22, 3) := by decide +kernel
theorem dX1_makeGroups_7 : decode cX1_makeGroups 7 = .ok (.getfield 92, 3) := by decide +kernel
theorem dX1_makeGroups_10 : decode cX1_makeGroups 10 = .ok (.if_icmp .gt 69, 3) := by decide +kernel
theorem dX1_makeGroups_13 : decode cX1_makeGroups 13 = .ok (.iload_n 1, 1) := by decide +kernel
theorem dX1_makeGroups_14 : decode cX1_makeGroups 14 = .ok (.iconst 1, 1) := by decide +kernel
theorem dX1_makeGroups_15 : decode cX1_makeGroups 15 = .ok (.isub, 1) := by decide +kernel
theorem dX1_makeGroups_16 : decode cX1_makeGroups 16 = .ok (.istore_n 2, 1) := by decide +kernel
theorem dX1_makeGroups_17 : decode cX1_makeGroups 17 = .ok (.iload_n 2, 1) := by decide +kernel
theorem dX1_makeGroups_18 : decode cX1_makeGroups 18 = .ok (.ifCond .le 48, 3) := by decide +kernel
theorem dX1_makeGroups_21 : decode cX1_makeGroups 21 = .ok (.aload_n 0, 1) := by decide +kernel
theorem dX1_makeGroups_22 : decode cX1_makeGroups 22 = .ok (.getfield 39, 3) := by decide +kernel
theorem dX1_makeGroups_25 : decode cX1_makeGroups 25 = .ok (.aload_n 0, 1) := by decide +kernel
theorem dX1_makeGroups_26 : decode cX1_makeGroups 26 = .ok (.getfield 53, 3) := by decide +kernel
theorem dX1_makeGroups_29 : decode cX1_makeGroups 29 = .ok (.iload_n 2, 1) := by decide +kernel
theorem dX1_makeGroups_30 : decode cX1_makeGroups 30 = .ok (.iconst 1, 1) := by decide +kernel
theorem dX1_makeGroups_31 : decode cX1_makeGroups 31 = .ok (.isub, 1) := by decide +kernel
theorem dX1_makeGroups_32 : decode cX1_makeGroups 32 = .ok (.iaload, 1) := by decide +kernel
theorem dX1_makeGroups_33 : decode cX1_makeGroups 33 = .ok (.aaload, 1) := by decide +kernel
theorem dX1_makeGroups_34 : decode cX1_makeGroups 34 = .ok (.aload_n 0, 1) := by decide +kernel
theorem dX1_makeGroups_35 : decode cX1_makeGroups 35 = .ok (.getfield 39, 3) := by decide +kernel
theorem dX1_makeGroups_38 : decode cX1_makeGroups 38 = .ok (.iload_n 1, 1) := by decide +kernel
theorem dX1_makeGroups_39 : decode cX1_makeGroups 39 = .ok (.aaload, 1) := by decide +kernel
theorem dX1_makeGroups_40 : decode cX1_makeGroups 40 = .ok (.invokestatic 169, 3) := by decide +kernel
theorem dX1_makeGroups_43 : decode cX1_makeGroups 43 = .ok (.ifCond .le 23, 3) := by decide +kernel
theorem dX1_makeGroups_46 : decode cX1_makeGroups 46 = .ok (.aload_n 0, 1) := by decide +kernel
theorem dX1_makeGroups_47 : decode cX1_makeGroups 47 = .ok (.getfield 53, 3) := by decide +kernel
theorem dX1_makeGroups_50 : decode cX1_makeGroups 50 = .ok (.iload_n 2, 1) := by decide +kernel
theorem dX1_makeGroups_51 : decode cX1_makeGroups 51 = .ok (.aload_n 0, 1) := by decide +kernel
theorem dX1_makeGroups_52 : decode cX1_makeGroups 52 = .ok (.getfield 53, 3) := by decide +kernel
theorem dX1_makeGroups_55 : decode cX1_makeGroups 55 = .ok (.iload_n 2, 1) := by decide +kernel
theorem dX1_makeGroups_56 : decode cX1_makeGroups 56 = .ok (.iconst 1, 1) := by decide +kernel
theorem dX1_makeGroups_57 : decode cX1_makeGroups 57 = .ok (.isub, 1) := by decide +kernel
theorem dX1_makeGroups_58 : decode cX1_makeGroups 58 = .ok (.iaload, 1) := by decide +kernel
theorem dX1_makeGroups_59 : decode cX1_makeGroups 59 = .ok (.iastore, 1) := by decide +kernel
theorem dX1_makeGroups_60 : decode cX1_makeGroups 60 = .ok (.iinc 2 (-1), 3) := by decide +kernel
theorem dX1_makeGroups_63 : decode cX1_makeGroups 63 = .ok (.goto (-46), 3) := by decide +kernel
theorem dX1_makeGroups_66 : decode cX1_makeGroups 66 = .ok (.aload_n 0, 1) := by decide +kernel
theorem dX1_makeGroups_67 : decode cX1_makeGroups 67 = .ok (.getfield 53, 3) := by decide +kernel
theorem dX1_makeGroups_70 : decode cX1_makeGroups 70 = .ok (.iload_n 2, 1) := by decide +kernel
theorem dX1_makeGroups_71 : decode cX1_makeGroups 71 = .ok (.iload_n 1, 1) := by decide +kernel
theorem dX1_makeGroups_72 : decode cX1_makeGroups 72 = .ok (.iastore, 1) := by decide +kernel
theorem dX1_makeGroups_73 : decode cX1_makeGroups 73 = .ok (.iinc 1 1, 3) := by decide +kernel
theorem dX1_makeGroups_76 : decode cX1_makeGroups 76 = .ok (.goto (-74), 3) := by decide +kernel
theorem dX1_makeGroups_79 : decode cX1_makeGroups 79 = .ok (.aload_n 0, 1) := by decide +kernel
theorem dX1_makeGroups_80 : decode cX1_makeGroups 80 = .ok (.iconst 0, 1) := by decide +kernel
theorem dX1_makeGroups_81 : decode cX1_makeGroups 81 = .ok (.putfield 186, 3) := by decide +kernel
theorem dX1_makeGroups_84 : decode cX1_makeGroups 84 = .ok (.iconst 0, 1) := by decide +kernel
theorem dX1_makeGroups_85 : decode cX1_makeGroups 85 = .ok (.istore_n 1, 1) := by decide +kernel
theorem dX1_makeGroups_86 : decode cX1_makeGroups 86 = .ok (.iload_n 1, 1) := by decide +kernel
theorem dX1_makeGroups_87 : decode cX1_makeGroups 87 = .ok (.aload_n 0, 1) := by decide +kernel
theorem dX1_makeGroups_88 : decode cX1_makeGroups 88 = .ok (.getfield 22, 3) := by decide +kernel
theorem dX1_makeGroups_91 : decode cX1_makeGroups 91 = .ok (.getfield 92, 3) := by decide +kernel
theorem dX1_makeGroups_94 : decode cX1_makeGroups 94 = .ok (.if_icmp .ge 66, 3) := by decide +kernel
theorem dX1_makeGroups_97 : decode cX1_makeGroups 97 = .ok (.iload_n 1, 1) := by decide +kernel
theorem dX1_makeGroups_98 : decode cX1_makeGroups 98 = .ok (.ifCond .le 36, 3) := by decide +kernel
theorem dX1_makeGroups_101 : decode cX1_makeGroups 101 = .ok (.aload_n 0, 1) := by decide +kernel
theorem dX1_makeGroups_102 : decode cX1_makeGroups 102 = .ok (.getfield 39, 3) := by decide +kernel
theorem dX1_makeGroups_105 : decode cX1_makeGroups 105 = .ok (.aload_n 0, 1) := by decide +kernel
theorem dX1_makeGroups_106 : decode cX1_makeGroups 106 = .ok (.getfield 53, 3) := by decide +kernel
theorem dX1_makeGroups_109 : decode cX1_makeGroups 109 = .ok (.iload_n 1, 1) := by decide +kernel
theorem dX1_makeGroups_110 : decode cX1_makeGroups 110 = .ok (.iconst 1, 1) := by decide +kernel
theorem dX1_makeGroups_111 : decode cX1_makeGroups 111 = .ok (.isub, 1) := by decide +kernel
theorem dX1_makeGroups_112 : decode cX1_makeGroups 112 = .ok (.iaload, 1) := by decide +kernel
theorem dX1_makeGroups_113 : decode cX1_makeGroups 113 = .ok (.aaload, 1) := by decide +kernel
theorem dX1_makeGroups_114 : decode cX1_makeGroups 114 = .ok (.aload_n 0, 1) := by decide +kernel
theorem dX1_makeGroups_115 : decode cX1_makeGroups 115 = .ok (.getfield 39, 3) := by decide +kernel
theorem dX1_makeGroups_118 : decode cX1_makeGroups 118 = .ok (.aload_n 0, 1) := by decide +kernel
theorem dX1_makeGroups_119 : decode cX1_makeGroups 119 = .ok (.getfield 53, 3) := by decide +kernel
theorem dX1_makeGroups_122 : decode cX1_makeGroups 122 = .ok (.iload_n 1, 1) := by decide +kernel
theorem dX1_makeGroups_123 : decode cX1_makeGroups 123 = .ok (.iaload, 1) := by decide +kernel
theorem dX1_makeGroups_124 : decode cX1_makeGroups 124 = .ok (.aaload, 1) := by decide +kernel
theorem dX1_makeGroups_125 : decode cX1_makeGroups 125 = .ok (.invokestatic 169, 3) := by decide +kernel
theorem dX1_makeGroups_128 : decode cX1_makeGroups 128 = .ok (.ifCond .ne 6, 3) := by decide +kernel
theorem dX1_makeGroups_131 : decode cX1_makeGroups 131 = .ok (.goto 23, 3) := by decide +kernel
theorem dX1_makeGroups_134 : decode cX1_makeGroups 134 = .ok (.aload_n 0, 1) := by decide +kernel
theorem dX1_makeGroups_135 : decode cX1_makeGroups 135 = .ok (.getfield 57, 3) := by decide +kernel
theorem dX1_makeGroups_138 : decode cX1_makeGroups 138 = .ok (.aload_n 0, 1) := by decide +kernel
theorem dX1_makeGroups_139 : decode cX1_makeGroups 139 = .ok (.getfield 186, 3) := by decide +kernel
theorem dX1_makeGroups_142 : decode cX1_makeGroups 142 = .ok (.iload_n 1, 1) := by decide +kernel
theorem dX1_makeGroups_143 : decode cX1_makeGroups 143 = .ok (.iastore, 1) := by decide +kernel
theorem dX1_makeGroups_144 : decode cX1_makeGroups 144 = .ok (.aload_n 0, 1) := by decide +kernel
theorem dX1_makeGroups_145 : decode cX1_makeGroups 145 = .ok (.dup, 1) := by decide +kernel
theorem dX1_makeGroups_146 : decode cX1_makeGroups 146 = .ok (.getfield 186, 3) := by decide +kernel
theorem dX1_makeGroups_149 : decode cX1_makeGroups 149 = .ok (.iconst 1, 1) := by decide +kernel
theorem dX1_makeGroups_150 : decode cX1_makeGroups 150 = .ok (.iadd, 1) := by decide +kernel
theorem dX1_makeGroups_151 : decode cX1_makeGroups 151 = .ok (.putfield 186, 3) := by decide +kernel
theorem dX1_makeGroups_154 : decode cX1_makeGroups 154 = .ok (.iinc 1 1, 3) := by decide +kernel
theorem dX1_makeGroups_157 : decode cX1_makeGroups 157 = .ok (.goto (-71), 3) := by decide +kernel
theorem dX1_makeGroups_160 : decode cX1_makeGroups 160 = .ok (.aload_n 0, 1) := by decide +kernel
theorem dX1_makeGroups_161 : decode cX1_makeGroups 161 = .ok (.getfield 57, 3) := by decide +kernel
theorem dX1_makeGroups_164 : decode cX1_makeGroups 164 = .ok (.aload_n 0, 1) := by decide +kernel
theorem dX1_makeGroups_165 : decode cX1_makeGroups 165 = .ok (.getfield 186, 3) := by decide +kernel
theorem dX1_makeGroups_168 : decode cX1_makeGroups 168 = .ok (.aload_n 0, 1) := by decide +kernel
theorem dX1_makeGroups_169 : decode cX1_makeGroups 169 = .ok (.getfield 22, 3) := by decide +kernel
theorem dX1_makeGroups_172 : decode cX1_makeGroups 172 = .ok (.getfield 92, 3) := by decide +kernel
theorem dX1_makeGroups_175 : decode cX1_makeGroups 175 = .ok (.iastore, 1) := by decide +kernel
theorem dX1_makeGroups_176 : decode cX1_makeGroups 176 = .ok (.return_, 1) := by decide +kernel
abbrev cX1_namings : ByteArray := prog_3_method_20_code
def yX1_namings : MethodName := ⟨RX1, "namings", "()J"⟩
theorem dX1_namings_0 : decode cX1_namings 0 = .ok (.lconst 1, 1) := by decide +kernel
theorem dX1_namings_1 : decode cX1_namings 1 = .ok (.lstore_n 1, 1) := by decide +kernel
theorem dX1_namings_2 : decode cX1_namings 2 = .ok (.iconst 0, 1) := by decide +kernel
theorem dX1_namings_3 : decode cX1_namings 3 = .ok (.istore_n 3, 1) := by decide +kernel
theorem dX1_namings_4 : decode cX1_namings 4 = .ok (.iload_n 3, 1) := by decide +kernel
theorem dX1_namings_5 : decode cX1_namings 5 = .ok (.aload_n 0, 1) := by decide +kernel
theorem dX1_namings_6 : decode cX1_namings 6 = .ok (.getfield 186, 3) := by decide +kernel
theorem dX1_namings_9 : decode cX1_namings 9 = .ok (.if_icmp .ge 44, 3) := by decide +kernel
theorem dX1_namings_12 : decode cX1_namings 12 = .ok (.iconst 2, 1) := by decide +kernel
theorem dX1_namings_13 : decode cX1_namings 13 = .ok (.istore 4, 2) := by decide +kernel
theorem dX1_namings_15 : decode cX1_namings 15 = .ok (.iload 4, 2) := by decide +kernel
theorem dX1_namings_17 : decode cX1_namings 17 = .ok (.aload_n 0, 1) := by decide +kernel
theorem dX1_namings_18 : decode cX1_namings 18 = .ok (.getfield 57, 3) := by decide +kernel
theorem dX1_namings_21 : decode cX1_namings 21 = .ok (.iload_n 3, 1) := by decide +kernel
theorem dX1_namings_22 : decode cX1_namings 22 = .ok (.iconst 1, 1) := by decide +kernel
theorem dX1_namings_23 : decode cX1_namings 23 = .ok (.iadd, 1) := by decide +kernel
theorem dX1_namings_24 : decode cX1_namings 24 = .ok (.iaload, 1) := by decide +kernel
theorem dX1_namings_25 : decode cX1_namings 25 = .ok (.aload_n 0, 1) := by decide +kernel
theorem dX1_namings_26 : decode cX1_namings 26 = .ok (.getfield 57, 3) := by decide +kernel
theorem dX1_namings_29 : decode cX1_namings 29 = .ok (.iload_n 3, 1) := by decide +kernel
theorem dX1_namings_30 : decode cX1_namings 30 = .ok (.iaload, 1) := by decide +kernel
theorem dX1_namings_31 : decode cX1_namings 31 = .ok (.isub, 1) := by decide +kernel
theorem dX1_namings_32 : decode cX1_namings 32 = .ok (.if_icmp .gt 15, 3) := by decide +kernel
theorem dX1_namings_35 : decode cX1_namings 35 = .ok (.lload_n 1, 1) := by decide +kernel
theorem dX1_namings_36 : decode cX1_namings 36 = .ok (.iload 4, 2) := by decide +kernel
theorem dX1_namings_38 : decode cX1_namings 38 = .ok (.i2l, 1) := by decide +kernel
theorem dX1_namings_39 : decode cX1_namings 39 = .ok (.lmul, 1) := by decide +kernel
theorem dX1_namings_40 : decode cX1_namings 40 = .ok (.lstore_n 1, 1) := by decide +kernel
theorem dX1_namings_41 : decode cX1_namings 41 = .ok (.iinc 4 1, 3) := by decide +kernel
theorem dX1_namings_44 : decode cX1_namings 44 = .ok (.goto (-29), 3) := by decide +kernel
theorem dX1_namings_47 : decode cX1_namings 47 = .ok (.iinc 3 1, 3) := by decide +kernel
theorem dX1_namings_50 : decode cX1_namings 50 = .ok (.goto (-46), 3) := by decide +kernel
theorem dX1_namings_53 : decode cX1_namings 53 = .ok (.lload_n 1, 1) := by decide +kernel
theorem dX1_namings_54 : decode cX1_namings 54 = .ok (.lreturn, 1) := by decide +kernel
abbrev cX1_search : ByteArray := prog_3_method_22_code
def yX1_search : MethodName := ⟨RX1, "search", "(LKnowHouse$CanonNames;II)V"⟩
theorem dX1_search_0 : decode cX1_search 0 = .ok (.iload_n 1, 1) := by decide +kernel
theorem dX1_search_1 : decode cX1_search 1 = .ok (.aload_n 0, 1) := by decide +kernel
theorem dX1_search_2 : decode cX1_search 2 = .ok (.getfield 22, 3) := by decide +kernel
theorem dX1_search_5 : decode cX1_search 5 = .ok (.getfield 92, 3) := by decide +kernel
theorem dX1_search_8 : decode cX1_search 8 = .ok (.if_icmp .ne 8, 3) := by decide +kernel
theorem dX1_search_11 : decode cX1_search 11 = .ok (.aload_n 0, 1) := by decide +kernel
theorem dX1_search_12 : decode cX1_search 12 = .ok (.invokevirtual 212, 3) := by decide +kernel
theorem dX1_search_15 : decode cX1_search 15 = .ok (.return_, 1) := by decide +kernel
theorem dX1_search_16 : decode cX1_search 16 = .ok (.iload_n 1, 1) := by decide +kernel
theorem dX1_search_17 : decode cX1_search 17 = .ok (.aload_n 0, 1) := by decide +kernel
theorem dX1_search_18 : decode cX1_search 18 = .ok (.getfield 57, 3) := by decide +kernel
theorem dX1_search_21 : decode cX1_search 21 = .ok (.iload_n 2, 1) := by decide +kernel
theorem dX1_search_22 : decode cX1_search 22 = .ok (.iconst 1, 1) := by decide +kernel
theorem dX1_search_23 : decode cX1_search 23 = .ok (.iadd, 1) := by decide +kernel
theorem dX1_search_24 : decode cX1_search 24 = .ok (.iaload, 1) := by decide +kernel
theorem dX1_search_25 : decode cX1_search 25 = .ok (.if_icmp .ge 7, 3) := by decide +kernel
theorem dX1_search_28 : decode cX1_search 28 = .ok (.iload_n 2, 1) := by decide +kernel
theorem dX1_search_29 : decode cX1_search 29 = .ok (.goto 6, 3) := by decide +kernel
theorem dX1_search_32 : decode cX1_search 32 = .ok (.iload_n 2, 1) := by decide +kernel
theorem dX1_search_33 : decode cX1_search 33 = .ok (.iconst 1, 1) := by decide +kernel
theorem dX1_search_34 : decode cX1_search 34 = .ok (.iadd, 1) := by decide +kernel
theorem dX1_search_35 : decode cX1_search 35 = .ok (.istore_n 3, 1) := by decide +kernel
theorem dX1_search_36 : decode cX1_search 36 = .ok (.aload_n 0, 1) := by decide +kernel
theorem dX1_search_37 : decode cX1_search 37 = .ok (.getfield 57, 3) := by decide +kernel
theorem dX1_search_40 : decode cX1_search 40 = .ok (.iload_n 3, 1) := by decide +kernel
theorem dX1_search_41 : decode cX1_search 41 = .ok (.iaload, 1) := by decide +kernel
theorem dX1_search_42 : decode cX1_search 42 = .ok (.istore 4, 2) := by decide +kernel
theorem dX1_search_44 : decode cX1_search 44 = .ok (.iload 4, 2) := by decide +kernel
theorem dX1_search_46 : decode cX1_search 46 = .ok (.aload_n 0, 1) := by decide +kernel
theorem dX1_search_47 : decode cX1_search 47 = .ok (.getfield 57, 3) := by decide +kernel
theorem dX1_search_50 : decode cX1_search 50 = .ok (.iload_n 3, 1) := by decide +kernel
theorem dX1_search_51 : decode cX1_search 51 = .ok (.iconst 1, 1) := by decide +kernel
theorem dX1_search_52 : decode cX1_search 52 = .ok (.iadd, 1) := by decide +kernel
theorem dX1_search_53 : decode cX1_search 53 = .ok (.iaload, 1) := by decide +kernel
theorem dX1_search_54 : decode cX1_search 54 = .ok (.if_icmp .ge 57, 3) := by decide +kernel
theorem dX1_search_57 : decode cX1_search 57 = .ok (.aload_n 0, 1) := by decide +kernel
theorem dX1_search_58 : decode cX1_search 58 = .ok (.getfield 53, 3) := by decide +kernel
theorem dX1_search_61 : decode cX1_search 61 = .ok (.iload 4, 2) := by decide +kernel
theorem dX1_search_63 : decode cX1_search 63 = .ok (.iaload, 1) := by decide +kernel
theorem dX1_search_64 : decode cX1_search 64 = .ok (.istore 5, 2) := by decide +kernel
theorem dX1_search_66 : decode cX1_search 66 = .ok (.aload_n 0, 1) := by decide +kernel
theorem dX1_search_67 : decode cX1_search 67 = .ok (.getfield 60, 3) := by decide +kernel
theorem dX1_search_70 : decode cX1_search 70 = .ok (.iload 5, 2) := by decide +kernel
theorem dX1_search_72 : decode cX1_search 72 = .ok (.iaload, 1) := by decide +kernel
theorem dX1_search_73 : decode cX1_search 73 = .ok (.ifCond .eq 6, 3) := by decide +kernel
theorem dX1_search_76 : decode cX1_search 76 = .ok (.goto 29, 3) := by decide +kernel
theorem dX1_search_79 : decode cX1_search 79 = .ok (.aload_n 0, 1) := by decide +kernel
theorem dX1_search_80 : decode cX1_search 80 = .ok (.getfield 60, 3) := by decide +kernel
theorem dX1_search_83 : decode cX1_search 83 = .ok (.iload 5, 2) := by decide +kernel
theorem dX1_search_85 : decode cX1_search 85 = .ok (.iload_n 1, 1) := by decide +kernel
theorem dX1_search_86 : decode cX1_search 86 = .ok (.iconst 1, 1) := by decide +kernel
theorem dX1_search_87 : decode cX1_search 87 = .ok (.iadd, 1) := by decide +kernel
theorem dX1_search_88 : decode cX1_search 88 = .ok (.iastore, 1) := by decide +kernel
theorem dX1_search_89 : decode cX1_search 89 = .ok (.aload_n 0, 1) := by decide +kernel
theorem dX1_search_90 : decode cX1_search 90 = .ok (.iload_n 1, 1) := by decide +kernel
theorem dX1_search_91 : decode cX1_search 91 = .ok (.iconst 1, 1) := by decide +kernel
theorem dX1_search_92 : decode cX1_search 92 = .ok (.iadd, 1) := by decide +kernel
theorem dX1_search_93 : decode cX1_search 93 = .ok (.iload_n 3, 1) := by decide +kernel
theorem dX1_search_94 : decode cX1_search 94 = .ok (.invokestatic 202, 3) := by decide +kernel
theorem dX1_search_97 : decode cX1_search 97 = .ok (.aload_n 0, 1) := by decide +kernel
theorem dX1_search_98 : decode cX1_search 98 = .ok (.getfield 60, 3) := by decide +kernel
theorem dX1_search_101 : decode cX1_search 101 = .ok (.iload 5, 2) := by decide +kernel
theorem dX1_search_103 : decode cX1_search 103 = .ok (.iconst 0, 1) := by decide +kernel
theorem dX1_search_104 : decode cX1_search 104 = .ok (.iastore, 1) := by decide +kernel
theorem dX1_search_105 : decode cX1_search 105 = .ok (.iinc 4 1, 3) := by decide +kernel
theorem dX1_search_108 : decode cX1_search 108 = .ok (.goto (-64), 3) := by decide +kernel
theorem dX1_search_111 : decode cX1_search 111 = .ok (.return_, 1) := by decide +kernel
abbrev cX1_weigh : ByteArray := prog_3_method_23_code
def yX1_weigh : MethodName := ⟨RX1, "weigh", "()V"⟩
theorem dX1_weigh_0 : decode cX1_weigh 0 = .ok (.iconst 0, 1) := by decide +kernel
theorem dX1_weigh_1 : decode cX1_weigh 1 = .ok (.istore_n 1, 1) := by decide +kernel
theorem dX1_weigh_2 : decode cX1_weigh 2 = .ok (.iload_n 1, 1) := by decide +kernel
theorem dX1_weigh_3 : decode cX1_weigh 3 = .ok (.aload_n 0, 1) := by decide +kernel
theorem dX1_weigh_4 : decode cX1_weigh 4 = .ok (.getfield 22, 3) := by decide +kernel
theorem dX1_weigh_7 : decode cX1_weigh 7 = .ok (.getfield 115, 3) := by decide +kernel
theorem dX1_weigh_10 : decode cX1_weigh 10 = .ok (.if_icmp .ge 130, 3) := by decide +kernel
theorem dX1_weigh_13 : decode cX1_weigh 13 = .ok (.aload_n 0, 1) := by decide +kernel
theorem dX1_weigh_14 : decode cX1_weigh 14 = .ok (.getfield 22, 3) := by decide +kernel
theorem dX1_weigh_17 : decode cX1_weigh 17 = .ok (.getfield 141, 3) := by decide +kernel
theorem dX1_weigh_20 : decode cX1_weigh 20 = .ok (.iload_n 1, 1) := by decide +kernel
theorem dX1_weigh_21 : decode cX1_weigh 21 = .ok (.laload, 1) := by decide +kernel
theorem dX1_weigh_22 : decode cX1_weigh 22 = .ok (.lstore_n 2, 1) := by decide +kernel
theorem dX1_weigh_23 : decode cX1_weigh 23 = .ok (.lconst 0, 1) := by decide +kernel
theorem dX1_weigh_24 : decode cX1_weigh 24 = .ok (.lstore 4, 2) := by decide +kernel
theorem dX1_weigh_26 : decode cX1_weigh 26 = .ok (.iconst 0, 1) := by decide +kernel
theorem dX1_weigh_27 : decode cX1_weigh 27 = .ok (.istore 6, 2) := by decide +kernel
theorem dX1_weigh_29 : decode cX1_weigh 29 = .ok (.iload 6, 2) := by decide +kernel
theorem dX1_weigh_31 : decode cX1_weigh 31 = .ok (.iconst 3, 1) := by decide +kernel
theorem dX1_weigh_32 : decode cX1_weigh 32 = .ok (.if_icmp .ge 48, 3) := by decide +kernel
theorem dX1_weigh_35 : decode cX1_weigh 35 = .ok (.lload_n 2, 1) := by decide +kernel
theorem dX1_weigh_36 : decode cX1_weigh 36 = .ok (.iload 6, 2) := by decide +kernel
theorem dX1_weigh_38 : decode cX1_weigh 38 = .ok (.invokestatic 131, 3) := by decide +kernel
theorem dX1_weigh_41 : decode cX1_weigh 41 = .ok (.istore 7, 2) := by decide +kernel
theorem dX1_weigh_43 : decode cX1_weigh 43 = .ok (.lload 4, 2) := by decide +kernel
theorem dX1_weigh_45 : decode cX1_weigh 45 = .ok (.bipush 10, 2) := by decide +kernel
theorem dX1_weigh_47 : decode cX1_weigh 47 = .ok (.lshl, 1) := by decide +kernel
theorem dX1_weigh_48 : decode cX1_weigh 48 = .ok (.iload 7, 2) := by decide +kernel
theorem dX1_weigh_50 : decode cX1_weigh 50 = .ok (.ifCond .ge 15, 3) := by decide +kernel
theorem dX1_weigh_53 : decode cX1_weigh 53 = .ok (.aload_n 0, 1) := by decide +kernel
theorem dX1_weigh_54 : decode cX1_weigh 54 = .ok (.getfield 60, 3) := by decide +kernel
theorem dX1_weigh_57 : decode cX1_weigh 57 = .ok (.iload 7, 2) := by decide +kernel
theorem dX1_weigh_59 : decode cX1_weigh 59 = .ok (.ineg, 1) := by decide +kernel
theorem dX1_weigh_60 : decode cX1_weigh 60 = .ok (.iaload, 1) := by decide +kernel
theorem dX1_weigh_61 : decode cX1_weigh 61 = .ok (.ineg, 1) := by decide +kernel
theorem dX1_weigh_62 : decode cX1_weigh 62 = .ok (.goto 5, 3) := by decide +kernel
theorem dX1_weigh_65 : decode cX1_weigh 65 = .ok (.iload 7, 2) := by decide +kernel
theorem dX1_weigh_67 : decode cX1_weigh 67 = .ok (.bipush 8, 2) := by decide +kernel
theorem dX1_weigh_69 : decode cX1_weigh 69 = .ok (.iadd, 1) := by decide +kernel
theorem dX1_weigh_70 : decode cX1_weigh 70 = .ok (.i2l, 1) := by decide +kernel
theorem dX1_weigh_71 : decode cX1_weigh 71 = .ok (.lor, 1) := by decide +kernel
theorem dX1_weigh_72 : decode cX1_weigh 72 = .ok (.lstore 4, 2) := by decide +kernel
theorem dX1_weigh_74 : decode cX1_weigh 74 = .ok (.iinc 6 1, 3) := by decide +kernel
theorem dX1_weigh_77 : decode cX1_weigh 77 = .ok (.goto (-48), 3) := by decide +kernel
theorem dX1_weigh_80 : decode cX1_weigh 80 = .ok (.iload_n 1, 1) := by decide +kernel
theorem dX1_weigh_81 : decode cX1_weigh 81 = .ok (.istore 6, 2) := by decide +kernel
theorem dX1_weigh_83 : decode cX1_weigh 83 = .ok (.iload 6, 2) := by decide +kernel
theorem dX1_weigh_85 : decode cX1_weigh 85 = .ok (.ifCond .le 40, 3) := by decide +kernel
theorem dX1_weigh_88 : decode cX1_weigh 88 = .ok (.aload_n 0, 1) := by decide +kernel
theorem dX1_weigh_89 : decode cX1_weigh 89 = .ok (.getfield 66, 3) := by decide +kernel
theorem dX1_weigh_92 : decode cX1_weigh 92 = .ok (.iload 6, 2) := by decide +kernel
theorem dX1_weigh_94 : decode cX1_weigh 94 = .ok (.iconst 1, 1) := by decide +kernel
theorem dX1_weigh_95 : decode cX1_weigh 95 = .ok (.isub, 1) := by decide +kernel
theorem dX1_weigh_96 : decode cX1_weigh 96 = .ok (.laload, 1) := by decide +kernel
theorem dX1_weigh_97 : decode cX1_weigh 97 = .ok (.lload 4, 2) := by decide +kernel
theorem dX1_weigh_99 : decode cX1_weigh 99 = .ok (.lcmp, 1) := by decide +kernel
theorem dX1_weigh_100 : decode cX1_weigh 100 = .ok (.ifCond .le 25, 3) := by decide +kernel
theorem dX1_weigh_103 : decode cX1_weigh 103 = .ok (.aload_n 0, 1) := by decide +kernel
theorem dX1_weigh_104 : decode cX1_weigh 104 = .ok (.getfield 66, 3) := by decide +kernel
theorem dX1_weigh_107 : decode cX1_weigh 107 = .ok (.iload 6, 2) := by decide +kernel
theorem dX1_weigh_109 : decode cX1_weigh 109 = .ok (.aload_n 0, 1) := by decide +kernel
theorem dX1_weigh_110 : decode cX1_weigh 110 = .ok (.getfield 66, 3) := by decide +kernel
theorem dX1_weigh_113 : decode cX1_weigh 113 = .ok (.iload 6, 2) := by decide +kernel
theorem dX1_weigh_115 : decode cX1_weigh 115 = .ok (.iconst 1, 1) := by decide +kernel
theorem dX1_weigh_116 : decode cX1_weigh 116 = .ok (.isub, 1) := by decide +kernel
theorem dX1_weigh_117 : decode cX1_weigh 117 = .ok (.laload, 1) := by decide +kernel
theorem dX1_weigh_118 : decode cX1_weigh 118 = .ok (.lastore, 1) := by decide +kernel
theorem dX1_weigh_119 : decode cX1_weigh 119 = .ok (.iinc 6 (-1), 3) := by decide +kernel
theorem dX1_weigh_122 : decode cX1_weigh 122 = .ok (.goto (-39), 3) := by decide +kernel
theorem dX1_weigh_125 : decode cX1_weigh 125 = .ok (.aload_n 0, 1) := by decide +kernel
theorem dX1_weigh_126 : decode cX1_weigh 126 = .ok (.getfield 66, 3) := by decide +kernel
theorem dX1_weigh_129 : decode cX1_weigh 129 = .ok (.iload 6, 2) := by decide +kernel
theorem dX1_weigh_131 : decode cX1_weigh 131 = .ok (.lload 4, 2) := by decide +kernel
theorem dX1_weigh_133 : decode cX1_weigh 133 = .ok (.lastore, 1) := by decide +kernel
theorem dX1_weigh_134 : decode cX1_weigh 134 = .ok (.iinc 1 1, 3) := by decide +kernel
theorem dX1_weigh_137 : decode cX1_weigh 137 = .ok (.goto (-135), 3) := by decide +kernel
theorem dX1_weigh_140 : decode cX1_weigh 140 = .ok (.aload_n 0, 1) := by decide +kernel
theorem dX1_weigh_141 : decode cX1_weigh 141 = .ok (.getfield 196, 3) := by decide +kernel
theorem dX1_weigh_144 : decode cX1_weigh 144 = .ok (.ifCond .eq 7, 3) := by decide +kernel
theorem dX1_weigh_147 : decode cX1_weigh 147 = .ok (.iconst 0, 1) := by decide +kernel
theorem dX1_weigh_148 : decode cX1_weigh 148 = .ok (.goto 4, 3) := by decide +kernel
theorem dX1_weigh_151 : decode cX1_weigh 151 = .ok (.iconst (-1), 1) := by decide +kernel
theorem dX1_weigh_152 : decode cX1_weigh 152 = .ok (.istore_n 1, 1) := by decide +kernel
theorem dX1_weigh_153 : decode cX1_weigh 153 = .ok (.iconst 0, 1) := by decide +kernel
theorem dX1_weigh_154 : decode cX1_weigh 154 = .ok (.istore_n 2, 1) := by decide +kernel
theorem dX1_weigh_155 : decode cX1_weigh 155 = .ok (.iload_n 2, 1) := by decide +kernel
theorem dX1_weigh_156 : decode cX1_weigh 156 = .ok (.aload_n 0, 1) := by decide +kernel
theorem dX1_weigh_157 : decode cX1_weigh 157 = .ok (.getfield 22, 3) := by decide +kernel
theorem dX1_weigh_160 : decode cX1_weigh 160 = .ok (.getfield 115, 3) := by decide +kernel
theorem dX1_weigh_163 : decode cX1_weigh 163 = .ok (.if_icmp .ge 29, 3) := by decide +kernel
theorem dX1_weigh_166 : decode cX1_weigh 166 = .ok (.iload_n 1, 1) := by decide +kernel
theorem dX1_weigh_167 : decode cX1_weigh 167 = .ok (.ifCond .ne 25, 3) := by decide +kernel
theorem dX1_weigh_170 : decode cX1_weigh 170 = .ok (.aload_n 0, 1) := by decide +kernel
theorem dX1_weigh_171 : decode cX1_weigh 171 = .ok (.getfield 66, 3) := by decide +kernel
theorem dX1_weigh_174 : decode cX1_weigh 174 = .ok (.iload_n 2, 1) := by decide +kernel
theorem dX1_weigh_175 : decode cX1_weigh 175 = .ok (.laload, 1) := by decide +kernel
theorem dX1_weigh_176 : decode cX1_weigh 176 = .ok (.aload_n 0, 1) := by decide +kernel
theorem dX1_weigh_177 : decode cX1_weigh 177 = .ok (.getfield 70, 3) := by decide +kernel
theorem dX1_weigh_180 : decode cX1_weigh 180 = .ok (.iload_n 2, 1) := by decide +kernel
theorem dX1_weigh_181 : decode cX1_weigh 181 = .ok (.laload, 1) := by decide +kernel
theorem dX1_weigh_182 : decode cX1_weigh 182 = .ok (.invokestatic 215, 3) := by decide +kernel
theorem dX1_weigh_185 : decode cX1_weigh 185 = .ok (.istore_n 1, 1) := by decide +kernel
theorem dX1_weigh_186 : decode cX1_weigh 186 = .ok (.iinc 2 1, 3) := by decide +kernel
theorem dX1_weigh_189 : decode cX1_weigh 189 = .ok (.goto (-34), 3) := by decide +kernel
theorem dX1_weigh_192 : decode cX1_weigh 192 = .ok (.iload_n 1, 1) := by decide +kernel
theorem dX1_weigh_193 : decode cX1_weigh 193 = .ok (.ifCond .le 4, 3) := by decide +kernel
theorem dX1_weigh_196 : decode cX1_weigh 196 = .ok (.return_, 1) := by decide +kernel
theorem dX1_weigh_197 : decode cX1_weigh 197 = .ok (.aload_n 0, 1) := by decide +kernel
theorem dX1_weigh_198 : decode cX1_weigh 198 = .ok (.iload_n 1, 1) := by decide +kernel
theorem dX1_weigh_199 : decode cX1_weigh 199 = .ok (.ifCond .ge 7, 3) := by decide +kernel
theorem dX1_weigh_202 : decode cX1_weigh 202 = .ok (.iconst 1, 1) := by decide +kernel
theorem dX1_weigh_203 : decode cX1_weigh 203 = .ok (.goto 9, 3) := by decide +kernel
theorem dX1_weigh_206 : decode cX1_weigh 206 = .ok (.aload_n 0, 1) := by decide +kernel
theorem dX1_weigh_207 : decode cX1_weigh 207 = .ok (.getfield 199, 3) := by decide +kernel
theorem dX1_weigh_210 : decode cX1_weigh 210 = .ok (.iconst 1, 1) := by decide +kernel
theorem dX1_weigh_211 : decode cX1_weigh 211 = .ok (.iadd, 1) := by decide +kernel
theorem dX1_weigh_212 : decode cX1_weigh 212 = .ok (.putfield 199, 3) := by decide +kernel
theorem dX1_weigh_215 : decode cX1_weigh 215 = .ok (.iconst 1, 1) := by decide +kernel
theorem dX1_weigh_216 : decode cX1_weigh 216 = .ok (.istore_n 2, 1) := by decide +kernel
theorem dX1_weigh_217 : decode cX1_weigh 217 = .ok (.iload_n 2, 1) := by decide +kernel
theorem dX1_weigh_218 : decode cX1_weigh 218 = .ok (.bipush 8, 2) := by decide +kernel
theorem dX1_weigh_220 : decode cX1_weigh 220 = .ok (.if_icmp .gt 29, 3) := by decide +kernel
theorem dX1_weigh_223 : decode cX1_weigh 223 = .ok (.iload_n 1, 1) := by decide +kernel
theorem dX1_weigh_224 : decode cX1_weigh 224 = .ok (.ifCond .ne 25, 3) := by decide +kernel
theorem dX1_weigh_227 : decode cX1_weigh 227 = .ok (.aload_n 0, 1) := by decide +kernel
theorem dX1_weigh_228 : decode cX1_weigh 228 = .ok (.getfield 60, 3) := by decide +kernel
theorem dX1_weigh_231 : decode cX1_weigh 231 = .ok (.iload_n 2, 1) := by decide +kernel
theorem dX1_weigh_232 : decode cX1_weigh 232 = .ok (.iaload, 1) := by decide +kernel
theorem dX1_weigh_233 : decode cX1_weigh 233 = .ok (.aload_n 0, 1) := by decide +kernel
theorem dX1_weigh_234 : decode cX1_weigh 234 = .ok (.getfield 63, 3) := by decide +kernel
theorem dX1_weigh_237 : decode cX1_weigh 237 = .ok (.iload_n 2, 1) := by decide +kernel
theorem dX1_weigh_238 : decode cX1_weigh 238 = .ok (.iaload, 1) := by decide +kernel
theorem dX1_weigh_239 : decode cX1_weigh 239 = .ok (.invokestatic 220, 3) := by decide +kernel
theorem dX1_weigh_242 : decode cX1_weigh 242 = .ok (.istore_n 1, 1) := by decide +kernel
theorem dX1_weigh_243 : decode cX1_weigh 243 = .ok (.iinc 2 1, 3) := by decide +kernel
theorem dX1_weigh_246 : decode cX1_weigh 246 = .ok (.goto (-29), 3) := by decide +kernel
theorem dX1_weigh_249 : decode cX1_weigh 249 = .ok (.iload_n 1, 1) := by decide +kernel
theorem dX1_weigh_250 : decode cX1_weigh 250 = .ok (.ifCond .lt 4, 3) := by decide +kernel
theorem dX1_weigh_253 : decode cX1_weigh 253 = .ok (.return_, 1) := by decide +kernel
theorem dX1_weigh_254 : decode cX1_weigh 254 = .ok (.aload_n 0, 1) := by decide +kernel
theorem dX1_weigh_255 : decode cX1_weigh 255 = .ok (.iconst 1, 1) := by decide +kernel
theorem dX1_weigh_256 : decode cX1_weigh 256 = .ok (.putfield 196, 3) := by decide +kernel
theorem dX1_weigh_259 : decode cX1_weigh 259 = .ok (.aload_n 0, 1) := by decide +kernel
theorem dX1_weigh_260 : decode cX1_weigh 260 = .ok (.getfield 66, 3) := by decide +kernel
theorem dX1_weigh_263 : decode cX1_weigh 263 = .ok (.iconst 0, 1) := by decide +kernel
theorem dX1_weigh_264 : decode cX1_weigh 264 = .ok (.aload_n 0, 1) := by decide +kernel
theorem dX1_weigh_265 : decode cX1_weigh 265 = .ok (.getfield 70, 3) := by decide +kernel
theorem dX1_weigh_268 : decode cX1_weigh 268 = .ok (.iconst 0, 1) := by decide +kernel
theorem dX1_weigh_269 : decode cX1_weigh 269 = .ok (.aload_n 0, 1) := by decide +kernel
theorem dX1_weigh_270 : decode cX1_weigh 270 = .ok (.getfield 22, 3) := by decide +kernel
theorem dX1_weigh_273 : decode cX1_weigh 273 = .ok (.getfield 115, 3) := by decide +kernel
theorem dX1_weigh_276 : decode cX1_weigh 276 = .ok (.invokestatic 157, 3) := by decide +kernel
theorem dX1_weigh_279 : decode cX1_weigh 279 = .ok (.aload_n 0, 1) := by decide +kernel
theorem dX1_weigh_280 : decode cX1_weigh 280 = .ok (.getfield 60, 3) := by decide +kernel
theorem dX1_weigh_283 : decode cX1_weigh 283 = .ok (.iconst 0, 1) := by decide +kernel
theorem dX1_weigh_284 : decode cX1_weigh 284 = .ok (.aload_n 0, 1) := by decide +kernel
theorem dX1_weigh_285 : decode cX1_weigh 285 = .ok (.getfield 63, 3) := by decide +kernel
theorem dX1_weigh_288 : decode cX1_weigh 288 = .ok (.iconst 0, 1) := by decide +kernel
theorem dX1_weigh_289 : decode cX1_weigh 289 = .ok (.bipush 9, 2) := by decide +kernel
theorem dX1_weigh_291 : decode cX1_weigh 291 = .ok (.invokestatic 157, 3) := by decide +kernel
theorem dX1_weigh_294 : decode cX1_weigh 294 = .ok (.return_, 1) := by decide +kernel
abbrev cX1_isomorphic : ByteArray := prog_3_method_29_code
def yX1_isomorphic : MethodName := ⟨RX1, "isomorphic", "(I)I"⟩
theorem dX1_isomorphic_0 : decode cX1_isomorphic 0 = .ok (.aload_n 0, 1) := by decide +kernel
theorem dX1_isomorphic_1 : decode cX1_isomorphic 1 = .ok (.iload_n 1, 1) := by decide +kernel
theorem dX1_isomorphic_2 : decode cX1_isomorphic 2 = .ok (.invokevirtual 225, 3) := by decide +kernel
theorem dX1_isomorphic_5 : decode cX1_isomorphic 5 = .ok (.ifCond .eq 12, 3) := by decide +kernel
theorem dX1_isomorphic_8 : decode cX1_isomorphic 8 = .ok (.aload_n 0, 1) := by decide +kernel
theorem dX1_isomorphic_9 : decode cX1_isomorphic 9 = .ok (.iload_n 1, 1) := by decide +kernel
theorem dX1_isomorphic_10 : decode cX1_isomorphic 10 = .ok (.iconst 1, 1) := by decide +kernel
theorem dX1_isomorphic_11 : decode cX1_isomorphic 11 = .ok (.invokevirtual 228, 3) := by decide +kernel
theorem dX1_isomorphic_14 : decode cX1_isomorphic 14 = .ok (.goto 4, 3) := by decide +kernel
theorem dX1_isomorphic_17 : decode cX1_isomorphic 17 = .ok (.iconst (-1), 1) := by decide +kernel
theorem dX1_isomorphic_18 : decode cX1_isomorphic 18 = .ok (.ireturn, 1) := by decide +kernel
abbrev cX1_isKept : ByteArray := prog_3_method_28_code
def yX1_isKept : MethodName := ⟨RX1, "isKept", "(I)Z"⟩
theorem dX1_isKept_0 : decode cX1_isKept 0 = .ok (.iload_n 1, 1) := by decide +kernel
theorem dX1_isKept_1 : decode cX1_isKept 1 = .ok (.ifCond .lt 15, 3) := by decide +kernel
theorem dX1_isKept_4 : decode cX1_isKept 4 = .ok (.iload_n 1, 1) := by decide +kernel
theorem dX1_isKept_5 : decode cX1_isKept 5 = .ok (.aload_n 0, 1) := by decide +kernel
theorem dX1_isKept_6 : decode cX1_isKept 6 = .ok (.getfield 222, 3) := by decide +kernel
theorem dX1_isKept_9 : decode cX1_isKept 9 = .ok (.if_icmp .ge 7, 3) := by decide +kernel
theorem dX1_isKept_12 : decode cX1_isKept 12 = .ok (.iconst 1, 1) := by decide +kernel
theorem dX1_isKept_13 : decode cX1_isKept 13 = .ok (.goto 4, 3) := by decide +kernel
theorem dX1_isKept_16 : decode cX1_isKept 16 = .ok (.iconst 0, 1) := by decide +kernel
theorem dX1_isKept_17 : decode cX1_isKept 17 = .ok (.ireturn, 1) := by decide +kernel
abbrev cX1_match : ByteArray := prog_3_method_31_code
def yX1_match : MethodName := ⟨RX1, "match", "(II)I"⟩
theorem dX1_match_0 : decode cX1_match 0 = .ok (.aload_n 0, 1) := by decide +kernel
theorem dX1_match_1 : decode cX1_match 1 = .ok (.getfield 26, 3) := by decide +kernel
theorem dX1_match_4 : decode cX1_match 4 = .ok (.iload_n 1, 1) := by decide +kernel
theorem dX1_match_5 : decode cX1_match 5 = .ok (.aaload, 1) := by decide +kernel
theorem dX1_match_6 : decode cX1_match 6 = .ok (.astore_n 3, 1) := by decide +kernel
theorem dX1_match_7 : decode cX1_match 7 = .ok (.aload_n 0, 1) := by decide +kernel
theorem dX1_match_8 : decode cX1_match 8 = .ok (.iconst 0, 1) := by decide +kernel
theorem dX1_match_9 : decode cX1_match 9 = .ok (.putfield 232, 3) := by decide +kernel
theorem dX1_match_12 : decode cX1_match 12 = .ok (.aload_n 0, 1) := by decide +kernel
theorem dX1_match_13 : decode cX1_match 13 = .ok (.iload_n 2, 1) := by decide +kernel
theorem dX1_match_14 : decode cX1_match 14 = .ok (.putfield 235, 3) := by decide +kernel
theorem dX1_match_17 : decode cX1_match 17 = .ok (.aload_n 0, 1) := by decide +kernel
theorem dX1_match_18 : decode cX1_match 18 = .ok (.iconst 0, 1) := by decide +kernel
theorem dX1_match_19 : decode cX1_match 19 = .ok (.putfield 238, 3) := by decide +kernel
theorem dX1_match_22 : decode cX1_match 22 = .ok (.aload_n 3, 1) := by decide +kernel
theorem dX1_match_23 : decode cX1_match 23 = .ok (.getfield 92, 3) := by decide +kernel
theorem dX1_match_26 : decode cX1_match 26 = .ok (.aload_n 0, 1) := by decide +kernel
theorem dX1_match_27 : decode cX1_match 27 = .ok (.getfield 22, 3) := by decide +kernel
theorem dX1_match_30 : decode cX1_match 30 = .ok (.getfield 92, 3) := by decide +kernel
theorem dX1_match_33 : decode cX1_match 33 = .ok (.if_icmp .ne 23, 3) := by decide +kernel
theorem dX1_match_36 : decode cX1_match 36 = .ok (.aload_n 3, 1) := by decide +kernel
theorem dX1_match_37 : decode cX1_match 37 = .ok (.getfield 115, 3) := by decide +kernel
theorem dX1_match_40 : decode cX1_match 40 = .ok (.aload_n 0, 1) := by decide +kernel
theorem dX1_match_41 : decode cX1_match 41 = .ok (.getfield 22, 3) := by decide +kernel
theorem dX1_match_44 : decode cX1_match 44 = .ok (.getfield 115, 3) := by decide +kernel
theorem dX1_match_47 : decode cX1_match 47 = .ok (.if_icmp .ne 9, 3) := by decide +kernel
theorem dX1_match_50 : decode cX1_match 50 = .ok (.aload_n 0, 1) := by decide +kernel
theorem dX1_match_51 : decode cX1_match 51 = .ok (.aload_n 3, 1) := by decide +kernel
theorem dX1_match_52 : decode cX1_match 52 = .ok (.iconst 1, 1) := by decide +kernel
theorem dX1_match_53 : decode cX1_match 53 = .ok (.invokestatic 241, 3) := by decide +kernel
theorem dX1_match_56 : decode cX1_match 56 = .ok (.aload_n 0, 1) := by decide +kernel
theorem dX1_match_57 : decode cX1_match 57 = .ok (.getfield 232, 3) := by decide +kernel
theorem dX1_match_60 : decode cX1_match 60 = .ok (.ireturn, 1) := by decide +kernel
abbrev cX1_pair : ByteArray := prog_3_method_32_code
def yX1_pair : MethodName := ⟨RX1, "pair", "(LKnowHouse$CanonNames;LKnowHouse$CanonNames$Graph;I)V"⟩
theorem dX1_pair_0 : decode cX1_pair 0 = .ok (.iload_n 2, 1) := by decide +kernel
theorem dX1_pair_1 : decode cX1_pair 1 = .ok (.aload_n 0, 1) := by decide +kernel
theorem dX1_pair_2 : decode cX1_pair 2 = .ok (.getfield 22, 3) := by decide +kernel
theorem dX1_pair_5 : decode cX1_pair 5 = .ok (.getfield 92, 3) := by decide +kernel
theorem dX1_pair_8 : decode cX1_pair 8 = .ok (.if_icmp .le 23, 3) := by decide +kernel
theorem dX1_pair_11 : decode cX1_pair 11 = .ok (.aload_n 0, 1) := by decide +kernel
theorem dX1_pair_12 : decode cX1_pair 12 = .ok (.aload_n 1, 1) := by decide +kernel
theorem dX1_pair_13 : decode cX1_pair 13 = .ok (.iload_n 2, 1) := by decide +kernel
theorem dX1_pair_14 : decode cX1_pair 14 = .ok (.invokevirtual 245, 3) := by decide +kernel
theorem dX1_pair_17 : decode cX1_pair 17 = .ok (.ifCond .eq 13, 3) := by decide +kernel
theorem dX1_pair_20 : decode cX1_pair 20 = .ok (.aload_n 0, 1) := by decide +kernel
theorem dX1_pair_21 : decode cX1_pair 21 = .ok (.dup, 1) := by decide +kernel
theorem dX1_pair_22 : decode cX1_pair 22 = .ok (.getfield 232, 3) := by decide +kernel
theorem dX1_pair_25 : decode cX1_pair 25 = .ok (.iconst 1, 1) := by decide +kernel
theorem dX1_pair_26 : decode cX1_pair 26 = .ok (.iadd, 1) := by decide +kernel
theorem dX1_pair_27 : decode cX1_pair 27 = .ok (.putfield 232, 3) := by decide +kernel
theorem dX1_pair_30 : decode cX1_pair 30 = .ok (.return_, 1) := by decide +kernel
theorem dX1_pair_31 : decode cX1_pair 31 = .ok (.iconst 1, 1) := by decide +kernel
theorem dX1_pair_32 : decode cX1_pair 32 = .ok (.istore_n 3, 1) := by decide +kernel
theorem dX1_pair_33 : decode cX1_pair 33 = .ok (.iload_n 3, 1) := by decide +kernel
theorem dX1_pair_34 : decode cX1_pair 34 = .ok (.aload_n 1, 1) := by decide +kernel
theorem dX1_pair_35 : decode cX1_pair 35 = .ok (.getfield 92, 3) := by decide +kernel
theorem dX1_pair_38 : decode cX1_pair 38 = .ok (.if_icmp .gt 83, 3) := by decide +kernel
theorem dX1_pair_41 : decode cX1_pair 41 = .ok (.aload_n 0, 1) := by decide +kernel
theorem dX1_pair_42 : decode cX1_pair 42 = .ok (.getfield 232, 3) := by decide +kernel
theorem dX1_pair_45 : decode cX1_pair 45 = .ok (.aload_n 0, 1) := by decide +kernel
theorem dX1_pair_46 : decode cX1_pair 46 = .ok (.getfield 235, 3) := by decide +kernel
theorem dX1_pair_49 : decode cX1_pair 49 = .ok (.if_icmp .ge 72, 3) := by decide +kernel
theorem dX1_pair_52 : decode cX1_pair 52 = .ok (.aload_n 0, 1) := by decide +kernel
theorem dX1_pair_53 : decode cX1_pair 53 = .ok (.getfield 238, 3) := by decide +kernel
theorem dX1_pair_56 : decode cX1_pair 56 = .ok (.iload_n 3, 1) := by decide +kernel
theorem dX1_pair_57 : decode cX1_pair 57 = .ok (.ishr, 1) := by decide +kernel
theorem dX1_pair_58 : decode cX1_pair 58 = .ok (.iconst 1, 1) := by decide +kernel
theorem dX1_pair_59 : decode cX1_pair 59 = .ok (.iand, 1) := by decide +kernel
theorem dX1_pair_60 : decode cX1_pair 60 = .ok (.iconst 1, 1) := by decide +kernel
theorem dX1_pair_61 : decode cX1_pair 61 = .ok (.if_icmp .ne 6, 3) := by decide +kernel
theorem dX1_pair_64 : decode cX1_pair 64 = .ok (.goto 51, 3) := by decide +kernel
theorem dX1_pair_67 : decode cX1_pair 67 = .ok (.aload_n 0, 1) := by decide +kernel
theorem dX1_pair_68 : decode cX1_pair 68 = .ok (.getfield 60, 3) := by decide +kernel
theorem dX1_pair_71 : decode cX1_pair 71 = .ok (.iload_n 2, 1) := by decide +kernel
theorem dX1_pair_72 : decode cX1_pair 72 = .ok (.iload_n 3, 1) := by decide +kernel
theorem dX1_pair_73 : decode cX1_pair 73 = .ok (.iastore, 1) := by decide +kernel
theorem dX1_pair_74 : decode cX1_pair 74 = .ok (.aload_n 0, 1) := by decide +kernel
theorem dX1_pair_75 : decode cX1_pair 75 = .ok (.dup, 1) := by decide +kernel
theorem dX1_pair_76 : decode cX1_pair 76 = .ok (.getfield 238, 3) := by decide +kernel
theorem dX1_pair_79 : decode cX1_pair 79 = .ok (.iconst 1, 1) := by decide +kernel
theorem dX1_pair_80 : decode cX1_pair 80 = .ok (.iload_n 3, 1) := by decide +kernel
theorem dX1_pair_81 : decode cX1_pair 81 = .ok (.ishl, 1) := by decide +kernel
theorem dX1_pair_82 : decode cX1_pair 82 = .ok (.ior, 1) := by decide +kernel
theorem dX1_pair_83 : decode cX1_pair 83 = .ok (.putfield 238, 3) := by decide +kernel
theorem dX1_pair_86 : decode cX1_pair 86 = .ok (.aload_n 0, 1) := by decide +kernel
theorem dX1_pair_87 : decode cX1_pair 87 = .ok (.aload_n 1, 1) := by decide +kernel
theorem dX1_pair_88 : decode cX1_pair 88 = .ok (.iload_n 2, 1) := by decide +kernel
theorem dX1_pair_89 : decode cX1_pair 89 = .ok (.invokevirtual 245, 3) := by decide +kernel
theorem dX1_pair_92 : decode cX1_pair 92 = .ok (.ifCond .eq 11, 3) := by decide +kernel
theorem dX1_pair_95 : decode cX1_pair 95 = .ok (.aload_n 0, 1) := by decide +kernel
theorem dX1_pair_96 : decode cX1_pair 96 = .ok (.aload_n 1, 1) := by decide +kernel
theorem dX1_pair_97 : decode cX1_pair 97 = .ok (.iload_n 2, 1) := by decide +kernel
theorem dX1_pair_98 : decode cX1_pair 98 = .ok (.iconst 1, 1) := by decide +kernel
theorem dX1_pair_99 : decode cX1_pair 99 = .ok (.iadd, 1) := by decide +kernel
theorem dX1_pair_100 : decode cX1_pair 100 = .ok (.invokestatic 241, 3) := by decide +kernel
theorem dX1_pair_103 : decode cX1_pair 103 = .ok (.aload_n 0, 1) := by decide +kernel
theorem dX1_pair_104 : decode cX1_pair 104 = .ok (.dup, 1) := by decide +kernel
theorem dX1_pair_105 : decode cX1_pair 105 = .ok (.getfield 238, 3) := by decide +kernel
theorem dX1_pair_108 : decode cX1_pair 108 = .ok (.iconst 1, 1) := by decide +kernel
theorem dX1_pair_109 : decode cX1_pair 109 = .ok (.iload_n 3, 1) := by decide +kernel
theorem dX1_pair_110 : decode cX1_pair 110 = .ok (.ishl, 1) := by decide +kernel
theorem dX1_pair_111 : decode cX1_pair 111 = .ok (.ixor, 1) := by decide +kernel
theorem dX1_pair_112 : decode cX1_pair 112 = .ok (.putfield 238, 3) := by decide +kernel
theorem dX1_pair_115 : decode cX1_pair 115 = .ok (.iinc 3 1, 3) := by decide +kernel
theorem dX1_pair_118 : decode cX1_pair 118 = .ok (.goto (-85), 3) := by decide +kernel
theorem dX1_pair_121 : decode cX1_pair 121 = .ok (.return_, 1) := by decide +kernel
abbrev cX1_isThere : ByteArray := prog_3_method_33_code
def yX1_isThere : MethodName := ⟨RX1, "isThere", "(LKnowHouse$CanonNames$Graph;I)Z"⟩
theorem dX1_isThere_0 : decode cX1_isThere 0 = .ok (.iconst 0, 1) := by decide +kernel
theorem dX1_isThere_1 : decode cX1_isThere 1 = .ok (.istore_n 3, 1) := by decide +kernel
theorem dX1_isThere_2 : decode cX1_isThere 2 = .ok (.iload_n 3, 1) := by decide +kernel
theorem dX1_isThere_3 : decode cX1_isThere 3 = .ok (.aload_n 0, 1) := by decide +kernel
theorem dX1_isThere_4 : decode cX1_isThere 4 = .ok (.getfield 22, 3) := by decide +kernel
theorem dX1_isThere_7 : decode cX1_isThere 7 = .ok (.getfield 115, 3) := by decide +kernel
theorem dX1_isThere_10 : decode cX1_isThere 10 = .ok (.if_icmp .ge 115, 3) := by decide +kernel
theorem dX1_isThere_13 : decode cX1_isThere 13 = .ok (.lconst 0, 1) := by decide +kernel
theorem dX1_isThere_14 : decode cX1_isThere 14 = .ok (.lstore 4, 2) := by decide +kernel
theorem dX1_isThere_16 : decode cX1_isThere 16 = .ok (.iconst 1, 1) := by decide +kernel
theorem dX1_isThere_17 : decode cX1_isThere 17 = .ok (.istore 6, 2) := by decide +kernel
theorem dX1_isThere_19 : decode cX1_isThere 19 = .ok (.iconst 0, 1) := by decide +kernel
theorem dX1_isThere_20 : decode cX1_isThere 20 = .ok (.istore 7, 2) := by decide +kernel
theorem dX1_isThere_22 : decode cX1_isThere 22 = .ok (.iload 7, 2) := by decide +kernel
theorem dX1_isThere_24 : decode cX1_isThere 24 = .ok (.iconst 3, 1) := by decide +kernel
theorem dX1_isThere_25 : decode cX1_isThere 25 = .ok (.if_icmp .ge 78, 3) := by decide +kernel
theorem dX1_isThere_28 : decode cX1_isThere 28 = .ok (.aload_n 0, 1) := by decide +kernel
theorem dX1_isThere_29 : decode cX1_isThere 29 = .ok (.getfield 22, 3) := by decide +kernel
theorem dX1_isThere_32 : decode cX1_isThere 32 = .ok (.getfield 141, 3) := by decide +kernel
theorem dX1_isThere_35 : decode cX1_isThere 35 = .ok (.iload_n 3, 1) := by decide +kernel
theorem dX1_isThere_36 : decode cX1_isThere 36 = .ok (.laload, 1) := by decide +kernel
theorem dX1_isThere_37 : decode cX1_isThere 37 = .ok (.iload 7, 2) := by decide +kernel
theorem dX1_isThere_39 : decode cX1_isThere 39 = .ok (.invokestatic 131, 3) := by decide +kernel
theorem dX1_isThere_42 : decode cX1_isThere 42 = .ok (.istore 8, 2) := by decide +kernel
theorem dX1_isThere_44 : decode cX1_isThere 44 = .ok (.iload 6, 2) := by decide +kernel
theorem dX1_isThere_46 : decode cX1_isThere 46 = .ok (.iload 8, 2) := by decide +kernel
theorem dX1_isThere_48 : decode cX1_isThere 48 = .ok (.ifCond .gt 10, 3) := by decide +kernel
theorem dX1_isThere_51 : decode cX1_isThere 51 = .ok (.iload 8, 2) := by decide +kernel
theorem dX1_isThere_53 : decode cX1_isThere 53 = .ok (.ineg, 1) := by decide +kernel
theorem dX1_isThere_54 : decode cX1_isThere 54 = .ok (.iload_n 2, 1) := by decide +kernel
theorem dX1_isThere_55 : decode cX1_isThere 55 = .ok (.if_icmp .gt 7, 3) := by decide +kernel
theorem dX1_isThere_58 : decode cX1_isThere 58 = .ok (.iconst 1, 1) := by decide +kernel
theorem dX1_isThere_59 : decode cX1_isThere 59 = .ok (.goto 4, 3) := by decide +kernel
theorem dX1_isThere_62 : decode cX1_isThere 62 = .ok (.iconst 0, 1) := by decide +kernel
theorem dX1_isThere_63 : decode cX1_isThere 63 = .ok (.iand, 1) := by decide +kernel
theorem dX1_isThere_64 : decode cX1_isThere 64 = .ok (.istore 6, 2) := by decide +kernel
theorem dX1_isThere_66 : decode cX1_isThere 66 = .ok (.lload 4, 2) := by decide +kernel
theorem dX1_isThere_68 : decode cX1_isThere 68 = .ok (.bipush 10, 2) := by decide +kernel
theorem dX1_isThere_70 : decode cX1_isThere 70 = .ok (.lshl, 1) := by decide +kernel
theorem dX1_isThere_71 : decode cX1_isThere 71 = .ok (.iload 8, 2) := by decide +kernel
theorem dX1_isThere_73 : decode cX1_isThere 73 = .ok (.ifCond .ge 15, 3) := by decide +kernel
theorem dX1_isThere_76 : decode cX1_isThere 76 = .ok (.aload_n 0, 1) := by decide +kernel
theorem dX1_isThere_77 : decode cX1_isThere 77 = .ok (.getfield 60, 3) := by decide +kernel
theorem dX1_isThere_80 : decode cX1_isThere 80 = .ok (.iload 8, 2) := by decide +kernel
theorem dX1_isThere_82 : decode cX1_isThere 82 = .ok (.ineg, 1) := by decide +kernel
theorem dX1_isThere_83 : decode cX1_isThere 83 = .ok (.iaload, 1) := by decide +kernel
theorem dX1_isThere_84 : decode cX1_isThere 84 = .ok (.ineg, 1) := by decide +kernel
theorem dX1_isThere_85 : decode cX1_isThere 85 = .ok (.goto 5, 3) := by decide +kernel
theorem dX1_isThere_88 : decode cX1_isThere 88 = .ok (.iload 8, 2) := by decide +kernel
theorem dX1_isThere_90 : decode cX1_isThere 90 = .ok (.bipush 8, 2) := by decide +kernel
theorem dX1_isThere_92 : decode cX1_isThere 92 = .ok (.iadd, 1) := by decide +kernel
theorem dX1_isThere_93 : decode cX1_isThere 93 = .ok (.i2l, 1) := by decide +kernel
theorem dX1_isThere_94 : decode cX1_isThere 94 = .ok (.lor, 1) := by decide +kernel
theorem dX1_isThere_95 : decode cX1_isThere 95 = .ok (.lstore 4, 2) := by decide +kernel
theorem dX1_isThere_97 : decode cX1_isThere 97 = .ok (.iinc 7 1, 3) := by decide +kernel
theorem dX1_isThere_100 : decode cX1_isThere 100 = .ok (.goto (-78), 3) := by decide +kernel
theorem dX1_isThere_103 : decode cX1_isThere 103 = .ok (.iload 6, 2) := by decide +kernel
theorem dX1_isThere_105 : decode cX1_isThere 105 = .ok (.ifCond .eq 14, 3) := by decide +kernel
theorem dX1_isThere_108 : decode cX1_isThere 108 = .ok (.aload_n 1, 1) := by decide +kernel
theorem dX1_isThere_109 : decode cX1_isThere 109 = .ok (.lload 4, 2) := by decide +kernel
theorem dX1_isThere_111 : decode cX1_isThere 111 = .ok (.invokevirtual 111, 3) := by decide +kernel
theorem dX1_isThere_114 : decode cX1_isThere 114 = .ok (.ifCond .ne 5, 3) := by decide +kernel
theorem dX1_isThere_117 : decode cX1_isThere 117 = .ok (.iconst 0, 1) := by decide +kernel
theorem dX1_isThere_118 : decode cX1_isThere 118 = .ok (.ireturn, 1) := by decide +kernel
theorem dX1_isThere_119 : decode cX1_isThere 119 = .ok (.iinc 3 1, 3) := by decide +kernel
theorem dX1_isThere_122 : decode cX1_isThere 122 = .ok (.goto (-120), 3) := by decide +kernel
theorem dX1_isThere_125 : decode cX1_isThere 125 = .ok (.iconst 1, 1) := by decide +kernel
theorem dX1_isThere_126 : decode cX1_isThere 126 = .ok (.ireturn, 1) := by decide +kernel
abbrev cX1_triples : ByteArray := prog_3_method_35_code
def yX1_triples : MethodName := ⟨RX1, "triples", "()I"⟩
theorem dX1_triples_0 : decode cX1_triples 0 = .ok (.aload_n 0, 1) := by decide +kernel
theorem dX1_triples_1 : decode cX1_triples 1 = .ok (.getfield 22, 3) := by decide +kernel
theorem dX1_triples_4 : decode cX1_triples 4 = .ok (.getfield 115, 3) := by decide +kernel
theorem dX1_triples_7 : decode cX1_triples 7 = .ok (.ireturn, 1) := by decide +kernel
abbrev cX1_drop : ByteArray := prog_3_method_9_code
def yX1_drop : MethodName := ⟨RX1, "drop", "(III)I"⟩
theorem dX1_drop_0 : decode cX1_drop 0 = .ok (.aload_n 0, 1) := by decide +kernel
theorem dX1_drop_1 : decode cX1_drop 1 = .ok (.iload_n 1, 1) := by decide +kernel
theorem dX1_drop_2 : decode cX1_drop 2 = .ok (.iload_n 2, 1) := by decide +kernel
theorem dX1_drop_3 : decode cX1_drop 3 = .ok (.iload_n 3, 1) := by decide +kernel
theorem dX1_drop_4 : decode cX1_drop 4 = .ok (.invokevirtual 103, 3) := by decide +kernel
theorem dX1_drop_7 : decode cX1_drop 7 = .ok (.ifCond .eq 19, 3) := by decide +kernel
theorem dX1_drop_10 : decode cX1_drop 10 = .ok (.aload_n 0, 1) := by decide +kernel
theorem dX1_drop_11 : decode cX1_drop 11 = .ok (.getfield 22, 3) := by decide +kernel
theorem dX1_drop_14 : decode cX1_drop 14 = .ok (.iload_n 1, 1) := by decide +kernel
theorem dX1_drop_15 : decode cX1_drop 15 = .ok (.iload_n 2, 1) := by decide +kernel
theorem dX1_drop_16 : decode cX1_drop 16 = .ok (.iload_n 3, 1) := by decide +kernel
theorem dX1_drop_17 : decode cX1_drop 17 = .ok (.invokestatic 107, 3) := by decide +kernel
theorem dX1_drop_20 : decode cX1_drop 20 = .ok (.invokevirtual 111, 3) := by decide +kernel
theorem dX1_drop_23 : decode cX1_drop 23 = .ok (.ifCond .ne 5, 3) := by decide +kernel
theorem dX1_drop_26 : decode cX1_drop 26 = .ok (.iconst 0, 1) := by decide +kernel
theorem dX1_drop_27 : decode cX1_drop 27 = .ok (.ireturn, 1) := by decide +kernel
theorem dX1_drop_28 : decode cX1_drop 28 = .ok (.aload_n 0, 1) := by decide +kernel
theorem dX1_drop_29 : decode cX1_drop 29 = .ok (.getfield 22, 3) := by decide +kernel
theorem dX1_drop_32 : decode cX1_drop 32 = .ok (.iload_n 1, 1) := by decide +kernel
theorem dX1_drop_33 : decode cX1_drop 33 = .ok (.iload_n 2, 1) := by decide +kernel
theorem dX1_drop_34 : decode cX1_drop 34 = .ok (.iload_n 3, 1) := by decide +kernel
theorem dX1_drop_35 : decode cX1_drop 35 = .ok (.invokestatic 107, 3) := by decide +kernel
theorem dX1_drop_38 : decode cX1_drop 38 = .ok (.invokevirtual 122, 3) := by decide +kernel
theorem dX1_drop_41 : decode cX1_drop 41 = .ok (.aload_n 0, 1) := by decide +kernel
theorem dX1_drop_42 : decode cX1_drop 42 = .ok (.iconst 0, 1) := by decide +kernel
theorem dX1_drop_43 : decode cX1_drop 43 = .ok (.putfield 96, 3) := by decide +kernel
theorem dX1_drop_46 : decode cX1_drop 46 = .ok (.iconst 1, 1) := by decide +kernel
theorem dX1_drop_47 : decode cX1_drop 47 = .ok (.ireturn, 1) := by decide +kernel
abbrev cX1_named : ByteArray := prog_3_method_24_code
def yX1_named : MethodName := ⟨RX1, "named", "(I)I"⟩
theorem dX1_named_0 : decode cX1_named 0 = .ok (.iload_n 1, 1) := by decide +kernel
theorem dX1_named_1 : decode cX1_named 1 = .ok (.ifCond .le 20, 3) := by decide +kernel
theorem dX1_named_4 : decode cX1_named 4 = .ok (.iload_n 1, 1) := by decide +kernel
theorem dX1_named_5 : decode cX1_named 5 = .ok (.aload_n 0, 1) := by decide +kernel
theorem dX1_named_6 : decode cX1_named 6 = .ok (.getfield 206, 3) := by decide +kernel
theorem dX1_named_9 : decode cX1_named 9 = .ok (.if_icmp .gt 12, 3) := by decide +kernel
theorem dX1_named_12 : decode cX1_named 12 = .ok (.aload_n 0, 1) := by decide +kernel
theorem dX1_named_13 : decode cX1_named 13 = .ok (.getfield 73, 3) := by decide +kernel
theorem dX1_named_16 : decode cX1_named 16 = .ok (.iload_n 1, 1) := by decide +kernel
theorem dX1_named_17 : decode cX1_named 17 = .ok (.iaload, 1) := by decide +kernel
theorem dX1_named_18 : decode cX1_named 18 = .ok (.goto 4, 3) := by decide +kernel
theorem dX1_named_21 : decode cX1_named 21 = .ok (.iconst (-1), 1) := by decide +kernel
theorem dX1_named_22 : decode cX1_named 22 = .ok (.ireturn, 1) := by decide +kernel
abbrev cX1_form : ByteArray := prog_3_method_25_code
def yX1_form : MethodName := ⟨RX1, "form", "(II)I"⟩
theorem dX1_form_0 : decode cX1_form 0 = .ok (.iload_n 1, 1) := by decide +kernel
theorem dX1_form_1 : decode cX1_form 1 = .ok (.ifCond .lt 20, 3) := by decide +kernel
theorem dX1_form_4 : decode cX1_form 4 = .ok (.iload_n 1, 1) := by decide +kernel
theorem dX1_form_5 : decode cX1_form 5 = .ok (.aload_n 0, 1) := by decide +kernel
theorem dX1_form_6 : decode cX1_form 6 = .ok (.getfield 209, 3) := by decide +kernel
theorem dX1_form_9 : decode cX1_form 9 = .ok (.if_icmp .ge 12, 3) := by decide +kernel
theorem dX1_form_12 : decode cX1_form 12 = .ok (.iload_n 2, 1) := by decide +kernel
theorem dX1_form_13 : decode cX1_form 13 = .ok (.ifCond .lt 8, 3) := by decide +kernel
theorem dX1_form_16 : decode cX1_form 16 = .ok (.iload_n 2, 1) := by decide +kernel
theorem dX1_form_17 : decode cX1_form 17 = .ok (.iconst 2, 1) := by decide +kernel
theorem dX1_form_18 : decode cX1_form 18 = .ok (.if_icmp .le 7, 3) := by decide +kernel
theorem dX1_form_21 : decode cX1_form 21 = .ok (.iconst 0, 1) := by decide +kernel
theorem dX1_form_22 : decode cX1_form 22 = .ok (.goto 13, 3) := by decide +kernel
theorem dX1_form_25 : decode cX1_form 25 = .ok (.aload_n 0, 1) := by decide +kernel
theorem dX1_form_26 : decode cX1_form 26 = .ok (.getfield 76, 3) := by decide +kernel
theorem dX1_form_29 : decode cX1_form 29 = .ok (.iload_n 1, 1) := by decide +kernel
theorem dX1_form_30 : decode cX1_form 30 = .ok (.laload, 1) := by decide +kernel
theorem dX1_form_31 : decode cX1_form 31 = .ok (.iload_n 2, 1) := by decide +kernel
theorem dX1_form_32 : decode cX1_form 32 = .ok (.invokestatic 131, 3) := by decide +kernel
theorem dX1_form_35 : decode cX1_form 35 = .ok (.ireturn, 1) := by decide +kernel
abbrev cX1_hash : ByteArray := prog_3_method_17_code
def yX1_hash : MethodName := ⟨RX1, "hash", "(II)I"⟩
theorem dX1_hash_0 : decode cX1_hash 0 = .ok (.iload_n 1, 1) := by decide +kernel
theorem dX1_hash_1 : decode cX1_hash 1 = .ok (.iconst 1, 1) := by decide +kernel
theorem dX1_hash_2 : decode cX1_hash 2 = .ok (.if_icmp .lt 24, 3) := by decide +kernel
theorem dX1_hash_5 : decode cX1_hash 5 = .ok (.iload_n 1, 1) := by decide +kernel
theorem dX1_hash_6 : decode cX1_hash 6 = .ok (.aload_n 0, 1) := by decide +kernel
theorem dX1_hash_7 : decode cX1_hash 7 = .ok (.getfield 22, 3) := by decide +kernel
theorem dX1_hash_10 : decode cX1_hash 10 = .ok (.getfield 92, 3) := by decide +kernel
theorem dX1_hash_13 : decode cX1_hash 13 = .ok (.if_icmp .gt 13, 3) := by decide +kernel
theorem dX1_hash_16 : decode cX1_hash 16 = .ok (.iload_n 2, 1) := by decide +kernel
theorem dX1_hash_17 : decode cX1_hash 17 = .ok (.ifCond .lt 9, 3) := by decide +kernel
theorem dX1_hash_20 : decode cX1_hash 20 = .ok (.iload_n 2, 1) := by decide +kernel
theorem dX1_hash_21 : decode cX1_hash 21 = .ok (.bipush 7, 2) := by decide +kernel
theorem dX1_hash_23 : decode cX1_hash 23 = .ok (.if_icmp .le 5, 3) := by decide +kernel
theorem dX1_hash_26 : decode cX1_hash 26 = .ok (.iconst 0, 1) := by decide +kernel
theorem dX1_hash_27 : decode cX1_hash 27 = .ok (.ireturn, 1) := by decide +kernel
theorem dX1_hash_28 : decode cX1_hash 28 = .ok (.aload_n 0, 1) := by decide +kernel
theorem dX1_hash_29 : decode cX1_hash 29 = .ok (.invokevirtual 189, 3) := by decide +kernel
theorem dX1_hash_32 : decode cX1_hash 32 = .ok (.aload_n 0, 1) := by decide +kernel
theorem dX1_hash_33 : decode cX1_hash 33 = .ok (.getfield 39, 3) := by decide +kernel
theorem dX1_hash_36 : decode cX1_hash 36 = .ok (.iload_n 1, 1) := by decide +kernel
theorem dX1_hash_37 : decode cX1_hash 37 = .ok (.aaload, 1) := by decide +kernel
theorem dX1_hash_38 : decode cX1_hash 38 = .ok (.iload_n 2, 1) := by decide +kernel
theorem dX1_hash_39 : decode cX1_hash 39 = .ok (.iaload, 1) := by decide +kernel
theorem dX1_hash_40 : decode cX1_hash 40 = .ok (.ireturn, 1) := by decide +kernel
abbrev cX1_rounds : ByteArray := prog_3_method_18_code
def yX1_rounds : MethodName := ⟨RX1, "rounds", "()I"⟩
theorem dX1_rounds_0 : decode cX1_rounds 0 = .ok (.aload_n 0, 1) := by decide +kernel
theorem dX1_rounds_1 : decode cX1_rounds 1 = .ok (.invokevirtual 189, 3) := by decide +kernel
theorem dX1_rounds_4 : decode cX1_rounds 4 = .ok (.aload_n 0, 1) := by decide +kernel
theorem dX1_rounds_5 : decode cX1_rounds 5 = .ok (.getfield 173, 3) := by decide +kernel
theorem dX1_rounds_8 : decode cX1_rounds 8 = .ok (.ireturn, 1) := by decide +kernel
abbrev cX1_first : ByteArray := prog_3_method_19_code
def yX1_first : MethodName := ⟨RX1, "first", "(II)I"⟩
theorem dX1_first_0 : decode cX1_first 0 = .ok (.aload_n 0, 1) := by decide +kernel
theorem dX1_first_1 : decode cX1_first 1 = .ok (.invokevirtual 189, 3) := by decide +kernel
theorem dX1_first_4 : decode cX1_first 4 = .ok (.iload_n 1, 1) := by decide +kernel
theorem dX1_first_5 : decode cX1_first 5 = .ok (.ifCond .lt 34, 3) := by decide +kernel
theorem dX1_first_8 : decode cX1_first 8 = .ok (.iload_n 1, 1) := by decide +kernel
theorem dX1_first_9 : decode cX1_first 9 = .ok (.aload_n 0, 1) := by decide +kernel
theorem dX1_first_10 : decode cX1_first 10 = .ok (.getfield 186, 3) := by decide +kernel
theorem dX1_first_13 : decode cX1_first 13 = .ok (.if_icmp .ge 26, 3) := by decide +kernel
theorem dX1_first_16 : decode cX1_first 16 = .ok (.iload_n 2, 1) := by decide +kernel
theorem dX1_first_17 : decode cX1_first 17 = .ok (.ifCond .lt 22, 3) := by decide +kernel
theorem dX1_first_20 : decode cX1_first 20 = .ok (.iload_n 2, 1) := by decide +kernel
theorem dX1_first_21 : decode cX1_first 21 = .ok (.aload_n 0, 1) := by decide +kernel
theorem dX1_first_22 : decode cX1_first 22 = .ok (.getfield 57, 3) := by decide +kernel
theorem dX1_first_25 : decode cX1_first 25 = .ok (.iload_n 1, 1) := by decide +kernel
theorem dX1_first_26 : decode cX1_first 26 = .ok (.iconst 1, 1) := by decide +kernel
theorem dX1_first_27 : decode cX1_first 27 = .ok (.iadd, 1) := by decide +kernel
theorem dX1_first_28 : decode cX1_first 28 = .ok (.iaload, 1) := by decide +kernel
theorem dX1_first_29 : decode cX1_first 29 = .ok (.aload_n 0, 1) := by decide +kernel
theorem dX1_first_30 : decode cX1_first 30 = .ok (.getfield 57, 3) := by decide +kernel
theorem dX1_first_33 : decode cX1_first 33 = .ok (.iload_n 1, 1) := by decide +kernel
theorem dX1_first_34 : decode cX1_first 34 = .ok (.iaload, 1) := by decide +kernel
theorem dX1_first_35 : decode cX1_first 35 = .ok (.isub, 1) := by decide +kernel
theorem dX1_first_36 : decode cX1_first 36 = .ok (.if_icmp .lt 5, 3) := by decide +kernel
theorem dX1_first_39 : decode cX1_first 39 = .ok (.iconst (-1), 1) := by decide +kernel
theorem dX1_first_40 : decode cX1_first 40 = .ok (.ireturn, 1) := by decide +kernel
theorem dX1_first_41 : decode cX1_first 41 = .ok (.aload_n 0, 1) := by decide +kernel
theorem dX1_first_42 : decode cX1_first 42 = .ok (.getfield 53, 3) := by decide +kernel
theorem dX1_first_45 : decode cX1_first 45 = .ok (.aload_n 0, 1) := by decide +kernel
theorem dX1_first_46 : decode cX1_first 46 = .ok (.getfield 57, 3) := by decide +kernel
theorem dX1_first_49 : decode cX1_first 49 = .ok (.iload_n 1, 1) := by decide +kernel
theorem dX1_first_50 : decode cX1_first 50 = .ok (.iaload, 1) := by decide +kernel
theorem dX1_first_51 : decode cX1_first 51 = .ok (.iload_n 2, 1) := by decide +kernel
theorem dX1_first_52 : decode cX1_first 52 = .ok (.iadd, 1) := by decide +kernel
theorem dX1_first_53 : decode cX1_first 53 = .ok (.iaload, 1) := by decide +kernel
theorem dX1_first_54 : decode cX1_first 54 = .ok (.ireturn, 1) := by decide +kernel
abbrev cX1_ways : ByteArray := prog_3_method_30_code
def yX1_ways : MethodName := ⟨RX1, "ways", "(I)I"⟩
theorem dX1_ways_0 : decode cX1_ways 0 = .ok (.aload_n 0, 1) := by decide +kernel
theorem dX1_ways_1 : decode cX1_ways 1 = .ok (.iload_n 1, 1) := by decide +kernel
theorem dX1_ways_2 : decode cX1_ways 2 = .ok (.invokevirtual 225, 3) := by decide +kernel
theorem dX1_ways_5 : decode cX1_ways 5 = .ok (.ifCond .eq 13, 3) := by decide +kernel
theorem dX1_ways_8 : decode cX1_ways 8 = .ok (.aload_n 0, 1) := by decide +kernel
theorem dX1_ways_9 : decode cX1_ways 9 = .ok (.iload_n 1, 1) := by decide +kernel
theorem dX1_ways_10 : decode cX1_ways 10 = .ok (.ldc 231, 2) := by decide +kernel
theorem dX1_ways_12 : decode cX1_ways 12 = .ok (.invokevirtual 228, 3) := by decide +kernel
theorem dX1_ways_15 : decode cX1_ways 15 = .ok (.goto 4, 3) := by decide +kernel
theorem dX1_ways_18 : decode cX1_ways 18 = .ok (.iconst (-1), 1) := by decide +kernel
theorem dX1_ways_19 : decode cX1_ways 19 = .ok (.ireturn, 1) := by decide +kernel
abbrev cX1_equal : ByteArray := prog_3_method_34_code
def yX1_equal : MethodName := ⟨RX1, "equal", "(I)I"⟩
theorem dX1_equal_0 : decode cX1_equal 0 = .ok (.aload_n 0, 1) := by decide +kernel
theorem dX1_equal_1 : decode cX1_equal 1 = .ok (.iload_n 1, 1) := by decide +kernel
theorem dX1_equal_2 : decode cX1_equal 2 = .ok (.invokevirtual 225, 3) := by decide +kernel
theorem dX1_equal_5 : decode cX1_equal 5 = .ok (.ifCond .eq 27, 3) := by decide +kernel
theorem dX1_equal_8 : decode cX1_equal 8 = .ok (.aload_n 0, 1) := by decide +kernel
theorem dX1_equal_9 : decode cX1_equal 9 = .ok (.getfield 22, 3) := by decide +kernel
theorem dX1_equal_12 : decode cX1_equal 12 = .ok (.aload_n 0, 1) := by decide +kernel
theorem dX1_equal_13 : decode cX1_equal 13 = .ok (.getfield 26, 3) := by decide +kernel
theorem dX1_equal_16 : decode cX1_equal 16 = .ok (.iload_n 1, 1) := by decide +kernel
theorem dX1_equal_17 : decode cX1_equal 17 = .ok (.aaload, 1) := by decide +kernel
theorem dX1_equal_18 : decode cX1_equal 18 = .ok (.invokevirtual 249, 3) := by decide +kernel
theorem dX1_equal_21 : decode cX1_equal 21 = .ok (.ifCond .eq 7, 3) := by decide +kernel
theorem dX1_equal_24 : decode cX1_equal 24 = .ok (.iconst 1, 1) := by decide +kernel
theorem dX1_equal_25 : decode cX1_equal 25 = .ok (.goto 8, 3) := by decide +kernel
theorem dX1_equal_28 : decode cX1_equal 28 = .ok (.iconst 0, 1) := by decide +kernel
theorem dX1_equal_29 : decode cX1_equal 29 = .ok (.goto 4, 3) := by decide +kernel
theorem dX1_equal_32 : decode cX1_equal 32 = .ok (.iconst (-1), 1) := by decide +kernel
theorem dX1_equal_33 : decode cX1_equal 33 = .ok (.ireturn, 1) := by decide +kernel
abbrev cX1_blanks : ByteArray := prog_3_method_36_code
def yX1_blanks : MethodName := ⟨RX1, "blanks", "()I"⟩
theorem dX1_blanks_0 : decode cX1_blanks 0 = .ok (.aload_n 0, 1) := by decide +kernel
theorem dX1_blanks_1 : decode cX1_blanks 1 = .ok (.getfield 22, 3) := by decide +kernel
theorem dX1_blanks_4 : decode cX1_blanks 4 = .ok (.getfield 92, 3) := by decide +kernel
theorem dX1_blanks_7 : decode cX1_blanks 7 = .ok (.ireturn, 1) := by decide +kernel
theorem in_X1 : ∀ w ∈ wsX10, w ∈ lw_all := lw_in wsX10 [759, 761, 763, 765, 767, 769, 771, 773, 775, 777, 779, 781, 783, 785, 787, 789, 791, 793, 795, 797, 799, 801, 803, 805, 807, 809] (by decide +kernel) (by decide +kernel)
def RX2 : String := "KnowHouse$CanonNames$Graph"
def TX2 : u_T := fun k => match k with
  | 0 => ("KnowHouse$CanonNames$Graph", "blanks", "I", false)
  | 1 => ("KnowHouse$CanonNames$Graph", "count", "I", false)
  | _ => ("KnowHouse$CanonNames$Graph", "keys", "[J", true)
def tyX2 : Nat → FieldType := fun k => match k with
  | 0 => .int
  | 1 => .int
  | _ => .array .long
abbrev wsX20 : List Cond := u_ws RX2 TX2 3
theorem nmX2 : ∀ a, a < 3 → ∀ b, b < 3 → a ≠ b → (TX2 a).2.1 ≠ (TX2 b).2.1 := by decide +kernel
theorem tyX2_ok : ∀ k, k < 3 → parseFieldDescriptor (TX2 k).2.2.1 = some (tyX2 k) := by decide +kernel
abbrev cX2_init : ByteArray := prog_6_method_1_code
def yX2_init : MethodName := ⟨RX2, "<init>", "()V"⟩
theorem dX2_init_0 : decode cX2_init 0 = .ok (.aload_n 0, 1) := by decide +kernel
theorem dX2_init_1 : decode cX2_init 1 = .ok (.invokespecial 3, 3) := by decide +kernel
theorem dX2_init_4 : decode cX2_init 4 = .ok (.aload_n 0, 1) := by decide +kernel
theorem dX2_init_5 : decode cX2_init 5 = .ok (.bipush 40, 2) := by decide +kernel
theorem dX2_init_7 : decode cX2_init 7 = .ok (.newarray .long, 2) := by decide +kernel
theorem dX2_init_9 : decode cX2_init 9 = .ok (.putfield 9, 3) := by decide +kernel
theorem dX2_init_12 : decode cX2_init 12 = .ok (.return_, 1) := by decide +kernel
abbrev cX2_isPoint : ByteArray := prog_6_method_4_code
def yX2_isPoint : MethodName := ⟨RX2, "isPoint", "(I)Z"⟩
theorem dX2_isPoint_0 : decode cX2_isPoint 0 = .ok (.iload_n 1, 1) := by decide +kernel
theorem dX2_isPoint_1 : decode cX2_isPoint 1 = .ok (.ifCond .le 10, 3) := by decide +kernel
theorem dX2_isPoint_4 : decode cX2_isPoint 4 = .ok (.iload_n 1, 1) := by decide +kernel
theorem dX2_isPoint_5 : decode cX2_isPoint 5 = .ok (.sipush 1000, 3) := by decide +kernel
theorem dX2_isPoint_8 : decode cX2_isPoint 8 = .ok (.if_icmp .le 16, 3) := by decide +kernel
theorem dX2_isPoint_11 : decode cX2_isPoint 11 = .ok (.iload_n 1, 1) := by decide +kernel
theorem dX2_isPoint_12 : decode cX2_isPoint 12 = .ok (.ifCond .ge 16, 3) := by decide +kernel
theorem dX2_isPoint_15 : decode cX2_isPoint 15 = .ok (.iload_n 1, 1) := by decide +kernel
theorem dX2_isPoint_16 : decode cX2_isPoint 16 = .ok (.aload_n 0, 1) := by decide +kernel
theorem dX2_isPoint_17 : decode cX2_isPoint 17 = .ok (.getfield 17, 3) := by decide +kernel
theorem dX2_isPoint_20 : decode cX2_isPoint 20 = .ok (.ineg, 1) := by decide +kernel
theorem dX2_isPoint_21 : decode cX2_isPoint 21 = .ok (.if_icmp .lt 7, 3) := by decide +kernel
theorem dX2_isPoint_24 : decode cX2_isPoint 24 = .ok (.iconst 1, 1) := by decide +kernel
theorem dX2_isPoint_25 : decode cX2_isPoint 25 = .ok (.goto 4, 3) := by decide +kernel
theorem dX2_isPoint_28 : decode cX2_isPoint 28 = .ok (.iconst 0, 1) := by decide +kernel
theorem dX2_isPoint_29 : decode cX2_isPoint 29 = .ok (.ireturn, 1) := by decide +kernel
abbrev cX2_key : ByteArray := prog_6_method_2_code
def yX2_key : MethodName := ⟨RX2, "key", "(III)J"⟩
theorem dX2_key_0 : decode cX2_key 0 = .ok (.iload_n 0, 1) := by decide +kernel
theorem dX2_key_1 : decode cX2_key 1 = .ok (.bipush 8, 2) := by decide +kernel
theorem dX2_key_3 : decode cX2_key 3 = .ok (.iadd, 1) := by decide +kernel
theorem dX2_key_4 : decode cX2_key 4 = .ok (.i2l, 1) := by decide +kernel
theorem dX2_key_5 : decode cX2_key 5 = .ok (.bipush 20, 2) := by decide +kernel
theorem dX2_key_7 : decode cX2_key 7 = .ok (.lshl, 1) := by decide +kernel
theorem dX2_key_8 : decode cX2_key 8 = .ok (.iload_n 1, 1) := by decide +kernel
theorem dX2_key_9 : decode cX2_key 9 = .ok (.bipush 8, 2) := by decide +kernel
theorem dX2_key_11 : decode cX2_key 11 = .ok (.iadd, 1) := by decide +kernel
theorem dX2_key_12 : decode cX2_key 12 = .ok (.i2l, 1) := by decide +kernel
theorem dX2_key_13 : decode cX2_key 13 = .ok (.bipush 10, 2) := by decide +kernel
theorem dX2_key_15 : decode cX2_key 15 = .ok (.lshl, 1) := by decide +kernel
theorem dX2_key_16 : decode cX2_key 16 = .ok (.lor, 1) := by decide +kernel
theorem dX2_key_17 : decode cX2_key 17 = .ok (.iload_n 2, 1) := by decide +kernel
theorem dX2_key_18 : decode cX2_key 18 = .ok (.bipush 8, 2) := by decide +kernel
theorem dX2_key_20 : decode cX2_key 20 = .ok (.iadd, 1) := by decide +kernel
theorem dX2_key_21 : decode cX2_key 21 = .ok (.i2l, 1) := by decide +kernel
theorem dX2_key_22 : decode cX2_key 22 = .ok (.lor, 1) := by decide +kernel
theorem dX2_key_23 : decode cX2_key 23 = .ok (.lreturn, 1) := by decide +kernel
abbrev cX2_has : ByteArray := prog_6_method_6_code
def yX2_has : MethodName := ⟨RX2, "has", "(J)Z"⟩
theorem dX2_has_0 : decode cX2_has 0 = .ok (.aload_n 0, 1) := by decide +kernel
theorem dX2_has_1 : decode cX2_has 1 = .ok (.lload_n 1, 1) := by decide +kernel
theorem dX2_has_2 : decode cX2_has 2 = .ok (.invokevirtual 24, 3) := by decide +kernel
theorem dX2_has_5 : decode cX2_has 5 = .ok (.istore_n 3, 1) := by decide +kernel
theorem dX2_has_6 : decode cX2_has 6 = .ok (.iload_n 3, 1) := by decide +kernel
theorem dX2_has_7 : decode cX2_has 7 = .ok (.aload_n 0, 1) := by decide +kernel
theorem dX2_has_8 : decode cX2_has 8 = .ok (.getfield 21, 3) := by decide +kernel
theorem dX2_has_11 : decode cX2_has 11 = .ok (.if_icmp .ge 18, 3) := by decide +kernel
theorem dX2_has_14 : decode cX2_has 14 = .ok (.aload_n 0, 1) := by decide +kernel
theorem dX2_has_15 : decode cX2_has 15 = .ok (.getfield 9, 3) := by decide +kernel
theorem dX2_has_18 : decode cX2_has 18 = .ok (.iload_n 3, 1) := by decide +kernel
theorem dX2_has_19 : decode cX2_has 19 = .ok (.laload, 1) := by decide +kernel
theorem dX2_has_20 : decode cX2_has 20 = .ok (.lload_n 1, 1) := by decide +kernel
theorem dX2_has_21 : decode cX2_has 21 = .ok (.lcmp, 1) := by decide +kernel
theorem dX2_has_22 : decode cX2_has 22 = .ok (.ifCond .ne 7, 3) := by decide +kernel
theorem dX2_has_25 : decode cX2_has 25 = .ok (.iconst 1, 1) := by decide +kernel
theorem dX2_has_26 : decode cX2_has 26 = .ok (.goto 4, 3) := by decide +kernel
theorem dX2_has_29 : decode cX2_has 29 = .ok (.iconst 0, 1) := by decide +kernel
theorem dX2_has_30 : decode cX2_has 30 = .ok (.ireturn, 1) := by decide +kernel
abbrev cX2_find : ByteArray := prog_6_method_5_code
def yX2_find : MethodName := ⟨RX2, "find", "(J)I"⟩
theorem dX2_find_0 : decode cX2_find 0 = .ok (.iconst 0, 1) := by decide +kernel
theorem dX2_find_1 : decode cX2_find 1 = .ok (.istore_n 3, 1) := by decide +kernel
theorem dX2_find_2 : decode cX2_find 2 = .ok (.aload_n 0, 1) := by decide +kernel
theorem dX2_find_3 : decode cX2_find 3 = .ok (.getfield 21, 3) := by decide +kernel
theorem dX2_find_6 : decode cX2_find 6 = .ok (.istore 4, 2) := by decide +kernel
theorem dX2_find_8 : decode cX2_find 8 = .ok (.iload_n 3, 1) := by decide +kernel
theorem dX2_find_9 : decode cX2_find 9 = .ok (.iload 4, 2) := by decide +kernel
theorem dX2_find_11 : decode cX2_find 11 = .ok (.if_icmp .ge 38, 3) := by decide +kernel
theorem dX2_find_14 : decode cX2_find 14 = .ok (.iload_n 3, 1) := by decide +kernel
theorem dX2_find_15 : decode cX2_find 15 = .ok (.iload 4, 2) := by decide +kernel
theorem dX2_find_17 : decode cX2_find 17 = .ok (.iadd, 1) := by decide +kernel
theorem dX2_find_18 : decode cX2_find 18 = .ok (.iconst 1, 1) := by decide +kernel
theorem dX2_find_19 : decode cX2_find 19 = .ok (.iushr, 1) := by decide +kernel
theorem dX2_find_20 : decode cX2_find 20 = .ok (.istore 5, 2) := by decide +kernel
theorem dX2_find_22 : decode cX2_find 22 = .ok (.aload_n 0, 1) := by decide +kernel
theorem dX2_find_23 : decode cX2_find 23 = .ok (.getfield 9, 3) := by decide +kernel
theorem dX2_find_26 : decode cX2_find 26 = .ok (.iload 5, 2) := by decide +kernel
theorem dX2_find_28 : decode cX2_find 28 = .ok (.laload, 1) := by decide +kernel
theorem dX2_find_29 : decode cX2_find 29 = .ok (.lload_n 1, 1) := by decide +kernel
theorem dX2_find_30 : decode cX2_find 30 = .ok (.lcmp, 1) := by decide +kernel
theorem dX2_find_31 : decode cX2_find 31 = .ok (.ifCond .ge 11, 3) := by decide +kernel
theorem dX2_find_34 : decode cX2_find 34 = .ok (.iload 5, 2) := by decide +kernel
theorem dX2_find_36 : decode cX2_find 36 = .ok (.iconst 1, 1) := by decide +kernel
theorem dX2_find_37 : decode cX2_find 37 = .ok (.iadd, 1) := by decide +kernel
theorem dX2_find_38 : decode cX2_find 38 = .ok (.istore_n 3, 1) := by decide +kernel
theorem dX2_find_39 : decode cX2_find 39 = .ok (.goto 7, 3) := by decide +kernel
theorem dX2_find_42 : decode cX2_find 42 = .ok (.iload 5, 2) := by decide +kernel
theorem dX2_find_44 : decode cX2_find 44 = .ok (.istore 4, 2) := by decide +kernel
theorem dX2_find_46 : decode cX2_find 46 = .ok (.goto (-38), 3) := by decide +kernel
theorem dX2_find_49 : decode cX2_find 49 = .ok (.iload_n 3, 1) := by decide +kernel
theorem dX2_find_50 : decode cX2_find 50 = .ok (.ireturn, 1) := by decide +kernel
abbrev cX2_add : ByteArray := prog_6_method_7_code
def yX2_add : MethodName := ⟨RX2, "add", "(J)V"⟩
theorem dX2_add_0 : decode cX2_add 0 = .ok (.aload_n 0, 1) := by decide +kernel
theorem dX2_add_1 : decode cX2_add 1 = .ok (.lload_n 1, 1) := by decide +kernel
theorem dX2_add_2 : decode cX2_add 2 = .ok (.invokevirtual 24, 3) := by decide +kernel
theorem dX2_add_5 : decode cX2_add 5 = .ok (.istore_n 3, 1) := by decide +kernel
theorem dX2_add_6 : decode cX2_add 6 = .ok (.aload_n 0, 1) := by decide +kernel
theorem dX2_add_7 : decode cX2_add 7 = .ok (.getfield 21, 3) := by decide +kernel
theorem dX2_add_10 : decode cX2_add 10 = .ok (.istore 4, 2) := by decide +kernel
theorem dX2_add_12 : decode cX2_add 12 = .ok (.iload 4, 2) := by decide +kernel
theorem dX2_add_14 : decode cX2_add 14 = .ok (.iload_n 3, 1) := by decide +kernel
theorem dX2_add_15 : decode cX2_add 15 = .ok (.if_icmp .le 25, 3) := by decide +kernel
theorem dX2_add_18 : decode cX2_add 18 = .ok (.aload_n 0, 1) := by decide +kernel
theorem dX2_add_19 : decode cX2_add 19 = .ok (.getfield 9, 3) := by decide +kernel
theorem dX2_add_22 : decode cX2_add 22 = .ok (.iload 4, 2) := by decide +kernel
theorem dX2_add_24 : decode cX2_add 24 = .ok (.aload_n 0, 1) := by decide +kernel
theorem dX2_add_25 : decode cX2_add 25 = .ok (.getfield 9, 3) := by decide +kernel
theorem dX2_add_28 : decode cX2_add 28 = .ok (.iload 4, 2) := by decide +kernel
theorem dX2_add_30 : decode cX2_add 30 = .ok (.iconst 1, 1) := by decide +kernel
theorem dX2_add_31 : decode cX2_add 31 = .ok (.isub, 1) := by decide +kernel
theorem dX2_add_32 : decode cX2_add 32 = .ok (.laload, 1) := by decide +kernel
theorem dX2_add_33 : decode cX2_add 33 = .ok (.lastore, 1) := by decide +kernel
theorem dX2_add_34 : decode cX2_add 34 = .ok (.iinc 4 (-1), 3) := by decide +kernel
theorem dX2_add_37 : decode cX2_add 37 = .ok (.goto (-25), 3) := by decide +kernel
theorem dX2_add_40 : decode cX2_add 40 = .ok (.aload_n 0, 1) := by decide +kernel
theorem dX2_add_41 : decode cX2_add 41 = .ok (.getfield 9, 3) := by decide +kernel
theorem dX2_add_44 : decode cX2_add 44 = .ok (.iload_n 3, 1) := by decide +kernel
theorem dX2_add_45 : decode cX2_add 45 = .ok (.lload_n 1, 1) := by decide +kernel
theorem dX2_add_46 : decode cX2_add 46 = .ok (.lastore, 1) := by decide +kernel
theorem dX2_add_47 : decode cX2_add 47 = .ok (.aload_n 0, 1) := by decide +kernel
theorem dX2_add_48 : decode cX2_add 48 = .ok (.dup, 1) := by decide +kernel
theorem dX2_add_49 : decode cX2_add 49 = .ok (.getfield 21, 3) := by decide +kernel
theorem dX2_add_52 : decode cX2_add 52 = .ok (.iconst 1, 1) := by decide +kernel
theorem dX2_add_53 : decode cX2_add 53 = .ok (.iadd, 1) := by decide +kernel
theorem dX2_add_54 : decode cX2_add 54 = .ok (.putfield 21, 3) := by decide +kernel
theorem dX2_add_57 : decode cX2_add 57 = .ok (.return_, 1) := by decide +kernel
abbrev cX2_point : ByteArray := prog_6_method_3_code
def yX2_point : MethodName := ⟨RX2, "point", "(JI)I"⟩
theorem dX2_point_0 : decode cX2_point 0 = .ok (.lload_n 0, 1) := by decide +kernel
theorem dX2_point_1 : decode cX2_point 1 = .ok (.bipush 20, 2) := by decide +kernel
theorem dX2_point_3 : decode cX2_point 3 = .ok (.bipush 10, 2) := by decide +kernel
theorem dX2_point_5 : decode cX2_point 5 = .ok (.iload_n 2, 1) := by decide +kernel
theorem dX2_point_6 : decode cX2_point 6 = .ok (.imul, 1) := by decide +kernel
theorem dX2_point_7 : decode cX2_point 7 = .ok (.isub, 1) := by decide +kernel
theorem dX2_point_8 : decode cX2_point 8 = .ok (.lshr, 1) := by decide +kernel
theorem dX2_point_9 : decode cX2_point 9 = .ok (.ldc2_w 15, 3) := by decide +kernel
theorem dX2_point_12 : decode cX2_point 12 = .ok (.land, 1) := by decide +kernel
theorem dX2_point_13 : decode cX2_point 13 = .ok (.l2i, 1) := by decide +kernel
theorem dX2_point_14 : decode cX2_point 14 = .ok (.bipush 8, 2) := by decide +kernel
theorem dX2_point_16 : decode cX2_point 16 = .ok (.isub, 1) := by decide +kernel
theorem dX2_point_17 : decode cX2_point 17 = .ok (.ireturn, 1) := by decide +kernel
abbrev cX2_remove : ByteArray := prog_6_method_8_code
def yX2_remove : MethodName := ⟨RX2, "remove", "(J)V"⟩
theorem dX2_remove_0 : decode cX2_remove 0 = .ok (.aload_n 0, 1) := by decide +kernel
theorem dX2_remove_1 : decode cX2_remove 1 = .ok (.dup, 1) := by decide +kernel
theorem dX2_remove_2 : decode cX2_remove 2 = .ok (.getfield 21, 3) := by decide +kernel
theorem dX2_remove_5 : decode cX2_remove 5 = .ok (.iconst 1, 1) := by decide +kernel
theorem dX2_remove_6 : decode cX2_remove 6 = .ok (.isub, 1) := by decide +kernel
theorem dX2_remove_7 : decode cX2_remove 7 = .ok (.putfield 21, 3) := by decide +kernel
theorem dX2_remove_10 : decode cX2_remove 10 = .ok (.aload_n 0, 1) := by decide +kernel
theorem dX2_remove_11 : decode cX2_remove 11 = .ok (.lload_n 1, 1) := by decide +kernel
theorem dX2_remove_12 : decode cX2_remove 12 = .ok (.invokevirtual 24, 3) := by decide +kernel
theorem dX2_remove_15 : decode cX2_remove 15 = .ok (.istore_n 3, 1) := by decide +kernel
theorem dX2_remove_16 : decode cX2_remove 16 = .ok (.iload_n 3, 1) := by decide +kernel
theorem dX2_remove_17 : decode cX2_remove 17 = .ok (.aload_n 0, 1) := by decide +kernel
theorem dX2_remove_18 : decode cX2_remove 18 = .ok (.getfield 21, 3) := by decide +kernel
theorem dX2_remove_21 : decode cX2_remove 21 = .ok (.if_icmp .ge 23, 3) := by decide +kernel
theorem dX2_remove_24 : decode cX2_remove 24 = .ok (.aload_n 0, 1) := by decide +kernel
theorem dX2_remove_25 : decode cX2_remove 25 = .ok (.getfield 9, 3) := by decide +kernel
theorem dX2_remove_28 : decode cX2_remove 28 = .ok (.iload_n 3, 1) := by decide +kernel
theorem dX2_remove_29 : decode cX2_remove 29 = .ok (.aload_n 0, 1) := by decide +kernel
theorem dX2_remove_30 : decode cX2_remove 30 = .ok (.getfield 9, 3) := by decide +kernel
theorem dX2_remove_33 : decode cX2_remove 33 = .ok (.iload_n 3, 1) := by decide +kernel
theorem dX2_remove_34 : decode cX2_remove 34 = .ok (.iconst 1, 1) := by decide +kernel
theorem dX2_remove_35 : decode cX2_remove 35 = .ok (.iadd, 1) := by decide +kernel
theorem dX2_remove_36 : decode cX2_remove 36 = .ok (.laload, 1) := by decide +kernel
theorem dX2_remove_37 : decode cX2_remove 37 = .ok (.lastore, 1) := by decide +kernel
theorem dX2_remove_38 : decode cX2_remove 38 = .ok (.iinc 3 1, 3) := by decide +kernel
theorem dX2_remove_41 : decode cX2_remove 41 = .ok (.goto (-25), 3) := by decide +kernel
theorem dX2_remove_44 : decode cX2_remove 44 = .ok (.return_, 1) := by decide +kernel
abbrev cX2_isSame : ByteArray := prog_6_method_9_code
def yX2_isSame : MethodName := ⟨RX2, "isSame", "(LKnowHouse$CanonNames$Graph;)Z"⟩
theorem dX2_isSame_0 : decode cX2_isSame 0 = .ok (.aload_n 0, 1) := by decide +kernel
theorem dX2_isSame_1 : decode cX2_isSame 1 = .ok (.getfield 17, 3) := by decide +kernel
theorem dX2_isSame_4 : decode cX2_isSame 4 = .ok (.aload_n 1, 1) := by decide +kernel
theorem dX2_isSame_5 : decode cX2_isSame 5 = .ok (.getfield 17, 3) := by decide +kernel
theorem dX2_isSame_8 : decode cX2_isSame 8 = .ok (.if_icmp .ne 18, 3) := by decide +kernel
theorem dX2_isSame_11 : decode cX2_isSame 11 = .ok (.aload_n 0, 1) := by decide +kernel
theorem dX2_isSame_12 : decode cX2_isSame 12 = .ok (.getfield 21, 3) := by decide +kernel
theorem dX2_isSame_15 : decode cX2_isSame 15 = .ok (.aload_n 1, 1) := by decide +kernel
theorem dX2_isSame_16 : decode cX2_isSame 16 = .ok (.getfield 21, 3) := by decide +kernel
theorem dX2_isSame_19 : decode cX2_isSame 19 = .ok (.if_icmp .ne 7, 3) := by decide +kernel
theorem dX2_isSame_22 : decode cX2_isSame 22 = .ok (.iconst 1, 1) := by decide +kernel
theorem dX2_isSame_23 : decode cX2_isSame 23 = .ok (.goto 4, 3) := by decide +kernel
theorem dX2_isSame_26 : decode cX2_isSame 26 = .ok (.iconst 0, 1) := by decide +kernel
theorem dX2_isSame_27 : decode cX2_isSame 27 = .ok (.istore_n 2, 1) := by decide +kernel
theorem dX2_isSame_28 : decode cX2_isSame 28 = .ok (.iconst 0, 1) := by decide +kernel
theorem dX2_isSame_29 : decode cX2_isSame 29 = .ok (.istore_n 3, 1) := by decide +kernel
theorem dX2_isSame_30 : decode cX2_isSame 30 = .ok (.iload_n 3, 1) := by decide +kernel
theorem dX2_isSame_31 : decode cX2_isSame 31 = .ok (.aload_n 0, 1) := by decide +kernel
theorem dX2_isSame_32 : decode cX2_isSame 32 = .ok (.getfield 21, 3) := by decide +kernel
theorem dX2_isSame_35 : decode cX2_isSame 35 = .ok (.if_icmp .ge 35, 3) := by decide +kernel
theorem dX2_isSame_38 : decode cX2_isSame 38 = .ok (.iload_n 2, 1) := by decide +kernel
theorem dX2_isSame_39 : decode cX2_isSame 39 = .ok (.ifCond .eq 31, 3) := by decide +kernel
theorem dX2_isSame_42 : decode cX2_isSame 42 = .ok (.aload_n 0, 1) := by decide +kernel
theorem dX2_isSame_43 : decode cX2_isSame 43 = .ok (.getfield 9, 3) := by decide +kernel
theorem dX2_isSame_46 : decode cX2_isSame 46 = .ok (.iload_n 3, 1) := by decide +kernel
theorem dX2_isSame_47 : decode cX2_isSame 47 = .ok (.laload, 1) := by decide +kernel
theorem dX2_isSame_48 : decode cX2_isSame 48 = .ok (.aload_n 1, 1) := by decide +kernel
theorem dX2_isSame_49 : decode cX2_isSame 49 = .ok (.getfield 9, 3) := by decide +kernel
theorem dX2_isSame_52 : decode cX2_isSame 52 = .ok (.iload_n 3, 1) := by decide +kernel
theorem dX2_isSame_53 : decode cX2_isSame 53 = .ok (.laload, 1) := by decide +kernel
theorem dX2_isSame_54 : decode cX2_isSame 54 = .ok (.lcmp, 1) := by decide +kernel
theorem dX2_isSame_55 : decode cX2_isSame 55 = .ok (.ifCond .ne 7, 3) := by decide +kernel
theorem dX2_isSame_58 : decode cX2_isSame 58 = .ok (.iconst 1, 1) := by decide +kernel
theorem dX2_isSame_59 : decode cX2_isSame 59 = .ok (.goto 4, 3) := by decide +kernel
theorem dX2_isSame_62 : decode cX2_isSame 62 = .ok (.iconst 0, 1) := by decide +kernel
theorem dX2_isSame_63 : decode cX2_isSame 63 = .ok (.istore_n 2, 1) := by decide +kernel
theorem dX2_isSame_64 : decode cX2_isSame 64 = .ok (.iinc 3 1, 3) := by decide +kernel
theorem dX2_isSame_67 : decode cX2_isSame 67 = .ok (.goto (-37), 3) := by decide +kernel
theorem dX2_isSame_70 : decode cX2_isSame 70 = .ok (.iload_n 2, 1) := by decide +kernel
theorem dX2_isSame_71 : decode cX2_isSame 71 = .ok (.ireturn, 1) := by decide +kernel
theorem in_X2 : ∀ w ∈ wsX20, w ∈ lw_all := lw_in wsX20 [651, 653, 655] (by decide +kernel) (by decide +kernel)
def RX3 : String := "KnowHouse$CanonNames$Digest"
def TX3 : u_T := fun k => match k with
  | 0 => ("KnowHouse$CanonNames$Digest", "words", "[I", true)
  | 1 => ("KnowHouse$CanonNames$Digest", "block", "[I", true)
  | _ => ("KnowHouse$CanonNames$Digest", "size", "J", false)
def tyX3 : Nat → FieldType := fun k => match k with
  | 0 => .array .int
  | 1 => .array .int
  | _ => .long
abbrev wsX30 : List Cond := u_ws RX3 TX3 3
theorem nmX3 : ∀ a, a < 3 → ∀ b, b < 3 → a ≠ b → (TX3 a).2.1 ≠ (TX3 b).2.1 := by decide +kernel
theorem tyX3_ok : ∀ k, k < 3 → parseFieldDescriptor (TX3 k).2.2.1 = some (tyX3 k) := by decide +kernel
abbrev cX3_init : ByteArray := prog_5_method_1_code
def yX3_init : MethodName := ⟨RX3, "<init>", "()V"⟩
theorem dX3_init_0 : decode cX3_init 0 = .ok (.aload_n 0, 1) := by decide +kernel
theorem dX3_init_1 : decode cX3_init 1 = .ok (.invokespecial 1, 3) := by decide +kernel
theorem dX3_init_4 : decode cX3_init 4 = .ok (.aload_n 0, 1) := by decide +kernel
theorem dX3_init_5 : decode cX3_init 5 = .ok (.bipush 8, 2) := by decide +kernel
theorem dX3_init_7 : decode cX3_init 7 = .ok (.newarray .int, 2) := by decide +kernel
theorem dX3_init_9 : decode cX3_init 9 = .ok (.putfield 7, 3) := by decide +kernel
theorem dX3_init_12 : decode cX3_init 12 = .ok (.aload_n 0, 1) := by decide +kernel
theorem dX3_init_13 : decode cX3_init 13 = .ok (.bipush 64, 2) := by decide +kernel
theorem dX3_init_15 : decode cX3_init 15 = .ok (.newarray .int, 2) := by decide +kernel
theorem dX3_init_17 : decode cX3_init 17 = .ok (.putfield 13, 3) := by decide +kernel
theorem dX3_init_20 : decode cX3_init 20 = .ok (.return_, 1) := by decide +kernel
abbrev cX3_begin : ByteArray := prog_5_method_2_code
def yX3_begin : MethodName := ⟨RX3, "begin", "()V"⟩
theorem dX3_begin_0 : decode cX3_begin 0 = .ok (.aload_n 0, 1) := by decide +kernel
theorem dX3_begin_1 : decode cX3_begin 1 = .ok (.lconst 0, 1) := by decide +kernel
theorem dX3_begin_2 : decode cX3_begin 2 = .ok (.putfield 16, 3) := by decide +kernel
theorem dX3_begin_5 : decode cX3_begin 5 = .ok (.getstatic 20, 3) := by decide +kernel
theorem dX3_begin_8 : decode cX3_begin 8 = .ok (.iconst 0, 1) := by decide +kernel
theorem dX3_begin_9 : decode cX3_begin 9 = .ok (.aload_n 0, 1) := by decide +kernel
theorem dX3_begin_10 : decode cX3_begin 10 = .ok (.getfield 7, 3) := by decide +kernel
theorem dX3_begin_13 : decode cX3_begin 13 = .ok (.iconst 0, 1) := by decide +kernel
theorem dX3_begin_14 : decode cX3_begin 14 = .ok (.bipush 8, 2) := by decide +kernel
theorem dX3_begin_16 : decode cX3_begin 16 = .ok (.invokestatic 25, 3) := by decide +kernel
theorem dX3_begin_19 : decode cX3_begin 19 = .ok (.return_, 1) := by decide +kernel
abbrev cX3_end : ByteArray := prog_5_method_5_code
def yX3_end : MethodName := ⟨RX3, "end", "()V"⟩
theorem dX3_end_0 : decode cX3_end 0 = .ok (.ldc2_w 40, 3) := by decide +kernel
theorem dX3_end_3 : decode cX3_end 3 = .ok (.aload_n 0, 1) := by decide +kernel
theorem dX3_end_4 : decode cX3_end 4 = .ok (.getfield 16, 3) := by decide +kernel
theorem dX3_end_7 : decode cX3_end 7 = .ok (.lmul, 1) := by decide +kernel
theorem dX3_end_8 : decode cX3_end 8 = .ok (.lstore_n 1, 1) := by decide +kernel
theorem dX3_end_9 : decode cX3_end 9 = .ok (.aload_n 0, 1) := by decide +kernel
theorem dX3_end_10 : decode cX3_end 10 = .ok (.sipush 128, 3) := by decide +kernel
theorem dX3_end_13 : decode cX3_end 13 = .ok (.invokevirtual 36, 3) := by decide +kernel
theorem dX3_end_16 : decode cX3_end 16 = .ok (.aload_n 0, 1) := by decide +kernel
theorem dX3_end_17 : decode cX3_end 17 = .ok (.getfield 16, 3) := by decide +kernel
theorem dX3_end_20 : decode cX3_end 20 = .ok (.ldc2_w 31, 3) := by decide +kernel
theorem dX3_end_23 : decode cX3_end 23 = .ok (.land, 1) := by decide +kernel
theorem dX3_end_24 : decode cX3_end 24 = .ok (.ldc2_w 42, 3) := by decide +kernel
theorem dX3_end_27 : decode cX3_end 27 = .ok (.lcmp, 1) := by decide +kernel
theorem dX3_end_28 : decode cX3_end 28 = .ok (.ifCond .eq 11, 3) := by decide +kernel
theorem dX3_end_31 : decode cX3_end 31 = .ok (.aload_n 0, 1) := by decide +kernel
theorem dX3_end_32 : decode cX3_end 32 = .ok (.iconst 0, 1) := by decide +kernel
theorem dX3_end_33 : decode cX3_end 33 = .ok (.invokevirtual 36, 3) := by decide +kernel
theorem dX3_end_36 : decode cX3_end 36 = .ok (.goto (-20), 3) := by decide +kernel
theorem dX3_end_39 : decode cX3_end 39 = .ok (.aload_n 0, 1) := by decide +kernel
theorem dX3_end_40 : decode cX3_end 40 = .ok (.lload_n 1, 1) := by decide +kernel
theorem dX3_end_41 : decode cX3_end 41 = .ok (.bipush 32, 2) := by decide +kernel
theorem dX3_end_43 : decode cX3_end 43 = .ok (.lushr, 1) := by decide +kernel
theorem dX3_end_44 : decode cX3_end 44 = .ok (.l2i, 1) := by decide +kernel
theorem dX3_end_45 : decode cX3_end 45 = .ok (.invokevirtual 44, 3) := by decide +kernel
theorem dX3_end_48 : decode cX3_end 48 = .ok (.aload_n 0, 1) := by decide +kernel
theorem dX3_end_49 : decode cX3_end 49 = .ok (.lload_n 1, 1) := by decide +kernel
theorem dX3_end_50 : decode cX3_end 50 = .ok (.l2i, 1) := by decide +kernel
theorem dX3_end_51 : decode cX3_end 51 = .ok (.invokevirtual 44, 3) := by decide +kernel
theorem dX3_end_54 : decode cX3_end 54 = .ok (.return_, 1) := by decide +kernel
abbrev cX3_add : ByteArray := prog_5_method_3_code
def yX3_add : MethodName := ⟨RX3, "add", "(I)V"⟩
theorem dX3_add_0 : decode cX3_add 0 = .ok (.aload_n 0, 1) := by decide +kernel
theorem dX3_add_1 : decode cX3_add 1 = .ok (.getfield 16, 3) := by decide +kernel
theorem dX3_add_4 : decode cX3_add 4 = .ok (.ldc2_w 31, 3) := by decide +kernel
theorem dX3_add_7 : decode cX3_add 7 = .ok (.land, 1) := by decide +kernel
theorem dX3_add_8 : decode cX3_add 8 = .ok (.l2i, 1) := by decide +kernel
theorem dX3_add_9 : decode cX3_add 9 = .ok (.istore_n 2, 1) := by decide +kernel
theorem dX3_add_10 : decode cX3_add 10 = .ok (.bipush 24, 2) := by decide +kernel
theorem dX3_add_12 : decode cX3_add 12 = .ok (.bipush 8, 2) := by decide +kernel
theorem dX3_add_14 : decode cX3_add 14 = .ok (.iload_n 2, 1) := by decide +kernel
theorem dX3_add_15 : decode cX3_add 15 = .ok (.iconst 3, 1) := by decide +kernel
theorem dX3_add_16 : decode cX3_add 16 = .ok (.iand, 1) := by decide +kernel
theorem dX3_add_17 : decode cX3_add 17 = .ok (.imul, 1) := by decide +kernel
theorem dX3_add_18 : decode cX3_add 18 = .ok (.isub, 1) := by decide +kernel
theorem dX3_add_19 : decode cX3_add 19 = .ok (.istore_n 3, 1) := by decide +kernel
theorem dX3_add_20 : decode cX3_add 20 = .ok (.iload_n 2, 1) := by decide +kernel
theorem dX3_add_21 : decode cX3_add 21 = .ok (.iconst 3, 1) := by decide +kernel
theorem dX3_add_22 : decode cX3_add 22 = .ok (.iand, 1) := by decide +kernel
theorem dX3_add_23 : decode cX3_add 23 = .ok (.ifCond .ne 12, 3) := by decide +kernel
theorem dX3_add_26 : decode cX3_add 26 = .ok (.aload_n 0, 1) := by decide +kernel
theorem dX3_add_27 : decode cX3_add 27 = .ok (.getfield 13, 3) := by decide +kernel
theorem dX3_add_30 : decode cX3_add 30 = .ok (.iload_n 2, 1) := by decide +kernel
theorem dX3_add_31 : decode cX3_add 31 = .ok (.iconst 2, 1) := by decide +kernel
theorem dX3_add_32 : decode cX3_add 32 = .ok (.ishr, 1) := by decide +kernel
theorem dX3_add_33 : decode cX3_add 33 = .ok (.iconst 0, 1) := by decide +kernel
theorem dX3_add_34 : decode cX3_add 34 = .ok (.iastore, 1) := by decide +kernel
theorem dX3_add_35 : decode cX3_add 35 = .ok (.aload_n 0, 1) := by decide +kernel
theorem dX3_add_36 : decode cX3_add 36 = .ok (.getfield 13, 3) := by decide +kernel
theorem dX3_add_39 : decode cX3_add 39 = .ok (.iload_n 2, 1) := by decide +kernel
theorem dX3_add_40 : decode cX3_add 40 = .ok (.iconst 2, 1) := by decide +kernel
theorem dX3_add_41 : decode cX3_add 41 = .ok (.ishr, 1) := by decide +kernel
theorem dX3_add_42 : decode cX3_add 42 = .ok (.dup2, 1) := by decide +kernel
theorem dX3_add_43 : decode cX3_add 43 = .ok (.iaload, 1) := by decide +kernel
theorem dX3_add_44 : decode cX3_add 44 = .ok (.iload_n 1, 1) := by decide +kernel
theorem dX3_add_45 : decode cX3_add 45 = .ok (.sipush 255, 3) := by decide +kernel
theorem dX3_add_48 : decode cX3_add 48 = .ok (.iand, 1) := by decide +kernel
theorem dX3_add_49 : decode cX3_add 49 = .ok (.iload_n 3, 1) := by decide +kernel
theorem dX3_add_50 : decode cX3_add 50 = .ok (.ishl, 1) := by decide +kernel
theorem dX3_add_51 : decode cX3_add 51 = .ok (.ior, 1) := by decide +kernel
theorem dX3_add_52 : decode cX3_add 52 = .ok (.iastore, 1) := by decide +kernel
theorem dX3_add_53 : decode cX3_add 53 = .ok (.aload_n 0, 1) := by decide +kernel
theorem dX3_add_54 : decode cX3_add 54 = .ok (.dup, 1) := by decide +kernel
theorem dX3_add_55 : decode cX3_add 55 = .ok (.getfield 16, 3) := by decide +kernel
theorem dX3_add_58 : decode cX3_add 58 = .ok (.lconst 1, 1) := by decide +kernel
theorem dX3_add_59 : decode cX3_add 59 = .ok (.ladd, 1) := by decide +kernel
theorem dX3_add_60 : decode cX3_add 60 = .ok (.putfield 16, 3) := by decide +kernel
theorem dX3_add_63 : decode cX3_add 63 = .ok (.iload_n 2, 1) := by decide +kernel
theorem dX3_add_64 : decode cX3_add 64 = .ok (.bipush 63, 2) := by decide +kernel
theorem dX3_add_66 : decode cX3_add 66 = .ok (.if_icmp .ne 7, 3) := by decide +kernel
theorem dX3_add_69 : decode cX3_add 69 = .ok (.aload_n 0, 1) := by decide +kernel
theorem dX3_add_70 : decode cX3_add 70 = .ok (.invokevirtual 33, 3) := by decide +kernel
theorem dX3_add_73 : decode cX3_add 73 = .ok (.return_, 1) := by decide +kernel
abbrev cX3_turn : ByteArray := prog_5_method_6_code
def yX3_turn : MethodName := ⟨RX3, "turn", "()V"⟩
theorem dX3_turn_0 : decode cX3_turn 0 = .ok (.bipush 16, 2) := by decide +kernel
theorem dX3_turn_2 : decode cX3_turn 2 = .ok (.istore_n 1, 1) := by decide +kernel
theorem dX3_turn_3 : decode cX3_turn 3 = .ok (.iload_n 1, 1) := by decide +kernel
theorem dX3_turn_4 : decode cX3_turn 4 = .ok (.bipush 64, 2) := by decide +kernel
theorem dX3_turn_6 : decode cX3_turn 6 = .ok (.if_icmp .ge 90, 3) := by decide +kernel
theorem dX3_turn_9 : decode cX3_turn 9 = .ok (.aload_n 0, 1) := by decide +kernel
theorem dX3_turn_10 : decode cX3_turn 10 = .ok (.getfield 13, 3) := by decide +kernel
theorem dX3_turn_13 : decode cX3_turn 13 = .ok (.iload_n 1, 1) := by decide +kernel
theorem dX3_turn_14 : decode cX3_turn 14 = .ok (.bipush 15, 2) := by decide +kernel
theorem dX3_turn_16 : decode cX3_turn 16 = .ok (.isub, 1) := by decide +kernel
theorem dX3_turn_17 : decode cX3_turn 17 = .ok (.iaload, 1) := by decide +kernel
theorem dX3_turn_18 : decode cX3_turn 18 = .ok (.istore_n 2, 1) := by decide +kernel
theorem dX3_turn_19 : decode cX3_turn 19 = .ok (.aload_n 0, 1) := by decide +kernel
theorem dX3_turn_20 : decode cX3_turn 20 = .ok (.getfield 13, 3) := by decide +kernel
theorem dX3_turn_23 : decode cX3_turn 23 = .ok (.iload_n 1, 1) := by decide +kernel
theorem dX3_turn_24 : decode cX3_turn 24 = .ok (.iconst 2, 1) := by decide +kernel
theorem dX3_turn_25 : decode cX3_turn 25 = .ok (.isub, 1) := by decide +kernel
theorem dX3_turn_26 : decode cX3_turn 26 = .ok (.iaload, 1) := by decide +kernel
theorem dX3_turn_27 : decode cX3_turn 27 = .ok (.istore_n 3, 1) := by decide +kernel
theorem dX3_turn_28 : decode cX3_turn 28 = .ok (.aload_n 0, 1) := by decide +kernel
theorem dX3_turn_29 : decode cX3_turn 29 = .ok (.getfield 13, 3) := by decide +kernel
theorem dX3_turn_32 : decode cX3_turn 32 = .ok (.iload_n 1, 1) := by decide +kernel
theorem dX3_turn_33 : decode cX3_turn 33 = .ok (.aload_n 0, 1) := by decide +kernel
theorem dX3_turn_34 : decode cX3_turn 34 = .ok (.getfield 13, 3) := by decide +kernel
theorem dX3_turn_37 : decode cX3_turn 37 = .ok (.iload_n 1, 1) := by decide +kernel
theorem dX3_turn_38 : decode cX3_turn 38 = .ok (.bipush 16, 2) := by decide +kernel
theorem dX3_turn_40 : decode cX3_turn 40 = .ok (.isub, 1) := by decide +kernel
theorem dX3_turn_41 : decode cX3_turn 41 = .ok (.iaload, 1) := by decide +kernel
theorem dX3_turn_42 : decode cX3_turn 42 = .ok (.iload_n 2, 1) := by decide +kernel
theorem dX3_turn_43 : decode cX3_turn 43 = .ok (.bipush 7, 2) := by decide +kernel
theorem dX3_turn_45 : decode cX3_turn 45 = .ok (.invokestatic 47, 3) := by decide +kernel
theorem dX3_turn_48 : decode cX3_turn 48 = .ok (.iload_n 2, 1) := by decide +kernel
theorem dX3_turn_49 : decode cX3_turn 49 = .ok (.bipush 18, 2) := by decide +kernel
theorem dX3_turn_51 : decode cX3_turn 51 = .ok (.invokestatic 47, 3) := by decide +kernel
theorem dX3_turn_54 : decode cX3_turn 54 = .ok (.ixor, 1) := by decide +kernel
theorem dX3_turn_55 : decode cX3_turn 55 = .ok (.iload_n 2, 1) := by decide +kernel
theorem dX3_turn_56 : decode cX3_turn 56 = .ok (.iconst 3, 1) := by decide +kernel
theorem dX3_turn_57 : decode cX3_turn 57 = .ok (.iushr, 1) := by decide +kernel
theorem dX3_turn_58 : decode cX3_turn 58 = .ok (.ixor, 1) := by decide +kernel
theorem dX3_turn_59 : decode cX3_turn 59 = .ok (.iadd, 1) := by decide +kernel
theorem dX3_turn_60 : decode cX3_turn 60 = .ok (.aload_n 0, 1) := by decide +kernel
theorem dX3_turn_61 : decode cX3_turn 61 = .ok (.getfield 13, 3) := by decide +kernel
theorem dX3_turn_64 : decode cX3_turn 64 = .ok (.iload_n 1, 1) := by decide +kernel
theorem dX3_turn_65 : decode cX3_turn 65 = .ok (.bipush 7, 2) := by decide +kernel
theorem dX3_turn_67 : decode cX3_turn 67 = .ok (.isub, 1) := by decide +kernel
theorem dX3_turn_68 : decode cX3_turn 68 = .ok (.iaload, 1) := by decide +kernel
theorem dX3_turn_69 : decode cX3_turn 69 = .ok (.iadd, 1) := by decide +kernel
theorem dX3_turn_70 : decode cX3_turn 70 = .ok (.iload_n 3, 1) := by decide +kernel
theorem dX3_turn_71 : decode cX3_turn 71 = .ok (.bipush 17, 2) := by decide +kernel
theorem dX3_turn_73 : decode cX3_turn 73 = .ok (.invokestatic 47, 3) := by decide +kernel
theorem dX3_turn_76 : decode cX3_turn 76 = .ok (.iload_n 3, 1) := by decide +kernel
theorem dX3_turn_77 : decode cX3_turn 77 = .ok (.bipush 19, 2) := by decide +kernel
theorem dX3_turn_79 : decode cX3_turn 79 = .ok (.invokestatic 47, 3) := by decide +kernel
theorem dX3_turn_82 : decode cX3_turn 82 = .ok (.ixor, 1) := by decide +kernel
theorem dX3_turn_83 : decode cX3_turn 83 = .ok (.iload_n 3, 1) := by decide +kernel
theorem dX3_turn_84 : decode cX3_turn 84 = .ok (.bipush 10, 2) := by decide +kernel
theorem dX3_turn_86 : decode cX3_turn 86 = .ok (.iushr, 1) := by decide +kernel
theorem dX3_turn_87 : decode cX3_turn 87 = .ok (.ixor, 1) := by decide +kernel
theorem dX3_turn_88 : decode cX3_turn 88 = .ok (.iadd, 1) := by decide +kernel
theorem dX3_turn_89 : decode cX3_turn 89 = .ok (.iastore, 1) := by decide +kernel
theorem dX3_turn_90 : decode cX3_turn 90 = .ok (.iinc 1 1, 3) := by decide +kernel
theorem dX3_turn_93 : decode cX3_turn 93 = .ok (.goto (-90), 3) := by decide +kernel
theorem dX3_turn_96 : decode cX3_turn 96 = .ok (.aload_n 0, 1) := by decide +kernel
theorem dX3_turn_97 : decode cX3_turn 97 = .ok (.getfield 7, 3) := by decide +kernel
theorem dX3_turn_100 : decode cX3_turn 100 = .ok (.iconst 0, 1) := by decide +kernel
theorem dX3_turn_101 : decode cX3_turn 101 = .ok (.iaload, 1) := by decide +kernel
theorem dX3_turn_102 : decode cX3_turn 102 = .ok (.istore_n 1, 1) := by decide +kernel
theorem dX3_turn_103 : decode cX3_turn 103 = .ok (.aload_n 0, 1) := by decide +kernel
theorem dX3_turn_104 : decode cX3_turn 104 = .ok (.getfield 7, 3) := by decide +kernel
theorem dX3_turn_107 : decode cX3_turn 107 = .ok (.iconst 1, 1) := by decide +kernel
theorem dX3_turn_108 : decode cX3_turn 108 = .ok (.iaload, 1) := by decide +kernel
theorem dX3_turn_109 : decode cX3_turn 109 = .ok (.istore_n 2, 1) := by decide +kernel
theorem dX3_turn_110 : decode cX3_turn 110 = .ok (.aload_n 0, 1) := by decide +kernel
theorem dX3_turn_111 : decode cX3_turn 111 = .ok (.getfield 7, 3) := by decide +kernel
theorem dX3_turn_114 : decode cX3_turn 114 = .ok (.iconst 2, 1) := by decide +kernel
theorem dX3_turn_115 : decode cX3_turn 115 = .ok (.iaload, 1) := by decide +kernel
theorem dX3_turn_116 : decode cX3_turn 116 = .ok (.istore_n 3, 1) := by decide +kernel
theorem dX3_turn_117 : decode cX3_turn 117 = .ok (.aload_n 0, 1) := by decide +kernel
theorem dX3_turn_118 : decode cX3_turn 118 = .ok (.getfield 7, 3) := by decide +kernel
theorem dX3_turn_121 : decode cX3_turn 121 = .ok (.iconst 3, 1) := by decide +kernel
theorem dX3_turn_122 : decode cX3_turn 122 = .ok (.iaload, 1) := by decide +kernel
theorem dX3_turn_123 : decode cX3_turn 123 = .ok (.istore 4, 2) := by decide +kernel
theorem dX3_turn_125 : decode cX3_turn 125 = .ok (.aload_n 0, 1) := by decide +kernel
theorem dX3_turn_126 : decode cX3_turn 126 = .ok (.getfield 7, 3) := by decide +kernel
theorem dX3_turn_129 : decode cX3_turn 129 = .ok (.iconst 4, 1) := by decide +kernel
theorem dX3_turn_130 : decode cX3_turn 130 = .ok (.iaload, 1) := by decide +kernel
theorem dX3_turn_131 : decode cX3_turn 131 = .ok (.istore 5, 2) := by decide +kernel
theorem dX3_turn_133 : decode cX3_turn 133 = .ok (.aload_n 0, 1) := by decide +kernel
theorem dX3_turn_134 : decode cX3_turn 134 = .ok (.getfield 7, 3) := by decide +kernel
theorem dX3_turn_137 : decode cX3_turn 137 = .ok (.iconst 5, 1) := by decide +kernel
theorem dX3_turn_138 : decode cX3_turn 138 = .ok (.iaload, 1) := by decide +kernel
theorem dX3_turn_139 : decode cX3_turn 139 = .ok (.istore 6, 2) := by decide +kernel
theorem dX3_turn_141 : decode cX3_turn 141 = .ok (.aload_n 0, 1) := by decide +kernel
theorem dX3_turn_142 : decode cX3_turn 142 = .ok (.getfield 7, 3) := by decide +kernel
theorem dX3_turn_145 : decode cX3_turn 145 = .ok (.bipush 6, 2) := by decide +kernel
theorem dX3_turn_147 : decode cX3_turn 147 = .ok (.iaload, 1) := by decide +kernel
theorem dX3_turn_148 : decode cX3_turn 148 = .ok (.istore 7, 2) := by decide +kernel
theorem dX3_turn_150 : decode cX3_turn 150 = .ok (.aload_n 0, 1) := by decide +kernel
theorem dX3_turn_151 : decode cX3_turn 151 = .ok (.getfield 7, 3) := by decide +kernel
theorem dX3_turn_154 : decode cX3_turn 154 = .ok (.bipush 7, 2) := by decide +kernel
theorem dX3_turn_156 : decode cX3_turn 156 = .ok (.iaload, 1) := by decide +kernel
theorem dX3_turn_157 : decode cX3_turn 157 = .ok (.istore 8, 2) := by decide +kernel
theorem dX3_turn_159 : decode cX3_turn 159 = .ok (.iconst 0, 1) := by decide +kernel
theorem dX3_turn_160 : decode cX3_turn 160 = .ok (.istore 9, 2) := by decide +kernel
theorem dX3_turn_162 : decode cX3_turn 162 = .ok (.iload 9, 2) := by decide +kernel
theorem dX3_turn_164 : decode cX3_turn 164 = .ok (.bipush 64, 2) := by decide +kernel
theorem dX3_turn_166 : decode cX3_turn 166 = .ok (.if_icmp .ge 131, 3) := by decide +kernel
theorem dX3_turn_169 : decode cX3_turn 169 = .ok (.iload 8, 2) := by decide +kernel
theorem dX3_turn_171 : decode cX3_turn 171 = .ok (.iload 5, 2) := by decide +kernel
theorem dX3_turn_173 : decode cX3_turn 173 = .ok (.bipush 6, 2) := by decide +kernel
theorem dX3_turn_175 : decode cX3_turn 175 = .ok (.invokestatic 47, 3) := by decide +kernel
theorem dX3_turn_178 : decode cX3_turn 178 = .ok (.iload 5, 2) := by decide +kernel
theorem dX3_turn_180 : decode cX3_turn 180 = .ok (.bipush 11, 2) := by decide +kernel
theorem dX3_turn_182 : decode cX3_turn 182 = .ok (.invokestatic 47, 3) := by decide +kernel
theorem dX3_turn_185 : decode cX3_turn 185 = .ok (.ixor, 1) := by decide +kernel
theorem dX3_turn_186 : decode cX3_turn 186 = .ok (.iload 5, 2) := by decide +kernel
theorem dX3_turn_188 : decode cX3_turn 188 = .ok (.bipush 25, 2) := by decide +kernel
theorem dX3_turn_190 : decode cX3_turn 190 = .ok (.invokestatic 47, 3) := by decide +kernel
theorem dX3_turn_193 : decode cX3_turn 193 = .ok (.ixor, 1) := by decide +kernel
theorem dX3_turn_194 : decode cX3_turn 194 = .ok (.iadd, 1) := by decide +kernel
theorem dX3_turn_195 : decode cX3_turn 195 = .ok (.iload 5, 2) := by decide +kernel
theorem dX3_turn_197 : decode cX3_turn 197 = .ok (.iload 6, 2) := by decide +kernel
theorem dX3_turn_199 : decode cX3_turn 199 = .ok (.iand, 1) := by decide +kernel
theorem dX3_turn_200 : decode cX3_turn 200 = .ok (.iload 5, 2) := by decide +kernel
theorem dX3_turn_202 : decode cX3_turn 202 = .ok (.iconst (-1), 1) := by decide +kernel
theorem dX3_turn_203 : decode cX3_turn 203 = .ok (.ixor, 1) := by decide +kernel
theorem dX3_turn_204 : decode cX3_turn 204 = .ok (.iload 7, 2) := by decide +kernel
theorem dX3_turn_206 : decode cX3_turn 206 = .ok (.iand, 1) := by decide +kernel
theorem dX3_turn_207 : decode cX3_turn 207 = .ok (.ixor, 1) := by decide +kernel
theorem dX3_turn_208 : decode cX3_turn 208 = .ok (.iadd, 1) := by decide +kernel
theorem dX3_turn_209 : decode cX3_turn 209 = .ok (.getstatic 53, 3) := by decide +kernel
theorem dX3_turn_212 : decode cX3_turn 212 = .ok (.iload 9, 2) := by decide +kernel
theorem dX3_turn_214 : decode cX3_turn 214 = .ok (.iaload, 1) := by decide +kernel
theorem dX3_turn_215 : decode cX3_turn 215 = .ok (.iadd, 1) := by decide +kernel
theorem dX3_turn_216 : decode cX3_turn 216 = .ok (.aload_n 0, 1) := by decide +kernel
theorem dX3_turn_217 : decode cX3_turn 217 = .ok (.getfield 13, 3) := by decide +kernel
theorem dX3_turn_220 : decode cX3_turn 220 = .ok (.iload 9, 2) := by decide +kernel
theorem dX3_turn_222 : decode cX3_turn 222 = .ok (.iaload, 1) := by decide +kernel
theorem dX3_turn_223 : decode cX3_turn 223 = .ok (.iadd, 1) := by decide +kernel
theorem dX3_turn_224 : decode cX3_turn 224 = .ok (.istore 10, 2) := by decide +kernel
theorem dX3_turn_226 : decode cX3_turn 226 = .ok (.iload_n 1, 1) := by decide +kernel
theorem dX3_turn_227 : decode cX3_turn 227 = .ok (.iconst 2, 1) := by decide +kernel
theorem dX3_turn_228 : decode cX3_turn 228 = .ok (.invokestatic 47, 3) := by decide +kernel
theorem dX3_turn_231 : decode cX3_turn 231 = .ok (.iload_n 1, 1) := by decide +kernel
theorem dX3_turn_232 : decode cX3_turn 232 = .ok (.bipush 13, 2) := by decide +kernel
theorem dX3_turn_234 : decode cX3_turn 234 = .ok (.invokestatic 47, 3) := by decide +kernel
theorem dX3_turn_237 : decode cX3_turn 237 = .ok (.ixor, 1) := by decide +kernel
theorem dX3_turn_238 : decode cX3_turn 238 = .ok (.iload_n 1, 1) := by decide +kernel
theorem dX3_turn_239 : decode cX3_turn 239 = .ok (.bipush 22, 2) := by decide +kernel
theorem dX3_turn_241 : decode cX3_turn 241 = .ok (.invokestatic 47, 3) := by decide +kernel
theorem dX3_turn_244 : decode cX3_turn 244 = .ok (.ixor, 1) := by decide +kernel
theorem dX3_turn_245 : decode cX3_turn 245 = .ok (.iload_n 1, 1) := by decide +kernel
theorem dX3_turn_246 : decode cX3_turn 246 = .ok (.iload_n 2, 1) := by decide +kernel
theorem dX3_turn_247 : decode cX3_turn 247 = .ok (.iand, 1) := by decide +kernel
theorem dX3_turn_248 : decode cX3_turn 248 = .ok (.iload_n 1, 1) := by decide +kernel
theorem dX3_turn_249 : decode cX3_turn 249 = .ok (.iload_n 3, 1) := by decide +kernel
theorem dX3_turn_250 : decode cX3_turn 250 = .ok (.iand, 1) := by decide +kernel
theorem dX3_turn_251 : decode cX3_turn 251 = .ok (.ixor, 1) := by decide +kernel
theorem dX3_turn_252 : decode cX3_turn 252 = .ok (.iload_n 2, 1) := by decide +kernel
theorem dX3_turn_253 : decode cX3_turn 253 = .ok (.iload_n 3, 1) := by decide +kernel
theorem dX3_turn_254 : decode cX3_turn 254 = .ok (.iand, 1) := by decide +kernel
theorem dX3_turn_255 : decode cX3_turn 255 = .ok (.ixor, 1) := by decide +kernel
theorem dX3_turn_256 : decode cX3_turn 256 = .ok (.iadd, 1) := by decide +kernel
theorem dX3_turn_257 : decode cX3_turn 257 = .ok (.istore 11, 2) := by decide +kernel
theorem dX3_turn_259 : decode cX3_turn 259 = .ok (.iload 7, 2) := by decide +kernel
theorem dX3_turn_261 : decode cX3_turn 261 = .ok (.istore 8, 2) := by decide +kernel
theorem dX3_turn_263 : decode cX3_turn 263 = .ok (.iload 6, 2) := by decide +kernel
theorem dX3_turn_265 : decode cX3_turn 265 = .ok (.istore 7, 2) := by decide +kernel
theorem dX3_turn_267 : decode cX3_turn 267 = .ok (.iload 5, 2) := by decide +kernel
theorem dX3_turn_269 : decode cX3_turn 269 = .ok (.istore 6, 2) := by decide +kernel
theorem dX3_turn_271 : decode cX3_turn 271 = .ok (.iload 4, 2) := by decide +kernel
theorem dX3_turn_273 : decode cX3_turn 273 = .ok (.iload 10, 2) := by decide +kernel
theorem dX3_turn_275 : decode cX3_turn 275 = .ok (.iadd, 1) := by decide +kernel
theorem dX3_turn_276 : decode cX3_turn 276 = .ok (.istore 5, 2) := by decide +kernel
theorem dX3_turn_278 : decode cX3_turn 278 = .ok (.iload_n 3, 1) := by decide +kernel
theorem dX3_turn_279 : decode cX3_turn 279 = .ok (.istore 4, 2) := by decide +kernel
theorem dX3_turn_281 : decode cX3_turn 281 = .ok (.iload_n 2, 1) := by decide +kernel
theorem dX3_turn_282 : decode cX3_turn 282 = .ok (.istore_n 3, 1) := by decide +kernel
theorem dX3_turn_283 : decode cX3_turn 283 = .ok (.iload_n 1, 1) := by decide +kernel
theorem dX3_turn_284 : decode cX3_turn 284 = .ok (.istore_n 2, 1) := by decide +kernel
theorem dX3_turn_285 : decode cX3_turn 285 = .ok (.iload 10, 2) := by decide +kernel
theorem dX3_turn_287 : decode cX3_turn 287 = .ok (.iload 11, 2) := by decide +kernel
theorem dX3_turn_289 : decode cX3_turn 289 = .ok (.iadd, 1) := by decide +kernel
theorem dX3_turn_290 : decode cX3_turn 290 = .ok (.istore_n 1, 1) := by decide +kernel
theorem dX3_turn_291 : decode cX3_turn 291 = .ok (.iinc 9 1, 3) := by decide +kernel
theorem dX3_turn_294 : decode cX3_turn 294 = .ok (.goto (-132), 3) := by decide +kernel
theorem dX3_turn_297 : decode cX3_turn 297 = .ok (.aload_n 0, 1) := by decide +kernel
theorem dX3_turn_298 : decode cX3_turn 298 = .ok (.getfield 7, 3) := by decide +kernel
theorem dX3_turn_301 : decode cX3_turn 301 = .ok (.iconst 0, 1) := by decide +kernel
theorem dX3_turn_302 : decode cX3_turn 302 = .ok (.dup2, 1) := by decide +kernel
theorem dX3_turn_303 : decode cX3_turn 303 = .ok (.iaload, 1) := by decide +kernel
theorem dX3_turn_304 : decode cX3_turn 304 = .ok (.iload_n 1, 1) := by decide +kernel
theorem dX3_turn_305 : decode cX3_turn 305 = .ok (.iadd, 1) := by decide +kernel
theorem dX3_turn_306 : decode cX3_turn 306 = .ok (.iastore, 1) := by decide +kernel
theorem dX3_turn_307 : decode cX3_turn 307 = .ok (.aload_n 0, 1) := by decide +kernel
theorem dX3_turn_308 : decode cX3_turn 308 = .ok (.getfield 7, 3) := by decide +kernel
theorem dX3_turn_311 : decode cX3_turn 311 = .ok (.iconst 1, 1) := by decide +kernel
theorem dX3_turn_312 : decode cX3_turn 312 = .ok (.dup2, 1) := by decide +kernel
theorem dX3_turn_313 : decode cX3_turn 313 = .ok (.iaload, 1) := by decide +kernel
theorem dX3_turn_314 : decode cX3_turn 314 = .ok (.iload_n 2, 1) := by decide +kernel
theorem dX3_turn_315 : decode cX3_turn 315 = .ok (.iadd, 1) := by decide +kernel
theorem dX3_turn_316 : decode cX3_turn 316 = .ok (.iastore, 1) := by decide +kernel
theorem dX3_turn_317 : decode cX3_turn 317 = .ok (.aload_n 0, 1) := by decide +kernel
theorem dX3_turn_318 : decode cX3_turn 318 = .ok (.getfield 7, 3) := by decide +kernel
theorem dX3_turn_321 : decode cX3_turn 321 = .ok (.iconst 2, 1) := by decide +kernel
theorem dX3_turn_322 : decode cX3_turn 322 = .ok (.dup2, 1) := by decide +kernel
theorem dX3_turn_323 : decode cX3_turn 323 = .ok (.iaload, 1) := by decide +kernel
theorem dX3_turn_324 : decode cX3_turn 324 = .ok (.iload_n 3, 1) := by decide +kernel
theorem dX3_turn_325 : decode cX3_turn 325 = .ok (.iadd, 1) := by decide +kernel
theorem dX3_turn_326 : decode cX3_turn 326 = .ok (.iastore, 1) := by decide +kernel
theorem dX3_turn_327 : decode cX3_turn 327 = .ok (.aload_n 0, 1) := by decide +kernel
theorem dX3_turn_328 : decode cX3_turn 328 = .ok (.getfield 7, 3) := by decide +kernel
theorem dX3_turn_331 : decode cX3_turn 331 = .ok (.iconst 3, 1) := by decide +kernel
theorem dX3_turn_332 : decode cX3_turn 332 = .ok (.dup2, 1) := by decide +kernel
theorem dX3_turn_333 : decode cX3_turn 333 = .ok (.iaload, 1) := by decide +kernel
theorem dX3_turn_334 : decode cX3_turn 334 = .ok (.iload 4, 2) := by decide +kernel
theorem dX3_turn_336 : decode cX3_turn 336 = .ok (.iadd, 1) := by decide +kernel
theorem dX3_turn_337 : decode cX3_turn 337 = .ok (.iastore, 1) := by decide +kernel
theorem dX3_turn_338 : decode cX3_turn 338 = .ok (.aload_n 0, 1) := by decide +kernel
theorem dX3_turn_339 : decode cX3_turn 339 = .ok (.getfield 7, 3) := by decide +kernel
theorem dX3_turn_342 : decode cX3_turn 342 = .ok (.iconst 4, 1) := by decide +kernel
theorem dX3_turn_343 : decode cX3_turn 343 = .ok (.dup2, 1) := by decide +kernel
theorem dX3_turn_344 : decode cX3_turn 344 = .ok (.iaload, 1) := by decide +kernel
theorem dX3_turn_345 : decode cX3_turn 345 = .ok (.iload 5, 2) := by decide +kernel
theorem dX3_turn_347 : decode cX3_turn 347 = .ok (.iadd, 1) := by decide +kernel
theorem dX3_turn_348 : decode cX3_turn 348 = .ok (.iastore, 1) := by decide +kernel
theorem dX3_turn_349 : decode cX3_turn 349 = .ok (.aload_n 0, 1) := by decide +kernel
theorem dX3_turn_350 : decode cX3_turn 350 = .ok (.getfield 7, 3) := by decide +kernel
theorem dX3_turn_353 : decode cX3_turn 353 = .ok (.iconst 5, 1) := by decide +kernel
theorem dX3_turn_354 : decode cX3_turn 354 = .ok (.dup2, 1) := by decide +kernel
theorem dX3_turn_355 : decode cX3_turn 355 = .ok (.iaload, 1) := by decide +kernel
theorem dX3_turn_356 : decode cX3_turn 356 = .ok (.iload 6, 2) := by decide +kernel
theorem dX3_turn_358 : decode cX3_turn 358 = .ok (.iadd, 1) := by decide +kernel
theorem dX3_turn_359 : decode cX3_turn 359 = .ok (.iastore, 1) := by decide +kernel
theorem dX3_turn_360 : decode cX3_turn 360 = .ok (.aload_n 0, 1) := by decide +kernel
theorem dX3_turn_361 : decode cX3_turn 361 = .ok (.getfield 7, 3) := by decide +kernel
theorem dX3_turn_364 : decode cX3_turn 364 = .ok (.bipush 6, 2) := by decide +kernel
theorem dX3_turn_366 : decode cX3_turn 366 = .ok (.dup2, 1) := by decide +kernel
theorem dX3_turn_367 : decode cX3_turn 367 = .ok (.iaload, 1) := by decide +kernel
theorem dX3_turn_368 : decode cX3_turn 368 = .ok (.iload 7, 2) := by decide +kernel
theorem dX3_turn_370 : decode cX3_turn 370 = .ok (.iadd, 1) := by decide +kernel
theorem dX3_turn_371 : decode cX3_turn 371 = .ok (.iastore, 1) := by decide +kernel
theorem dX3_turn_372 : decode cX3_turn 372 = .ok (.aload_n 0, 1) := by decide +kernel
theorem dX3_turn_373 : decode cX3_turn 373 = .ok (.getfield 7, 3) := by decide +kernel
theorem dX3_turn_376 : decode cX3_turn 376 = .ok (.bipush 7, 2) := by decide +kernel
theorem dX3_turn_378 : decode cX3_turn 378 = .ok (.dup2, 1) := by decide +kernel
theorem dX3_turn_379 : decode cX3_turn 379 = .ok (.iaload, 1) := by decide +kernel
theorem dX3_turn_380 : decode cX3_turn 380 = .ok (.iload 8, 2) := by decide +kernel
theorem dX3_turn_382 : decode cX3_turn 382 = .ok (.iadd, 1) := by decide +kernel
theorem dX3_turn_383 : decode cX3_turn 383 = .ok (.iastore, 1) := by decide +kernel
theorem dX3_turn_384 : decode cX3_turn 384 = .ok (.return_, 1) := by decide +kernel
abbrev cX3_addWord : ByteArray := prog_5_method_4_code
def yX3_addWord : MethodName := ⟨RX3, "addWord", "(I)V"⟩
theorem dX3_addWord_0 : decode cX3_addWord 0 = .ok (.bipush 24, 2) := by decide +kernel
theorem dX3_addWord_2 : decode cX3_addWord 2 = .ok (.istore_n 2, 1) := by decide +kernel
theorem dX3_addWord_3 : decode cX3_addWord 3 = .ok (.iload_n 2, 1) := by decide +kernel
theorem dX3_addWord_4 : decode cX3_addWord 4 = .ok (.ifCond .lt 16, 3) := by decide +kernel
theorem dX3_addWord_7 : decode cX3_addWord 7 = .ok (.aload_n 0, 1) := by decide +kernel
theorem dX3_addWord_8 : decode cX3_addWord 8 = .ok (.iload_n 1, 1) := by decide +kernel
theorem dX3_addWord_9 : decode cX3_addWord 9 = .ok (.iload_n 2, 1) := by decide +kernel
theorem dX3_addWord_10 : decode cX3_addWord 10 = .ok (.iushr, 1) := by decide +kernel
theorem dX3_addWord_11 : decode cX3_addWord 11 = .ok (.invokevirtual 36, 3) := by decide +kernel
theorem dX3_addWord_14 : decode cX3_addWord 14 = .ok (.iinc 2 (-8), 3) := by decide +kernel
theorem dX3_addWord_17 : decode cX3_addWord 17 = .ok (.goto (-14), 3) := by decide +kernel
theorem dX3_addWord_20 : decode cX3_addWord 20 = .ok (.return_, 1) := by decide +kernel
theorem in_X3 : ∀ w ∈ wsX30, w ∈ lw_all := lw_in wsX30 [670, 672, 674] (by decide +kernel) (by decide +kernel)
def RX4 : String := "KnowHouse$CanonNames$Description"
def TX4 : u_T := fun k => match k with
  | 0 => ("KnowHouse$CanonNames$Description", "bytes", "[B", true)
  | _ => ("KnowHouse$CanonNames$Description", "size", "I", false)
def tyX4 : Nat → FieldType := fun k => match k with
  | 0 => .array .byte
  | _ => .int
abbrev wsX40 : List Cond := u_ws RX4 TX4 2
theorem nmX4 : ∀ a, a < 2 → ∀ b, b < 2 → a ≠ b → (TX4 a).2.1 ≠ (TX4 b).2.1 := by decide +kernel
theorem tyX4_ok : ∀ k, k < 2 → parseFieldDescriptor (TX4 k).2.2.1 = some (tyX4 k) := by decide +kernel
abbrev cX4_init : ByteArray := prog_4_method_1_code
def yX4_init : MethodName := ⟨RX4, "<init>", "()V"⟩
theorem dX4_init_0 : decode cX4_init 0 = .ok (.aload_n 0, 1) := by decide +kernel
theorem dX4_init_1 : decode cX4_init 1 = .ok (.invokespecial 1, 3) := by decide +kernel
theorem dX4_init_4 : decode cX4_init 4 = .ok (.aload_n 0, 1) := by decide +kernel
theorem dX4_init_5 : decode cX4_init 5 = .ok (.bipush 99, 2) := by decide +kernel
theorem dX4_init_7 : decode cX4_init 7 = .ok (.newarray .byte, 2) := by decide +kernel
theorem dX4_init_9 : decode cX4_init 9 = .ok (.putfield 7, 3) := by decide +kernel
theorem dX4_init_12 : decode cX4_init 12 = .ok (.return_, 1) := by decide +kernel
abbrev cX4_add : ByteArray := prog_4_method_2_code
def yX4_add : MethodName := ⟨RX4, "add", "(I)V"⟩
theorem dX4_add_0 : decode cX4_add 0 = .ok (.aload_n 0, 1) := by decide +kernel
theorem dX4_add_1 : decode cX4_add 1 = .ok (.getfield 7, 3) := by decide +kernel
theorem dX4_add_4 : decode cX4_add 4 = .ok (.aload_n 0, 1) := by decide +kernel
theorem dX4_add_5 : decode cX4_add 5 = .ok (.getfield 13, 3) := by decide +kernel
theorem dX4_add_8 : decode cX4_add 8 = .ok (.iload_n 1, 1) := by decide +kernel
theorem dX4_add_9 : decode cX4_add 9 = .ok (.i2b, 1) := by decide +kernel
theorem dX4_add_10 : decode cX4_add 10 = .ok (.bastore, 1) := by decide +kernel
theorem dX4_add_11 : decode cX4_add 11 = .ok (.aload_n 0, 1) := by decide +kernel
theorem dX4_add_12 : decode cX4_add 12 = .ok (.dup, 1) := by decide +kernel
theorem dX4_add_13 : decode cX4_add 13 = .ok (.getfield 13, 3) := by decide +kernel
theorem dX4_add_16 : decode cX4_add 16 = .ok (.iconst 1, 1) := by decide +kernel
theorem dX4_add_17 : decode cX4_add 17 = .ok (.iadd, 1) := by decide +kernel
theorem dX4_add_18 : decode cX4_add 18 = .ok (.putfield 13, 3) := by decide +kernel
theorem dX4_add_21 : decode cX4_add 21 = .ok (.return_, 1) := by decide +kernel
abbrev cX4_addWord : ByteArray := prog_4_method_3_code
def yX4_addWord : MethodName := ⟨RX4, "addWord", "(I)V"⟩
theorem dX4_addWord_0 : decode cX4_addWord 0 = .ok (.bipush 24, 2) := by decide +kernel
theorem dX4_addWord_2 : decode cX4_addWord 2 = .ok (.istore_n 2, 1) := by decide +kernel
theorem dX4_addWord_3 : decode cX4_addWord 3 = .ok (.iload_n 2, 1) := by decide +kernel
theorem dX4_addWord_4 : decode cX4_addWord 4 = .ok (.ifCond .lt 16, 3) := by decide +kernel
theorem dX4_addWord_7 : decode cX4_addWord 7 = .ok (.aload_n 0, 1) := by decide +kernel
theorem dX4_addWord_8 : decode cX4_addWord 8 = .ok (.iload_n 1, 1) := by decide +kernel
theorem dX4_addWord_9 : decode cX4_addWord 9 = .ok (.iload_n 2, 1) := by decide +kernel
theorem dX4_addWord_10 : decode cX4_addWord 10 = .ok (.iushr, 1) := by decide +kernel
theorem dX4_addWord_11 : decode cX4_addWord 11 = .ok (.invokevirtual 17, 3) := by decide +kernel
theorem dX4_addWord_14 : decode cX4_addWord 14 = .ok (.iinc 2 (-8), 3) := by decide +kernel
theorem dX4_addWord_17 : decode cX4_addWord 17 = .ok (.goto (-14), 3) := by decide +kernel
theorem dX4_addWord_20 : decode cX4_addWord 20 = .ok (.return_, 1) := by decide +kernel
abbrev cX4_compareTo : ByteArray := prog_4_method_4_code
def yX4_compareTo : MethodName := ⟨RX4, "compareTo", "(LKnowHouse$CanonNames$Description;)I"⟩
theorem dX4_compareTo_0 : decode cX4_compareTo 0 = .ok (.iconst 0, 1) := by decide +kernel
theorem dX4_compareTo_1 : decode cX4_compareTo 1 = .ok (.istore_n 2, 1) := by decide +kernel
theorem dX4_compareTo_2 : decode cX4_compareTo 2 = .ok (.iload_n 2, 1) := by decide +kernel
theorem dX4_compareTo_3 : decode cX4_compareTo 3 = .ok (.aload_n 0, 1) := by decide +kernel
theorem dX4_compareTo_4 : decode cX4_compareTo 4 = .ok (.getfield 13, 3) := by decide +kernel
theorem dX4_compareTo_7 : decode cX4_compareTo 7 = .ok (.if_icmp .ge 32, 3) := by decide +kernel
theorem dX4_compareTo_10 : decode cX4_compareTo 10 = .ok (.iload_n 2, 1) := by decide +kernel
theorem dX4_compareTo_11 : decode cX4_compareTo 11 = .ok (.aload_n 1, 1) := by decide +kernel
theorem dX4_compareTo_12 : decode cX4_compareTo 12 = .ok (.getfield 13, 3) := by decide +kernel
theorem dX4_compareTo_15 : decode cX4_compareTo 15 = .ok (.if_icmp .ge 24, 3) := by decide +kernel
theorem dX4_compareTo_18 : decode cX4_compareTo 18 = .ok (.aload_n 0, 1) := by decide +kernel
theorem dX4_compareTo_19 : decode cX4_compareTo 19 = .ok (.getfield 7, 3) := by decide +kernel
theorem dX4_compareTo_22 : decode cX4_compareTo 22 = .ok (.iload_n 2, 1) := by decide +kernel
theorem dX4_compareTo_23 : decode cX4_compareTo 23 = .ok (.baload, 1) := by decide +kernel
theorem dX4_compareTo_24 : decode cX4_compareTo 24 = .ok (.aload_n 1, 1) := by decide +kernel
theorem dX4_compareTo_25 : decode cX4_compareTo 25 = .ok (.getfield 7, 3) := by decide +kernel
theorem dX4_compareTo_28 : decode cX4_compareTo 28 = .ok (.iload_n 2, 1) := by decide +kernel
theorem dX4_compareTo_29 : decode cX4_compareTo 29 = .ok (.baload, 1) := by decide +kernel
theorem dX4_compareTo_30 : decode cX4_compareTo 30 = .ok (.if_icmp .ne 9, 3) := by decide +kernel
theorem dX4_compareTo_33 : decode cX4_compareTo 33 = .ok (.iinc 2 1, 3) := by decide +kernel
theorem dX4_compareTo_36 : decode cX4_compareTo 36 = .ok (.goto (-34), 3) := by decide +kernel
theorem dX4_compareTo_39 : decode cX4_compareTo 39 = .ok (.iload_n 2, 1) := by decide +kernel
theorem dX4_compareTo_40 : decode cX4_compareTo 40 = .ok (.aload_n 0, 1) := by decide +kernel
theorem dX4_compareTo_41 : decode cX4_compareTo 41 = .ok (.getfield 13, 3) := by decide +kernel
theorem dX4_compareTo_44 : decode cX4_compareTo 44 = .ok (.if_icmp .eq 11, 3) := by decide +kernel
theorem dX4_compareTo_47 : decode cX4_compareTo 47 = .ok (.iload_n 2, 1) := by decide +kernel
theorem dX4_compareTo_48 : decode cX4_compareTo 48 = .ok (.aload_n 1, 1) := by decide +kernel
theorem dX4_compareTo_49 : decode cX4_compareTo 49 = .ok (.getfield 13, 3) := by decide +kernel
theorem dX4_compareTo_52 : decode cX4_compareTo 52 = .ok (.if_icmp .ne 15, 3) := by decide +kernel
theorem dX4_compareTo_55 : decode cX4_compareTo 55 = .ok (.aload_n 0, 1) := by decide +kernel
theorem dX4_compareTo_56 : decode cX4_compareTo 56 = .ok (.getfield 13, 3) := by decide +kernel
theorem dX4_compareTo_59 : decode cX4_compareTo 59 = .ok (.aload_n 1, 1) := by decide +kernel
theorem dX4_compareTo_60 : decode cX4_compareTo 60 = .ok (.getfield 13, 3) := by decide +kernel
theorem dX4_compareTo_63 : decode cX4_compareTo 63 = .ok (.invokestatic 21, 3) := by decide +kernel
theorem dX4_compareTo_66 : decode cX4_compareTo 66 = .ok (.ireturn, 1) := by decide +kernel
theorem dX4_compareTo_67 : decode cX4_compareTo 67 = .ok (.aload_n 0, 1) := by decide +kernel
theorem dX4_compareTo_68 : decode cX4_compareTo 68 = .ok (.getfield 7, 3) := by decide +kernel
theorem dX4_compareTo_71 : decode cX4_compareTo 71 = .ok (.iload_n 2, 1) := by decide +kernel
theorem dX4_compareTo_72 : decode cX4_compareTo 72 = .ok (.baload, 1) := by decide +kernel
theorem dX4_compareTo_73 : decode cX4_compareTo 73 = .ok (.sipush 255, 3) := by decide +kernel
theorem dX4_compareTo_76 : decode cX4_compareTo 76 = .ok (.iand, 1) := by decide +kernel
theorem dX4_compareTo_77 : decode cX4_compareTo 77 = .ok (.aload_n 1, 1) := by decide +kernel
theorem dX4_compareTo_78 : decode cX4_compareTo 78 = .ok (.getfield 7, 3) := by decide +kernel
theorem dX4_compareTo_81 : decode cX4_compareTo 81 = .ok (.iload_n 2, 1) := by decide +kernel
theorem dX4_compareTo_82 : decode cX4_compareTo 82 = .ok (.baload, 1) := by decide +kernel
theorem dX4_compareTo_83 : decode cX4_compareTo 83 = .ok (.sipush 255, 3) := by decide +kernel
theorem dX4_compareTo_86 : decode cX4_compareTo 86 = .ok (.iand, 1) := by decide +kernel
theorem dX4_compareTo_87 : decode cX4_compareTo 87 = .ok (.invokestatic 21, 3) := by decide +kernel
theorem dX4_compareTo_90 : decode cX4_compareTo 90 = .ok (.ireturn, 1) := by decide +kernel
theorem in_X4 : ∀ w ∈ wsX40, w ∈ lw_all := lw_in wsX40 [694, 696] (by decide +kernel) (by decide +kernel)
def RJ3 : String := "java/lang/Integer"
abbrev cJ3_rotateRight : ByteArray := prog_103_method_51_code
def yJ3_rotateRight : MethodName := ⟨RJ3, "rotateRight", "(II)I"⟩
theorem dJ3_rotateRight_0 : decode cJ3_rotateRight 0 = .ok (.iload_n 0, 1) := by decide +kernel
theorem dJ3_rotateRight_1 : decode cJ3_rotateRight 1 = .ok (.iload_n 1, 1) := by decide +kernel
theorem dJ3_rotateRight_2 : decode cJ3_rotateRight 2 = .ok (.iushr, 1) := by decide +kernel
theorem dJ3_rotateRight_3 : decode cJ3_rotateRight 3 = .ok (.iload_n 0, 1) := by decide +kernel
theorem dJ3_rotateRight_4 : decode cJ3_rotateRight 4 = .ok (.iload_n 1, 1) := by decide +kernel
theorem dJ3_rotateRight_5 : decode cJ3_rotateRight 5 = .ok (.ineg, 1) := by decide +kernel
theorem dJ3_rotateRight_6 : decode cJ3_rotateRight 6 = .ok (.ishl, 1) := by decide +kernel
theorem dJ3_rotateRight_7 : decode cJ3_rotateRight 7 = .ok (.ior, 1) := by decide +kernel
theorem dJ3_rotateRight_8 : decode cJ3_rotateRight 8 = .ok (.ireturn, 1) := by decide +kernel
abbrev cJ3_compare : ByteArray := prog_103_method_40_code
def yJ3_compare : MethodName := ⟨RJ3, "compare", "(II)I"⟩
theorem dJ3_compare_0 : decode cJ3_compare 0 = .ok (.iload_n 0, 1) := by decide +kernel
theorem dJ3_compare_1 : decode cJ3_compare 1 = .ok (.iload_n 1, 1) := by decide +kernel
theorem dJ3_compare_2 : decode cJ3_compare 2 = .ok (.if_icmp .ge 7, 3) := by decide +kernel
theorem dJ3_compare_5 : decode cJ3_compare 5 = .ok (.iconst (-1), 1) := by decide +kernel
theorem dJ3_compare_6 : decode cJ3_compare 6 = .ok (.goto 13, 3) := by decide +kernel
theorem dJ3_compare_9 : decode cJ3_compare 9 = .ok (.iload_n 0, 1) := by decide +kernel
theorem dJ3_compare_10 : decode cJ3_compare 10 = .ok (.iload_n 1, 1) := by decide +kernel
theorem dJ3_compare_11 : decode cJ3_compare 11 = .ok (.if_icmp .ne 7, 3) := by decide +kernel
theorem dJ3_compare_14 : decode cJ3_compare 14 = .ok (.iconst 0, 1) := by decide +kernel
theorem dJ3_compare_15 : decode cJ3_compare 15 = .ok (.goto 4, 3) := by decide +kernel
theorem dJ3_compare_18 : decode cJ3_compare 18 = .ok (.iconst 1, 1) := by decide +kernel
theorem dJ3_compare_19 : decode cJ3_compare 19 = .ok (.ireturn, 1) := by decide +kernel
abbrev cJ3_compareUnsigned : ByteArray := prog_103_method_41_code
def yJ3_compareUnsigned : MethodName := ⟨RJ3, "compareUnsigned", "(II)I"⟩
theorem dJ3_compareUnsigned_0 : decode cJ3_compareUnsigned 0 = .ok (.iload_n 0, 1) := by decide +kernel
theorem dJ3_compareUnsigned_1 : decode cJ3_compareUnsigned 1 = .ok (.ldc 127, 2) := by decide +kernel
theorem dJ3_compareUnsigned_3 : decode cJ3_compareUnsigned 3 = .ok (.iadd, 1) := by decide +kernel
theorem dJ3_compareUnsigned_4 : decode cJ3_compareUnsigned 4 = .ok (.iload_n 1, 1) := by decide +kernel
theorem dJ3_compareUnsigned_5 : decode cJ3_compareUnsigned 5 = .ok (.ldc 127, 2) := by decide +kernel
theorem dJ3_compareUnsigned_7 : decode cJ3_compareUnsigned 7 = .ok (.iadd, 1) := by decide +kernel
theorem dJ3_compareUnsigned_8 : decode cJ3_compareUnsigned 8 = .ok (.invokestatic 259, 3) := by decide +kernel
theorem dJ3_compareUnsigned_11 : decode cJ3_compareUnsigned 11 = .ok (.ireturn, 1) := by decide +kernel
abbrev cJ3_bitCount : ByteArray := prog_103_method_49_code
def yJ3_bitCount : MethodName := ⟨RJ3, "bitCount", "(I)I"⟩
abbrev cJ3_numberOfTrailingZeros : ByteArray := prog_103_method_48_code
def yJ3_numberOfTrailingZeros : MethodName := ⟨RJ3, "numberOfTrailingZeros", "(I)I"⟩
abbrev cJ3_rotateLeft : ByteArray := prog_103_method_50_code
def yJ3_rotateLeft : MethodName := ⟨RJ3, "rotateLeft", "(II)I"⟩
abbrev cJ3_stringSize : ByteArray := prog_103_method_13_code
def yJ3_stringSize : MethodName := ⟨RJ3, "stringSize", "(I)I"⟩
abbrev cJ3_getChars : ByteArray := prog_103_method_12_code
def yJ3_getChars : MethodName := ⟨RJ3, "getChars", "(II[B)I"⟩
def RJ21 : String := "java/lang/Long"
abbrev cJ21_compare : ByteArray := prog_105_method_42_code
def yJ21_compare : MethodName := ⟨RJ21, "compare", "(JJ)I"⟩
theorem dJ21_compare_0 : decode cJ21_compare 0 = .ok (.lload_n 0, 1) := by decide +kernel
theorem dJ21_compare_1 : decode cJ21_compare 1 = .ok (.lload_n 2, 1) := by decide +kernel
theorem dJ21_compare_2 : decode cJ21_compare 2 = .ok (.lcmp, 1) := by decide +kernel
theorem dJ21_compare_3 : decode cJ21_compare 3 = .ok (.ifCond .ge 7, 3) := by decide +kernel
theorem dJ21_compare_6 : decode cJ21_compare 6 = .ok (.iconst (-1), 1) := by decide +kernel
theorem dJ21_compare_7 : decode cJ21_compare 7 = .ok (.goto 14, 3) := by decide +kernel
theorem dJ21_compare_10 : decode cJ21_compare 10 = .ok (.lload_n 0, 1) := by decide +kernel
theorem dJ21_compare_11 : decode cJ21_compare 11 = .ok (.lload_n 2, 1) := by decide +kernel
theorem dJ21_compare_12 : decode cJ21_compare 12 = .ok (.lcmp, 1) := by decide +kernel
theorem dJ21_compare_13 : decode cJ21_compare 13 = .ok (.ifCond .ne 7, 3) := by decide +kernel
theorem dJ21_compare_16 : decode cJ21_compare 16 = .ok (.iconst 0, 1) := by decide +kernel
theorem dJ21_compare_17 : decode cJ21_compare 17 = .ok (.goto 4, 3) := by decide +kernel
theorem dJ21_compare_20 : decode cJ21_compare 20 = .ok (.iconst 1, 1) := by decide +kernel
theorem dJ21_compare_21 : decode cJ21_compare 21 = .ok (.ireturn, 1) := by decide +kernel
abbrev cJ21_rotateLeft : ByteArray := prog_105_method_51_code
def yJ21_rotateLeft : MethodName := ⟨RJ21, "rotateLeft", "(JI)J"⟩
abbrev cJ21_numberOfTrailingZeros : ByteArray := prog_105_method_49_code
def yJ21_numberOfTrailingZeros : MethodName := ⟨RJ21, "numberOfTrailingZeros", "(J)I"⟩
abbrev cJ21_signum : ByteArray := prog_105_method_57_code
def yJ21_signum : MethodName := ⟨RJ21, "signum", "(J)I"⟩
abbrev cJ21_bitCount : ByteArray := prog_105_method_50_code
def yJ21_bitCount : MethodName := ⟨RJ21, "bitCount", "(J)I"⟩
theorem q483 : (Jvm.Cond.initialized "KnowHouse$CanonNames") ∈ lw_all := lw_g (lw_at lw_m1 5 rfl) rfl
theorem q484 : (Jvm.Cond.initialized "KnowHouse$CanonNames$Graph") ∈ lw_all := lw_g (lw_at lw_m1 6 rfl) rfl
theorem q485 : (Jvm.Cond.initialized "KnowHouse$CanonNames$Digest") ∈ lw_all := lw_g (lw_at lw_m1 7 rfl) rfl
theorem q486 : (Jvm.Cond.initialized "KnowHouse$CanonNames$Description") ∈ lw_all := lw_g (lw_at lw_m1 8 rfl) rfl
theorem q487 : (Jvm.Cond.initialized "java/lang/System") ∈ lw_all := lw_g (lw_at lw_m1 9 rfl) rfl
theorem q489 : (Jvm.Cond.initialized "java/lang/Integer") ∈ lw_all := lw_g (lw_at lw_m1 11 rfl) rfl
theorem q564 : (Jvm.Cond.initialized "java/lang/Long") ∈ lw_all := lw_g (lw_at lw_m1 86 rfl) rfl
theorem q602 : (Jvm.Cond.instanceMethod ({ cls := "java/lang/Object", name := "<init>", desc := "()V" } : Jvm.MethodName)) ∈ lw_all := lw_g (lw_at lw_m1 124 rfl) rfl
theorem q603 : (Jvm.Cond.code ({ cls := "java/lang/Object", name := "<init>", desc := "()V" } : Jvm.MethodName) object_method_1_code (1 : Nat) (Option.none : Option Jvm.ClassFile.FieldType)) ∈ lw_all := lw_g (lw_at lw_m1 125 rfl) rfl
theorem q639 : (Jvm.Cond.classLink "KnowHouse$CanonNames" (19 : Nat) "KnowHouse$CanonNames$Graph") ∈ lw_all := lw_g (lw_at lw_m1 161 rfl) rfl
theorem q640 : (Jvm.Cond.instantiable "KnowHouse$CanonNames$Graph" (3 : Nat)) ∈ lw_all := lw_g (lw_at lw_m1 162 rfl) rfl
theorem q641 : (Jvm.Cond.methodLinkNest "KnowHouse$CanonNames" (21 : Nat) ({ cls := "KnowHouse$CanonNames$Graph", name := "<init>", desc := "()V" } : Jvm.MethodName) "KnowHouse") ∈ lw_tbl := lw_at lw_m1 163 rfl
theorem q642 : (Jvm.Cond.instanceMethod ({ cls := "KnowHouse$CanonNames$Graph", name := "<init>", desc := "()V" } : Jvm.MethodName)) ∈ lw_all := lw_g (lw_at lw_m1 164 rfl) rfl
theorem q643 : (Jvm.Cond.code ({ cls := "KnowHouse$CanonNames$Graph", name := "<init>", desc := "()V" } : Jvm.MethodName) prog_6_method_1_code (1 : Nat) (Option.none : Option Jvm.ClassFile.FieldType)) ∈ lw_all := lw_g (lw_at lw_m1 165 rfl) rfl
theorem q644 : (Jvm.Cond.methodLink "KnowHouse$CanonNames$Graph" (3 : Nat) ({ cls := "java/lang/Object", name := "<init>", desc := "()V" } : Jvm.MethodName)) ∈ lw_all := lw_g (lw_at lw_m1 166 rfl) rfl
theorem q645 : (Jvm.Cond.fieldLink "KnowHouse$CanonNames$Graph" (17 : Nat) "KnowHouse$CanonNames$Graph" "blanks" "I") ∈ lw_all := lw_g (lw_at lw_m1 167 rfl) rfl
theorem q646 : (Jvm.Cond.fieldLinkNest "KnowHouse$CanonNames" (92 : Nat) "KnowHouse$CanonNames$Graph" "blanks" "I" "KnowHouse") ∈ lw_tbl := lw_at lw_m1 168 rfl
theorem q647 : (Jvm.Cond.fieldLink "KnowHouse$CanonNames$Graph" (21 : Nat) "KnowHouse$CanonNames$Graph" "count" "I") ∈ lw_all := lw_g (lw_at lw_m1 169 rfl) rfl
theorem q648 : (Jvm.Cond.fieldLinkNest "KnowHouse$CanonNames" (115 : Nat) "KnowHouse$CanonNames$Graph" "count" "I" "KnowHouse") ∈ lw_tbl := lw_at lw_m1 170 rfl
theorem q649 : (Jvm.Cond.fieldLink "KnowHouse$CanonNames$Graph" (9 : Nat) "KnowHouse$CanonNames$Graph" "keys" "[J") ∈ lw_all := lw_g (lw_at lw_m1 171 rfl) rfl
theorem q650 : (Jvm.Cond.fieldLinkNest "KnowHouse$CanonNames" (141 : Nat) "KnowHouse$CanonNames$Graph" "keys" "[J" "KnowHouse") ∈ lw_tbl := lw_at lw_m1 172 rfl
theorem q658 : (Jvm.Cond.arrayClass Jvm.ClassFile.FieldType.long) ∈ lw_all := lw_g (lw_at lw_m1 180 rfl) rfl
theorem q665 : (Jvm.Cond.methodLink "KnowHouse$CanonNames$Digest" (1 : Nat) ({ cls := "java/lang/Object", name := "<init>", desc := "()V" } : Jvm.MethodName)) ∈ lw_all := lw_g (lw_at lw_m1 187 rfl) rfl
theorem q666 : (Jvm.Cond.fieldLink "KnowHouse$CanonNames$Digest" (7 : Nat) "KnowHouse$CanonNames$Digest" "words" "[I") ∈ lw_all := lw_g (lw_at lw_m1 188 rfl) rfl
theorem q667 : (Jvm.Cond.fieldLinkNest "KnowHouse$CanonNames" (89 : Nat) "KnowHouse$CanonNames$Digest" "words" "[I" "KnowHouse") ∈ lw_tbl := lw_at lw_m1 189 rfl
theorem q668 : (Jvm.Cond.fieldLink "KnowHouse$CanonNames$Digest" (13 : Nat) "KnowHouse$CanonNames$Digest" "block" "[I") ∈ lw_all := lw_g (lw_at lw_m1 190 rfl) rfl
theorem q669 : (Jvm.Cond.fieldLink "KnowHouse$CanonNames$Digest" (16 : Nat) "KnowHouse$CanonNames$Digest" "size" "J") ∈ lw_all := lw_g (lw_at lw_m1 191 rfl) rfl
theorem q677 : (Jvm.Cond.arrayClass Jvm.ClassFile.FieldType.int) ∈ lw_all := lw_g (lw_at lw_m1 199 rfl) rfl
theorem q683 : (Jvm.Cond.classLink "KnowHouse$CanonNames" (125 : Nat) "KnowHouse$CanonNames$Description") ∈ lw_all := lw_g (lw_at lw_m1 205 rfl) rfl
theorem q684 : (Jvm.Cond.arrayOver (Jvm.ClassFile.FieldType.object "KnowHouse$CanonNames$Description")) ∈ lw_tbl := lw_at lw_m1 206 rfl
theorem q685 : (Jvm.Cond.instantiable "KnowHouse$CanonNames$Description" (2 : Nat)) ∈ lw_all := lw_g (lw_at lw_m1 207 rfl) rfl
theorem q686 : (Jvm.Cond.methodLinkNest "KnowHouse$CanonNames" (127 : Nat) ({ cls := "KnowHouse$CanonNames$Description", name := "<init>", desc := "()V" } : Jvm.MethodName) "KnowHouse") ∈ lw_tbl := lw_at lw_m1 208 rfl
theorem q687 : (Jvm.Cond.instanceMethod ({ cls := "KnowHouse$CanonNames$Description", name := "<init>", desc := "()V" } : Jvm.MethodName)) ∈ lw_all := lw_g (lw_at lw_m1 209 rfl) rfl
theorem q688 : (Jvm.Cond.code ({ cls := "KnowHouse$CanonNames$Description", name := "<init>", desc := "()V" } : Jvm.MethodName) prog_4_method_1_code (1 : Nat) (Option.none : Option Jvm.ClassFile.FieldType)) ∈ lw_all := lw_g (lw_at lw_m1 210 rfl) rfl
theorem q689 : (Jvm.Cond.methodLink "KnowHouse$CanonNames$Description" (1 : Nat) ({ cls := "java/lang/Object", name := "<init>", desc := "()V" } : Jvm.MethodName)) ∈ lw_all := lw_g (lw_at lw_m1 211 rfl) rfl
theorem q690 : (Jvm.Cond.fieldLink "KnowHouse$CanonNames$Description" (7 : Nat) "KnowHouse$CanonNames$Description" "bytes" "[B") ∈ lw_all := lw_g (lw_at lw_m1 212 rfl) rfl
theorem q691 : (Jvm.Cond.fieldLinkNest "KnowHouse$CanonNames" (153 : Nat) "KnowHouse$CanonNames$Description" "bytes" "[B" "KnowHouse") ∈ lw_tbl := lw_at lw_m1 213 rfl
theorem q692 : (Jvm.Cond.fieldLink "KnowHouse$CanonNames$Description" (13 : Nat) "KnowHouse$CanonNames$Description" "size" "I") ∈ lw_all := lw_g (lw_at lw_m1 214 rfl) rfl
theorem q693 : (Jvm.Cond.fieldLinkNest "KnowHouse$CanonNames" (128 : Nat) "KnowHouse$CanonNames$Description" "size" "I" "KnowHouse") ∈ lw_tbl := lw_at lw_m1 215 rfl
theorem q699 : (Jvm.Cond.arrayClass Jvm.ClassFile.FieldType.byte) ∈ lw_all := lw_g (lw_at lw_m1 221 rfl) rfl
theorem q700 : (Jvm.Cond.methodLink "KnowHouse$CanonNames" (83 : Nat) ({ cls := "KnowHouse$CanonNames$Digest", name := "begin", desc := "()V" } : Jvm.MethodName)) ∈ lw_all := lw_g (lw_at lw_m1 222 rfl) rfl
theorem q701 : (Jvm.Cond.instanceMethod ({ cls := "KnowHouse$CanonNames$Digest", name := "begin", desc := "()V" } : Jvm.MethodName)) ∈ lw_all := lw_g (lw_at lw_m1 223 rfl) rfl
theorem q702 : (Jvm.Cond.selects "KnowHouse$CanonNames$Digest" ({ cls := "KnowHouse$CanonNames$Digest", name := "begin", desc := "()V" } : Jvm.MethodName) ({ cls := "KnowHouse$CanonNames$Digest", name := "begin", desc := "()V" } : Jvm.MethodName)) ∈ lw_all := lw_g (lw_at lw_m1 224 rfl) rfl
theorem q703 : (Jvm.Cond.code ({ cls := "KnowHouse$CanonNames$Digest", name := "begin", desc := "()V" } : Jvm.MethodName) prog_5_method_2_code (1 : Nat) (Option.none : Option Jvm.ClassFile.FieldType)) ∈ lw_all := lw_g (lw_at lw_m1 225 rfl) rfl
theorem q704 : (Jvm.Cond.fieldLinkNest "KnowHouse$CanonNames$Digest" (20 : Nat) "KnowHouse$CanonNames" "BEGIN" "[I" "KnowHouse") ∈ lw_tbl := lw_at lw_m1 226 rfl
theorem q706 : (Jvm.Cond.methodLink "KnowHouse$CanonNames$Digest" (25 : Nat) ({ cls := "java/lang/System", name := "arraycopy", desc := "(Ljava/lang/Object;ILjava/lang/Object;II)V" } : Jvm.MethodName)) ∈ lw_all := lw_g (lw_at lw_m1 228 rfl) rfl
theorem q707 : (Jvm.Cond.static ({ cls := "java/lang/System", name := "arraycopy", desc := "(Ljava/lang/Object;ILjava/lang/Object;II)V" } : Jvm.MethodName)) ∈ lw_all := lw_g (lw_at lw_m1 229 rfl) rfl
theorem q708 : (Jvm.Cond.native ({ cls := "java/lang/System", name := "arraycopy", desc := "(Ljava/lang/Object;ILjava/lang/Object;II)V" } : Jvm.MethodName)) ∈ lw_all := lw_g (lw_at lw_m1 230 rfl) rfl
theorem q709 : (Jvm.Cond.methodLink "KnowHouse$CanonNames" (86 : Nat) ({ cls := "KnowHouse$CanonNames$Digest", name := "end", desc := "()V" } : Jvm.MethodName)) ∈ lw_all := lw_g (lw_at lw_m1 231 rfl) rfl
theorem q710 : (Jvm.Cond.instanceMethod ({ cls := "KnowHouse$CanonNames$Digest", name := "end", desc := "()V" } : Jvm.MethodName)) ∈ lw_all := lw_g (lw_at lw_m1 232 rfl) rfl
theorem q711 : (Jvm.Cond.selects "KnowHouse$CanonNames$Digest" ({ cls := "KnowHouse$CanonNames$Digest", name := "end", desc := "()V" } : Jvm.MethodName) ({ cls := "KnowHouse$CanonNames$Digest", name := "end", desc := "()V" } : Jvm.MethodName)) ∈ lw_all := lw_g (lw_at lw_m1 233 rfl) rfl
theorem q712 : (Jvm.Cond.code ({ cls := "KnowHouse$CanonNames$Digest", name := "end", desc := "()V" } : Jvm.MethodName) prog_5_method_5_code (3 : Nat) (Option.none : Option Jvm.ClassFile.FieldType)) ∈ lw_all := lw_g (lw_at lw_m1 234 rfl) rfl
theorem q713 : (Jvm.Cond.constantLong "KnowHouse$CanonNames$Digest" (40 : Nat) (8 : Int64)) ∈ lw_all := lw_g (lw_at lw_m1 235 rfl) rfl
theorem q714 : (Jvm.Cond.methodLink "KnowHouse$CanonNames$Digest" (36 : Nat) ({ cls := "KnowHouse$CanonNames$Digest", name := "add", desc := "(I)V" } : Jvm.MethodName)) ∈ lw_all := lw_g (lw_at lw_m1 236 rfl) rfl
theorem q715 : (Jvm.Cond.instanceMethod ({ cls := "KnowHouse$CanonNames$Digest", name := "add", desc := "(I)V" } : Jvm.MethodName)) ∈ lw_all := lw_g (lw_at lw_m1 237 rfl) rfl
theorem q716 : (Jvm.Cond.selects "KnowHouse$CanonNames$Digest" ({ cls := "KnowHouse$CanonNames$Digest", name := "add", desc := "(I)V" } : Jvm.MethodName) ({ cls := "KnowHouse$CanonNames$Digest", name := "add", desc := "(I)V" } : Jvm.MethodName)) ∈ lw_all := lw_g (lw_at lw_m1 238 rfl) rfl
theorem q717 : (Jvm.Cond.code ({ cls := "KnowHouse$CanonNames$Digest", name := "add", desc := "(I)V" } : Jvm.MethodName) prog_5_method_3_code (4 : Nat) (Option.none : Option Jvm.ClassFile.FieldType)) ∈ lw_all := lw_g (lw_at lw_m1 239 rfl) rfl
theorem q718 : (Jvm.Cond.constantLong "KnowHouse$CanonNames$Digest" (31 : Nat) (63 : Int64)) ∈ lw_all := lw_g (lw_at lw_m2 0 rfl) rfl
theorem q719 : (Jvm.Cond.methodLink "KnowHouse$CanonNames$Digest" (33 : Nat) ({ cls := "KnowHouse$CanonNames$Digest", name := "turn", desc := "()V" } : Jvm.MethodName)) ∈ lw_all := lw_g (lw_at lw_m2 1 rfl) rfl
theorem q721 : (Jvm.Cond.instanceMethod ({ cls := "KnowHouse$CanonNames$Digest", name := "turn", desc := "()V" } : Jvm.MethodName)) ∈ lw_all := lw_g (lw_at lw_m2 3 rfl) rfl
theorem q722 : (Jvm.Cond.code ({ cls := "KnowHouse$CanonNames$Digest", name := "turn", desc := "()V" } : Jvm.MethodName) prog_5_method_6_code (12 : Nat) (Option.none : Option Jvm.ClassFile.FieldType)) ∈ lw_all := lw_g (lw_at lw_m2 4 rfl) rfl
theorem q723 : (Jvm.Cond.methodLink "KnowHouse$CanonNames$Digest" (47 : Nat) ({ cls := "java/lang/Integer", name := "rotateRight", desc := "(II)I" } : Jvm.MethodName)) ∈ lw_all := lw_g (lw_at lw_m2 5 rfl) rfl
theorem q724 : (Jvm.Cond.static ({ cls := "java/lang/Integer", name := "rotateRight", desc := "(II)I" } : Jvm.MethodName)) ∈ lw_all := lw_g (lw_at lw_m2 6 rfl) rfl
theorem q725 : (Jvm.Cond.code ({ cls := "java/lang/Integer", name := "rotateRight", desc := "(II)I" } : Jvm.MethodName) prog_103_method_51_code (2 : Nat) (Option.some Jvm.ClassFile.FieldType.int)) ∈ lw_all := lw_g (lw_at lw_m2 7 rfl) rfl
theorem q726 : (Jvm.Cond.fieldLinkNest "KnowHouse$CanonNames$Digest" (53 : Nat) "KnowHouse$CanonNames" "ROUNDS" "[I" "KnowHouse") ∈ lw_tbl := lw_at lw_m2 8 rfl
theorem q728 : (Jvm.Cond.constantLong "KnowHouse$CanonNames$Digest" (42 : Nat) (56 : Int64)) ∈ lw_all := lw_g (lw_at lw_m2 10 rfl) rfl
theorem q729 : (Jvm.Cond.methodLink "KnowHouse$CanonNames$Digest" (44 : Nat) ({ cls := "KnowHouse$CanonNames$Digest", name := "addWord", desc := "(I)V" } : Jvm.MethodName)) ∈ lw_all := lw_g (lw_at lw_m2 11 rfl) rfl
theorem q730 : (Jvm.Cond.instanceMethod ({ cls := "KnowHouse$CanonNames$Digest", name := "addWord", desc := "(I)V" } : Jvm.MethodName)) ∈ lw_all := lw_g (lw_at lw_m2 12 rfl) rfl
theorem q731 : (Jvm.Cond.selects "KnowHouse$CanonNames$Digest" ({ cls := "KnowHouse$CanonNames$Digest", name := "addWord", desc := "(I)V" } : Jvm.MethodName) ({ cls := "KnowHouse$CanonNames$Digest", name := "addWord", desc := "(I)V" } : Jvm.MethodName)) ∈ lw_all := lw_g (lw_at lw_m2 13 rfl) rfl
theorem q732 : (Jvm.Cond.code ({ cls := "KnowHouse$CanonNames$Digest", name := "addWord", desc := "(I)V" } : Jvm.MethodName) prog_5_method_4_code (3 : Nat) (Option.none : Option Jvm.ClassFile.FieldType)) ∈ lw_all := lw_g (lw_at lw_m2 14 rfl) rfl
theorem q733 : (Jvm.Cond.fieldLink "KnowHouse$CanonNames" (22 : Nat) "KnowHouse$CanonNames" "graph" "LKnowHouse$CanonNames$Graph;") ∈ lw_all := lw_g (lw_at lw_m2 15 rfl) rfl
theorem q734 : (Jvm.Cond.fieldLink "KnowHouse$CanonNames" (26 : Nat) "KnowHouse$CanonNames" "kept" "[LKnowHouse$CanonNames$Graph;") ∈ lw_all := lw_g (lw_at lw_m2 16 rfl) rfl
theorem q735 : (Jvm.Cond.fieldLink "KnowHouse$CanonNames" (222 : Nat) "KnowHouse$CanonNames" "keptCount" "I") ∈ lw_all := lw_g (lw_at lw_m2 17 rfl) rfl
theorem q736 : (Jvm.Cond.fieldLink "KnowHouse$CanonNames" (33 : Nat) "KnowHouse$CanonNames" "digest" "LKnowHouse$CanonNames$Digest;") ∈ lw_all := lw_g (lw_at lw_m2 18 rfl) rfl
theorem q737 : (Jvm.Cond.fieldLink "KnowHouse$CanonNames" (96 : Nat) "KnowHouse$CanonNames" "hashed" "Z") ∈ lw_all := lw_g (lw_at lw_m2 19 rfl) rfl
theorem q738 : (Jvm.Cond.fieldLink "KnowHouse$CanonNames" (173 : Nat) "KnowHouse$CanonNames" "rounds" "I") ∈ lw_all := lw_g (lw_at lw_m2 20 rfl) rfl
theorem q739 : (Jvm.Cond.fieldLink "KnowHouse$CanonNames" (39 : Nat) "KnowHouse$CanonNames" "hashes" "[[I") ∈ lw_all := lw_g (lw_at lw_m2 21 rfl) rfl
theorem q740 : (Jvm.Cond.fieldLink "KnowHouse$CanonNames" (42 : Nat) "KnowHouse$CanonNames" "next" "[[I") ∈ lw_all := lw_g (lw_at lw_m2 22 rfl) rfl
theorem q741 : (Jvm.Cond.fieldLink "KnowHouse$CanonNames" (49 : Nat) "KnowHouse$CanonNames" "descriptions" "[LKnowHouse$CanonNames$Description;") ∈ lw_all := lw_g (lw_at lw_m2 23 rfl) rfl
theorem q742 : (Jvm.Cond.fieldLink "KnowHouse$CanonNames" (53 : Nat) "KnowHouse$CanonNames" "order" "[I") ∈ lw_all := lw_g (lw_at lw_m2 24 rfl) rfl
theorem q743 : (Jvm.Cond.fieldLink "KnowHouse$CanonNames" (57 : Nat) "KnowHouse$CanonNames" "begins" "[I") ∈ lw_all := lw_g (lw_at lw_m2 25 rfl) rfl
theorem q744 : (Jvm.Cond.fieldLink "KnowHouse$CanonNames" (186 : Nat) "KnowHouse$CanonNames" "groups" "I") ∈ lw_all := lw_g (lw_at lw_m2 26 rfl) rfl
theorem q745 : (Jvm.Cond.fieldLink "KnowHouse$CanonNames" (60 : Nat) "KnowHouse$CanonNames" "numbers" "[I") ∈ lw_all := lw_g (lw_at lw_m2 27 rfl) rfl
theorem q746 : (Jvm.Cond.fieldLink "KnowHouse$CanonNames" (63 : Nat) "KnowHouse$CanonNames" "best" "[I") ∈ lw_all := lw_g (lw_at lw_m2 28 rfl) rfl
theorem q747 : (Jvm.Cond.fieldLink "KnowHouse$CanonNames" (66 : Nat) "KnowHouse$CanonNames" "row" "[J") ∈ lw_all := lw_g (lw_at lw_m2 29 rfl) rfl
theorem q748 : (Jvm.Cond.fieldLink "KnowHouse$CanonNames" (70 : Nat) "KnowHouse$CanonNames" "leastRow" "[J") ∈ lw_all := lw_g (lw_at lw_m2 30 rfl) rfl
theorem q749 : (Jvm.Cond.fieldLink "KnowHouse$CanonNames" (196 : Nat) "KnowHouse$CanonNames" "found" "Z") ∈ lw_all := lw_g (lw_at lw_m2 31 rfl) rfl
theorem q750 : (Jvm.Cond.fieldLink "KnowHouse$CanonNames" (199 : Nat) "KnowHouse$CanonNames" "many" "I") ∈ lw_all := lw_g (lw_at lw_m2 32 rfl) rfl
theorem q751 : (Jvm.Cond.fieldLink "KnowHouse$CanonNames" (206 : Nat) "KnowHouse$CanonNames" "namedBlanks" "I") ∈ lw_all := lw_g (lw_at lw_m2 33 rfl) rfl
theorem q752 : (Jvm.Cond.fieldLink "KnowHouse$CanonNames" (209 : Nat) "KnowHouse$CanonNames" "formCount" "I") ∈ lw_all := lw_g (lw_at lw_m2 34 rfl) rfl
theorem q753 : (Jvm.Cond.fieldLink "KnowHouse$CanonNames" (73 : Nat) "KnowHouse$CanonNames" "given" "[I") ∈ lw_all := lw_g (lw_at lw_m2 35 rfl) rfl
theorem q754 : (Jvm.Cond.fieldLink "KnowHouse$CanonNames" (76 : Nat) "KnowHouse$CanonNames" "form" "[J") ∈ lw_all := lw_g (lw_at lw_m2 36 rfl) rfl
theorem q755 : (Jvm.Cond.fieldLink "KnowHouse$CanonNames" (79 : Nat) "KnowHouse$CanonNames" "octets" "[B") ∈ lw_all := lw_g (lw_at lw_m2 37 rfl) rfl
theorem q756 : (Jvm.Cond.fieldLink "KnowHouse$CanonNames" (232 : Nat) "KnowHouse$CanonNames" "ways" "I") ∈ lw_all := lw_g (lw_at lw_m2 38 rfl) rfl
theorem q757 : (Jvm.Cond.fieldLink "KnowHouse$CanonNames" (235 : Nat) "KnowHouse$CanonNames" "wanted" "I") ∈ lw_all := lw_g (lw_at lw_m2 39 rfl) rfl
theorem q758 : (Jvm.Cond.fieldLink "KnowHouse$CanonNames" (238 : Nat) "KnowHouse$CanonNames" "taken" "I") ∈ lw_all := lw_g (lw_at lw_m2 40 rfl) rfl
theorem q2967 : (Jvm.Cond.methodLink "KnowHouse$CanonNames" (103 : Nat) ({ cls := "KnowHouse$CanonNames", name := "are", desc := "(III)Z" } : Jvm.MethodName)) ∈ lw_all := lw_g (lw_at lw_m11 89 rfl) rfl
theorem q2969 : (Jvm.Cond.instanceMethod ({ cls := "KnowHouse$CanonNames", name := "are", desc := "(III)Z" } : Jvm.MethodName)) ∈ lw_all := lw_g (lw_at lw_m11 91 rfl) rfl
theorem q2970 : (Jvm.Cond.code ({ cls := "KnowHouse$CanonNames", name := "are", desc := "(III)Z" } : Jvm.MethodName) prog_3_method_7_code (4 : Nat) (Option.some Jvm.ClassFile.FieldType.boolean)) ∈ lw_all := lw_g (lw_at lw_m11 92 rfl) rfl
theorem q2971 : (Jvm.Cond.methodLink "KnowHouse$CanonNames" (100 : Nat) ({ cls := "KnowHouse$CanonNames$Graph", name := "isPoint", desc := "(I)Z" } : Jvm.MethodName)) ∈ lw_all := lw_g (lw_at lw_m11 93 rfl) rfl
theorem q2972 : (Jvm.Cond.instanceMethod ({ cls := "KnowHouse$CanonNames$Graph", name := "isPoint", desc := "(I)Z" } : Jvm.MethodName)) ∈ lw_all := lw_g (lw_at lw_m11 94 rfl) rfl
theorem q2973 : (Jvm.Cond.selects "KnowHouse$CanonNames$Graph" ({ cls := "KnowHouse$CanonNames$Graph", name := "isPoint", desc := "(I)Z" } : Jvm.MethodName) ({ cls := "KnowHouse$CanonNames$Graph", name := "isPoint", desc := "(I)Z" } : Jvm.MethodName)) ∈ lw_all := lw_g (lw_at lw_m11 95 rfl) rfl
theorem q2974 : (Jvm.Cond.code ({ cls := "KnowHouse$CanonNames$Graph", name := "isPoint", desc := "(I)Z" } : Jvm.MethodName) prog_6_method_4_code (2 : Nat) (Option.some Jvm.ClassFile.FieldType.boolean)) ∈ lw_all := lw_g (lw_at lw_m11 96 rfl) rfl
theorem q2975 : (Jvm.Cond.methodLink "KnowHouse$CanonNames" (107 : Nat) ({ cls := "KnowHouse$CanonNames$Graph", name := "key", desc := "(III)J" } : Jvm.MethodName)) ∈ lw_all := lw_g (lw_at lw_m11 97 rfl) rfl
theorem q2976 : (Jvm.Cond.static ({ cls := "KnowHouse$CanonNames$Graph", name := "key", desc := "(III)J" } : Jvm.MethodName)) ∈ lw_all := lw_g (lw_at lw_m11 98 rfl) rfl
theorem q2977 : (Jvm.Cond.code ({ cls := "KnowHouse$CanonNames$Graph", name := "key", desc := "(III)J" } : Jvm.MethodName) prog_6_method_2_code (3 : Nat) (Option.some Jvm.ClassFile.FieldType.long)) ∈ lw_all := lw_g (lw_at lw_m11 99 rfl) rfl
theorem q2978 : (Jvm.Cond.methodLink "KnowHouse$CanonNames" (111 : Nat) ({ cls := "KnowHouse$CanonNames$Graph", name := "has", desc := "(J)Z" } : Jvm.MethodName)) ∈ lw_all := lw_g (lw_at lw_m11 100 rfl) rfl
theorem q2979 : (Jvm.Cond.instanceMethod ({ cls := "KnowHouse$CanonNames$Graph", name := "has", desc := "(J)Z" } : Jvm.MethodName)) ∈ lw_all := lw_g (lw_at lw_m11 101 rfl) rfl
theorem q2980 : (Jvm.Cond.selects "KnowHouse$CanonNames$Graph" ({ cls := "KnowHouse$CanonNames$Graph", name := "has", desc := "(J)Z" } : Jvm.MethodName) ({ cls := "KnowHouse$CanonNames$Graph", name := "has", desc := "(J)Z" } : Jvm.MethodName)) ∈ lw_all := lw_g (lw_at lw_m11 102 rfl) rfl
theorem q2981 : (Jvm.Cond.code ({ cls := "KnowHouse$CanonNames$Graph", name := "has", desc := "(J)Z" } : Jvm.MethodName) prog_6_method_6_code (4 : Nat) (Option.some Jvm.ClassFile.FieldType.boolean)) ∈ lw_all := lw_g (lw_at lw_m11 103 rfl) rfl
theorem q2982 : (Jvm.Cond.methodLink "KnowHouse$CanonNames$Graph" (24 : Nat) ({ cls := "KnowHouse$CanonNames$Graph", name := "find", desc := "(J)I" } : Jvm.MethodName)) ∈ lw_all := lw_g (lw_at lw_m11 104 rfl) rfl
theorem q2983 : (Jvm.Cond.instanceMethod ({ cls := "KnowHouse$CanonNames$Graph", name := "find", desc := "(J)I" } : Jvm.MethodName)) ∈ lw_all := lw_g (lw_at lw_m11 105 rfl) rfl
theorem q2984 : (Jvm.Cond.selects "KnowHouse$CanonNames$Graph" ({ cls := "KnowHouse$CanonNames$Graph", name := "find", desc := "(J)I" } : Jvm.MethodName) ({ cls := "KnowHouse$CanonNames$Graph", name := "find", desc := "(J)I" } : Jvm.MethodName)) ∈ lw_all := lw_g (lw_at lw_m11 106 rfl) rfl
theorem q2985 : (Jvm.Cond.code ({ cls := "KnowHouse$CanonNames$Graph", name := "find", desc := "(J)I" } : Jvm.MethodName) prog_6_method_5_code (6 : Nat) (Option.some Jvm.ClassFile.FieldType.int)) ∈ lw_all := lw_g (lw_at lw_m11 107 rfl) rfl
theorem q2986 : (Jvm.Cond.methodLink "KnowHouse$CanonNames" (118 : Nat) ({ cls := "KnowHouse$CanonNames$Graph", name := "add", desc := "(J)V" } : Jvm.MethodName)) ∈ lw_all := lw_g (lw_at lw_m11 108 rfl) rfl
theorem q2987 : (Jvm.Cond.instanceMethod ({ cls := "KnowHouse$CanonNames$Graph", name := "add", desc := "(J)V" } : Jvm.MethodName)) ∈ lw_all := lw_g (lw_at lw_m11 109 rfl) rfl
theorem q2988 : (Jvm.Cond.selects "KnowHouse$CanonNames$Graph" ({ cls := "KnowHouse$CanonNames$Graph", name := "add", desc := "(J)V" } : Jvm.MethodName) ({ cls := "KnowHouse$CanonNames$Graph", name := "add", desc := "(J)V" } : Jvm.MethodName)) ∈ lw_all := lw_g (lw_at lw_m11 110 rfl) rfl
theorem q2989 : (Jvm.Cond.code ({ cls := "KnowHouse$CanonNames$Graph", name := "add", desc := "(J)V" } : Jvm.MethodName) prog_6_method_7_code (5 : Nat) (Option.none : Option Jvm.ClassFile.FieldType)) ∈ lw_all := lw_g (lw_at lw_m11 111 rfl) rfl
theorem q2995 : (Jvm.Cond.methodLink "KnowHouse$CanonNames" (189 : Nat) ({ cls := "KnowHouse$CanonNames", name := "makeHashes", desc := "()V" } : Jvm.MethodName)) ∈ lw_all := lw_g (lw_at lw_m11 117 rfl) rfl
theorem q2997 : (Jvm.Cond.instanceMethod ({ cls := "KnowHouse$CanonNames", name := "makeHashes", desc := "()V" } : Jvm.MethodName)) ∈ lw_all := lw_g (lw_at lw_m11 119 rfl) rfl
theorem q2998 : (Jvm.Cond.code ({ cls := "KnowHouse$CanonNames", name := "makeHashes", desc := "()V" } : Jvm.MethodName) prog_3_method_15_code (3 : Nat) (Option.none : Option Jvm.ClassFile.FieldType)) ∈ lw_all := lw_g (lw_at lw_m11 120 rfl) rfl
theorem q2999 : (Jvm.Cond.methodLink "KnowHouse$CanonNames" (157 : Nat) ({ cls := "java/lang/System", name := "arraycopy", desc := "(Ljava/lang/Object;ILjava/lang/Object;II)V" } : Jvm.MethodName)) ∈ lw_all := lw_g (lw_at lw_m11 121 rfl) rfl
theorem q3000 : (Jvm.Cond.methodLink "KnowHouse$CanonNames" (176 : Nat) ({ cls := "KnowHouse$CanonNames", name := "hashOne", desc := "(I)V" } : Jvm.MethodName)) ∈ lw_all := lw_g (lw_at lw_m11 122 rfl) rfl
theorem q3002 : (Jvm.Cond.instanceMethod ({ cls := "KnowHouse$CanonNames", name := "hashOne", desc := "(I)V" } : Jvm.MethodName)) ∈ lw_all := lw_g (lw_at lw_m11 124 rfl) rfl
theorem q3003 : (Jvm.Cond.code ({ cls := "KnowHouse$CanonNames", name := "hashOne", desc := "(I)V" } : Jvm.MethodName) prog_3_method_12_code (9 : Nat) (Option.none : Option Jvm.ClassFile.FieldType)) ∈ lw_all := lw_g (lw_at lw_m11 125 rfl) rfl
theorem q3004 : (Jvm.Cond.methodLink "KnowHouse$CanonNames" (131 : Nat) ({ cls := "KnowHouse$CanonNames$Graph", name := "point", desc := "(JI)I" } : Jvm.MethodName)) ∈ lw_all := lw_g (lw_at lw_m11 126 rfl) rfl
theorem q3005 : (Jvm.Cond.static ({ cls := "KnowHouse$CanonNames$Graph", name := "point", desc := "(JI)I" } : Jvm.MethodName)) ∈ lw_all := lw_g (lw_at lw_m11 127 rfl) rfl
theorem q3006 : (Jvm.Cond.code ({ cls := "KnowHouse$CanonNames$Graph", name := "point", desc := "(JI)I" } : Jvm.MethodName) prog_6_method_3_code (3 : Nat) (Option.some Jvm.ClassFile.FieldType.int)) ∈ lw_all := lw_g (lw_at lw_m11 128 rfl) rfl
theorem q3007 : (Jvm.Cond.constantLong "KnowHouse$CanonNames$Graph" (15 : Nat) (1023 : Int64)) ∈ lw_all := lw_g (lw_at lw_m11 129 rfl) rfl
theorem q3008 : (Jvm.Cond.methodLink "KnowHouse$CanonNames" (144 : Nat) ({ cls := "KnowHouse$CanonNames", name := "describe", desc := "(LKnowHouse$CanonNames$Description;JI)V" } : Jvm.MethodName)) ∈ lw_all := lw_g (lw_at lw_m11 130 rfl) rfl
theorem q3010 : (Jvm.Cond.instanceMethod ({ cls := "KnowHouse$CanonNames", name := "describe", desc := "(LKnowHouse$CanonNames$Description;JI)V" } : Jvm.MethodName)) ∈ lw_all := lw_g (lw_at lw_m11 132 rfl) rfl
theorem q3011 : (Jvm.Cond.code ({ cls := "KnowHouse$CanonNames", name := "describe", desc := "(LKnowHouse$CanonNames$Description;JI)V" } : Jvm.MethodName) prog_3_method_11_code (11 : Nat) (Option.none : Option Jvm.ClassFile.FieldType)) ∈ lw_all := lw_g (lw_at lw_m11 133 rfl) rfl
theorem q3012 : (Jvm.Cond.methodLink "KnowHouse$CanonNames" (135 : Nat) ({ cls := "KnowHouse$CanonNames$Description", name := "add", desc := "(I)V" } : Jvm.MethodName)) ∈ lw_all := lw_g (lw_at lw_m11 134 rfl) rfl
theorem q3013 : (Jvm.Cond.instanceMethod ({ cls := "KnowHouse$CanonNames$Description", name := "add", desc := "(I)V" } : Jvm.MethodName)) ∈ lw_all := lw_g (lw_at lw_m11 135 rfl) rfl
theorem q3014 : (Jvm.Cond.selects "KnowHouse$CanonNames$Description" ({ cls := "KnowHouse$CanonNames$Description", name := "add", desc := "(I)V" } : Jvm.MethodName) ({ cls := "KnowHouse$CanonNames$Description", name := "add", desc := "(I)V" } : Jvm.MethodName)) ∈ lw_all := lw_g (lw_at lw_m11 136 rfl) rfl
theorem q3015 : (Jvm.Cond.code ({ cls := "KnowHouse$CanonNames$Description", name := "add", desc := "(I)V" } : Jvm.MethodName) prog_4_method_2_code (2 : Nat) (Option.none : Option Jvm.ClassFile.FieldType)) ∈ lw_all := lw_g (lw_at lw_m11 137 rfl) rfl
theorem q3016 : (Jvm.Cond.methodLink "KnowHouse$CanonNames" (138 : Nat) ({ cls := "KnowHouse$CanonNames$Description", name := "addWord", desc := "(I)V" } : Jvm.MethodName)) ∈ lw_all := lw_g (lw_at lw_m11 138 rfl) rfl
theorem q3017 : (Jvm.Cond.instanceMethod ({ cls := "KnowHouse$CanonNames$Description", name := "addWord", desc := "(I)V" } : Jvm.MethodName)) ∈ lw_all := lw_g (lw_at lw_m11 139 rfl) rfl
theorem q3018 : (Jvm.Cond.selects "KnowHouse$CanonNames$Description" ({ cls := "KnowHouse$CanonNames$Description", name := "addWord", desc := "(I)V" } : Jvm.MethodName) ({ cls := "KnowHouse$CanonNames$Description", name := "addWord", desc := "(I)V" } : Jvm.MethodName)) ∈ lw_all := lw_g (lw_at lw_m11 140 rfl) rfl
theorem q3019 : (Jvm.Cond.code ({ cls := "KnowHouse$CanonNames$Description", name := "addWord", desc := "(I)V" } : Jvm.MethodName) prog_4_method_3_code (3 : Nat) (Option.none : Option Jvm.ClassFile.FieldType)) ∈ lw_all := lw_g (lw_at lw_m11 141 rfl) rfl
theorem q3020 : (Jvm.Cond.methodLink "KnowHouse$CanonNames$Description" (17 : Nat) ({ cls := "KnowHouse$CanonNames$Description", name := "add", desc := "(I)V" } : Jvm.MethodName)) ∈ lw_all := lw_g (lw_at lw_m11 142 rfl) rfl
theorem q3021 : (Jvm.Cond.methodLink "KnowHouse$CanonNames" (148 : Nat) ({ cls := "KnowHouse$CanonNames$Description", name := "compareTo", desc := "(LKnowHouse$CanonNames$Description;)I" } : Jvm.MethodName)) ∈ lw_all := lw_g (lw_at lw_m11 143 rfl) rfl
theorem q3022 : (Jvm.Cond.instanceMethod ({ cls := "KnowHouse$CanonNames$Description", name := "compareTo", desc := "(LKnowHouse$CanonNames$Description;)I" } : Jvm.MethodName)) ∈ lw_all := lw_g (lw_at lw_m11 144 rfl) rfl
theorem q3023 : (Jvm.Cond.selects "KnowHouse$CanonNames$Description" ({ cls := "KnowHouse$CanonNames$Description", name := "compareTo", desc := "(LKnowHouse$CanonNames$Description;)I" } : Jvm.MethodName) ({ cls := "KnowHouse$CanonNames$Description", name := "compareTo", desc := "(LKnowHouse$CanonNames$Description;)I" } : Jvm.MethodName)) ∈ lw_all := lw_g (lw_at lw_m11 145 rfl) rfl
theorem q3024 : (Jvm.Cond.code ({ cls := "KnowHouse$CanonNames$Description", name := "compareTo", desc := "(LKnowHouse$CanonNames$Description;)I" } : Jvm.MethodName) prog_4_method_4_code (3 : Nat) (Option.some Jvm.ClassFile.FieldType.int)) ∈ lw_all := lw_g (lw_at lw_m11 146 rfl) rfl
theorem q3025 : (Jvm.Cond.methodLink "KnowHouse$CanonNames$Description" (21 : Nat) ({ cls := "java/lang/Integer", name := "compare", desc := "(II)I" } : Jvm.MethodName)) ∈ lw_all := lw_g (lw_at lw_m11 147 rfl) rfl
theorem q3026 : (Jvm.Cond.static ({ cls := "java/lang/Integer", name := "compare", desc := "(II)I" } : Jvm.MethodName)) ∈ lw_all := lw_g (lw_at lw_m11 148 rfl) rfl
theorem q3027 : (Jvm.Cond.code ({ cls := "java/lang/Integer", name := "compare", desc := "(II)I" } : Jvm.MethodName) prog_103_method_40_code (2 : Nat) (Option.some Jvm.ClassFile.FieldType.int)) ∈ lw_all := lw_g (lw_at lw_m11 149 rfl) rfl
theorem q3028 : (Jvm.Cond.methodLink "KnowHouse$CanonNames" (152 : Nat) ({ cls := "KnowHouse$CanonNames$Digest", name := "addWord", desc := "(I)V" } : Jvm.MethodName)) ∈ lw_all := lw_g (lw_at lw_m11 150 rfl) rfl
theorem q3029 : (Jvm.Cond.methodLink "KnowHouse$CanonNames" (156 : Nat) ({ cls := "KnowHouse$CanonNames$Digest", name := "add", desc := "(I)V" } : Jvm.MethodName)) ∈ lw_all := lw_g (lw_at lw_m11 151 rfl) rfl
theorem q3030 : (Jvm.Cond.methodLink "KnowHouse$CanonNames" (179 : Nat) ({ cls := "KnowHouse$CanonNames", name := "different", desc := "([[I)I" } : Jvm.MethodName)) ∈ lw_all := lw_g (lw_at lw_m11 152 rfl) rfl
theorem q3032 : (Jvm.Cond.instanceMethod ({ cls := "KnowHouse$CanonNames", name := "different", desc := "([[I)I" } : Jvm.MethodName)) ∈ lw_all := lw_g (lw_at lw_m11 154 rfl) rfl
theorem q3033 : (Jvm.Cond.code ({ cls := "KnowHouse$CanonNames", name := "different", desc := "([[I)I" } : Jvm.MethodName) prog_3_method_14_code (6 : Nat) (Option.some Jvm.ClassFile.FieldType.int)) ∈ lw_all := lw_g (lw_at lw_m11 155 rfl) rfl
theorem q3034 : (Jvm.Cond.methodLink "KnowHouse$CanonNames" (169 : Nat) ({ cls := "KnowHouse$CanonNames", name := "compare", desc := "([I[I)I" } : Jvm.MethodName)) ∈ lw_all := lw_g (lw_at lw_m11 156 rfl) rfl
theorem q3035 : (Jvm.Cond.static ({ cls := "KnowHouse$CanonNames", name := "compare", desc := "([I[I)I" } : Jvm.MethodName)) ∈ lw_all := lw_g (lw_at lw_m11 157 rfl) rfl
theorem q3036 : (Jvm.Cond.code ({ cls := "KnowHouse$CanonNames", name := "compare", desc := "([I[I)I" } : Jvm.MethodName) prog_3_method_13_code (3 : Nat) (Option.some Jvm.ClassFile.FieldType.int)) ∈ lw_all := lw_g (lw_at lw_m11 158 rfl) rfl
theorem q3037 : (Jvm.Cond.methodLink "KnowHouse$CanonNames" (163 : Nat) ({ cls := "java/lang/Integer", name := "compareUnsigned", desc := "(II)I" } : Jvm.MethodName)) ∈ lw_all := lw_g (lw_at lw_m11 159 rfl) rfl
theorem q3038 : (Jvm.Cond.static ({ cls := "java/lang/Integer", name := "compareUnsigned", desc := "(II)I" } : Jvm.MethodName)) ∈ lw_all := lw_g (lw_at lw_m11 160 rfl) rfl
theorem q3039 : (Jvm.Cond.code ({ cls := "java/lang/Integer", name := "compareUnsigned", desc := "(II)I" } : Jvm.MethodName) prog_103_method_41_code (2 : Nat) (Option.some Jvm.ClassFile.FieldType.int)) ∈ lw_all := lw_g (lw_at lw_m11 161 rfl) rfl
theorem q3040 : (Jvm.Cond.constant "java/lang/Integer" (127 : Nat) (-2147483648 : Int32)) ∈ lw_all := lw_g (lw_at lw_m11 162 rfl) rfl
theorem q3041 : (Jvm.Cond.methodLink "java/lang/Integer" (259 : Nat) ({ cls := "java/lang/Integer", name := "compare", desc := "(II)I" } : Jvm.MethodName)) ∈ lw_all := lw_g (lw_at lw_m11 163 rfl) rfl
theorem q3042 : (Jvm.Cond.methodLink "KnowHouse$CanonNames" (183 : Nat) ({ cls := "KnowHouse$CanonNames", name := "makeGroups", desc := "()V" } : Jvm.MethodName)) ∈ lw_all := lw_g (lw_at lw_m11 164 rfl) rfl
theorem q3044 : (Jvm.Cond.instanceMethod ({ cls := "KnowHouse$CanonNames", name := "makeGroups", desc := "()V" } : Jvm.MethodName)) ∈ lw_all := lw_g (lw_at lw_m11 166 rfl) rfl
theorem q3045 : (Jvm.Cond.code ({ cls := "KnowHouse$CanonNames", name := "makeGroups", desc := "()V" } : Jvm.MethodName) prog_3_method_16_code (3 : Nat) (Option.none : Option Jvm.ClassFile.FieldType)) ∈ lw_all := lw_g (lw_at lw_m11 167 rfl) rfl
theorem q3046 : (Jvm.Cond.methodLink "KnowHouse$CanonNames" (192 : Nat) ({ cls := "KnowHouse$CanonNames", name := "namings", desc := "()J" } : Jvm.MethodName)) ∈ lw_all := lw_g (lw_at lw_m11 168 rfl) rfl
theorem q3048 : (Jvm.Cond.instanceMethod ({ cls := "KnowHouse$CanonNames", name := "namings", desc := "()J" } : Jvm.MethodName)) ∈ lw_all := lw_g (lw_at lw_m11 170 rfl) rfl
theorem q3049 : (Jvm.Cond.code ({ cls := "KnowHouse$CanonNames", name := "namings", desc := "()J" } : Jvm.MethodName) prog_3_method_20_code (5 : Nat) (Option.some Jvm.ClassFile.FieldType.long)) ∈ lw_all := lw_g (lw_at lw_m11 171 rfl) rfl
theorem q3050 : (Jvm.Cond.methodLink "KnowHouse$CanonNames" (202 : Nat) ({ cls := "KnowHouse$CanonNames", name := "search", desc := "(LKnowHouse$CanonNames;II)V" } : Jvm.MethodName)) ∈ lw_all := lw_g (lw_at lw_m11 172 rfl) rfl
theorem q3051 : (Jvm.Cond.static ({ cls := "KnowHouse$CanonNames", name := "search", desc := "(LKnowHouse$CanonNames;II)V" } : Jvm.MethodName)) ∈ lw_all := lw_g (lw_at lw_m11 173 rfl) rfl
theorem q3052 : (Jvm.Cond.code ({ cls := "KnowHouse$CanonNames", name := "search", desc := "(LKnowHouse$CanonNames;II)V" } : Jvm.MethodName) prog_3_method_22_code (6 : Nat) (Option.none : Option Jvm.ClassFile.FieldType)) ∈ lw_all := lw_g (lw_at lw_m11 174 rfl) rfl
theorem q3053 : (Jvm.Cond.methodLink "KnowHouse$CanonNames" (212 : Nat) ({ cls := "KnowHouse$CanonNames", name := "weigh", desc := "()V" } : Jvm.MethodName)) ∈ lw_all := lw_g (lw_at lw_m11 175 rfl) rfl
theorem q3055 : (Jvm.Cond.instanceMethod ({ cls := "KnowHouse$CanonNames", name := "weigh", desc := "()V" } : Jvm.MethodName)) ∈ lw_all := lw_g (lw_at lw_m11 177 rfl) rfl
theorem q3056 : (Jvm.Cond.code ({ cls := "KnowHouse$CanonNames", name := "weigh", desc := "()V" } : Jvm.MethodName) prog_3_method_23_code (8 : Nat) (Option.none : Option Jvm.ClassFile.FieldType)) ∈ lw_all := lw_g (lw_at lw_m11 178 rfl) rfl
theorem q3057 : (Jvm.Cond.methodLink "KnowHouse$CanonNames" (215 : Nat) ({ cls := "java/lang/Long", name := "compare", desc := "(JJ)I" } : Jvm.MethodName)) ∈ lw_all := lw_g (lw_at lw_m11 179 rfl) rfl
theorem q3058 : (Jvm.Cond.static ({ cls := "java/lang/Long", name := "compare", desc := "(JJ)I" } : Jvm.MethodName)) ∈ lw_all := lw_g (lw_at lw_m11 180 rfl) rfl
theorem q3059 : (Jvm.Cond.code ({ cls := "java/lang/Long", name := "compare", desc := "(JJ)I" } : Jvm.MethodName) prog_105_method_42_code (4 : Nat) (Option.some Jvm.ClassFile.FieldType.int)) ∈ lw_all := lw_g (lw_at lw_m11 181 rfl) rfl
theorem q3060 : (Jvm.Cond.methodLink "KnowHouse$CanonNames" (220 : Nat) ({ cls := "java/lang/Integer", name := "compare", desc := "(II)I" } : Jvm.MethodName)) ∈ lw_all := lw_g (lw_at lw_m11 182 rfl) rfl
theorem q3065 : (Jvm.Cond.methodLink "KnowHouse$CanonNames" (225 : Nat) ({ cls := "KnowHouse$CanonNames", name := "isKept", desc := "(I)Z" } : Jvm.MethodName)) ∈ lw_all := lw_g (lw_at lw_m11 187 rfl) rfl
theorem q3067 : (Jvm.Cond.instanceMethod ({ cls := "KnowHouse$CanonNames", name := "isKept", desc := "(I)Z" } : Jvm.MethodName)) ∈ lw_all := lw_g (lw_at lw_m11 189 rfl) rfl
theorem q3068 : (Jvm.Cond.code ({ cls := "KnowHouse$CanonNames", name := "isKept", desc := "(I)Z" } : Jvm.MethodName) prog_3_method_28_code (2 : Nat) (Option.some Jvm.ClassFile.FieldType.boolean)) ∈ lw_all := lw_g (lw_at lw_m11 190 rfl) rfl
theorem q3069 : (Jvm.Cond.methodLink "KnowHouse$CanonNames" (228 : Nat) ({ cls := "KnowHouse$CanonNames", name := "match", desc := "(II)I" } : Jvm.MethodName)) ∈ lw_all := lw_g (lw_at lw_m11 191 rfl) rfl
theorem q3071 : (Jvm.Cond.instanceMethod ({ cls := "KnowHouse$CanonNames", name := "match", desc := "(II)I" } : Jvm.MethodName)) ∈ lw_all := lw_g (lw_at lw_m11 193 rfl) rfl
theorem q3072 : (Jvm.Cond.code ({ cls := "KnowHouse$CanonNames", name := "match", desc := "(II)I" } : Jvm.MethodName) prog_3_method_31_code (4 : Nat) (Option.some Jvm.ClassFile.FieldType.int)) ∈ lw_all := lw_g (lw_at lw_m11 194 rfl) rfl
theorem q3073 : (Jvm.Cond.methodLink "KnowHouse$CanonNames" (241 : Nat) ({ cls := "KnowHouse$CanonNames", name := "pair", desc := "(LKnowHouse$CanonNames;LKnowHouse$CanonNames$Graph;I)V" } : Jvm.MethodName)) ∈ lw_all := lw_g (lw_at lw_m11 195 rfl) rfl
theorem q3074 : (Jvm.Cond.static ({ cls := "KnowHouse$CanonNames", name := "pair", desc := "(LKnowHouse$CanonNames;LKnowHouse$CanonNames$Graph;I)V" } : Jvm.MethodName)) ∈ lw_all := lw_g (lw_at lw_m11 196 rfl) rfl
theorem q3075 : (Jvm.Cond.code ({ cls := "KnowHouse$CanonNames", name := "pair", desc := "(LKnowHouse$CanonNames;LKnowHouse$CanonNames$Graph;I)V" } : Jvm.MethodName) prog_3_method_32_code (4 : Nat) (Option.none : Option Jvm.ClassFile.FieldType)) ∈ lw_all := lw_g (lw_at lw_m11 197 rfl) rfl
theorem q3076 : (Jvm.Cond.methodLink "KnowHouse$CanonNames" (245 : Nat) ({ cls := "KnowHouse$CanonNames", name := "isThere", desc := "(LKnowHouse$CanonNames$Graph;I)Z" } : Jvm.MethodName)) ∈ lw_all := lw_g (lw_at lw_m11 198 rfl) rfl
theorem q3078 : (Jvm.Cond.instanceMethod ({ cls := "KnowHouse$CanonNames", name := "isThere", desc := "(LKnowHouse$CanonNames$Graph;I)Z" } : Jvm.MethodName)) ∈ lw_all := lw_g (lw_at lw_m11 200 rfl) rfl
theorem q3079 : (Jvm.Cond.code ({ cls := "KnowHouse$CanonNames", name := "isThere", desc := "(LKnowHouse$CanonNames$Graph;I)Z" } : Jvm.MethodName) prog_3_method_33_code (9 : Nat) (Option.some Jvm.ClassFile.FieldType.boolean)) ∈ lw_all := lw_g (lw_at lw_m11 201 rfl) rfl
theorem q3876 : (Jvm.Cond.methodLink "KnowHouse$CanonNames" (122 : Nat) ({ cls := "KnowHouse$CanonNames$Graph", name := "remove", desc := "(J)V" } : Jvm.MethodName)) ∈ lw_all := lw_g (lw_at lw_m15 38 rfl) rfl
theorem q3877 : (Jvm.Cond.instanceMethod ({ cls := "KnowHouse$CanonNames$Graph", name := "remove", desc := "(J)V" } : Jvm.MethodName)) ∈ lw_all := lw_g (lw_at lw_m15 39 rfl) rfl
theorem q3878 : (Jvm.Cond.selects "KnowHouse$CanonNames$Graph" ({ cls := "KnowHouse$CanonNames$Graph", name := "remove", desc := "(J)V" } : Jvm.MethodName) ({ cls := "KnowHouse$CanonNames$Graph", name := "remove", desc := "(J)V" } : Jvm.MethodName)) ∈ lw_all := lw_g (lw_at lw_m15 40 rfl) rfl
theorem q3879 : (Jvm.Cond.code ({ cls := "KnowHouse$CanonNames$Graph", name := "remove", desc := "(J)V" } : Jvm.MethodName) prog_6_method_8_code (4 : Nat) (Option.none : Option Jvm.ClassFile.FieldType)) ∈ lw_all := lw_g (lw_at lw_m15 41 rfl) rfl
theorem q3904 : (Jvm.Cond.constant "KnowHouse$CanonNames" (231 : Nat) (2147483647 : Int32)) ∈ lw_all := lw_g (lw_at lw_m15 66 rfl) rfl
theorem q3909 : (Jvm.Cond.methodLink "KnowHouse$CanonNames" (249 : Nat) ({ cls := "KnowHouse$CanonNames$Graph", name := "isSame", desc := "(LKnowHouse$CanonNames$Graph;)Z" } : Jvm.MethodName)) ∈ lw_all := lw_g (lw_at lw_m15 71 rfl) rfl
theorem q3910 : (Jvm.Cond.instanceMethod ({ cls := "KnowHouse$CanonNames$Graph", name := "isSame", desc := "(LKnowHouse$CanonNames$Graph;)Z" } : Jvm.MethodName)) ∈ lw_all := lw_g (lw_at lw_m15 72 rfl) rfl
theorem q3911 : (Jvm.Cond.selects "KnowHouse$CanonNames$Graph" ({ cls := "KnowHouse$CanonNames$Graph", name := "isSame", desc := "(LKnowHouse$CanonNames$Graph;)Z" } : Jvm.MethodName) ({ cls := "KnowHouse$CanonNames$Graph", name := "isSame", desc := "(LKnowHouse$CanonNames$Graph;)Z" } : Jvm.MethodName)) ∈ lw_all := lw_g (lw_at lw_m15 73 rfl) rfl
theorem q3912 : (Jvm.Cond.code ({ cls := "KnowHouse$CanonNames$Graph", name := "isSame", desc := "(LKnowHouse$CanonNames$Graph;)Z" } : Jvm.MethodName) prog_6_method_9_code (4 : Nat) (Option.some Jvm.ClassFile.FieldType.boolean)) ∈ lw_all := lw_g (lw_at lw_m15 74 rfl) rfl
theorem qOI : Cond.instanceMethod Lib.objectInit ∈ lw_all := q602
theorem qOC : Cond.code Lib.objectInit ⟨#[0xb1]⟩ 1 none ∈ lw_all := q603
theorem hCNX4_init : yX4_init.cls ≠ "java/lang/invoke/MethodHandle" ∧ yX4_init.cls ≠ "java/lang/invoke/VarHandle" ∧ (parseMethodDescriptor yX4_init.desc).map (fun d => d.parameters.length) = some 0 := by decide +kernel
theorem hCNX2_init : yX2_init.cls ≠ "java/lang/invoke/MethodHandle" ∧ yX2_init.cls ≠ "java/lang/invoke/VarHandle" ∧ (parseMethodDescriptor yX2_init.desc).map (fun d => d.parameters.length) = some 0 := by decide +kernel
theorem hCNX2_isPoint : yX2_isPoint.cls ≠ "java/lang/invoke/MethodHandle" ∧ yX2_isPoint.cls ≠ "java/lang/invoke/VarHandle" ∧ (parseMethodDescriptor yX2_isPoint.desc).map (fun d => d.parameters.length) = some 1 := by decide +kernel
theorem hCNX2_find : yX2_find.cls ≠ "java/lang/invoke/MethodHandle" ∧ yX2_find.cls ≠ "java/lang/invoke/VarHandle" ∧ (parseMethodDescriptor yX2_find.desc).map (fun d => d.parameters.length) = some 1 := by decide +kernel
theorem hCNX1_are : yX1_are.cls ≠ "java/lang/invoke/MethodHandle" ∧ yX1_are.cls ≠ "java/lang/invoke/VarHandle" ∧ (parseMethodDescriptor yX1_are.desc).map (fun d => d.parameters.length) = some 3 := by decide +kernel
theorem hCNX2_key : yX2_key.cls ≠ "java/lang/invoke/MethodHandle" ∧ yX2_key.cls ≠ "java/lang/invoke/VarHandle" ∧ (parseMethodDescriptor yX2_key.desc).map (fun d => d.parameters.length) = some 3 := by decide +kernel
theorem hCNX2_has : yX2_has.cls ≠ "java/lang/invoke/MethodHandle" ∧ yX2_has.cls ≠ "java/lang/invoke/VarHandle" ∧ (parseMethodDescriptor yX2_has.desc).map (fun d => d.parameters.length) = some 1 := by decide +kernel
theorem hCNX2_add : yX2_add.cls ≠ "java/lang/invoke/MethodHandle" ∧ yX2_add.cls ≠ "java/lang/invoke/VarHandle" ∧ (parseMethodDescriptor yX2_add.desc).map (fun d => d.parameters.length) = some 1 := by decide +kernel
theorem hCNJ3_rotateRight : yJ3_rotateRight.cls ≠ "java/lang/invoke/MethodHandle" ∧ yJ3_rotateRight.cls ≠ "java/lang/invoke/VarHandle" ∧ (parseMethodDescriptor yJ3_rotateRight.desc).map (fun d => d.parameters.length) = some 2 := by decide +kernel
theorem hCNX3_turn : yX3_turn.cls ≠ "java/lang/invoke/MethodHandle" ∧ yX3_turn.cls ≠ "java/lang/invoke/VarHandle" ∧ (parseMethodDescriptor yX3_turn.desc).map (fun d => d.parameters.length) = some 0 := by decide +kernel
theorem hCNX3_add : yX3_add.cls ≠ "java/lang/invoke/MethodHandle" ∧ yX3_add.cls ≠ "java/lang/invoke/VarHandle" ∧ (parseMethodDescriptor yX3_add.desc).map (fun d => d.parameters.length) = some 1 := by decide +kernel
theorem hCNX3_addWord : yX3_addWord.cls ≠ "java/lang/invoke/MethodHandle" ∧ yX3_addWord.cls ≠ "java/lang/invoke/VarHandle" ∧ (parseMethodDescriptor yX3_addWord.desc).map (fun d => d.parameters.length) = some 1 := by decide +kernel
theorem hCNX4_add : yX4_add.cls ≠ "java/lang/invoke/MethodHandle" ∧ yX4_add.cls ≠ "java/lang/invoke/VarHandle" ∧ (parseMethodDescriptor yX4_add.desc).map (fun d => d.parameters.length) = some 1 := by decide +kernel
theorem hCNX2_point : yX2_point.cls ≠ "java/lang/invoke/MethodHandle" ∧ yX2_point.cls ≠ "java/lang/invoke/VarHandle" ∧ (parseMethodDescriptor yX2_point.desc).map (fun d => d.parameters.length) = some 2 := by decide +kernel
theorem hCNX4_addWord : yX4_addWord.cls ≠ "java/lang/invoke/MethodHandle" ∧ yX4_addWord.cls ≠ "java/lang/invoke/VarHandle" ∧ (parseMethodDescriptor yX4_addWord.desc).map (fun d => d.parameters.length) = some 1 := by decide +kernel
theorem hCNJ3_compare : yJ3_compare.cls ≠ "java/lang/invoke/MethodHandle" ∧ yJ3_compare.cls ≠ "java/lang/invoke/VarHandle" ∧ (parseMethodDescriptor yJ3_compare.desc).map (fun d => d.parameters.length) = some 2 := by decide +kernel
theorem hCNX1_describe : yX1_describe.cls ≠ "java/lang/invoke/MethodHandle" ∧ yX1_describe.cls ≠ "java/lang/invoke/VarHandle" ∧ (parseMethodDescriptor yX1_describe.desc).map (fun d => d.parameters.length) = some 3 := by decide +kernel
theorem hCNX4_compareTo : yX4_compareTo.cls ≠ "java/lang/invoke/MethodHandle" ∧ yX4_compareTo.cls ≠ "java/lang/invoke/VarHandle" ∧ (parseMethodDescriptor yX4_compareTo.desc).map (fun d => d.parameters.length) = some 1 := by decide +kernel
theorem hCNX3_begin : yX3_begin.cls ≠ "java/lang/invoke/MethodHandle" ∧ yX3_begin.cls ≠ "java/lang/invoke/VarHandle" ∧ (parseMethodDescriptor yX3_begin.desc).map (fun d => d.parameters.length) = some 0 := by decide +kernel
theorem hCNX3_end : yX3_end.cls ≠ "java/lang/invoke/MethodHandle" ∧ yX3_end.cls ≠ "java/lang/invoke/VarHandle" ∧ (parseMethodDescriptor yX3_end.desc).map (fun d => d.parameters.length) = some 0 := by decide +kernel
theorem hCNJ3_compareUnsigned : yJ3_compareUnsigned.cls ≠ "java/lang/invoke/MethodHandle" ∧ yJ3_compareUnsigned.cls ≠ "java/lang/invoke/VarHandle" ∧ (parseMethodDescriptor yJ3_compareUnsigned.desc).map (fun d => d.parameters.length) = some 2 := by decide +kernel
theorem hCNX1_compare : yX1_compare.cls ≠ "java/lang/invoke/MethodHandle" ∧ yX1_compare.cls ≠ "java/lang/invoke/VarHandle" ∧ (parseMethodDescriptor yX1_compare.desc).map (fun d => d.parameters.length) = some 2 := by decide +kernel
theorem hCNX1_hashOne : yX1_hashOne.cls ≠ "java/lang/invoke/MethodHandle" ∧ yX1_hashOne.cls ≠ "java/lang/invoke/VarHandle" ∧ (parseMethodDescriptor yX1_hashOne.desc).map (fun d => d.parameters.length) = some 1 := by decide +kernel
theorem hCNX1_different : yX1_different.cls ≠ "java/lang/invoke/MethodHandle" ∧ yX1_different.cls ≠ "java/lang/invoke/VarHandle" ∧ (parseMethodDescriptor yX1_different.desc).map (fun d => d.parameters.length) = some 1 := by decide +kernel
theorem hCNX1_makeGroups : yX1_makeGroups.cls ≠ "java/lang/invoke/MethodHandle" ∧ yX1_makeGroups.cls ≠ "java/lang/invoke/VarHandle" ∧ (parseMethodDescriptor yX1_makeGroups.desc).map (fun d => d.parameters.length) = some 0 := by decide +kernel
theorem hCNJ21_compare : yJ21_compare.cls ≠ "java/lang/invoke/MethodHandle" ∧ yJ21_compare.cls ≠ "java/lang/invoke/VarHandle" ∧ (parseMethodDescriptor yJ21_compare.desc).map (fun d => d.parameters.length) = some 2 := by decide +kernel
theorem hCNX1_weigh : yX1_weigh.cls ≠ "java/lang/invoke/MethodHandle" ∧ yX1_weigh.cls ≠ "java/lang/invoke/VarHandle" ∧ (parseMethodDescriptor yX1_weigh.desc).map (fun d => d.parameters.length) = some 0 := by decide +kernel
theorem hCNX1_search : yX1_search.cls ≠ "java/lang/invoke/MethodHandle" ∧ yX1_search.cls ≠ "java/lang/invoke/VarHandle" ∧ (parseMethodDescriptor yX1_search.desc).map (fun d => d.parameters.length) = some 3 := by decide +kernel
theorem hCNX1_makeHashes : yX1_makeHashes.cls ≠ "java/lang/invoke/MethodHandle" ∧ yX1_makeHashes.cls ≠ "java/lang/invoke/VarHandle" ∧ (parseMethodDescriptor yX1_makeHashes.desc).map (fun d => d.parameters.length) = some 0 := by decide +kernel
theorem hCNX1_namings : yX1_namings.cls ≠ "java/lang/invoke/MethodHandle" ∧ yX1_namings.cls ≠ "java/lang/invoke/VarHandle" ∧ (parseMethodDescriptor yX1_namings.desc).map (fun d => d.parameters.length) = some 0 := by decide +kernel
theorem hCNX1_isThere : yX1_isThere.cls ≠ "java/lang/invoke/MethodHandle" ∧ yX1_isThere.cls ≠ "java/lang/invoke/VarHandle" ∧ (parseMethodDescriptor yX1_isThere.desc).map (fun d => d.parameters.length) = some 2 := by decide +kernel
theorem hCNX1_pair : yX1_pair.cls ≠ "java/lang/invoke/MethodHandle" ∧ yX1_pair.cls ≠ "java/lang/invoke/VarHandle" ∧ (parseMethodDescriptor yX1_pair.desc).map (fun d => d.parameters.length) = some 3 := by decide +kernel
theorem hCNX1_isKept : yX1_isKept.cls ≠ "java/lang/invoke/MethodHandle" ∧ yX1_isKept.cls ≠ "java/lang/invoke/VarHandle" ∧ (parseMethodDescriptor yX1_isKept.desc).map (fun d => d.parameters.length) = some 1 := by decide +kernel
theorem hCNX1_match : yX1_match.cls ≠ "java/lang/invoke/MethodHandle" ∧ yX1_match.cls ≠ "java/lang/invoke/VarHandle" ∧ (parseMethodDescriptor yX1_match.desc).map (fun d => d.parameters.length) = some 2 := by decide +kernel
theorem hCNX2_remove : yX2_remove.cls ≠ "java/lang/invoke/MethodHandle" ∧ yX2_remove.cls ≠ "java/lang/invoke/VarHandle" ∧ (parseMethodDescriptor yX2_remove.desc).map (fun d => d.parameters.length) = some 1 := by decide +kernel
theorem hCNX2_isSame : yX2_isSame.cls ≠ "java/lang/invoke/MethodHandle" ∧ yX2_isSame.cls ≠ "java/lang/invoke/VarHandle" ∧ (parseMethodDescriptor yX2_isSame.desc).map (fun d => d.parameters.length) = some 1 := by decide +kernel
def sg1 : Nat → Int32 := fun j => ([1779033703, -1150833019, 1013904242, -1521486534, 1359893119, -1694144372, 528734635, 1541459225] : List Int32).getD j 0
def sg2 : Nat → Int32 := fun j => ([1116352408, 1899447441, -1245643825, -373957723, 961987163, 1508970993, -1841331548, -1424204075, -670586216, 310598401, 607225278, 1426881987, 1925078388, -2132889090, -1680079193, -1046744716, -459576895, -272742522, 264347078, 604807628, 770255983, 1249150122, 1555081692, 1996064986, -1740746414, -1473132947, -1341970488, -1084653625, -958395405, -710438585, 113926993, 338241895, 666307205, 773529912, 1294757372, 1396182291, 1695183700, 1986661051, -2117940946, -1838011259, -1564481375, -1474664885, -1035236496, -949202525, -778901479, -694614492, -200395387, 275423344, 430227734, 506948616, 659060556, 883997877, 958139571, 1322822218, 1537002063, 1747873779, 1955562222, 2024104815, -2067236844, -1933114872, -1866530822, -1538233109, -1090935817, -965641998] : List Int32).getD j 0
def kECN (G : kGt) (sa : Nat → Nat) : Prop := ∀ (A : Nat → Prop) (s : State) (H : Heap), G A s H → va_Z "KnowHouse$CanonNames" "BEGIN" "[I" (.ref (sa 1)) A s H ∧ va_T .int (sa 1) 8 (fun j => .int (sg1 j)) A s H ∧ va_Z "KnowHouse$CanonNames" "ROUNDS" "[I" (.ref (sa 2)) A s H ∧ va_T .int (sa 2) 64 (fun j => .int (sg2 j)) A s H ∧ True
theorem kECN_0 {G : kGt} {sa : Nat → Nat} (h : kECN G sa) {A : Nat → Prop} {s : State} {H : Heap} (g : G A s H) : va_Z "KnowHouse$CanonNames" "BEGIN" "[I" (.ref (sa 1)) A s H := (h A s H g).1
theorem kECN_1 {G : kGt} {sa : Nat → Nat} (h : kECN G sa) {A : Nat → Prop} {s : State} {H : Heap} (g : G A s H) : va_T .int (sa 1) 8 (fun j => .int (sg1 j)) A s H := (h A s H g).2.1
theorem kECN_2 {G : kGt} {sa : Nat → Nat} (h : kECN G sa) {A : Nat → Prop} {s : State} {H : Heap} (g : G A s H) : va_Z "KnowHouse$CanonNames" "ROUNDS" "[I" (.ref (sa 2)) A s H := (h A s H g).2.2.1
theorem kECN_3 {G : kGt} {sa : Nat → Nat} (h : kECN G sa) {A : Nat → Prop} {s : State} {H : Heap} (g : G A s H) : va_T .int (sa 2) 64 (fun j => .int (sg2 j)) A s H := (h A s H g).2.2.2.1
def cCN (ci : Nat → Nat) (d : Nat → ClassId) (kd : Nat → Nat) (an : Nat → Nat) (ai : Nat → Nat → Int32) (al : Nat → Nat → Int64) (ar : Nat → Nat → Option Nat) (mX1_graph : Nat → Option Nat) (mX1_kept : Nat → Option Nat) (mX1_keptCount : Nat → Int32) (mX1_digest : Nat → Option Nat) (mX1_hashed : Nat → Int32) (mX1_rounds : Nat → Int32) (mX1_hashes : Nat → Option Nat) (mX1_next : Nat → Option Nat) (mX1_descriptions : Nat → Option Nat) (mX1_order : Nat → Option Nat) (mX1_begins : Nat → Option Nat) (mX1_groups : Nat → Int32) (mX1_numbers : Nat → Option Nat) (mX1_best : Nat → Option Nat) (mX1_row : Nat → Option Nat) (mX1_leastRow : Nat → Option Nat) (mX1_found : Nat → Int32) (mX1_many : Nat → Int32) (mX1_namedBlanks : Nat → Int32) (mX1_formCount : Nat → Int32) (mX1_given : Nat → Option Nat) (mX1_form : Nat → Option Nat) (mX1_octets : Nat → Option Nat) (mX1_ways : Nat → Int32) (mX1_wanted : Nat → Int32) (mX1_taken : Nat → Int32) (mX2_blanks : Nat → Int32) (mX2_count : Nat → Int32) (mX2_keys : Nat → Option Nat) (mX3_words : Nat → Option Nat) (mX3_block : Nat → Option Nat) (mX3_size : Nat → Int64) (mX4_bytes : Nat → Option Nat) (mX4_size : Nat → Int32) : Nat → va_E := fun a => match kd a with
  | 1 => .inr (ci 0, [va_rf (mX1_graph a), va_rf (mX1_kept a), .int (mX1_keptCount a), va_rf (mX1_digest a), .int (mX1_hashed a), .int (mX1_rounds a), va_rf (mX1_hashes a), va_rf (mX1_next a), va_rf (mX1_descriptions a), va_rf (mX1_order a), va_rf (mX1_begins a), .int (mX1_groups a), va_rf (mX1_numbers a), va_rf (mX1_best a), va_rf (mX1_row a), va_rf (mX1_leastRow a), .int (mX1_found a), .int (mX1_many a), .int (mX1_namedBlanks a), .int (mX1_formCount a), va_rf (mX1_given a), va_rf (mX1_form a), va_rf (mX1_octets a), .int (mX1_ways a), .int (mX1_wanted a), .int (mX1_taken a)])
  | 2 => .inr (ci 1, [.int (mX2_blanks a), .int (mX2_count a), va_rf (mX2_keys a)])
  | 3 => .inr (ci 2, [va_rf (mX3_words a), va_rf (mX3_block a), .long (mX3_size a)])
  | 4 => .inr (ci 3, [va_rf (mX4_bytes a), .int (mX4_size a)])
  | 5 => .inl (d 0, an a, .inl (ai a))
  | 6 => .inl (d 1, an a, .inr (.inl (al a)))
  | 7 => .inl (d 2, an a, .inl (ai a))
  | 8 => .inl (d 3, an a, .inr (.inr (.inr (.inr (ar a)))))
  | 9 => .inl (d 4, an a, .inr (.inr (.inr (.inr (ar a)))))
  | 10 => .inl (d 5, an a, .inr (.inr (.inr (.inr (ar a)))))
  | _ => .inl (d 0, 0, .inl (fun _ => 0))
abbrev kCN : List vw_C := [(RX1, TX1, 26), (RX2, TX2, 3), (RX3, TX3, 3), (RX4, TX4, 2)]
abbrev tCN (d : Nat → ClassId) : List (ClassId × FieldType) := [(d 0, .int), (d 1, .long), (d 2, .byte), (d 3, (.array .int)), (d 4, (.object "KnowHouse$CanonNames$Graph")), (d 5, (.object "KnowHouse$CanonNames$Description"))]
theorem cCN_1 {ci : Nat → Nat} {d : Nat → ClassId} {kd : Nat → Nat} {an : Nat → Nat} {ai : Nat → Nat → Int32} {al : Nat → Nat → Int64} {ar : Nat → Nat → Option Nat} {mX1_graph : Nat → Option Nat} {mX1_kept : Nat → Option Nat} {mX1_keptCount : Nat → Int32} {mX1_digest : Nat → Option Nat} {mX1_hashed : Nat → Int32} {mX1_rounds : Nat → Int32} {mX1_hashes : Nat → Option Nat} {mX1_next : Nat → Option Nat} {mX1_descriptions : Nat → Option Nat} {mX1_order : Nat → Option Nat} {mX1_begins : Nat → Option Nat} {mX1_groups : Nat → Int32} {mX1_numbers : Nat → Option Nat} {mX1_best : Nat → Option Nat} {mX1_row : Nat → Option Nat} {mX1_leastRow : Nat → Option Nat} {mX1_found : Nat → Int32} {mX1_many : Nat → Int32} {mX1_namedBlanks : Nat → Int32} {mX1_formCount : Nat → Int32} {mX1_given : Nat → Option Nat} {mX1_form : Nat → Option Nat} {mX1_octets : Nat → Option Nat} {mX1_ways : Nat → Int32} {mX1_wanted : Nat → Int32} {mX1_taken : Nat → Int32} {mX2_blanks : Nat → Int32} {mX2_count : Nat → Int32} {mX2_keys : Nat → Option Nat} {mX3_words : Nat → Option Nat} {mX3_block : Nat → Option Nat} {mX3_size : Nat → Int64} {mX4_bytes : Nat → Option Nat} {mX4_size : Nat → Int32} {a : Nat} (hk : kd a = 1) : (cCN ci d kd an ai al ar mX1_graph mX1_kept mX1_keptCount mX1_digest mX1_hashed mX1_rounds mX1_hashes mX1_next mX1_descriptions mX1_order mX1_begins mX1_groups mX1_numbers mX1_best mX1_row mX1_leastRow mX1_found mX1_many mX1_namedBlanks mX1_formCount mX1_given mX1_form mX1_octets mX1_ways mX1_wanted mX1_taken mX2_blanks mX2_count mX2_keys mX3_words mX3_block mX3_size mX4_bytes mX4_size) a = .inr (ci 0, [va_rf (mX1_graph a), va_rf (mX1_kept a), .int (mX1_keptCount a), va_rf (mX1_digest a), .int (mX1_hashed a), .int (mX1_rounds a), va_rf (mX1_hashes a), va_rf (mX1_next a), va_rf (mX1_descriptions a), va_rf (mX1_order a), va_rf (mX1_begins a), .int (mX1_groups a), va_rf (mX1_numbers a), va_rf (mX1_best a), va_rf (mX1_row a), va_rf (mX1_leastRow a), .int (mX1_found a), .int (mX1_many a), .int (mX1_namedBlanks a), .int (mX1_formCount a), va_rf (mX1_given a), va_rf (mX1_form a), va_rf (mX1_octets a), .int (mX1_ways a), .int (mX1_wanted a), .int (mX1_taken a)]) := by unfold cCN; simp only [hk]
theorem cCN_1_0 {ci : Nat → Nat} {d : Nat → ClassId} {kd : Nat → Nat} {an : Nat → Nat} {ai : Nat → Nat → Int32} {al : Nat → Nat → Int64} {ar : Nat → Nat → Option Nat} {mX1_graph : Nat → Option Nat} {mX1_kept : Nat → Option Nat} {mX1_keptCount : Nat → Int32} {mX1_digest : Nat → Option Nat} {mX1_hashed : Nat → Int32} {mX1_rounds : Nat → Int32} {mX1_hashes : Nat → Option Nat} {mX1_next : Nat → Option Nat} {mX1_descriptions : Nat → Option Nat} {mX1_order : Nat → Option Nat} {mX1_begins : Nat → Option Nat} {mX1_groups : Nat → Int32} {mX1_numbers : Nat → Option Nat} {mX1_best : Nat → Option Nat} {mX1_row : Nat → Option Nat} {mX1_leastRow : Nat → Option Nat} {mX1_found : Nat → Int32} {mX1_many : Nat → Int32} {mX1_namedBlanks : Nat → Int32} {mX1_formCount : Nat → Int32} {mX1_given : Nat → Option Nat} {mX1_form : Nat → Option Nat} {mX1_octets : Nat → Option Nat} {mX1_ways : Nat → Int32} {mX1_wanted : Nat → Int32} {mX1_taken : Nat → Int32} {mX2_blanks : Nat → Int32} {mX2_count : Nat → Int32} {mX2_keys : Nat → Option Nat} {mX3_words : Nat → Option Nat} {mX3_block : Nat → Option Nat} {mX3_size : Nat → Int64} {mX4_bytes : Nat → Option Nat} {mX4_size : Nat → Int32} {a : Nat} {v : Option Nat} (hk : kd a = 1) : va_up (cCN ci d kd an ai al ar mX1_graph mX1_kept mX1_keptCount mX1_digest mX1_hashed mX1_rounds mX1_hashes mX1_next mX1_descriptions mX1_order mX1_begins mX1_groups mX1_numbers mX1_best mX1_row mX1_leastRow mX1_found mX1_many mX1_namedBlanks mX1_formCount mX1_given mX1_form mX1_octets mX1_ways mX1_wanted mX1_taken mX2_blanks mX2_count mX2_keys mX3_words mX3_block mX3_size mX4_bytes mX4_size) a (.inr (ci 0, [va_rf v, va_rf (mX1_kept a), .int (mX1_keptCount a), va_rf (mX1_digest a), .int (mX1_hashed a), .int (mX1_rounds a), va_rf (mX1_hashes a), va_rf (mX1_next a), va_rf (mX1_descriptions a), va_rf (mX1_order a), va_rf (mX1_begins a), .int (mX1_groups a), va_rf (mX1_numbers a), va_rf (mX1_best a), va_rf (mX1_row a), va_rf (mX1_leastRow a), .int (mX1_found a), .int (mX1_many a), .int (mX1_namedBlanks a), .int (mX1_formCount a), va_rf (mX1_given a), va_rf (mX1_form a), va_rf (mX1_octets a), .int (mX1_ways a), .int (mX1_wanted a), .int (mX1_taken a)])) = (cCN ci d kd an ai al ar (va_up mX1_graph a v) mX1_kept mX1_keptCount mX1_digest mX1_hashed mX1_rounds mX1_hashes mX1_next mX1_descriptions mX1_order mX1_begins mX1_groups mX1_numbers mX1_best mX1_row mX1_leastRow mX1_found mX1_many mX1_namedBlanks mX1_formCount mX1_given mX1_form mX1_octets mX1_ways mX1_wanted mX1_taken mX2_blanks mX2_count mX2_keys mX3_words mX3_block mX3_size mX4_bytes mX4_size) := by
  funext b
  by_cases h : b = a
  · subst h
    rw [va_up_self]
    unfold cCN
    rw [hk]
    simp only [va_up_self]
  · rw [va_up_ne _ _ h]
    unfold cCN
    simp only [va_up_ne _ _ h]
theorem cCN_1_1 {ci : Nat → Nat} {d : Nat → ClassId} {kd : Nat → Nat} {an : Nat → Nat} {ai : Nat → Nat → Int32} {al : Nat → Nat → Int64} {ar : Nat → Nat → Option Nat} {mX1_graph : Nat → Option Nat} {mX1_kept : Nat → Option Nat} {mX1_keptCount : Nat → Int32} {mX1_digest : Nat → Option Nat} {mX1_hashed : Nat → Int32} {mX1_rounds : Nat → Int32} {mX1_hashes : Nat → Option Nat} {mX1_next : Nat → Option Nat} {mX1_descriptions : Nat → Option Nat} {mX1_order : Nat → Option Nat} {mX1_begins : Nat → Option Nat} {mX1_groups : Nat → Int32} {mX1_numbers : Nat → Option Nat} {mX1_best : Nat → Option Nat} {mX1_row : Nat → Option Nat} {mX1_leastRow : Nat → Option Nat} {mX1_found : Nat → Int32} {mX1_many : Nat → Int32} {mX1_namedBlanks : Nat → Int32} {mX1_formCount : Nat → Int32} {mX1_given : Nat → Option Nat} {mX1_form : Nat → Option Nat} {mX1_octets : Nat → Option Nat} {mX1_ways : Nat → Int32} {mX1_wanted : Nat → Int32} {mX1_taken : Nat → Int32} {mX2_blanks : Nat → Int32} {mX2_count : Nat → Int32} {mX2_keys : Nat → Option Nat} {mX3_words : Nat → Option Nat} {mX3_block : Nat → Option Nat} {mX3_size : Nat → Int64} {mX4_bytes : Nat → Option Nat} {mX4_size : Nat → Int32} {a : Nat} {v : Option Nat} (hk : kd a = 1) : va_up (cCN ci d kd an ai al ar mX1_graph mX1_kept mX1_keptCount mX1_digest mX1_hashed mX1_rounds mX1_hashes mX1_next mX1_descriptions mX1_order mX1_begins mX1_groups mX1_numbers mX1_best mX1_row mX1_leastRow mX1_found mX1_many mX1_namedBlanks mX1_formCount mX1_given mX1_form mX1_octets mX1_ways mX1_wanted mX1_taken mX2_blanks mX2_count mX2_keys mX3_words mX3_block mX3_size mX4_bytes mX4_size) a (.inr (ci 0, [va_rf (mX1_graph a), va_rf v, .int (mX1_keptCount a), va_rf (mX1_digest a), .int (mX1_hashed a), .int (mX1_rounds a), va_rf (mX1_hashes a), va_rf (mX1_next a), va_rf (mX1_descriptions a), va_rf (mX1_order a), va_rf (mX1_begins a), .int (mX1_groups a), va_rf (mX1_numbers a), va_rf (mX1_best a), va_rf (mX1_row a), va_rf (mX1_leastRow a), .int (mX1_found a), .int (mX1_many a), .int (mX1_namedBlanks a), .int (mX1_formCount a), va_rf (mX1_given a), va_rf (mX1_form a), va_rf (mX1_octets a), .int (mX1_ways a), .int (mX1_wanted a), .int (mX1_taken a)])) = (cCN ci d kd an ai al ar mX1_graph (va_up mX1_kept a v) mX1_keptCount mX1_digest mX1_hashed mX1_rounds mX1_hashes mX1_next mX1_descriptions mX1_order mX1_begins mX1_groups mX1_numbers mX1_best mX1_row mX1_leastRow mX1_found mX1_many mX1_namedBlanks mX1_formCount mX1_given mX1_form mX1_octets mX1_ways mX1_wanted mX1_taken mX2_blanks mX2_count mX2_keys mX3_words mX3_block mX3_size mX4_bytes mX4_size) := by
  funext b
  by_cases h : b = a
  · subst h
    rw [va_up_self]
    unfold cCN
    rw [hk]
    simp only [va_up_self]
  · rw [va_up_ne _ _ h]
    unfold cCN
    simp only [va_up_ne _ _ h]
theorem cCN_1_2 {ci : Nat → Nat} {d : Nat → ClassId} {kd : Nat → Nat} {an : Nat → Nat} {ai : Nat → Nat → Int32} {al : Nat → Nat → Int64} {ar : Nat → Nat → Option Nat} {mX1_graph : Nat → Option Nat} {mX1_kept : Nat → Option Nat} {mX1_keptCount : Nat → Int32} {mX1_digest : Nat → Option Nat} {mX1_hashed : Nat → Int32} {mX1_rounds : Nat → Int32} {mX1_hashes : Nat → Option Nat} {mX1_next : Nat → Option Nat} {mX1_descriptions : Nat → Option Nat} {mX1_order : Nat → Option Nat} {mX1_begins : Nat → Option Nat} {mX1_groups : Nat → Int32} {mX1_numbers : Nat → Option Nat} {mX1_best : Nat → Option Nat} {mX1_row : Nat → Option Nat} {mX1_leastRow : Nat → Option Nat} {mX1_found : Nat → Int32} {mX1_many : Nat → Int32} {mX1_namedBlanks : Nat → Int32} {mX1_formCount : Nat → Int32} {mX1_given : Nat → Option Nat} {mX1_form : Nat → Option Nat} {mX1_octets : Nat → Option Nat} {mX1_ways : Nat → Int32} {mX1_wanted : Nat → Int32} {mX1_taken : Nat → Int32} {mX2_blanks : Nat → Int32} {mX2_count : Nat → Int32} {mX2_keys : Nat → Option Nat} {mX3_words : Nat → Option Nat} {mX3_block : Nat → Option Nat} {mX3_size : Nat → Int64} {mX4_bytes : Nat → Option Nat} {mX4_size : Nat → Int32} {a : Nat} {v : Int32} (hk : kd a = 1) : va_up (cCN ci d kd an ai al ar mX1_graph mX1_kept mX1_keptCount mX1_digest mX1_hashed mX1_rounds mX1_hashes mX1_next mX1_descriptions mX1_order mX1_begins mX1_groups mX1_numbers mX1_best mX1_row mX1_leastRow mX1_found mX1_many mX1_namedBlanks mX1_formCount mX1_given mX1_form mX1_octets mX1_ways mX1_wanted mX1_taken mX2_blanks mX2_count mX2_keys mX3_words mX3_block mX3_size mX4_bytes mX4_size) a (.inr (ci 0, [va_rf (mX1_graph a), va_rf (mX1_kept a), .int v, va_rf (mX1_digest a), .int (mX1_hashed a), .int (mX1_rounds a), va_rf (mX1_hashes a), va_rf (mX1_next a), va_rf (mX1_descriptions a), va_rf (mX1_order a), va_rf (mX1_begins a), .int (mX1_groups a), va_rf (mX1_numbers a), va_rf (mX1_best a), va_rf (mX1_row a), va_rf (mX1_leastRow a), .int (mX1_found a), .int (mX1_many a), .int (mX1_namedBlanks a), .int (mX1_formCount a), va_rf (mX1_given a), va_rf (mX1_form a), va_rf (mX1_octets a), .int (mX1_ways a), .int (mX1_wanted a), .int (mX1_taken a)])) = (cCN ci d kd an ai al ar mX1_graph mX1_kept (va_up mX1_keptCount a v) mX1_digest mX1_hashed mX1_rounds mX1_hashes mX1_next mX1_descriptions mX1_order mX1_begins mX1_groups mX1_numbers mX1_best mX1_row mX1_leastRow mX1_found mX1_many mX1_namedBlanks mX1_formCount mX1_given mX1_form mX1_octets mX1_ways mX1_wanted mX1_taken mX2_blanks mX2_count mX2_keys mX3_words mX3_block mX3_size mX4_bytes mX4_size) := by
  funext b
  by_cases h : b = a
  · subst h
    rw [va_up_self]
    unfold cCN
    rw [hk]
    simp only [va_up_self]
  · rw [va_up_ne _ _ h]
    unfold cCN
    simp only [va_up_ne _ _ h]
theorem cCN_1_3 {ci : Nat → Nat} {d : Nat → ClassId} {kd : Nat → Nat} {an : Nat → Nat} {ai : Nat → Nat → Int32} {al : Nat → Nat → Int64} {ar : Nat → Nat → Option Nat} {mX1_graph : Nat → Option Nat} {mX1_kept : Nat → Option Nat} {mX1_keptCount : Nat → Int32} {mX1_digest : Nat → Option Nat} {mX1_hashed : Nat → Int32} {mX1_rounds : Nat → Int32} {mX1_hashes : Nat → Option Nat} {mX1_next : Nat → Option Nat} {mX1_descriptions : Nat → Option Nat} {mX1_order : Nat → Option Nat} {mX1_begins : Nat → Option Nat} {mX1_groups : Nat → Int32} {mX1_numbers : Nat → Option Nat} {mX1_best : Nat → Option Nat} {mX1_row : Nat → Option Nat} {mX1_leastRow : Nat → Option Nat} {mX1_found : Nat → Int32} {mX1_many : Nat → Int32} {mX1_namedBlanks : Nat → Int32} {mX1_formCount : Nat → Int32} {mX1_given : Nat → Option Nat} {mX1_form : Nat → Option Nat} {mX1_octets : Nat → Option Nat} {mX1_ways : Nat → Int32} {mX1_wanted : Nat → Int32} {mX1_taken : Nat → Int32} {mX2_blanks : Nat → Int32} {mX2_count : Nat → Int32} {mX2_keys : Nat → Option Nat} {mX3_words : Nat → Option Nat} {mX3_block : Nat → Option Nat} {mX3_size : Nat → Int64} {mX4_bytes : Nat → Option Nat} {mX4_size : Nat → Int32} {a : Nat} {v : Option Nat} (hk : kd a = 1) : va_up (cCN ci d kd an ai al ar mX1_graph mX1_kept mX1_keptCount mX1_digest mX1_hashed mX1_rounds mX1_hashes mX1_next mX1_descriptions mX1_order mX1_begins mX1_groups mX1_numbers mX1_best mX1_row mX1_leastRow mX1_found mX1_many mX1_namedBlanks mX1_formCount mX1_given mX1_form mX1_octets mX1_ways mX1_wanted mX1_taken mX2_blanks mX2_count mX2_keys mX3_words mX3_block mX3_size mX4_bytes mX4_size) a (.inr (ci 0, [va_rf (mX1_graph a), va_rf (mX1_kept a), .int (mX1_keptCount a), va_rf v, .int (mX1_hashed a), .int (mX1_rounds a), va_rf (mX1_hashes a), va_rf (mX1_next a), va_rf (mX1_descriptions a), va_rf (mX1_order a), va_rf (mX1_begins a), .int (mX1_groups a), va_rf (mX1_numbers a), va_rf (mX1_best a), va_rf (mX1_row a), va_rf (mX1_leastRow a), .int (mX1_found a), .int (mX1_many a), .int (mX1_namedBlanks a), .int (mX1_formCount a), va_rf (mX1_given a), va_rf (mX1_form a), va_rf (mX1_octets a), .int (mX1_ways a), .int (mX1_wanted a), .int (mX1_taken a)])) = (cCN ci d kd an ai al ar mX1_graph mX1_kept mX1_keptCount (va_up mX1_digest a v) mX1_hashed mX1_rounds mX1_hashes mX1_next mX1_descriptions mX1_order mX1_begins mX1_groups mX1_numbers mX1_best mX1_row mX1_leastRow mX1_found mX1_many mX1_namedBlanks mX1_formCount mX1_given mX1_form mX1_octets mX1_ways mX1_wanted mX1_taken mX2_blanks mX2_count mX2_keys mX3_words mX3_block mX3_size mX4_bytes mX4_size) := by
  funext b
  by_cases h : b = a
  · subst h
    rw [va_up_self]
    unfold cCN
    rw [hk]
    simp only [va_up_self]
  · rw [va_up_ne _ _ h]
    unfold cCN
    simp only [va_up_ne _ _ h]
theorem cCN_1_4 {ci : Nat → Nat} {d : Nat → ClassId} {kd : Nat → Nat} {an : Nat → Nat} {ai : Nat → Nat → Int32} {al : Nat → Nat → Int64} {ar : Nat → Nat → Option Nat} {mX1_graph : Nat → Option Nat} {mX1_kept : Nat → Option Nat} {mX1_keptCount : Nat → Int32} {mX1_digest : Nat → Option Nat} {mX1_hashed : Nat → Int32} {mX1_rounds : Nat → Int32} {mX1_hashes : Nat → Option Nat} {mX1_next : Nat → Option Nat} {mX1_descriptions : Nat → Option Nat} {mX1_order : Nat → Option Nat} {mX1_begins : Nat → Option Nat} {mX1_groups : Nat → Int32} {mX1_numbers : Nat → Option Nat} {mX1_best : Nat → Option Nat} {mX1_row : Nat → Option Nat} {mX1_leastRow : Nat → Option Nat} {mX1_found : Nat → Int32} {mX1_many : Nat → Int32} {mX1_namedBlanks : Nat → Int32} {mX1_formCount : Nat → Int32} {mX1_given : Nat → Option Nat} {mX1_form : Nat → Option Nat} {mX1_octets : Nat → Option Nat} {mX1_ways : Nat → Int32} {mX1_wanted : Nat → Int32} {mX1_taken : Nat → Int32} {mX2_blanks : Nat → Int32} {mX2_count : Nat → Int32} {mX2_keys : Nat → Option Nat} {mX3_words : Nat → Option Nat} {mX3_block : Nat → Option Nat} {mX3_size : Nat → Int64} {mX4_bytes : Nat → Option Nat} {mX4_size : Nat → Int32} {a : Nat} {v : Int32} (hk : kd a = 1) : va_up (cCN ci d kd an ai al ar mX1_graph mX1_kept mX1_keptCount mX1_digest mX1_hashed mX1_rounds mX1_hashes mX1_next mX1_descriptions mX1_order mX1_begins mX1_groups mX1_numbers mX1_best mX1_row mX1_leastRow mX1_found mX1_many mX1_namedBlanks mX1_formCount mX1_given mX1_form mX1_octets mX1_ways mX1_wanted mX1_taken mX2_blanks mX2_count mX2_keys mX3_words mX3_block mX3_size mX4_bytes mX4_size) a (.inr (ci 0, [va_rf (mX1_graph a), va_rf (mX1_kept a), .int (mX1_keptCount a), va_rf (mX1_digest a), .int v, .int (mX1_rounds a), va_rf (mX1_hashes a), va_rf (mX1_next a), va_rf (mX1_descriptions a), va_rf (mX1_order a), va_rf (mX1_begins a), .int (mX1_groups a), va_rf (mX1_numbers a), va_rf (mX1_best a), va_rf (mX1_row a), va_rf (mX1_leastRow a), .int (mX1_found a), .int (mX1_many a), .int (mX1_namedBlanks a), .int (mX1_formCount a), va_rf (mX1_given a), va_rf (mX1_form a), va_rf (mX1_octets a), .int (mX1_ways a), .int (mX1_wanted a), .int (mX1_taken a)])) = (cCN ci d kd an ai al ar mX1_graph mX1_kept mX1_keptCount mX1_digest (va_up mX1_hashed a v) mX1_rounds mX1_hashes mX1_next mX1_descriptions mX1_order mX1_begins mX1_groups mX1_numbers mX1_best mX1_row mX1_leastRow mX1_found mX1_many mX1_namedBlanks mX1_formCount mX1_given mX1_form mX1_octets mX1_ways mX1_wanted mX1_taken mX2_blanks mX2_count mX2_keys mX3_words mX3_block mX3_size mX4_bytes mX4_size) := by
  funext b
  by_cases h : b = a
  · subst h
    rw [va_up_self]
    unfold cCN
    rw [hk]
    simp only [va_up_self]
  · rw [va_up_ne _ _ h]
    unfold cCN
    simp only [va_up_ne _ _ h]
theorem cCN_1_5 {ci : Nat → Nat} {d : Nat → ClassId} {kd : Nat → Nat} {an : Nat → Nat} {ai : Nat → Nat → Int32} {al : Nat → Nat → Int64} {ar : Nat → Nat → Option Nat} {mX1_graph : Nat → Option Nat} {mX1_kept : Nat → Option Nat} {mX1_keptCount : Nat → Int32} {mX1_digest : Nat → Option Nat} {mX1_hashed : Nat → Int32} {mX1_rounds : Nat → Int32} {mX1_hashes : Nat → Option Nat} {mX1_next : Nat → Option Nat} {mX1_descriptions : Nat → Option Nat} {mX1_order : Nat → Option Nat} {mX1_begins : Nat → Option Nat} {mX1_groups : Nat → Int32} {mX1_numbers : Nat → Option Nat} {mX1_best : Nat → Option Nat} {mX1_row : Nat → Option Nat} {mX1_leastRow : Nat → Option Nat} {mX1_found : Nat → Int32} {mX1_many : Nat → Int32} {mX1_namedBlanks : Nat → Int32} {mX1_formCount : Nat → Int32} {mX1_given : Nat → Option Nat} {mX1_form : Nat → Option Nat} {mX1_octets : Nat → Option Nat} {mX1_ways : Nat → Int32} {mX1_wanted : Nat → Int32} {mX1_taken : Nat → Int32} {mX2_blanks : Nat → Int32} {mX2_count : Nat → Int32} {mX2_keys : Nat → Option Nat} {mX3_words : Nat → Option Nat} {mX3_block : Nat → Option Nat} {mX3_size : Nat → Int64} {mX4_bytes : Nat → Option Nat} {mX4_size : Nat → Int32} {a : Nat} {v : Int32} (hk : kd a = 1) : va_up (cCN ci d kd an ai al ar mX1_graph mX1_kept mX1_keptCount mX1_digest mX1_hashed mX1_rounds mX1_hashes mX1_next mX1_descriptions mX1_order mX1_begins mX1_groups mX1_numbers mX1_best mX1_row mX1_leastRow mX1_found mX1_many mX1_namedBlanks mX1_formCount mX1_given mX1_form mX1_octets mX1_ways mX1_wanted mX1_taken mX2_blanks mX2_count mX2_keys mX3_words mX3_block mX3_size mX4_bytes mX4_size) a (.inr (ci 0, [va_rf (mX1_graph a), va_rf (mX1_kept a), .int (mX1_keptCount a), va_rf (mX1_digest a), .int (mX1_hashed a), .int v, va_rf (mX1_hashes a), va_rf (mX1_next a), va_rf (mX1_descriptions a), va_rf (mX1_order a), va_rf (mX1_begins a), .int (mX1_groups a), va_rf (mX1_numbers a), va_rf (mX1_best a), va_rf (mX1_row a), va_rf (mX1_leastRow a), .int (mX1_found a), .int (mX1_many a), .int (mX1_namedBlanks a), .int (mX1_formCount a), va_rf (mX1_given a), va_rf (mX1_form a), va_rf (mX1_octets a), .int (mX1_ways a), .int (mX1_wanted a), .int (mX1_taken a)])) = (cCN ci d kd an ai al ar mX1_graph mX1_kept mX1_keptCount mX1_digest mX1_hashed (va_up mX1_rounds a v) mX1_hashes mX1_next mX1_descriptions mX1_order mX1_begins mX1_groups mX1_numbers mX1_best mX1_row mX1_leastRow mX1_found mX1_many mX1_namedBlanks mX1_formCount mX1_given mX1_form mX1_octets mX1_ways mX1_wanted mX1_taken mX2_blanks mX2_count mX2_keys mX3_words mX3_block mX3_size mX4_bytes mX4_size) := by
  funext b
  by_cases h : b = a
  · subst h
    rw [va_up_self]
    unfold cCN
    rw [hk]
    simp only [va_up_self]
  · rw [va_up_ne _ _ h]
    unfold cCN
    simp only [va_up_ne _ _ h]
theorem cCN_1_6 {ci : Nat → Nat} {d : Nat → ClassId} {kd : Nat → Nat} {an : Nat → Nat} {ai : Nat → Nat → Int32} {al : Nat → Nat → Int64} {ar : Nat → Nat → Option Nat} {mX1_graph : Nat → Option Nat} {mX1_kept : Nat → Option Nat} {mX1_keptCount : Nat → Int32} {mX1_digest : Nat → Option Nat} {mX1_hashed : Nat → Int32} {mX1_rounds : Nat → Int32} {mX1_hashes : Nat → Option Nat} {mX1_next : Nat → Option Nat} {mX1_descriptions : Nat → Option Nat} {mX1_order : Nat → Option Nat} {mX1_begins : Nat → Option Nat} {mX1_groups : Nat → Int32} {mX1_numbers : Nat → Option Nat} {mX1_best : Nat → Option Nat} {mX1_row : Nat → Option Nat} {mX1_leastRow : Nat → Option Nat} {mX1_found : Nat → Int32} {mX1_many : Nat → Int32} {mX1_namedBlanks : Nat → Int32} {mX1_formCount : Nat → Int32} {mX1_given : Nat → Option Nat} {mX1_form : Nat → Option Nat} {mX1_octets : Nat → Option Nat} {mX1_ways : Nat → Int32} {mX1_wanted : Nat → Int32} {mX1_taken : Nat → Int32} {mX2_blanks : Nat → Int32} {mX2_count : Nat → Int32} {mX2_keys : Nat → Option Nat} {mX3_words : Nat → Option Nat} {mX3_block : Nat → Option Nat} {mX3_size : Nat → Int64} {mX4_bytes : Nat → Option Nat} {mX4_size : Nat → Int32} {a : Nat} {v : Option Nat} (hk : kd a = 1) : va_up (cCN ci d kd an ai al ar mX1_graph mX1_kept mX1_keptCount mX1_digest mX1_hashed mX1_rounds mX1_hashes mX1_next mX1_descriptions mX1_order mX1_begins mX1_groups mX1_numbers mX1_best mX1_row mX1_leastRow mX1_found mX1_many mX1_namedBlanks mX1_formCount mX1_given mX1_form mX1_octets mX1_ways mX1_wanted mX1_taken mX2_blanks mX2_count mX2_keys mX3_words mX3_block mX3_size mX4_bytes mX4_size) a (.inr (ci 0, [va_rf (mX1_graph a), va_rf (mX1_kept a), .int (mX1_keptCount a), va_rf (mX1_digest a), .int (mX1_hashed a), .int (mX1_rounds a), va_rf v, va_rf (mX1_next a), va_rf (mX1_descriptions a), va_rf (mX1_order a), va_rf (mX1_begins a), .int (mX1_groups a), va_rf (mX1_numbers a), va_rf (mX1_best a), va_rf (mX1_row a), va_rf (mX1_leastRow a), .int (mX1_found a), .int (mX1_many a), .int (mX1_namedBlanks a), .int (mX1_formCount a), va_rf (mX1_given a), va_rf (mX1_form a), va_rf (mX1_octets a), .int (mX1_ways a), .int (mX1_wanted a), .int (mX1_taken a)])) = (cCN ci d kd an ai al ar mX1_graph mX1_kept mX1_keptCount mX1_digest mX1_hashed mX1_rounds (va_up mX1_hashes a v) mX1_next mX1_descriptions mX1_order mX1_begins mX1_groups mX1_numbers mX1_best mX1_row mX1_leastRow mX1_found mX1_many mX1_namedBlanks mX1_formCount mX1_given mX1_form mX1_octets mX1_ways mX1_wanted mX1_taken mX2_blanks mX2_count mX2_keys mX3_words mX3_block mX3_size mX4_bytes mX4_size) := by
  funext b
  by_cases h : b = a
  · subst h
    rw [va_up_self]
    unfold cCN
    rw [hk]
    simp only [va_up_self]
  · rw [va_up_ne _ _ h]
    unfold cCN
    simp only [va_up_ne _ _ h]
theorem cCN_1_7 {ci : Nat → Nat} {d : Nat → ClassId} {kd : Nat → Nat} {an : Nat → Nat} {ai : Nat → Nat → Int32} {al : Nat → Nat → Int64} {ar : Nat → Nat → Option Nat} {mX1_graph : Nat → Option Nat} {mX1_kept : Nat → Option Nat} {mX1_keptCount : Nat → Int32} {mX1_digest : Nat → Option Nat} {mX1_hashed : Nat → Int32} {mX1_rounds : Nat → Int32} {mX1_hashes : Nat → Option Nat} {mX1_next : Nat → Option Nat} {mX1_descriptions : Nat → Option Nat} {mX1_order : Nat → Option Nat} {mX1_begins : Nat → Option Nat} {mX1_groups : Nat → Int32} {mX1_numbers : Nat → Option Nat} {mX1_best : Nat → Option Nat} {mX1_row : Nat → Option Nat} {mX1_leastRow : Nat → Option Nat} {mX1_found : Nat → Int32} {mX1_many : Nat → Int32} {mX1_namedBlanks : Nat → Int32} {mX1_formCount : Nat → Int32} {mX1_given : Nat → Option Nat} {mX1_form : Nat → Option Nat} {mX1_octets : Nat → Option Nat} {mX1_ways : Nat → Int32} {mX1_wanted : Nat → Int32} {mX1_taken : Nat → Int32} {mX2_blanks : Nat → Int32} {mX2_count : Nat → Int32} {mX2_keys : Nat → Option Nat} {mX3_words : Nat → Option Nat} {mX3_block : Nat → Option Nat} {mX3_size : Nat → Int64} {mX4_bytes : Nat → Option Nat} {mX4_size : Nat → Int32} {a : Nat} {v : Option Nat} (hk : kd a = 1) : va_up (cCN ci d kd an ai al ar mX1_graph mX1_kept mX1_keptCount mX1_digest mX1_hashed mX1_rounds mX1_hashes mX1_next mX1_descriptions mX1_order mX1_begins mX1_groups mX1_numbers mX1_best mX1_row mX1_leastRow mX1_found mX1_many mX1_namedBlanks mX1_formCount mX1_given mX1_form mX1_octets mX1_ways mX1_wanted mX1_taken mX2_blanks mX2_count mX2_keys mX3_words mX3_block mX3_size mX4_bytes mX4_size) a (.inr (ci 0, [va_rf (mX1_graph a), va_rf (mX1_kept a), .int (mX1_keptCount a), va_rf (mX1_digest a), .int (mX1_hashed a), .int (mX1_rounds a), va_rf (mX1_hashes a), va_rf v, va_rf (mX1_descriptions a), va_rf (mX1_order a), va_rf (mX1_begins a), .int (mX1_groups a), va_rf (mX1_numbers a), va_rf (mX1_best a), va_rf (mX1_row a), va_rf (mX1_leastRow a), .int (mX1_found a), .int (mX1_many a), .int (mX1_namedBlanks a), .int (mX1_formCount a), va_rf (mX1_given a), va_rf (mX1_form a), va_rf (mX1_octets a), .int (mX1_ways a), .int (mX1_wanted a), .int (mX1_taken a)])) = (cCN ci d kd an ai al ar mX1_graph mX1_kept mX1_keptCount mX1_digest mX1_hashed mX1_rounds mX1_hashes (va_up mX1_next a v) mX1_descriptions mX1_order mX1_begins mX1_groups mX1_numbers mX1_best mX1_row mX1_leastRow mX1_found mX1_many mX1_namedBlanks mX1_formCount mX1_given mX1_form mX1_octets mX1_ways mX1_wanted mX1_taken mX2_blanks mX2_count mX2_keys mX3_words mX3_block mX3_size mX4_bytes mX4_size) := by
  funext b
  by_cases h : b = a
  · subst h
    rw [va_up_self]
    unfold cCN
    rw [hk]
    simp only [va_up_self]
  · rw [va_up_ne _ _ h]
    unfold cCN
    simp only [va_up_ne _ _ h]
theorem cCN_1_8 {ci : Nat → Nat} {d : Nat → ClassId} {kd : Nat → Nat} {an : Nat → Nat} {ai : Nat → Nat → Int32} {al : Nat → Nat → Int64} {ar : Nat → Nat → Option Nat} {mX1_graph : Nat → Option Nat} {mX1_kept : Nat → Option Nat} {mX1_keptCount : Nat → Int32} {mX1_digest : Nat → Option Nat} {mX1_hashed : Nat → Int32} {mX1_rounds : Nat → Int32} {mX1_hashes : Nat → Option Nat} {mX1_next : Nat → Option Nat} {mX1_descriptions : Nat → Option Nat} {mX1_order : Nat → Option Nat} {mX1_begins : Nat → Option Nat} {mX1_groups : Nat → Int32} {mX1_numbers : Nat → Option Nat} {mX1_best : Nat → Option Nat} {mX1_row : Nat → Option Nat} {mX1_leastRow : Nat → Option Nat} {mX1_found : Nat → Int32} {mX1_many : Nat → Int32} {mX1_namedBlanks : Nat → Int32} {mX1_formCount : Nat → Int32} {mX1_given : Nat → Option Nat} {mX1_form : Nat → Option Nat} {mX1_octets : Nat → Option Nat} {mX1_ways : Nat → Int32} {mX1_wanted : Nat → Int32} {mX1_taken : Nat → Int32} {mX2_blanks : Nat → Int32} {mX2_count : Nat → Int32} {mX2_keys : Nat → Option Nat} {mX3_words : Nat → Option Nat} {mX3_block : Nat → Option Nat} {mX3_size : Nat → Int64} {mX4_bytes : Nat → Option Nat} {mX4_size : Nat → Int32} {a : Nat} {v : Option Nat} (hk : kd a = 1) : va_up (cCN ci d kd an ai al ar mX1_graph mX1_kept mX1_keptCount mX1_digest mX1_hashed mX1_rounds mX1_hashes mX1_next mX1_descriptions mX1_order mX1_begins mX1_groups mX1_numbers mX1_best mX1_row mX1_leastRow mX1_found mX1_many mX1_namedBlanks mX1_formCount mX1_given mX1_form mX1_octets mX1_ways mX1_wanted mX1_taken mX2_blanks mX2_count mX2_keys mX3_words mX3_block mX3_size mX4_bytes mX4_size) a (.inr (ci 0, [va_rf (mX1_graph a), va_rf (mX1_kept a), .int (mX1_keptCount a), va_rf (mX1_digest a), .int (mX1_hashed a), .int (mX1_rounds a), va_rf (mX1_hashes a), va_rf (mX1_next a), va_rf v, va_rf (mX1_order a), va_rf (mX1_begins a), .int (mX1_groups a), va_rf (mX1_numbers a), va_rf (mX1_best a), va_rf (mX1_row a), va_rf (mX1_leastRow a), .int (mX1_found a), .int (mX1_many a), .int (mX1_namedBlanks a), .int (mX1_formCount a), va_rf (mX1_given a), va_rf (mX1_form a), va_rf (mX1_octets a), .int (mX1_ways a), .int (mX1_wanted a), .int (mX1_taken a)])) = (cCN ci d kd an ai al ar mX1_graph mX1_kept mX1_keptCount mX1_digest mX1_hashed mX1_rounds mX1_hashes mX1_next (va_up mX1_descriptions a v) mX1_order mX1_begins mX1_groups mX1_numbers mX1_best mX1_row mX1_leastRow mX1_found mX1_many mX1_namedBlanks mX1_formCount mX1_given mX1_form mX1_octets mX1_ways mX1_wanted mX1_taken mX2_blanks mX2_count mX2_keys mX3_words mX3_block mX3_size mX4_bytes mX4_size) := by
  funext b
  by_cases h : b = a
  · subst h
    rw [va_up_self]
    unfold cCN
    rw [hk]
    simp only [va_up_self]
  · rw [va_up_ne _ _ h]
    unfold cCN
    simp only [va_up_ne _ _ h]
theorem cCN_1_9 {ci : Nat → Nat} {d : Nat → ClassId} {kd : Nat → Nat} {an : Nat → Nat} {ai : Nat → Nat → Int32} {al : Nat → Nat → Int64} {ar : Nat → Nat → Option Nat} {mX1_graph : Nat → Option Nat} {mX1_kept : Nat → Option Nat} {mX1_keptCount : Nat → Int32} {mX1_digest : Nat → Option Nat} {mX1_hashed : Nat → Int32} {mX1_rounds : Nat → Int32} {mX1_hashes : Nat → Option Nat} {mX1_next : Nat → Option Nat} {mX1_descriptions : Nat → Option Nat} {mX1_order : Nat → Option Nat} {mX1_begins : Nat → Option Nat} {mX1_groups : Nat → Int32} {mX1_numbers : Nat → Option Nat} {mX1_best : Nat → Option Nat} {mX1_row : Nat → Option Nat} {mX1_leastRow : Nat → Option Nat} {mX1_found : Nat → Int32} {mX1_many : Nat → Int32} {mX1_namedBlanks : Nat → Int32} {mX1_formCount : Nat → Int32} {mX1_given : Nat → Option Nat} {mX1_form : Nat → Option Nat} {mX1_octets : Nat → Option Nat} {mX1_ways : Nat → Int32} {mX1_wanted : Nat → Int32} {mX1_taken : Nat → Int32} {mX2_blanks : Nat → Int32} {mX2_count : Nat → Int32} {mX2_keys : Nat → Option Nat} {mX3_words : Nat → Option Nat} {mX3_block : Nat → Option Nat} {mX3_size : Nat → Int64} {mX4_bytes : Nat → Option Nat} {mX4_size : Nat → Int32} {a : Nat} {v : Option Nat} (hk : kd a = 1) : va_up (cCN ci d kd an ai al ar mX1_graph mX1_kept mX1_keptCount mX1_digest mX1_hashed mX1_rounds mX1_hashes mX1_next mX1_descriptions mX1_order mX1_begins mX1_groups mX1_numbers mX1_best mX1_row mX1_leastRow mX1_found mX1_many mX1_namedBlanks mX1_formCount mX1_given mX1_form mX1_octets mX1_ways mX1_wanted mX1_taken mX2_blanks mX2_count mX2_keys mX3_words mX3_block mX3_size mX4_bytes mX4_size) a (.inr (ci 0, [va_rf (mX1_graph a), va_rf (mX1_kept a), .int (mX1_keptCount a), va_rf (mX1_digest a), .int (mX1_hashed a), .int (mX1_rounds a), va_rf (mX1_hashes a), va_rf (mX1_next a), va_rf (mX1_descriptions a), va_rf v, va_rf (mX1_begins a), .int (mX1_groups a), va_rf (mX1_numbers a), va_rf (mX1_best a), va_rf (mX1_row a), va_rf (mX1_leastRow a), .int (mX1_found a), .int (mX1_many a), .int (mX1_namedBlanks a), .int (mX1_formCount a), va_rf (mX1_given a), va_rf (mX1_form a), va_rf (mX1_octets a), .int (mX1_ways a), .int (mX1_wanted a), .int (mX1_taken a)])) = (cCN ci d kd an ai al ar mX1_graph mX1_kept mX1_keptCount mX1_digest mX1_hashed mX1_rounds mX1_hashes mX1_next mX1_descriptions (va_up mX1_order a v) mX1_begins mX1_groups mX1_numbers mX1_best mX1_row mX1_leastRow mX1_found mX1_many mX1_namedBlanks mX1_formCount mX1_given mX1_form mX1_octets mX1_ways mX1_wanted mX1_taken mX2_blanks mX2_count mX2_keys mX3_words mX3_block mX3_size mX4_bytes mX4_size) := by
  funext b
  by_cases h : b = a
  · subst h
    rw [va_up_self]
    unfold cCN
    rw [hk]
    simp only [va_up_self]
  · rw [va_up_ne _ _ h]
    unfold cCN
    simp only [va_up_ne _ _ h]
theorem cCN_1_10 {ci : Nat → Nat} {d : Nat → ClassId} {kd : Nat → Nat} {an : Nat → Nat} {ai : Nat → Nat → Int32} {al : Nat → Nat → Int64} {ar : Nat → Nat → Option Nat} {mX1_graph : Nat → Option Nat} {mX1_kept : Nat → Option Nat} {mX1_keptCount : Nat → Int32} {mX1_digest : Nat → Option Nat} {mX1_hashed : Nat → Int32} {mX1_rounds : Nat → Int32} {mX1_hashes : Nat → Option Nat} {mX1_next : Nat → Option Nat} {mX1_descriptions : Nat → Option Nat} {mX1_order : Nat → Option Nat} {mX1_begins : Nat → Option Nat} {mX1_groups : Nat → Int32} {mX1_numbers : Nat → Option Nat} {mX1_best : Nat → Option Nat} {mX1_row : Nat → Option Nat} {mX1_leastRow : Nat → Option Nat} {mX1_found : Nat → Int32} {mX1_many : Nat → Int32} {mX1_namedBlanks : Nat → Int32} {mX1_formCount : Nat → Int32} {mX1_given : Nat → Option Nat} {mX1_form : Nat → Option Nat} {mX1_octets : Nat → Option Nat} {mX1_ways : Nat → Int32} {mX1_wanted : Nat → Int32} {mX1_taken : Nat → Int32} {mX2_blanks : Nat → Int32} {mX2_count : Nat → Int32} {mX2_keys : Nat → Option Nat} {mX3_words : Nat → Option Nat} {mX3_block : Nat → Option Nat} {mX3_size : Nat → Int64} {mX4_bytes : Nat → Option Nat} {mX4_size : Nat → Int32} {a : Nat} {v : Option Nat} (hk : kd a = 1) : va_up (cCN ci d kd an ai al ar mX1_graph mX1_kept mX1_keptCount mX1_digest mX1_hashed mX1_rounds mX1_hashes mX1_next mX1_descriptions mX1_order mX1_begins mX1_groups mX1_numbers mX1_best mX1_row mX1_leastRow mX1_found mX1_many mX1_namedBlanks mX1_formCount mX1_given mX1_form mX1_octets mX1_ways mX1_wanted mX1_taken mX2_blanks mX2_count mX2_keys mX3_words mX3_block mX3_size mX4_bytes mX4_size) a (.inr (ci 0, [va_rf (mX1_graph a), va_rf (mX1_kept a), .int (mX1_keptCount a), va_rf (mX1_digest a), .int (mX1_hashed a), .int (mX1_rounds a), va_rf (mX1_hashes a), va_rf (mX1_next a), va_rf (mX1_descriptions a), va_rf (mX1_order a), va_rf v, .int (mX1_groups a), va_rf (mX1_numbers a), va_rf (mX1_best a), va_rf (mX1_row a), va_rf (mX1_leastRow a), .int (mX1_found a), .int (mX1_many a), .int (mX1_namedBlanks a), .int (mX1_formCount a), va_rf (mX1_given a), va_rf (mX1_form a), va_rf (mX1_octets a), .int (mX1_ways a), .int (mX1_wanted a), .int (mX1_taken a)])) = (cCN ci d kd an ai al ar mX1_graph mX1_kept mX1_keptCount mX1_digest mX1_hashed mX1_rounds mX1_hashes mX1_next mX1_descriptions mX1_order (va_up mX1_begins a v) mX1_groups mX1_numbers mX1_best mX1_row mX1_leastRow mX1_found mX1_many mX1_namedBlanks mX1_formCount mX1_given mX1_form mX1_octets mX1_ways mX1_wanted mX1_taken mX2_blanks mX2_count mX2_keys mX3_words mX3_block mX3_size mX4_bytes mX4_size) := by
  funext b
  by_cases h : b = a
  · subst h
    rw [va_up_self]
    unfold cCN
    rw [hk]
    simp only [va_up_self]
  · rw [va_up_ne _ _ h]
    unfold cCN
    simp only [va_up_ne _ _ h]
theorem cCN_1_11 {ci : Nat → Nat} {d : Nat → ClassId} {kd : Nat → Nat} {an : Nat → Nat} {ai : Nat → Nat → Int32} {al : Nat → Nat → Int64} {ar : Nat → Nat → Option Nat} {mX1_graph : Nat → Option Nat} {mX1_kept : Nat → Option Nat} {mX1_keptCount : Nat → Int32} {mX1_digest : Nat → Option Nat} {mX1_hashed : Nat → Int32} {mX1_rounds : Nat → Int32} {mX1_hashes : Nat → Option Nat} {mX1_next : Nat → Option Nat} {mX1_descriptions : Nat → Option Nat} {mX1_order : Nat → Option Nat} {mX1_begins : Nat → Option Nat} {mX1_groups : Nat → Int32} {mX1_numbers : Nat → Option Nat} {mX1_best : Nat → Option Nat} {mX1_row : Nat → Option Nat} {mX1_leastRow : Nat → Option Nat} {mX1_found : Nat → Int32} {mX1_many : Nat → Int32} {mX1_namedBlanks : Nat → Int32} {mX1_formCount : Nat → Int32} {mX1_given : Nat → Option Nat} {mX1_form : Nat → Option Nat} {mX1_octets : Nat → Option Nat} {mX1_ways : Nat → Int32} {mX1_wanted : Nat → Int32} {mX1_taken : Nat → Int32} {mX2_blanks : Nat → Int32} {mX2_count : Nat → Int32} {mX2_keys : Nat → Option Nat} {mX3_words : Nat → Option Nat} {mX3_block : Nat → Option Nat} {mX3_size : Nat → Int64} {mX4_bytes : Nat → Option Nat} {mX4_size : Nat → Int32} {a : Nat} {v : Int32} (hk : kd a = 1) : va_up (cCN ci d kd an ai al ar mX1_graph mX1_kept mX1_keptCount mX1_digest mX1_hashed mX1_rounds mX1_hashes mX1_next mX1_descriptions mX1_order mX1_begins mX1_groups mX1_numbers mX1_best mX1_row mX1_leastRow mX1_found mX1_many mX1_namedBlanks mX1_formCount mX1_given mX1_form mX1_octets mX1_ways mX1_wanted mX1_taken mX2_blanks mX2_count mX2_keys mX3_words mX3_block mX3_size mX4_bytes mX4_size) a (.inr (ci 0, [va_rf (mX1_graph a), va_rf (mX1_kept a), .int (mX1_keptCount a), va_rf (mX1_digest a), .int (mX1_hashed a), .int (mX1_rounds a), va_rf (mX1_hashes a), va_rf (mX1_next a), va_rf (mX1_descriptions a), va_rf (mX1_order a), va_rf (mX1_begins a), .int v, va_rf (mX1_numbers a), va_rf (mX1_best a), va_rf (mX1_row a), va_rf (mX1_leastRow a), .int (mX1_found a), .int (mX1_many a), .int (mX1_namedBlanks a), .int (mX1_formCount a), va_rf (mX1_given a), va_rf (mX1_form a), va_rf (mX1_octets a), .int (mX1_ways a), .int (mX1_wanted a), .int (mX1_taken a)])) = (cCN ci d kd an ai al ar mX1_graph mX1_kept mX1_keptCount mX1_digest mX1_hashed mX1_rounds mX1_hashes mX1_next mX1_descriptions mX1_order mX1_begins (va_up mX1_groups a v) mX1_numbers mX1_best mX1_row mX1_leastRow mX1_found mX1_many mX1_namedBlanks mX1_formCount mX1_given mX1_form mX1_octets mX1_ways mX1_wanted mX1_taken mX2_blanks mX2_count mX2_keys mX3_words mX3_block mX3_size mX4_bytes mX4_size) := by
  funext b
  by_cases h : b = a
  · subst h
    rw [va_up_self]
    unfold cCN
    rw [hk]
    simp only [va_up_self]
  · rw [va_up_ne _ _ h]
    unfold cCN
    simp only [va_up_ne _ _ h]
theorem cCN_1_12 {ci : Nat → Nat} {d : Nat → ClassId} {kd : Nat → Nat} {an : Nat → Nat} {ai : Nat → Nat → Int32} {al : Nat → Nat → Int64} {ar : Nat → Nat → Option Nat} {mX1_graph : Nat → Option Nat} {mX1_kept : Nat → Option Nat} {mX1_keptCount : Nat → Int32} {mX1_digest : Nat → Option Nat} {mX1_hashed : Nat → Int32} {mX1_rounds : Nat → Int32} {mX1_hashes : Nat → Option Nat} {mX1_next : Nat → Option Nat} {mX1_descriptions : Nat → Option Nat} {mX1_order : Nat → Option Nat} {mX1_begins : Nat → Option Nat} {mX1_groups : Nat → Int32} {mX1_numbers : Nat → Option Nat} {mX1_best : Nat → Option Nat} {mX1_row : Nat → Option Nat} {mX1_leastRow : Nat → Option Nat} {mX1_found : Nat → Int32} {mX1_many : Nat → Int32} {mX1_namedBlanks : Nat → Int32} {mX1_formCount : Nat → Int32} {mX1_given : Nat → Option Nat} {mX1_form : Nat → Option Nat} {mX1_octets : Nat → Option Nat} {mX1_ways : Nat → Int32} {mX1_wanted : Nat → Int32} {mX1_taken : Nat → Int32} {mX2_blanks : Nat → Int32} {mX2_count : Nat → Int32} {mX2_keys : Nat → Option Nat} {mX3_words : Nat → Option Nat} {mX3_block : Nat → Option Nat} {mX3_size : Nat → Int64} {mX4_bytes : Nat → Option Nat} {mX4_size : Nat → Int32} {a : Nat} {v : Option Nat} (hk : kd a = 1) : va_up (cCN ci d kd an ai al ar mX1_graph mX1_kept mX1_keptCount mX1_digest mX1_hashed mX1_rounds mX1_hashes mX1_next mX1_descriptions mX1_order mX1_begins mX1_groups mX1_numbers mX1_best mX1_row mX1_leastRow mX1_found mX1_many mX1_namedBlanks mX1_formCount mX1_given mX1_form mX1_octets mX1_ways mX1_wanted mX1_taken mX2_blanks mX2_count mX2_keys mX3_words mX3_block mX3_size mX4_bytes mX4_size) a (.inr (ci 0, [va_rf (mX1_graph a), va_rf (mX1_kept a), .int (mX1_keptCount a), va_rf (mX1_digest a), .int (mX1_hashed a), .int (mX1_rounds a), va_rf (mX1_hashes a), va_rf (mX1_next a), va_rf (mX1_descriptions a), va_rf (mX1_order a), va_rf (mX1_begins a), .int (mX1_groups a), va_rf v, va_rf (mX1_best a), va_rf (mX1_row a), va_rf (mX1_leastRow a), .int (mX1_found a), .int (mX1_many a), .int (mX1_namedBlanks a), .int (mX1_formCount a), va_rf (mX1_given a), va_rf (mX1_form a), va_rf (mX1_octets a), .int (mX1_ways a), .int (mX1_wanted a), .int (mX1_taken a)])) = (cCN ci d kd an ai al ar mX1_graph mX1_kept mX1_keptCount mX1_digest mX1_hashed mX1_rounds mX1_hashes mX1_next mX1_descriptions mX1_order mX1_begins mX1_groups (va_up mX1_numbers a v) mX1_best mX1_row mX1_leastRow mX1_found mX1_many mX1_namedBlanks mX1_formCount mX1_given mX1_form mX1_octets mX1_ways mX1_wanted mX1_taken mX2_blanks mX2_count mX2_keys mX3_words mX3_block mX3_size mX4_bytes mX4_size) := by
  funext b
  by_cases h : b = a
  · subst h
    rw [va_up_self]
    unfold cCN
    rw [hk]
    simp only [va_up_self]
  · rw [va_up_ne _ _ h]
    unfold cCN
    simp only [va_up_ne _ _ h]
theorem cCN_1_13 {ci : Nat → Nat} {d : Nat → ClassId} {kd : Nat → Nat} {an : Nat → Nat} {ai : Nat → Nat → Int32} {al : Nat → Nat → Int64} {ar : Nat → Nat → Option Nat} {mX1_graph : Nat → Option Nat} {mX1_kept : Nat → Option Nat} {mX1_keptCount : Nat → Int32} {mX1_digest : Nat → Option Nat} {mX1_hashed : Nat → Int32} {mX1_rounds : Nat → Int32} {mX1_hashes : Nat → Option Nat} {mX1_next : Nat → Option Nat} {mX1_descriptions : Nat → Option Nat} {mX1_order : Nat → Option Nat} {mX1_begins : Nat → Option Nat} {mX1_groups : Nat → Int32} {mX1_numbers : Nat → Option Nat} {mX1_best : Nat → Option Nat} {mX1_row : Nat → Option Nat} {mX1_leastRow : Nat → Option Nat} {mX1_found : Nat → Int32} {mX1_many : Nat → Int32} {mX1_namedBlanks : Nat → Int32} {mX1_formCount : Nat → Int32} {mX1_given : Nat → Option Nat} {mX1_form : Nat → Option Nat} {mX1_octets : Nat → Option Nat} {mX1_ways : Nat → Int32} {mX1_wanted : Nat → Int32} {mX1_taken : Nat → Int32} {mX2_blanks : Nat → Int32} {mX2_count : Nat → Int32} {mX2_keys : Nat → Option Nat} {mX3_words : Nat → Option Nat} {mX3_block : Nat → Option Nat} {mX3_size : Nat → Int64} {mX4_bytes : Nat → Option Nat} {mX4_size : Nat → Int32} {a : Nat} {v : Option Nat} (hk : kd a = 1) : va_up (cCN ci d kd an ai al ar mX1_graph mX1_kept mX1_keptCount mX1_digest mX1_hashed mX1_rounds mX1_hashes mX1_next mX1_descriptions mX1_order mX1_begins mX1_groups mX1_numbers mX1_best mX1_row mX1_leastRow mX1_found mX1_many mX1_namedBlanks mX1_formCount mX1_given mX1_form mX1_octets mX1_ways mX1_wanted mX1_taken mX2_blanks mX2_count mX2_keys mX3_words mX3_block mX3_size mX4_bytes mX4_size) a (.inr (ci 0, [va_rf (mX1_graph a), va_rf (mX1_kept a), .int (mX1_keptCount a), va_rf (mX1_digest a), .int (mX1_hashed a), .int (mX1_rounds a), va_rf (mX1_hashes a), va_rf (mX1_next a), va_rf (mX1_descriptions a), va_rf (mX1_order a), va_rf (mX1_begins a), .int (mX1_groups a), va_rf (mX1_numbers a), va_rf v, va_rf (mX1_row a), va_rf (mX1_leastRow a), .int (mX1_found a), .int (mX1_many a), .int (mX1_namedBlanks a), .int (mX1_formCount a), va_rf (mX1_given a), va_rf (mX1_form a), va_rf (mX1_octets a), .int (mX1_ways a), .int (mX1_wanted a), .int (mX1_taken a)])) = (cCN ci d kd an ai al ar mX1_graph mX1_kept mX1_keptCount mX1_digest mX1_hashed mX1_rounds mX1_hashes mX1_next mX1_descriptions mX1_order mX1_begins mX1_groups mX1_numbers (va_up mX1_best a v) mX1_row mX1_leastRow mX1_found mX1_many mX1_namedBlanks mX1_formCount mX1_given mX1_form mX1_octets mX1_ways mX1_wanted mX1_taken mX2_blanks mX2_count mX2_keys mX3_words mX3_block mX3_size mX4_bytes mX4_size) := by
  funext b
  by_cases h : b = a
  · subst h
    rw [va_up_self]
    unfold cCN
    rw [hk]
    simp only [va_up_self]
  · rw [va_up_ne _ _ h]
    unfold cCN
    simp only [va_up_ne _ _ h]
theorem cCN_1_14 {ci : Nat → Nat} {d : Nat → ClassId} {kd : Nat → Nat} {an : Nat → Nat} {ai : Nat → Nat → Int32} {al : Nat → Nat → Int64} {ar : Nat → Nat → Option Nat} {mX1_graph : Nat → Option Nat} {mX1_kept : Nat → Option Nat} {mX1_keptCount : Nat → Int32} {mX1_digest : Nat → Option Nat} {mX1_hashed : Nat → Int32} {mX1_rounds : Nat → Int32} {mX1_hashes : Nat → Option Nat} {mX1_next : Nat → Option Nat} {mX1_descriptions : Nat → Option Nat} {mX1_order : Nat → Option Nat} {mX1_begins : Nat → Option Nat} {mX1_groups : Nat → Int32} {mX1_numbers : Nat → Option Nat} {mX1_best : Nat → Option Nat} {mX1_row : Nat → Option Nat} {mX1_leastRow : Nat → Option Nat} {mX1_found : Nat → Int32} {mX1_many : Nat → Int32} {mX1_namedBlanks : Nat → Int32} {mX1_formCount : Nat → Int32} {mX1_given : Nat → Option Nat} {mX1_form : Nat → Option Nat} {mX1_octets : Nat → Option Nat} {mX1_ways : Nat → Int32} {mX1_wanted : Nat → Int32} {mX1_taken : Nat → Int32} {mX2_blanks : Nat → Int32} {mX2_count : Nat → Int32} {mX2_keys : Nat → Option Nat} {mX3_words : Nat → Option Nat} {mX3_block : Nat → Option Nat} {mX3_size : Nat → Int64} {mX4_bytes : Nat → Option Nat} {mX4_size : Nat → Int32} {a : Nat} {v : Option Nat} (hk : kd a = 1) : va_up (cCN ci d kd an ai al ar mX1_graph mX1_kept mX1_keptCount mX1_digest mX1_hashed mX1_rounds mX1_hashes mX1_next mX1_descriptions mX1_order mX1_begins mX1_groups mX1_numbers mX1_best mX1_row mX1_leastRow mX1_found mX1_many mX1_namedBlanks mX1_formCount mX1_given mX1_form mX1_octets mX1_ways mX1_wanted mX1_taken mX2_blanks mX2_count mX2_keys mX3_words mX3_block mX3_size mX4_bytes mX4_size) a (.inr (ci 0, [va_rf (mX1_graph a), va_rf (mX1_kept a), .int (mX1_keptCount a), va_rf (mX1_digest a), .int (mX1_hashed a), .int (mX1_rounds a), va_rf (mX1_hashes a), va_rf (mX1_next a), va_rf (mX1_descriptions a), va_rf (mX1_order a), va_rf (mX1_begins a), .int (mX1_groups a), va_rf (mX1_numbers a), va_rf (mX1_best a), va_rf v, va_rf (mX1_leastRow a), .int (mX1_found a), .int (mX1_many a), .int (mX1_namedBlanks a), .int (mX1_formCount a), va_rf (mX1_given a), va_rf (mX1_form a), va_rf (mX1_octets a), .int (mX1_ways a), .int (mX1_wanted a), .int (mX1_taken a)])) = (cCN ci d kd an ai al ar mX1_graph mX1_kept mX1_keptCount mX1_digest mX1_hashed mX1_rounds mX1_hashes mX1_next mX1_descriptions mX1_order mX1_begins mX1_groups mX1_numbers mX1_best (va_up mX1_row a v) mX1_leastRow mX1_found mX1_many mX1_namedBlanks mX1_formCount mX1_given mX1_form mX1_octets mX1_ways mX1_wanted mX1_taken mX2_blanks mX2_count mX2_keys mX3_words mX3_block mX3_size mX4_bytes mX4_size) := by
  funext b
  by_cases h : b = a
  · subst h
    rw [va_up_self]
    unfold cCN
    rw [hk]
    simp only [va_up_self]
  · rw [va_up_ne _ _ h]
    unfold cCN
    simp only [va_up_ne _ _ h]
theorem cCN_1_15 {ci : Nat → Nat} {d : Nat → ClassId} {kd : Nat → Nat} {an : Nat → Nat} {ai : Nat → Nat → Int32} {al : Nat → Nat → Int64} {ar : Nat → Nat → Option Nat} {mX1_graph : Nat → Option Nat} {mX1_kept : Nat → Option Nat} {mX1_keptCount : Nat → Int32} {mX1_digest : Nat → Option Nat} {mX1_hashed : Nat → Int32} {mX1_rounds : Nat → Int32} {mX1_hashes : Nat → Option Nat} {mX1_next : Nat → Option Nat} {mX1_descriptions : Nat → Option Nat} {mX1_order : Nat → Option Nat} {mX1_begins : Nat → Option Nat} {mX1_groups : Nat → Int32} {mX1_numbers : Nat → Option Nat} {mX1_best : Nat → Option Nat} {mX1_row : Nat → Option Nat} {mX1_leastRow : Nat → Option Nat} {mX1_found : Nat → Int32} {mX1_many : Nat → Int32} {mX1_namedBlanks : Nat → Int32} {mX1_formCount : Nat → Int32} {mX1_given : Nat → Option Nat} {mX1_form : Nat → Option Nat} {mX1_octets : Nat → Option Nat} {mX1_ways : Nat → Int32} {mX1_wanted : Nat → Int32} {mX1_taken : Nat → Int32} {mX2_blanks : Nat → Int32} {mX2_count : Nat → Int32} {mX2_keys : Nat → Option Nat} {mX3_words : Nat → Option Nat} {mX3_block : Nat → Option Nat} {mX3_size : Nat → Int64} {mX4_bytes : Nat → Option Nat} {mX4_size : Nat → Int32} {a : Nat} {v : Option Nat} (hk : kd a = 1) : va_up (cCN ci d kd an ai al ar mX1_graph mX1_kept mX1_keptCount mX1_digest mX1_hashed mX1_rounds mX1_hashes mX1_next mX1_descriptions mX1_order mX1_begins mX1_groups mX1_numbers mX1_best mX1_row mX1_leastRow mX1_found mX1_many mX1_namedBlanks mX1_formCount mX1_given mX1_form mX1_octets mX1_ways mX1_wanted mX1_taken mX2_blanks mX2_count mX2_keys mX3_words mX3_block mX3_size mX4_bytes mX4_size) a (.inr (ci 0, [va_rf (mX1_graph a), va_rf (mX1_kept a), .int (mX1_keptCount a), va_rf (mX1_digest a), .int (mX1_hashed a), .int (mX1_rounds a), va_rf (mX1_hashes a), va_rf (mX1_next a), va_rf (mX1_descriptions a), va_rf (mX1_order a), va_rf (mX1_begins a), .int (mX1_groups a), va_rf (mX1_numbers a), va_rf (mX1_best a), va_rf (mX1_row a), va_rf v, .int (mX1_found a), .int (mX1_many a), .int (mX1_namedBlanks a), .int (mX1_formCount a), va_rf (mX1_given a), va_rf (mX1_form a), va_rf (mX1_octets a), .int (mX1_ways a), .int (mX1_wanted a), .int (mX1_taken a)])) = (cCN ci d kd an ai al ar mX1_graph mX1_kept mX1_keptCount mX1_digest mX1_hashed mX1_rounds mX1_hashes mX1_next mX1_descriptions mX1_order mX1_begins mX1_groups mX1_numbers mX1_best mX1_row (va_up mX1_leastRow a v) mX1_found mX1_many mX1_namedBlanks mX1_formCount mX1_given mX1_form mX1_octets mX1_ways mX1_wanted mX1_taken mX2_blanks mX2_count mX2_keys mX3_words mX3_block mX3_size mX4_bytes mX4_size) := by
  funext b
  by_cases h : b = a
  · subst h
    rw [va_up_self]
    unfold cCN
    rw [hk]
    simp only [va_up_self]
  · rw [va_up_ne _ _ h]
    unfold cCN
    simp only [va_up_ne _ _ h]
theorem cCN_1_16 {ci : Nat → Nat} {d : Nat → ClassId} {kd : Nat → Nat} {an : Nat → Nat} {ai : Nat → Nat → Int32} {al : Nat → Nat → Int64} {ar : Nat → Nat → Option Nat} {mX1_graph : Nat → Option Nat} {mX1_kept : Nat → Option Nat} {mX1_keptCount : Nat → Int32} {mX1_digest : Nat → Option Nat} {mX1_hashed : Nat → Int32} {mX1_rounds : Nat → Int32} {mX1_hashes : Nat → Option Nat} {mX1_next : Nat → Option Nat} {mX1_descriptions : Nat → Option Nat} {mX1_order : Nat → Option Nat} {mX1_begins : Nat → Option Nat} {mX1_groups : Nat → Int32} {mX1_numbers : Nat → Option Nat} {mX1_best : Nat → Option Nat} {mX1_row : Nat → Option Nat} {mX1_leastRow : Nat → Option Nat} {mX1_found : Nat → Int32} {mX1_many : Nat → Int32} {mX1_namedBlanks : Nat → Int32} {mX1_formCount : Nat → Int32} {mX1_given : Nat → Option Nat} {mX1_form : Nat → Option Nat} {mX1_octets : Nat → Option Nat} {mX1_ways : Nat → Int32} {mX1_wanted : Nat → Int32} {mX1_taken : Nat → Int32} {mX2_blanks : Nat → Int32} {mX2_count : Nat → Int32} {mX2_keys : Nat → Option Nat} {mX3_words : Nat → Option Nat} {mX3_block : Nat → Option Nat} {mX3_size : Nat → Int64} {mX4_bytes : Nat → Option Nat} {mX4_size : Nat → Int32} {a : Nat} {v : Int32} (hk : kd a = 1) : va_up (cCN ci d kd an ai al ar mX1_graph mX1_kept mX1_keptCount mX1_digest mX1_hashed mX1_rounds mX1_hashes mX1_next mX1_descriptions mX1_order mX1_begins mX1_groups mX1_numbers mX1_best mX1_row mX1_leastRow mX1_found mX1_many mX1_namedBlanks mX1_formCount mX1_given mX1_form mX1_octets mX1_ways mX1_wanted mX1_taken mX2_blanks mX2_count mX2_keys mX3_words mX3_block mX3_size mX4_bytes mX4_size) a (.inr (ci 0, [va_rf (mX1_graph a), va_rf (mX1_kept a), .int (mX1_keptCount a), va_rf (mX1_digest a), .int (mX1_hashed a), .int (mX1_rounds a), va_rf (mX1_hashes a), va_rf (mX1_next a), va_rf (mX1_descriptions a), va_rf (mX1_order a), va_rf (mX1_begins a), .int (mX1_groups a), va_rf (mX1_numbers a), va_rf (mX1_best a), va_rf (mX1_row a), va_rf (mX1_leastRow a), .int v, .int (mX1_many a), .int (mX1_namedBlanks a), .int (mX1_formCount a), va_rf (mX1_given a), va_rf (mX1_form a), va_rf (mX1_octets a), .int (mX1_ways a), .int (mX1_wanted a), .int (mX1_taken a)])) = (cCN ci d kd an ai al ar mX1_graph mX1_kept mX1_keptCount mX1_digest mX1_hashed mX1_rounds mX1_hashes mX1_next mX1_descriptions mX1_order mX1_begins mX1_groups mX1_numbers mX1_best mX1_row mX1_leastRow (va_up mX1_found a v) mX1_many mX1_namedBlanks mX1_formCount mX1_given mX1_form mX1_octets mX1_ways mX1_wanted mX1_taken mX2_blanks mX2_count mX2_keys mX3_words mX3_block mX3_size mX4_bytes mX4_size) := by
  funext b
  by_cases h : b = a
  · subst h
    rw [va_up_self]
    unfold cCN
    rw [hk]
    simp only [va_up_self]
  · rw [va_up_ne _ _ h]
    unfold cCN
    simp only [va_up_ne _ _ h]
theorem cCN_1_17 {ci : Nat → Nat} {d : Nat → ClassId} {kd : Nat → Nat} {an : Nat → Nat} {ai : Nat → Nat → Int32} {al : Nat → Nat → Int64} {ar : Nat → Nat → Option Nat} {mX1_graph : Nat → Option Nat} {mX1_kept : Nat → Option Nat} {mX1_keptCount : Nat → Int32} {mX1_digest : Nat → Option Nat} {mX1_hashed : Nat → Int32} {mX1_rounds : Nat → Int32} {mX1_hashes : Nat → Option Nat} {mX1_next : Nat → Option Nat} {mX1_descriptions : Nat → Option Nat} {mX1_order : Nat → Option Nat} {mX1_begins : Nat → Option Nat} {mX1_groups : Nat → Int32} {mX1_numbers : Nat → Option Nat} {mX1_best : Nat → Option Nat} {mX1_row : Nat → Option Nat} {mX1_leastRow : Nat → Option Nat} {mX1_found : Nat → Int32} {mX1_many : Nat → Int32} {mX1_namedBlanks : Nat → Int32} {mX1_formCount : Nat → Int32} {mX1_given : Nat → Option Nat} {mX1_form : Nat → Option Nat} {mX1_octets : Nat → Option Nat} {mX1_ways : Nat → Int32} {mX1_wanted : Nat → Int32} {mX1_taken : Nat → Int32} {mX2_blanks : Nat → Int32} {mX2_count : Nat → Int32} {mX2_keys : Nat → Option Nat} {mX3_words : Nat → Option Nat} {mX3_block : Nat → Option Nat} {mX3_size : Nat → Int64} {mX4_bytes : Nat → Option Nat} {mX4_size : Nat → Int32} {a : Nat} {v : Int32} (hk : kd a = 1) : va_up (cCN ci d kd an ai al ar mX1_graph mX1_kept mX1_keptCount mX1_digest mX1_hashed mX1_rounds mX1_hashes mX1_next mX1_descriptions mX1_order mX1_begins mX1_groups mX1_numbers mX1_best mX1_row mX1_leastRow mX1_found mX1_many mX1_namedBlanks mX1_formCount mX1_given mX1_form mX1_octets mX1_ways mX1_wanted mX1_taken mX2_blanks mX2_count mX2_keys mX3_words mX3_block mX3_size mX4_bytes mX4_size) a (.inr (ci 0, [va_rf (mX1_graph a), va_rf (mX1_kept a), .int (mX1_keptCount a), va_rf (mX1_digest a), .int (mX1_hashed a), .int (mX1_rounds a), va_rf (mX1_hashes a), va_rf (mX1_next a), va_rf (mX1_descriptions a), va_rf (mX1_order a), va_rf (mX1_begins a), .int (mX1_groups a), va_rf (mX1_numbers a), va_rf (mX1_best a), va_rf (mX1_row a), va_rf (mX1_leastRow a), .int (mX1_found a), .int v, .int (mX1_namedBlanks a), .int (mX1_formCount a), va_rf (mX1_given a), va_rf (mX1_form a), va_rf (mX1_octets a), .int (mX1_ways a), .int (mX1_wanted a), .int (mX1_taken a)])) = (cCN ci d kd an ai al ar mX1_graph mX1_kept mX1_keptCount mX1_digest mX1_hashed mX1_rounds mX1_hashes mX1_next mX1_descriptions mX1_order mX1_begins mX1_groups mX1_numbers mX1_best mX1_row mX1_leastRow mX1_found (va_up mX1_many a v) mX1_namedBlanks mX1_formCount mX1_given mX1_form mX1_octets mX1_ways mX1_wanted mX1_taken mX2_blanks mX2_count mX2_keys mX3_words mX3_block mX3_size mX4_bytes mX4_size) := by
  funext b
  by_cases h : b = a
  · subst h
    rw [va_up_self]
    unfold cCN
    rw [hk]
    simp only [va_up_self]
  · rw [va_up_ne _ _ h]
    unfold cCN
    simp only [va_up_ne _ _ h]
theorem cCN_1_18 {ci : Nat → Nat} {d : Nat → ClassId} {kd : Nat → Nat} {an : Nat → Nat} {ai : Nat → Nat → Int32} {al : Nat → Nat → Int64} {ar : Nat → Nat → Option Nat} {mX1_graph : Nat → Option Nat} {mX1_kept : Nat → Option Nat} {mX1_keptCount : Nat → Int32} {mX1_digest : Nat → Option Nat} {mX1_hashed : Nat → Int32} {mX1_rounds : Nat → Int32} {mX1_hashes : Nat → Option Nat} {mX1_next : Nat → Option Nat} {mX1_descriptions : Nat → Option Nat} {mX1_order : Nat → Option Nat} {mX1_begins : Nat → Option Nat} {mX1_groups : Nat → Int32} {mX1_numbers : Nat → Option Nat} {mX1_best : Nat → Option Nat} {mX1_row : Nat → Option Nat} {mX1_leastRow : Nat → Option Nat} {mX1_found : Nat → Int32} {mX1_many : Nat → Int32} {mX1_namedBlanks : Nat → Int32} {mX1_formCount : Nat → Int32} {mX1_given : Nat → Option Nat} {mX1_form : Nat → Option Nat} {mX1_octets : Nat → Option Nat} {mX1_ways : Nat → Int32} {mX1_wanted : Nat → Int32} {mX1_taken : Nat → Int32} {mX2_blanks : Nat → Int32} {mX2_count : Nat → Int32} {mX2_keys : Nat → Option Nat} {mX3_words : Nat → Option Nat} {mX3_block : Nat → Option Nat} {mX3_size : Nat → Int64} {mX4_bytes : Nat → Option Nat} {mX4_size : Nat → Int32} {a : Nat} {v : Int32} (hk : kd a = 1) : va_up (cCN ci d kd an ai al ar mX1_graph mX1_kept mX1_keptCount mX1_digest mX1_hashed mX1_rounds mX1_hashes mX1_next mX1_descriptions mX1_order mX1_begins mX1_groups mX1_numbers mX1_best mX1_row mX1_leastRow mX1_found mX1_many mX1_namedBlanks mX1_formCount mX1_given mX1_form mX1_octets mX1_ways mX1_wanted mX1_taken mX2_blanks mX2_count mX2_keys mX3_words mX3_block mX3_size mX4_bytes mX4_size) a (.inr (ci 0, [va_rf (mX1_graph a), va_rf (mX1_kept a), .int (mX1_keptCount a), va_rf (mX1_digest a), .int (mX1_hashed a), .int (mX1_rounds a), va_rf (mX1_hashes a), va_rf (mX1_next a), va_rf (mX1_descriptions a), va_rf (mX1_order a), va_rf (mX1_begins a), .int (mX1_groups a), va_rf (mX1_numbers a), va_rf (mX1_best a), va_rf (mX1_row a), va_rf (mX1_leastRow a), .int (mX1_found a), .int (mX1_many a), .int v, .int (mX1_formCount a), va_rf (mX1_given a), va_rf (mX1_form a), va_rf (mX1_octets a), .int (mX1_ways a), .int (mX1_wanted a), .int (mX1_taken a)])) = (cCN ci d kd an ai al ar mX1_graph mX1_kept mX1_keptCount mX1_digest mX1_hashed mX1_rounds mX1_hashes mX1_next mX1_descriptions mX1_order mX1_begins mX1_groups mX1_numbers mX1_best mX1_row mX1_leastRow mX1_found mX1_many (va_up mX1_namedBlanks a v) mX1_formCount mX1_given mX1_form mX1_octets mX1_ways mX1_wanted mX1_taken mX2_blanks mX2_count mX2_keys mX3_words mX3_block mX3_size mX4_bytes mX4_size) := by
  funext b
  by_cases h : b = a
  · subst h
    rw [va_up_self]
    unfold cCN
    rw [hk]
    simp only [va_up_self]
  · rw [va_up_ne _ _ h]
    unfold cCN
    simp only [va_up_ne _ _ h]
theorem cCN_1_19 {ci : Nat → Nat} {d : Nat → ClassId} {kd : Nat → Nat} {an : Nat → Nat} {ai : Nat → Nat → Int32} {al : Nat → Nat → Int64} {ar : Nat → Nat → Option Nat} {mX1_graph : Nat → Option Nat} {mX1_kept : Nat → Option Nat} {mX1_keptCount : Nat → Int32} {mX1_digest : Nat → Option Nat} {mX1_hashed : Nat → Int32} {mX1_rounds : Nat → Int32} {mX1_hashes : Nat → Option Nat} {mX1_next : Nat → Option Nat} {mX1_descriptions : Nat → Option Nat} {mX1_order : Nat → Option Nat} {mX1_begins : Nat → Option Nat} {mX1_groups : Nat → Int32} {mX1_numbers : Nat → Option Nat} {mX1_best : Nat → Option Nat} {mX1_row : Nat → Option Nat} {mX1_leastRow : Nat → Option Nat} {mX1_found : Nat → Int32} {mX1_many : Nat → Int32} {mX1_namedBlanks : Nat → Int32} {mX1_formCount : Nat → Int32} {mX1_given : Nat → Option Nat} {mX1_form : Nat → Option Nat} {mX1_octets : Nat → Option Nat} {mX1_ways : Nat → Int32} {mX1_wanted : Nat → Int32} {mX1_taken : Nat → Int32} {mX2_blanks : Nat → Int32} {mX2_count : Nat → Int32} {mX2_keys : Nat → Option Nat} {mX3_words : Nat → Option Nat} {mX3_block : Nat → Option Nat} {mX3_size : Nat → Int64} {mX4_bytes : Nat → Option Nat} {mX4_size : Nat → Int32} {a : Nat} {v : Int32} (hk : kd a = 1) : va_up (cCN ci d kd an ai al ar mX1_graph mX1_kept mX1_keptCount mX1_digest mX1_hashed mX1_rounds mX1_hashes mX1_next mX1_descriptions mX1_order mX1_begins mX1_groups mX1_numbers mX1_best mX1_row mX1_leastRow mX1_found mX1_many mX1_namedBlanks mX1_formCount mX1_given mX1_form mX1_octets mX1_ways mX1_wanted mX1_taken mX2_blanks mX2_count mX2_keys mX3_words mX3_block mX3_size mX4_bytes mX4_size) a (.inr (ci 0, [va_rf (mX1_graph a), va_rf (mX1_kept a), .int (mX1_keptCount a), va_rf (mX1_digest a), .int (mX1_hashed a), .int (mX1_rounds a), va_rf (mX1_hashes a), va_rf (mX1_next a), va_rf (mX1_descriptions a), va_rf (mX1_order a), va_rf (mX1_begins a), .int (mX1_groups a), va_rf (mX1_numbers a), va_rf (mX1_best a), va_rf (mX1_row a), va_rf (mX1_leastRow a), .int (mX1_found a), .int (mX1_many a), .int (mX1_namedBlanks a), .int v, va_rf (mX1_given a), va_rf (mX1_form a), va_rf (mX1_octets a), .int (mX1_ways a), .int (mX1_wanted a), .int (mX1_taken a)])) = (cCN ci d kd an ai al ar mX1_graph mX1_kept mX1_keptCount mX1_digest mX1_hashed mX1_rounds mX1_hashes mX1_next mX1_descriptions mX1_order mX1_begins mX1_groups mX1_numbers mX1_best mX1_row mX1_leastRow mX1_found mX1_many mX1_namedBlanks (va_up mX1_formCount a v) mX1_given mX1_form mX1_octets mX1_ways mX1_wanted mX1_taken mX2_blanks mX2_count mX2_keys mX3_words mX3_block mX3_size mX4_bytes mX4_size) := by
  funext b
  by_cases h : b = a
  · subst h
    rw [va_up_self]
    unfold cCN
    rw [hk]
    simp only [va_up_self]
  · rw [va_up_ne _ _ h]
    unfold cCN
    simp only [va_up_ne _ _ h]
theorem cCN_1_20 {ci : Nat → Nat} {d : Nat → ClassId} {kd : Nat → Nat} {an : Nat → Nat} {ai : Nat → Nat → Int32} {al : Nat → Nat → Int64} {ar : Nat → Nat → Option Nat} {mX1_graph : Nat → Option Nat} {mX1_kept : Nat → Option Nat} {mX1_keptCount : Nat → Int32} {mX1_digest : Nat → Option Nat} {mX1_hashed : Nat → Int32} {mX1_rounds : Nat → Int32} {mX1_hashes : Nat → Option Nat} {mX1_next : Nat → Option Nat} {mX1_descriptions : Nat → Option Nat} {mX1_order : Nat → Option Nat} {mX1_begins : Nat → Option Nat} {mX1_groups : Nat → Int32} {mX1_numbers : Nat → Option Nat} {mX1_best : Nat → Option Nat} {mX1_row : Nat → Option Nat} {mX1_leastRow : Nat → Option Nat} {mX1_found : Nat → Int32} {mX1_many : Nat → Int32} {mX1_namedBlanks : Nat → Int32} {mX1_formCount : Nat → Int32} {mX1_given : Nat → Option Nat} {mX1_form : Nat → Option Nat} {mX1_octets : Nat → Option Nat} {mX1_ways : Nat → Int32} {mX1_wanted : Nat → Int32} {mX1_taken : Nat → Int32} {mX2_blanks : Nat → Int32} {mX2_count : Nat → Int32} {mX2_keys : Nat → Option Nat} {mX3_words : Nat → Option Nat} {mX3_block : Nat → Option Nat} {mX3_size : Nat → Int64} {mX4_bytes : Nat → Option Nat} {mX4_size : Nat → Int32} {a : Nat} {v : Option Nat} (hk : kd a = 1) : va_up (cCN ci d kd an ai al ar mX1_graph mX1_kept mX1_keptCount mX1_digest mX1_hashed mX1_rounds mX1_hashes mX1_next mX1_descriptions mX1_order mX1_begins mX1_groups mX1_numbers mX1_best mX1_row mX1_leastRow mX1_found mX1_many mX1_namedBlanks mX1_formCount mX1_given mX1_form mX1_octets mX1_ways mX1_wanted mX1_taken mX2_blanks mX2_count mX2_keys mX3_words mX3_block mX3_size mX4_bytes mX4_size) a (.inr (ci 0, [va_rf (mX1_graph a), va_rf (mX1_kept a), .int (mX1_keptCount a), va_rf (mX1_digest a), .int (mX1_hashed a), .int (mX1_rounds a), va_rf (mX1_hashes a), va_rf (mX1_next a), va_rf (mX1_descriptions a), va_rf (mX1_order a), va_rf (mX1_begins a), .int (mX1_groups a), va_rf (mX1_numbers a), va_rf (mX1_best a), va_rf (mX1_row a), va_rf (mX1_leastRow a), .int (mX1_found a), .int (mX1_many a), .int (mX1_namedBlanks a), .int (mX1_formCount a), va_rf v, va_rf (mX1_form a), va_rf (mX1_octets a), .int (mX1_ways a), .int (mX1_wanted a), .int (mX1_taken a)])) = (cCN ci d kd an ai al ar mX1_graph mX1_kept mX1_keptCount mX1_digest mX1_hashed mX1_rounds mX1_hashes mX1_next mX1_descriptions mX1_order mX1_begins mX1_groups mX1_numbers mX1_best mX1_row mX1_leastRow mX1_found mX1_many mX1_namedBlanks mX1_formCount (va_up mX1_given a v) mX1_form mX1_octets mX1_ways mX1_wanted mX1_taken mX2_blanks mX2_count mX2_keys mX3_words mX3_block mX3_size mX4_bytes mX4_size) := by
  funext b
  by_cases h : b = a
  · subst h
    rw [va_up_self]
    unfold cCN
    rw [hk]
    simp only [va_up_self]
  · rw [va_up_ne _ _ h]
    unfold cCN
    simp only [va_up_ne _ _ h]
theorem cCN_1_21 {ci : Nat → Nat} {d : Nat → ClassId} {kd : Nat → Nat} {an : Nat → Nat} {ai : Nat → Nat → Int32} {al : Nat → Nat → Int64} {ar : Nat → Nat → Option Nat} {mX1_graph : Nat → Option Nat} {mX1_kept : Nat → Option Nat} {mX1_keptCount : Nat → Int32} {mX1_digest : Nat → Option Nat} {mX1_hashed : Nat → Int32} {mX1_rounds : Nat → Int32} {mX1_hashes : Nat → Option Nat} {mX1_next : Nat → Option Nat} {mX1_descriptions : Nat → Option Nat} {mX1_order : Nat → Option Nat} {mX1_begins : Nat → Option Nat} {mX1_groups : Nat → Int32} {mX1_numbers : Nat → Option Nat} {mX1_best : Nat → Option Nat} {mX1_row : Nat → Option Nat} {mX1_leastRow : Nat → Option Nat} {mX1_found : Nat → Int32} {mX1_many : Nat → Int32} {mX1_namedBlanks : Nat → Int32} {mX1_formCount : Nat → Int32} {mX1_given : Nat → Option Nat} {mX1_form : Nat → Option Nat} {mX1_octets : Nat → Option Nat} {mX1_ways : Nat → Int32} {mX1_wanted : Nat → Int32} {mX1_taken : Nat → Int32} {mX2_blanks : Nat → Int32} {mX2_count : Nat → Int32} {mX2_keys : Nat → Option Nat} {mX3_words : Nat → Option Nat} {mX3_block : Nat → Option Nat} {mX3_size : Nat → Int64} {mX4_bytes : Nat → Option Nat} {mX4_size : Nat → Int32} {a : Nat} {v : Option Nat} (hk : kd a = 1) : va_up (cCN ci d kd an ai al ar mX1_graph mX1_kept mX1_keptCount mX1_digest mX1_hashed mX1_rounds mX1_hashes mX1_next mX1_descriptions mX1_order mX1_begins mX1_groups mX1_numbers mX1_best mX1_row mX1_leastRow mX1_found mX1_many mX1_namedBlanks mX1_formCount mX1_given mX1_form mX1_octets mX1_ways mX1_wanted mX1_taken mX2_blanks mX2_count mX2_keys mX3_words mX3_block mX3_size mX4_bytes mX4_size) a (.inr (ci 0, [va_rf (mX1_graph a), va_rf (mX1_kept a), .int (mX1_keptCount a), va_rf (mX1_digest a), .int (mX1_hashed a), .int (mX1_rounds a), va_rf (mX1_hashes a), va_rf (mX1_next a), va_rf (mX1_descriptions a), va_rf (mX1_order a), va_rf (mX1_begins a), .int (mX1_groups a), va_rf (mX1_numbers a), va_rf (mX1_best a), va_rf (mX1_row a), va_rf (mX1_leastRow a), .int (mX1_found a), .int (mX1_many a), .int (mX1_namedBlanks a), .int (mX1_formCount a), va_rf (mX1_given a), va_rf v, va_rf (mX1_octets a), .int (mX1_ways a), .int (mX1_wanted a), .int (mX1_taken a)])) = (cCN ci d kd an ai al ar mX1_graph mX1_kept mX1_keptCount mX1_digest mX1_hashed mX1_rounds mX1_hashes mX1_next mX1_descriptions mX1_order mX1_begins mX1_groups mX1_numbers mX1_best mX1_row mX1_leastRow mX1_found mX1_many mX1_namedBlanks mX1_formCount mX1_given (va_up mX1_form a v) mX1_octets mX1_ways mX1_wanted mX1_taken mX2_blanks mX2_count mX2_keys mX3_words mX3_block mX3_size mX4_bytes mX4_size) := by
  funext b
  by_cases h : b = a
  · subst h
    rw [va_up_self]
    unfold cCN
    rw [hk]
    simp only [va_up_self]
  · rw [va_up_ne _ _ h]
    unfold cCN
    simp only [va_up_ne _ _ h]
theorem cCN_1_22 {ci : Nat → Nat} {d : Nat → ClassId} {kd : Nat → Nat} {an : Nat → Nat} {ai : Nat → Nat → Int32} {al : Nat → Nat → Int64} {ar : Nat → Nat → Option Nat} {mX1_graph : Nat → Option Nat} {mX1_kept : Nat → Option Nat} {mX1_keptCount : Nat → Int32} {mX1_digest : Nat → Option Nat} {mX1_hashed : Nat → Int32} {mX1_rounds : Nat → Int32} {mX1_hashes : Nat → Option Nat} {mX1_next : Nat → Option Nat} {mX1_descriptions : Nat → Option Nat} {mX1_order : Nat → Option Nat} {mX1_begins : Nat → Option Nat} {mX1_groups : Nat → Int32} {mX1_numbers : Nat → Option Nat} {mX1_best : Nat → Option Nat} {mX1_row : Nat → Option Nat} {mX1_leastRow : Nat → Option Nat} {mX1_found : Nat → Int32} {mX1_many : Nat → Int32} {mX1_namedBlanks : Nat → Int32} {mX1_formCount : Nat → Int32} {mX1_given : Nat → Option Nat} {mX1_form : Nat → Option Nat} {mX1_octets : Nat → Option Nat} {mX1_ways : Nat → Int32} {mX1_wanted : Nat → Int32} {mX1_taken : Nat → Int32} {mX2_blanks : Nat → Int32} {mX2_count : Nat → Int32} {mX2_keys : Nat → Option Nat} {mX3_words : Nat → Option Nat} {mX3_block : Nat → Option Nat} {mX3_size : Nat → Int64} {mX4_bytes : Nat → Option Nat} {mX4_size : Nat → Int32} {a : Nat} {v : Option Nat} (hk : kd a = 1) : va_up (cCN ci d kd an ai al ar mX1_graph mX1_kept mX1_keptCount mX1_digest mX1_hashed mX1_rounds mX1_hashes mX1_next mX1_descriptions mX1_order mX1_begins mX1_groups mX1_numbers mX1_best mX1_row mX1_leastRow mX1_found mX1_many mX1_namedBlanks mX1_formCount mX1_given mX1_form mX1_octets mX1_ways mX1_wanted mX1_taken mX2_blanks mX2_count mX2_keys mX3_words mX3_block mX3_size mX4_bytes mX4_size) a (.inr (ci 0, [va_rf (mX1_graph a), va_rf (mX1_kept a), .int (mX1_keptCount a), va_rf (mX1_digest a), .int (mX1_hashed a), .int (mX1_rounds a), va_rf (mX1_hashes a), va_rf (mX1_next a), va_rf (mX1_descriptions a), va_rf (mX1_order a), va_rf (mX1_begins a), .int (mX1_groups a), va_rf (mX1_numbers a), va_rf (mX1_best a), va_rf (mX1_row a), va_rf (mX1_leastRow a), .int (mX1_found a), .int (mX1_many a), .int (mX1_namedBlanks a), .int (mX1_formCount a), va_rf (mX1_given a), va_rf (mX1_form a), va_rf v, .int (mX1_ways a), .int (mX1_wanted a), .int (mX1_taken a)])) = (cCN ci d kd an ai al ar mX1_graph mX1_kept mX1_keptCount mX1_digest mX1_hashed mX1_rounds mX1_hashes mX1_next mX1_descriptions mX1_order mX1_begins mX1_groups mX1_numbers mX1_best mX1_row mX1_leastRow mX1_found mX1_many mX1_namedBlanks mX1_formCount mX1_given mX1_form (va_up mX1_octets a v) mX1_ways mX1_wanted mX1_taken mX2_blanks mX2_count mX2_keys mX3_words mX3_block mX3_size mX4_bytes mX4_size) := by
  funext b
  by_cases h : b = a
  · subst h
    rw [va_up_self]
    unfold cCN
    rw [hk]
    simp only [va_up_self]
  · rw [va_up_ne _ _ h]
    unfold cCN
    simp only [va_up_ne _ _ h]
theorem cCN_1_23 {ci : Nat → Nat} {d : Nat → ClassId} {kd : Nat → Nat} {an : Nat → Nat} {ai : Nat → Nat → Int32} {al : Nat → Nat → Int64} {ar : Nat → Nat → Option Nat} {mX1_graph : Nat → Option Nat} {mX1_kept : Nat → Option Nat} {mX1_keptCount : Nat → Int32} {mX1_digest : Nat → Option Nat} {mX1_hashed : Nat → Int32} {mX1_rounds : Nat → Int32} {mX1_hashes : Nat → Option Nat} {mX1_next : Nat → Option Nat} {mX1_descriptions : Nat → Option Nat} {mX1_order : Nat → Option Nat} {mX1_begins : Nat → Option Nat} {mX1_groups : Nat → Int32} {mX1_numbers : Nat → Option Nat} {mX1_best : Nat → Option Nat} {mX1_row : Nat → Option Nat} {mX1_leastRow : Nat → Option Nat} {mX1_found : Nat → Int32} {mX1_many : Nat → Int32} {mX1_namedBlanks : Nat → Int32} {mX1_formCount : Nat → Int32} {mX1_given : Nat → Option Nat} {mX1_form : Nat → Option Nat} {mX1_octets : Nat → Option Nat} {mX1_ways : Nat → Int32} {mX1_wanted : Nat → Int32} {mX1_taken : Nat → Int32} {mX2_blanks : Nat → Int32} {mX2_count : Nat → Int32} {mX2_keys : Nat → Option Nat} {mX3_words : Nat → Option Nat} {mX3_block : Nat → Option Nat} {mX3_size : Nat → Int64} {mX4_bytes : Nat → Option Nat} {mX4_size : Nat → Int32} {a : Nat} {v : Int32} (hk : kd a = 1) : va_up (cCN ci d kd an ai al ar mX1_graph mX1_kept mX1_keptCount mX1_digest mX1_hashed mX1_rounds mX1_hashes mX1_next mX1_descriptions mX1_order mX1_begins mX1_groups mX1_numbers mX1_best mX1_row mX1_leastRow mX1_found mX1_many mX1_namedBlanks mX1_formCount mX1_given mX1_form mX1_octets mX1_ways mX1_wanted mX1_taken mX2_blanks mX2_count mX2_keys mX3_words mX3_block mX3_size mX4_bytes mX4_size) a (.inr (ci 0, [va_rf (mX1_graph a), va_rf (mX1_kept a), .int (mX1_keptCount a), va_rf (mX1_digest a), .int (mX1_hashed a), .int (mX1_rounds a), va_rf (mX1_hashes a), va_rf (mX1_next a), va_rf (mX1_descriptions a), va_rf (mX1_order a), va_rf (mX1_begins a), .int (mX1_groups a), va_rf (mX1_numbers a), va_rf (mX1_best a), va_rf (mX1_row a), va_rf (mX1_leastRow a), .int (mX1_found a), .int (mX1_many a), .int (mX1_namedBlanks a), .int (mX1_formCount a), va_rf (mX1_given a), va_rf (mX1_form a), va_rf (mX1_octets a), .int v, .int (mX1_wanted a), .int (mX1_taken a)])) = (cCN ci d kd an ai al ar mX1_graph mX1_kept mX1_keptCount mX1_digest mX1_hashed mX1_rounds mX1_hashes mX1_next mX1_descriptions mX1_order mX1_begins mX1_groups mX1_numbers mX1_best mX1_row mX1_leastRow mX1_found mX1_many mX1_namedBlanks mX1_formCount mX1_given mX1_form mX1_octets (va_up mX1_ways a v) mX1_wanted mX1_taken mX2_blanks mX2_count mX2_keys mX3_words mX3_block mX3_size mX4_bytes mX4_size) := by
  funext b
  by_cases h : b = a
  · subst h
    rw [va_up_self]
    unfold cCN
    rw [hk]
    simp only [va_up_self]
  · rw [va_up_ne _ _ h]
    unfold cCN
    simp only [va_up_ne _ _ h]
theorem cCN_1_24 {ci : Nat → Nat} {d : Nat → ClassId} {kd : Nat → Nat} {an : Nat → Nat} {ai : Nat → Nat → Int32} {al : Nat → Nat → Int64} {ar : Nat → Nat → Option Nat} {mX1_graph : Nat → Option Nat} {mX1_kept : Nat → Option Nat} {mX1_keptCount : Nat → Int32} {mX1_digest : Nat → Option Nat} {mX1_hashed : Nat → Int32} {mX1_rounds : Nat → Int32} {mX1_hashes : Nat → Option Nat} {mX1_next : Nat → Option Nat} {mX1_descriptions : Nat → Option Nat} {mX1_order : Nat → Option Nat} {mX1_begins : Nat → Option Nat} {mX1_groups : Nat → Int32} {mX1_numbers : Nat → Option Nat} {mX1_best : Nat → Option Nat} {mX1_row : Nat → Option Nat} {mX1_leastRow : Nat → Option Nat} {mX1_found : Nat → Int32} {mX1_many : Nat → Int32} {mX1_namedBlanks : Nat → Int32} {mX1_formCount : Nat → Int32} {mX1_given : Nat → Option Nat} {mX1_form : Nat → Option Nat} {mX1_octets : Nat → Option Nat} {mX1_ways : Nat → Int32} {mX1_wanted : Nat → Int32} {mX1_taken : Nat → Int32} {mX2_blanks : Nat → Int32} {mX2_count : Nat → Int32} {mX2_keys : Nat → Option Nat} {mX3_words : Nat → Option Nat} {mX3_block : Nat → Option Nat} {mX3_size : Nat → Int64} {mX4_bytes : Nat → Option Nat} {mX4_size : Nat → Int32} {a : Nat} {v : Int32} (hk : kd a = 1) : va_up (cCN ci d kd an ai al ar mX1_graph mX1_kept mX1_keptCount mX1_digest mX1_hashed mX1_rounds mX1_hashes mX1_next mX1_descriptions mX1_order mX1_begins mX1_groups mX1_numbers mX1_best mX1_row mX1_leastRow mX1_found mX1_many mX1_namedBlanks mX1_formCount mX1_given mX1_form mX1_octets mX1_ways mX1_wanted mX1_taken mX2_blanks mX2_count mX2_keys mX3_words mX3_block mX3_size mX4_bytes mX4_size) a (.inr (ci 0, [va_rf (mX1_graph a), va_rf (mX1_kept a), .int (mX1_keptCount a), va_rf (mX1_digest a), .int (mX1_hashed a), .int (mX1_rounds a), va_rf (mX1_hashes a), va_rf (mX1_next a), va_rf (mX1_descriptions a), va_rf (mX1_order a), va_rf (mX1_begins a), .int (mX1_groups a), va_rf (mX1_numbers a), va_rf (mX1_best a), va_rf (mX1_row a), va_rf (mX1_leastRow a), .int (mX1_found a), .int (mX1_many a), .int (mX1_namedBlanks a), .int (mX1_formCount a), va_rf (mX1_given a), va_rf (mX1_form a), va_rf (mX1_octets a), .int (mX1_ways a), .int v, .int (mX1_taken a)])) = (cCN ci d kd an ai al ar mX1_graph mX1_kept mX1_keptCount mX1_digest mX1_hashed mX1_rounds mX1_hashes mX1_next mX1_descriptions mX1_order mX1_begins mX1_groups mX1_numbers mX1_best mX1_row mX1_leastRow mX1_found mX1_many mX1_namedBlanks mX1_formCount mX1_given mX1_form mX1_octets mX1_ways (va_up mX1_wanted a v) mX1_taken mX2_blanks mX2_count mX2_keys mX3_words mX3_block mX3_size mX4_bytes mX4_size) := by
  funext b
  by_cases h : b = a
  · subst h
    rw [va_up_self]
    unfold cCN
    rw [hk]
    simp only [va_up_self]
  · rw [va_up_ne _ _ h]
    unfold cCN
    simp only [va_up_ne _ _ h]
theorem cCN_1_25 {ci : Nat → Nat} {d : Nat → ClassId} {kd : Nat → Nat} {an : Nat → Nat} {ai : Nat → Nat → Int32} {al : Nat → Nat → Int64} {ar : Nat → Nat → Option Nat} {mX1_graph : Nat → Option Nat} {mX1_kept : Nat → Option Nat} {mX1_keptCount : Nat → Int32} {mX1_digest : Nat → Option Nat} {mX1_hashed : Nat → Int32} {mX1_rounds : Nat → Int32} {mX1_hashes : Nat → Option Nat} {mX1_next : Nat → Option Nat} {mX1_descriptions : Nat → Option Nat} {mX1_order : Nat → Option Nat} {mX1_begins : Nat → Option Nat} {mX1_groups : Nat → Int32} {mX1_numbers : Nat → Option Nat} {mX1_best : Nat → Option Nat} {mX1_row : Nat → Option Nat} {mX1_leastRow : Nat → Option Nat} {mX1_found : Nat → Int32} {mX1_many : Nat → Int32} {mX1_namedBlanks : Nat → Int32} {mX1_formCount : Nat → Int32} {mX1_given : Nat → Option Nat} {mX1_form : Nat → Option Nat} {mX1_octets : Nat → Option Nat} {mX1_ways : Nat → Int32} {mX1_wanted : Nat → Int32} {mX1_taken : Nat → Int32} {mX2_blanks : Nat → Int32} {mX2_count : Nat → Int32} {mX2_keys : Nat → Option Nat} {mX3_words : Nat → Option Nat} {mX3_block : Nat → Option Nat} {mX3_size : Nat → Int64} {mX4_bytes : Nat → Option Nat} {mX4_size : Nat → Int32} {a : Nat} {v : Int32} (hk : kd a = 1) : va_up (cCN ci d kd an ai al ar mX1_graph mX1_kept mX1_keptCount mX1_digest mX1_hashed mX1_rounds mX1_hashes mX1_next mX1_descriptions mX1_order mX1_begins mX1_groups mX1_numbers mX1_best mX1_row mX1_leastRow mX1_found mX1_many mX1_namedBlanks mX1_formCount mX1_given mX1_form mX1_octets mX1_ways mX1_wanted mX1_taken mX2_blanks mX2_count mX2_keys mX3_words mX3_block mX3_size mX4_bytes mX4_size) a (.inr (ci 0, [va_rf (mX1_graph a), va_rf (mX1_kept a), .int (mX1_keptCount a), va_rf (mX1_digest a), .int (mX1_hashed a), .int (mX1_rounds a), va_rf (mX1_hashes a), va_rf (mX1_next a), va_rf (mX1_descriptions a), va_rf (mX1_order a), va_rf (mX1_begins a), .int (mX1_groups a), va_rf (mX1_numbers a), va_rf (mX1_best a), va_rf (mX1_row a), va_rf (mX1_leastRow a), .int (mX1_found a), .int (mX1_many a), .int (mX1_namedBlanks a), .int (mX1_formCount a), va_rf (mX1_given a), va_rf (mX1_form a), va_rf (mX1_octets a), .int (mX1_ways a), .int (mX1_wanted a), .int v])) = (cCN ci d kd an ai al ar mX1_graph mX1_kept mX1_keptCount mX1_digest mX1_hashed mX1_rounds mX1_hashes mX1_next mX1_descriptions mX1_order mX1_begins mX1_groups mX1_numbers mX1_best mX1_row mX1_leastRow mX1_found mX1_many mX1_namedBlanks mX1_formCount mX1_given mX1_form mX1_octets mX1_ways mX1_wanted (va_up mX1_taken a v) mX2_blanks mX2_count mX2_keys mX3_words mX3_block mX3_size mX4_bytes mX4_size) := by
  funext b
  by_cases h : b = a
  · subst h
    rw [va_up_self]
    unfold cCN
    rw [hk]
    simp only [va_up_self]
  · rw [va_up_ne _ _ h]
    unfold cCN
    simp only [va_up_ne _ _ h]
theorem cCN_1_n {ci : Nat → Nat} {d : Nat → ClassId} {kd : Nat → Nat} {an : Nat → Nat} {ai : Nat → Nat → Int32} {al : Nat → Nat → Int64} {ar : Nat → Nat → Option Nat} {mX1_graph : Nat → Option Nat} {mX1_kept : Nat → Option Nat} {mX1_keptCount : Nat → Int32} {mX1_digest : Nat → Option Nat} {mX1_hashed : Nat → Int32} {mX1_rounds : Nat → Int32} {mX1_hashes : Nat → Option Nat} {mX1_next : Nat → Option Nat} {mX1_descriptions : Nat → Option Nat} {mX1_order : Nat → Option Nat} {mX1_begins : Nat → Option Nat} {mX1_groups : Nat → Int32} {mX1_numbers : Nat → Option Nat} {mX1_best : Nat → Option Nat} {mX1_row : Nat → Option Nat} {mX1_leastRow : Nat → Option Nat} {mX1_found : Nat → Int32} {mX1_many : Nat → Int32} {mX1_namedBlanks : Nat → Int32} {mX1_formCount : Nat → Int32} {mX1_given : Nat → Option Nat} {mX1_form : Nat → Option Nat} {mX1_octets : Nat → Option Nat} {mX1_ways : Nat → Int32} {mX1_wanted : Nat → Int32} {mX1_taken : Nat → Int32} {mX2_blanks : Nat → Int32} {mX2_count : Nat → Int32} {mX2_keys : Nat → Option Nat} {mX3_words : Nat → Option Nat} {mX3_block : Nat → Option Nat} {mX3_size : Nat → Int64} {mX4_bytes : Nat → Option Nat} {mX4_size : Nat → Int32} (q : Nat) : va_up (cCN ci d kd an ai al ar mX1_graph mX1_kept mX1_keptCount mX1_digest mX1_hashed mX1_rounds mX1_hashes mX1_next mX1_descriptions mX1_order mX1_begins mX1_groups mX1_numbers mX1_best mX1_row mX1_leastRow mX1_found mX1_many mX1_namedBlanks mX1_formCount mX1_given mX1_form mX1_octets mX1_ways mX1_wanted mX1_taken mX2_blanks mX2_count mX2_keys mX3_words mX3_block mX3_size mX4_bytes mX4_size) q (.inr (ci 0, [va_rf none, va_rf none, .int 0, va_rf none, .int 0, .int 0, va_rf none, va_rf none, va_rf none, va_rf none, va_rf none, .int 0, va_rf none, va_rf none, va_rf none, va_rf none, .int 0, .int 0, .int 0, .int 0, va_rf none, va_rf none, va_rf none, .int 0, .int 0, .int 0])) = (cCN ci d (va_up kd q 1) an ai al ar (va_up mX1_graph q none) (va_up mX1_kept q none) (va_up mX1_keptCount q 0) (va_up mX1_digest q none) (va_up mX1_hashed q 0) (va_up mX1_rounds q 0) (va_up mX1_hashes q none) (va_up mX1_next q none) (va_up mX1_descriptions q none) (va_up mX1_order q none) (va_up mX1_begins q none) (va_up mX1_groups q 0) (va_up mX1_numbers q none) (va_up mX1_best q none) (va_up mX1_row q none) (va_up mX1_leastRow q none) (va_up mX1_found q 0) (va_up mX1_many q 0) (va_up mX1_namedBlanks q 0) (va_up mX1_formCount q 0) (va_up mX1_given q none) (va_up mX1_form q none) (va_up mX1_octets q none) (va_up mX1_ways q 0) (va_up mX1_wanted q 0) (va_up mX1_taken q 0) mX2_blanks mX2_count mX2_keys mX3_words mX3_block mX3_size mX4_bytes mX4_size) := by
  funext b
  by_cases h : b = q
  · subst h
    rw [va_up_self]
    unfold cCN
    simp only [va_up_self]
  · rw [va_up_ne _ _ h]
    unfold cCN
    simp only [va_up_ne _ _ h]
theorem cCN_2 {ci : Nat → Nat} {d : Nat → ClassId} {kd : Nat → Nat} {an : Nat → Nat} {ai : Nat → Nat → Int32} {al : Nat → Nat → Int64} {ar : Nat → Nat → Option Nat} {mX1_graph : Nat → Option Nat} {mX1_kept : Nat → Option Nat} {mX1_keptCount : Nat → Int32} {mX1_digest : Nat → Option Nat} {mX1_hashed : Nat → Int32} {mX1_rounds : Nat → Int32} {mX1_hashes : Nat → Option Nat} {mX1_next : Nat → Option Nat} {mX1_descriptions : Nat → Option Nat} {mX1_order : Nat → Option Nat} {mX1_begins : Nat → Option Nat} {mX1_groups : Nat → Int32} {mX1_numbers : Nat → Option Nat} {mX1_best : Nat → Option Nat} {mX1_row : Nat → Option Nat} {mX1_leastRow : Nat → Option Nat} {mX1_found : Nat → Int32} {mX1_many : Nat → Int32} {mX1_namedBlanks : Nat → Int32} {mX1_formCount : Nat → Int32} {mX1_given : Nat → Option Nat} {mX1_form : Nat → Option Nat} {mX1_octets : Nat → Option Nat} {mX1_ways : Nat → Int32} {mX1_wanted : Nat → Int32} {mX1_taken : Nat → Int32} {mX2_blanks : Nat → Int32} {mX2_count : Nat → Int32} {mX2_keys : Nat → Option Nat} {mX3_words : Nat → Option Nat} {mX3_block : Nat → Option Nat} {mX3_size : Nat → Int64} {mX4_bytes : Nat → Option Nat} {mX4_size : Nat → Int32} {a : Nat} (hk : kd a = 2) : (cCN ci d kd an ai al ar mX1_graph mX1_kept mX1_keptCount mX1_digest mX1_hashed mX1_rounds mX1_hashes mX1_next mX1_descriptions mX1_order mX1_begins mX1_groups mX1_numbers mX1_best mX1_row mX1_leastRow mX1_found mX1_many mX1_namedBlanks mX1_formCount mX1_given mX1_form mX1_octets mX1_ways mX1_wanted mX1_taken mX2_blanks mX2_count mX2_keys mX3_words mX3_block mX3_size mX4_bytes mX4_size) a = .inr (ci 1, [.int (mX2_blanks a), .int (mX2_count a), va_rf (mX2_keys a)]) := by unfold cCN; simp only [hk]
theorem cCN_2_0 {ci : Nat → Nat} {d : Nat → ClassId} {kd : Nat → Nat} {an : Nat → Nat} {ai : Nat → Nat → Int32} {al : Nat → Nat → Int64} {ar : Nat → Nat → Option Nat} {mX1_graph : Nat → Option Nat} {mX1_kept : Nat → Option Nat} {mX1_keptCount : Nat → Int32} {mX1_digest : Nat → Option Nat} {mX1_hashed : Nat → Int32} {mX1_rounds : Nat → Int32} {mX1_hashes : Nat → Option Nat} {mX1_next : Nat → Option Nat} {mX1_descriptions : Nat → Option Nat} {mX1_order : Nat → Option Nat} {mX1_begins : Nat → Option Nat} {mX1_groups : Nat → Int32} {mX1_numbers : Nat → Option Nat} {mX1_best : Nat → Option Nat} {mX1_row : Nat → Option Nat} {mX1_leastRow : Nat → Option Nat} {mX1_found : Nat → Int32} {mX1_many : Nat → Int32} {mX1_namedBlanks : Nat → Int32} {mX1_formCount : Nat → Int32} {mX1_given : Nat → Option Nat} {mX1_form : Nat → Option Nat} {mX1_octets : Nat → Option Nat} {mX1_ways : Nat → Int32} {mX1_wanted : Nat → Int32} {mX1_taken : Nat → Int32} {mX2_blanks : Nat → Int32} {mX2_count : Nat → Int32} {mX2_keys : Nat → Option Nat} {mX3_words : Nat → Option Nat} {mX3_block : Nat → Option Nat} {mX3_size : Nat → Int64} {mX4_bytes : Nat → Option Nat} {mX4_size : Nat → Int32} {a : Nat} {v : Int32} (hk : kd a = 2) : va_up (cCN ci d kd an ai al ar mX1_graph mX1_kept mX1_keptCount mX1_digest mX1_hashed mX1_rounds mX1_hashes mX1_next mX1_descriptions mX1_order mX1_begins mX1_groups mX1_numbers mX1_best mX1_row mX1_leastRow mX1_found mX1_many mX1_namedBlanks mX1_formCount mX1_given mX1_form mX1_octets mX1_ways mX1_wanted mX1_taken mX2_blanks mX2_count mX2_keys mX3_words mX3_block mX3_size mX4_bytes mX4_size) a (.inr (ci 1, [.int v, .int (mX2_count a), va_rf (mX2_keys a)])) = (cCN ci d kd an ai al ar mX1_graph mX1_kept mX1_keptCount mX1_digest mX1_hashed mX1_rounds mX1_hashes mX1_next mX1_descriptions mX1_order mX1_begins mX1_groups mX1_numbers mX1_best mX1_row mX1_leastRow mX1_found mX1_many mX1_namedBlanks mX1_formCount mX1_given mX1_form mX1_octets mX1_ways mX1_wanted mX1_taken (va_up mX2_blanks a v) mX2_count mX2_keys mX3_words mX3_block mX3_size mX4_bytes mX4_size) := by
  funext b
  by_cases h : b = a
  · subst h
    rw [va_up_self]
    unfold cCN
    rw [hk]
    simp only [va_up_self]
  · rw [va_up_ne _ _ h]
    unfold cCN
    simp only [va_up_ne _ _ h]
theorem cCN_2_1 {ci : Nat → Nat} {d : Nat → ClassId} {kd : Nat → Nat} {an : Nat → Nat} {ai : Nat → Nat → Int32} {al : Nat → Nat → Int64} {ar : Nat → Nat → Option Nat} {mX1_graph : Nat → Option Nat} {mX1_kept : Nat → Option Nat} {mX1_keptCount : Nat → Int32} {mX1_digest : Nat → Option Nat} {mX1_hashed : Nat → Int32} {mX1_rounds : Nat → Int32} {mX1_hashes : Nat → Option Nat} {mX1_next : Nat → Option Nat} {mX1_descriptions : Nat → Option Nat} {mX1_order : Nat → Option Nat} {mX1_begins : Nat → Option Nat} {mX1_groups : Nat → Int32} {mX1_numbers : Nat → Option Nat} {mX1_best : Nat → Option Nat} {mX1_row : Nat → Option Nat} {mX1_leastRow : Nat → Option Nat} {mX1_found : Nat → Int32} {mX1_many : Nat → Int32} {mX1_namedBlanks : Nat → Int32} {mX1_formCount : Nat → Int32} {mX1_given : Nat → Option Nat} {mX1_form : Nat → Option Nat} {mX1_octets : Nat → Option Nat} {mX1_ways : Nat → Int32} {mX1_wanted : Nat → Int32} {mX1_taken : Nat → Int32} {mX2_blanks : Nat → Int32} {mX2_count : Nat → Int32} {mX2_keys : Nat → Option Nat} {mX3_words : Nat → Option Nat} {mX3_block : Nat → Option Nat} {mX3_size : Nat → Int64} {mX4_bytes : Nat → Option Nat} {mX4_size : Nat → Int32} {a : Nat} {v : Int32} (hk : kd a = 2) : va_up (cCN ci d kd an ai al ar mX1_graph mX1_kept mX1_keptCount mX1_digest mX1_hashed mX1_rounds mX1_hashes mX1_next mX1_descriptions mX1_order mX1_begins mX1_groups mX1_numbers mX1_best mX1_row mX1_leastRow mX1_found mX1_many mX1_namedBlanks mX1_formCount mX1_given mX1_form mX1_octets mX1_ways mX1_wanted mX1_taken mX2_blanks mX2_count mX2_keys mX3_words mX3_block mX3_size mX4_bytes mX4_size) a (.inr (ci 1, [.int (mX2_blanks a), .int v, va_rf (mX2_keys a)])) = (cCN ci d kd an ai al ar mX1_graph mX1_kept mX1_keptCount mX1_digest mX1_hashed mX1_rounds mX1_hashes mX1_next mX1_descriptions mX1_order mX1_begins mX1_groups mX1_numbers mX1_best mX1_row mX1_leastRow mX1_found mX1_many mX1_namedBlanks mX1_formCount mX1_given mX1_form mX1_octets mX1_ways mX1_wanted mX1_taken mX2_blanks (va_up mX2_count a v) mX2_keys mX3_words mX3_block mX3_size mX4_bytes mX4_size) := by
  funext b
  by_cases h : b = a
  · subst h
    rw [va_up_self]
    unfold cCN
    rw [hk]
    simp only [va_up_self]
  · rw [va_up_ne _ _ h]
    unfold cCN
    simp only [va_up_ne _ _ h]
theorem cCN_2_2 {ci : Nat → Nat} {d : Nat → ClassId} {kd : Nat → Nat} {an : Nat → Nat} {ai : Nat → Nat → Int32} {al : Nat → Nat → Int64} {ar : Nat → Nat → Option Nat} {mX1_graph : Nat → Option Nat} {mX1_kept : Nat → Option Nat} {mX1_keptCount : Nat → Int32} {mX1_digest : Nat → Option Nat} {mX1_hashed : Nat → Int32} {mX1_rounds : Nat → Int32} {mX1_hashes : Nat → Option Nat} {mX1_next : Nat → Option Nat} {mX1_descriptions : Nat → Option Nat} {mX1_order : Nat → Option Nat} {mX1_begins : Nat → Option Nat} {mX1_groups : Nat → Int32} {mX1_numbers : Nat → Option Nat} {mX1_best : Nat → Option Nat} {mX1_row : Nat → Option Nat} {mX1_leastRow : Nat → Option Nat} {mX1_found : Nat → Int32} {mX1_many : Nat → Int32} {mX1_namedBlanks : Nat → Int32} {mX1_formCount : Nat → Int32} {mX1_given : Nat → Option Nat} {mX1_form : Nat → Option Nat} {mX1_octets : Nat → Option Nat} {mX1_ways : Nat → Int32} {mX1_wanted : Nat → Int32} {mX1_taken : Nat → Int32} {mX2_blanks : Nat → Int32} {mX2_count : Nat → Int32} {mX2_keys : Nat → Option Nat} {mX3_words : Nat → Option Nat} {mX3_block : Nat → Option Nat} {mX3_size : Nat → Int64} {mX4_bytes : Nat → Option Nat} {mX4_size : Nat → Int32} {a : Nat} {v : Option Nat} (hk : kd a = 2) : va_up (cCN ci d kd an ai al ar mX1_graph mX1_kept mX1_keptCount mX1_digest mX1_hashed mX1_rounds mX1_hashes mX1_next mX1_descriptions mX1_order mX1_begins mX1_groups mX1_numbers mX1_best mX1_row mX1_leastRow mX1_found mX1_many mX1_namedBlanks mX1_formCount mX1_given mX1_form mX1_octets mX1_ways mX1_wanted mX1_taken mX2_blanks mX2_count mX2_keys mX3_words mX3_block mX3_size mX4_bytes mX4_size) a (.inr (ci 1, [.int (mX2_blanks a), .int (mX2_count a), va_rf v])) = (cCN ci d kd an ai al ar mX1_graph mX1_kept mX1_keptCount mX1_digest mX1_hashed mX1_rounds mX1_hashes mX1_next mX1_descriptions mX1_order mX1_begins mX1_groups mX1_numbers mX1_best mX1_row mX1_leastRow mX1_found mX1_many mX1_namedBlanks mX1_formCount mX1_given mX1_form mX1_octets mX1_ways mX1_wanted mX1_taken mX2_blanks mX2_count (va_up mX2_keys a v) mX3_words mX3_block mX3_size mX4_bytes mX4_size) := by
  funext b
  by_cases h : b = a
  · subst h
    rw [va_up_self]
    unfold cCN
    rw [hk]
    simp only [va_up_self]
  · rw [va_up_ne _ _ h]
    unfold cCN
    simp only [va_up_ne _ _ h]
theorem cCN_2_n {ci : Nat → Nat} {d : Nat → ClassId} {kd : Nat → Nat} {an : Nat → Nat} {ai : Nat → Nat → Int32} {al : Nat → Nat → Int64} {ar : Nat → Nat → Option Nat} {mX1_graph : Nat → Option Nat} {mX1_kept : Nat → Option Nat} {mX1_keptCount : Nat → Int32} {mX1_digest : Nat → Option Nat} {mX1_hashed : Nat → Int32} {mX1_rounds : Nat → Int32} {mX1_hashes : Nat → Option Nat} {mX1_next : Nat → Option Nat} {mX1_descriptions : Nat → Option Nat} {mX1_order : Nat → Option Nat} {mX1_begins : Nat → Option Nat} {mX1_groups : Nat → Int32} {mX1_numbers : Nat → Option Nat} {mX1_best : Nat → Option Nat} {mX1_row : Nat → Option Nat} {mX1_leastRow : Nat → Option Nat} {mX1_found : Nat → Int32} {mX1_many : Nat → Int32} {mX1_namedBlanks : Nat → Int32} {mX1_formCount : Nat → Int32} {mX1_given : Nat → Option Nat} {mX1_form : Nat → Option Nat} {mX1_octets : Nat → Option Nat} {mX1_ways : Nat → Int32} {mX1_wanted : Nat → Int32} {mX1_taken : Nat → Int32} {mX2_blanks : Nat → Int32} {mX2_count : Nat → Int32} {mX2_keys : Nat → Option Nat} {mX3_words : Nat → Option Nat} {mX3_block : Nat → Option Nat} {mX3_size : Nat → Int64} {mX4_bytes : Nat → Option Nat} {mX4_size : Nat → Int32} (q : Nat) : va_up (cCN ci d kd an ai al ar mX1_graph mX1_kept mX1_keptCount mX1_digest mX1_hashed mX1_rounds mX1_hashes mX1_next mX1_descriptions mX1_order mX1_begins mX1_groups mX1_numbers mX1_best mX1_row mX1_leastRow mX1_found mX1_many mX1_namedBlanks mX1_formCount mX1_given mX1_form mX1_octets mX1_ways mX1_wanted mX1_taken mX2_blanks mX2_count mX2_keys mX3_words mX3_block mX3_size mX4_bytes mX4_size) q (.inr (ci 1, [.int 0, .int 0, va_rf none])) = (cCN ci d (va_up kd q 2) an ai al ar mX1_graph mX1_kept mX1_keptCount mX1_digest mX1_hashed mX1_rounds mX1_hashes mX1_next mX1_descriptions mX1_order mX1_begins mX1_groups mX1_numbers mX1_best mX1_row mX1_leastRow mX1_found mX1_many mX1_namedBlanks mX1_formCount mX1_given mX1_form mX1_octets mX1_ways mX1_wanted mX1_taken (va_up mX2_blanks q 0) (va_up mX2_count q 0) (va_up mX2_keys q none) mX3_words mX3_block mX3_size mX4_bytes mX4_size) := by
  funext b
  by_cases h : b = q
  · subst h
    rw [va_up_self]
    unfold cCN
    simp only [va_up_self]
  · rw [va_up_ne _ _ h]
    unfold cCN
    simp only [va_up_ne _ _ h]
theorem cCN_3 {ci : Nat → Nat} {d : Nat → ClassId} {kd : Nat → Nat} {an : Nat → Nat} {ai : Nat → Nat → Int32} {al : Nat → Nat → Int64} {ar : Nat → Nat → Option Nat} {mX1_graph : Nat → Option Nat} {mX1_kept : Nat → Option Nat} {mX1_keptCount : Nat → Int32} {mX1_digest : Nat → Option Nat} {mX1_hashed : Nat → Int32} {mX1_rounds : Nat → Int32} {mX1_hashes : Nat → Option Nat} {mX1_next : Nat → Option Nat} {mX1_descriptions : Nat → Option Nat} {mX1_order : Nat → Option Nat} {mX1_begins : Nat → Option Nat} {mX1_groups : Nat → Int32} {mX1_numbers : Nat → Option Nat} {mX1_best : Nat → Option Nat} {mX1_row : Nat → Option Nat} {mX1_leastRow : Nat → Option Nat} {mX1_found : Nat → Int32} {mX1_many : Nat → Int32} {mX1_namedBlanks : Nat → Int32} {mX1_formCount : Nat → Int32} {mX1_given : Nat → Option Nat} {mX1_form : Nat → Option Nat} {mX1_octets : Nat → Option Nat} {mX1_ways : Nat → Int32} {mX1_wanted : Nat → Int32} {mX1_taken : Nat → Int32} {mX2_blanks : Nat → Int32} {mX2_count : Nat → Int32} {mX2_keys : Nat → Option Nat} {mX3_words : Nat → Option Nat} {mX3_block : Nat → Option Nat} {mX3_size : Nat → Int64} {mX4_bytes : Nat → Option Nat} {mX4_size : Nat → Int32} {a : Nat} (hk : kd a = 3) : (cCN ci d kd an ai al ar mX1_graph mX1_kept mX1_keptCount mX1_digest mX1_hashed mX1_rounds mX1_hashes mX1_next mX1_descriptions mX1_order mX1_begins mX1_groups mX1_numbers mX1_best mX1_row mX1_leastRow mX1_found mX1_many mX1_namedBlanks mX1_formCount mX1_given mX1_form mX1_octets mX1_ways mX1_wanted mX1_taken mX2_blanks mX2_count mX2_keys mX3_words mX3_block mX3_size mX4_bytes mX4_size) a = .inr (ci 2, [va_rf (mX3_words a), va_rf (mX3_block a), .long (mX3_size a)]) := by unfold cCN; simp only [hk]
theorem cCN_3_0 {ci : Nat → Nat} {d : Nat → ClassId} {kd : Nat → Nat} {an : Nat → Nat} {ai : Nat → Nat → Int32} {al : Nat → Nat → Int64} {ar : Nat → Nat → Option Nat} {mX1_graph : Nat → Option Nat} {mX1_kept : Nat → Option Nat} {mX1_keptCount : Nat → Int32} {mX1_digest : Nat → Option Nat} {mX1_hashed : Nat → Int32} {mX1_rounds : Nat → Int32} {mX1_hashes : Nat → Option Nat} {mX1_next : Nat → Option Nat} {mX1_descriptions : Nat → Option Nat} {mX1_order : Nat → Option Nat} {mX1_begins : Nat → Option Nat} {mX1_groups : Nat → Int32} {mX1_numbers : Nat → Option Nat} {mX1_best : Nat → Option Nat} {mX1_row : Nat → Option Nat} {mX1_leastRow : Nat → Option Nat} {mX1_found : Nat → Int32} {mX1_many : Nat → Int32} {mX1_namedBlanks : Nat → Int32} {mX1_formCount : Nat → Int32} {mX1_given : Nat → Option Nat} {mX1_form : Nat → Option Nat} {mX1_octets : Nat → Option Nat} {mX1_ways : Nat → Int32} {mX1_wanted : Nat → Int32} {mX1_taken : Nat → Int32} {mX2_blanks : Nat → Int32} {mX2_count : Nat → Int32} {mX2_keys : Nat → Option Nat} {mX3_words : Nat → Option Nat} {mX3_block : Nat → Option Nat} {mX3_size : Nat → Int64} {mX4_bytes : Nat → Option Nat} {mX4_size : Nat → Int32} {a : Nat} {v : Option Nat} (hk : kd a = 3) : va_up (cCN ci d kd an ai al ar mX1_graph mX1_kept mX1_keptCount mX1_digest mX1_hashed mX1_rounds mX1_hashes mX1_next mX1_descriptions mX1_order mX1_begins mX1_groups mX1_numbers mX1_best mX1_row mX1_leastRow mX1_found mX1_many mX1_namedBlanks mX1_formCount mX1_given mX1_form mX1_octets mX1_ways mX1_wanted mX1_taken mX2_blanks mX2_count mX2_keys mX3_words mX3_block mX3_size mX4_bytes mX4_size) a (.inr (ci 2, [va_rf v, va_rf (mX3_block a), .long (mX3_size a)])) = (cCN ci d kd an ai al ar mX1_graph mX1_kept mX1_keptCount mX1_digest mX1_hashed mX1_rounds mX1_hashes mX1_next mX1_descriptions mX1_order mX1_begins mX1_groups mX1_numbers mX1_best mX1_row mX1_leastRow mX1_found mX1_many mX1_namedBlanks mX1_formCount mX1_given mX1_form mX1_octets mX1_ways mX1_wanted mX1_taken mX2_blanks mX2_count mX2_keys (va_up mX3_words a v) mX3_block mX3_size mX4_bytes mX4_size) := by
  funext b
  by_cases h : b = a
  · subst h
    rw [va_up_self]
    unfold cCN
    rw [hk]
    simp only [va_up_self]
  · rw [va_up_ne _ _ h]
    unfold cCN
    simp only [va_up_ne _ _ h]
theorem cCN_3_1 {ci : Nat → Nat} {d : Nat → ClassId} {kd : Nat → Nat} {an : Nat → Nat} {ai : Nat → Nat → Int32} {al : Nat → Nat → Int64} {ar : Nat → Nat → Option Nat} {mX1_graph : Nat → Option Nat} {mX1_kept : Nat → Option Nat} {mX1_keptCount : Nat → Int32} {mX1_digest : Nat → Option Nat} {mX1_hashed : Nat → Int32} {mX1_rounds : Nat → Int32} {mX1_hashes : Nat → Option Nat} {mX1_next : Nat → Option Nat} {mX1_descriptions : Nat → Option Nat} {mX1_order : Nat → Option Nat} {mX1_begins : Nat → Option Nat} {mX1_groups : Nat → Int32} {mX1_numbers : Nat → Option Nat} {mX1_best : Nat → Option Nat} {mX1_row : Nat → Option Nat} {mX1_leastRow : Nat → Option Nat} {mX1_found : Nat → Int32} {mX1_many : Nat → Int32} {mX1_namedBlanks : Nat → Int32} {mX1_formCount : Nat → Int32} {mX1_given : Nat → Option Nat} {mX1_form : Nat → Option Nat} {mX1_octets : Nat → Option Nat} {mX1_ways : Nat → Int32} {mX1_wanted : Nat → Int32} {mX1_taken : Nat → Int32} {mX2_blanks : Nat → Int32} {mX2_count : Nat → Int32} {mX2_keys : Nat → Option Nat} {mX3_words : Nat → Option Nat} {mX3_block : Nat → Option Nat} {mX3_size : Nat → Int64} {mX4_bytes : Nat → Option Nat} {mX4_size : Nat → Int32} {a : Nat} {v : Option Nat} (hk : kd a = 3) : va_up (cCN ci d kd an ai al ar mX1_graph mX1_kept mX1_keptCount mX1_digest mX1_hashed mX1_rounds mX1_hashes mX1_next mX1_descriptions mX1_order mX1_begins mX1_groups mX1_numbers mX1_best mX1_row mX1_leastRow mX1_found mX1_many mX1_namedBlanks mX1_formCount mX1_given mX1_form mX1_octets mX1_ways mX1_wanted mX1_taken mX2_blanks mX2_count mX2_keys mX3_words mX3_block mX3_size mX4_bytes mX4_size) a (.inr (ci 2, [va_rf (mX3_words a), va_rf v, .long (mX3_size a)])) = (cCN ci d kd an ai al ar mX1_graph mX1_kept mX1_keptCount mX1_digest mX1_hashed mX1_rounds mX1_hashes mX1_next mX1_descriptions mX1_order mX1_begins mX1_groups mX1_numbers mX1_best mX1_row mX1_leastRow mX1_found mX1_many mX1_namedBlanks mX1_formCount mX1_given mX1_form mX1_octets mX1_ways mX1_wanted mX1_taken mX2_blanks mX2_count mX2_keys mX3_words (va_up mX3_block a v) mX3_size mX4_bytes mX4_size) := by
  funext b
  by_cases h : b = a
  · subst h
    rw [va_up_self]
    unfold cCN
    rw [hk]
    simp only [va_up_self]
  · rw [va_up_ne _ _ h]
    unfold cCN
    simp only [va_up_ne _ _ h]
theorem cCN_3_2 {ci : Nat → Nat} {d : Nat → ClassId} {kd : Nat → Nat} {an : Nat → Nat} {ai : Nat → Nat → Int32} {al : Nat → Nat → Int64} {ar : Nat → Nat → Option Nat} {mX1_graph : Nat → Option Nat} {mX1_kept : Nat → Option Nat} {mX1_keptCount : Nat → Int32} {mX1_digest : Nat → Option Nat} {mX1_hashed : Nat → Int32} {mX1_rounds : Nat → Int32} {mX1_hashes : Nat → Option Nat} {mX1_next : Nat → Option Nat} {mX1_descriptions : Nat → Option Nat} {mX1_order : Nat → Option Nat} {mX1_begins : Nat → Option Nat} {mX1_groups : Nat → Int32} {mX1_numbers : Nat → Option Nat} {mX1_best : Nat → Option Nat} {mX1_row : Nat → Option Nat} {mX1_leastRow : Nat → Option Nat} {mX1_found : Nat → Int32} {mX1_many : Nat → Int32} {mX1_namedBlanks : Nat → Int32} {mX1_formCount : Nat → Int32} {mX1_given : Nat → Option Nat} {mX1_form : Nat → Option Nat} {mX1_octets : Nat → Option Nat} {mX1_ways : Nat → Int32} {mX1_wanted : Nat → Int32} {mX1_taken : Nat → Int32} {mX2_blanks : Nat → Int32} {mX2_count : Nat → Int32} {mX2_keys : Nat → Option Nat} {mX3_words : Nat → Option Nat} {mX3_block : Nat → Option Nat} {mX3_size : Nat → Int64} {mX4_bytes : Nat → Option Nat} {mX4_size : Nat → Int32} {a : Nat} {v : Int64} (hk : kd a = 3) : va_up (cCN ci d kd an ai al ar mX1_graph mX1_kept mX1_keptCount mX1_digest mX1_hashed mX1_rounds mX1_hashes mX1_next mX1_descriptions mX1_order mX1_begins mX1_groups mX1_numbers mX1_best mX1_row mX1_leastRow mX1_found mX1_many mX1_namedBlanks mX1_formCount mX1_given mX1_form mX1_octets mX1_ways mX1_wanted mX1_taken mX2_blanks mX2_count mX2_keys mX3_words mX3_block mX3_size mX4_bytes mX4_size) a (.inr (ci 2, [va_rf (mX3_words a), va_rf (mX3_block a), .long v])) = (cCN ci d kd an ai al ar mX1_graph mX1_kept mX1_keptCount mX1_digest mX1_hashed mX1_rounds mX1_hashes mX1_next mX1_descriptions mX1_order mX1_begins mX1_groups mX1_numbers mX1_best mX1_row mX1_leastRow mX1_found mX1_many mX1_namedBlanks mX1_formCount mX1_given mX1_form mX1_octets mX1_ways mX1_wanted mX1_taken mX2_blanks mX2_count mX2_keys mX3_words mX3_block (va_up mX3_size a v) mX4_bytes mX4_size) := by
  funext b
  by_cases h : b = a
  · subst h
    rw [va_up_self]
    unfold cCN
    rw [hk]
    simp only [va_up_self]
  · rw [va_up_ne _ _ h]
    unfold cCN
    simp only [va_up_ne _ _ h]
theorem cCN_3_n {ci : Nat → Nat} {d : Nat → ClassId} {kd : Nat → Nat} {an : Nat → Nat} {ai : Nat → Nat → Int32} {al : Nat → Nat → Int64} {ar : Nat → Nat → Option Nat} {mX1_graph : Nat → Option Nat} {mX1_kept : Nat → Option Nat} {mX1_keptCount : Nat → Int32} {mX1_digest : Nat → Option Nat} {mX1_hashed : Nat → Int32} {mX1_rounds : Nat → Int32} {mX1_hashes : Nat → Option Nat} {mX1_next : Nat → Option Nat} {mX1_descriptions : Nat → Option Nat} {mX1_order : Nat → Option Nat} {mX1_begins : Nat → Option Nat} {mX1_groups : Nat → Int32} {mX1_numbers : Nat → Option Nat} {mX1_best : Nat → Option Nat} {mX1_row : Nat → Option Nat} {mX1_leastRow : Nat → Option Nat} {mX1_found : Nat → Int32} {mX1_many : Nat → Int32} {mX1_namedBlanks : Nat → Int32} {mX1_formCount : Nat → Int32} {mX1_given : Nat → Option Nat} {mX1_form : Nat → Option Nat} {mX1_octets : Nat → Option Nat} {mX1_ways : Nat → Int32} {mX1_wanted : Nat → Int32} {mX1_taken : Nat → Int32} {mX2_blanks : Nat → Int32} {mX2_count : Nat → Int32} {mX2_keys : Nat → Option Nat} {mX3_words : Nat → Option Nat} {mX3_block : Nat → Option Nat} {mX3_size : Nat → Int64} {mX4_bytes : Nat → Option Nat} {mX4_size : Nat → Int32} (q : Nat) : va_up (cCN ci d kd an ai al ar mX1_graph mX1_kept mX1_keptCount mX1_digest mX1_hashed mX1_rounds mX1_hashes mX1_next mX1_descriptions mX1_order mX1_begins mX1_groups mX1_numbers mX1_best mX1_row mX1_leastRow mX1_found mX1_many mX1_namedBlanks mX1_formCount mX1_given mX1_form mX1_octets mX1_ways mX1_wanted mX1_taken mX2_blanks mX2_count mX2_keys mX3_words mX3_block mX3_size mX4_bytes mX4_size) q (.inr (ci 2, [va_rf none, va_rf none, .long 0])) = (cCN ci d (va_up kd q 3) an ai al ar mX1_graph mX1_kept mX1_keptCount mX1_digest mX1_hashed mX1_rounds mX1_hashes mX1_next mX1_descriptions mX1_order mX1_begins mX1_groups mX1_numbers mX1_best mX1_row mX1_leastRow mX1_found mX1_many mX1_namedBlanks mX1_formCount mX1_given mX1_form mX1_octets mX1_ways mX1_wanted mX1_taken mX2_blanks mX2_count mX2_keys (va_up mX3_words q none) (va_up mX3_block q none) (va_up mX3_size q 0) mX4_bytes mX4_size) := by
  funext b
  by_cases h : b = q
  · subst h
    rw [va_up_self]
    unfold cCN
    simp only [va_up_self]
  · rw [va_up_ne _ _ h]
    unfold cCN
    simp only [va_up_ne _ _ h]
theorem cCN_4 {ci : Nat → Nat} {d : Nat → ClassId} {kd : Nat → Nat} {an : Nat → Nat} {ai : Nat → Nat → Int32} {al : Nat → Nat → Int64} {ar : Nat → Nat → Option Nat} {mX1_graph : Nat → Option Nat} {mX1_kept : Nat → Option Nat} {mX1_keptCount : Nat → Int32} {mX1_digest : Nat → Option Nat} {mX1_hashed : Nat → Int32} {mX1_rounds : Nat → Int32} {mX1_hashes : Nat → Option Nat} {mX1_next : Nat → Option Nat} {mX1_descriptions : Nat → Option Nat} {mX1_order : Nat → Option Nat} {mX1_begins : Nat → Option Nat} {mX1_groups : Nat → Int32} {mX1_numbers : Nat → Option Nat} {mX1_best : Nat → Option Nat} {mX1_row : Nat → Option Nat} {mX1_leastRow : Nat → Option Nat} {mX1_found : Nat → Int32} {mX1_many : Nat → Int32} {mX1_namedBlanks : Nat → Int32} {mX1_formCount : Nat → Int32} {mX1_given : Nat → Option Nat} {mX1_form : Nat → Option Nat} {mX1_octets : Nat → Option Nat} {mX1_ways : Nat → Int32} {mX1_wanted : Nat → Int32} {mX1_taken : Nat → Int32} {mX2_blanks : Nat → Int32} {mX2_count : Nat → Int32} {mX2_keys : Nat → Option Nat} {mX3_words : Nat → Option Nat} {mX3_block : Nat → Option Nat} {mX3_size : Nat → Int64} {mX4_bytes : Nat → Option Nat} {mX4_size : Nat → Int32} {a : Nat} (hk : kd a = 4) : (cCN ci d kd an ai al ar mX1_graph mX1_kept mX1_keptCount mX1_digest mX1_hashed mX1_rounds mX1_hashes mX1_next mX1_descriptions mX1_order mX1_begins mX1_groups mX1_numbers mX1_best mX1_row mX1_leastRow mX1_found mX1_many mX1_namedBlanks mX1_formCount mX1_given mX1_form mX1_octets mX1_ways mX1_wanted mX1_taken mX2_blanks mX2_count mX2_keys mX3_words mX3_block mX3_size mX4_bytes mX4_size) a = .inr (ci 3, [va_rf (mX4_bytes a), .int (mX4_size a)]) := by unfold cCN; simp only [hk]
theorem cCN_4_0 {ci : Nat → Nat} {d : Nat → ClassId} {kd : Nat → Nat} {an : Nat → Nat} {ai : Nat → Nat → Int32} {al : Nat → Nat → Int64} {ar : Nat → Nat → Option Nat} {mX1_graph : Nat → Option Nat} {mX1_kept : Nat → Option Nat} {mX1_keptCount : Nat → Int32} {mX1_digest : Nat → Option Nat} {mX1_hashed : Nat → Int32} {mX1_rounds : Nat → Int32} {mX1_hashes : Nat → Option Nat} {mX1_next : Nat → Option Nat} {mX1_descriptions : Nat → Option Nat} {mX1_order : Nat → Option Nat} {mX1_begins : Nat → Option Nat} {mX1_groups : Nat → Int32} {mX1_numbers : Nat → Option Nat} {mX1_best : Nat → Option Nat} {mX1_row : Nat → Option Nat} {mX1_leastRow : Nat → Option Nat} {mX1_found : Nat → Int32} {mX1_many : Nat → Int32} {mX1_namedBlanks : Nat → Int32} {mX1_formCount : Nat → Int32} {mX1_given : Nat → Option Nat} {mX1_form : Nat → Option Nat} {mX1_octets : Nat → Option Nat} {mX1_ways : Nat → Int32} {mX1_wanted : Nat → Int32} {mX1_taken : Nat → Int32} {mX2_blanks : Nat → Int32} {mX2_count : Nat → Int32} {mX2_keys : Nat → Option Nat} {mX3_words : Nat → Option Nat} {mX3_block : Nat → Option Nat} {mX3_size : Nat → Int64} {mX4_bytes : Nat → Option Nat} {mX4_size : Nat → Int32} {a : Nat} {v : Option Nat} (hk : kd a = 4) : va_up (cCN ci d kd an ai al ar mX1_graph mX1_kept mX1_keptCount mX1_digest mX1_hashed mX1_rounds mX1_hashes mX1_next mX1_descriptions mX1_order mX1_begins mX1_groups mX1_numbers mX1_best mX1_row mX1_leastRow mX1_found mX1_many mX1_namedBlanks mX1_formCount mX1_given mX1_form mX1_octets mX1_ways mX1_wanted mX1_taken mX2_blanks mX2_count mX2_keys mX3_words mX3_block mX3_size mX4_bytes mX4_size) a (.inr (ci 3, [va_rf v, .int (mX4_size a)])) = (cCN ci d kd an ai al ar mX1_graph mX1_kept mX1_keptCount mX1_digest mX1_hashed mX1_rounds mX1_hashes mX1_next mX1_descriptions mX1_order mX1_begins mX1_groups mX1_numbers mX1_best mX1_row mX1_leastRow mX1_found mX1_many mX1_namedBlanks mX1_formCount mX1_given mX1_form mX1_octets mX1_ways mX1_wanted mX1_taken mX2_blanks mX2_count mX2_keys mX3_words mX3_block mX3_size (va_up mX4_bytes a v) mX4_size) := by
  funext b
  by_cases h : b = a
  · subst h
    rw [va_up_self]
    unfold cCN
    rw [hk]
    simp only [va_up_self]
  · rw [va_up_ne _ _ h]
    unfold cCN
    simp only [va_up_ne _ _ h]
theorem cCN_4_1 {ci : Nat → Nat} {d : Nat → ClassId} {kd : Nat → Nat} {an : Nat → Nat} {ai : Nat → Nat → Int32} {al : Nat → Nat → Int64} {ar : Nat → Nat → Option Nat} {mX1_graph : Nat → Option Nat} {mX1_kept : Nat → Option Nat} {mX1_keptCount : Nat → Int32} {mX1_digest : Nat → Option Nat} {mX1_hashed : Nat → Int32} {mX1_rounds : Nat → Int32} {mX1_hashes : Nat → Option Nat} {mX1_next : Nat → Option Nat} {mX1_descriptions : Nat → Option Nat} {mX1_order : Nat → Option Nat} {mX1_begins : Nat → Option Nat} {mX1_groups : Nat → Int32} {mX1_numbers : Nat → Option Nat} {mX1_best : Nat → Option Nat} {mX1_row : Nat → Option Nat} {mX1_leastRow : Nat → Option Nat} {mX1_found : Nat → Int32} {mX1_many : Nat → Int32} {mX1_namedBlanks : Nat → Int32} {mX1_formCount : Nat → Int32} {mX1_given : Nat → Option Nat} {mX1_form : Nat → Option Nat} {mX1_octets : Nat → Option Nat} {mX1_ways : Nat → Int32} {mX1_wanted : Nat → Int32} {mX1_taken : Nat → Int32} {mX2_blanks : Nat → Int32} {mX2_count : Nat → Int32} {mX2_keys : Nat → Option Nat} {mX3_words : Nat → Option Nat} {mX3_block : Nat → Option Nat} {mX3_size : Nat → Int64} {mX4_bytes : Nat → Option Nat} {mX4_size : Nat → Int32} {a : Nat} {v : Int32} (hk : kd a = 4) : va_up (cCN ci d kd an ai al ar mX1_graph mX1_kept mX1_keptCount mX1_digest mX1_hashed mX1_rounds mX1_hashes mX1_next mX1_descriptions mX1_order mX1_begins mX1_groups mX1_numbers mX1_best mX1_row mX1_leastRow mX1_found mX1_many mX1_namedBlanks mX1_formCount mX1_given mX1_form mX1_octets mX1_ways mX1_wanted mX1_taken mX2_blanks mX2_count mX2_keys mX3_words mX3_block mX3_size mX4_bytes mX4_size) a (.inr (ci 3, [va_rf (mX4_bytes a), .int v])) = (cCN ci d kd an ai al ar mX1_graph mX1_kept mX1_keptCount mX1_digest mX1_hashed mX1_rounds mX1_hashes mX1_next mX1_descriptions mX1_order mX1_begins mX1_groups mX1_numbers mX1_best mX1_row mX1_leastRow mX1_found mX1_many mX1_namedBlanks mX1_formCount mX1_given mX1_form mX1_octets mX1_ways mX1_wanted mX1_taken mX2_blanks mX2_count mX2_keys mX3_words mX3_block mX3_size mX4_bytes (va_up mX4_size a v)) := by
  funext b
  by_cases h : b = a
  · subst h
    rw [va_up_self]
    unfold cCN
    rw [hk]
    simp only [va_up_self]
  · rw [va_up_ne _ _ h]
    unfold cCN
    simp only [va_up_ne _ _ h]
theorem cCN_4_n {ci : Nat → Nat} {d : Nat → ClassId} {kd : Nat → Nat} {an : Nat → Nat} {ai : Nat → Nat → Int32} {al : Nat → Nat → Int64} {ar : Nat → Nat → Option Nat} {mX1_graph : Nat → Option Nat} {mX1_kept : Nat → Option Nat} {mX1_keptCount : Nat → Int32} {mX1_digest : Nat → Option Nat} {mX1_hashed : Nat → Int32} {mX1_rounds : Nat → Int32} {mX1_hashes : Nat → Option Nat} {mX1_next : Nat → Option Nat} {mX1_descriptions : Nat → Option Nat} {mX1_order : Nat → Option Nat} {mX1_begins : Nat → Option Nat} {mX1_groups : Nat → Int32} {mX1_numbers : Nat → Option Nat} {mX1_best : Nat → Option Nat} {mX1_row : Nat → Option Nat} {mX1_leastRow : Nat → Option Nat} {mX1_found : Nat → Int32} {mX1_many : Nat → Int32} {mX1_namedBlanks : Nat → Int32} {mX1_formCount : Nat → Int32} {mX1_given : Nat → Option Nat} {mX1_form : Nat → Option Nat} {mX1_octets : Nat → Option Nat} {mX1_ways : Nat → Int32} {mX1_wanted : Nat → Int32} {mX1_taken : Nat → Int32} {mX2_blanks : Nat → Int32} {mX2_count : Nat → Int32} {mX2_keys : Nat → Option Nat} {mX3_words : Nat → Option Nat} {mX3_block : Nat → Option Nat} {mX3_size : Nat → Int64} {mX4_bytes : Nat → Option Nat} {mX4_size : Nat → Int32} (q : Nat) : va_up (cCN ci d kd an ai al ar mX1_graph mX1_kept mX1_keptCount mX1_digest mX1_hashed mX1_rounds mX1_hashes mX1_next mX1_descriptions mX1_order mX1_begins mX1_groups mX1_numbers mX1_best mX1_row mX1_leastRow mX1_found mX1_many mX1_namedBlanks mX1_formCount mX1_given mX1_form mX1_octets mX1_ways mX1_wanted mX1_taken mX2_blanks mX2_count mX2_keys mX3_words mX3_block mX3_size mX4_bytes mX4_size) q (.inr (ci 3, [va_rf none, .int 0])) = (cCN ci d (va_up kd q 4) an ai al ar mX1_graph mX1_kept mX1_keptCount mX1_digest mX1_hashed mX1_rounds mX1_hashes mX1_next mX1_descriptions mX1_order mX1_begins mX1_groups mX1_numbers mX1_best mX1_row mX1_leastRow mX1_found mX1_many mX1_namedBlanks mX1_formCount mX1_given mX1_form mX1_octets mX1_ways mX1_wanted mX1_taken mX2_blanks mX2_count mX2_keys mX3_words mX3_block mX3_size (va_up mX4_bytes q none) (va_up mX4_size q 0)) := by
  funext b
  by_cases h : b = q
  · subst h
    rw [va_up_self]
    unfold cCN
    simp only [va_up_self]
  · rw [va_up_ne _ _ h]
    unfold cCN
    simp only [va_up_ne _ _ h]
theorem cCN_5 {ci : Nat → Nat} {d : Nat → ClassId} {kd : Nat → Nat} {an : Nat → Nat} {ai : Nat → Nat → Int32} {al : Nat → Nat → Int64} {ar : Nat → Nat → Option Nat} {mX1_graph : Nat → Option Nat} {mX1_kept : Nat → Option Nat} {mX1_keptCount : Nat → Int32} {mX1_digest : Nat → Option Nat} {mX1_hashed : Nat → Int32} {mX1_rounds : Nat → Int32} {mX1_hashes : Nat → Option Nat} {mX1_next : Nat → Option Nat} {mX1_descriptions : Nat → Option Nat} {mX1_order : Nat → Option Nat} {mX1_begins : Nat → Option Nat} {mX1_groups : Nat → Int32} {mX1_numbers : Nat → Option Nat} {mX1_best : Nat → Option Nat} {mX1_row : Nat → Option Nat} {mX1_leastRow : Nat → Option Nat} {mX1_found : Nat → Int32} {mX1_many : Nat → Int32} {mX1_namedBlanks : Nat → Int32} {mX1_formCount : Nat → Int32} {mX1_given : Nat → Option Nat} {mX1_form : Nat → Option Nat} {mX1_octets : Nat → Option Nat} {mX1_ways : Nat → Int32} {mX1_wanted : Nat → Int32} {mX1_taken : Nat → Int32} {mX2_blanks : Nat → Int32} {mX2_count : Nat → Int32} {mX2_keys : Nat → Option Nat} {mX3_words : Nat → Option Nat} {mX3_block : Nat → Option Nat} {mX3_size : Nat → Int64} {mX4_bytes : Nat → Option Nat} {mX4_size : Nat → Int32} {a : Nat} (hk : kd a = 5) : (cCN ci d kd an ai al ar mX1_graph mX1_kept mX1_keptCount mX1_digest mX1_hashed mX1_rounds mX1_hashes mX1_next mX1_descriptions mX1_order mX1_begins mX1_groups mX1_numbers mX1_best mX1_row mX1_leastRow mX1_found mX1_many mX1_namedBlanks mX1_formCount mX1_given mX1_form mX1_octets mX1_ways mX1_wanted mX1_taken mX2_blanks mX2_count mX2_keys mX3_words mX3_block mX3_size mX4_bytes mX4_size) a = .inl (d 0, an a, .inl (ai a)) := by unfold cCN; simp only [hk]
theorem cCN_5_s {ci : Nat → Nat} {d : Nat → ClassId} {kd : Nat → Nat} {an : Nat → Nat} {ai : Nat → Nat → Int32} {al : Nat → Nat → Int64} {ar : Nat → Nat → Option Nat} {mX1_graph : Nat → Option Nat} {mX1_kept : Nat → Option Nat} {mX1_keptCount : Nat → Int32} {mX1_digest : Nat → Option Nat} {mX1_hashed : Nat → Int32} {mX1_rounds : Nat → Int32} {mX1_hashes : Nat → Option Nat} {mX1_next : Nat → Option Nat} {mX1_descriptions : Nat → Option Nat} {mX1_order : Nat → Option Nat} {mX1_begins : Nat → Option Nat} {mX1_groups : Nat → Int32} {mX1_numbers : Nat → Option Nat} {mX1_best : Nat → Option Nat} {mX1_row : Nat → Option Nat} {mX1_leastRow : Nat → Option Nat} {mX1_found : Nat → Int32} {mX1_many : Nat → Int32} {mX1_namedBlanks : Nat → Int32} {mX1_formCount : Nat → Int32} {mX1_given : Nat → Option Nat} {mX1_form : Nat → Option Nat} {mX1_octets : Nat → Option Nat} {mX1_ways : Nat → Int32} {mX1_wanted : Nat → Int32} {mX1_taken : Nat → Int32} {mX2_blanks : Nat → Int32} {mX2_count : Nat → Int32} {mX2_keys : Nat → Option Nat} {mX3_words : Nat → Option Nat} {mX3_block : Nat → Option Nat} {mX3_size : Nat → Int64} {mX4_bytes : Nat → Option Nat} {mX4_size : Nat → Int32} {a : Nat} {g : Nat → Int32} (hk : kd a = 5) : va_up (cCN ci d kd an ai al ar mX1_graph mX1_kept mX1_keptCount mX1_digest mX1_hashed mX1_rounds mX1_hashes mX1_next mX1_descriptions mX1_order mX1_begins mX1_groups mX1_numbers mX1_best mX1_row mX1_leastRow mX1_found mX1_many mX1_namedBlanks mX1_formCount mX1_given mX1_form mX1_octets mX1_ways mX1_wanted mX1_taken mX2_blanks mX2_count mX2_keys mX3_words mX3_block mX3_size mX4_bytes mX4_size) a (.inl (d 0, an a, .inl g)) = (cCN ci d kd an (va_up ai a g) al ar mX1_graph mX1_kept mX1_keptCount mX1_digest mX1_hashed mX1_rounds mX1_hashes mX1_next mX1_descriptions mX1_order mX1_begins mX1_groups mX1_numbers mX1_best mX1_row mX1_leastRow mX1_found mX1_many mX1_namedBlanks mX1_formCount mX1_given mX1_form mX1_octets mX1_ways mX1_wanted mX1_taken mX2_blanks mX2_count mX2_keys mX3_words mX3_block mX3_size mX4_bytes mX4_size) := by
  funext b
  by_cases h : b = a
  · subst h
    rw [va_up_self]
    unfold cCN
    rw [hk]
    simp only [va_up_self]
  · rw [va_up_ne _ _ h]
    unfold cCN
    simp only [va_up_ne _ _ h]
theorem cCN_5_n {ci : Nat → Nat} {d : Nat → ClassId} {kd : Nat → Nat} {an : Nat → Nat} {ai : Nat → Nat → Int32} {al : Nat → Nat → Int64} {ar : Nat → Nat → Option Nat} {mX1_graph : Nat → Option Nat} {mX1_kept : Nat → Option Nat} {mX1_keptCount : Nat → Int32} {mX1_digest : Nat → Option Nat} {mX1_hashed : Nat → Int32} {mX1_rounds : Nat → Int32} {mX1_hashes : Nat → Option Nat} {mX1_next : Nat → Option Nat} {mX1_descriptions : Nat → Option Nat} {mX1_order : Nat → Option Nat} {mX1_begins : Nat → Option Nat} {mX1_groups : Nat → Int32} {mX1_numbers : Nat → Option Nat} {mX1_best : Nat → Option Nat} {mX1_row : Nat → Option Nat} {mX1_leastRow : Nat → Option Nat} {mX1_found : Nat → Int32} {mX1_many : Nat → Int32} {mX1_namedBlanks : Nat → Int32} {mX1_formCount : Nat → Int32} {mX1_given : Nat → Option Nat} {mX1_form : Nat → Option Nat} {mX1_octets : Nat → Option Nat} {mX1_ways : Nat → Int32} {mX1_wanted : Nat → Int32} {mX1_taken : Nat → Int32} {mX2_blanks : Nat → Int32} {mX2_count : Nat → Int32} {mX2_keys : Nat → Option Nat} {mX3_words : Nat → Option Nat} {mX3_block : Nat → Option Nat} {mX3_size : Nat → Int64} {mX4_bytes : Nat → Option Nat} {mX4_size : Nat → Int32} (n q : Nat) : va_up (cCN ci d kd an ai al ar mX1_graph mX1_kept mX1_keptCount mX1_digest mX1_hashed mX1_rounds mX1_hashes mX1_next mX1_descriptions mX1_order mX1_begins mX1_groups mX1_numbers mX1_best mX1_row mX1_leastRow mX1_found mX1_many mX1_namedBlanks mX1_formCount mX1_given mX1_form mX1_octets mX1_ways mX1_wanted mX1_taken mX2_blanks mX2_count mX2_keys mX3_words mX3_block mX3_size mX4_bytes mX4_size) q (.inl (d 0, n, .inl (fun _ => 0))) = (cCN ci d (va_up kd q 5) (va_up an q n) (va_up ai q (fun _ => 0)) al ar mX1_graph mX1_kept mX1_keptCount mX1_digest mX1_hashed mX1_rounds mX1_hashes mX1_next mX1_descriptions mX1_order mX1_begins mX1_groups mX1_numbers mX1_best mX1_row mX1_leastRow mX1_found mX1_many mX1_namedBlanks mX1_formCount mX1_given mX1_form mX1_octets mX1_ways mX1_wanted mX1_taken mX2_blanks mX2_count mX2_keys mX3_words mX3_block mX3_size mX4_bytes mX4_size) := by
  funext b
  by_cases h : b = q
  · subst h
    rw [va_up_self]
    unfold cCN
    simp only [va_up_self]
  · rw [va_up_ne _ _ h]
    unfold cCN
    simp only [va_up_ne _ _ h]
theorem cCN_6 {ci : Nat → Nat} {d : Nat → ClassId} {kd : Nat → Nat} {an : Nat → Nat} {ai : Nat → Nat → Int32} {al : Nat → Nat → Int64} {ar : Nat → Nat → Option Nat} {mX1_graph : Nat → Option Nat} {mX1_kept : Nat → Option Nat} {mX1_keptCount : Nat → Int32} {mX1_digest : Nat → Option Nat} {mX1_hashed : Nat → Int32} {mX1_rounds : Nat → Int32} {mX1_hashes : Nat → Option Nat} {mX1_next : Nat → Option Nat} {mX1_descriptions : Nat → Option Nat} {mX1_order : Nat → Option Nat} {mX1_begins : Nat → Option Nat} {mX1_groups : Nat → Int32} {mX1_numbers : Nat → Option Nat} {mX1_best : Nat → Option Nat} {mX1_row : Nat → Option Nat} {mX1_leastRow : Nat → Option Nat} {mX1_found : Nat → Int32} {mX1_many : Nat → Int32} {mX1_namedBlanks : Nat → Int32} {mX1_formCount : Nat → Int32} {mX1_given : Nat → Option Nat} {mX1_form : Nat → Option Nat} {mX1_octets : Nat → Option Nat} {mX1_ways : Nat → Int32} {mX1_wanted : Nat → Int32} {mX1_taken : Nat → Int32} {mX2_blanks : Nat → Int32} {mX2_count : Nat → Int32} {mX2_keys : Nat → Option Nat} {mX3_words : Nat → Option Nat} {mX3_block : Nat → Option Nat} {mX3_size : Nat → Int64} {mX4_bytes : Nat → Option Nat} {mX4_size : Nat → Int32} {a : Nat} (hk : kd a = 6) : (cCN ci d kd an ai al ar mX1_graph mX1_kept mX1_keptCount mX1_digest mX1_hashed mX1_rounds mX1_hashes mX1_next mX1_descriptions mX1_order mX1_begins mX1_groups mX1_numbers mX1_best mX1_row mX1_leastRow mX1_found mX1_many mX1_namedBlanks mX1_formCount mX1_given mX1_form mX1_octets mX1_ways mX1_wanted mX1_taken mX2_blanks mX2_count mX2_keys mX3_words mX3_block mX3_size mX4_bytes mX4_size) a = .inl (d 1, an a, .inr (.inl (al a))) := by unfold cCN; simp only [hk]
theorem cCN_6_s {ci : Nat → Nat} {d : Nat → ClassId} {kd : Nat → Nat} {an : Nat → Nat} {ai : Nat → Nat → Int32} {al : Nat → Nat → Int64} {ar : Nat → Nat → Option Nat} {mX1_graph : Nat → Option Nat} {mX1_kept : Nat → Option Nat} {mX1_keptCount : Nat → Int32} {mX1_digest : Nat → Option Nat} {mX1_hashed : Nat → Int32} {mX1_rounds : Nat → Int32} {mX1_hashes : Nat → Option Nat} {mX1_next : Nat → Option Nat} {mX1_descriptions : Nat → Option Nat} {mX1_order : Nat → Option Nat} {mX1_begins : Nat → Option Nat} {mX1_groups : Nat → Int32} {mX1_numbers : Nat → Option Nat} {mX1_best : Nat → Option Nat} {mX1_row : Nat → Option Nat} {mX1_leastRow : Nat → Option Nat} {mX1_found : Nat → Int32} {mX1_many : Nat → Int32} {mX1_namedBlanks : Nat → Int32} {mX1_formCount : Nat → Int32} {mX1_given : Nat → Option Nat} {mX1_form : Nat → Option Nat} {mX1_octets : Nat → Option Nat} {mX1_ways : Nat → Int32} {mX1_wanted : Nat → Int32} {mX1_taken : Nat → Int32} {mX2_blanks : Nat → Int32} {mX2_count : Nat → Int32} {mX2_keys : Nat → Option Nat} {mX3_words : Nat → Option Nat} {mX3_block : Nat → Option Nat} {mX3_size : Nat → Int64} {mX4_bytes : Nat → Option Nat} {mX4_size : Nat → Int32} {a : Nat} {g : Nat → Int64} (hk : kd a = 6) : va_up (cCN ci d kd an ai al ar mX1_graph mX1_kept mX1_keptCount mX1_digest mX1_hashed mX1_rounds mX1_hashes mX1_next mX1_descriptions mX1_order mX1_begins mX1_groups mX1_numbers mX1_best mX1_row mX1_leastRow mX1_found mX1_many mX1_namedBlanks mX1_formCount mX1_given mX1_form mX1_octets mX1_ways mX1_wanted mX1_taken mX2_blanks mX2_count mX2_keys mX3_words mX3_block mX3_size mX4_bytes mX4_size) a (.inl (d 1, an a, .inr (.inl g))) = (cCN ci d kd an ai (va_up al a g) ar mX1_graph mX1_kept mX1_keptCount mX1_digest mX1_hashed mX1_rounds mX1_hashes mX1_next mX1_descriptions mX1_order mX1_begins mX1_groups mX1_numbers mX1_best mX1_row mX1_leastRow mX1_found mX1_many mX1_namedBlanks mX1_formCount mX1_given mX1_form mX1_octets mX1_ways mX1_wanted mX1_taken mX2_blanks mX2_count mX2_keys mX3_words mX3_block mX3_size mX4_bytes mX4_size) := by
  funext b
  by_cases h : b = a
  · subst h
    rw [va_up_self]
    unfold cCN
    rw [hk]
    simp only [va_up_self]
  · rw [va_up_ne _ _ h]
    unfold cCN
    simp only [va_up_ne _ _ h]
theorem cCN_6_n {ci : Nat → Nat} {d : Nat → ClassId} {kd : Nat → Nat} {an : Nat → Nat} {ai : Nat → Nat → Int32} {al : Nat → Nat → Int64} {ar : Nat → Nat → Option Nat} {mX1_graph : Nat → Option Nat} {mX1_kept : Nat → Option Nat} {mX1_keptCount : Nat → Int32} {mX1_digest : Nat → Option Nat} {mX1_hashed : Nat → Int32} {mX1_rounds : Nat → Int32} {mX1_hashes : Nat → Option Nat} {mX1_next : Nat → Option Nat} {mX1_descriptions : Nat → Option Nat} {mX1_order : Nat → Option Nat} {mX1_begins : Nat → Option Nat} {mX1_groups : Nat → Int32} {mX1_numbers : Nat → Option Nat} {mX1_best : Nat → Option Nat} {mX1_row : Nat → Option Nat} {mX1_leastRow : Nat → Option Nat} {mX1_found : Nat → Int32} {mX1_many : Nat → Int32} {mX1_namedBlanks : Nat → Int32} {mX1_formCount : Nat → Int32} {mX1_given : Nat → Option Nat} {mX1_form : Nat → Option Nat} {mX1_octets : Nat → Option Nat} {mX1_ways : Nat → Int32} {mX1_wanted : Nat → Int32} {mX1_taken : Nat → Int32} {mX2_blanks : Nat → Int32} {mX2_count : Nat → Int32} {mX2_keys : Nat → Option Nat} {mX3_words : Nat → Option Nat} {mX3_block : Nat → Option Nat} {mX3_size : Nat → Int64} {mX4_bytes : Nat → Option Nat} {mX4_size : Nat → Int32} (n q : Nat) : va_up (cCN ci d kd an ai al ar mX1_graph mX1_kept mX1_keptCount mX1_digest mX1_hashed mX1_rounds mX1_hashes mX1_next mX1_descriptions mX1_order mX1_begins mX1_groups mX1_numbers mX1_best mX1_row mX1_leastRow mX1_found mX1_many mX1_namedBlanks mX1_formCount mX1_given mX1_form mX1_octets mX1_ways mX1_wanted mX1_taken mX2_blanks mX2_count mX2_keys mX3_words mX3_block mX3_size mX4_bytes mX4_size) q (.inl (d 1, n, .inr (.inl (fun _ => 0)))) = (cCN ci d (va_up kd q 6) (va_up an q n) ai (va_up al q (fun _ => 0)) ar mX1_graph mX1_kept mX1_keptCount mX1_digest mX1_hashed mX1_rounds mX1_hashes mX1_next mX1_descriptions mX1_order mX1_begins mX1_groups mX1_numbers mX1_best mX1_row mX1_leastRow mX1_found mX1_many mX1_namedBlanks mX1_formCount mX1_given mX1_form mX1_octets mX1_ways mX1_wanted mX1_taken mX2_blanks mX2_count mX2_keys mX3_words mX3_block mX3_size mX4_bytes mX4_size) := by
  funext b
  by_cases h : b = q
  · subst h
    rw [va_up_self]
    unfold cCN
    simp only [va_up_self]
  · rw [va_up_ne _ _ h]
    unfold cCN
    simp only [va_up_ne _ _ h]
theorem cCN_7 {ci : Nat → Nat} {d : Nat → ClassId} {kd : Nat → Nat} {an : Nat → Nat} {ai : Nat → Nat → Int32} {al : Nat → Nat → Int64} {ar : Nat → Nat → Option Nat} {mX1_graph : Nat → Option Nat} {mX1_kept : Nat → Option Nat} {mX1_keptCount : Nat → Int32} {mX1_digest : Nat → Option Nat} {mX1_hashed : Nat → Int32} {mX1_rounds : Nat → Int32} {mX1_hashes : Nat → Option Nat} {mX1_next : Nat → Option Nat} {mX1_descriptions : Nat → Option Nat} {mX1_order : Nat → Option Nat} {mX1_begins : Nat → Option Nat} {mX1_groups : Nat → Int32} {mX1_numbers : Nat → Option Nat} {mX1_best : Nat → Option Nat} {mX1_row : Nat → Option Nat} {mX1_leastRow : Nat → Option Nat} {mX1_found : Nat → Int32} {mX1_many : Nat → Int32} {mX1_namedBlanks : Nat → Int32} {mX1_formCount : Nat → Int32} {mX1_given : Nat → Option Nat} {mX1_form : Nat → Option Nat} {mX1_octets : Nat → Option Nat} {mX1_ways : Nat → Int32} {mX1_wanted : Nat → Int32} {mX1_taken : Nat → Int32} {mX2_blanks : Nat → Int32} {mX2_count : Nat → Int32} {mX2_keys : Nat → Option Nat} {mX3_words : Nat → Option Nat} {mX3_block : Nat → Option Nat} {mX3_size : Nat → Int64} {mX4_bytes : Nat → Option Nat} {mX4_size : Nat → Int32} {a : Nat} (hk : kd a = 7) : (cCN ci d kd an ai al ar mX1_graph mX1_kept mX1_keptCount mX1_digest mX1_hashed mX1_rounds mX1_hashes mX1_next mX1_descriptions mX1_order mX1_begins mX1_groups mX1_numbers mX1_best mX1_row mX1_leastRow mX1_found mX1_many mX1_namedBlanks mX1_formCount mX1_given mX1_form mX1_octets mX1_ways mX1_wanted mX1_taken mX2_blanks mX2_count mX2_keys mX3_words mX3_block mX3_size mX4_bytes mX4_size) a = .inl (d 2, an a, .inl (ai a)) := by unfold cCN; simp only [hk]
theorem cCN_7_s {ci : Nat → Nat} {d : Nat → ClassId} {kd : Nat → Nat} {an : Nat → Nat} {ai : Nat → Nat → Int32} {al : Nat → Nat → Int64} {ar : Nat → Nat → Option Nat} {mX1_graph : Nat → Option Nat} {mX1_kept : Nat → Option Nat} {mX1_keptCount : Nat → Int32} {mX1_digest : Nat → Option Nat} {mX1_hashed : Nat → Int32} {mX1_rounds : Nat → Int32} {mX1_hashes : Nat → Option Nat} {mX1_next : Nat → Option Nat} {mX1_descriptions : Nat → Option Nat} {mX1_order : Nat → Option Nat} {mX1_begins : Nat → Option Nat} {mX1_groups : Nat → Int32} {mX1_numbers : Nat → Option Nat} {mX1_best : Nat → Option Nat} {mX1_row : Nat → Option Nat} {mX1_leastRow : Nat → Option Nat} {mX1_found : Nat → Int32} {mX1_many : Nat → Int32} {mX1_namedBlanks : Nat → Int32} {mX1_formCount : Nat → Int32} {mX1_given : Nat → Option Nat} {mX1_form : Nat → Option Nat} {mX1_octets : Nat → Option Nat} {mX1_ways : Nat → Int32} {mX1_wanted : Nat → Int32} {mX1_taken : Nat → Int32} {mX2_blanks : Nat → Int32} {mX2_count : Nat → Int32} {mX2_keys : Nat → Option Nat} {mX3_words : Nat → Option Nat} {mX3_block : Nat → Option Nat} {mX3_size : Nat → Int64} {mX4_bytes : Nat → Option Nat} {mX4_size : Nat → Int32} {a : Nat} {g : Nat → Int32} (hk : kd a = 7) : va_up (cCN ci d kd an ai al ar mX1_graph mX1_kept mX1_keptCount mX1_digest mX1_hashed mX1_rounds mX1_hashes mX1_next mX1_descriptions mX1_order mX1_begins mX1_groups mX1_numbers mX1_best mX1_row mX1_leastRow mX1_found mX1_many mX1_namedBlanks mX1_formCount mX1_given mX1_form mX1_octets mX1_ways mX1_wanted mX1_taken mX2_blanks mX2_count mX2_keys mX3_words mX3_block mX3_size mX4_bytes mX4_size) a (.inl (d 2, an a, .inl g)) = (cCN ci d kd an (va_up ai a g) al ar mX1_graph mX1_kept mX1_keptCount mX1_digest mX1_hashed mX1_rounds mX1_hashes mX1_next mX1_descriptions mX1_order mX1_begins mX1_groups mX1_numbers mX1_best mX1_row mX1_leastRow mX1_found mX1_many mX1_namedBlanks mX1_formCount mX1_given mX1_form mX1_octets mX1_ways mX1_wanted mX1_taken mX2_blanks mX2_count mX2_keys mX3_words mX3_block mX3_size mX4_bytes mX4_size) := by
  funext b
  by_cases h : b = a
  · subst h
    rw [va_up_self]
    unfold cCN
    rw [hk]
    simp only [va_up_self]
  · rw [va_up_ne _ _ h]
    unfold cCN
    simp only [va_up_ne _ _ h]
theorem cCN_7_n {ci : Nat → Nat} {d : Nat → ClassId} {kd : Nat → Nat} {an : Nat → Nat} {ai : Nat → Nat → Int32} {al : Nat → Nat → Int64} {ar : Nat → Nat → Option Nat} {mX1_graph : Nat → Option Nat} {mX1_kept : Nat → Option Nat} {mX1_keptCount : Nat → Int32} {mX1_digest : Nat → Option Nat} {mX1_hashed : Nat → Int32} {mX1_rounds : Nat → Int32} {mX1_hashes : Nat → Option Nat} {mX1_next : Nat → Option Nat} {mX1_descriptions : Nat → Option Nat} {mX1_order : Nat → Option Nat} {mX1_begins : Nat → Option Nat} {mX1_groups : Nat → Int32} {mX1_numbers : Nat → Option Nat} {mX1_best : Nat → Option Nat} {mX1_row : Nat → Option Nat} {mX1_leastRow : Nat → Option Nat} {mX1_found : Nat → Int32} {mX1_many : Nat → Int32} {mX1_namedBlanks : Nat → Int32} {mX1_formCount : Nat → Int32} {mX1_given : Nat → Option Nat} {mX1_form : Nat → Option Nat} {mX1_octets : Nat → Option Nat} {mX1_ways : Nat → Int32} {mX1_wanted : Nat → Int32} {mX1_taken : Nat → Int32} {mX2_blanks : Nat → Int32} {mX2_count : Nat → Int32} {mX2_keys : Nat → Option Nat} {mX3_words : Nat → Option Nat} {mX3_block : Nat → Option Nat} {mX3_size : Nat → Int64} {mX4_bytes : Nat → Option Nat} {mX4_size : Nat → Int32} (n q : Nat) : va_up (cCN ci d kd an ai al ar mX1_graph mX1_kept mX1_keptCount mX1_digest mX1_hashed mX1_rounds mX1_hashes mX1_next mX1_descriptions mX1_order mX1_begins mX1_groups mX1_numbers mX1_best mX1_row mX1_leastRow mX1_found mX1_many mX1_namedBlanks mX1_formCount mX1_given mX1_form mX1_octets mX1_ways mX1_wanted mX1_taken mX2_blanks mX2_count mX2_keys mX3_words mX3_block mX3_size mX4_bytes mX4_size) q (.inl (d 2, n, .inl (fun _ => 0))) = (cCN ci d (va_up kd q 7) (va_up an q n) (va_up ai q (fun _ => 0)) al ar mX1_graph mX1_kept mX1_keptCount mX1_digest mX1_hashed mX1_rounds mX1_hashes mX1_next mX1_descriptions mX1_order mX1_begins mX1_groups mX1_numbers mX1_best mX1_row mX1_leastRow mX1_found mX1_many mX1_namedBlanks mX1_formCount mX1_given mX1_form mX1_octets mX1_ways mX1_wanted mX1_taken mX2_blanks mX2_count mX2_keys mX3_words mX3_block mX3_size mX4_bytes mX4_size) := by
  funext b
  by_cases h : b = q
  · subst h
    rw [va_up_self]
    unfold cCN
    simp only [va_up_self]
  · rw [va_up_ne _ _ h]
    unfold cCN
    simp only [va_up_ne _ _ h]
theorem cCN_8 {ci : Nat → Nat} {d : Nat → ClassId} {kd : Nat → Nat} {an : Nat → Nat} {ai : Nat → Nat → Int32} {al : Nat → Nat → Int64} {ar : Nat → Nat → Option Nat} {mX1_graph : Nat → Option Nat} {mX1_kept : Nat → Option Nat} {mX1_keptCount : Nat → Int32} {mX1_digest : Nat → Option Nat} {mX1_hashed : Nat → Int32} {mX1_rounds : Nat → Int32} {mX1_hashes : Nat → Option Nat} {mX1_next : Nat → Option Nat} {mX1_descriptions : Nat → Option Nat} {mX1_order : Nat → Option Nat} {mX1_begins : Nat → Option Nat} {mX1_groups : Nat → Int32} {mX1_numbers : Nat → Option Nat} {mX1_best : Nat → Option Nat} {mX1_row : Nat → Option Nat} {mX1_leastRow : Nat → Option Nat} {mX1_found : Nat → Int32} {mX1_many : Nat → Int32} {mX1_namedBlanks : Nat → Int32} {mX1_formCount : Nat → Int32} {mX1_given : Nat → Option Nat} {mX1_form : Nat → Option Nat} {mX1_octets : Nat → Option Nat} {mX1_ways : Nat → Int32} {mX1_wanted : Nat → Int32} {mX1_taken : Nat → Int32} {mX2_blanks : Nat → Int32} {mX2_count : Nat → Int32} {mX2_keys : Nat → Option Nat} {mX3_words : Nat → Option Nat} {mX3_block : Nat → Option Nat} {mX3_size : Nat → Int64} {mX4_bytes : Nat → Option Nat} {mX4_size : Nat → Int32} {a : Nat} (hk : kd a = 8) : (cCN ci d kd an ai al ar mX1_graph mX1_kept mX1_keptCount mX1_digest mX1_hashed mX1_rounds mX1_hashes mX1_next mX1_descriptions mX1_order mX1_begins mX1_groups mX1_numbers mX1_best mX1_row mX1_leastRow mX1_found mX1_many mX1_namedBlanks mX1_formCount mX1_given mX1_form mX1_octets mX1_ways mX1_wanted mX1_taken mX2_blanks mX2_count mX2_keys mX3_words mX3_block mX3_size mX4_bytes mX4_size) a = .inl (d 3, an a, .inr (.inr (.inr (.inr (ar a))))) := by unfold cCN; simp only [hk]
theorem cCN_8_s {ci : Nat → Nat} {d : Nat → ClassId} {kd : Nat → Nat} {an : Nat → Nat} {ai : Nat → Nat → Int32} {al : Nat → Nat → Int64} {ar : Nat → Nat → Option Nat} {mX1_graph : Nat → Option Nat} {mX1_kept : Nat → Option Nat} {mX1_keptCount : Nat → Int32} {mX1_digest : Nat → Option Nat} {mX1_hashed : Nat → Int32} {mX1_rounds : Nat → Int32} {mX1_hashes : Nat → Option Nat} {mX1_next : Nat → Option Nat} {mX1_descriptions : Nat → Option Nat} {mX1_order : Nat → Option Nat} {mX1_begins : Nat → Option Nat} {mX1_groups : Nat → Int32} {mX1_numbers : Nat → Option Nat} {mX1_best : Nat → Option Nat} {mX1_row : Nat → Option Nat} {mX1_leastRow : Nat → Option Nat} {mX1_found : Nat → Int32} {mX1_many : Nat → Int32} {mX1_namedBlanks : Nat → Int32} {mX1_formCount : Nat → Int32} {mX1_given : Nat → Option Nat} {mX1_form : Nat → Option Nat} {mX1_octets : Nat → Option Nat} {mX1_ways : Nat → Int32} {mX1_wanted : Nat → Int32} {mX1_taken : Nat → Int32} {mX2_blanks : Nat → Int32} {mX2_count : Nat → Int32} {mX2_keys : Nat → Option Nat} {mX3_words : Nat → Option Nat} {mX3_block : Nat → Option Nat} {mX3_size : Nat → Int64} {mX4_bytes : Nat → Option Nat} {mX4_size : Nat → Int32} {a : Nat} {g : Nat → Option Nat} (hk : kd a = 8) : va_up (cCN ci d kd an ai al ar mX1_graph mX1_kept mX1_keptCount mX1_digest mX1_hashed mX1_rounds mX1_hashes mX1_next mX1_descriptions mX1_order mX1_begins mX1_groups mX1_numbers mX1_best mX1_row mX1_leastRow mX1_found mX1_many mX1_namedBlanks mX1_formCount mX1_given mX1_form mX1_octets mX1_ways mX1_wanted mX1_taken mX2_blanks mX2_count mX2_keys mX3_words mX3_block mX3_size mX4_bytes mX4_size) a (.inl (d 3, an a, .inr (.inr (.inr (.inr g))))) = (cCN ci d kd an ai al (va_up ar a g) mX1_graph mX1_kept mX1_keptCount mX1_digest mX1_hashed mX1_rounds mX1_hashes mX1_next mX1_descriptions mX1_order mX1_begins mX1_groups mX1_numbers mX1_best mX1_row mX1_leastRow mX1_found mX1_many mX1_namedBlanks mX1_formCount mX1_given mX1_form mX1_octets mX1_ways mX1_wanted mX1_taken mX2_blanks mX2_count mX2_keys mX3_words mX3_block mX3_size mX4_bytes mX4_size) := by
  funext b
  by_cases h : b = a
  · subst h
    rw [va_up_self]
    unfold cCN
    rw [hk]
    simp only [va_up_self]
  · rw [va_up_ne _ _ h]
    unfold cCN
    simp only [va_up_ne _ _ h]
theorem cCN_8_n {ci : Nat → Nat} {d : Nat → ClassId} {kd : Nat → Nat} {an : Nat → Nat} {ai : Nat → Nat → Int32} {al : Nat → Nat → Int64} {ar : Nat → Nat → Option Nat} {mX1_graph : Nat → Option Nat} {mX1_kept : Nat → Option Nat} {mX1_keptCount : Nat → Int32} {mX1_digest : Nat → Option Nat} {mX1_hashed : Nat → Int32} {mX1_rounds : Nat → Int32} {mX1_hashes : Nat → Option Nat} {mX1_next : Nat → Option Nat} {mX1_descriptions : Nat → Option Nat} {mX1_order : Nat → Option Nat} {mX1_begins : Nat → Option Nat} {mX1_groups : Nat → Int32} {mX1_numbers : Nat → Option Nat} {mX1_best : Nat → Option Nat} {mX1_row : Nat → Option Nat} {mX1_leastRow : Nat → Option Nat} {mX1_found : Nat → Int32} {mX1_many : Nat → Int32} {mX1_namedBlanks : Nat → Int32} {mX1_formCount : Nat → Int32} {mX1_given : Nat → Option Nat} {mX1_form : Nat → Option Nat} {mX1_octets : Nat → Option Nat} {mX1_ways : Nat → Int32} {mX1_wanted : Nat → Int32} {mX1_taken : Nat → Int32} {mX2_blanks : Nat → Int32} {mX2_count : Nat → Int32} {mX2_keys : Nat → Option Nat} {mX3_words : Nat → Option Nat} {mX3_block : Nat → Option Nat} {mX3_size : Nat → Int64} {mX4_bytes : Nat → Option Nat} {mX4_size : Nat → Int32} (n q : Nat) : va_up (cCN ci d kd an ai al ar mX1_graph mX1_kept mX1_keptCount mX1_digest mX1_hashed mX1_rounds mX1_hashes mX1_next mX1_descriptions mX1_order mX1_begins mX1_groups mX1_numbers mX1_best mX1_row mX1_leastRow mX1_found mX1_many mX1_namedBlanks mX1_formCount mX1_given mX1_form mX1_octets mX1_ways mX1_wanted mX1_taken mX2_blanks mX2_count mX2_keys mX3_words mX3_block mX3_size mX4_bytes mX4_size) q (.inl (d 3, n, .inr (.inr (.inr (.inr (fun _ => none)))))) = (cCN ci d (va_up kd q 8) (va_up an q n) ai al (va_up ar q (fun _ => none)) mX1_graph mX1_kept mX1_keptCount mX1_digest mX1_hashed mX1_rounds mX1_hashes mX1_next mX1_descriptions mX1_order mX1_begins mX1_groups mX1_numbers mX1_best mX1_row mX1_leastRow mX1_found mX1_many mX1_namedBlanks mX1_formCount mX1_given mX1_form mX1_octets mX1_ways mX1_wanted mX1_taken mX2_blanks mX2_count mX2_keys mX3_words mX3_block mX3_size mX4_bytes mX4_size) := by
  funext b
  by_cases h : b = q
  · subst h
    rw [va_up_self]
    unfold cCN
    simp only [va_up_self]
  · rw [va_up_ne _ _ h]
    unfold cCN
    simp only [va_up_ne _ _ h]
theorem cCN_9 {ci : Nat → Nat} {d : Nat → ClassId} {kd : Nat → Nat} {an : Nat → Nat} {ai : Nat → Nat → Int32} {al : Nat → Nat → Int64} {ar : Nat → Nat → Option Nat} {mX1_graph : Nat → Option Nat} {mX1_kept : Nat → Option Nat} {mX1_keptCount : Nat → Int32} {mX1_digest : Nat → Option Nat} {mX1_hashed : Nat → Int32} {mX1_rounds : Nat → Int32} {mX1_hashes : Nat → Option Nat} {mX1_next : Nat → Option Nat} {mX1_descriptions : Nat → Option Nat} {mX1_order : Nat → Option Nat} {mX1_begins : Nat → Option Nat} {mX1_groups : Nat → Int32} {mX1_numbers : Nat → Option Nat} {mX1_best : Nat → Option Nat} {mX1_row : Nat → Option Nat} {mX1_leastRow : Nat → Option Nat} {mX1_found : Nat → Int32} {mX1_many : Nat → Int32} {mX1_namedBlanks : Nat → Int32} {mX1_formCount : Nat → Int32} {mX1_given : Nat → Option Nat} {mX1_form : Nat → Option Nat} {mX1_octets : Nat → Option Nat} {mX1_ways : Nat → Int32} {mX1_wanted : Nat → Int32} {mX1_taken : Nat → Int32} {mX2_blanks : Nat → Int32} {mX2_count : Nat → Int32} {mX2_keys : Nat → Option Nat} {mX3_words : Nat → Option Nat} {mX3_block : Nat → Option Nat} {mX3_size : Nat → Int64} {mX4_bytes : Nat → Option Nat} {mX4_size : Nat → Int32} {a : Nat} (hk : kd a = 9) : (cCN ci d kd an ai al ar mX1_graph mX1_kept mX1_keptCount mX1_digest mX1_hashed mX1_rounds mX1_hashes mX1_next mX1_descriptions mX1_order mX1_begins mX1_groups mX1_numbers mX1_best mX1_row mX1_leastRow mX1_found mX1_many mX1_namedBlanks mX1_formCount mX1_given mX1_form mX1_octets mX1_ways mX1_wanted mX1_taken mX2_blanks mX2_count mX2_keys mX3_words mX3_block mX3_size mX4_bytes mX4_size) a = .inl (d 4, an a, .inr (.inr (.inr (.inr (ar a))))) := by unfold cCN; simp only [hk]
theorem cCN_9_s {ci : Nat → Nat} {d : Nat → ClassId} {kd : Nat → Nat} {an : Nat → Nat} {ai : Nat → Nat → Int32} {al : Nat → Nat → Int64} {ar : Nat → Nat → Option Nat} {mX1_graph : Nat → Option Nat} {mX1_kept : Nat → Option Nat} {mX1_keptCount : Nat → Int32} {mX1_digest : Nat → Option Nat} {mX1_hashed : Nat → Int32} {mX1_rounds : Nat → Int32} {mX1_hashes : Nat → Option Nat} {mX1_next : Nat → Option Nat} {mX1_descriptions : Nat → Option Nat} {mX1_order : Nat → Option Nat} {mX1_begins : Nat → Option Nat} {mX1_groups : Nat → Int32} {mX1_numbers : Nat → Option Nat} {mX1_best : Nat → Option Nat} {mX1_row : Nat → Option Nat} {mX1_leastRow : Nat → Option Nat} {mX1_found : Nat → Int32} {mX1_many : Nat → Int32} {mX1_namedBlanks : Nat → Int32} {mX1_formCount : Nat → Int32} {mX1_given : Nat → Option Nat} {mX1_form : Nat → Option Nat} {mX1_octets : Nat → Option Nat} {mX1_ways : Nat → Int32} {mX1_wanted : Nat → Int32} {mX1_taken : Nat → Int32} {mX2_blanks : Nat → Int32} {mX2_count : Nat → Int32} {mX2_keys : Nat → Option Nat} {mX3_words : Nat → Option Nat} {mX3_block : Nat → Option Nat} {mX3_size : Nat → Int64} {mX4_bytes : Nat → Option Nat} {mX4_size : Nat → Int32} {a : Nat} {g : Nat → Option Nat} (hk : kd a = 9) : va_up (cCN ci d kd an ai al ar mX1_graph mX1_kept mX1_keptCount mX1_digest mX1_hashed mX1_rounds mX1_hashes mX1_next mX1_descriptions mX1_order mX1_begins mX1_groups mX1_numbers mX1_best mX1_row mX1_leastRow mX1_found mX1_many mX1_namedBlanks mX1_formCount mX1_given mX1_form mX1_octets mX1_ways mX1_wanted mX1_taken mX2_blanks mX2_count mX2_keys mX3_words mX3_block mX3_size mX4_bytes mX4_size) a (.inl (d 4, an a, .inr (.inr (.inr (.inr g))))) = (cCN ci d kd an ai al (va_up ar a g) mX1_graph mX1_kept mX1_keptCount mX1_digest mX1_hashed mX1_rounds mX1_hashes mX1_next mX1_descriptions mX1_order mX1_begins mX1_groups mX1_numbers mX1_best mX1_row mX1_leastRow mX1_found mX1_many mX1_namedBlanks mX1_formCount mX1_given mX1_form mX1_octets mX1_ways mX1_wanted mX1_taken mX2_blanks mX2_count mX2_keys mX3_words mX3_block mX3_size mX4_bytes mX4_size) := by
  funext b
  by_cases h : b = a
  · subst h
    rw [va_up_self]
    unfold cCN
    rw [hk]
    simp only [va_up_self]
  · rw [va_up_ne _ _ h]
    unfold cCN
    simp only [va_up_ne _ _ h]
theorem cCN_9_n {ci : Nat → Nat} {d : Nat → ClassId} {kd : Nat → Nat} {an : Nat → Nat} {ai : Nat → Nat → Int32} {al : Nat → Nat → Int64} {ar : Nat → Nat → Option Nat} {mX1_graph : Nat → Option Nat} {mX1_kept : Nat → Option Nat} {mX1_keptCount : Nat → Int32} {mX1_digest : Nat → Option Nat} {mX1_hashed : Nat → Int32} {mX1_rounds : Nat → Int32} {mX1_hashes : Nat → Option Nat} {mX1_next : Nat → Option Nat} {mX1_descriptions : Nat → Option Nat} {mX1_order : Nat → Option Nat} {mX1_begins : Nat → Option Nat} {mX1_groups : Nat → Int32} {mX1_numbers : Nat → Option Nat} {mX1_best : Nat → Option Nat} {mX1_row : Nat → Option Nat} {mX1_leastRow : Nat → Option Nat} {mX1_found : Nat → Int32} {mX1_many : Nat → Int32} {mX1_namedBlanks : Nat → Int32} {mX1_formCount : Nat → Int32} {mX1_given : Nat → Option Nat} {mX1_form : Nat → Option Nat} {mX1_octets : Nat → Option Nat} {mX1_ways : Nat → Int32} {mX1_wanted : Nat → Int32} {mX1_taken : Nat → Int32} {mX2_blanks : Nat → Int32} {mX2_count : Nat → Int32} {mX2_keys : Nat → Option Nat} {mX3_words : Nat → Option Nat} {mX3_block : Nat → Option Nat} {mX3_size : Nat → Int64} {mX4_bytes : Nat → Option Nat} {mX4_size : Nat → Int32} (n q : Nat) : va_up (cCN ci d kd an ai al ar mX1_graph mX1_kept mX1_keptCount mX1_digest mX1_hashed mX1_rounds mX1_hashes mX1_next mX1_descriptions mX1_order mX1_begins mX1_groups mX1_numbers mX1_best mX1_row mX1_leastRow mX1_found mX1_many mX1_namedBlanks mX1_formCount mX1_given mX1_form mX1_octets mX1_ways mX1_wanted mX1_taken mX2_blanks mX2_count mX2_keys mX3_words mX3_block mX3_size mX4_bytes mX4_size) q (.inl (d 4, n, .inr (.inr (.inr (.inr (fun _ => none)))))) = (cCN ci d (va_up kd q 9) (va_up an q n) ai al (va_up ar q (fun _ => none)) mX1_graph mX1_kept mX1_keptCount mX1_digest mX1_hashed mX1_rounds mX1_hashes mX1_next mX1_descriptions mX1_order mX1_begins mX1_groups mX1_numbers mX1_best mX1_row mX1_leastRow mX1_found mX1_many mX1_namedBlanks mX1_formCount mX1_given mX1_form mX1_octets mX1_ways mX1_wanted mX1_taken mX2_blanks mX2_count mX2_keys mX3_words mX3_block mX3_size mX4_bytes mX4_size) := by
  funext b
  by_cases h : b = q
  · subst h
    rw [va_up_self]
    unfold cCN
    simp only [va_up_self]
  · rw [va_up_ne _ _ h]
    unfold cCN
    simp only [va_up_ne _ _ h]
theorem cCN_10 {ci : Nat → Nat} {d : Nat → ClassId} {kd : Nat → Nat} {an : Nat → Nat} {ai : Nat → Nat → Int32} {al : Nat → Nat → Int64} {ar : Nat → Nat → Option Nat} {mX1_graph : Nat → Option Nat} {mX1_kept : Nat → Option Nat} {mX1_keptCount : Nat → Int32} {mX1_digest : Nat → Option Nat} {mX1_hashed : Nat → Int32} {mX1_rounds : Nat → Int32} {mX1_hashes : Nat → Option Nat} {mX1_next : Nat → Option Nat} {mX1_descriptions : Nat → Option Nat} {mX1_order : Nat → Option Nat} {mX1_begins : Nat → Option Nat} {mX1_groups : Nat → Int32} {mX1_numbers : Nat → Option Nat} {mX1_best : Nat → Option Nat} {mX1_row : Nat → Option Nat} {mX1_leastRow : Nat → Option Nat} {mX1_found : Nat → Int32} {mX1_many : Nat → Int32} {mX1_namedBlanks : Nat → Int32} {mX1_formCount : Nat → Int32} {mX1_given : Nat → Option Nat} {mX1_form : Nat → Option Nat} {mX1_octets : Nat → Option Nat} {mX1_ways : Nat → Int32} {mX1_wanted : Nat → Int32} {mX1_taken : Nat → Int32} {mX2_blanks : Nat → Int32} {mX2_count : Nat → Int32} {mX2_keys : Nat → Option Nat} {mX3_words : Nat → Option Nat} {mX3_block : Nat → Option Nat} {mX3_size : Nat → Int64} {mX4_bytes : Nat → Option Nat} {mX4_size : Nat → Int32} {a : Nat} (hk : kd a = 10) : (cCN ci d kd an ai al ar mX1_graph mX1_kept mX1_keptCount mX1_digest mX1_hashed mX1_rounds mX1_hashes mX1_next mX1_descriptions mX1_order mX1_begins mX1_groups mX1_numbers mX1_best mX1_row mX1_leastRow mX1_found mX1_many mX1_namedBlanks mX1_formCount mX1_given mX1_form mX1_octets mX1_ways mX1_wanted mX1_taken mX2_blanks mX2_count mX2_keys mX3_words mX3_block mX3_size mX4_bytes mX4_size) a = .inl (d 5, an a, .inr (.inr (.inr (.inr (ar a))))) := by unfold cCN; simp only [hk]
theorem cCN_10_s {ci : Nat → Nat} {d : Nat → ClassId} {kd : Nat → Nat} {an : Nat → Nat} {ai : Nat → Nat → Int32} {al : Nat → Nat → Int64} {ar : Nat → Nat → Option Nat} {mX1_graph : Nat → Option Nat} {mX1_kept : Nat → Option Nat} {mX1_keptCount : Nat → Int32} {mX1_digest : Nat → Option Nat} {mX1_hashed : Nat → Int32} {mX1_rounds : Nat → Int32} {mX1_hashes : Nat → Option Nat} {mX1_next : Nat → Option Nat} {mX1_descriptions : Nat → Option Nat} {mX1_order : Nat → Option Nat} {mX1_begins : Nat → Option Nat} {mX1_groups : Nat → Int32} {mX1_numbers : Nat → Option Nat} {mX1_best : Nat → Option Nat} {mX1_row : Nat → Option Nat} {mX1_leastRow : Nat → Option Nat} {mX1_found : Nat → Int32} {mX1_many : Nat → Int32} {mX1_namedBlanks : Nat → Int32} {mX1_formCount : Nat → Int32} {mX1_given : Nat → Option Nat} {mX1_form : Nat → Option Nat} {mX1_octets : Nat → Option Nat} {mX1_ways : Nat → Int32} {mX1_wanted : Nat → Int32} {mX1_taken : Nat → Int32} {mX2_blanks : Nat → Int32} {mX2_count : Nat → Int32} {mX2_keys : Nat → Option Nat} {mX3_words : Nat → Option Nat} {mX3_block : Nat → Option Nat} {mX3_size : Nat → Int64} {mX4_bytes : Nat → Option Nat} {mX4_size : Nat → Int32} {a : Nat} {g : Nat → Option Nat} (hk : kd a = 10) : va_up (cCN ci d kd an ai al ar mX1_graph mX1_kept mX1_keptCount mX1_digest mX1_hashed mX1_rounds mX1_hashes mX1_next mX1_descriptions mX1_order mX1_begins mX1_groups mX1_numbers mX1_best mX1_row mX1_leastRow mX1_found mX1_many mX1_namedBlanks mX1_formCount mX1_given mX1_form mX1_octets mX1_ways mX1_wanted mX1_taken mX2_blanks mX2_count mX2_keys mX3_words mX3_block mX3_size mX4_bytes mX4_size) a (.inl (d 5, an a, .inr (.inr (.inr (.inr g))))) = (cCN ci d kd an ai al (va_up ar a g) mX1_graph mX1_kept mX1_keptCount mX1_digest mX1_hashed mX1_rounds mX1_hashes mX1_next mX1_descriptions mX1_order mX1_begins mX1_groups mX1_numbers mX1_best mX1_row mX1_leastRow mX1_found mX1_many mX1_namedBlanks mX1_formCount mX1_given mX1_form mX1_octets mX1_ways mX1_wanted mX1_taken mX2_blanks mX2_count mX2_keys mX3_words mX3_block mX3_size mX4_bytes mX4_size) := by
  funext b
  by_cases h : b = a
  · subst h
    rw [va_up_self]
    unfold cCN
    rw [hk]
    simp only [va_up_self]
  · rw [va_up_ne _ _ h]
    unfold cCN
    simp only [va_up_ne _ _ h]
theorem cCN_10_n {ci : Nat → Nat} {d : Nat → ClassId} {kd : Nat → Nat} {an : Nat → Nat} {ai : Nat → Nat → Int32} {al : Nat → Nat → Int64} {ar : Nat → Nat → Option Nat} {mX1_graph : Nat → Option Nat} {mX1_kept : Nat → Option Nat} {mX1_keptCount : Nat → Int32} {mX1_digest : Nat → Option Nat} {mX1_hashed : Nat → Int32} {mX1_rounds : Nat → Int32} {mX1_hashes : Nat → Option Nat} {mX1_next : Nat → Option Nat} {mX1_descriptions : Nat → Option Nat} {mX1_order : Nat → Option Nat} {mX1_begins : Nat → Option Nat} {mX1_groups : Nat → Int32} {mX1_numbers : Nat → Option Nat} {mX1_best : Nat → Option Nat} {mX1_row : Nat → Option Nat} {mX1_leastRow : Nat → Option Nat} {mX1_found : Nat → Int32} {mX1_many : Nat → Int32} {mX1_namedBlanks : Nat → Int32} {mX1_formCount : Nat → Int32} {mX1_given : Nat → Option Nat} {mX1_form : Nat → Option Nat} {mX1_octets : Nat → Option Nat} {mX1_ways : Nat → Int32} {mX1_wanted : Nat → Int32} {mX1_taken : Nat → Int32} {mX2_blanks : Nat → Int32} {mX2_count : Nat → Int32} {mX2_keys : Nat → Option Nat} {mX3_words : Nat → Option Nat} {mX3_block : Nat → Option Nat} {mX3_size : Nat → Int64} {mX4_bytes : Nat → Option Nat} {mX4_size : Nat → Int32} (n q : Nat) : va_up (cCN ci d kd an ai al ar mX1_graph mX1_kept mX1_keptCount mX1_digest mX1_hashed mX1_rounds mX1_hashes mX1_next mX1_descriptions mX1_order mX1_begins mX1_groups mX1_numbers mX1_best mX1_row mX1_leastRow mX1_found mX1_many mX1_namedBlanks mX1_formCount mX1_given mX1_form mX1_octets mX1_ways mX1_wanted mX1_taken mX2_blanks mX2_count mX2_keys mX3_words mX3_block mX3_size mX4_bytes mX4_size) q (.inl (d 5, n, .inr (.inr (.inr (.inr (fun _ => none)))))) = (cCN ci d (va_up kd q 10) (va_up an q n) ai al (va_up ar q (fun _ => none)) mX1_graph mX1_kept mX1_keptCount mX1_digest mX1_hashed mX1_rounds mX1_hashes mX1_next mX1_descriptions mX1_order mX1_begins mX1_groups mX1_numbers mX1_best mX1_row mX1_leastRow mX1_found mX1_many mX1_namedBlanks mX1_formCount mX1_given mX1_form mX1_octets mX1_ways mX1_wanted mX1_taken mX2_blanks mX2_count mX2_keys mX3_words mX3_block mX3_size mX4_bytes mX4_size) := by
  funext b
  by_cases h : b = q
  · subst h
    rw [va_up_self]
    unfold cCN
    simp only [va_up_self]
  · rw [va_up_ne _ _ h]
    unfold cCN
    simp only [va_up_ne _ _ h]
