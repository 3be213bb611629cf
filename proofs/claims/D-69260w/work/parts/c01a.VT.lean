/-! room VT (printed by tools/zgen2.py) -/
set_option maxRecDepth 100000
def RX5 : String := "KnowHouse$VersionTrans"
def TX5 : u_T := fun k => match k with
  | 0 => ("KnowHouse$VersionTrans", "newest", "[LKnowHouse$VersionTrans$Row;", true)
  | 1 => ("KnowHouse$VersionTrans", "rows", "I", false)
  | 2 => ("KnowHouse$VersionTrans", "latest", "I", false)
  | 3 => ("KnowHouse$VersionTrans", "pins", "LKnowHouse$VersionTrans$Pin;", false)
  | 4 => ("KnowHouse$VersionTrans", "transactions", "[LKnowHouse$VersionTrans$Transaction;", true)
  | 5 => ("KnowHouse$VersionTrans", "count", "I", false)
  | 6 => ("KnowHouse$VersionTrans", "holders", "[LKnowHouse$VersionTrans$Writer;", true)
  | 7 => ("KnowHouse$VersionTrans", "tripleConflicts", "[I", true)
  | 8 => ("KnowHouse$VersionTrans", "graphConflicts", "[I", true)
  | 9 => ("KnowHouse$VersionTrans", "turns", "I", false)
  | 10 => ("KnowHouse$VersionTrans", "queue", "[LKnowHouse$VersionTrans$Writer;", true)
  | 11 => ("KnowHouse$VersionTrans", "head", "I", false)
  | 12 => ("KnowHouse$VersionTrans", "tail", "I", false)
  | _ => ("KnowHouse$VersionTrans", "ring", "[I", false)
def tyX5 : Nat → FieldType := fun k => match k with
  | 0 => .array (.object "KnowHouse$VersionTrans$Row")
  | 1 => .int
  | 2 => .int
  | 3 => .object "KnowHouse$VersionTrans$Pin"
  | 4 => .array (.object "KnowHouse$VersionTrans$Transaction")
  | 5 => .int
  | 6 => .array (.object "KnowHouse$VersionTrans$Writer")
  | 7 => .array .int
  | 8 => .array .int
  | 9 => .int
  | 10 => .array (.object "KnowHouse$VersionTrans$Writer")
  | 11 => .int
  | 12 => .int
  | _ => .array .int
abbrev wsX50 : List Cond := u_ws RX5 TX5 14
theorem nmX5 : ∀ a, a < 14 → ∀ b, b < 14 → a ≠ b → (TX5 a).2.1 ≠ (TX5 b).2.1 := by decide +kernel
theorem tyX5_ok : ∀ k, k < 14 → parseFieldDescriptor (TX5 k).2.2.1 = some (tyX5 k) := by decide +kernel
abbrev cX5_init : ByteArray := prog_65_method_3_code
def yX5_init : MethodName := ⟨RX5, "<init>", "()V"⟩
theorem dX5_init_0 : decode cX5_init 0 = .ok (.aload_n 0, 1) := by decide +kernel
theorem dX5_init_1 : decode cX5_init 1 = .ok (.invokespecial 21, 3) := by decide +kernel
theorem dX5_init_4 : decode cX5_init 4 = .ok (.aload_n 0, 1) := by decide +kernel
theorem dX5_init_5 : decode cX5_init 5 = .ok (.sipush 200, 3) := by decide +kernel
theorem dX5_init_8 : decode cX5_init 8 = .ok (.anewarray 8, 3) := by decide +kernel
theorem dX5_init_11 : decode cX5_init 11 = .ok (.putfield 1, 3) := by decide +kernel
theorem dX5_init_14 : decode cX5_init 14 = .ok (.aload_n 0, 1) := by decide +kernel
theorem dX5_init_15 : decode cX5_init 15 = .ok (.bipush 60, 2) := by decide +kernel
theorem dX5_init_17 : decode cX5_init 17 = .ok (.anewarray 27, 3) := by decide +kernel
theorem dX5_init_20 : decode cX5_init 20 = .ok (.putfield 29, 3) := by decide +kernel
theorem dX5_init_23 : decode cX5_init 23 = .ok (.aload_n 0, 1) := by decide +kernel
theorem dX5_init_24 : decode cX5_init 24 = .ok (.sipush 200, 3) := by decide +kernel
theorem dX5_init_27 : decode cX5_init 27 = .ok (.anewarray 33, 3) := by decide +kernel
theorem dX5_init_30 : decode cX5_init 30 = .ok (.putfield 35, 3) := by decide +kernel
theorem dX5_init_33 : decode cX5_init 33 = .ok (.aload_n 0, 1) := by decide +kernel
theorem dX5_init_34 : decode cX5_init 34 = .ok (.sipush 200, 3) := by decide +kernel
theorem dX5_init_37 : decode cX5_init 37 = .ok (.newarray .int, 2) := by decide +kernel
theorem dX5_init_39 : decode cX5_init 39 = .ok (.putfield 39, 3) := by decide +kernel
theorem dX5_init_42 : decode cX5_init 42 = .ok (.aload_n 0, 1) := by decide +kernel
theorem dX5_init_43 : decode cX5_init 43 = .ok (.iconst 4, 1) := by decide +kernel
theorem dX5_init_44 : decode cX5_init 44 = .ok (.newarray .int, 2) := by decide +kernel
theorem dX5_init_46 : decode cX5_init 46 = .ok (.putfield 43, 3) := by decide +kernel
theorem dX5_init_49 : decode cX5_init 49 = .ok (.aload_n 0, 1) := by decide +kernel
theorem dX5_init_50 : decode cX5_init 50 = .ok (.sipush 3600, 3) := by decide +kernel
theorem dX5_init_53 : decode cX5_init 53 = .ok (.anewarray 33, 3) := by decide +kernel
theorem dX5_init_56 : decode cX5_init 56 = .ok (.putfield 46, 3) := by decide +kernel
theorem dX5_init_59 : decode cX5_init 59 = .ok (.aload_n 0, 1) := by decide +kernel
theorem dX5_init_60 : decode cX5_init 60 = .ok (.iconst 0, 1) := by decide +kernel
theorem dX5_init_61 : decode cX5_init 61 = .ok (.newarray .int, 2) := by decide +kernel
theorem dX5_init_63 : decode cX5_init 63 = .ok (.putfield 49, 3) := by decide +kernel
theorem dX5_init_66 : decode cX5_init 66 = .ok (.return_, 1) := by decide +kernel
abbrev cX5_latest : ByteArray := prog_65_method_31_code
def yX5_latest : MethodName := ⟨RX5, "latest", "()I"⟩
theorem dX5_latest_0 : decode cX5_latest 0 = .ok (.aload_n 0, 1) := by decide +kernel
theorem dX5_latest_1 : decode cX5_latest 1 = .ok (.getfield 68, 3) := by decide +kernel
theorem dX5_latest_4 : decode cX5_latest 4 = .ok (.ireturn, 1) := by decide +kernel
abbrev cX5_begin : ByteArray := prog_65_method_8_code
def yX5_begin : MethodName := ⟨RX5, "begin", "()I"⟩
theorem dX5_begin_0 : decode cX5_begin 0 = .ok (.aload_n 0, 1) := by decide +kernel
theorem dX5_begin_1 : decode cX5_begin 1 = .ok (.getfield 58, 3) := by decide +kernel
theorem dX5_begin_4 : decode cX5_begin 4 = .ok (.bipush 60, 2) := by decide +kernel
theorem dX5_begin_6 : decode cX5_begin 6 = .ok (.if_icmp .ge 7, 3) := by decide +kernel
theorem dX5_begin_9 : decode cX5_begin 9 = .ok (.iconst 1, 1) := by decide +kernel
theorem dX5_begin_10 : decode cX5_begin 10 = .ok (.goto 4, 3) := by decide +kernel
theorem dX5_begin_13 : decode cX5_begin 13 = .ok (.iconst 0, 1) := by decide +kernel
theorem dX5_begin_14 : decode cX5_begin 14 = .ok (.invokestatic 65, 3) := by decide +kernel
theorem dX5_begin_17 : decode cX5_begin 17 = .ok (.aload_n 0, 1) := by decide +kernel
theorem dX5_begin_18 : decode cX5_begin 18 = .ok (.getfield 29, 3) := by decide +kernel
theorem dX5_begin_21 : decode cX5_begin 21 = .ok (.aload_n 0, 1) := by decide +kernel
theorem dX5_begin_22 : decode cX5_begin 22 = .ok (.getfield 58, 3) := by decide +kernel
theorem dX5_begin_25 : decode cX5_begin 25 = .ok (.new 33, 3) := by decide +kernel
theorem dX5_begin_28 : decode cX5_begin 28 = .ok (.dup, 1) := by decide +kernel
theorem dX5_begin_29 : decode cX5_begin 29 = .ok (.aload_n 0, 1) := by decide +kernel
theorem dX5_begin_30 : decode cX5_begin 30 = .ok (.getfield 58, 3) := by decide +kernel
theorem dX5_begin_33 : decode cX5_begin 33 = .ok (.aload_n 0, 1) := by decide +kernel
theorem dX5_begin_34 : decode cX5_begin 34 = .ok (.getfield 68, 3) := by decide +kernel
theorem dX5_begin_37 : decode cX5_begin 37 = .ok (.invokespecial 71, 3) := by decide +kernel
theorem dX5_begin_40 : decode cX5_begin 40 = .ok (.aastore, 1) := by decide +kernel
theorem dX5_begin_41 : decode cX5_begin 41 = .ok (.aload_n 0, 1) := by decide +kernel
theorem dX5_begin_42 : decode cX5_begin 42 = .ok (.dup, 1) := by decide +kernel
theorem dX5_begin_43 : decode cX5_begin 43 = .ok (.getfield 58, 3) := by decide +kernel
theorem dX5_begin_46 : decode cX5_begin 46 = .ok (.iconst 1, 1) := by decide +kernel
theorem dX5_begin_47 : decode cX5_begin 47 = .ok (.iadd, 1) := by decide +kernel
theorem dX5_begin_48 : decode cX5_begin 48 = .ok (.putfield 58, 3) := by decide +kernel
theorem dX5_begin_51 : decode cX5_begin 51 = .ok (.aload_n 0, 1) := by decide +kernel
theorem dX5_begin_52 : decode cX5_begin 52 = .ok (.getfield 58, 3) := by decide +kernel
theorem dX5_begin_55 : decode cX5_begin 55 = .ok (.iconst 1, 1) := by decide +kernel
theorem dX5_begin_56 : decode cX5_begin 56 = .ok (.isub, 1) := by decide +kernel
theorem dX5_begin_57 : decode cX5_begin 57 = .ok (.ireturn, 1) := by decide +kernel
abbrev cX5_may : ByteArray := prog_65_method_5_code
def yX5_may : MethodName := ⟨RX5, "may", "(Z)V"⟩
theorem dX5_may_0 : decode cX5_may 0 = .ok (.iload_n 0, 1) := by decide +kernel
theorem dX5_may_1 : decode cX5_may 1 = .ok (.ifCond .ne 11, 3) := by decide +kernel
theorem dX5_may_4 : decode cX5_may 4 = .ok (.new 55, 3) := by decide +kernel
theorem dX5_may_7 : decode cX5_may 7 = .ok (.dup, 1) := by decide +kernel
theorem dX5_may_8 : decode cX5_may 8 = .ok (.invokespecial 57, 3) := by decide +kernel
theorem dX5_may_11 : decode cX5_may 11 = .ok (.athrow, 1) := by decide +kernel
theorem dX5_may_12 : decode cX5_may 12 = .ok (.return_, 1) := by decide +kernel
abbrev cX5_put : ByteArray := prog_65_method_12_code
def yX5_put : MethodName := ⟨RX5, "put", "(IIZ)I"⟩
theorem dX5_put_0 : decode cX5_put 0 = .ok (.aload_n 0, 1) := by decide +kernel
theorem dX5_put_1 : decode cX5_put 1 = .ok (.iload_n 1, 1) := by decide +kernel
theorem dX5_put_2 : decode cX5_put 2 = .ok (.invokevirtual 94, 3) := by decide +kernel
theorem dX5_put_5 : decode cX5_put 5 = .ok (.astore 4, 2) := by decide +kernel
theorem dX5_put_7 : decode cX5_put 7 = .ok (.iload_n 2, 1) := by decide +kernel
theorem dX5_put_8 : decode cX5_put 8 = .ok (.invokestatic 98, 3) := by decide +kernel
theorem dX5_put_11 : decode cX5_put 11 = .ok (.aload 4, 2) := by decide +kernel
theorem dX5_put_13 : decode cX5_put 13 = .ok (.invokevirtual 101, 3) := by decide +kernel
theorem dX5_put_16 : decode cX5_put 16 = .ok (.astore 5, 2) := by decide +kernel
theorem dX5_put_18 : decode cX5_put 18 = .ok (.aload 5, 2) := by decide +kernel
theorem dX5_put_20 : decode cX5_put 20 = .ok (.invokestatic 105, 3) := by decide +kernel
theorem dX5_put_23 : decode cX5_put 23 = .ok (.aload 5, 2) := by decide +kernel
theorem dX5_put_25 : decode cX5_put 25 = .ok (.iload_n 2, 1) := by decide +kernel
theorem dX5_put_26 : decode cX5_put 26 = .ok (.putfield 109, 3) := by decide +kernel
theorem dX5_put_29 : decode cX5_put 29 = .ok (.aload 5, 2) := by decide +kernel
theorem dX5_put_31 : decode cX5_put 31 = .ok (.iload_n 3, 1) := by decide +kernel
theorem dX5_put_32 : decode cX5_put 32 = .ok (.putfield 112, 3) := by decide +kernel
theorem dX5_put_35 : decode cX5_put 35 = .ok (.aload_n 0, 1) := by decide +kernel
theorem dX5_put_36 : decode cX5_put 36 = .ok (.aload 5, 2) := by decide +kernel
theorem dX5_put_38 : decode cX5_put 38 = .ok (.invokevirtual 113, 3) := by decide +kernel
theorem dX5_put_41 : decode cX5_put 41 = .ok (.aload_n 0, 1) := by decide +kernel
theorem dX5_put_42 : decode cX5_put 42 = .ok (.invokevirtual 117, 3) := by decide +kernel
theorem dX5_put_45 : decode cX5_put 45 = .ok (.aload 5, 2) := by decide +kernel
theorem dX5_put_47 : decode cX5_put 47 = .ok (.getfield 120, 3) := by decide +kernel
theorem dX5_put_50 : decode cX5_put 50 = .ok (.getstatic 89, 3) := by decide +kernel
theorem dX5_put_53 : decode cX5_put 53 = .ok (.if_acmp .ne 7, 3) := by decide +kernel
theorem dX5_put_56 : decode cX5_put 56 = .ok (.iconst 1, 1) := by decide +kernel
theorem dX5_put_57 : decode cX5_put 57 = .ok (.goto 35, 3) := by decide +kernel
theorem dX5_put_60 : decode cX5_put 60 = .ok (.aload 5, 2) := by decide +kernel
theorem dX5_put_62 : decode cX5_put 62 = .ok (.getfield 120, 3) := by decide +kernel
theorem dX5_put_65 : decode cX5_put 65 = .ok (.getstatic 121, 3) := by decide +kernel
theorem dX5_put_68 : decode cX5_put 68 = .ok (.if_acmp .ne 7, 3) := by decide +kernel
theorem dX5_put_71 : decode cX5_put 71 = .ok (.iconst 0, 1) := by decide +kernel
theorem dX5_put_72 : decode cX5_put 72 = .ok (.goto 20, 3) := by decide +kernel
theorem dX5_put_75 : decode cX5_put 75 = .ok (.aload 5, 2) := by decide +kernel
theorem dX5_put_77 : decode cX5_put 77 = .ok (.getfield 120, 3) := by decide +kernel
theorem dX5_put_80 : decode cX5_put 80 = .ok (.getstatic 124, 3) := by decide +kernel
theorem dX5_put_83 : decode cX5_put 83 = .ok (.if_acmp .ne 7, 3) := by decide +kernel
theorem dX5_put_86 : decode cX5_put 86 = .ok (.iconst (-1), 1) := by decide +kernel
theorem dX5_put_87 : decode cX5_put 87 = .ok (.goto 5, 3) := by decide +kernel
theorem dX5_put_90 : decode cX5_put 90 = .ok (.bipush (-2), 2) := by decide +kernel
theorem dX5_put_92 : decode cX5_put 92 = .ok (.ireturn, 1) := by decide +kernel
abbrev cX5_at : ByteArray := prog_65_method_6_code
def yX5_at : MethodName := ⟨RX5, "at", "(I)LKnowHouse$VersionTrans$Transaction;"⟩
theorem dX5_at_0 : decode cX5_at 0 = .ok (.iload_n 1, 1) := by decide +kernel
theorem dX5_at_1 : decode cX5_at 1 = .ok (.ifCond .lt 15, 3) := by decide +kernel
theorem dX5_at_4 : decode cX5_at 4 = .ok (.iload_n 1, 1) := by decide +kernel
theorem dX5_at_5 : decode cX5_at 5 = .ok (.aload_n 0, 1) := by decide +kernel
theorem dX5_at_6 : decode cX5_at 6 = .ok (.getfield 58, 3) := by decide +kernel
theorem dX5_at_9 : decode cX5_at 9 = .ok (.if_icmp .ge 7, 3) := by decide +kernel
theorem dX5_at_12 : decode cX5_at 12 = .ok (.iconst 1, 1) := by decide +kernel
theorem dX5_at_13 : decode cX5_at 13 = .ok (.goto 4, 3) := by decide +kernel
theorem dX5_at_16 : decode cX5_at 16 = .ok (.iconst 0, 1) := by decide +kernel
theorem dX5_at_17 : decode cX5_at 17 = .ok (.invokestatic 61, 3) := by decide +kernel
theorem dX5_at_20 : decode cX5_at 20 = .ok (.aload_n 0, 1) := by decide +kernel
theorem dX5_at_21 : decode cX5_at 21 = .ok (.getfield 29, 3) := by decide +kernel
theorem dX5_at_24 : decode cX5_at 24 = .ok (.iload_n 1, 1) := by decide +kernel
theorem dX5_at_25 : decode cX5_at 25 = .ok (.aaload, 1) := by decide +kernel
theorem dX5_at_26 : decode cX5_at 26 = .ok (.areturn, 1) := by decide +kernel
abbrev cX5_need : ByteArray := prog_65_method_4_code
def yX5_need : MethodName := ⟨RX5, "need", "(Z)V"⟩
theorem dX5_need_0 : decode cX5_need 0 = .ok (.iload_n 0, 1) := by decide +kernel
theorem dX5_need_1 : decode cX5_need 1 = .ok (.ifCond .ne 11, 3) := by decide +kernel
theorem dX5_need_4 : decode cX5_need 4 = .ok (.new 52, 3) := by decide +kernel
theorem dX5_need_7 : decode cX5_need 7 = .ok (.dup, 1) := by decide +kernel
theorem dX5_need_8 : decode cX5_need 8 = .ok (.invokespecial 54, 3) := by decide +kernel
theorem dX5_need_11 : decode cX5_need 11 = .ok (.athrow, 1) := by decide +kernel
theorem dX5_need_12 : decode cX5_need 12 = .ok (.return_, 1) := by decide +kernel
abbrev cX5_needTriple : ByteArray := prog_65_method_7_code
def yX5_needTriple : MethodName := ⟨RX5, "needTriple", "(I)V"⟩
theorem dX5_needTriple_0 : decode cX5_needTriple 0 = .ok (.iload_n 0, 1) := by decide +kernel
theorem dX5_needTriple_1 : decode cX5_needTriple 1 = .ok (.ifCond .lt 14, 3) := by decide +kernel
theorem dX5_needTriple_4 : decode cX5_needTriple 4 = .ok (.iload_n 0, 1) := by decide +kernel
theorem dX5_needTriple_5 : decode cX5_needTriple 5 = .ok (.sipush 200, 3) := by decide +kernel
theorem dX5_needTriple_8 : decode cX5_needTriple 8 = .ok (.if_icmp .ge 7, 3) := by decide +kernel
theorem dX5_needTriple_11 : decode cX5_needTriple 11 = .ok (.iconst 1, 1) := by decide +kernel
theorem dX5_needTriple_12 : decode cX5_needTriple 12 = .ok (.goto 4, 3) := by decide +kernel
theorem dX5_needTriple_15 : decode cX5_needTriple 15 = .ok (.iconst 0, 1) := by decide +kernel
theorem dX5_needTriple_16 : decode cX5_needTriple 16 = .ok (.invokestatic 61, 3) := by decide +kernel
theorem dX5_needTriple_19 : decode cX5_needTriple 19 = .ok (.return_, 1) := by decide +kernel
abbrev cX5_needOpen : ByteArray := prog_65_method_11_code
def yX5_needOpen : MethodName := ⟨RX5, "needOpen", "(LKnowHouse$VersionTrans$Transaction;)V"⟩
theorem dX5_needOpen_0 : decode cX5_needOpen 0 = .ok (.aload_n 0, 1) := by decide +kernel
theorem dX5_needOpen_1 : decode cX5_needOpen 1 = .ok (.getfield 85, 3) := by decide +kernel
theorem dX5_needOpen_4 : decode cX5_needOpen 4 = .ok (.getstatic 89, 3) := by decide +kernel
theorem dX5_needOpen_7 : decode cX5_needOpen 7 = .ok (.if_acmp .ne 7, 3) := by decide +kernel
theorem dX5_needOpen_10 : decode cX5_needOpen 10 = .ok (.iconst 1, 1) := by decide +kernel
theorem dX5_needOpen_11 : decode cX5_needOpen 11 = .ok (.goto 4, 3) := by decide +kernel
theorem dX5_needOpen_14 : decode cX5_needOpen 14 = .ok (.iconst 0, 1) := by decide +kernel
theorem dX5_needOpen_15 : decode cX5_needOpen 15 = .ok (.invokestatic 65, 3) := by decide +kernel
theorem dX5_needOpen_18 : decode cX5_needOpen 18 = .ok (.return_, 1) := by decide +kernel
abbrev cX5_attempt : ByteArray := prog_65_method_13_code
def yX5_attempt : MethodName := ⟨RX5, "attempt", "(LKnowHouse$VersionTrans$Writer;)V"⟩
theorem dX5_attempt_0 : decode cX5_attempt 0 = .ok (.aload_n 1, 1) := by decide +kernel
theorem dX5_attempt_1 : decode cX5_attempt 1 = .ok (.getstatic 89, 3) := by decide +kernel
theorem dX5_attempt_4 : decode cX5_attempt 4 = .ok (.putfield 120, 3) := by decide +kernel
theorem dX5_attempt_7 : decode cX5_attempt 7 = .ok (.aload_n 1, 1) := by decide +kernel
theorem dX5_attempt_8 : decode cX5_attempt 8 = .ok (.aconst_null, 1) := by decide +kernel
theorem dX5_attempt_9 : decode cX5_attempt 9 = .ok (.putfield 127, 3) := by decide +kernel
theorem dX5_attempt_12 : decode cX5_attempt 12 = .ok (.aload_n 0, 1) := by decide +kernel
theorem dX5_attempt_13 : decode cX5_attempt 13 = .ok (.getfield 35, 3) := by decide +kernel
theorem dX5_attempt_16 : decode cX5_attempt 16 = .ok (.aload_n 1, 1) := by decide +kernel
theorem dX5_attempt_17 : decode cX5_attempt 17 = .ok (.getfield 109, 3) := by decide +kernel
theorem dX5_attempt_20 : decode cX5_attempt 20 = .ok (.aaload, 1) := by decide +kernel
theorem dX5_attempt_21 : decode cX5_attempt 21 = .ok (.astore_n 2, 1) := by decide +kernel
theorem dX5_attempt_22 : decode cX5_attempt 22 = .ok (.aload_n 0, 1) := by decide +kernel
theorem dX5_attempt_23 : decode cX5_attempt 23 = .ok (.aload_n 1, 1) := by decide +kernel
theorem dX5_attempt_24 : decode cX5_attempt 24 = .ok (.getfield 109, 3) := by decide +kernel
theorem dX5_attempt_27 : decode cX5_attempt 27 = .ok (.aload_n 1, 1) := by decide +kernel
theorem dX5_attempt_28 : decode cX5_attempt 28 = .ok (.getfield 131, 3) := by decide +kernel
theorem dX5_attempt_31 : decode cX5_attempt 31 = .ok (.invokevirtual 134, 3) := by decide +kernel
theorem dX5_attempt_34 : decode cX5_attempt 34 = .ok (.ifCond .eq 26, 3) := by decide +kernel
theorem dX5_attempt_37 : decode cX5_attempt 37 = .ok (.aload_n 1, 1) := by decide +kernel
theorem dX5_attempt_38 : decode cX5_attempt 38 = .ok (.getstatic 124, 3) := by decide +kernel
theorem dX5_attempt_41 : decode cX5_attempt 41 = .ok (.putfield 120, 3) := by decide +kernel
theorem dX5_attempt_44 : decode cX5_attempt 44 = .ok (.aload_n 0, 1) := by decide +kernel
theorem dX5_attempt_45 : decode cX5_attempt 45 = .ok (.getfield 39, 3) := by decide +kernel
theorem dX5_attempt_48 : decode cX5_attempt 48 = .ok (.aload_n 1, 1) := by decide +kernel
theorem dX5_attempt_49 : decode cX5_attempt 49 = .ok (.getfield 109, 3) := by decide +kernel
theorem dX5_attempt_52 : decode cX5_attempt 52 = .ok (.dup2, 1) := by decide +kernel
theorem dX5_attempt_53 : decode cX5_attempt 53 = .ok (.iaload, 1) := by decide +kernel
theorem dX5_attempt_54 : decode cX5_attempt 54 = .ok (.iconst 1, 1) := by decide +kernel
theorem dX5_attempt_55 : decode cX5_attempt 55 = .ok (.iadd, 1) := by decide +kernel
theorem dX5_attempt_56 : decode cX5_attempt 56 = .ok (.iastore, 1) := by decide +kernel
theorem dX5_attempt_57 : decode cX5_attempt 57 = .ok (.goto 64, 3) := by decide +kernel
theorem dX5_attempt_60 : decode cX5_attempt 60 = .ok (.aload_n 2, 1) := by decide +kernel
theorem dX5_attempt_61 : decode cX5_attempt 61 = .ok (.ifnull 46, 3) := by decide +kernel
theorem dX5_attempt_64 : decode cX5_attempt 64 = .ok (.aload_n 2, 1) := by decide +kernel
theorem dX5_attempt_65 : decode cX5_attempt 65 = .ok (.aload_n 1, 1) := by decide +kernel
theorem dX5_attempt_66 : decode cX5_attempt 66 = .ok (.if_acmp .eq 41, 3) := by decide +kernel
theorem dX5_attempt_69 : decode cX5_attempt 69 = .ok (.aload_n 1, 1) := by decide +kernel
theorem dX5_attempt_70 : decode cX5_attempt 70 = .ok (.getstatic 121, 3) := by decide +kernel
theorem dX5_attempt_73 : decode cX5_attempt 73 = .ok (.putfield 120, 3) := by decide +kernel
theorem dX5_attempt_76 : decode cX5_attempt 76 = .ok (.aload_n 1, 1) := by decide +kernel
theorem dX5_attempt_77 : decode cX5_attempt 77 = .ok (.aload_n 2, 1) := by decide +kernel
theorem dX5_attempt_78 : decode cX5_attempt 78 = .ok (.putfield 127, 3) := by decide +kernel
theorem dX5_attempt_81 : decode cX5_attempt 81 = .ok (.aload_n 0, 1) := by decide +kernel
theorem dX5_attempt_82 : decode cX5_attempt 82 = .ok (.dup, 1) := by decide +kernel
theorem dX5_attempt_83 : decode cX5_attempt 83 = .ok (.getfield 138, 3) := by decide +kernel
theorem dX5_attempt_86 : decode cX5_attempt 86 = .ok (.iconst 1, 1) := by decide +kernel
theorem dX5_attempt_87 : decode cX5_attempt 87 = .ok (.iadd, 1) := by decide +kernel
theorem dX5_attempt_88 : decode cX5_attempt 88 = .ok (.putfield 138, 3) := by decide +kernel
theorem dX5_attempt_91 : decode cX5_attempt 91 = .ok (.aload_n 1, 1) := by decide +kernel
theorem dX5_attempt_92 : decode cX5_attempt 92 = .ok (.aload_n 0, 1) := by decide +kernel
theorem dX5_attempt_93 : decode cX5_attempt 93 = .ok (.getfield 138, 3) := by decide +kernel
theorem dX5_attempt_96 : decode cX5_attempt 96 = .ok (.putfield 141, 3) := by decide +kernel
theorem dX5_attempt_99 : decode cX5_attempt 99 = .ok (.aload_n 0, 1) := by decide +kernel
theorem dX5_attempt_100 : decode cX5_attempt 100 = .ok (.aload_n 1, 1) := by decide +kernel
theorem dX5_attempt_101 : decode cX5_attempt 101 = .ok (.invokevirtual 144, 3) := by decide +kernel
theorem dX5_attempt_104 : decode cX5_attempt 104 = .ok (.goto 17, 3) := by decide +kernel
theorem dX5_attempt_107 : decode cX5_attempt 107 = .ok (.aload_n 0, 1) := by decide +kernel
theorem dX5_attempt_108 : decode cX5_attempt 108 = .ok (.getfield 35, 3) := by decide +kernel
theorem dX5_attempt_111 : decode cX5_attempt 111 = .ok (.aload_n 1, 1) := by decide +kernel
theorem dX5_attempt_112 : decode cX5_attempt 112 = .ok (.getfield 109, 3) := by decide +kernel
theorem dX5_attempt_115 : decode cX5_attempt 115 = .ok (.aload_n 1, 1) := by decide +kernel
theorem dX5_attempt_116 : decode cX5_attempt 116 = .ok (.aastore, 1) := by decide +kernel
theorem dX5_attempt_117 : decode cX5_attempt 117 = .ok (.aload_n 1, 1) := by decide +kernel
theorem dX5_attempt_118 : decode cX5_attempt 118 = .ok (.invokevirtual 147, 3) := by decide +kernel
theorem dX5_attempt_121 : decode cX5_attempt 121 = .ok (.return_, 1) := by decide +kernel
abbrev cX5_isChanged : ByteArray := prog_65_method_2_code
def yX5_isChanged : MethodName := ⟨RX5, "isChanged", "(II)Z"⟩
theorem dX5_isChanged_0 : decode cX5_isChanged 0 = .ok (.aload_n 0, 1) := by decide +kernel
theorem dX5_isChanged_1 : decode cX5_isChanged 1 = .ok (.getfield 1, 3) := by decide +kernel
theorem dX5_isChanged_4 : decode cX5_isChanged 4 = .ok (.iload_n 1, 1) := by decide +kernel
theorem dX5_isChanged_5 : decode cX5_isChanged 5 = .ok (.aaload, 1) := by decide +kernel
theorem dX5_isChanged_6 : decode cX5_isChanged 6 = .ok (.ifnull 20, 3) := by decide +kernel
theorem dX5_isChanged_9 : decode cX5_isChanged 9 = .ok (.aload_n 0, 1) := by decide +kernel
theorem dX5_isChanged_10 : decode cX5_isChanged 10 = .ok (.getfield 1, 3) := by decide +kernel
theorem dX5_isChanged_13 : decode cX5_isChanged 13 = .ok (.iload_n 1, 1) := by decide +kernel
theorem dX5_isChanged_14 : decode cX5_isChanged 14 = .ok (.aaload, 1) := by decide +kernel
theorem dX5_isChanged_15 : decode cX5_isChanged 15 = .ok (.getfield 7, 3) := by decide +kernel
theorem dX5_isChanged_18 : decode cX5_isChanged 18 = .ok (.iload_n 2, 1) := by decide +kernel
theorem dX5_isChanged_19 : decode cX5_isChanged 19 = .ok (.if_icmp .le 7, 3) := by decide +kernel
theorem dX5_isChanged_22 : decode cX5_isChanged 22 = .ok (.iconst 1, 1) := by decide +kernel
theorem dX5_isChanged_23 : decode cX5_isChanged 23 = .ok (.goto 4, 3) := by decide +kernel
theorem dX5_isChanged_26 : decode cX5_isChanged 26 = .ok (.iconst 0, 1) := by decide +kernel
theorem dX5_isChanged_27 : decode cX5_isChanged 27 = .ok (.ireturn, 1) := by decide +kernel
abbrev cX5_lookForRing : ByteArray := prog_65_method_14_code
def yX5_lookForRing : MethodName := ⟨RX5, "lookForRing", "(LKnowHouse$VersionTrans$Writer;)V"⟩
theorem dX5_lookForRing_0 : decode cX5_lookForRing 0 = .ok (.iconst 1, 1) := by decide +kernel
theorem dX5_lookForRing_1 : decode cX5_lookForRing 1 = .ok (.istore_n 2, 1) := by decide +kernel
theorem dX5_lookForRing_2 : decode cX5_lookForRing 2 = .ok (.aload_n 1, 1) := by decide +kernel
theorem dX5_lookForRing_3 : decode cX5_lookForRing 3 = .ok (.astore_n 3, 1) := by decide +kernel
theorem dX5_lookForRing_4 : decode cX5_lookForRing 4 = .ok (.aload_n 1, 1) := by decide +kernel
theorem dX5_lookForRing_5 : decode cX5_lookForRing 5 = .ok (.getfield 127, 3) := by decide +kernel
theorem dX5_lookForRing_8 : decode cX5_lookForRing 8 = .ok (.astore 4, 2) := by decide +kernel
theorem dX5_lookForRing_10 : decode cX5_lookForRing 10 = .ok (.aload 4, 2) := by decide +kernel
theorem dX5_lookForRing_12 : decode cX5_lookForRing 12 = .ok (.ifnull 52, 3) := by decide +kernel
theorem dX5_lookForRing_15 : decode cX5_lookForRing 15 = .ok (.aload 4, 2) := by decide +kernel
theorem dX5_lookForRing_17 : decode cX5_lookForRing 17 = .ok (.aload_n 1, 1) := by decide +kernel
theorem dX5_lookForRing_18 : decode cX5_lookForRing 18 = .ok (.if_acmp .eq 46, 3) := by decide +kernel
theorem dX5_lookForRing_21 : decode cX5_lookForRing 21 = .ok (.aload 4, 2) := by decide +kernel
theorem dX5_lookForRing_23 : decode cX5_lookForRing 23 = .ok (.getfield 150, 3) := by decide +kernel
theorem dX5_lookForRing_26 : decode cX5_lookForRing 26 = .ok (.aload_n 3, 1) := by decide +kernel
theorem dX5_lookForRing_27 : decode cX5_lookForRing 27 = .ok (.getfield 150, 3) := by decide +kernel
theorem dX5_lookForRing_30 : decode cX5_lookForRing 30 = .ok (.if_icmp .le 6, 3) := by decide +kernel
theorem dX5_lookForRing_33 : decode cX5_lookForRing 33 = .ok (.aload 4, 2) := by decide +kernel
theorem dX5_lookForRing_35 : decode cX5_lookForRing 35 = .ok (.astore_n 3, 1) := by decide +kernel
theorem dX5_lookForRing_36 : decode cX5_lookForRing 36 = .ok (.aload 4, 2) := by decide +kernel
theorem dX5_lookForRing_38 : decode cX5_lookForRing 38 = .ok (.getfield 120, 3) := by decide +kernel
theorem dX5_lookForRing_41 : decode cX5_lookForRing 41 = .ok (.getstatic 121, 3) := by decide +kernel
theorem dX5_lookForRing_44 : decode cX5_lookForRing 44 = .ok (.if_acmp .ne 11, 3) := by decide +kernel
theorem dX5_lookForRing_47 : decode cX5_lookForRing 47 = .ok (.aload 4, 2) := by decide +kernel
theorem dX5_lookForRing_49 : decode cX5_lookForRing 49 = .ok (.getfield 127, 3) := by decide +kernel
theorem dX5_lookForRing_52 : decode cX5_lookForRing 52 = .ok (.goto 4, 3) := by decide +kernel
theorem dX5_lookForRing_55 : decode cX5_lookForRing 55 = .ok (.aconst_null, 1) := by decide +kernel
theorem dX5_lookForRing_56 : decode cX5_lookForRing 56 = .ok (.astore 4, 2) := by decide +kernel
theorem dX5_lookForRing_58 : decode cX5_lookForRing 58 = .ok (.iinc 2 1, 3) := by decide +kernel
theorem dX5_lookForRing_61 : decode cX5_lookForRing 61 = .ok (.goto (-51), 3) := by decide +kernel
theorem dX5_lookForRing_64 : decode cX5_lookForRing 64 = .ok (.aload 4, 2) := by decide +kernel
theorem dX5_lookForRing_66 : decode cX5_lookForRing 66 = .ok (.ifnonnull 4, 3) := by decide +kernel
theorem dX5_lookForRing_69 : decode cX5_lookForRing 69 = .ok (.return_, 1) := by decide +kernel
theorem dX5_lookForRing_70 : decode cX5_lookForRing 70 = .ok (.aload_n 0, 1) := by decide +kernel
theorem dX5_lookForRing_71 : decode cX5_lookForRing 71 = .ok (.iload_n 2, 1) := by decide +kernel
theorem dX5_lookForRing_72 : decode cX5_lookForRing 72 = .ok (.newarray .int, 2) := by decide +kernel
theorem dX5_lookForRing_74 : decode cX5_lookForRing 74 = .ok (.putfield 49, 3) := by decide +kernel
theorem dX5_lookForRing_77 : decode cX5_lookForRing 77 = .ok (.iconst 0, 1) := by decide +kernel
theorem dX5_lookForRing_78 : decode cX5_lookForRing 78 = .ok (.istore 5, 2) := by decide +kernel
theorem dX5_lookForRing_80 : decode cX5_lookForRing 80 = .ok (.iconst 0, 1) := by decide +kernel
theorem dX5_lookForRing_81 : decode cX5_lookForRing 81 = .ok (.istore 6, 2) := by decide +kernel
theorem dX5_lookForRing_83 : decode cX5_lookForRing 83 = .ok (.iload 6, 2) := by decide +kernel
theorem dX5_lookForRing_85 : decode cX5_lookForRing 85 = .ok (.aload_n 0, 1) := by decide +kernel
theorem dX5_lookForRing_86 : decode cX5_lookForRing 86 = .ok (.getfield 58, 3) := by decide +kernel
theorem dX5_lookForRing_89 : decode cX5_lookForRing 89 = .ok (.if_icmp .ge 33, 3) := by decide +kernel
theorem dX5_lookForRing_92 : decode cX5_lookForRing 92 = .ok (.aload_n 1, 1) := by decide +kernel
theorem dX5_lookForRing_93 : decode cX5_lookForRing 93 = .ok (.iload 6, 2) := by decide +kernel
theorem dX5_lookForRing_95 : decode cX5_lookForRing 95 = .ok (.invokestatic 153, 3) := by decide +kernel
theorem dX5_lookForRing_98 : decode cX5_lookForRing 98 = .ok (.ifCond .ne 6, 3) := by decide +kernel
theorem dX5_lookForRing_101 : decode cX5_lookForRing 101 = .ok (.goto 15, 3) := by decide +kernel
theorem dX5_lookForRing_104 : decode cX5_lookForRing 104 = .ok (.aload_n 0, 1) := by decide +kernel
theorem dX5_lookForRing_105 : decode cX5_lookForRing 105 = .ok (.getfield 49, 3) := by decide +kernel
theorem dX5_lookForRing_108 : decode cX5_lookForRing 108 = .ok (.iload 5, 2) := by decide +kernel
theorem dX5_lookForRing_110 : decode cX5_lookForRing 110 = .ok (.iload 6, 2) := by decide +kernel
theorem dX5_lookForRing_112 : decode cX5_lookForRing 112 = .ok (.iastore, 1) := by decide +kernel
theorem dX5_lookForRing_113 : decode cX5_lookForRing 113 = .ok (.iinc 5 1, 3) := by decide +kernel
theorem dX5_lookForRing_116 : decode cX5_lookForRing 116 = .ok (.iinc 6 1, 3) := by decide +kernel
theorem dX5_lookForRing_119 : decode cX5_lookForRing 119 = .ok (.goto (-36), 3) := by decide +kernel
theorem dX5_lookForRing_122 : decode cX5_lookForRing 122 = .ok (.aload_n 3, 1) := by decide +kernel
theorem dX5_lookForRing_123 : decode cX5_lookForRing 123 = .ok (.getstatic 157, 3) := by decide +kernel
theorem dX5_lookForRing_126 : decode cX5_lookForRing 126 = .ok (.putfield 120, 3) := by decide +kernel
theorem dX5_lookForRing_129 : decode cX5_lookForRing 129 = .ok (.aload_n 0, 1) := by decide +kernel
theorem dX5_lookForRing_130 : decode cX5_lookForRing 130 = .ok (.aload_n 3, 1) := by decide +kernel
theorem dX5_lookForRing_131 : decode cX5_lookForRing 131 = .ok (.invokevirtual 160, 3) := by decide +kernel
theorem dX5_lookForRing_134 : decode cX5_lookForRing 134 = .ok (.return_, 1) := by decide +kernel
abbrev cX5_isOn : ByteArray := prog_65_method_15_code
def yX5_isOn : MethodName := ⟨RX5, "isOn", "(LKnowHouse$VersionTrans$Writer;I)Z"⟩
theorem dX5_isOn_0 : decode cX5_isOn 0 = .ok (.aload_n 0, 1) := by decide +kernel
theorem dX5_isOn_1 : decode cX5_isOn 1 = .ok (.getfield 150, 3) := by decide +kernel
theorem dX5_isOn_4 : decode cX5_isOn 4 = .ok (.iload_n 1, 1) := by decide +kernel
theorem dX5_isOn_5 : decode cX5_isOn 5 = .ok (.if_icmp .ne 5, 3) := by decide +kernel
theorem dX5_isOn_8 : decode cX5_isOn 8 = .ok (.iconst 1, 1) := by decide +kernel
theorem dX5_isOn_9 : decode cX5_isOn 9 = .ok (.ireturn, 1) := by decide +kernel
theorem dX5_isOn_10 : decode cX5_isOn 10 = .ok (.aload_n 0, 1) := by decide +kernel
theorem dX5_isOn_11 : decode cX5_isOn 11 = .ok (.getfield 127, 3) := by decide +kernel
theorem dX5_isOn_14 : decode cX5_isOn 14 = .ok (.astore_n 2, 1) := by decide +kernel
theorem dX5_isOn_15 : decode cX5_isOn 15 = .ok (.aload_n 2, 1) := by decide +kernel
theorem dX5_isOn_16 : decode cX5_isOn 16 = .ok (.aload_n 0, 1) := by decide +kernel
theorem dX5_isOn_17 : decode cX5_isOn 17 = .ok (.if_acmp .eq 19, 3) := by decide +kernel
theorem dX5_isOn_20 : decode cX5_isOn 20 = .ok (.aload_n 2, 1) := by decide +kernel
theorem dX5_isOn_21 : decode cX5_isOn 21 = .ok (.getfield 150, 3) := by decide +kernel
theorem dX5_isOn_24 : decode cX5_isOn 24 = .ok (.iload_n 1, 1) := by decide +kernel
theorem dX5_isOn_25 : decode cX5_isOn 25 = .ok (.if_icmp .eq 11, 3) := by decide +kernel
theorem dX5_isOn_28 : decode cX5_isOn 28 = .ok (.aload_n 2, 1) := by decide +kernel
theorem dX5_isOn_29 : decode cX5_isOn 29 = .ok (.getfield 127, 3) := by decide +kernel
theorem dX5_isOn_32 : decode cX5_isOn 32 = .ok (.astore_n 2, 1) := by decide +kernel
theorem dX5_isOn_33 : decode cX5_isOn 33 = .ok (.goto (-18), 3) := by decide +kernel
theorem dX5_isOn_36 : decode cX5_isOn 36 = .ok (.aload_n 2, 1) := by decide +kernel
theorem dX5_isOn_37 : decode cX5_isOn 37 = .ok (.aload_n 0, 1) := by decide +kernel
theorem dX5_isOn_38 : decode cX5_isOn 38 = .ok (.if_acmp .eq 7, 3) := by decide +kernel
theorem dX5_isOn_41 : decode cX5_isOn 41 = .ok (.iconst 1, 1) := by decide +kernel
theorem dX5_isOn_42 : decode cX5_isOn 42 = .ok (.goto 4, 3) := by decide +kernel
theorem dX5_isOn_45 : decode cX5_isOn 45 = .ok (.iconst 0, 1) := by decide +kernel
theorem dX5_isOn_46 : decode cX5_isOn 46 = .ok (.ireturn, 1) := by decide +kernel
abbrev cX5_end : ByteArray := prog_65_method_16_code
def yX5_end : MethodName := ⟨RX5, "end", "(LKnowHouse$VersionTrans$Writer;)V"⟩
theorem dX5_end_0 : decode cX5_end 0 = .ok (.aload_n 1, 1) := by decide +kernel
theorem dX5_end_1 : decode cX5_end 1 = .ok (.aload_n 0, 1) := by decide +kernel
theorem dX5_end_2 : decode cX5_end 2 = .ok (.invokevirtual 163, 3) := by decide +kernel
theorem dX5_end_5 : decode cX5_end 5 = .ok (.pop, 1) := by decide +kernel
theorem dX5_end_6 : decode cX5_end 6 = .ok (.iconst 0, 1) := by decide +kernel
theorem dX5_end_7 : decode cX5_end 7 = .ok (.istore_n 2, 1) := by decide +kernel
theorem dX5_end_8 : decode cX5_end 8 = .ok (.aload_n 0, 1) := by decide +kernel
theorem dX5_end_9 : decode cX5_end 9 = .ok (.aload_n 1, 1) := by decide +kernel
theorem dX5_end_10 : decode cX5_end 10 = .ok (.iload_n 2, 1) := by decide +kernel
theorem dX5_end_11 : decode cX5_end 11 = .ok (.invokevirtual 167, 3) := by decide +kernel
theorem dX5_end_14 : decode cX5_end 14 = .ok (.astore_n 3, 1) := by decide +kernel
theorem dX5_end_15 : decode cX5_end 15 = .ok (.aload_n 3, 1) := by decide +kernel
theorem dX5_end_16 : decode cX5_end 16 = .ok (.ifnull 44, 3) := by decide +kernel
theorem dX5_end_19 : decode cX5_end 19 = .ok (.aload_n 0, 1) := by decide +kernel
theorem dX5_end_20 : decode cX5_end 20 = .ok (.getfield 46, 3) := by decide +kernel
theorem dX5_end_23 : decode cX5_end 23 = .ok (.aload_n 0, 1) := by decide +kernel
theorem dX5_end_24 : decode cX5_end 24 = .ok (.getfield 171, 3) := by decide +kernel
theorem dX5_end_27 : decode cX5_end 27 = .ok (.aload_n 3, 1) := by decide +kernel
theorem dX5_end_28 : decode cX5_end 28 = .ok (.aastore, 1) := by decide +kernel
theorem dX5_end_29 : decode cX5_end 29 = .ok (.aload_n 0, 1) := by decide +kernel
theorem dX5_end_30 : decode cX5_end 30 = .ok (.aload_n 0, 1) := by decide +kernel
theorem dX5_end_31 : decode cX5_end 31 = .ok (.getfield 171, 3) := by decide +kernel
theorem dX5_end_34 : decode cX5_end 34 = .ok (.iconst 1, 1) := by decide +kernel
theorem dX5_end_35 : decode cX5_end 35 = .ok (.iadd, 1) := by decide +kernel
theorem dX5_end_36 : decode cX5_end 36 = .ok (.aload_n 0, 1) := by decide +kernel
theorem dX5_end_37 : decode cX5_end 37 = .ok (.getfield 46, 3) := by decide +kernel
theorem dX5_end_40 : decode cX5_end 40 = .ok (.arraylength, 1) := by decide +kernel
theorem dX5_end_41 : decode cX5_end 41 = .ok (.irem, 1) := by decide +kernel
theorem dX5_end_42 : decode cX5_end 42 = .ok (.putfield 171, 3) := by decide +kernel
theorem dX5_end_45 : decode cX5_end 45 = .ok (.aload_n 3, 1) := by decide +kernel
theorem dX5_end_46 : decode cX5_end 46 = .ok (.getfield 141, 3) := by decide +kernel
theorem dX5_end_49 : decode cX5_end 49 = .ok (.istore_n 2, 1) := by decide +kernel
theorem dX5_end_50 : decode cX5_end 50 = .ok (.aload_n 0, 1) := by decide +kernel
theorem dX5_end_51 : decode cX5_end 51 = .ok (.aload_n 1, 1) := by decide +kernel
theorem dX5_end_52 : decode cX5_end 52 = .ok (.iload_n 2, 1) := by decide +kernel
theorem dX5_end_53 : decode cX5_end 53 = .ok (.invokevirtual 167, 3) := by decide +kernel
theorem dX5_end_56 : decode cX5_end 56 = .ok (.astore_n 3, 1) := by decide +kernel
theorem dX5_end_57 : decode cX5_end 57 = .ok (.goto (-42), 3) := by decide +kernel
theorem dX5_end_60 : decode cX5_end 60 = .ok (.return_, 1) := by decide +kernel
abbrev cX5_nextWaiting : ByteArray := prog_65_method_17_code
def yX5_nextWaiting : MethodName := ⟨RX5, "nextWaiting", "(LKnowHouse$VersionTrans$Writer;I)LKnowHouse$VersionTrans$Writer;"⟩
theorem dX5_nextWaiting_0 : decode cX5_nextWaiting 0 = .ok (.aconst_null, 1) := by decide +kernel
theorem dX5_nextWaiting_1 : decode cX5_nextWaiting 1 = .ok (.astore_n 3, 1) := by decide +kernel
theorem dX5_nextWaiting_2 : decode cX5_nextWaiting 2 = .ok (.iconst 0, 1) := by decide +kernel
theorem dX5_nextWaiting_3 : decode cX5_nextWaiting 3 = .ok (.istore 4, 2) := by decide +kernel
theorem dX5_nextWaiting_5 : decode cX5_nextWaiting 5 = .ok (.iload 4, 2) := by decide +kernel
theorem dX5_nextWaiting_7 : decode cX5_nextWaiting 7 = .ok (.aload_n 0, 1) := by decide +kernel
theorem dX5_nextWaiting_8 : decode cX5_nextWaiting 8 = .ok (.getfield 58, 3) := by decide +kernel
theorem dX5_nextWaiting_11 : decode cX5_nextWaiting 11 = .ok (.if_icmp .ge 81, 3) := by decide +kernel
theorem dX5_nextWaiting_14 : decode cX5_nextWaiting 14 = .ok (.aload_n 0, 1) := by decide +kernel
theorem dX5_nextWaiting_15 : decode cX5_nextWaiting 15 = .ok (.getfield 29, 3) := by decide +kernel
theorem dX5_nextWaiting_18 : decode cX5_nextWaiting 18 = .ok (.iload 4, 2) := by decide +kernel
theorem dX5_nextWaiting_20 : decode cX5_nextWaiting 20 = .ok (.aaload, 1) := by decide +kernel
theorem dX5_nextWaiting_21 : decode cX5_nextWaiting 21 = .ok (.astore 6, 2) := by decide +kernel
theorem dX5_nextWaiting_23 : decode cX5_nextWaiting 23 = .ok (.aload 6, 2) := by decide +kernel
theorem dX5_nextWaiting_25 : decode cX5_nextWaiting 25 = .ok (.instanceof 33, 3) := by decide +kernel
theorem dX5_nextWaiting_28 : decode cX5_nextWaiting 28 = .ok (.ifCond .eq 58, 3) := by decide +kernel
theorem dX5_nextWaiting_31 : decode cX5_nextWaiting 31 = .ok (.aload 6, 2) := by decide +kernel
theorem dX5_nextWaiting_33 : decode cX5_nextWaiting 33 = .ok (.checkcast 33, 3) := by decide +kernel
theorem dX5_nextWaiting_36 : decode cX5_nextWaiting 36 = .ok (.astore 5, 2) := by decide +kernel
theorem dX5_nextWaiting_38 : decode cX5_nextWaiting 38 = .ok (.aload 5, 2) := by decide +kernel
theorem dX5_nextWaiting_40 : decode cX5_nextWaiting 40 = .ok (.getfield 120, 3) := by decide +kernel
theorem dX5_nextWaiting_43 : decode cX5_nextWaiting 43 = .ok (.getstatic 121, 3) := by decide +kernel
theorem dX5_nextWaiting_46 : decode cX5_nextWaiting 46 = .ok (.if_acmp .ne 40, 3) := by decide +kernel
theorem dX5_nextWaiting_49 : decode cX5_nextWaiting 49 = .ok (.aload 5, 2) := by decide +kernel
theorem dX5_nextWaiting_51 : decode cX5_nextWaiting 51 = .ok (.getfield 127, 3) := by decide +kernel
theorem dX5_nextWaiting_54 : decode cX5_nextWaiting 54 = .ok (.aload_n 1, 1) := by decide +kernel
theorem dX5_nextWaiting_55 : decode cX5_nextWaiting 55 = .ok (.if_acmp .ne 31, 3) := by decide +kernel
theorem dX5_nextWaiting_58 : decode cX5_nextWaiting 58 = .ok (.aload 5, 2) := by decide +kernel
theorem dX5_nextWaiting_60 : decode cX5_nextWaiting 60 = .ok (.getfield 141, 3) := by decide +kernel
theorem dX5_nextWaiting_63 : decode cX5_nextWaiting 63 = .ok (.iload_n 2, 1) := by decide +kernel
theorem dX5_nextWaiting_64 : decode cX5_nextWaiting 64 = .ok (.if_icmp .le 22, 3) := by decide +kernel
theorem dX5_nextWaiting_67 : decode cX5_nextWaiting 67 = .ok (.aload_n 3, 1) := by decide +kernel
theorem dX5_nextWaiting_68 : decode cX5_nextWaiting 68 = .ok (.ifnull 15, 3) := by decide +kernel
theorem dX5_nextWaiting_71 : decode cX5_nextWaiting 71 = .ok (.aload 5, 2) := by decide +kernel
theorem dX5_nextWaiting_73 : decode cX5_nextWaiting 73 = .ok (.getfield 141, 3) := by decide +kernel
theorem dX5_nextWaiting_76 : decode cX5_nextWaiting 76 = .ok (.aload_n 3, 1) := by decide +kernel
theorem dX5_nextWaiting_77 : decode cX5_nextWaiting 77 = .ok (.getfield 141, 3) := by decide +kernel
theorem dX5_nextWaiting_80 : decode cX5_nextWaiting 80 = .ok (.if_icmp .ge 6, 3) := by decide +kernel
theorem dX5_nextWaiting_83 : decode cX5_nextWaiting 83 = .ok (.aload 5, 2) := by decide +kernel
theorem dX5_nextWaiting_85 : decode cX5_nextWaiting 85 = .ok (.astore_n 3, 1) := by decide +kernel
theorem dX5_nextWaiting_86 : decode cX5_nextWaiting 86 = .ok (.iinc 4 1, 3) := by decide +kernel
theorem dX5_nextWaiting_89 : decode cX5_nextWaiting 89 = .ok (.goto (-84), 3) := by decide +kernel
theorem dX5_nextWaiting_92 : decode cX5_nextWaiting 92 = .ok (.aload_n 3, 1) := by decide +kernel
theorem dX5_nextWaiting_93 : decode cX5_nextWaiting 93 = .ok (.areturn, 1) := by decide +kernel
abbrev cX5_settle : ByteArray := prog_65_method_18_code
def yX5_settle : MethodName := ⟨RX5, "settle", "()V"⟩
theorem dX5_settle_0 : decode cX5_settle 0 = .ok (.aload_n 0, 1) := by decide +kernel
theorem dX5_settle_1 : decode cX5_settle 1 = .ok (.getfield 174, 3) := by decide +kernel
theorem dX5_settle_4 : decode cX5_settle 4 = .ok (.aload_n 0, 1) := by decide +kernel
theorem dX5_settle_5 : decode cX5_settle 5 = .ok (.getfield 171, 3) := by decide +kernel
theorem dX5_settle_8 : decode cX5_settle 8 = .ok (.if_icmp .eq 57, 3) := by decide +kernel
theorem dX5_settle_11 : decode cX5_settle 11 = .ok (.aload_n 0, 1) := by decide +kernel
theorem dX5_settle_12 : decode cX5_settle 12 = .ok (.getfield 46, 3) := by decide +kernel
theorem dX5_settle_15 : decode cX5_settle 15 = .ok (.aload_n 0, 1) := by decide +kernel
theorem dX5_settle_16 : decode cX5_settle 16 = .ok (.getfield 174, 3) := by decide +kernel
theorem dX5_settle_19 : decode cX5_settle 19 = .ok (.aaload, 1) := by decide +kernel
theorem dX5_settle_20 : decode cX5_settle 20 = .ok (.astore_n 1, 1) := by decide +kernel
theorem dX5_settle_21 : decode cX5_settle 21 = .ok (.aload_n 0, 1) := by decide +kernel
theorem dX5_settle_22 : decode cX5_settle 22 = .ok (.getfield 46, 3) := by decide +kernel
theorem dX5_settle_25 : decode cX5_settle 25 = .ok (.aload_n 0, 1) := by decide +kernel
theorem dX5_settle_26 : decode cX5_settle 26 = .ok (.getfield 174, 3) := by decide +kernel
theorem dX5_settle_29 : decode cX5_settle 29 = .ok (.aconst_null, 1) := by decide +kernel
theorem dX5_settle_30 : decode cX5_settle 30 = .ok (.aastore, 1) := by decide +kernel
theorem dX5_settle_31 : decode cX5_settle 31 = .ok (.aload_n 0, 1) := by decide +kernel
theorem dX5_settle_32 : decode cX5_settle 32 = .ok (.aload_n 0, 1) := by decide +kernel
theorem dX5_settle_33 : decode cX5_settle 33 = .ok (.getfield 174, 3) := by decide +kernel
theorem dX5_settle_36 : decode cX5_settle 36 = .ok (.iconst 1, 1) := by decide +kernel
theorem dX5_settle_37 : decode cX5_settle 37 = .ok (.iadd, 1) := by decide +kernel
theorem dX5_settle_38 : decode cX5_settle 38 = .ok (.aload_n 0, 1) := by decide +kernel
theorem dX5_settle_39 : decode cX5_settle 39 = .ok (.getfield 46, 3) := by decide +kernel
theorem dX5_settle_42 : decode cX5_settle 42 = .ok (.arraylength, 1) := by decide +kernel
theorem dX5_settle_43 : decode cX5_settle 43 = .ok (.irem, 1) := by decide +kernel
theorem dX5_settle_44 : decode cX5_settle 44 = .ok (.putfield 174, 3) := by decide +kernel
theorem dX5_settle_47 : decode cX5_settle 47 = .ok (.aload_n 1, 1) := by decide +kernel
theorem dX5_settle_48 : decode cX5_settle 48 = .ok (.getfield 120, 3) := by decide +kernel
theorem dX5_settle_51 : decode cX5_settle 51 = .ok (.getstatic 121, 3) := by decide +kernel
theorem dX5_settle_54 : decode cX5_settle 54 = .ok (.if_acmp .ne 8, 3) := by decide +kernel
theorem dX5_settle_57 : decode cX5_settle 57 = .ok (.aload_n 0, 1) := by decide +kernel
theorem dX5_settle_58 : decode cX5_settle 58 = .ok (.aload_n 1, 1) := by decide +kernel
theorem dX5_settle_59 : decode cX5_settle 59 = .ok (.invokevirtual 113, 3) := by decide +kernel
theorem dX5_settle_62 : decode cX5_settle 62 = .ok (.goto (-62), 3) := by decide +kernel
theorem dX5_settle_65 : decode cX5_settle 65 = .ok (.return_, 1) := by decide +kernel
abbrev cX5_abort : ByteArray := prog_65_method_24_code
def yX5_abort : MethodName := ⟨RX5, "abort", "(I)I"⟩
theorem dX5_abort_0 : decode cX5_abort 0 = .ok (.aload_n 0, 1) := by decide +kernel
theorem dX5_abort_1 : decode cX5_abort 1 = .ok (.iload_n 1, 1) := by decide +kernel
theorem dX5_abort_2 : decode cX5_abort 2 = .ok (.invokevirtual 94, 3) := by decide +kernel
theorem dX5_abort_5 : decode cX5_abort 5 = .ok (.astore_n 2, 1) := by decide +kernel
theorem dX5_abort_6 : decode cX5_abort 6 = .ok (.aload_n 2, 1) := by decide +kernel
theorem dX5_abort_7 : decode cX5_abort 7 = .ok (.invokevirtual 181, 3) := by decide +kernel
theorem dX5_abort_10 : decode cX5_abort 10 = .ok (.invokestatic 65, 3) := by decide +kernel
theorem dX5_abort_13 : decode cX5_abort 13 = .ok (.aload_n 2, 1) := by decide +kernel
theorem dX5_abort_14 : decode cX5_abort 14 = .ok (.instanceof 33, 3) := by decide +kernel
theorem dX5_abort_17 : decode cX5_abort 17 = .ok (.ifCond .eq 17, 3) := by decide +kernel
theorem dX5_abort_20 : decode cX5_abort 20 = .ok (.aload_n 2, 1) := by decide +kernel
theorem dX5_abort_21 : decode cX5_abort 21 = .ok (.checkcast 33, 3) := by decide +kernel
theorem dX5_abort_24 : decode cX5_abort 24 = .ok (.astore 4, 2) := by decide +kernel
theorem dX5_abort_26 : decode cX5_abort 26 = .ok (.aload 4, 2) := by decide +kernel
theorem dX5_abort_28 : decode cX5_abort 28 = .ok (.getfield 194, 3) := by decide +kernel
theorem dX5_abort_31 : decode cX5_abort 31 = .ok (.goto 4, 3) := by decide +kernel
theorem dX5_abort_34 : decode cX5_abort 34 = .ok (.iconst 0, 1) := by decide +kernel
theorem dX5_abort_35 : decode cX5_abort 35 = .ok (.istore_n 3, 1) := by decide +kernel
theorem dX5_abort_36 : decode cX5_abort 36 = .ok (.aload_n 2, 1) := by decide +kernel
theorem dX5_abort_37 : decode cX5_abort 37 = .ok (.getstatic 157, 3) := by decide +kernel
theorem dX5_abort_40 : decode cX5_abort 40 = .ok (.putfield 85, 3) := by decide +kernel
theorem dX5_abort_43 : decode cX5_abort 43 = .ok (.aload_n 2, 1) := by decide +kernel
theorem dX5_abort_44 : decode cX5_abort 44 = .ok (.instanceof 33, 3) := by decide +kernel
theorem dX5_abort_47 : decode cX5_abort 47 = .ok (.ifCond .eq 15, 3) := by decide +kernel
theorem dX5_abort_50 : decode cX5_abort 50 = .ok (.aload_n 2, 1) := by decide +kernel
theorem dX5_abort_51 : decode cX5_abort 51 = .ok (.checkcast 33, 3) := by decide +kernel
theorem dX5_abort_54 : decode cX5_abort 54 = .ok (.astore 4, 2) := by decide +kernel
theorem dX5_abort_56 : decode cX5_abort 56 = .ok (.aload_n 0, 1) := by decide +kernel
theorem dX5_abort_57 : decode cX5_abort 57 = .ok (.aload 4, 2) := by decide +kernel
theorem dX5_abort_59 : decode cX5_abort 59 = .ok (.invokevirtual 160, 3) := by decide +kernel
theorem dX5_abort_62 : decode cX5_abort 62 = .ok (.aload_n 0, 1) := by decide +kernel
theorem dX5_abort_63 : decode cX5_abort 63 = .ok (.invokevirtual 117, 3) := by decide +kernel
theorem dX5_abort_66 : decode cX5_abort 66 = .ok (.iload_n 3, 1) := by decide +kernel
theorem dX5_abort_67 : decode cX5_abort 67 = .ok (.ireturn, 1) := by decide +kernel
abbrev cX5_commit : ByteArray := prog_65_method_23_code
def yX5_commit : MethodName := ⟨RX5, "commit", "(I)I"⟩
theorem dX5_commit_0 : decode cX5_commit 0 = .ok (.aload_n 0, 1) := by decide +kernel
theorem dX5_commit_1 : decode cX5_commit 1 = .ok (.iload_n 1, 1) := by decide +kernel
theorem dX5_commit_2 : decode cX5_commit 2 = .ok (.invokevirtual 94, 3) := by decide +kernel
theorem dX5_commit_5 : decode cX5_commit 5 = .ok (.astore_n 2, 1) := by decide +kernel
theorem dX5_commit_6 : decode cX5_commit 6 = .ok (.aload_n 2, 1) := by decide +kernel
theorem dX5_commit_7 : decode cX5_commit 7 = .ok (.invokevirtual 181, 3) := by decide +kernel
theorem dX5_commit_10 : decode cX5_commit 10 = .ok (.ifCond .eq 17, 3) := by decide +kernel
theorem dX5_commit_13 : decode cX5_commit 13 = .ok (.aload_n 2, 1) := by decide +kernel
theorem dX5_commit_14 : decode cX5_commit 14 = .ok (.getfield 85, 3) := by decide +kernel
theorem dX5_commit_17 : decode cX5_commit 17 = .ok (.getstatic 121, 3) := by decide +kernel
theorem dX5_commit_20 : decode cX5_commit 20 = .ok (.if_acmp .eq 7, 3) := by decide +kernel
theorem dX5_commit_23 : decode cX5_commit 23 = .ok (.iconst 1, 1) := by decide +kernel
theorem dX5_commit_24 : decode cX5_commit 24 = .ok (.goto 4, 3) := by decide +kernel
theorem dX5_commit_27 : decode cX5_commit 27 = .ok (.iconst 0, 1) := by decide +kernel
theorem dX5_commit_28 : decode cX5_commit 28 = .ok (.invokestatic 65, 3) := by decide +kernel
theorem dX5_commit_31 : decode cX5_commit 31 = .ok (.aload_n 2, 1) := by decide +kernel
theorem dX5_commit_32 : decode cX5_commit 32 = .ok (.aload_n 0, 1) := by decide +kernel
theorem dX5_commit_33 : decode cX5_commit 33 = .ok (.invokevirtual 191, 3) := by decide +kernel
theorem dX5_commit_36 : decode cX5_commit 36 = .ok (.istore_n 3, 1) := by decide +kernel
theorem dX5_commit_37 : decode cX5_commit 37 = .ok (.aload_n 0, 1) := by decide +kernel
theorem dX5_commit_38 : decode cX5_commit 38 = .ok (.invokevirtual 117, 3) := by decide +kernel
theorem dX5_commit_41 : decode cX5_commit 41 = .ok (.iload_n 3, 1) := by decide +kernel
theorem dX5_commit_42 : decode cX5_commit 42 = .ok (.ireturn, 1) := by decide +kernel
abbrev cX5_refuse : ByteArray := prog_65_method_22_code
def yX5_refuse : MethodName := ⟨RX5, "refuse", "(LKnowHouse$VersionTrans$Writer;)I"⟩
theorem dX5_refuse_0 : decode cX5_refuse 0 = .ok (.aload_n 1, 1) := by decide +kernel
theorem dX5_refuse_1 : decode cX5_refuse 1 = .ok (.getstatic 157, 3) := by decide +kernel
theorem dX5_refuse_4 : decode cX5_refuse 4 = .ok (.putfield 120, 3) := by decide +kernel
theorem dX5_refuse_7 : decode cX5_refuse 7 = .ok (.aload_n 0, 1) := by decide +kernel
theorem dX5_refuse_8 : decode cX5_refuse 8 = .ok (.aload_n 1, 1) := by decide +kernel
theorem dX5_refuse_9 : decode cX5_refuse 9 = .ok (.invokevirtual 160, 3) := by decide +kernel
theorem dX5_refuse_12 : decode cX5_refuse 12 = .ok (.iconst 0, 1) := by decide +kernel
theorem dX5_refuse_13 : decode cX5_refuse 13 = .ok (.ireturn, 1) := by decide +kernel
abbrev cX5_isThere : ByteArray := prog_65_method_1_code
def yX5_isThere : MethodName := ⟨RX5, "isThere", "(II)Z"⟩
theorem dX5_isThere_0 : decode cX5_isThere 0 = .ok (.aload_n 0, 1) := by decide +kernel
theorem dX5_isThere_1 : decode cX5_isThere 1 = .ok (.getfield 1, 3) := by decide +kernel
theorem dX5_isThere_4 : decode cX5_isThere 4 = .ok (.iload_n 2, 1) := by decide +kernel
theorem dX5_isThere_5 : decode cX5_isThere 5 = .ok (.aaload, 1) := by decide +kernel
theorem dX5_isThere_6 : decode cX5_isThere 6 = .ok (.astore_n 3, 1) := by decide +kernel
theorem dX5_isThere_7 : decode cX5_isThere 7 = .ok (.aload_n 3, 1) := by decide +kernel
theorem dX5_isThere_8 : decode cX5_isThere 8 = .ok (.ifnull 19, 3) := by decide +kernel
theorem dX5_isThere_11 : decode cX5_isThere 11 = .ok (.aload_n 3, 1) := by decide +kernel
theorem dX5_isThere_12 : decode cX5_isThere 12 = .ok (.getfield 7, 3) := by decide +kernel
theorem dX5_isThere_15 : decode cX5_isThere 15 = .ok (.iload_n 1, 1) := by decide +kernel
theorem dX5_isThere_16 : decode cX5_isThere 16 = .ok (.if_icmp .le 11, 3) := by decide +kernel
theorem dX5_isThere_19 : decode cX5_isThere 19 = .ok (.aload_n 3, 1) := by decide +kernel
theorem dX5_isThere_20 : decode cX5_isThere 20 = .ok (.getfield 13, 3) := by decide +kernel
theorem dX5_isThere_23 : decode cX5_isThere 23 = .ok (.astore_n 3, 1) := by decide +kernel
theorem dX5_isThere_24 : decode cX5_isThere 24 = .ok (.goto (-17), 3) := by decide +kernel
theorem dX5_isThere_27 : decode cX5_isThere 27 = .ok (.aload_n 3, 1) := by decide +kernel
theorem dX5_isThere_28 : decode cX5_isThere 28 = .ok (.ifnull 14, 3) := by decide +kernel
theorem dX5_isThere_31 : decode cX5_isThere 31 = .ok (.aload_n 3, 1) := by decide +kernel
theorem dX5_isThere_32 : decode cX5_isThere 32 = .ok (.getfield 17, 3) := by decide +kernel
theorem dX5_isThere_35 : decode cX5_isThere 35 = .ok (.ifCond .eq 7, 3) := by decide +kernel
theorem dX5_isThere_38 : decode cX5_isThere 38 = .ok (.iconst 1, 1) := by decide +kernel
theorem dX5_isThere_39 : decode cX5_isThere 39 = .ok (.goto 4, 3) := by decide +kernel
theorem dX5_isThere_42 : decode cX5_isThere 42 = .ok (.iconst 0, 1) := by decide +kernel
theorem dX5_isThere_43 : decode cX5_isThere 43 = .ok (.ireturn, 1) := by decide +kernel
abbrev cX5_told : ByteArray := prog_65_method_21_code
def yX5_told : MethodName := ⟨RX5, "told", "(II)Z"⟩
theorem dX5_told_0 : decode cX5_told 0 = .ok (.aload_n 0, 1) := by decide +kernel
theorem dX5_told_1 : decode cX5_told 1 = .ok (.iload_n 1, 1) := by decide +kernel
theorem dX5_told_2 : decode cX5_told 2 = .ok (.invokevirtual 78, 3) := by decide +kernel
theorem dX5_told_5 : decode cX5_told 5 = .ok (.iload_n 2, 1) := by decide +kernel
theorem dX5_told_6 : decode cX5_told 6 = .ok (.invokestatic 98, 3) := by decide +kernel
theorem dX5_told_9 : decode cX5_told 9 = .ok (.aload_n 0, 1) := by decide +kernel
theorem dX5_told_10 : decode cX5_told 10 = .ok (.iload_n 1, 1) := by decide +kernel
theorem dX5_told_11 : decode cX5_told 11 = .ok (.iload_n 2, 1) := by decide +kernel
theorem dX5_told_12 : decode cX5_told 12 = .ok (.invokevirtual 188, 3) := by decide +kernel
theorem dX5_told_15 : decode cX5_told 15 = .ok (.ireturn, 1) := by decide +kernel
abbrev cX5_needVersion : ByteArray := prog_65_method_9_code
def yX5_needVersion : MethodName := ⟨RX5, "needVersion", "(I)V"⟩
theorem dX5_needVersion_0 : decode cX5_needVersion 0 = .ok (.iload_n 1, 1) := by decide +kernel
theorem dX5_needVersion_1 : decode cX5_needVersion 1 = .ok (.aload_n 0, 1) := by decide +kernel
theorem dX5_needVersion_2 : decode cX5_needVersion 2 = .ok (.invokevirtual 74, 3) := by decide +kernel
theorem dX5_needVersion_5 : decode cX5_needVersion 5 = .ok (.if_icmp .lt 15, 3) := by decide +kernel
theorem dX5_needVersion_8 : decode cX5_needVersion 8 = .ok (.iload_n 1, 1) := by decide +kernel
theorem dX5_needVersion_9 : decode cX5_needVersion 9 = .ok (.aload_n 0, 1) := by decide +kernel
theorem dX5_needVersion_10 : decode cX5_needVersion 10 = .ok (.getfield 68, 3) := by decide +kernel
theorem dX5_needVersion_13 : decode cX5_needVersion 13 = .ok (.if_icmp .gt 7, 3) := by decide +kernel
theorem dX5_needVersion_16 : decode cX5_needVersion 16 = .ok (.iconst 1, 1) := by decide +kernel
theorem dX5_needVersion_17 : decode cX5_needVersion 17 = .ok (.goto 4, 3) := by decide +kernel
theorem dX5_needVersion_20 : decode cX5_needVersion 20 = .ok (.iconst 0, 1) := by decide +kernel
theorem dX5_needVersion_21 : decode cX5_needVersion 21 = .ok (.invokestatic 61, 3) := by decide +kernel
theorem dX5_needVersion_24 : decode cX5_needVersion 24 = .ok (.return_, 1) := by decide +kernel
abbrev cX5_least : ByteArray := prog_65_method_28_code
def yX5_least : MethodName := ⟨RX5, "least", "()I"⟩
theorem dX5_least_0 : decode cX5_least 0 = .ok (.aload_n 0, 1) := by decide +kernel
theorem dX5_least_1 : decode cX5_least 1 = .ok (.getfield 68, 3) := by decide +kernel
theorem dX5_least_4 : decode cX5_least 4 = .ok (.istore_n 1, 1) := by decide +kernel
theorem dX5_least_5 : decode cX5_least 5 = .ok (.iconst 0, 1) := by decide +kernel
theorem dX5_least_6 : decode cX5_least 6 = .ok (.istore_n 2, 1) := by decide +kernel
theorem dX5_least_7 : decode cX5_least 7 = .ok (.iload_n 2, 1) := by decide +kernel
theorem dX5_least_8 : decode cX5_least 8 = .ok (.aload_n 0, 1) := by decide +kernel
theorem dX5_least_9 : decode cX5_least 9 = .ok (.getfield 58, 3) := by decide +kernel
theorem dX5_least_12 : decode cX5_least 12 = .ok (.if_icmp .ge 35, 3) := by decide +kernel
theorem dX5_least_15 : decode cX5_least 15 = .ok (.aload_n 0, 1) := by decide +kernel
theorem dX5_least_16 : decode cX5_least 16 = .ok (.getfield 29, 3) := by decide +kernel
theorem dX5_least_19 : decode cX5_least 19 = .ok (.iload_n 2, 1) := by decide +kernel
theorem dX5_least_20 : decode cX5_least 20 = .ok (.aaload, 1) := by decide +kernel
theorem dX5_least_21 : decode cX5_least 21 = .ok (.invokevirtual 181, 3) := by decide +kernel
theorem dX5_least_24 : decode cX5_least 24 = .ok (.ifCond .eq 17, 3) := by decide +kernel
theorem dX5_least_27 : decode cX5_least 27 = .ok (.iload_n 1, 1) := by decide +kernel
theorem dX5_least_28 : decode cX5_least 28 = .ok (.aload_n 0, 1) := by decide +kernel
theorem dX5_least_29 : decode cX5_least 29 = .ok (.getfield 29, 3) := by decide +kernel
theorem dX5_least_32 : decode cX5_least 32 = .ok (.iload_n 2, 1) := by decide +kernel
theorem dX5_least_33 : decode cX5_least 33 = .ok (.aaload, 1) := by decide +kernel
theorem dX5_least_34 : decode cX5_least 34 = .ok (.getfield 213, 3) := by decide +kernel
theorem dX5_least_37 : decode cX5_least 37 = .ok (.invokestatic 214, 3) := by decide +kernel
theorem dX5_least_40 : decode cX5_least 40 = .ok (.istore_n 1, 1) := by decide +kernel
theorem dX5_least_41 : decode cX5_least 41 = .ok (.iinc 2 1, 3) := by decide +kernel
theorem dX5_least_44 : decode cX5_least 44 = .ok (.goto (-37), 3) := by decide +kernel
theorem dX5_least_47 : decode cX5_least 47 = .ok (.aload_n 0, 1) := by decide +kernel
theorem dX5_least_48 : decode cX5_least 48 = .ok (.getfield 195, 3) := by decide +kernel
theorem dX5_least_51 : decode cX5_least 51 = .ok (.astore_n 2, 1) := by decide +kernel
theorem dX5_least_52 : decode cX5_least 52 = .ok (.aload_n 2, 1) := by decide +kernel
theorem dX5_least_53 : decode cX5_least 53 = .ok (.ifnull 27, 3) := by decide +kernel
theorem dX5_least_56 : decode cX5_least 56 = .ok (.aload_n 2, 1) := by decide +kernel
theorem dX5_least_57 : decode cX5_least 57 = .ok (.getfield 212, 3) := by decide +kernel
theorem dX5_least_60 : decode cX5_least 60 = .ok (.ifCond .le 12, 3) := by decide +kernel
theorem dX5_least_63 : decode cX5_least 63 = .ok (.iload_n 1, 1) := by decide +kernel
theorem dX5_least_64 : decode cX5_least 64 = .ok (.aload_n 2, 1) := by decide +kernel
theorem dX5_least_65 : decode cX5_least 65 = .ok (.getfield 199, 3) := by decide +kernel
theorem dX5_least_68 : decode cX5_least 68 = .ok (.invokestatic 214, 3) := by decide +kernel
theorem dX5_least_71 : decode cX5_least 71 = .ok (.istore_n 1, 1) := by decide +kernel
theorem dX5_least_72 : decode cX5_least 72 = .ok (.aload_n 2, 1) := by decide +kernel
theorem dX5_least_73 : decode cX5_least 73 = .ok (.getfield 202, 3) := by decide +kernel
theorem dX5_least_76 : decode cX5_least 76 = .ok (.astore_n 2, 1) := by decide +kernel
theorem dX5_least_77 : decode cX5_least 77 = .ok (.goto (-25), 3) := by decide +kernel
theorem dX5_least_80 : decode cX5_least 80 = .ok (.iload_n 1, 1) := by decide +kernel
theorem dX5_least_81 : decode cX5_least 81 = .ok (.ireturn, 1) := by decide +kernel
abbrev cX5_look : ByteArray := prog_65_method_10_code
def yX5_look : MethodName := ⟨RX5, "look", "(I)I"⟩
theorem dX5_look_0 : decode cX5_look 0 = .ok (.aload_n 0, 1) := by decide +kernel
theorem dX5_look_1 : decode cX5_look 1 = .ok (.iload_n 1, 1) := by decide +kernel
theorem dX5_look_2 : decode cX5_look 2 = .ok (.invokevirtual 78, 3) := by decide +kernel
theorem dX5_look_5 : decode cX5_look 5 = .ok (.aload_n 0, 1) := by decide +kernel
theorem dX5_look_6 : decode cX5_look 6 = .ok (.getfield 58, 3) := by decide +kernel
theorem dX5_look_9 : decode cX5_look 9 = .ok (.bipush 60, 2) := by decide +kernel
theorem dX5_look_11 : decode cX5_look 11 = .ok (.if_icmp .ge 7, 3) := by decide +kernel
theorem dX5_look_14 : decode cX5_look 14 = .ok (.iconst 1, 1) := by decide +kernel
theorem dX5_look_15 : decode cX5_look 15 = .ok (.goto 4, 3) := by decide +kernel
theorem dX5_look_18 : decode cX5_look 18 = .ok (.iconst 0, 1) := by decide +kernel
theorem dX5_look_19 : decode cX5_look 19 = .ok (.invokestatic 65, 3) := by decide +kernel
theorem dX5_look_22 : decode cX5_look 22 = .ok (.aload_n 0, 1) := by decide +kernel
theorem dX5_look_23 : decode cX5_look 23 = .ok (.getfield 29, 3) := by decide +kernel
theorem dX5_look_26 : decode cX5_look 26 = .ok (.aload_n 0, 1) := by decide +kernel
theorem dX5_look_27 : decode cX5_look 27 = .ok (.getfield 58, 3) := by decide +kernel
theorem dX5_look_30 : decode cX5_look 30 = .ok (.new 82, 3) := by decide +kernel
theorem dX5_look_33 : decode cX5_look 33 = .ok (.dup, 1) := by decide +kernel
theorem dX5_look_34 : decode cX5_look 34 = .ok (.aload_n 0, 1) := by decide +kernel
theorem dX5_look_35 : decode cX5_look 35 = .ok (.getfield 58, 3) := by decide +kernel
theorem dX5_look_38 : decode cX5_look 38 = .ok (.iload_n 1, 1) := by decide +kernel
theorem dX5_look_39 : decode cX5_look 39 = .ok (.invokespecial 84, 3) := by decide +kernel
theorem dX5_look_42 : decode cX5_look 42 = .ok (.aastore, 1) := by decide +kernel
theorem dX5_look_43 : decode cX5_look 43 = .ok (.aload_n 0, 1) := by decide +kernel
theorem dX5_look_44 : decode cX5_look 44 = .ok (.dup, 1) := by decide +kernel
theorem dX5_look_45 : decode cX5_look 45 = .ok (.getfield 58, 3) := by decide +kernel
theorem dX5_look_48 : decode cX5_look 48 = .ok (.iconst 1, 1) := by decide +kernel
theorem dX5_look_49 : decode cX5_look 49 = .ok (.iadd, 1) := by decide +kernel
theorem dX5_look_50 : decode cX5_look 50 = .ok (.putfield 58, 3) := by decide +kernel
theorem dX5_look_53 : decode cX5_look 53 = .ok (.aload_n 0, 1) := by decide +kernel
theorem dX5_look_54 : decode cX5_look 54 = .ok (.getfield 58, 3) := by decide +kernel
theorem dX5_look_57 : decode cX5_look 57 = .ok (.iconst 1, 1) := by decide +kernel
theorem dX5_look_58 : decode cX5_look 58 = .ok (.isub, 1) := by decide +kernel
theorem dX5_look_59 : decode cX5_look 59 = .ok (.ireturn, 1) := by decide +kernel
abbrev cX5_note : ByteArray := prog_65_method_19_code
def yX5_note : MethodName := ⟨RX5, "note", "(II)I"⟩
theorem dX5_note_0 : decode cX5_note 0 = .ok (.aload_n 0, 1) := by decide +kernel
theorem dX5_note_1 : decode cX5_note 1 = .ok (.iload_n 1, 1) := by decide +kernel
theorem dX5_note_2 : decode cX5_note 2 = .ok (.invokevirtual 94, 3) := by decide +kernel
theorem dX5_note_5 : decode cX5_note 5 = .ok (.astore_n 3, 1) := by decide +kernel
theorem dX5_note_6 : decode cX5_note 6 = .ok (.iload_n 2, 1) := by decide +kernel
theorem dX5_note_7 : decode cX5_note 7 = .ok (.ifCond .lt 12, 3) := by decide +kernel
theorem dX5_note_10 : decode cX5_note 10 = .ok (.iload_n 2, 1) := by decide +kernel
theorem dX5_note_11 : decode cX5_note 11 = .ok (.iconst 4, 1) := by decide +kernel
theorem dX5_note_12 : decode cX5_note 12 = .ok (.if_icmp .ge 7, 3) := by decide +kernel
theorem dX5_note_15 : decode cX5_note 15 = .ok (.iconst 1, 1) := by decide +kernel
theorem dX5_note_16 : decode cX5_note 16 = .ok (.goto 4, 3) := by decide +kernel
theorem dX5_note_19 : decode cX5_note 19 = .ok (.iconst 0, 1) := by decide +kernel
theorem dX5_note_20 : decode cX5_note 20 = .ok (.invokestatic 61, 3) := by decide +kernel
theorem dX5_note_23 : decode cX5_note 23 = .ok (.aload_n 3, 1) := by decide +kernel
theorem dX5_note_24 : decode cX5_note 24 = .ok (.invokevirtual 101, 3) := by decide +kernel
theorem dX5_note_27 : decode cX5_note 27 = .ok (.astore 4, 2) := by decide +kernel
theorem dX5_note_29 : decode cX5_note 29 = .ok (.aload 4, 2) := by decide +kernel
theorem dX5_note_31 : decode cX5_note 31 = .ok (.invokestatic 105, 3) := by decide +kernel
theorem dX5_note_34 : decode cX5_note 34 = .ok (.aload 4, 2) := by decide +kernel
theorem dX5_note_36 : decode cX5_note 36 = .ok (.getfield 177, 3) := by decide +kernel
theorem dX5_note_39 : decode cX5_note 39 = .ok (.iload_n 2, 1) := by decide +kernel
theorem dX5_note_40 : decode cX5_note 40 = .ok (.iconst 1, 1) := by decide +kernel
theorem dX5_note_41 : decode cX5_note 41 = .ok (.bastore, 1) := by decide +kernel
theorem dX5_note_42 : decode cX5_note 42 = .ok (.iconst 0, 1) := by decide +kernel
theorem dX5_note_43 : decode cX5_note 43 = .ok (.istore 5, 2) := by decide +kernel
theorem dX5_note_45 : decode cX5_note 45 = .ok (.aload 4, 2) := by decide +kernel
theorem dX5_note_47 : decode cX5_note 47 = .ok (.getfield 177, 3) := by decide +kernel
theorem dX5_note_50 : decode cX5_note 50 = .ok (.astore 6, 2) := by decide +kernel
theorem dX5_note_52 : decode cX5_note 52 = .ok (.aload 6, 2) := by decide +kernel
theorem dX5_note_54 : decode cX5_note 54 = .ok (.arraylength, 1) := by decide +kernel
theorem dX5_note_55 : decode cX5_note 55 = .ok (.istore 7, 2) := by decide +kernel
theorem dX5_note_57 : decode cX5_note 57 = .ok (.iconst 0, 1) := by decide +kernel
theorem dX5_note_58 : decode cX5_note 58 = .ok (.istore 8, 2) := by decide +kernel
theorem dX5_note_60 : decode cX5_note 60 = .ok (.iload 8, 2) := by decide +kernel
theorem dX5_note_62 : decode cX5_note 62 = .ok (.iload 7, 2) := by decide +kernel
theorem dX5_note_64 : decode cX5_note 64 = .ok (.if_icmp .ge 31, 3) := by decide +kernel
theorem dX5_note_67 : decode cX5_note 67 = .ok (.aload 6, 2) := by decide +kernel
theorem dX5_note_69 : decode cX5_note 69 = .ok (.iload 8, 2) := by decide +kernel
theorem dX5_note_71 : decode cX5_note 71 = .ok (.baload, 1) := by decide +kernel
theorem dX5_note_72 : decode cX5_note 72 = .ok (.istore 9, 2) := by decide +kernel
theorem dX5_note_74 : decode cX5_note 74 = .ok (.iload 5, 2) := by decide +kernel
theorem dX5_note_76 : decode cX5_note 76 = .ok (.iload 9, 2) := by decide +kernel
theorem dX5_note_78 : decode cX5_note 78 = .ok (.ifCond .eq 7, 3) := by decide +kernel
theorem dX5_note_81 : decode cX5_note 81 = .ok (.iconst 1, 1) := by decide +kernel
theorem dX5_note_82 : decode cX5_note 82 = .ok (.goto 4, 3) := by decide +kernel
theorem dX5_note_85 : decode cX5_note 85 = .ok (.iconst 0, 1) := by decide +kernel
theorem dX5_note_86 : decode cX5_note 86 = .ok (.iadd, 1) := by decide +kernel
theorem dX5_note_87 : decode cX5_note 87 = .ok (.istore 5, 2) := by decide +kernel
theorem dX5_note_89 : decode cX5_note 89 = .ok (.iinc 8 1, 3) := by decide +kernel
theorem dX5_note_92 : decode cX5_note 92 = .ok (.goto (-32), 3) := by decide +kernel
theorem dX5_note_95 : decode cX5_note 95 = .ok (.iload 5, 2) := by decide +kernel
theorem dX5_note_97 : decode cX5_note 97 = .ok (.ireturn, 1) := by decide +kernel
abbrev cX5_read : ByteArray := prog_65_method_20_code
def yX5_read : MethodName := ⟨RX5, "read", "(II)Z"⟩
theorem dX5_read_0 : decode cX5_read 0 = .ok (.aload_n 0, 1) := by decide +kernel
theorem dX5_read_1 : decode cX5_read 1 = .ok (.iload_n 1, 1) := by decide +kernel
theorem dX5_read_2 : decode cX5_read 2 = .ok (.invokevirtual 94, 3) := by decide +kernel
theorem dX5_read_5 : decode cX5_read 5 = .ok (.astore_n 3, 1) := by decide +kernel
theorem dX5_read_6 : decode cX5_read 6 = .ok (.iload_n 2, 1) := by decide +kernel
theorem dX5_read_7 : decode cX5_read 7 = .ok (.invokestatic 98, 3) := by decide +kernel
theorem dX5_read_10 : decode cX5_read 10 = .ok (.aload_n 3, 1) := by decide +kernel
theorem dX5_read_11 : decode cX5_read 11 = .ok (.invokevirtual 181, 3) := by decide +kernel
theorem dX5_read_14 : decode cX5_read 14 = .ok (.invokestatic 65, 3) := by decide +kernel
theorem dX5_read_17 : decode cX5_read 17 = .ok (.aload_n 3, 1) := by decide +kernel
theorem dX5_read_18 : decode cX5_read 18 = .ok (.aload_n 0, 1) := by decide +kernel
theorem dX5_read_19 : decode cX5_read 19 = .ok (.iload_n 2, 1) := by decide +kernel
theorem dX5_read_20 : decode cX5_read 20 = .ok (.invokevirtual 185, 3) := by decide +kernel
theorem dX5_read_23 : decode cX5_read 23 = .ok (.ireturn, 1) := by decide +kernel
abbrev cX5_pin : ByteArray := prog_65_method_26_code
def yX5_pin : MethodName := ⟨RX5, "pin", "(I)I"⟩
theorem dX5_pin_0 : decode cX5_pin 0 = .ok (.aload_n 0, 1) := by decide +kernel
theorem dX5_pin_1 : decode cX5_pin 1 = .ok (.iload_n 1, 1) := by decide +kernel
theorem dX5_pin_2 : decode cX5_pin 2 = .ok (.invokevirtual 78, 3) := by decide +kernel
theorem dX5_pin_5 : decode cX5_pin 5 = .ok (.aload_n 0, 1) := by decide +kernel
theorem dX5_pin_6 : decode cX5_pin 6 = .ok (.iload_n 1, 1) := by decide +kernel
theorem dX5_pin_7 : decode cX5_pin 7 = .ok (.invokevirtual 205, 3) := by decide +kernel
theorem dX5_pin_10 : decode cX5_pin 10 = .ok (.astore_n 2, 1) := by decide +kernel
theorem dX5_pin_11 : decode cX5_pin 11 = .ok (.aload_n 2, 1) := by decide +kernel
theorem dX5_pin_12 : decode cX5_pin 12 = .ok (.ifnonnull 21, 3) := by decide +kernel
theorem dX5_pin_15 : decode cX5_pin 15 = .ok (.new 200, 3) := by decide +kernel
theorem dX5_pin_18 : decode cX5_pin 18 = .ok (.dup, 1) := by decide +kernel
theorem dX5_pin_19 : decode cX5_pin 19 = .ok (.iload_n 1, 1) := by decide +kernel
theorem dX5_pin_20 : decode cX5_pin 20 = .ok (.aload_n 0, 1) := by decide +kernel
theorem dX5_pin_21 : decode cX5_pin 21 = .ok (.getfield 195, 3) := by decide +kernel
theorem dX5_pin_24 : decode cX5_pin 24 = .ok (.invokespecial 209, 3) := by decide +kernel
theorem dX5_pin_27 : decode cX5_pin 27 = .ok (.astore_n 2, 1) := by decide +kernel
theorem dX5_pin_28 : decode cX5_pin 28 = .ok (.aload_n 0, 1) := by decide +kernel
theorem dX5_pin_29 : decode cX5_pin 29 = .ok (.aload_n 2, 1) := by decide +kernel
theorem dX5_pin_30 : decode cX5_pin 30 = .ok (.putfield 195, 3) := by decide +kernel
theorem dX5_pin_33 : decode cX5_pin 33 = .ok (.aload_n 2, 1) := by decide +kernel
theorem dX5_pin_34 : decode cX5_pin 34 = .ok (.dup, 1) := by decide +kernel
theorem dX5_pin_35 : decode cX5_pin 35 = .ok (.getfield 212, 3) := by decide +kernel
theorem dX5_pin_38 : decode cX5_pin 38 = .ok (.iconst 1, 1) := by decide +kernel
theorem dX5_pin_39 : decode cX5_pin 39 = .ok (.iadd, 1) := by decide +kernel
theorem dX5_pin_40 : decode cX5_pin 40 = .ok (.putfield 212, 3) := by decide +kernel
theorem dX5_pin_43 : decode cX5_pin 43 = .ok (.aload_n 2, 1) := by decide +kernel
theorem dX5_pin_44 : decode cX5_pin 44 = .ok (.getfield 212, 3) := by decide +kernel
theorem dX5_pin_47 : decode cX5_pin 47 = .ok (.ireturn, 1) := by decide +kernel
abbrev cX5_pinOf : ByteArray := prog_65_method_25_code
def yX5_pinOf : MethodName := ⟨RX5, "pinOf", "(I)LKnowHouse$VersionTrans$Pin;"⟩
theorem dX5_pinOf_0 : decode cX5_pinOf 0 = .ok (.aload_n 0, 1) := by decide +kernel
theorem dX5_pinOf_1 : decode cX5_pinOf 1 = .ok (.getfield 195, 3) := by decide +kernel
theorem dX5_pinOf_4 : decode cX5_pinOf 4 = .ok (.astore_n 2, 1) := by decide +kernel
theorem dX5_pinOf_5 : decode cX5_pinOf 5 = .ok (.aload_n 2, 1) := by decide +kernel
theorem dX5_pinOf_6 : decode cX5_pinOf 6 = .ok (.ifnull 19, 3) := by decide +kernel
theorem dX5_pinOf_9 : decode cX5_pinOf 9 = .ok (.aload_n 2, 1) := by decide +kernel
theorem dX5_pinOf_10 : decode cX5_pinOf 10 = .ok (.getfield 199, 3) := by decide +kernel
theorem dX5_pinOf_13 : decode cX5_pinOf 13 = .ok (.iload_n 1, 1) := by decide +kernel
theorem dX5_pinOf_14 : decode cX5_pinOf 14 = .ok (.if_icmp .eq 11, 3) := by decide +kernel
theorem dX5_pinOf_17 : decode cX5_pinOf 17 = .ok (.aload_n 2, 1) := by decide +kernel
theorem dX5_pinOf_18 : decode cX5_pinOf 18 = .ok (.getfield 202, 3) := by decide +kernel
theorem dX5_pinOf_21 : decode cX5_pinOf 21 = .ok (.astore_n 2, 1) := by decide +kernel
theorem dX5_pinOf_22 : decode cX5_pinOf 22 = .ok (.goto (-17), 3) := by decide +kernel
theorem dX5_pinOf_25 : decode cX5_pinOf 25 = .ok (.aload_n 2, 1) := by decide +kernel
theorem dX5_pinOf_26 : decode cX5_pinOf 26 = .ok (.areturn, 1) := by decide +kernel
abbrev cX5_unpin : ByteArray := prog_65_method_27_code
def yX5_unpin : MethodName := ⟨RX5, "unpin", "(I)I"⟩
theorem dX5_unpin_0 : decode cX5_unpin 0 = .ok (.aload_n 0, 1) := by decide +kernel
theorem dX5_unpin_1 : decode cX5_unpin 1 = .ok (.iload_n 1, 1) := by decide +kernel
theorem dX5_unpin_2 : decode cX5_unpin 2 = .ok (.invokevirtual 205, 3) := by decide +kernel
theorem dX5_unpin_5 : decode cX5_unpin 5 = .ok (.astore_n 2, 1) := by decide +kernel
theorem dX5_unpin_6 : decode cX5_unpin 6 = .ok (.aload_n 2, 1) := by decide +kernel
theorem dX5_unpin_7 : decode cX5_unpin 7 = .ok (.ifnull 14, 3) := by decide +kernel
theorem dX5_unpin_10 : decode cX5_unpin 10 = .ok (.aload_n 2, 1) := by decide +kernel
theorem dX5_unpin_11 : decode cX5_unpin 11 = .ok (.getfield 212, 3) := by decide +kernel
theorem dX5_unpin_14 : decode cX5_unpin 14 = .ok (.ifCond .le 7, 3) := by decide +kernel
theorem dX5_unpin_17 : decode cX5_unpin 17 = .ok (.iconst 1, 1) := by decide +kernel
theorem dX5_unpin_18 : decode cX5_unpin 18 = .ok (.goto 4, 3) := by decide +kernel
theorem dX5_unpin_21 : decode cX5_unpin 21 = .ok (.iconst 0, 1) := by decide +kernel
theorem dX5_unpin_22 : decode cX5_unpin 22 = .ok (.invokestatic 61, 3) := by decide +kernel
theorem dX5_unpin_25 : decode cX5_unpin 25 = .ok (.aload_n 2, 1) := by decide +kernel
theorem dX5_unpin_26 : decode cX5_unpin 26 = .ok (.dup, 1) := by decide +kernel
theorem dX5_unpin_27 : decode cX5_unpin 27 = .ok (.getfield 212, 3) := by decide +kernel
theorem dX5_unpin_30 : decode cX5_unpin 30 = .ok (.iconst 1, 1) := by decide +kernel
theorem dX5_unpin_31 : decode cX5_unpin 31 = .ok (.isub, 1) := by decide +kernel
theorem dX5_unpin_32 : decode cX5_unpin 32 = .ok (.putfield 212, 3) := by decide +kernel
theorem dX5_unpin_35 : decode cX5_unpin 35 = .ok (.aload_n 2, 1) := by decide +kernel
theorem dX5_unpin_36 : decode cX5_unpin 36 = .ok (.getfield 212, 3) := by decide +kernel
theorem dX5_unpin_39 : decode cX5_unpin 39 = .ok (.ireturn, 1) := by decide +kernel
abbrev cX5_free : ByteArray := prog_65_method_29_code
def yX5_free : MethodName := ⟨RX5, "free", "()I"⟩
theorem dX5_free_0 : decode cX5_free 0 = .ok (.aload_n 0, 1) := by decide +kernel
theorem dX5_free_1 : decode cX5_free 1 = .ok (.invokevirtual 74, 3) := by decide +kernel
theorem dX5_free_4 : decode cX5_free 4 = .ok (.istore_n 1, 1) := by decide +kernel
theorem dX5_free_5 : decode cX5_free 5 = .ok (.iconst 0, 1) := by decide +kernel
theorem dX5_free_6 : decode cX5_free 6 = .ok (.istore_n 2, 1) := by decide +kernel
theorem dX5_free_7 : decode cX5_free 7 = .ok (.iconst 0, 1) := by decide +kernel
theorem dX5_free_8 : decode cX5_free 8 = .ok (.istore_n 3, 1) := by decide +kernel
theorem dX5_free_9 : decode cX5_free 9 = .ok (.iload_n 3, 1) := by decide +kernel
theorem dX5_free_10 : decode cX5_free 10 = .ok (.sipush 200, 3) := by decide +kernel
theorem dX5_free_13 : decode cX5_free 13 = .ok (.if_icmp .ge 122, 3) := by decide +kernel
theorem dX5_free_16 : decode cX5_free 16 = .ok (.aconst_null, 1) := by decide +kernel
theorem dX5_free_17 : decode cX5_free 17 = .ok (.astore 4, 2) := by decide +kernel
theorem dX5_free_19 : decode cX5_free 19 = .ok (.aload_n 0, 1) := by decide +kernel
theorem dX5_free_20 : decode cX5_free 20 = .ok (.getfield 1, 3) := by decide +kernel
theorem dX5_free_23 : decode cX5_free 23 = .ok (.iload_n 3, 1) := by decide +kernel
theorem dX5_free_24 : decode cX5_free 24 = .ok (.aaload, 1) := by decide +kernel
theorem dX5_free_25 : decode cX5_free 25 = .ok (.astore 5, 2) := by decide +kernel
theorem dX5_free_27 : decode cX5_free 27 = .ok (.aload 5, 2) := by decide +kernel
theorem dX5_free_29 : decode cX5_free 29 = .ok (.ifnull 26, 3) := by decide +kernel
theorem dX5_free_32 : decode cX5_free 32 = .ok (.aload 5, 2) := by decide +kernel
theorem dX5_free_34 : decode cX5_free 34 = .ok (.getfield 7, 3) := by decide +kernel
theorem dX5_free_37 : decode cX5_free 37 = .ok (.iload_n 1, 1) := by decide +kernel
theorem dX5_free_38 : decode cX5_free 38 = .ok (.if_icmp .le 17, 3) := by decide +kernel
theorem dX5_free_41 : decode cX5_free 41 = .ok (.aload 5, 2) := by decide +kernel
theorem dX5_free_43 : decode cX5_free 43 = .ok (.astore 4, 2) := by decide +kernel
theorem dX5_free_45 : decode cX5_free 45 = .ok (.aload 5, 2) := by decide +kernel
theorem dX5_free_47 : decode cX5_free 47 = .ok (.getfield 13, 3) := by decide +kernel
theorem dX5_free_50 : decode cX5_free 50 = .ok (.astore 5, 2) := by decide +kernel
theorem dX5_free_52 : decode cX5_free 52 = .ok (.goto (-25), 3) := by decide +kernel
theorem dX5_free_55 : decode cX5_free 55 = .ok (.aload 5, 2) := by decide +kernel
theorem dX5_free_57 : decode cX5_free 57 = .ok (.ifnonnull 6, 3) := by decide +kernel
theorem dX5_free_60 : decode cX5_free 60 = .ok (.goto 69, 3) := by decide +kernel
theorem dX5_free_63 : decode cX5_free 63 = .ok (.aload 5, 2) := by decide +kernel
theorem dX5_free_65 : decode cX5_free 65 = .ok (.getfield 13, 3) := by decide +kernel
theorem dX5_free_68 : decode cX5_free 68 = .ok (.astore 6, 2) := by decide +kernel
theorem dX5_free_70 : decode cX5_free 70 = .ok (.aload 6, 2) := by decide +kernel
theorem dX5_free_72 : decode cX5_free 72 = .ok (.ifnull 16, 3) := by decide +kernel
theorem dX5_free_75 : decode cX5_free 75 = .ok (.iinc 2 1, 3) := by decide +kernel
theorem dX5_free_78 : decode cX5_free 78 = .ok (.aload 6, 2) := by decide +kernel
theorem dX5_free_80 : decode cX5_free 80 = .ok (.getfield 13, 3) := by decide +kernel
theorem dX5_free_83 : decode cX5_free 83 = .ok (.astore 6, 2) := by decide +kernel
theorem dX5_free_85 : decode cX5_free 85 = .ok (.goto (-15), 3) := by decide +kernel
theorem dX5_free_88 : decode cX5_free 88 = .ok (.aload 5, 2) := by decide +kernel
theorem dX5_free_90 : decode cX5_free 90 = .ok (.aconst_null, 1) := by decide +kernel
theorem dX5_free_91 : decode cX5_free 91 = .ok (.putfield 13, 3) := by decide +kernel
theorem dX5_free_94 : decode cX5_free 94 = .ok (.aload 5, 2) := by decide +kernel
theorem dX5_free_96 : decode cX5_free 96 = .ok (.getfield 17, 3) := by decide +kernel
theorem dX5_free_99 : decode cX5_free 99 = .ok (.ifCond .eq 6, 3) := by decide +kernel
theorem dX5_free_102 : decode cX5_free 102 = .ok (.goto 27, 3) := by decide +kernel
theorem dX5_free_105 : decode cX5_free 105 = .ok (.iinc 2 1, 3) := by decide +kernel
theorem dX5_free_108 : decode cX5_free 108 = .ok (.aload 4, 2) := by decide +kernel
theorem dX5_free_110 : decode cX5_free 110 = .ok (.ifnonnull 13, 3) := by decide +kernel
theorem dX5_free_113 : decode cX5_free 113 = .ok (.aload_n 0, 1) := by decide +kernel
theorem dX5_free_114 : decode cX5_free 114 = .ok (.getfield 1, 3) := by decide +kernel
theorem dX5_free_117 : decode cX5_free 117 = .ok (.iload_n 3, 1) := by decide +kernel
theorem dX5_free_118 : decode cX5_free 118 = .ok (.aconst_null, 1) := by decide +kernel
theorem dX5_free_119 : decode cX5_free 119 = .ok (.aastore, 1) := by decide +kernel
theorem dX5_free_120 : decode cX5_free 120 = .ok (.goto 9, 3) := by decide +kernel
theorem dX5_free_123 : decode cX5_free 123 = .ok (.aload 4, 2) := by decide +kernel
theorem dX5_free_125 : decode cX5_free 125 = .ok (.aconst_null, 1) := by decide +kernel
theorem dX5_free_126 : decode cX5_free 126 = .ok (.putfield 13, 3) := by decide +kernel
theorem dX5_free_129 : decode cX5_free 129 = .ok (.iinc 3 1, 3) := by decide +kernel
theorem dX5_free_132 : decode cX5_free 132 = .ok (.goto (-123), 3) := by decide +kernel
theorem dX5_free_135 : decode cX5_free 135 = .ok (.aload_n 0, 1) := by decide +kernel
theorem dX5_free_136 : decode cX5_free 136 = .ok (.dup, 1) := by decide +kernel
theorem dX5_free_137 : decode cX5_free 137 = .ok (.getfield 220, 3) := by decide +kernel
theorem dX5_free_140 : decode cX5_free 140 = .ok (.iload_n 2, 1) := by decide +kernel
theorem dX5_free_141 : decode cX5_free 141 = .ok (.isub, 1) := by decide +kernel
theorem dX5_free_142 : decode cX5_free 142 = .ok (.putfield 220, 3) := by decide +kernel
theorem dX5_free_145 : decode cX5_free 145 = .ok (.iload_n 2, 1) := by decide +kernel
theorem dX5_free_146 : decode cX5_free 146 = .ok (.ireturn, 1) := by decide +kernel
abbrev cX5_rows : ByteArray := prog_65_method_30_code
def yX5_rows : MethodName := ⟨RX5, "rows", "()I"⟩
theorem dX5_rows_0 : decode cX5_rows 0 = .ok (.aload_n 0, 1) := by decide +kernel
theorem dX5_rows_1 : decode cX5_rows 1 = .ok (.getfield 220, 3) := by decide +kernel
theorem dX5_rows_4 : decode cX5_rows 4 = .ok (.ireturn, 1) := by decide +kernel
abbrev cX5_state : ByteArray := prog_65_method_32_code
def yX5_state : MethodName := ⟨RX5, "state", "(I)I"⟩
theorem dX5_state_0 : decode cX5_state 0 = .ok (.aload_n 0, 1) := by decide +kernel
theorem dX5_state_1 : decode cX5_state 1 = .ok (.iload_n 1, 1) := by decide +kernel
theorem dX5_state_2 : decode cX5_state 2 = .ok (.invokevirtual 94, 3) := by decide +kernel
theorem dX5_state_5 : decode cX5_state 5 = .ok (.getfield 85, 3) := by decide +kernel
theorem dX5_state_8 : decode cX5_state 8 = .ok (.invokevirtual 223, 3) := by decide +kernel
theorem dX5_state_11 : decode cX5_state 11 = .ok (.ireturn, 1) := by decide +kernel
abbrev cX5_waits : ByteArray := prog_65_method_33_code
def yX5_waits : MethodName := ⟨RX5, "waits", "(I)I"⟩
theorem dX5_waits_0 : decode cX5_waits 0 = .ok (.aload_n 0, 1) := by decide +kernel
theorem dX5_waits_1 : decode cX5_waits 1 = .ok (.iload_n 1, 1) := by decide +kernel
theorem dX5_waits_2 : decode cX5_waits 2 = .ok (.invokevirtual 94, 3) := by decide +kernel
theorem dX5_waits_5 : decode cX5_waits 5 = .ok (.astore_n 2, 1) := by decide +kernel
theorem dX5_waits_6 : decode cX5_waits 6 = .ok (.aload_n 2, 1) := by decide +kernel
theorem dX5_waits_7 : decode cX5_waits 7 = .ok (.instanceof 33, 3) := by decide +kernel
theorem dX5_waits_10 : decode cX5_waits 10 = .ok (.ifCond .eq 28, 3) := by decide +kernel
theorem dX5_waits_13 : decode cX5_waits 13 = .ok (.aload_n 2, 1) := by decide +kernel
theorem dX5_waits_14 : decode cX5_waits 14 = .ok (.checkcast 33, 3) := by decide +kernel
theorem dX5_waits_17 : decode cX5_waits 17 = .ok (.astore_n 3, 1) := by decide +kernel
theorem dX5_waits_18 : decode cX5_waits 18 = .ok (.aload_n 3, 1) := by decide +kernel
theorem dX5_waits_19 : decode cX5_waits 19 = .ok (.getfield 120, 3) := by decide +kernel
theorem dX5_waits_22 : decode cX5_waits 22 = .ok (.getstatic 121, 3) := by decide +kernel
theorem dX5_waits_25 : decode cX5_waits 25 = .ok (.if_acmp .ne 13, 3) := by decide +kernel
theorem dX5_waits_28 : decode cX5_waits 28 = .ok (.aload_n 3, 1) := by decide +kernel
theorem dX5_waits_29 : decode cX5_waits 29 = .ok (.getfield 127, 3) := by decide +kernel
theorem dX5_waits_32 : decode cX5_waits 32 = .ok (.getfield 150, 3) := by decide +kernel
theorem dX5_waits_35 : decode cX5_waits 35 = .ok (.goto 4, 3) := by decide +kernel
theorem dX5_waits_38 : decode cX5_waits 38 = .ok (.iconst (-1), 1) := by decide +kernel
theorem dX5_waits_39 : decode cX5_waits 39 = .ok (.ireturn, 1) := by decide +kernel
abbrev cX5_ring : ByteArray := prog_65_method_34_code
def yX5_ring : MethodName := ⟨RX5, "ring", "(I)I"⟩
theorem dX5_ring_0 : decode cX5_ring 0 = .ok (.iload_n 1, 1) := by decide +kernel
theorem dX5_ring_1 : decode cX5_ring 1 = .ok (.ifCond .lt 21, 3) := by decide +kernel
theorem dX5_ring_4 : decode cX5_ring 4 = .ok (.iload_n 1, 1) := by decide +kernel
theorem dX5_ring_5 : decode cX5_ring 5 = .ok (.aload_n 0, 1) := by decide +kernel
theorem dX5_ring_6 : decode cX5_ring 6 = .ok (.getfield 49, 3) := by decide +kernel
theorem dX5_ring_9 : decode cX5_ring 9 = .ok (.arraylength, 1) := by decide +kernel
theorem dX5_ring_10 : decode cX5_ring 10 = .ok (.if_icmp .ge 12, 3) := by decide +kernel
theorem dX5_ring_13 : decode cX5_ring 13 = .ok (.aload_n 0, 1) := by decide +kernel
theorem dX5_ring_14 : decode cX5_ring 14 = .ok (.getfield 49, 3) := by decide +kernel
theorem dX5_ring_17 : decode cX5_ring 17 = .ok (.iload_n 1, 1) := by decide +kernel
theorem dX5_ring_18 : decode cX5_ring 18 = .ok (.iaload, 1) := by decide +kernel
theorem dX5_ring_19 : decode cX5_ring 19 = .ok (.goto 4, 3) := by decide +kernel
theorem dX5_ring_22 : decode cX5_ring 22 = .ok (.iconst (-1), 1) := by decide +kernel
theorem dX5_ring_23 : decode cX5_ring 23 = .ok (.ireturn, 1) := by decide +kernel
abbrev cX5_conflicts : ByteArray := prog_65_method_35_code
def yX5_conflicts : MethodName := ⟨RX5, "conflicts", "(II)I"⟩
theorem dX5_conflicts_0 : decode cX5_conflicts 0 = .ok (.iload_n 1, 1) := by decide +kernel
theorem dX5_conflicts_1 : decode cX5_conflicts 1 = .ok (.ifCond .ne 14, 3) := by decide +kernel
theorem dX5_conflicts_4 : decode cX5_conflicts 4 = .ok (.iload_n 2, 1) := by decide +kernel
theorem dX5_conflicts_5 : decode cX5_conflicts 5 = .ok (.ifCond .lt 10, 3) := by decide +kernel
theorem dX5_conflicts_8 : decode cX5_conflicts 8 = .ok (.iload_n 2, 1) := by decide +kernel
theorem dX5_conflicts_9 : decode cX5_conflicts 9 = .ok (.sipush 200, 3) := by decide +kernel
theorem dX5_conflicts_12 : decode cX5_conflicts 12 = .ok (.if_icmp .lt 17, 3) := by decide +kernel
theorem dX5_conflicts_15 : decode cX5_conflicts 15 = .ok (.iload_n 1, 1) := by decide +kernel
theorem dX5_conflicts_16 : decode cX5_conflicts 16 = .ok (.iconst 1, 1) := by decide +kernel
theorem dX5_conflicts_17 : decode cX5_conflicts 17 = .ok (.if_icmp .ne 16, 3) := by decide +kernel
theorem dX5_conflicts_20 : decode cX5_conflicts 20 = .ok (.iload_n 2, 1) := by decide +kernel
theorem dX5_conflicts_21 : decode cX5_conflicts 21 = .ok (.ifCond .lt 12, 3) := by decide +kernel
theorem dX5_conflicts_24 : decode cX5_conflicts 24 = .ok (.iload_n 2, 1) := by decide +kernel
theorem dX5_conflicts_25 : decode cX5_conflicts 25 = .ok (.iconst 4, 1) := by decide +kernel
theorem dX5_conflicts_26 : decode cX5_conflicts 26 = .ok (.if_icmp .ge 7, 3) := by decide +kernel
theorem dX5_conflicts_29 : decode cX5_conflicts 29 = .ok (.iconst 1, 1) := by decide +kernel
theorem dX5_conflicts_30 : decode cX5_conflicts 30 = .ok (.goto 4, 3) := by decide +kernel
theorem dX5_conflicts_33 : decode cX5_conflicts 33 = .ok (.iconst 0, 1) := by decide +kernel
theorem dX5_conflicts_34 : decode cX5_conflicts 34 = .ok (.invokestatic 61, 3) := by decide +kernel
theorem dX5_conflicts_37 : decode cX5_conflicts 37 = .ok (.iload_n 1, 1) := by decide +kernel
theorem dX5_conflicts_38 : decode cX5_conflicts 38 = .ok (.ifCond .ne 12, 3) := by decide +kernel
theorem dX5_conflicts_41 : decode cX5_conflicts 41 = .ok (.aload_n 0, 1) := by decide +kernel
theorem dX5_conflicts_42 : decode cX5_conflicts 42 = .ok (.getfield 39, 3) := by decide +kernel
theorem dX5_conflicts_45 : decode cX5_conflicts 45 = .ok (.iload_n 2, 1) := by decide +kernel
theorem dX5_conflicts_46 : decode cX5_conflicts 46 = .ok (.iaload, 1) := by decide +kernel
theorem dX5_conflicts_47 : decode cX5_conflicts 47 = .ok (.goto 9, 3) := by decide +kernel
theorem dX5_conflicts_50 : decode cX5_conflicts 50 = .ok (.aload_n 0, 1) := by decide +kernel
theorem dX5_conflicts_51 : decode cX5_conflicts 51 = .ok (.getfield 43, 3) := by decide +kernel
theorem dX5_conflicts_54 : decode cX5_conflicts 54 = .ok (.iload_n 2, 1) := by decide +kernel
theorem dX5_conflicts_55 : decode cX5_conflicts 55 = .ok (.iaload, 1) := by decide +kernel
theorem dX5_conflicts_56 : decode cX5_conflicts 56 = .ok (.ireturn, 1) := by decide +kernel
theorem in_X5 : ∀ w ∈ wsX50, w ∈ lw_all := lw_in wsX50 [843, 845, 847, 849, 851, 853, 855, 857, 859, 861, 863, 865, 867, 869] (by decide +kernel) (by decide +kernel)
def RX59 : String := "KnowHouse$VersionTrans$Writer"
def TX59 : u_T := fun k => match k with
  | 0 => ("KnowHouse$VersionTrans$Transaction", "number", "I", true)
  | 1 => ("KnowHouse$VersionTrans$Transaction", "sees", "I", true)
  | 2 => ("KnowHouse$VersionTrans$Transaction", "state", "LKnowHouse$VersionTrans$State;", false)
  | 3 => ("KnowHouse$VersionTrans$Writer", "writes", "[B", true)
  | 4 => ("KnowHouse$VersionTrans$Writer", "count", "I", false)
  | 5 => ("KnowHouse$VersionTrans$Writer", "noted", "[Z", true)
  | 6 => ("KnowHouse$VersionTrans$Writer", "waitsFor", "LKnowHouse$VersionTrans$Writer;", false)
  | 7 => ("KnowHouse$VersionTrans$Writer", "turn", "I", false)
  | 8 => ("KnowHouse$VersionTrans$Writer", "triple", "I", false)
  | _ => ("KnowHouse$VersionTrans$Writer", "there", "Z", false)
def tyX59 : Nat → FieldType := fun k => match k with
  | 0 => .int
  | 1 => .int
  | 2 => .object "KnowHouse$VersionTrans$State"
  | 3 => .array .byte
  | 4 => .int
  | 5 => .array .boolean
  | 6 => .object "KnowHouse$VersionTrans$Writer"
  | 7 => .int
  | 8 => .int
  | _ => .boolean
abbrev wsX590 : List Cond := u_ws RX59 TX59 10
theorem nmX59 : ∀ a, a < 10 → ∀ b, b < 10 → a ≠ b → (TX59 a).2.1 ≠ (TX59 b).2.1 := by decide +kernel
theorem tyX59_ok : ∀ k, k < 10 → parseFieldDescriptor (TX59 k).2.2.1 = some (tyX59 k) := by decide +kernel
abbrev cX59_init : ByteArray := prog_71_method_1_code
def yX59_init : MethodName := ⟨RX59, "<init>", "(II)V"⟩
theorem dX59_init_0 : decode cX59_init 0 = .ok (.aload_n 0, 1) := by decide +kernel
theorem dX59_init_1 : decode cX59_init 1 = .ok (.iload_n 1, 1) := by decide +kernel
theorem dX59_init_2 : decode cX59_init 2 = .ok (.iload_n 2, 1) := by decide +kernel
theorem dX59_init_3 : decode cX59_init 3 = .ok (.invokespecial 3, 3) := by decide +kernel
theorem dX59_init_6 : decode cX59_init 6 = .ok (.aload_n 0, 1) := by decide +kernel
theorem dX59_init_7 : decode cX59_init 7 = .ok (.sipush 200, 3) := by decide +kernel
theorem dX59_init_10 : decode cX59_init 10 = .ok (.newarray .byte, 2) := by decide +kernel
theorem dX59_init_12 : decode cX59_init 12 = .ok (.putfield 9, 3) := by decide +kernel
theorem dX59_init_15 : decode cX59_init 15 = .ok (.aload_n 0, 1) := by decide +kernel
theorem dX59_init_16 : decode cX59_init 16 = .ok (.iconst 4, 1) := by decide +kernel
theorem dX59_init_17 : decode cX59_init 17 = .ok (.newarray .boolean, 2) := by decide +kernel
theorem dX59_init_19 : decode cX59_init 19 = .ok (.putfield 15, 3) := by decide +kernel
theorem dX59_init_22 : decode cX59_init 22 = .ok (.return_, 1) := by decide +kernel
abbrev cX59_writer : ByteArray := prog_71_method_2_code
def yX59_writer : MethodName := ⟨RX59, "writer", "()LKnowHouse$VersionTrans$Writer;"⟩
theorem dX59_writer_0 : decode cX59_writer 0 = .ok (.aload_n 0, 1) := by decide +kernel
theorem dX59_writer_1 : decode cX59_writer 1 = .ok (.areturn, 1) := by decide +kernel
abbrev cX59_leave : ByteArray := prog_71_method_5_code
def yX59_leave : MethodName := ⟨RX59, "leave", "(LKnowHouse$VersionTrans;)I"⟩
theorem dX59_leave_0 : decode cX59_leave 0 = .ok (.aload_n 0, 1) := by decide +kernel
theorem dX59_leave_1 : decode cX59_leave 1 = .ok (.getfield 30, 3) := by decide +kernel
theorem dX59_leave_4 : decode cX59_leave 4 = .ok (.istore_n 2, 1) := by decide +kernel
theorem dX59_leave_5 : decode cX59_leave 5 = .ok (.aload_n 0, 1) := by decide +kernel
theorem dX59_leave_6 : decode cX59_leave 6 = .ok (.aconst_null, 1) := by decide +kernel
theorem dX59_leave_7 : decode cX59_leave 7 = .ok (.putfield 37, 3) := by decide +kernel
theorem dX59_leave_10 : decode cX59_leave 10 = .ok (.iconst 0, 1) := by decide +kernel
theorem dX59_leave_11 : decode cX59_leave 11 = .ok (.istore_n 3, 1) := by decide +kernel
theorem dX59_leave_12 : decode cX59_leave 12 = .ok (.iload_n 3, 1) := by decide +kernel
theorem dX59_leave_13 : decode cX59_leave 13 = .ok (.sipush 200, 3) := by decide +kernel
theorem dX59_leave_16 : decode cX59_leave 16 = .ok (.if_icmp .ge 33, 3) := by decide +kernel
theorem dX59_leave_19 : decode cX59_leave 19 = .ok (.aload_n 1, 1) := by decide +kernel
theorem dX59_leave_20 : decode cX59_leave 20 = .ok (.getfield 41, 3) := by decide +kernel
theorem dX59_leave_23 : decode cX59_leave 23 = .ok (.iload_n 3, 1) := by decide +kernel
theorem dX59_leave_24 : decode cX59_leave 24 = .ok (.aaload, 1) := by decide +kernel
theorem dX59_leave_25 : decode cX59_leave 25 = .ok (.aload_n 0, 1) := by decide +kernel
theorem dX59_leave_26 : decode cX59_leave 26 = .ok (.if_acmp .ne 10, 3) := by decide +kernel
theorem dX59_leave_29 : decode cX59_leave 29 = .ok (.aload_n 1, 1) := by decide +kernel
theorem dX59_leave_30 : decode cX59_leave 30 = .ok (.getfield 41, 3) := by decide +kernel
theorem dX59_leave_33 : decode cX59_leave 33 = .ok (.iload_n 3, 1) := by decide +kernel
theorem dX59_leave_34 : decode cX59_leave 34 = .ok (.aconst_null, 1) := by decide +kernel
theorem dX59_leave_35 : decode cX59_leave 35 = .ok (.aastore, 1) := by decide +kernel
theorem dX59_leave_36 : decode cX59_leave 36 = .ok (.aload_n 0, 1) := by decide +kernel
theorem dX59_leave_37 : decode cX59_leave 37 = .ok (.getfield 9, 3) := by decide +kernel
theorem dX59_leave_40 : decode cX59_leave 40 = .ok (.iload_n 3, 1) := by decide +kernel
theorem dX59_leave_41 : decode cX59_leave 41 = .ok (.iconst 0, 1) := by decide +kernel
theorem dX59_leave_42 : decode cX59_leave 42 = .ok (.bastore, 1) := by decide +kernel
theorem dX59_leave_43 : decode cX59_leave 43 = .ok (.iinc 3 1, 3) := by decide +kernel
theorem dX59_leave_46 : decode cX59_leave 46 = .ok (.goto (-34), 3) := by decide +kernel
theorem dX59_leave_49 : decode cX59_leave 49 = .ok (.aload_n 0, 1) := by decide +kernel
theorem dX59_leave_50 : decode cX59_leave 50 = .ok (.iconst 0, 1) := by decide +kernel
theorem dX59_leave_51 : decode cX59_leave 51 = .ok (.putfield 30, 3) := by decide +kernel
theorem dX59_leave_54 : decode cX59_leave 54 = .ok (.iload_n 2, 1) := by decide +kernel
theorem dX59_leave_55 : decode cX59_leave 55 = .ok (.ireturn, 1) := by decide +kernel
abbrev cX59_write : ByteArray := prog_71_method_4_code
def yX59_write : MethodName := ⟨RX59, "write", "()V"⟩
theorem dX59_write_0 : decode cX59_write 0 = .ok (.aload_n 0, 1) := by decide +kernel
theorem dX59_write_1 : decode cX59_write 1 = .ok (.getfield 9, 3) := by decide +kernel
theorem dX59_write_4 : decode cX59_write 4 = .ok (.aload_n 0, 1) := by decide +kernel
theorem dX59_write_5 : decode cX59_write 5 = .ok (.getfield 27, 3) := by decide +kernel
theorem dX59_write_8 : decode cX59_write 8 = .ok (.baload, 1) := by decide +kernel
theorem dX59_write_9 : decode cX59_write 9 = .ok (.ifCond .ne 13, 3) := by decide +kernel
theorem dX59_write_12 : decode cX59_write 12 = .ok (.aload_n 0, 1) := by decide +kernel
theorem dX59_write_13 : decode cX59_write 13 = .ok (.dup, 1) := by decide +kernel
theorem dX59_write_14 : decode cX59_write 14 = .ok (.getfield 30, 3) := by decide +kernel
theorem dX59_write_17 : decode cX59_write 17 = .ok (.iconst 1, 1) := by decide +kernel
theorem dX59_write_18 : decode cX59_write 18 = .ok (.iadd, 1) := by decide +kernel
theorem dX59_write_19 : decode cX59_write 19 = .ok (.putfield 30, 3) := by decide +kernel
theorem dX59_write_22 : decode cX59_write 22 = .ok (.aload_n 0, 1) := by decide +kernel
theorem dX59_write_23 : decode cX59_write 23 = .ok (.getfield 9, 3) := by decide +kernel
theorem dX59_write_26 : decode cX59_write 26 = .ok (.aload_n 0, 1) := by decide +kernel
theorem dX59_write_27 : decode cX59_write 27 = .ok (.getfield 27, 3) := by decide +kernel
theorem dX59_write_30 : decode cX59_write 30 = .ok (.aload_n 0, 1) := by decide +kernel
theorem dX59_write_31 : decode cX59_write 31 = .ok (.getfield 33, 3) := by decide +kernel
theorem dX59_write_34 : decode cX59_write 34 = .ok (.ifCond .eq 7, 3) := by decide +kernel
theorem dX59_write_37 : decode cX59_write 37 = .ok (.iconst 1, 1) := by decide +kernel
theorem dX59_write_38 : decode cX59_write 38 = .ok (.goto 4, 3) := by decide +kernel
theorem dX59_write_41 : decode cX59_write 41 = .ok (.iconst 2, 1) := by decide +kernel
theorem dX59_write_42 : decode cX59_write 42 = .ok (.i2b, 1) := by decide +kernel
theorem dX59_write_43 : decode cX59_write 43 = .ok (.bastore, 1) := by decide +kernel
theorem dX59_write_44 : decode cX59_write 44 = .ok (.return_, 1) := by decide +kernel
abbrev cX59_commit : ByteArray := prog_71_method_7_code
def yX59_commit : MethodName := ⟨RX59, "commit", "(LKnowHouse$VersionTrans;)I"⟩
theorem dX59_commit_0 : decode cX59_commit 0 = .ok (.aload_n 0, 1) := by decide +kernel
theorem dX59_commit_1 : decode cX59_commit 1 = .ok (.getfield 57, 3) := by decide +kernel
theorem dX59_commit_4 : decode cX59_commit 4 = .ok (.getstatic 61, 3) := by decide +kernel
theorem dX59_commit_7 : decode cX59_commit 7 = .ok (.if_acmp .ne 9, 3) := by decide +kernel
theorem dX59_commit_10 : decode cX59_commit 10 = .ok (.aload_n 1, 1) := by decide +kernel
theorem dX59_commit_11 : decode cX59_commit 11 = .ok (.aload_n 0, 1) := by decide +kernel
theorem dX59_commit_12 : decode cX59_commit 12 = .ok (.invokevirtual 66, 3) := by decide +kernel
theorem dX59_commit_15 : decode cX59_commit 15 = .ok (.ireturn, 1) := by decide +kernel
theorem dX59_commit_16 : decode cX59_commit 16 = .ok (.aload_n 0, 1) := by decide +kernel
theorem dX59_commit_17 : decode cX59_commit 17 = .ok (.aload_n 1, 1) := by decide +kernel
theorem dX59_commit_18 : decode cX59_commit 18 = .ok (.invokevirtual 70, 3) := by decide +kernel
theorem dX59_commit_21 : decode cX59_commit 21 = .ok (.goto 10, 3) := by decide +kernel
theorem dX59_commit_24 : decode cX59_commit 24 = .ok (.astore_n 2, 1) := by decide +kernel
theorem dX59_commit_25 : decode cX59_commit 25 = .ok (.aload_n 1, 1) := by decide +kernel
theorem dX59_commit_26 : decode cX59_commit 26 = .ok (.aload_n 0, 1) := by decide +kernel
theorem dX59_commit_27 : decode cX59_commit 27 = .ok (.invokevirtual 66, 3) := by decide +kernel
theorem dX59_commit_30 : decode cX59_commit 30 = .ok (.ireturn, 1) := by decide +kernel
theorem dX59_commit_31 : decode cX59_commit 31 = .ok (.aload_n 0, 1) := by decide +kernel
theorem dX59_commit_32 : decode cX59_commit 32 = .ok (.getfield 19, 3) := by decide +kernel
theorem dX59_commit_35 : decode cX59_commit 35 = .ok (.istore_n 2, 1) := by decide +kernel
theorem dX59_commit_36 : decode cX59_commit 36 = .ok (.iconst 0, 1) := by decide +kernel
theorem dX59_commit_37 : decode cX59_commit 37 = .ok (.istore_n 3, 1) := by decide +kernel
theorem dX59_commit_38 : decode cX59_commit 38 = .ok (.iload_n 3, 1) := by decide +kernel
theorem dX59_commit_39 : decode cX59_commit 39 = .ok (.sipush 200, 3) := by decide +kernel
theorem dX59_commit_42 : decode cX59_commit 42 = .ok (.if_icmp .ge 100, 3) := by decide +kernel
theorem dX59_commit_45 : decode cX59_commit 45 = .ok (.aload_n 0, 1) := by decide +kernel
theorem dX59_commit_46 : decode cX59_commit 46 = .ok (.getfield 9, 3) := by decide +kernel
theorem dX59_commit_49 : decode cX59_commit 49 = .ok (.iload_n 3, 1) := by decide +kernel
theorem dX59_commit_50 : decode cX59_commit 50 = .ok (.baload, 1) := by decide +kernel
theorem dX59_commit_51 : decode cX59_commit 51 = .ok (.ifCond .eq 85, 3) := by decide +kernel
theorem dX59_commit_54 : decode cX59_commit 54 = .ok (.aload_n 0, 1) := by decide +kernel
theorem dX59_commit_55 : decode cX59_commit 55 = .ok (.getfield 9, 3) := by decide +kernel
theorem dX59_commit_58 : decode cX59_commit 58 = .ok (.iload_n 3, 1) := by decide +kernel
theorem dX59_commit_59 : decode cX59_commit 59 = .ok (.baload, 1) := by decide +kernel
theorem dX59_commit_60 : decode cX59_commit 60 = .ok (.iconst 1, 1) := by decide +kernel
theorem dX59_commit_61 : decode cX59_commit 61 = .ok (.if_icmp .ne 7, 3) := by decide +kernel
theorem dX59_commit_64 : decode cX59_commit 64 = .ok (.iconst 1, 1) := by decide +kernel
theorem dX59_commit_65 : decode cX59_commit 65 = .ok (.goto 4, 3) := by decide +kernel
theorem dX59_commit_68 : decode cX59_commit 68 = .ok (.iconst 0, 1) := by decide +kernel
theorem dX59_commit_69 : decode cX59_commit 69 = .ok (.aload_n 1, 1) := by decide +kernel
theorem dX59_commit_70 : decode cX59_commit 70 = .ok (.aload_n 0, 1) := by decide +kernel
theorem dX59_commit_71 : decode cX59_commit 71 = .ok (.getfield 19, 3) := by decide +kernel
theorem dX59_commit_74 : decode cX59_commit 74 = .ok (.iload_n 3, 1) := by decide +kernel
theorem dX59_commit_75 : decode cX59_commit 75 = .ok (.invokevirtual 23, 3) := by decide +kernel
theorem dX59_commit_78 : decode cX59_commit 78 = .ok (.if_icmp .ne 6, 3) := by decide +kernel
theorem dX59_commit_81 : decode cX59_commit 81 = .ok (.goto 55, 3) := by decide +kernel
theorem dX59_commit_84 : decode cX59_commit 84 = .ok (.aload_n 1, 1) := by decide +kernel
theorem dX59_commit_85 : decode cX59_commit 85 = .ok (.getfield 74, 3) := by decide +kernel
theorem dX59_commit_88 : decode cX59_commit 88 = .ok (.iconst 1, 1) := by decide +kernel
theorem dX59_commit_89 : decode cX59_commit 89 = .ok (.iadd, 1) := by decide +kernel
theorem dX59_commit_90 : decode cX59_commit 90 = .ok (.istore_n 2, 1) := by decide +kernel
theorem dX59_commit_91 : decode cX59_commit 91 = .ok (.aload_n 1, 1) := by decide +kernel
theorem dX59_commit_92 : decode cX59_commit 92 = .ok (.getfield 77, 3) := by decide +kernel
theorem dX59_commit_95 : decode cX59_commit 95 = .ok (.iload_n 3, 1) := by decide +kernel
theorem dX59_commit_96 : decode cX59_commit 96 = .ok (.new 81, 3) := by decide +kernel
theorem dX59_commit_99 : decode cX59_commit 99 = .ok (.dup, 1) := by decide +kernel
theorem dX59_commit_100 : decode cX59_commit 100 = .ok (.iload_n 2, 1) := by decide +kernel
theorem dX59_commit_101 : decode cX59_commit 101 = .ok (.aload_n 0, 1) := by decide +kernel
theorem dX59_commit_102 : decode cX59_commit 102 = .ok (.getfield 9, 3) := by decide +kernel
theorem dX59_commit_105 : decode cX59_commit 105 = .ok (.iload_n 3, 1) := by decide +kernel
theorem dX59_commit_106 : decode cX59_commit 106 = .ok (.baload, 1) := by decide +kernel
theorem dX59_commit_107 : decode cX59_commit 107 = .ok (.iconst 1, 1) := by decide +kernel
theorem dX59_commit_108 : decode cX59_commit 108 = .ok (.if_icmp .ne 7, 3) := by decide +kernel
theorem dX59_commit_111 : decode cX59_commit 111 = .ok (.iconst 1, 1) := by decide +kernel
theorem dX59_commit_112 : decode cX59_commit 112 = .ok (.goto 4, 3) := by decide +kernel
theorem dX59_commit_115 : decode cX59_commit 115 = .ok (.iconst 0, 1) := by decide +kernel
theorem dX59_commit_116 : decode cX59_commit 116 = .ok (.aload_n 1, 1) := by decide +kernel
theorem dX59_commit_117 : decode cX59_commit 117 = .ok (.getfield 77, 3) := by decide +kernel
theorem dX59_commit_120 : decode cX59_commit 120 = .ok (.iload_n 3, 1) := by decide +kernel
theorem dX59_commit_121 : decode cX59_commit 121 = .ok (.aaload, 1) := by decide +kernel
theorem dX59_commit_122 : decode cX59_commit 122 = .ok (.invokespecial 83, 3) := by decide +kernel
theorem dX59_commit_125 : decode cX59_commit 125 = .ok (.aastore, 1) := by decide +kernel
theorem dX59_commit_126 : decode cX59_commit 126 = .ok (.aload_n 1, 1) := by decide +kernel
theorem dX59_commit_127 : decode cX59_commit 127 = .ok (.dup, 1) := by decide +kernel
theorem dX59_commit_128 : decode cX59_commit 128 = .ok (.getfield 86, 3) := by decide +kernel
theorem dX59_commit_131 : decode cX59_commit 131 = .ok (.iconst 1, 1) := by decide +kernel
theorem dX59_commit_132 : decode cX59_commit 132 = .ok (.iadd, 1) := by decide +kernel
theorem dX59_commit_133 : decode cX59_commit 133 = .ok (.putfield 86, 3) := by decide +kernel
theorem dX59_commit_136 : decode cX59_commit 136 = .ok (.iinc 3 1, 3) := by decide +kernel
theorem dX59_commit_139 : decode cX59_commit 139 = .ok (.goto (-101), 3) := by decide +kernel
theorem dX59_commit_142 : decode cX59_commit 142 = .ok (.aload_n 1, 1) := by decide +kernel
theorem dX59_commit_143 : decode cX59_commit 143 = .ok (.aload_n 1, 1) := by decide +kernel
theorem dX59_commit_144 : decode cX59_commit 144 = .ok (.getfield 74, 3) := by decide +kernel
theorem dX59_commit_147 : decode cX59_commit 147 = .ok (.iload_n 2, 1) := by decide +kernel
theorem dX59_commit_148 : decode cX59_commit 148 = .ok (.invokestatic 89, 3) := by decide +kernel
theorem dX59_commit_151 : decode cX59_commit 151 = .ok (.putfield 74, 3) := by decide +kernel
theorem dX59_commit_154 : decode cX59_commit 154 = .ok (.aload_n 0, 1) := by decide +kernel
theorem dX59_commit_155 : decode cX59_commit 155 = .ok (.getstatic 95, 3) := by decide +kernel
theorem dX59_commit_158 : decode cX59_commit 158 = .ok (.putfield 57, 3) := by decide +kernel
theorem dX59_commit_161 : decode cX59_commit 161 = .ok (.aload_n 1, 1) := by decide +kernel
theorem dX59_commit_162 : decode cX59_commit 162 = .ok (.aload_n 0, 1) := by decide +kernel
theorem dX59_commit_163 : decode cX59_commit 163 = .ok (.invokevirtual 98, 3) := by decide +kernel
theorem dX59_commit_166 : decode cX59_commit 166 = .ok (.iload_n 2, 1) := by decide +kernel
theorem dX59_commit_167 : decode cX59_commit 167 = .ok (.ireturn, 1) := by decide +kernel
abbrev cX59_look : ByteArray := prog_71_method_6_code
def yX59_look : MethodName := ⟨RX59, "look", "(LKnowHouse$VersionTrans;)V"⟩
theorem dX59_look_0 : decode cX59_look 0 = .ok (.iconst 0, 1) := by decide +kernel
theorem dX59_look_1 : decode cX59_look 1 = .ok (.istore_n 2, 1) := by decide +kernel
theorem dX59_look_2 : decode cX59_look 2 = .ok (.iload_n 2, 1) := by decide +kernel
theorem dX59_look_3 : decode cX59_look 3 = .ok (.sipush 200, 3) := by decide +kernel
theorem dX59_look_6 : decode cX59_look 6 = .ok (.if_icmp .ge 56, 3) := by decide +kernel
theorem dX59_look_9 : decode cX59_look 9 = .ok (.iload_n 2, 1) := by decide +kernel
theorem dX59_look_10 : decode cX59_look 10 = .ok (.bipush 50, 2) := by decide +kernel
theorem dX59_look_12 : decode cX59_look 12 = .ok (.idiv, 1) := by decide +kernel
theorem dX59_look_13 : decode cX59_look 13 = .ok (.istore_n 3, 1) := by decide +kernel
theorem dX59_look_14 : decode cX59_look 14 = .ok (.aload_n 0, 1) := by decide +kernel
theorem dX59_look_15 : decode cX59_look 15 = .ok (.getfield 15, 3) := by decide +kernel
theorem dX59_look_18 : decode cX59_look 18 = .ok (.iload_n 3, 1) := by decide +kernel
theorem dX59_look_19 : decode cX59_look 19 = .ok (.baload, 1) := by decide +kernel
theorem dX59_look_20 : decode cX59_look 20 = .ok (.ifCond .eq 36, 3) := by decide +kernel
theorem dX59_look_23 : decode cX59_look 23 = .ok (.aload_n 1, 1) := by decide +kernel
theorem dX59_look_24 : decode cX59_look 24 = .ok (.iload_n 2, 1) := by decide +kernel
theorem dX59_look_25 : decode cX59_look 25 = .ok (.aload_n 0, 1) := by decide +kernel
theorem dX59_look_26 : decode cX59_look 26 = .ok (.getfield 19, 3) := by decide +kernel
theorem dX59_look_29 : decode cX59_look 29 = .ok (.invokevirtual 45, 3) := by decide +kernel
theorem dX59_look_32 : decode cX59_look 32 = .ok (.ifCond .ne 6, 3) := by decide +kernel
theorem dX59_look_35 : decode cX59_look 35 = .ok (.goto 21, 3) := by decide +kernel
theorem dX59_look_38 : decode cX59_look 38 = .ok (.aload_n 1, 1) := by decide +kernel
theorem dX59_look_39 : decode cX59_look 39 = .ok (.getfield 48, 3) := by decide +kernel
theorem dX59_look_42 : decode cX59_look 42 = .ok (.iload_n 3, 1) := by decide +kernel
theorem dX59_look_43 : decode cX59_look 43 = .ok (.dup2, 1) := by decide +kernel
theorem dX59_look_44 : decode cX59_look 44 = .ok (.iaload, 1) := by decide +kernel
theorem dX59_look_45 : decode cX59_look 45 = .ok (.iconst 1, 1) := by decide +kernel
theorem dX59_look_46 : decode cX59_look 46 = .ok (.iadd, 1) := by decide +kernel
theorem dX59_look_47 : decode cX59_look 47 = .ok (.iastore, 1) := by decide +kernel
theorem dX59_look_48 : decode cX59_look 48 = .ok (.new 52, 3) := by decide +kernel
theorem dX59_look_51 : decode cX59_look 51 = .ok (.dup, 1) := by decide +kernel
theorem dX59_look_52 : decode cX59_look 52 = .ok (.invokespecial 54, 3) := by decide +kernel
theorem dX59_look_55 : decode cX59_look 55 = .ok (.athrow, 1) := by decide +kernel
theorem dX59_look_56 : decode cX59_look 56 = .ok (.iinc 2 1, 3) := by decide +kernel
theorem dX59_look_59 : decode cX59_look 59 = .ok (.goto (-57), 3) := by decide +kernel
theorem dX59_look_62 : decode cX59_look 62 = .ok (.return_, 1) := by decide +kernel
abbrev cX59_sees : ByteArray := prog_71_method_3_code
def yX59_sees : MethodName := ⟨RX59, "sees", "(LKnowHouse$VersionTrans;I)Z"⟩
theorem dX59_sees_0 : decode cX59_sees 0 = .ok (.aload_n 0, 1) := by decide +kernel
theorem dX59_sees_1 : decode cX59_sees 1 = .ok (.getfield 9, 3) := by decide +kernel
theorem dX59_sees_4 : decode cX59_sees 4 = .ok (.iload_n 2, 1) := by decide +kernel
theorem dX59_sees_5 : decode cX59_sees 5 = .ok (.baload, 1) := by decide +kernel
theorem dX59_sees_6 : decode cX59_sees 6 = .ok (.ifCond .ne 15, 3) := by decide +kernel
theorem dX59_sees_9 : decode cX59_sees 9 = .ok (.aload_n 1, 1) := by decide +kernel
theorem dX59_sees_10 : decode cX59_sees 10 = .ok (.aload_n 0, 1) := by decide +kernel
theorem dX59_sees_11 : decode cX59_sees 11 = .ok (.getfield 19, 3) := by decide +kernel
theorem dX59_sees_14 : decode cX59_sees 14 = .ok (.iload_n 2, 1) := by decide +kernel
theorem dX59_sees_15 : decode cX59_sees 15 = .ok (.invokevirtual 23, 3) := by decide +kernel
theorem dX59_sees_18 : decode cX59_sees 18 = .ok (.goto 18, 3) := by decide +kernel
theorem dX59_sees_21 : decode cX59_sees 21 = .ok (.aload_n 0, 1) := by decide +kernel
theorem dX59_sees_22 : decode cX59_sees 22 = .ok (.getfield 9, 3) := by decide +kernel
theorem dX59_sees_25 : decode cX59_sees 25 = .ok (.iload_n 2, 1) := by decide +kernel
theorem dX59_sees_26 : decode cX59_sees 26 = .ok (.baload, 1) := by decide +kernel
theorem dX59_sees_27 : decode cX59_sees 27 = .ok (.iconst 1, 1) := by decide +kernel
theorem dX59_sees_28 : decode cX59_sees 28 = .ok (.if_icmp .ne 7, 3) := by decide +kernel
theorem dX59_sees_31 : decode cX59_sees 31 = .ok (.iconst 1, 1) := by decide +kernel
theorem dX59_sees_32 : decode cX59_sees 32 = .ok (.goto 4, 3) := by decide +kernel
theorem dX59_sees_35 : decode cX59_sees 35 = .ok (.iconst 0, 1) := by decide +kernel
theorem dX59_sees_36 : decode cX59_sees 36 = .ok (.ireturn, 1) := by decide +kernel
theorem in_X59 : ∀ w ∈ wsX590, w ∈ lw_all := lw_in wsX590 [2666, 2668, 2670, 2652, 2654, 2656, 2658, 2660, 2662, 2664] (by decide +kernel) (by decide +kernel)
def RX65 : String := "KnowHouse$VersionTrans$Reader"
def TX65 : u_T := fun k => match k with
  | 0 => ("KnowHouse$VersionTrans$Transaction", "number", "I", true)
  | 1 => ("KnowHouse$VersionTrans$Transaction", "sees", "I", true)
  | _ => ("KnowHouse$VersionTrans$Transaction", "state", "LKnowHouse$VersionTrans$State;", false)
def tyX65 : Nat → FieldType := fun k => match k with
  | 0 => .int
  | 1 => .int
  | _ => .object "KnowHouse$VersionTrans$State"
abbrev wsX650 : List Cond := u_ws RX65 TX65 3
theorem nmX65 : ∀ a, a < 3 → ∀ b, b < 3 → a ≠ b → (TX65 a).2.1 ≠ (TX65 b).2.1 := by decide +kernel
theorem tyX65_ok : ∀ k, k < 3 → parseFieldDescriptor (TX65 k).2.2.1 = some (tyX65 k) := by decide +kernel
abbrev cX65_commit : ByteArray := prog_67_method_3_code
def yX65_commit : MethodName := ⟨RX65, "commit", "(LKnowHouse$VersionTrans;)I"⟩
theorem dX65_commit_0 : decode cX65_commit 0 = .ok (.aload_n 0, 1) := by decide +kernel
theorem dX65_commit_1 : decode cX65_commit 1 = .ok (.getstatic 19, 3) := by decide +kernel
theorem dX65_commit_4 : decode cX65_commit 4 = .ok (.putfield 25, 3) := by decide +kernel
theorem dX65_commit_7 : decode cX65_commit 7 = .ok (.aload_n 0, 1) := by decide +kernel
theorem dX65_commit_8 : decode cX65_commit 8 = .ok (.getfield 7, 3) := by decide +kernel
theorem dX65_commit_11 : decode cX65_commit 11 = .ok (.ireturn, 1) := by decide +kernel
abbrev cX65_init : ByteArray := prog_67_method_1_code
def yX65_init : MethodName := ⟨RX65, "<init>", "(II)V"⟩
theorem dX65_init_0 : decode cX65_init 0 = .ok (.aload_n 0, 1) := by decide +kernel
theorem dX65_init_1 : decode cX65_init 1 = .ok (.iload_n 1, 1) := by decide +kernel
theorem dX65_init_2 : decode cX65_init 2 = .ok (.iload_n 2, 1) := by decide +kernel
theorem dX65_init_3 : decode cX65_init 3 = .ok (.invokespecial 1, 3) := by decide +kernel
theorem dX65_init_6 : decode cX65_init 6 = .ok (.return_, 1) := by decide +kernel
abbrev cX65_sees : ByteArray := prog_67_method_2_code
def yX65_sees : MethodName := ⟨RX65, "sees", "(LKnowHouse$VersionTrans;I)Z"⟩
theorem dX65_sees_0 : decode cX65_sees 0 = .ok (.aload_n 1, 1) := by decide +kernel
theorem dX65_sees_1 : decode cX65_sees 1 = .ok (.aload_n 0, 1) := by decide +kernel
theorem dX65_sees_2 : decode cX65_sees 2 = .ok (.getfield 7, 3) := by decide +kernel
theorem dX65_sees_5 : decode cX65_sees 5 = .ok (.iload_n 2, 1) := by decide +kernel
theorem dX65_sees_6 : decode cX65_sees 6 = .ok (.invokevirtual 13, 3) := by decide +kernel
theorem dX65_sees_9 : decode cX65_sees 9 = .ok (.ireturn, 1) := by decide +kernel
theorem in_X65 : ∀ w ∈ wsX650, w ∈ lw_all := lw_in wsX650 [3931, 3932, 3933] (by decide +kernel) (by decide +kernel)
def RX60 : String := "KnowHouse$VersionTrans$Row"
def TX60 : u_T := fun k => match k with
  | 0 => ("KnowHouse$VersionTrans$Row", "version", "I", true)
  | 1 => ("KnowHouse$VersionTrans$Row", "there", "Z", true)
  | _ => ("KnowHouse$VersionTrans$Row", "older", "LKnowHouse$VersionTrans$Row;", false)
def tyX60 : Nat → FieldType := fun k => match k with
  | 0 => .int
  | 1 => .boolean
  | _ => .object "KnowHouse$VersionTrans$Row"
abbrev wsX600 : List Cond := u_ws RX60 TX60 3
theorem nmX60 : ∀ a, a < 3 → ∀ b, b < 3 → a ≠ b → (TX60 a).2.1 ≠ (TX60 b).2.1 := by decide +kernel
theorem tyX60_ok : ∀ k, k < 3 → parseFieldDescriptor (TX60 k).2.2.1 = some (tyX60 k) := by decide +kernel
abbrev cX60_init : ByteArray := prog_68_method_1_code
def yX60_init : MethodName := ⟨RX60, "<init>", "(IZLKnowHouse$VersionTrans$Row;)V"⟩
theorem dX60_init_0 : decode cX60_init 0 = .ok (.aload_n 0, 1) := by decide +kernel
theorem dX60_init_1 : decode cX60_init 1 = .ok (.invokespecial 1, 3) := by decide +kernel
theorem dX60_init_4 : decode cX60_init 4 = .ok (.aload_n 0, 1) := by decide +kernel
theorem dX60_init_5 : decode cX60_init 5 = .ok (.iload_n 1, 1) := by decide +kernel
theorem dX60_init_6 : decode cX60_init 6 = .ok (.putfield 7, 3) := by decide +kernel
theorem dX60_init_9 : decode cX60_init 9 = .ok (.aload_n 0, 1) := by decide +kernel
theorem dX60_init_10 : decode cX60_init 10 = .ok (.iload_n 2, 1) := by decide +kernel
theorem dX60_init_11 : decode cX60_init 11 = .ok (.putfield 13, 3) := by decide +kernel
theorem dX60_init_14 : decode cX60_init 14 = .ok (.aload_n 0, 1) := by decide +kernel
theorem dX60_init_15 : decode cX60_init 15 = .ok (.aload_n 3, 1) := by decide +kernel
theorem dX60_init_16 : decode cX60_init 16 = .ok (.putfield 17, 3) := by decide +kernel
theorem dX60_init_19 : decode cX60_init 19 = .ok (.return_, 1) := by decide +kernel
theorem in_X60 : ∀ w ∈ wsX600, w ∈ lw_all := lw_in wsX600 [2812, 2814, 2816] (by decide +kernel) (by decide +kernel)
def RX66 : String := "KnowHouse$VersionTrans$Pin"
def TX66 : u_T := fun k => match k with
  | 0 => ("KnowHouse$VersionTrans$Pin", "version", "I", true)
  | 1 => ("KnowHouse$VersionTrans$Pin", "count", "I", false)
  | _ => ("KnowHouse$VersionTrans$Pin", "next", "LKnowHouse$VersionTrans$Pin;", false)
def tyX66 : Nat → FieldType := fun k => match k with
  | 0 => .int
  | 1 => .int
  | _ => .object "KnowHouse$VersionTrans$Pin"
abbrev wsX660 : List Cond := u_ws RX66 TX66 3
theorem nmX66 : ∀ a, a < 3 → ∀ b, b < 3 → a ≠ b → (TX66 a).2.1 ≠ (TX66 b).2.1 := by decide +kernel
theorem tyX66_ok : ∀ k, k < 3 → parseFieldDescriptor (TX66 k).2.2.1 = some (tyX66 k) := by decide +kernel
abbrev cX66_init : ByteArray := prog_66_method_1_code
def yX66_init : MethodName := ⟨RX66, "<init>", "(ILKnowHouse$VersionTrans$Pin;)V"⟩
theorem dX66_init_0 : decode cX66_init 0 = .ok (.aload_n 0, 1) := by decide +kernel
theorem dX66_init_1 : decode cX66_init 1 = .ok (.invokespecial 1, 3) := by decide +kernel
theorem dX66_init_4 : decode cX66_init 4 = .ok (.aload_n 0, 1) := by decide +kernel
theorem dX66_init_5 : decode cX66_init 5 = .ok (.iload_n 1, 1) := by decide +kernel
theorem dX66_init_6 : decode cX66_init 6 = .ok (.putfield 7, 3) := by decide +kernel
theorem dX66_init_9 : decode cX66_init 9 = .ok (.aload_n 0, 1) := by decide +kernel
theorem dX66_init_10 : decode cX66_init 10 = .ok (.aload_n 2, 1) := by decide +kernel
theorem dX66_init_11 : decode cX66_init 11 = .ok (.putfield 13, 3) := by decide +kernel
theorem dX66_init_14 : decode cX66_init 14 = .ok (.return_, 1) := by decide +kernel
theorem in_X66 : ∀ w ∈ wsX660, w ∈ lw_all := lw_in wsX660 [3975, 3977, 3979] (by decide +kernel) (by decide +kernel)
def RX58 : String := "KnowHouse$VersionTrans$Transaction"
abbrev cX58_init : ByteArray := prog_70_method_1_code
def yX58_init : MethodName := ⟨RX58, "<init>", "(II)V"⟩
theorem dX58_init_0 : decode cX58_init 0 = .ok (.aload_n 0, 1) := by decide +kernel
theorem dX58_init_1 : decode cX58_init 1 = .ok (.invokespecial 1, 3) := by decide +kernel
theorem dX58_init_4 : decode cX58_init 4 = .ok (.aload_n 0, 1) := by decide +kernel
theorem dX58_init_5 : decode cX58_init 5 = .ok (.getstatic 7, 3) := by decide +kernel
theorem dX58_init_8 : decode cX58_init 8 = .ok (.putfield 13, 3) := by decide +kernel
theorem dX58_init_11 : decode cX58_init 11 = .ok (.aload_n 0, 1) := by decide +kernel
theorem dX58_init_12 : decode cX58_init 12 = .ok (.iload_n 1, 1) := by decide +kernel
theorem dX58_init_13 : decode cX58_init 13 = .ok (.putfield 18, 3) := by decide +kernel
theorem dX58_init_16 : decode cX58_init 16 = .ok (.aload_n 0, 1) := by decide +kernel
theorem dX58_init_17 : decode cX58_init 17 = .ok (.iload_n 2, 1) := by decide +kernel
theorem dX58_init_18 : decode cX58_init 18 = .ok (.putfield 22, 3) := by decide +kernel
theorem dX58_init_21 : decode cX58_init 21 = .ok (.return_, 1) := by decide +kernel
abbrev cX58_writer : ByteArray := prog_70_method_6_code
def yX58_writer : MethodName := ⟨RX58, "writer", "()LKnowHouse$VersionTrans$Writer;"⟩
theorem dX58_writer_0 : decode cX58_writer 0 = .ok (.new 31, 3) := by decide +kernel
theorem dX58_writer_3 : decode cX58_writer 3 = .ok (.dup, 1) := by decide +kernel
theorem dX58_writer_4 : decode cX58_writer 4 = .ok (.invokespecial 33, 3) := by decide +kernel
theorem dX58_writer_7 : decode cX58_writer 7 = .ok (.athrow, 1) := by decide +kernel
abbrev cX58_isLive : ByteArray := prog_70_method_2_code
def yX58_isLive : MethodName := ⟨RX58, "isLive", "()Z"⟩
theorem dX58_isLive_0 : decode cX58_isLive 0 = .ok (.aload_n 0, 1) := by decide +kernel
theorem dX58_isLive_1 : decode cX58_isLive 1 = .ok (.getfield 13, 3) := by decide +kernel
theorem dX58_isLive_4 : decode cX58_isLive 4 = .ok (.getstatic 25, 3) := by decide +kernel
theorem dX58_isLive_7 : decode cX58_isLive 7 = .ok (.if_acmp .eq 17, 3) := by decide +kernel
theorem dX58_isLive_10 : decode cX58_isLive 10 = .ok (.aload_n 0, 1) := by decide +kernel
theorem dX58_isLive_11 : decode cX58_isLive 11 = .ok (.getfield 13, 3) := by decide +kernel
theorem dX58_isLive_14 : decode cX58_isLive 14 = .ok (.getstatic 28, 3) := by decide +kernel
theorem dX58_isLive_17 : decode cX58_isLive 17 = .ok (.if_acmp .eq 7, 3) := by decide +kernel
theorem dX58_isLive_20 : decode cX58_isLive 20 = .ok (.iconst 1, 1) := by decide +kernel
theorem dX58_isLive_21 : decode cX58_isLive 21 = .ok (.goto 4, 3) := by decide +kernel
theorem dX58_isLive_24 : decode cX58_isLive 24 = .ok (.iconst 0, 1) := by decide +kernel
theorem dX58_isLive_25 : decode cX58_isLive 25 = .ok (.ireturn, 1) := by decide +kernel
def RJ19 : String := "java/lang/Enum"
abbrev cJ19_ordinal : ByteArray := prog_99_method_2_code
def yJ19_ordinal : MethodName := ⟨RJ19, "ordinal", "()I"⟩
theorem dJ19_ordinal_0 : decode cJ19_ordinal 0 = .ok (.aload_n 0, 1) := by decide +kernel
theorem dJ19_ordinal_1 : decode cJ19_ordinal 1 = .ok (.getfield 7, 3) := by decide +kernel
theorem dJ19_ordinal_4 : decode cJ19_ordinal 4 = .ok (.ireturn, 1) := by decide +kernel
theorem q490 : (Jvm.Cond.initialized "KnowHouse$VersionTrans") ∈ lw_all := lw_g (lw_at lw_m1 12 rfl) rfl
theorem q530 : (Jvm.Cond.initialized "java/lang/Math") ∈ lw_all := lw_g (lw_at lw_m1 52 rfl) rfl
theorem q536 : (Jvm.Cond.initialized "java/lang/IllegalStateException") ∈ lw_all := lw_g (lw_at lw_m1 58 rfl) rfl
theorem q558 : (Jvm.Cond.initialized "KnowHouse$VersionTrans$Transaction") ∈ lw_all := lw_g (lw_at lw_m1 80 rfl) rfl
theorem q559 : (Jvm.Cond.initialized "KnowHouse$VersionTrans$Writer") ∈ lw_all := lw_g (lw_at lw_m1 81 rfl) rfl
theorem q560 : (Jvm.Cond.initialized "java/lang/Enum") ∈ lw_all := lw_g (lw_at lw_m1 82 rfl) rfl
theorem q562 : (Jvm.Cond.initialized "java/lang/IllegalArgumentException") ∈ lw_all := lw_g (lw_at lw_m1 84 rfl) rfl
theorem q563 : (Jvm.Cond.initialized "KnowHouse$VersionTrans$Row") ∈ lw_all := lw_g (lw_at lw_m1 85 rfl) rfl
theorem q571 : (Jvm.Cond.initialized "KnowHouse$VersionTrans$Reader") ∈ lw_all := lw_g (lw_at lw_m1 93 rfl) rfl
theorem q572 : (Jvm.Cond.initialized "KnowHouse$VersionTrans$Pin") ∈ lw_all := lw_g (lw_at lw_m1 94 rfl) rfl
theorem q817 : (Jvm.Cond.methodLink "KnowHouse$VersionTrans" (21 : Nat) ({ cls := "java/lang/Object", name := "<init>", desc := "()V" } : Jvm.MethodName)) ∈ lw_all := lw_g (lw_at lw_m2 99 rfl) rfl
theorem q818 : (Jvm.Cond.classLink "KnowHouse$VersionTrans" (8 : Nat) "KnowHouse$VersionTrans$Row") ∈ lw_all := lw_g (lw_at lw_m2 100 rfl) rfl
theorem q819 : (Jvm.Cond.arrayOver (Jvm.ClassFile.FieldType.object "KnowHouse$VersionTrans$Row")) ∈ lw_tbl := lw_at lw_m2 101 rfl
theorem q820 : (Jvm.Cond.classLink "KnowHouse$VersionTrans" (27 : Nat) "KnowHouse$VersionTrans$Transaction") ∈ lw_all := lw_g (lw_at lw_m2 102 rfl) rfl
theorem q821 : (Jvm.Cond.arrayOver (Jvm.ClassFile.FieldType.object "KnowHouse$VersionTrans$Transaction")) ∈ lw_tbl := lw_at lw_m2 103 rfl
theorem q822 : (Jvm.Cond.classLink "KnowHouse$VersionTrans" (33 : Nat) "KnowHouse$VersionTrans$Writer") ∈ lw_all := lw_g (lw_at lw_m2 104 rfl) rfl
theorem q823 : (Jvm.Cond.arrayOver (Jvm.ClassFile.FieldType.object "KnowHouse$VersionTrans$Writer")) ∈ lw_tbl := lw_at lw_m2 105 rfl
theorem q824 : (Jvm.Cond.fieldLink "KnowHouse$VersionTrans" (1 : Nat) "KnowHouse$VersionTrans" "newest" "[LKnowHouse$VersionTrans$Row;") ∈ lw_all := lw_g (lw_at lw_m2 106 rfl) rfl
theorem q825 : (Jvm.Cond.fieldLinkNest "KnowHouse$VersionTrans$Writer" (77 : Nat) "KnowHouse$VersionTrans" "newest" "[LKnowHouse$VersionTrans$Row;" "KnowHouse") ∈ lw_tbl := lw_at lw_m2 107 rfl
theorem q826 : (Jvm.Cond.fieldLinkNest "KnowHouse$VersionTrans$Writer" (86 : Nat) "KnowHouse$VersionTrans" "rows" "I" "KnowHouse") ∈ lw_tbl := lw_at lw_m2 108 rfl
theorem q827 : (Jvm.Cond.fieldLink "KnowHouse$VersionTrans" (220 : Nat) "KnowHouse$VersionTrans" "rows" "I") ∈ lw_all := lw_g (lw_at lw_m2 109 rfl) rfl
theorem q828 : (Jvm.Cond.fieldLinkNest "KnowHouse$VersionTrans$Writer" (74 : Nat) "KnowHouse$VersionTrans" "latest" "I" "KnowHouse") ∈ lw_tbl := lw_at lw_m2 110 rfl
theorem q829 : (Jvm.Cond.fieldLink "KnowHouse$VersionTrans" (68 : Nat) "KnowHouse$VersionTrans" "latest" "I") ∈ lw_all := lw_g (lw_at lw_m2 111 rfl) rfl
theorem q830 : (Jvm.Cond.fieldLink "KnowHouse$VersionTrans" (195 : Nat) "KnowHouse$VersionTrans" "pins" "LKnowHouse$VersionTrans$Pin;") ∈ lw_all := lw_g (lw_at lw_m2 112 rfl) rfl
theorem q831 : (Jvm.Cond.fieldLink "KnowHouse$VersionTrans" (29 : Nat) "KnowHouse$VersionTrans" "transactions" "[LKnowHouse$VersionTrans$Transaction;") ∈ lw_all := lw_g (lw_at lw_m2 113 rfl) rfl
theorem q832 : (Jvm.Cond.fieldLink "KnowHouse$VersionTrans" (58 : Nat) "KnowHouse$VersionTrans" "count" "I") ∈ lw_all := lw_g (lw_at lw_m2 114 rfl) rfl
theorem q833 : (Jvm.Cond.fieldLink "KnowHouse$VersionTrans" (35 : Nat) "KnowHouse$VersionTrans" "holders" "[LKnowHouse$VersionTrans$Writer;") ∈ lw_all := lw_g (lw_at lw_m2 115 rfl) rfl
theorem q834 : (Jvm.Cond.fieldLinkNest "KnowHouse$VersionTrans$Writer" (41 : Nat) "KnowHouse$VersionTrans" "holders" "[LKnowHouse$VersionTrans$Writer;" "KnowHouse") ∈ lw_tbl := lw_at lw_m2 116 rfl
theorem q835 : (Jvm.Cond.fieldLink "KnowHouse$VersionTrans" (39 : Nat) "KnowHouse$VersionTrans" "tripleConflicts" "[I") ∈ lw_all := lw_g (lw_at lw_m2 117 rfl) rfl
theorem q836 : (Jvm.Cond.fieldLink "KnowHouse$VersionTrans" (43 : Nat) "KnowHouse$VersionTrans" "graphConflicts" "[I") ∈ lw_all := lw_g (lw_at lw_m2 118 rfl) rfl
theorem q837 : (Jvm.Cond.fieldLinkNest "KnowHouse$VersionTrans$Writer" (48 : Nat) "KnowHouse$VersionTrans" "graphConflicts" "[I" "KnowHouse") ∈ lw_tbl := lw_at lw_m2 119 rfl
theorem q838 : (Jvm.Cond.fieldLink "KnowHouse$VersionTrans" (138 : Nat) "KnowHouse$VersionTrans" "turns" "I") ∈ lw_all := lw_g (lw_at lw_m2 120 rfl) rfl
theorem q839 : (Jvm.Cond.fieldLink "KnowHouse$VersionTrans" (46 : Nat) "KnowHouse$VersionTrans" "queue" "[LKnowHouse$VersionTrans$Writer;") ∈ lw_all := lw_g (lw_at lw_m2 121 rfl) rfl
theorem q840 : (Jvm.Cond.fieldLink "KnowHouse$VersionTrans" (174 : Nat) "KnowHouse$VersionTrans" "head" "I") ∈ lw_all := lw_g (lw_at lw_m2 122 rfl) rfl
theorem q841 : (Jvm.Cond.fieldLink "KnowHouse$VersionTrans" (171 : Nat) "KnowHouse$VersionTrans" "tail" "I") ∈ lw_all := lw_g (lw_at lw_m2 123 rfl) rfl
theorem q842 : (Jvm.Cond.fieldLink "KnowHouse$VersionTrans" (49 : Nat) "KnowHouse$VersionTrans" "ring" "[I") ∈ lw_all := lw_g (lw_at lw_m2 124 rfl) rfl
theorem q999 : (Jvm.Cond.arrayClass Jvm.ClassFile.FieldType.boolean) ∈ lw_all := lw_g (lw_at lw_m3 41 rfl) rfl
theorem q1850 : (Jvm.Cond.instantiable "java/lang/IllegalStateException" (6 : Nat)) ∈ lw_all := lw_g (lw_at lw_m6 172 rfl) rfl
theorem q2019 : (Jvm.Cond.static ({ cls := "java/lang/Math", name := "min", desc := "(II)I" } : Jvm.MethodName)) ∈ lw_all := lw_g (lw_at lw_m7 101 rfl) rfl
theorem q2020 : (Jvm.Cond.code ({ cls := "java/lang/Math", name := "min", desc := "(II)I" } : Jvm.MethodName) prog_106_method_69_code (2 : Nat) (Option.some Jvm.ClassFile.FieldType.int)) ∈ lw_all := lw_g (lw_at lw_m7 102 rfl) rfl
theorem q2079 : (Jvm.Cond.static ({ cls := "java/lang/Math", name := "max", desc := "(II)I" } : Jvm.MethodName)) ∈ lw_all := lw_g (lw_at lw_m7 161 rfl) rfl
theorem q2080 : (Jvm.Cond.code ({ cls := "java/lang/Math", name := "max", desc := "(II)I" } : Jvm.MethodName) prog_106_method_65_code (2 : Nat) (Option.some Jvm.ClassFile.FieldType.int)) ∈ lw_all := lw_g (lw_at lw_m7 162 rfl) rfl
theorem q2599 : (Jvm.Cond.methodLink "KnowHouse$VersionTrans" (65 : Nat) ({ cls := "KnowHouse$VersionTrans", name := "may", desc := "(Z)V" } : Jvm.MethodName)) ∈ lw_all := lw_g (lw_at lw_m9 201 rfl) rfl
theorem q2600 : (Jvm.Cond.static ({ cls := "KnowHouse$VersionTrans", name := "may", desc := "(Z)V" } : Jvm.MethodName)) ∈ lw_all := lw_g (lw_at lw_m9 202 rfl) rfl
theorem q2601 : (Jvm.Cond.code ({ cls := "KnowHouse$VersionTrans", name := "may", desc := "(Z)V" } : Jvm.MethodName) prog_65_method_5_code (1 : Nat) (Option.none : Option Jvm.ClassFile.FieldType)) ∈ lw_all := lw_g (lw_at lw_m9 203 rfl) rfl
theorem q2602 : (Jvm.Cond.classLink "KnowHouse$VersionTrans" (55 : Nat) "java/lang/IllegalStateException") ∈ lw_all := lw_g (lw_at lw_m9 204 rfl) rfl
theorem q2603 : (Jvm.Cond.methodLink "KnowHouse$VersionTrans" (57 : Nat) ({ cls := "java/lang/IllegalStateException", name := "<init>", desc := "()V" } : Jvm.MethodName)) ∈ lw_all := lw_g (lw_at lw_m9 205 rfl) rfl
theorem q2613 : (Jvm.Cond.instantiable "KnowHouse$VersionTrans$Writer" (10 : Nat)) ∈ lw_all := lw_g (lw_at lw_m9 215 rfl) rfl
theorem q2614 : (Jvm.Cond.methodLink "KnowHouse$VersionTrans" (71 : Nat) ({ cls := "KnowHouse$VersionTrans$Writer", name := "<init>", desc := "(II)V" } : Jvm.MethodName)) ∈ lw_all := lw_g (lw_at lw_m9 216 rfl) rfl
theorem q2615 : (Jvm.Cond.instanceMethod ({ cls := "KnowHouse$VersionTrans$Writer", name := "<init>", desc := "(II)V" } : Jvm.MethodName)) ∈ lw_all := lw_g (lw_at lw_m9 217 rfl) rfl
theorem q2616 : (Jvm.Cond.code ({ cls := "KnowHouse$VersionTrans$Writer", name := "<init>", desc := "(II)V" } : Jvm.MethodName) prog_71_method_1_code (3 : Nat) (Option.none : Option Jvm.ClassFile.FieldType)) ∈ lw_all := lw_g (lw_at lw_m9 218 rfl) rfl
theorem q2617 : (Jvm.Cond.methodLink "KnowHouse$VersionTrans$Writer" (3 : Nat) ({ cls := "KnowHouse$VersionTrans$Transaction", name := "<init>", desc := "(II)V" } : Jvm.MethodName)) ∈ lw_all := lw_g (lw_at lw_m9 219 rfl) rfl
theorem q2618 : (Jvm.Cond.instanceMethod ({ cls := "KnowHouse$VersionTrans$Transaction", name := "<init>", desc := "(II)V" } : Jvm.MethodName)) ∈ lw_all := lw_g (lw_at lw_m9 220 rfl) rfl
theorem q2619 : (Jvm.Cond.code ({ cls := "KnowHouse$VersionTrans$Transaction", name := "<init>", desc := "(II)V" } : Jvm.MethodName) prog_70_method_1_code (3 : Nat) (Option.none : Option Jvm.ClassFile.FieldType)) ∈ lw_all := lw_g (lw_at lw_m9 221 rfl) rfl
theorem q2620 : (Jvm.Cond.methodLink "KnowHouse$VersionTrans$Transaction" (1 : Nat) ({ cls := "java/lang/Object", name := "<init>", desc := "()V" } : Jvm.MethodName)) ∈ lw_all := lw_g (lw_at lw_m9 222 rfl) rfl
theorem q2621 : (Jvm.Cond.fieldLink "KnowHouse$VersionTrans$Transaction" (7 : Nat) "KnowHouse$VersionTrans$State" "OPEN" "LKnowHouse$VersionTrans$State;") ∈ lw_all := lw_g (lw_at lw_m9 223 rfl) rfl
theorem q2623 : (Jvm.Cond.fieldLink "KnowHouse$VersionTrans$Writer" (9 : Nat) "KnowHouse$VersionTrans$Writer" "writes" "[B") ∈ lw_all := lw_g (lw_at lw_m9 225 rfl) rfl
theorem q2624 : (Jvm.Cond.fieldLink "KnowHouse$VersionTrans$Writer" (30 : Nat) "KnowHouse$VersionTrans$Writer" "count" "I") ∈ lw_all := lw_g (lw_at lw_m9 226 rfl) rfl
theorem q2625 : (Jvm.Cond.fieldLinkNest "KnowHouse$VersionTrans" (194 : Nat) "KnowHouse$VersionTrans$Writer" "count" "I" "KnowHouse") ∈ lw_tbl := lw_at lw_m9 227 rfl
theorem q2626 : (Jvm.Cond.fieldLink "KnowHouse$VersionTrans$Writer" (15 : Nat) "KnowHouse$VersionTrans$Writer" "noted" "[Z") ∈ lw_all := lw_g (lw_at lw_m9 228 rfl) rfl
theorem q2627 : (Jvm.Cond.fieldLinkNest "KnowHouse$VersionTrans" (177 : Nat) "KnowHouse$VersionTrans$Writer" "noted" "[Z" "KnowHouse") ∈ lw_tbl := lw_at lw_m9 229 rfl
theorem q2628 : (Jvm.Cond.fieldLink "KnowHouse$VersionTrans$Writer" (37 : Nat) "KnowHouse$VersionTrans$Writer" "waitsFor" "LKnowHouse$VersionTrans$Writer;") ∈ lw_all := lw_g (lw_at lw_m9 230 rfl) rfl
theorem q2629 : (Jvm.Cond.fieldLinkNest "KnowHouse$VersionTrans" (127 : Nat) "KnowHouse$VersionTrans$Writer" "waitsFor" "LKnowHouse$VersionTrans$Writer;" "KnowHouse") ∈ lw_tbl := lw_at lw_m9 231 rfl
theorem q2630 : (Jvm.Cond.fieldLinkNest "KnowHouse$VersionTrans" (141 : Nat) "KnowHouse$VersionTrans$Writer" "turn" "I" "KnowHouse") ∈ lw_tbl := lw_at lw_m9 232 rfl
theorem q2631 : (Jvm.Cond.fieldLink "KnowHouse$VersionTrans$Writer" (27 : Nat) "KnowHouse$VersionTrans$Writer" "triple" "I") ∈ lw_all := lw_g (lw_at lw_m9 233 rfl) rfl
theorem q2632 : (Jvm.Cond.fieldLinkNest "KnowHouse$VersionTrans" (109 : Nat) "KnowHouse$VersionTrans$Writer" "triple" "I" "KnowHouse") ∈ lw_tbl := lw_at lw_m9 234 rfl
theorem q2633 : (Jvm.Cond.fieldLink "KnowHouse$VersionTrans$Writer" (33 : Nat) "KnowHouse$VersionTrans$Writer" "there" "Z") ∈ lw_all := lw_g (lw_at lw_m9 235 rfl) rfl
theorem q2634 : (Jvm.Cond.fieldLinkNest "KnowHouse$VersionTrans" (112 : Nat) "KnowHouse$VersionTrans$Writer" "there" "Z" "KnowHouse") ∈ lw_tbl := lw_at lw_m9 236 rfl
theorem q2635 : (Jvm.Cond.fieldLink "KnowHouse$VersionTrans$Transaction" (18 : Nat) "KnowHouse$VersionTrans$Transaction" "number" "I") ∈ lw_all := lw_g (lw_at lw_m9 237 rfl) rfl
theorem q2636 : (Jvm.Cond.fieldLink "KnowHouse$VersionTrans" (150 : Nat) "KnowHouse$VersionTrans$Writer" "number" "I") ∈ lw_all := lw_g (lw_at lw_m9 238 rfl) rfl
theorem q2637 : (Jvm.Cond.sameField "KnowHouse$VersionTrans$Writer" "KnowHouse$VersionTrans$Transaction" "number" "I") ∈ lw_all := lw_g (lw_at lw_m9 239 rfl) rfl
theorem q2638 : (Jvm.Cond.fieldLink "KnowHouse$VersionTrans$Transaction" (22 : Nat) "KnowHouse$VersionTrans$Transaction" "sees" "I") ∈ lw_all := lw_g (lw_at lw_m10 0 rfl) rfl
theorem q2639 : (Jvm.Cond.fieldLink "KnowHouse$VersionTrans$Reader" (7 : Nat) "KnowHouse$VersionTrans$Reader" "sees" "I") ∈ lw_all := lw_g (lw_at lw_m10 1 rfl) rfl
theorem q2640 : (Jvm.Cond.sameField "KnowHouse$VersionTrans$Reader" "KnowHouse$VersionTrans$Transaction" "sees" "I") ∈ lw_all := lw_g (lw_at lw_m10 2 rfl) rfl
theorem q2641 : (Jvm.Cond.fieldLink "KnowHouse$VersionTrans$Writer" (19 : Nat) "KnowHouse$VersionTrans$Writer" "sees" "I") ∈ lw_all := lw_g (lw_at lw_m10 3 rfl) rfl
theorem q2642 : (Jvm.Cond.sameField "KnowHouse$VersionTrans$Writer" "KnowHouse$VersionTrans$Transaction" "sees" "I") ∈ lw_all := lw_g (lw_at lw_m10 4 rfl) rfl
theorem q2643 : (Jvm.Cond.fieldLink "KnowHouse$VersionTrans" (131 : Nat) "KnowHouse$VersionTrans$Writer" "sees" "I") ∈ lw_all := lw_g (lw_at lw_m10 5 rfl) rfl
theorem q2644 : (Jvm.Cond.fieldLink "KnowHouse$VersionTrans" (213 : Nat) "KnowHouse$VersionTrans$Transaction" "sees" "I") ∈ lw_all := lw_g (lw_at lw_m10 6 rfl) rfl
theorem q2645 : (Jvm.Cond.fieldLink "KnowHouse$VersionTrans$Transaction" (13 : Nat) "KnowHouse$VersionTrans$Transaction" "state" "LKnowHouse$VersionTrans$State;") ∈ lw_all := lw_g (lw_at lw_m10 7 rfl) rfl
theorem q2646 : (Jvm.Cond.fieldLink "KnowHouse$VersionTrans$Reader" (25 : Nat) "KnowHouse$VersionTrans$Reader" "state" "LKnowHouse$VersionTrans$State;") ∈ lw_all := lw_g (lw_at lw_m10 8 rfl) rfl
theorem q2647 : (Jvm.Cond.sameField "KnowHouse$VersionTrans$Reader" "KnowHouse$VersionTrans$Transaction" "state" "LKnowHouse$VersionTrans$State;") ∈ lw_all := lw_g (lw_at lw_m10 9 rfl) rfl
theorem q2648 : (Jvm.Cond.fieldLink "KnowHouse$VersionTrans$Writer" (57 : Nat) "KnowHouse$VersionTrans$Writer" "state" "LKnowHouse$VersionTrans$State;") ∈ lw_all := lw_g (lw_at lw_m10 10 rfl) rfl
theorem q2649 : (Jvm.Cond.sameField "KnowHouse$VersionTrans$Writer" "KnowHouse$VersionTrans$Transaction" "state" "LKnowHouse$VersionTrans$State;") ∈ lw_all := lw_g (lw_at lw_m10 11 rfl) rfl
theorem q2650 : (Jvm.Cond.fieldLink "KnowHouse$VersionTrans" (85 : Nat) "KnowHouse$VersionTrans$Transaction" "state" "LKnowHouse$VersionTrans$State;") ∈ lw_all := lw_g (lw_at lw_m10 12 rfl) rfl
theorem q2651 : (Jvm.Cond.fieldLink "KnowHouse$VersionTrans" (120 : Nat) "KnowHouse$VersionTrans$Writer" "state" "LKnowHouse$VersionTrans$State;") ∈ lw_all := lw_g (lw_at lw_m10 13 rfl) rfl
theorem q2677 : (Jvm.Cond.methodLink "KnowHouse$VersionTrans" (94 : Nat) ({ cls := "KnowHouse$VersionTrans", name := "at", desc := "(I)LKnowHouse$VersionTrans$Transaction;" } : Jvm.MethodName)) ∈ lw_all := lw_g (lw_at lw_m10 39 rfl) rfl
theorem q2679 : (Jvm.Cond.instanceMethod ({ cls := "KnowHouse$VersionTrans", name := "at", desc := "(I)LKnowHouse$VersionTrans$Transaction;" } : Jvm.MethodName)) ∈ lw_all := lw_g (lw_at lw_m10 41 rfl) rfl
theorem q2680 : (Jvm.Cond.code ({ cls := "KnowHouse$VersionTrans", name := "at", desc := "(I)LKnowHouse$VersionTrans$Transaction;" } : Jvm.MethodName) prog_65_method_6_code (2 : Nat) (Option.some (Jvm.ClassFile.FieldType.object "KnowHouse$VersionTrans$Transaction"))) ∈ lw_all := lw_g (lw_at lw_m10 42 rfl) rfl
theorem q2681 : (Jvm.Cond.methodLink "KnowHouse$VersionTrans" (61 : Nat) ({ cls := "KnowHouse$VersionTrans", name := "need", desc := "(Z)V" } : Jvm.MethodName)) ∈ lw_all := lw_g (lw_at lw_m10 43 rfl) rfl
theorem q2682 : (Jvm.Cond.static ({ cls := "KnowHouse$VersionTrans", name := "need", desc := "(Z)V" } : Jvm.MethodName)) ∈ lw_all := lw_g (lw_at lw_m10 44 rfl) rfl
theorem q2683 : (Jvm.Cond.code ({ cls := "KnowHouse$VersionTrans", name := "need", desc := "(Z)V" } : Jvm.MethodName) prog_65_method_4_code (1 : Nat) (Option.none : Option Jvm.ClassFile.FieldType)) ∈ lw_all := lw_g (lw_at lw_m10 45 rfl) rfl
theorem q2684 : (Jvm.Cond.classLink "KnowHouse$VersionTrans" (52 : Nat) "java/lang/IllegalArgumentException") ∈ lw_all := lw_g (lw_at lw_m10 46 rfl) rfl
theorem q2685 : (Jvm.Cond.instantiable "java/lang/IllegalArgumentException" (6 : Nat)) ∈ lw_all := lw_g (lw_at lw_m10 47 rfl) rfl
theorem q2693 : (Jvm.Cond.methodLink "KnowHouse$VersionTrans" (54 : Nat) ({ cls := "java/lang/IllegalArgumentException", name := "<init>", desc := "()V" } : Jvm.MethodName)) ∈ lw_all := lw_g (lw_at lw_m10 55 rfl) rfl
theorem q2699 : (Jvm.Cond.methodLink "KnowHouse$VersionTrans" (98 : Nat) ({ cls := "KnowHouse$VersionTrans", name := "needTriple", desc := "(I)V" } : Jvm.MethodName)) ∈ lw_all := lw_g (lw_at lw_m10 61 rfl) rfl
theorem q2700 : (Jvm.Cond.static ({ cls := "KnowHouse$VersionTrans", name := "needTriple", desc := "(I)V" } : Jvm.MethodName)) ∈ lw_all := lw_g (lw_at lw_m10 62 rfl) rfl
theorem q2701 : (Jvm.Cond.code ({ cls := "KnowHouse$VersionTrans", name := "needTriple", desc := "(I)V" } : Jvm.MethodName) prog_65_method_7_code (1 : Nat) (Option.none : Option Jvm.ClassFile.FieldType)) ∈ lw_all := lw_g (lw_at lw_m10 63 rfl) rfl
theorem q2702 : (Jvm.Cond.methodLink "KnowHouse$VersionTrans" (101 : Nat) ({ cls := "KnowHouse$VersionTrans$Transaction", name := "writer", desc := "()LKnowHouse$VersionTrans$Writer;" } : Jvm.MethodName)) ∈ lw_all := lw_g (lw_at lw_m10 64 rfl) rfl
theorem q2703 : (Jvm.Cond.instanceMethod ({ cls := "KnowHouse$VersionTrans$Transaction", name := "writer", desc := "()LKnowHouse$VersionTrans$Writer;" } : Jvm.MethodName)) ∈ lw_all := lw_g (lw_at lw_m10 65 rfl) rfl
theorem q2704 : (Jvm.Cond.sameMethod "KnowHouse$VersionTrans$Transaction" "KnowHouse$VersionTrans$Transaction" "writer" "()LKnowHouse$VersionTrans$Writer;") ∈ lw_all := lw_g (lw_at lw_m10 66 rfl) rfl
theorem q2705 : (Jvm.Cond.selects "KnowHouse$VersionTrans$Reader" ({ cls := "KnowHouse$VersionTrans$Transaction", name := "writer", desc := "()LKnowHouse$VersionTrans$Writer;" } : Jvm.MethodName) ({ cls := "KnowHouse$VersionTrans$Transaction", name := "writer", desc := "()LKnowHouse$VersionTrans$Writer;" } : Jvm.MethodName)) ∈ lw_all := lw_g (lw_at lw_m10 67 rfl) rfl
theorem q2706 : (Jvm.Cond.selects "KnowHouse$VersionTrans$Writer" ({ cls := "KnowHouse$VersionTrans$Transaction", name := "writer", desc := "()LKnowHouse$VersionTrans$Writer;" } : Jvm.MethodName) ({ cls := "KnowHouse$VersionTrans$Writer", name := "writer", desc := "()LKnowHouse$VersionTrans$Writer;" } : Jvm.MethodName)) ∈ lw_all := lw_g (lw_at lw_m10 68 rfl) rfl
theorem q2707 : (Jvm.Cond.instanceMethod ({ cls := "KnowHouse$VersionTrans$Writer", name := "writer", desc := "()LKnowHouse$VersionTrans$Writer;" } : Jvm.MethodName)) ∈ lw_all := lw_g (lw_at lw_m10 69 rfl) rfl
theorem q2708 : (Jvm.Cond.code ({ cls := "KnowHouse$VersionTrans$Writer", name := "writer", desc := "()LKnowHouse$VersionTrans$Writer;" } : Jvm.MethodName) prog_71_method_2_code (1 : Nat) (Option.some (Jvm.ClassFile.FieldType.object "KnowHouse$VersionTrans$Writer"))) ∈ lw_all := lw_g (lw_at lw_m10 70 rfl) rfl
theorem q2709 : (Jvm.Cond.code ({ cls := "KnowHouse$VersionTrans$Transaction", name := "writer", desc := "()LKnowHouse$VersionTrans$Writer;" } : Jvm.MethodName) prog_70_method_6_code (1 : Nat) (Option.some (Jvm.ClassFile.FieldType.object "KnowHouse$VersionTrans$Writer"))) ∈ lw_all := lw_g (lw_at lw_m10 71 rfl) rfl
theorem q2710 : (Jvm.Cond.classLink "KnowHouse$VersionTrans$Transaction" (31 : Nat) "java/lang/IllegalStateException") ∈ lw_all := lw_g (lw_at lw_m10 72 rfl) rfl
theorem q2711 : (Jvm.Cond.methodLink "KnowHouse$VersionTrans$Transaction" (33 : Nat) ({ cls := "java/lang/IllegalStateException", name := "<init>", desc := "()V" } : Jvm.MethodName)) ∈ lw_all := lw_g (lw_at lw_m10 73 rfl) rfl
theorem q2712 : (Jvm.Cond.methodLink "KnowHouse$VersionTrans" (105 : Nat) ({ cls := "KnowHouse$VersionTrans", name := "needOpen", desc := "(LKnowHouse$VersionTrans$Transaction;)V" } : Jvm.MethodName)) ∈ lw_all := lw_g (lw_at lw_m10 74 rfl) rfl
theorem q2713 : (Jvm.Cond.static ({ cls := "KnowHouse$VersionTrans", name := "needOpen", desc := "(LKnowHouse$VersionTrans$Transaction;)V" } : Jvm.MethodName)) ∈ lw_all := lw_g (lw_at lw_m10 75 rfl) rfl
theorem q2714 : (Jvm.Cond.code ({ cls := "KnowHouse$VersionTrans", name := "needOpen", desc := "(LKnowHouse$VersionTrans$Transaction;)V" } : Jvm.MethodName) prog_65_method_11_code (1 : Nat) (Option.none : Option Jvm.ClassFile.FieldType)) ∈ lw_all := lw_g (lw_at lw_m10 76 rfl) rfl
theorem q2715 : (Jvm.Cond.fieldLink "KnowHouse$VersionTrans" (89 : Nat) "KnowHouse$VersionTrans$State" "OPEN" "LKnowHouse$VersionTrans$State;") ∈ lw_all := lw_g (lw_at lw_m10 77 rfl) rfl
theorem q2716 : (Jvm.Cond.methodLink "KnowHouse$VersionTrans" (113 : Nat) ({ cls := "KnowHouse$VersionTrans", name := "attempt", desc := "(LKnowHouse$VersionTrans$Writer;)V" } : Jvm.MethodName)) ∈ lw_all := lw_g (lw_at lw_m10 78 rfl) rfl
theorem q2718 : (Jvm.Cond.instanceMethod ({ cls := "KnowHouse$VersionTrans", name := "attempt", desc := "(LKnowHouse$VersionTrans$Writer;)V" } : Jvm.MethodName)) ∈ lw_all := lw_g (lw_at lw_m10 80 rfl) rfl
theorem q2719 : (Jvm.Cond.code ({ cls := "KnowHouse$VersionTrans", name := "attempt", desc := "(LKnowHouse$VersionTrans$Writer;)V" } : Jvm.MethodName) prog_65_method_13_code (3 : Nat) (Option.none : Option Jvm.ClassFile.FieldType)) ∈ lw_all := lw_g (lw_at lw_m10 81 rfl) rfl
theorem q2720 : (Jvm.Cond.methodLink "KnowHouse$VersionTrans" (134 : Nat) ({ cls := "KnowHouse$VersionTrans", name := "isChanged", desc := "(II)Z" } : Jvm.MethodName)) ∈ lw_all := lw_g (lw_at lw_m10 82 rfl) rfl
theorem q2722 : (Jvm.Cond.instanceMethod ({ cls := "KnowHouse$VersionTrans", name := "isChanged", desc := "(II)Z" } : Jvm.MethodName)) ∈ lw_all := lw_g (lw_at lw_m10 84 rfl) rfl
theorem q2723 : (Jvm.Cond.code ({ cls := "KnowHouse$VersionTrans", name := "isChanged", desc := "(II)Z" } : Jvm.MethodName) prog_65_method_2_code (3 : Nat) (Option.some Jvm.ClassFile.FieldType.boolean)) ∈ lw_all := lw_g (lw_at lw_m10 85 rfl) rfl
theorem q2724 : (Jvm.Cond.fieldLink "KnowHouse$VersionTrans" (124 : Nat) "KnowHouse$VersionTrans$State" "FAILED" "LKnowHouse$VersionTrans$State;") ∈ lw_all := lw_g (lw_at lw_m10 86 rfl) rfl
theorem q2726 : (Jvm.Cond.fieldLink "KnowHouse$VersionTrans" (121 : Nat) "KnowHouse$VersionTrans$State" "WAITS" "LKnowHouse$VersionTrans$State;") ∈ lw_all := lw_g (lw_at lw_m10 88 rfl) rfl
theorem q2728 : (Jvm.Cond.methodLink "KnowHouse$VersionTrans" (144 : Nat) ({ cls := "KnowHouse$VersionTrans", name := "lookForRing", desc := "(LKnowHouse$VersionTrans$Writer;)V" } : Jvm.MethodName)) ∈ lw_all := lw_g (lw_at lw_m10 90 rfl) rfl
theorem q2730 : (Jvm.Cond.instanceMethod ({ cls := "KnowHouse$VersionTrans", name := "lookForRing", desc := "(LKnowHouse$VersionTrans$Writer;)V" } : Jvm.MethodName)) ∈ lw_all := lw_g (lw_at lw_m10 92 rfl) rfl
theorem q2731 : (Jvm.Cond.code ({ cls := "KnowHouse$VersionTrans", name := "lookForRing", desc := "(LKnowHouse$VersionTrans$Writer;)V" } : Jvm.MethodName) prog_65_method_14_code (7 : Nat) (Option.none : Option Jvm.ClassFile.FieldType)) ∈ lw_all := lw_g (lw_at lw_m10 93 rfl) rfl
theorem q2732 : (Jvm.Cond.methodLink "KnowHouse$VersionTrans" (153 : Nat) ({ cls := "KnowHouse$VersionTrans", name := "isOn", desc := "(LKnowHouse$VersionTrans$Writer;I)Z" } : Jvm.MethodName)) ∈ lw_all := lw_g (lw_at lw_m10 94 rfl) rfl
theorem q2733 : (Jvm.Cond.static ({ cls := "KnowHouse$VersionTrans", name := "isOn", desc := "(LKnowHouse$VersionTrans$Writer;I)Z" } : Jvm.MethodName)) ∈ lw_all := lw_g (lw_at lw_m10 95 rfl) rfl
theorem q2734 : (Jvm.Cond.code ({ cls := "KnowHouse$VersionTrans", name := "isOn", desc := "(LKnowHouse$VersionTrans$Writer;I)Z" } : Jvm.MethodName) prog_65_method_15_code (3 : Nat) (Option.some Jvm.ClassFile.FieldType.boolean)) ∈ lw_all := lw_g (lw_at lw_m10 96 rfl) rfl
theorem q2735 : (Jvm.Cond.fieldLink "KnowHouse$VersionTrans" (157 : Nat) "KnowHouse$VersionTrans$State" "ABORTED" "LKnowHouse$VersionTrans$State;") ∈ lw_all := lw_g (lw_at lw_m10 97 rfl) rfl
theorem q2737 : (Jvm.Cond.methodLink "KnowHouse$VersionTrans" (160 : Nat) ({ cls := "KnowHouse$VersionTrans", name := "end", desc := "(LKnowHouse$VersionTrans$Writer;)V" } : Jvm.MethodName)) ∈ lw_all := lw_g (lw_at lw_m10 99 rfl) rfl
theorem q2739 : (Jvm.Cond.instanceMethod ({ cls := "KnowHouse$VersionTrans", name := "end", desc := "(LKnowHouse$VersionTrans$Writer;)V" } : Jvm.MethodName)) ∈ lw_all := lw_g (lw_at lw_m10 101 rfl) rfl
theorem q2740 : (Jvm.Cond.code ({ cls := "KnowHouse$VersionTrans", name := "end", desc := "(LKnowHouse$VersionTrans$Writer;)V" } : Jvm.MethodName) prog_65_method_16_code (4 : Nat) (Option.none : Option Jvm.ClassFile.FieldType)) ∈ lw_all := lw_g (lw_at lw_m10 102 rfl) rfl
theorem q2741 : (Jvm.Cond.methodLink "KnowHouse$VersionTrans" (163 : Nat) ({ cls := "KnowHouse$VersionTrans$Writer", name := "leave", desc := "(LKnowHouse$VersionTrans;)I" } : Jvm.MethodName)) ∈ lw_all := lw_g (lw_at lw_m10 103 rfl) rfl
theorem q2742 : (Jvm.Cond.instanceMethod ({ cls := "KnowHouse$VersionTrans$Writer", name := "leave", desc := "(LKnowHouse$VersionTrans;)I" } : Jvm.MethodName)) ∈ lw_all := lw_g (lw_at lw_m10 104 rfl) rfl
theorem q2743 : (Jvm.Cond.selects "KnowHouse$VersionTrans$Writer" ({ cls := "KnowHouse$VersionTrans$Writer", name := "leave", desc := "(LKnowHouse$VersionTrans;)I" } : Jvm.MethodName) ({ cls := "KnowHouse$VersionTrans$Writer", name := "leave", desc := "(LKnowHouse$VersionTrans;)I" } : Jvm.MethodName)) ∈ lw_all := lw_g (lw_at lw_m10 105 rfl) rfl
theorem q2744 : (Jvm.Cond.code ({ cls := "KnowHouse$VersionTrans$Writer", name := "leave", desc := "(LKnowHouse$VersionTrans;)I" } : Jvm.MethodName) prog_71_method_5_code (4 : Nat) (Option.some Jvm.ClassFile.FieldType.int)) ∈ lw_all := lw_g (lw_at lw_m10 106 rfl) rfl
theorem q2745 : (Jvm.Cond.methodLink "KnowHouse$VersionTrans" (167 : Nat) ({ cls := "KnowHouse$VersionTrans", name := "nextWaiting", desc := "(LKnowHouse$VersionTrans$Writer;I)LKnowHouse$VersionTrans$Writer;" } : Jvm.MethodName)) ∈ lw_all := lw_g (lw_at lw_m10 107 rfl) rfl
theorem q2747 : (Jvm.Cond.instanceMethod ({ cls := "KnowHouse$VersionTrans", name := "nextWaiting", desc := "(LKnowHouse$VersionTrans$Writer;I)LKnowHouse$VersionTrans$Writer;" } : Jvm.MethodName)) ∈ lw_all := lw_g (lw_at lw_m10 109 rfl) rfl
theorem q2748 : (Jvm.Cond.code ({ cls := "KnowHouse$VersionTrans", name := "nextWaiting", desc := "(LKnowHouse$VersionTrans$Writer;I)LKnowHouse$VersionTrans$Writer;" } : Jvm.MethodName) prog_65_method_17_code (7 : Nat) (Option.some (Jvm.ClassFile.FieldType.object "KnowHouse$VersionTrans$Writer"))) ∈ lw_all := lw_g (lw_at lw_m10 110 rfl) rfl
theorem q2749 : (Jvm.Cond.methodLink "KnowHouse$VersionTrans" (147 : Nat) ({ cls := "KnowHouse$VersionTrans$Writer", name := "write", desc := "()V" } : Jvm.MethodName)) ∈ lw_all := lw_g (lw_at lw_m10 111 rfl) rfl
theorem q2750 : (Jvm.Cond.instanceMethod ({ cls := "KnowHouse$VersionTrans$Writer", name := "write", desc := "()V" } : Jvm.MethodName)) ∈ lw_all := lw_g (lw_at lw_m10 112 rfl) rfl
theorem q2751 : (Jvm.Cond.selects "KnowHouse$VersionTrans$Writer" ({ cls := "KnowHouse$VersionTrans$Writer", name := "write", desc := "()V" } : Jvm.MethodName) ({ cls := "KnowHouse$VersionTrans$Writer", name := "write", desc := "()V" } : Jvm.MethodName)) ∈ lw_all := lw_g (lw_at lw_m10 113 rfl) rfl
theorem q2752 : (Jvm.Cond.code ({ cls := "KnowHouse$VersionTrans$Writer", name := "write", desc := "()V" } : Jvm.MethodName) prog_71_method_4_code (1 : Nat) (Option.none : Option Jvm.ClassFile.FieldType)) ∈ lw_all := lw_g (lw_at lw_m10 114 rfl) rfl
theorem q2753 : (Jvm.Cond.methodLink "KnowHouse$VersionTrans" (117 : Nat) ({ cls := "KnowHouse$VersionTrans", name := "settle", desc := "()V" } : Jvm.MethodName)) ∈ lw_all := lw_g (lw_at lw_m10 115 rfl) rfl
theorem q2755 : (Jvm.Cond.instanceMethod ({ cls := "KnowHouse$VersionTrans", name := "settle", desc := "()V" } : Jvm.MethodName)) ∈ lw_all := lw_g (lw_at lw_m10 117 rfl) rfl
theorem q2756 : (Jvm.Cond.code ({ cls := "KnowHouse$VersionTrans", name := "settle", desc := "()V" } : Jvm.MethodName) prog_65_method_18_code (2 : Nat) (Option.none : Option Jvm.ClassFile.FieldType)) ∈ lw_all := lw_g (lw_at lw_m10 118 rfl) rfl
theorem q2761 : (Jvm.Cond.methodLink "KnowHouse$VersionTrans" (181 : Nat) ({ cls := "KnowHouse$VersionTrans$Transaction", name := "isLive", desc := "()Z" } : Jvm.MethodName)) ∈ lw_all := lw_g (lw_at lw_m10 123 rfl) rfl
theorem q2762 : (Jvm.Cond.instanceMethod ({ cls := "KnowHouse$VersionTrans$Transaction", name := "isLive", desc := "()Z" } : Jvm.MethodName)) ∈ lw_all := lw_g (lw_at lw_m10 124 rfl) rfl
theorem q2763 : (Jvm.Cond.sameMethod "KnowHouse$VersionTrans$Transaction" "KnowHouse$VersionTrans$Transaction" "isLive" "()Z") ∈ lw_all := lw_g (lw_at lw_m10 125 rfl) rfl
theorem q2764 : (Jvm.Cond.selects "KnowHouse$VersionTrans$Reader" ({ cls := "KnowHouse$VersionTrans$Transaction", name := "isLive", desc := "()Z" } : Jvm.MethodName) ({ cls := "KnowHouse$VersionTrans$Transaction", name := "isLive", desc := "()Z" } : Jvm.MethodName)) ∈ lw_all := lw_g (lw_at lw_m10 126 rfl) rfl
theorem q2765 : (Jvm.Cond.selects "KnowHouse$VersionTrans$Writer" ({ cls := "KnowHouse$VersionTrans$Transaction", name := "isLive", desc := "()Z" } : Jvm.MethodName) ({ cls := "KnowHouse$VersionTrans$Transaction", name := "isLive", desc := "()Z" } : Jvm.MethodName)) ∈ lw_all := lw_g (lw_at lw_m10 127 rfl) rfl
theorem q2766 : (Jvm.Cond.code ({ cls := "KnowHouse$VersionTrans$Transaction", name := "isLive", desc := "()Z" } : Jvm.MethodName) prog_70_method_2_code (1 : Nat) (Option.some Jvm.ClassFile.FieldType.boolean)) ∈ lw_all := lw_g (lw_at lw_m10 128 rfl) rfl
theorem q2767 : (Jvm.Cond.fieldLink "KnowHouse$VersionTrans$Transaction" (25 : Nat) "KnowHouse$VersionTrans$State" "COMMITTED" "LKnowHouse$VersionTrans$State;") ∈ lw_all := lw_g (lw_at lw_m10 129 rfl) rfl
theorem q2769 : (Jvm.Cond.fieldLink "KnowHouse$VersionTrans$Transaction" (28 : Nat) "KnowHouse$VersionTrans$State" "ABORTED" "LKnowHouse$VersionTrans$State;") ∈ lw_all := lw_g (lw_at lw_m10 131 rfl) rfl
theorem q2774 : (Jvm.Cond.methodLink "KnowHouse$VersionTrans" (191 : Nat) ({ cls := "KnowHouse$VersionTrans$Transaction", name := "commit", desc := "(LKnowHouse$VersionTrans;)I" } : Jvm.MethodName)) ∈ lw_all := lw_g (lw_at lw_m10 136 rfl) rfl
theorem q2775 : (Jvm.Cond.declares ({ cls := "KnowHouse$VersionTrans$Transaction", name := "commit", desc := "(LKnowHouse$VersionTrans;)I" } : Jvm.MethodName)) ∈ lw_tbl := lw_at lw_m10 137 rfl
theorem q2776 : (Jvm.Cond.sameMethod "KnowHouse$VersionTrans$Transaction" "KnowHouse$VersionTrans$Transaction" "commit" "(LKnowHouse$VersionTrans;)I") ∈ lw_all := lw_g (lw_at lw_m10 138 rfl) rfl
theorem q2777 : (Jvm.Cond.selects "KnowHouse$VersionTrans$Reader" ({ cls := "KnowHouse$VersionTrans$Transaction", name := "commit", desc := "(LKnowHouse$VersionTrans;)I" } : Jvm.MethodName) ({ cls := "KnowHouse$VersionTrans$Reader", name := "commit", desc := "(LKnowHouse$VersionTrans;)I" } : Jvm.MethodName)) ∈ lw_all := lw_g (lw_at lw_m10 139 rfl) rfl
theorem q2778 : (Jvm.Cond.instanceMethod ({ cls := "KnowHouse$VersionTrans$Reader", name := "commit", desc := "(LKnowHouse$VersionTrans;)I" } : Jvm.MethodName)) ∈ lw_all := lw_g (lw_at lw_m10 140 rfl) rfl
theorem q2779 : (Jvm.Cond.code ({ cls := "KnowHouse$VersionTrans$Reader", name := "commit", desc := "(LKnowHouse$VersionTrans;)I" } : Jvm.MethodName) prog_67_method_3_code (2 : Nat) (Option.some Jvm.ClassFile.FieldType.int)) ∈ lw_all := lw_g (lw_at lw_m10 141 rfl) rfl
theorem q2780 : (Jvm.Cond.fieldLink "KnowHouse$VersionTrans$Reader" (19 : Nat) "KnowHouse$VersionTrans$State" "COMMITTED" "LKnowHouse$VersionTrans$State;") ∈ lw_all := lw_g (lw_at lw_m10 142 rfl) rfl
theorem q2781 : (Jvm.Cond.selects "KnowHouse$VersionTrans$Writer" ({ cls := "KnowHouse$VersionTrans$Transaction", name := "commit", desc := "(LKnowHouse$VersionTrans;)I" } : Jvm.MethodName) ({ cls := "KnowHouse$VersionTrans$Writer", name := "commit", desc := "(LKnowHouse$VersionTrans;)I" } : Jvm.MethodName)) ∈ lw_all := lw_g (lw_at lw_m10 143 rfl) rfl
theorem q2782 : (Jvm.Cond.instanceMethod ({ cls := "KnowHouse$VersionTrans$Writer", name := "commit", desc := "(LKnowHouse$VersionTrans;)I" } : Jvm.MethodName)) ∈ lw_all := lw_g (lw_at lw_m10 144 rfl) rfl
theorem q2783 : (Jvm.Cond.codeWith ({ cls := "KnowHouse$VersionTrans$Writer", name := "commit", desc := "(LKnowHouse$VersionTrans;)I" } : Jvm.MethodName) prog_71_method_7_code (4 : Nat) (Option.some Jvm.ClassFile.FieldType.int) [((16 : Nat), (21 : Nat), (24 : Nat), (52 : Nat))]) ∈ lw_all := lw_g (lw_at lw_m10 145 rfl) rfl
theorem q2784 : (Jvm.Cond.classLink "KnowHouse$VersionTrans$Writer" (52 : Nat) "java/lang/IllegalStateException") ∈ lw_all := lw_g (lw_at lw_m10 146 rfl) rfl
theorem q2785 : (Jvm.Cond.fieldLink "KnowHouse$VersionTrans$Writer" (61 : Nat) "KnowHouse$VersionTrans$State" "FAILED" "LKnowHouse$VersionTrans$State;") ∈ lw_all := lw_g (lw_at lw_m10 147 rfl) rfl
theorem q2786 : (Jvm.Cond.methodLinkNest "KnowHouse$VersionTrans$Writer" (66 : Nat) ({ cls := "KnowHouse$VersionTrans", name := "refuse", desc := "(LKnowHouse$VersionTrans$Writer;)I" } : Jvm.MethodName) "KnowHouse") ∈ lw_tbl := lw_at lw_m10 148 rfl
theorem q2788 : (Jvm.Cond.instanceMethod ({ cls := "KnowHouse$VersionTrans", name := "refuse", desc := "(LKnowHouse$VersionTrans$Writer;)I" } : Jvm.MethodName)) ∈ lw_all := lw_g (lw_at lw_m10 150 rfl) rfl
theorem q2789 : (Jvm.Cond.code ({ cls := "KnowHouse$VersionTrans", name := "refuse", desc := "(LKnowHouse$VersionTrans$Writer;)I" } : Jvm.MethodName) prog_65_method_22_code (2 : Nat) (Option.some Jvm.ClassFile.FieldType.int)) ∈ lw_all := lw_g (lw_at lw_m10 151 rfl) rfl
theorem q2790 : (Jvm.Cond.methodLink "KnowHouse$VersionTrans$Writer" (70 : Nat) ({ cls := "KnowHouse$VersionTrans$Writer", name := "look", desc := "(LKnowHouse$VersionTrans;)V" } : Jvm.MethodName)) ∈ lw_all := lw_g (lw_at lw_m10 152 rfl) rfl
theorem q2792 : (Jvm.Cond.instanceMethod ({ cls := "KnowHouse$VersionTrans$Writer", name := "look", desc := "(LKnowHouse$VersionTrans;)V" } : Jvm.MethodName)) ∈ lw_all := lw_g (lw_at lw_m10 154 rfl) rfl
theorem q2793 : (Jvm.Cond.code ({ cls := "KnowHouse$VersionTrans$Writer", name := "look", desc := "(LKnowHouse$VersionTrans;)V" } : Jvm.MethodName) prog_71_method_6_code (4 : Nat) (Option.none : Option Jvm.ClassFile.FieldType)) ∈ lw_all := lw_g (lw_at lw_m10 155 rfl) rfl
theorem q2794 : (Jvm.Cond.methodLinkNest "KnowHouse$VersionTrans$Writer" (45 : Nat) ({ cls := "KnowHouse$VersionTrans", name := "isChanged", desc := "(II)Z" } : Jvm.MethodName) "KnowHouse") ∈ lw_tbl := lw_at lw_m10 156 rfl
theorem q2795 : (Jvm.Cond.methodLink "KnowHouse$VersionTrans$Writer" (54 : Nat) ({ cls := "java/lang/IllegalStateException", name := "<init>", desc := "()V" } : Jvm.MethodName)) ∈ lw_all := lw_g (lw_at lw_m10 157 rfl) rfl
theorem q2796 : (Jvm.Cond.methodLinkNest "KnowHouse$VersionTrans$Writer" (23 : Nat) ({ cls := "KnowHouse$VersionTrans", name := "isThere", desc := "(II)Z" } : Jvm.MethodName) "KnowHouse") ∈ lw_tbl := lw_at lw_m10 158 rfl
theorem q2798 : (Jvm.Cond.instanceMethod ({ cls := "KnowHouse$VersionTrans", name := "isThere", desc := "(II)Z" } : Jvm.MethodName)) ∈ lw_all := lw_g (lw_at lw_m10 160 rfl) rfl
theorem q2799 : (Jvm.Cond.code ({ cls := "KnowHouse$VersionTrans", name := "isThere", desc := "(II)Z" } : Jvm.MethodName) prog_65_method_1_code (4 : Nat) (Option.some Jvm.ClassFile.FieldType.boolean)) ∈ lw_all := lw_g (lw_at lw_m10 161 rfl) rfl
theorem q2800 : (Jvm.Cond.classLink "KnowHouse$VersionTrans$Writer" (81 : Nat) "KnowHouse$VersionTrans$Row") ∈ lw_all := lw_g (lw_at lw_m10 162 rfl) rfl
theorem q2801 : (Jvm.Cond.instantiable "KnowHouse$VersionTrans$Row" (3 : Nat)) ∈ lw_all := lw_g (lw_at lw_m10 163 rfl) rfl
theorem q2802 : (Jvm.Cond.methodLink "KnowHouse$VersionTrans$Writer" (83 : Nat) ({ cls := "KnowHouse$VersionTrans$Row", name := "<init>", desc := "(IZLKnowHouse$VersionTrans$Row;)V" } : Jvm.MethodName)) ∈ lw_all := lw_g (lw_at lw_m10 164 rfl) rfl
theorem q2803 : (Jvm.Cond.instanceMethod ({ cls := "KnowHouse$VersionTrans$Row", name := "<init>", desc := "(IZLKnowHouse$VersionTrans$Row;)V" } : Jvm.MethodName)) ∈ lw_all := lw_g (lw_at lw_m10 165 rfl) rfl
theorem q2804 : (Jvm.Cond.code ({ cls := "KnowHouse$VersionTrans$Row", name := "<init>", desc := "(IZLKnowHouse$VersionTrans$Row;)V" } : Jvm.MethodName) prog_68_method_1_code (4 : Nat) (Option.none : Option Jvm.ClassFile.FieldType)) ∈ lw_all := lw_g (lw_at lw_m10 166 rfl) rfl
theorem q2805 : (Jvm.Cond.methodLink "KnowHouse$VersionTrans$Row" (1 : Nat) ({ cls := "java/lang/Object", name := "<init>", desc := "()V" } : Jvm.MethodName)) ∈ lw_all := lw_g (lw_at lw_m10 167 rfl) rfl
theorem q2806 : (Jvm.Cond.fieldLink "KnowHouse$VersionTrans$Row" (7 : Nat) "KnowHouse$VersionTrans$Row" "version" "I") ∈ lw_all := lw_g (lw_at lw_m10 168 rfl) rfl
theorem q2807 : (Jvm.Cond.fieldLinkNest "KnowHouse$VersionTrans" (7 : Nat) "KnowHouse$VersionTrans$Row" "version" "I" "KnowHouse") ∈ lw_tbl := lw_at lw_m10 169 rfl
theorem q2808 : (Jvm.Cond.fieldLink "KnowHouse$VersionTrans$Row" (13 : Nat) "KnowHouse$VersionTrans$Row" "there" "Z") ∈ lw_all := lw_g (lw_at lw_m10 170 rfl) rfl
theorem q2809 : (Jvm.Cond.fieldLinkNest "KnowHouse$VersionTrans" (17 : Nat) "KnowHouse$VersionTrans$Row" "there" "Z" "KnowHouse") ∈ lw_tbl := lw_at lw_m10 171 rfl
theorem q2810 : (Jvm.Cond.fieldLink "KnowHouse$VersionTrans$Row" (17 : Nat) "KnowHouse$VersionTrans$Row" "older" "LKnowHouse$VersionTrans$Row;") ∈ lw_all := lw_g (lw_at lw_m10 172 rfl) rfl
theorem q2811 : (Jvm.Cond.fieldLinkNest "KnowHouse$VersionTrans" (13 : Nat) "KnowHouse$VersionTrans$Row" "older" "LKnowHouse$VersionTrans$Row;" "KnowHouse") ∈ lw_tbl := lw_at lw_m10 173 rfl
theorem q2819 : (Jvm.Cond.methodLink "KnowHouse$VersionTrans$Writer" (89 : Nat) ({ cls := "java/lang/Math", name := "max", desc := "(II)I" } : Jvm.MethodName)) ∈ lw_all := lw_g (lw_at lw_m10 181 rfl) rfl
theorem q2820 : (Jvm.Cond.fieldLink "KnowHouse$VersionTrans$Writer" (95 : Nat) "KnowHouse$VersionTrans$State" "COMMITTED" "LKnowHouse$VersionTrans$State;") ∈ lw_all := lw_g (lw_at lw_m10 182 rfl) rfl
theorem q2821 : (Jvm.Cond.methodLinkNest "KnowHouse$VersionTrans$Writer" (98 : Nat) ({ cls := "KnowHouse$VersionTrans", name := "end", desc := "(LKnowHouse$VersionTrans$Writer;)V" } : Jvm.MethodName) "KnowHouse") ∈ lw_tbl := lw_at lw_m10 183 rfl
theorem q2941 : (Jvm.Cond.methodLink "KnowHouse$VersionTrans" (78 : Nat) ({ cls := "KnowHouse$VersionTrans", name := "needVersion", desc := "(I)V" } : Jvm.MethodName)) ∈ lw_all := lw_g (lw_at lw_m11 63 rfl) rfl
theorem q2943 : (Jvm.Cond.instanceMethod ({ cls := "KnowHouse$VersionTrans", name := "needVersion", desc := "(I)V" } : Jvm.MethodName)) ∈ lw_all := lw_g (lw_at lw_m11 65 rfl) rfl
theorem q2944 : (Jvm.Cond.code ({ cls := "KnowHouse$VersionTrans", name := "needVersion", desc := "(I)V" } : Jvm.MethodName) prog_65_method_9_code (2 : Nat) (Option.none : Option Jvm.ClassFile.FieldType)) ∈ lw_all := lw_g (lw_at lw_m11 66 rfl) rfl
theorem q2945 : (Jvm.Cond.methodLink "KnowHouse$VersionTrans" (74 : Nat) ({ cls := "KnowHouse$VersionTrans", name := "least", desc := "()I" } : Jvm.MethodName)) ∈ lw_all := lw_g (lw_at lw_m11 67 rfl) rfl
theorem q2946 : (Jvm.Cond.instanceMethod ({ cls := "KnowHouse$VersionTrans", name := "least", desc := "()I" } : Jvm.MethodName)) ∈ lw_all := lw_g (lw_at lw_m11 68 rfl) rfl
theorem q2947 : (Jvm.Cond.selects "KnowHouse$VersionTrans" ({ cls := "KnowHouse$VersionTrans", name := "least", desc := "()I" } : Jvm.MethodName) ({ cls := "KnowHouse$VersionTrans", name := "least", desc := "()I" } : Jvm.MethodName)) ∈ lw_all := lw_g (lw_at lw_m11 69 rfl) rfl
theorem q2948 : (Jvm.Cond.code ({ cls := "KnowHouse$VersionTrans", name := "least", desc := "()I" } : Jvm.MethodName) prog_65_method_28_code (3 : Nat) (Option.some Jvm.ClassFile.FieldType.int)) ∈ lw_all := lw_g (lw_at lw_m11 70 rfl) rfl
theorem q2949 : (Jvm.Cond.methodLink "KnowHouse$VersionTrans" (214 : Nat) ({ cls := "java/lang/Math", name := "min", desc := "(II)I" } : Jvm.MethodName)) ∈ lw_all := lw_g (lw_at lw_m11 71 rfl) rfl
theorem q2950 : (Jvm.Cond.methodLink "KnowHouse$VersionTrans" (188 : Nat) ({ cls := "KnowHouse$VersionTrans", name := "isThere", desc := "(II)Z" } : Jvm.MethodName)) ∈ lw_all := lw_g (lw_at lw_m11 72 rfl) rfl
theorem q3925 : (Jvm.Cond.classLink "KnowHouse$VersionTrans" (82 : Nat) "KnowHouse$VersionTrans$Reader") ∈ lw_all := lw_g (lw_at lw_m15 87 rfl) rfl
theorem q3926 : (Jvm.Cond.instantiable "KnowHouse$VersionTrans$Reader" (3 : Nat)) ∈ lw_all := lw_g (lw_at lw_m15 88 rfl) rfl
theorem q3927 : (Jvm.Cond.methodLink "KnowHouse$VersionTrans" (84 : Nat) ({ cls := "KnowHouse$VersionTrans$Reader", name := "<init>", desc := "(II)V" } : Jvm.MethodName)) ∈ lw_all := lw_g (lw_at lw_m15 89 rfl) rfl
theorem q3928 : (Jvm.Cond.instanceMethod ({ cls := "KnowHouse$VersionTrans$Reader", name := "<init>", desc := "(II)V" } : Jvm.MethodName)) ∈ lw_all := lw_g (lw_at lw_m15 90 rfl) rfl
theorem q3929 : (Jvm.Cond.code ({ cls := "KnowHouse$VersionTrans$Reader", name := "<init>", desc := "(II)V" } : Jvm.MethodName) prog_67_method_1_code (3 : Nat) (Option.none : Option Jvm.ClassFile.FieldType)) ∈ lw_all := lw_g (lw_at lw_m15 91 rfl) rfl
theorem q3930 : (Jvm.Cond.methodLink "KnowHouse$VersionTrans$Reader" (1 : Nat) ({ cls := "KnowHouse$VersionTrans$Transaction", name := "<init>", desc := "(II)V" } : Jvm.MethodName)) ∈ lw_all := lw_g (lw_at lw_m15 92 rfl) rfl
theorem q3943 : (Jvm.Cond.methodLink "KnowHouse$VersionTrans" (185 : Nat) ({ cls := "KnowHouse$VersionTrans$Transaction", name := "sees", desc := "(LKnowHouse$VersionTrans;I)Z" } : Jvm.MethodName)) ∈ lw_all := lw_g (lw_at lw_m15 105 rfl) rfl
theorem q3944 : (Jvm.Cond.declares ({ cls := "KnowHouse$VersionTrans$Transaction", name := "sees", desc := "(LKnowHouse$VersionTrans;I)Z" } : Jvm.MethodName)) ∈ lw_tbl := lw_at lw_m15 106 rfl
theorem q3945 : (Jvm.Cond.sameMethod "KnowHouse$VersionTrans$Transaction" "KnowHouse$VersionTrans$Transaction" "sees" "(LKnowHouse$VersionTrans;I)Z") ∈ lw_all := lw_g (lw_at lw_m15 107 rfl) rfl
theorem q3946 : (Jvm.Cond.selects "KnowHouse$VersionTrans$Reader" ({ cls := "KnowHouse$VersionTrans$Transaction", name := "sees", desc := "(LKnowHouse$VersionTrans;I)Z" } : Jvm.MethodName) ({ cls := "KnowHouse$VersionTrans$Reader", name := "sees", desc := "(LKnowHouse$VersionTrans;I)Z" } : Jvm.MethodName)) ∈ lw_all := lw_g (lw_at lw_m15 108 rfl) rfl
theorem q3947 : (Jvm.Cond.instanceMethod ({ cls := "KnowHouse$VersionTrans$Reader", name := "sees", desc := "(LKnowHouse$VersionTrans;I)Z" } : Jvm.MethodName)) ∈ lw_all := lw_g (lw_at lw_m15 109 rfl) rfl
theorem q3948 : (Jvm.Cond.code ({ cls := "KnowHouse$VersionTrans$Reader", name := "sees", desc := "(LKnowHouse$VersionTrans;I)Z" } : Jvm.MethodName) prog_67_method_2_code (3 : Nat) (Option.some Jvm.ClassFile.FieldType.boolean)) ∈ lw_all := lw_g (lw_at lw_m15 110 rfl) rfl
theorem q3949 : (Jvm.Cond.methodLinkNest "KnowHouse$VersionTrans$Reader" (13 : Nat) ({ cls := "KnowHouse$VersionTrans", name := "isThere", desc := "(II)Z" } : Jvm.MethodName) "KnowHouse") ∈ lw_tbl := lw_at lw_m15 111 rfl
theorem q3950 : (Jvm.Cond.selects "KnowHouse$VersionTrans$Writer" ({ cls := "KnowHouse$VersionTrans$Transaction", name := "sees", desc := "(LKnowHouse$VersionTrans;I)Z" } : Jvm.MethodName) ({ cls := "KnowHouse$VersionTrans$Writer", name := "sees", desc := "(LKnowHouse$VersionTrans;I)Z" } : Jvm.MethodName)) ∈ lw_all := lw_g (lw_at lw_m15 112 rfl) rfl
theorem q3951 : (Jvm.Cond.instanceMethod ({ cls := "KnowHouse$VersionTrans$Writer", name := "sees", desc := "(LKnowHouse$VersionTrans;I)Z" } : Jvm.MethodName)) ∈ lw_all := lw_g (lw_at lw_m15 113 rfl) rfl
theorem q3952 : (Jvm.Cond.code ({ cls := "KnowHouse$VersionTrans$Writer", name := "sees", desc := "(LKnowHouse$VersionTrans;I)Z" } : Jvm.MethodName) prog_71_method_3_code (3 : Nat) (Option.some Jvm.ClassFile.FieldType.boolean)) ∈ lw_all := lw_g (lw_at lw_m15 114 rfl) rfl
theorem q3960 : (Jvm.Cond.methodLink "KnowHouse$VersionTrans" (205 : Nat) ({ cls := "KnowHouse$VersionTrans", name := "pinOf", desc := "(I)LKnowHouse$VersionTrans$Pin;" } : Jvm.MethodName)) ∈ lw_all := lw_g (lw_at lw_m15 122 rfl) rfl
theorem q3962 : (Jvm.Cond.instanceMethod ({ cls := "KnowHouse$VersionTrans", name := "pinOf", desc := "(I)LKnowHouse$VersionTrans$Pin;" } : Jvm.MethodName)) ∈ lw_all := lw_g (lw_at lw_m15 124 rfl) rfl
theorem q3963 : (Jvm.Cond.code ({ cls := "KnowHouse$VersionTrans", name := "pinOf", desc := "(I)LKnowHouse$VersionTrans$Pin;" } : Jvm.MethodName) prog_65_method_25_code (3 : Nat) (Option.some (Jvm.ClassFile.FieldType.object "KnowHouse$VersionTrans$Pin"))) ∈ lw_all := lw_g (lw_at lw_m15 125 rfl) rfl
theorem q3964 : (Jvm.Cond.classLink "KnowHouse$VersionTrans" (200 : Nat) "KnowHouse$VersionTrans$Pin") ∈ lw_all := lw_g (lw_at lw_m15 126 rfl) rfl
theorem q3965 : (Jvm.Cond.instantiable "KnowHouse$VersionTrans$Pin" (3 : Nat)) ∈ lw_all := lw_g (lw_at lw_m15 127 rfl) rfl
theorem q3966 : (Jvm.Cond.methodLink "KnowHouse$VersionTrans" (209 : Nat) ({ cls := "KnowHouse$VersionTrans$Pin", name := "<init>", desc := "(ILKnowHouse$VersionTrans$Pin;)V" } : Jvm.MethodName)) ∈ lw_all := lw_g (lw_at lw_m15 128 rfl) rfl
theorem q3967 : (Jvm.Cond.instanceMethod ({ cls := "KnowHouse$VersionTrans$Pin", name := "<init>", desc := "(ILKnowHouse$VersionTrans$Pin;)V" } : Jvm.MethodName)) ∈ lw_all := lw_g (lw_at lw_m15 129 rfl) rfl
theorem q3968 : (Jvm.Cond.code ({ cls := "KnowHouse$VersionTrans$Pin", name := "<init>", desc := "(ILKnowHouse$VersionTrans$Pin;)V" } : Jvm.MethodName) prog_66_method_1_code (3 : Nat) (Option.none : Option Jvm.ClassFile.FieldType)) ∈ lw_all := lw_g (lw_at lw_m15 130 rfl) rfl
theorem q3969 : (Jvm.Cond.methodLink "KnowHouse$VersionTrans$Pin" (1 : Nat) ({ cls := "java/lang/Object", name := "<init>", desc := "()V" } : Jvm.MethodName)) ∈ lw_all := lw_g (lw_at lw_m15 131 rfl) rfl
theorem q3970 : (Jvm.Cond.fieldLink "KnowHouse$VersionTrans$Pin" (7 : Nat) "KnowHouse$VersionTrans$Pin" "version" "I") ∈ lw_all := lw_g (lw_at lw_m15 132 rfl) rfl
theorem q3971 : (Jvm.Cond.fieldLinkNest "KnowHouse$VersionTrans" (199 : Nat) "KnowHouse$VersionTrans$Pin" "version" "I" "KnowHouse") ∈ lw_tbl := lw_at lw_m15 133 rfl
theorem q3972 : (Jvm.Cond.fieldLinkNest "KnowHouse$VersionTrans" (212 : Nat) "KnowHouse$VersionTrans$Pin" "count" "I" "KnowHouse") ∈ lw_tbl := lw_at lw_m15 134 rfl
theorem q3973 : (Jvm.Cond.fieldLink "KnowHouse$VersionTrans$Pin" (13 : Nat) "KnowHouse$VersionTrans$Pin" "next" "LKnowHouse$VersionTrans$Pin;") ∈ lw_all := lw_g (lw_at lw_m15 135 rfl) rfl
theorem q3974 : (Jvm.Cond.fieldLinkNest "KnowHouse$VersionTrans" (202 : Nat) "KnowHouse$VersionTrans$Pin" "next" "LKnowHouse$VersionTrans$Pin;" "KnowHouse") ∈ lw_tbl := lw_at lw_m15 136 rfl
theorem q3999 : (Jvm.Cond.methodLink "KnowHouse$VersionTrans" (223 : Nat) ({ cls := "KnowHouse$VersionTrans$State", name := "ordinal", desc := "()I" } : Jvm.MethodName)) ∈ lw_all := lw_g (lw_at lw_m15 161 rfl) rfl
theorem q4000 : (Jvm.Cond.sameMethod "KnowHouse$VersionTrans$State" "java/lang/Enum" "ordinal" "()I") ∈ lw_all := lw_g (lw_at lw_m15 162 rfl) rfl
theorem q4002 : (Jvm.Cond.selects "KnowHouse$VersionTrans$State" ({ cls := "KnowHouse$VersionTrans$State", name := "ordinal", desc := "()I" } : Jvm.MethodName) ({ cls := "java/lang/Enum", name := "ordinal", desc := "()I" } : Jvm.MethodName)) ∈ lw_all := lw_g (lw_at lw_m15 164 rfl) rfl
theorem q4003 : (Jvm.Cond.instanceMethod ({ cls := "java/lang/Enum", name := "ordinal", desc := "()I" } : Jvm.MethodName)) ∈ lw_all := lw_g (lw_at lw_m15 165 rfl) rfl
theorem q4004 : (Jvm.Cond.code ({ cls := "java/lang/Enum", name := "ordinal", desc := "()I" } : Jvm.MethodName) prog_99_method_2_code (1 : Nat) (Option.some Jvm.ClassFile.FieldType.int)) ∈ lw_all := lw_g (lw_at lw_m15 166 rfl) rfl
theorem q9146 : (Jvm.Cond.castable "KnowHouse$VersionTrans$Reader" "KnowHouse$VersionTrans$Transaction") ∈ lw_tbl := lw_at lw_m37 28 rfl
theorem q9147 : (Jvm.Cond.castable "KnowHouse$VersionTrans$Writer" "KnowHouse$VersionTrans$Transaction") ∈ lw_tbl := lw_at lw_m37 29 rfl
theorem q9153 : (Jvm.Cond.fieldLink "java/lang/Enum" (7 : Nat) "java/lang/Enum" "ordinal" "I") ∈ lw_all := lw_g (lw_at lw_m37 35 rfl) rfl
theorem hVTx13_X5_put : "KnowHouse$VersionTrans$Transaction" ≠ "java/lang/invoke/MethodHandle" ∧ "KnowHouse$VersionTrans$Transaction" ≠ "java/lang/invoke/VarHandle" ∧ (parseMethodDescriptor "()LKnowHouse$VersionTrans$Writer;").map (fun d => d.parameters.length) = some 0 := by decide +kernel
theorem hVTx7_X5_abort : "KnowHouse$VersionTrans$Transaction" ≠ "java/lang/invoke/MethodHandle" ∧ "KnowHouse$VersionTrans$Transaction" ≠ "java/lang/invoke/VarHandle" ∧ (parseMethodDescriptor "()Z").map (fun d => d.parameters.length) = some 0 := by decide +kernel
theorem hVTx7_X5_commit : "KnowHouse$VersionTrans$Transaction" ≠ "java/lang/invoke/MethodHandle" ∧ "KnowHouse$VersionTrans$Transaction" ≠ "java/lang/invoke/VarHandle" ∧ (parseMethodDescriptor "()Z").map (fun d => d.parameters.length) = some 0 := by decide +kernel
theorem hVTx33_X5_commit : "KnowHouse$VersionTrans$Transaction" ≠ "java/lang/invoke/MethodHandle" ∧ "KnowHouse$VersionTrans$Transaction" ≠ "java/lang/invoke/VarHandle" ∧ (parseMethodDescriptor "(LKnowHouse$VersionTrans;)I").map (fun d => d.parameters.length) = some 1 := by decide +kernel
theorem hVTx21_X5_least : "KnowHouse$VersionTrans$Transaction" ≠ "java/lang/invoke/MethodHandle" ∧ "KnowHouse$VersionTrans$Transaction" ≠ "java/lang/invoke/VarHandle" ∧ (parseMethodDescriptor "()Z").map (fun d => d.parameters.length) = some 0 := by decide +kernel
theorem hVTx24_X5_note : "KnowHouse$VersionTrans$Transaction" ≠ "java/lang/invoke/MethodHandle" ∧ "KnowHouse$VersionTrans$Transaction" ≠ "java/lang/invoke/VarHandle" ∧ (parseMethodDescriptor "()LKnowHouse$VersionTrans$Writer;").map (fun d => d.parameters.length) = some 0 := by decide +kernel
theorem hVTx11_X5_read : "KnowHouse$VersionTrans$Transaction" ≠ "java/lang/invoke/MethodHandle" ∧ "KnowHouse$VersionTrans$Transaction" ≠ "java/lang/invoke/VarHandle" ∧ (parseMethodDescriptor "()Z").map (fun d => d.parameters.length) = some 0 := by decide +kernel
theorem hVTx20_X5_read : "KnowHouse$VersionTrans$Transaction" ≠ "java/lang/invoke/MethodHandle" ∧ "KnowHouse$VersionTrans$Transaction" ≠ "java/lang/invoke/VarHandle" ∧ (parseMethodDescriptor "(LKnowHouse$VersionTrans;I)Z").map (fun d => d.parameters.length) = some 2 := by decide +kernel
theorem hVTx8_X5_state : "java/lang/Enum" ≠ "java/lang/invoke/MethodHandle" ∧ "java/lang/Enum" ≠ "java/lang/invoke/VarHandle" ∧ (parseMethodDescriptor "()I").map (fun d => d.parameters.length) = some 0 := by decide +kernel
theorem hVTX58_init : yX58_init.cls ≠ "java/lang/invoke/MethodHandle" ∧ yX58_init.cls ≠ "java/lang/invoke/VarHandle" ∧ (parseMethodDescriptor yX58_init.desc).map (fun d => d.parameters.length) = some 2 := by decide +kernel
theorem hVTX5_may : yX5_may.cls ≠ "java/lang/invoke/MethodHandle" ∧ yX5_may.cls ≠ "java/lang/invoke/VarHandle" ∧ (parseMethodDescriptor yX5_may.desc).map (fun d => d.parameters.length) = some 1 := by decide +kernel
theorem hVTX59_init : yX59_init.cls ≠ "java/lang/invoke/MethodHandle" ∧ yX59_init.cls ≠ "java/lang/invoke/VarHandle" ∧ (parseMethodDescriptor yX59_init.desc).map (fun d => d.parameters.length) = some 2 := by decide +kernel
theorem hVTX5_need : yX5_need.cls ≠ "java/lang/invoke/MethodHandle" ∧ yX5_need.cls ≠ "java/lang/invoke/VarHandle" ∧ (parseMethodDescriptor yX5_need.desc).map (fun d => d.parameters.length) = some 1 := by decide +kernel
theorem hVTX59_leave : yX59_leave.cls ≠ "java/lang/invoke/MethodHandle" ∧ yX59_leave.cls ≠ "java/lang/invoke/VarHandle" ∧ (parseMethodDescriptor yX59_leave.desc).map (fun d => d.parameters.length) = some 1 := by decide +kernel
theorem hVTX5_nextWaiting : yX5_nextWaiting.cls ≠ "java/lang/invoke/MethodHandle" ∧ yX5_nextWaiting.cls ≠ "java/lang/invoke/VarHandle" ∧ (parseMethodDescriptor yX5_nextWaiting.desc).map (fun d => d.parameters.length) = some 2 := by decide +kernel
theorem hVTX5_isOn : yX5_isOn.cls ≠ "java/lang/invoke/MethodHandle" ∧ yX5_isOn.cls ≠ "java/lang/invoke/VarHandle" ∧ (parseMethodDescriptor yX5_isOn.desc).map (fun d => d.parameters.length) = some 2 := by decide +kernel
theorem hVTX5_end : yX5_end.cls ≠ "java/lang/invoke/MethodHandle" ∧ yX5_end.cls ≠ "java/lang/invoke/VarHandle" ∧ (parseMethodDescriptor yX5_end.desc).map (fun d => d.parameters.length) = some 1 := by decide +kernel
theorem hVTX5_isChanged : yX5_isChanged.cls ≠ "java/lang/invoke/MethodHandle" ∧ yX5_isChanged.cls ≠ "java/lang/invoke/VarHandle" ∧ (parseMethodDescriptor yX5_isChanged.desc).map (fun d => d.parameters.length) = some 2 := by decide +kernel
theorem hVTX5_lookForRing : yX5_lookForRing.cls ≠ "java/lang/invoke/MethodHandle" ∧ yX5_lookForRing.cls ≠ "java/lang/invoke/VarHandle" ∧ (parseMethodDescriptor yX5_lookForRing.desc).map (fun d => d.parameters.length) = some 1 := by decide +kernel
theorem hVTX59_write : yX59_write.cls ≠ "java/lang/invoke/MethodHandle" ∧ yX59_write.cls ≠ "java/lang/invoke/VarHandle" ∧ (parseMethodDescriptor yX59_write.desc).map (fun d => d.parameters.length) = some 0 := by decide +kernel
theorem hVTX5_attempt : yX5_attempt.cls ≠ "java/lang/invoke/MethodHandle" ∧ yX5_attempt.cls ≠ "java/lang/invoke/VarHandle" ∧ (parseMethodDescriptor yX5_attempt.desc).map (fun d => d.parameters.length) = some 1 := by decide +kernel
theorem hVTX5_at : yX5_at.cls ≠ "java/lang/invoke/MethodHandle" ∧ yX5_at.cls ≠ "java/lang/invoke/VarHandle" ∧ (parseMethodDescriptor yX5_at.desc).map (fun d => d.parameters.length) = some 1 := by decide +kernel
theorem hVTX5_needTriple : yX5_needTriple.cls ≠ "java/lang/invoke/MethodHandle" ∧ yX5_needTriple.cls ≠ "java/lang/invoke/VarHandle" ∧ (parseMethodDescriptor yX5_needTriple.desc).map (fun d => d.parameters.length) = some 1 := by decide +kernel
theorem hVTX5_needOpen : yX5_needOpen.cls ≠ "java/lang/invoke/MethodHandle" ∧ yX5_needOpen.cls ≠ "java/lang/invoke/VarHandle" ∧ (parseMethodDescriptor yX5_needOpen.desc).map (fun d => d.parameters.length) = some 1 := by decide +kernel
theorem hVTX5_settle : yX5_settle.cls ≠ "java/lang/invoke/MethodHandle" ∧ yX5_settle.cls ≠ "java/lang/invoke/VarHandle" ∧ (parseMethodDescriptor yX5_settle.desc).map (fun d => d.parameters.length) = some 0 := by decide +kernel
theorem hVTX5_refuse : yX5_refuse.cls ≠ "java/lang/invoke/MethodHandle" ∧ yX5_refuse.cls ≠ "java/lang/invoke/VarHandle" ∧ (parseMethodDescriptor yX5_refuse.desc).map (fun d => d.parameters.length) = some 1 := by decide +kernel
theorem hVTX59_look : yX59_look.cls ≠ "java/lang/invoke/MethodHandle" ∧ yX59_look.cls ≠ "java/lang/invoke/VarHandle" ∧ (parseMethodDescriptor yX59_look.desc).map (fun d => d.parameters.length) = some 1 := by decide +kernel
theorem hVTX5_isThere : yX5_isThere.cls ≠ "java/lang/invoke/MethodHandle" ∧ yX5_isThere.cls ≠ "java/lang/invoke/VarHandle" ∧ (parseMethodDescriptor yX5_isThere.desc).map (fun d => d.parameters.length) = some 2 := by decide +kernel
theorem hVTX60_init : yX60_init.cls ≠ "java/lang/invoke/MethodHandle" ∧ yX60_init.cls ≠ "java/lang/invoke/VarHandle" ∧ (parseMethodDescriptor yX60_init.desc).map (fun d => d.parameters.length) = some 3 := by decide +kernel
theorem hVTX5_least : yX5_least.cls ≠ "java/lang/invoke/MethodHandle" ∧ yX5_least.cls ≠ "java/lang/invoke/VarHandle" ∧ (parseMethodDescriptor yX5_least.desc).map (fun d => d.parameters.length) = some 0 := by decide +kernel
theorem hVTX5_needVersion : yX5_needVersion.cls ≠ "java/lang/invoke/MethodHandle" ∧ yX5_needVersion.cls ≠ "java/lang/invoke/VarHandle" ∧ (parseMethodDescriptor yX5_needVersion.desc).map (fun d => d.parameters.length) = some 1 := by decide +kernel
theorem hVTX65_init : yX65_init.cls ≠ "java/lang/invoke/MethodHandle" ∧ yX65_init.cls ≠ "java/lang/invoke/VarHandle" ∧ (parseMethodDescriptor yX65_init.desc).map (fun d => d.parameters.length) = some 2 := by decide +kernel
theorem hVTX5_pinOf : yX5_pinOf.cls ≠ "java/lang/invoke/MethodHandle" ∧ yX5_pinOf.cls ≠ "java/lang/invoke/VarHandle" ∧ (parseMethodDescriptor yX5_pinOf.desc).map (fun d => d.parameters.length) = some 1 := by decide +kernel
theorem hVTX66_init : yX66_init.cls ≠ "java/lang/invoke/MethodHandle" ∧ yX66_init.cls ≠ "java/lang/invoke/VarHandle" ∧ (parseMethodDescriptor yX66_init.desc).map (fun d => d.parameters.length) = some 2 := by decide +kernel
theorem hVTJ19_ordinal : yJ19_ordinal.cls ≠ "java/lang/invoke/MethodHandle" ∧ yJ19_ordinal.cls ≠ "java/lang/invoke/VarHandle" ∧ (parseMethodDescriptor yJ19_ordinal.desc).map (fun d => d.parameters.length) = some 0 := by decide +kernel
def kEVT (G : kGt) (sa : Nat → Nat) (so : kSo) : Prop := ∀ (A : Nat → Prop) (s : State) (H : Heap), G A s H → va_Z "KnowHouse$VersionTrans$State" "OPEN" "LKnowHouse$VersionTrans$State;" (.ref (sa 5)) A s H ∧ va_Nc "KnowHouse$VersionTrans$Reader" "KnowHouse$VersionTrans$Writer" s ∧ va_Z "KnowHouse$VersionTrans$State" "WAITS" "LKnowHouse$VersionTrans$State;" (.ref (sa 6)) A s H ∧ va_Z "KnowHouse$VersionTrans$State" "ABORTED" "LKnowHouse$VersionTrans$State;" (.ref (sa 9)) A s H ∧ va_Z "KnowHouse$VersionTrans$State" "FAILED" "LKnowHouse$VersionTrans$State;" (.ref (sa 7)) A s H ∧ va_Z "KnowHouse$VersionTrans$State" "COMMITTED" "LKnowHouse$VersionTrans$State;" (.ref (sa 8)) A s H ∧ kSf so A s H ∧ True
theorem kEVT_0 {G : kGt} {sa : Nat → Nat} {so : kSo} (h : kEVT G sa so) {A : Nat → Prop} {s : State} {H : Heap} (g : G A s H) : va_Z "KnowHouse$VersionTrans$State" "OPEN" "LKnowHouse$VersionTrans$State;" (.ref (sa 5)) A s H := (h A s H g).1
theorem kEVT_1 {G : kGt} {sa : Nat → Nat} {so : kSo} (h : kEVT G sa so) {A : Nat → Prop} {s : State} {H : Heap} (g : G A s H) : va_Nc "KnowHouse$VersionTrans$Reader" "KnowHouse$VersionTrans$Writer" s := (h A s H g).2.1
theorem kEVT_2 {G : kGt} {sa : Nat → Nat} {so : kSo} (h : kEVT G sa so) {A : Nat → Prop} {s : State} {H : Heap} (g : G A s H) : va_Z "KnowHouse$VersionTrans$State" "WAITS" "LKnowHouse$VersionTrans$State;" (.ref (sa 6)) A s H := (h A s H g).2.2.1
theorem kEVT_3 {G : kGt} {sa : Nat → Nat} {so : kSo} (h : kEVT G sa so) {A : Nat → Prop} {s : State} {H : Heap} (g : G A s H) : va_Z "KnowHouse$VersionTrans$State" "ABORTED" "LKnowHouse$VersionTrans$State;" (.ref (sa 9)) A s H := (h A s H g).2.2.2.1
theorem kEVT_4 {G : kGt} {sa : Nat → Nat} {so : kSo} (h : kEVT G sa so) {A : Nat → Prop} {s : State} {H : Heap} (g : G A s H) : va_Z "KnowHouse$VersionTrans$State" "FAILED" "LKnowHouse$VersionTrans$State;" (.ref (sa 7)) A s H := (h A s H g).2.2.2.2.1
theorem kEVT_5 {G : kGt} {sa : Nat → Nat} {so : kSo} (h : kEVT G sa so) {A : Nat → Prop} {s : State} {H : Heap} (g : G A s H) : va_Z "KnowHouse$VersionTrans$State" "COMMITTED" "LKnowHouse$VersionTrans$State;" (.ref (sa 8)) A s H := (h A s H g).2.2.2.2.2.1
theorem kEVT_6 {G : kGt} {sa : Nat → Nat} {so : kSo} (h : kEVT G sa so) {A : Nat → Prop} {s : State} {H : Heap} (g : G A s H) : kSf so A s H := (h A s H g).2.2.2.2.2.2.1
def cVT (ci : Nat → Nat) (d : Nat → ClassId) (kd : Nat → Nat) (an : Nat → Nat) (ai : Nat → Nat → Int32) (al : Nat → Nat → Int64) (ar : Nat → Nat → Option Nat) (mX5_newest : Nat → Option Nat) (mX5_rows : Nat → Int32) (mX5_latest : Nat → Int32) (mX5_pins : Nat → Option Nat) (mX5_transactions : Nat → Option Nat) (mX5_count : Nat → Int32) (mX5_holders : Nat → Option Nat) (mX5_tripleConflicts : Nat → Option Nat) (mX5_graphConflicts : Nat → Option Nat) (mX5_turns : Nat → Int32) (mX5_queue : Nat → Option Nat) (mX5_head : Nat → Int32) (mX5_tail : Nat → Int32) (mX5_ring : Nat → Option Nat) (mX58_number : Nat → Int32) (mX58_sees : Nat → Int32) (mX58_state : Nat → Option Nat) (mX59_writes : Nat → Option Nat) (mX59_count : Nat → Int32) (mX59_noted : Nat → Option Nat) (mX59_waitsFor : Nat → Option Nat) (mX59_turn : Nat → Int32) (mX59_triple : Nat → Int32) (mX59_there : Nat → Int32) (mX60_version : Nat → Int32) (mX60_there : Nat → Int32) (mX60_older : Nat → Option Nat) (mX66_version : Nat → Int32) (mX66_count : Nat → Int32) (mX66_next : Nat → Option Nat) : Nat → va_E := fun a => match kd a with
  | 1 => .inr (ci 0, [va_rf (mX5_newest a), .int (mX5_rows a), .int (mX5_latest a), va_rf (mX5_pins a), va_rf (mX5_transactions a), .int (mX5_count a), va_rf (mX5_holders a), va_rf (mX5_tripleConflicts a), va_rf (mX5_graphConflicts a), .int (mX5_turns a), va_rf (mX5_queue a), .int (mX5_head a), .int (mX5_tail a), va_rf (mX5_ring a)])
  | 2 => .inr (ci 1, [.int (mX58_number a), .int (mX58_sees a), va_rf (mX58_state a), va_rf (mX59_writes a), .int (mX59_count a), va_rf (mX59_noted a), va_rf (mX59_waitsFor a), .int (mX59_turn a), .int (mX59_triple a), .int (mX59_there a)])
  | 3 => .inr (ci 2, [.int (mX58_number a), .int (mX58_sees a), va_rf (mX58_state a)])
  | 4 => .inr (ci 3, [.int (mX60_version a), .int (mX60_there a), va_rf (mX60_older a)])
  | 5 => .inr (ci 4, [.int (mX66_version a), .int (mX66_count a), va_rf (mX66_next a)])
  | 6 => .inl (d 0, an a, .inl (ai a))
  | 7 => .inl (d 1, an a, .inl (ai a))
  | 8 => .inl (d 2, an a, .inl (ai a))
  | 9 => .inl (d 3, an a, .inr (.inr (.inr (.inr (ar a)))))
  | 10 => .inl (d 4, an a, .inr (.inr (.inr (.inr (ar a)))))
  | 11 => .inl (d 5, an a, .inr (.inr (.inr (.inr (ar a)))))
  | _ => .inl (d 0, 0, .inl (fun _ => 0))
abbrev kVT : List vw_C := [(RX5, TX5, 14), (RX59, TX59, 10), (RX65, TX65, 3), (RX60, TX60, 3), (RX66, TX66, 3)]
abbrev tVT (d : Nat → ClassId) : List (ClassId × FieldType) := [(d 0, .int), (d 1, .boolean), (d 2, .byte), (d 3, (.object "KnowHouse$VersionTrans$Row")), (d 4, (.object "KnowHouse$VersionTrans$Transaction")), (d 5, (.object "KnowHouse$VersionTrans$Writer"))]
theorem cVT_1 {ci : Nat → Nat} {d : Nat → ClassId} {kd : Nat → Nat} {an : Nat → Nat} {ai : Nat → Nat → Int32} {al : Nat → Nat → Int64} {ar : Nat → Nat → Option Nat} {mX5_newest : Nat → Option Nat} {mX5_rows : Nat → Int32} {mX5_latest : Nat → Int32} {mX5_pins : Nat → Option Nat} {mX5_transactions : Nat → Option Nat} {mX5_count : Nat → Int32} {mX5_holders : Nat → Option Nat} {mX5_tripleConflicts : Nat → Option Nat} {mX5_graphConflicts : Nat → Option Nat} {mX5_turns : Nat → Int32} {mX5_queue : Nat → Option Nat} {mX5_head : Nat → Int32} {mX5_tail : Nat → Int32} {mX5_ring : Nat → Option Nat} {mX58_number : Nat → Int32} {mX58_sees : Nat → Int32} {mX58_state : Nat → Option Nat} {mX59_writes : Nat → Option Nat} {mX59_count : Nat → Int32} {mX59_noted : Nat → Option Nat} {mX59_waitsFor : Nat → Option Nat} {mX59_turn : Nat → Int32} {mX59_triple : Nat → Int32} {mX59_there : Nat → Int32} {mX60_version : Nat → Int32} {mX60_there : Nat → Int32} {mX60_older : Nat → Option Nat} {mX66_version : Nat → Int32} {mX66_count : Nat → Int32} {mX66_next : Nat → Option Nat} {a : Nat} (hk : kd a = 1) : (cVT ci d kd an ai al ar mX5_newest mX5_rows mX5_latest mX5_pins mX5_transactions mX5_count mX5_holders mX5_tripleConflicts mX5_graphConflicts mX5_turns mX5_queue mX5_head mX5_tail mX5_ring mX58_number mX58_sees mX58_state mX59_writes mX59_count mX59_noted mX59_waitsFor mX59_turn mX59_triple mX59_there mX60_version mX60_there mX60_older mX66_version mX66_count mX66_next) a = .inr (ci 0, [va_rf (mX5_newest a), .int (mX5_rows a), .int (mX5_latest a), va_rf (mX5_pins a), va_rf (mX5_transactions a), .int (mX5_count a), va_rf (mX5_holders a), va_rf (mX5_tripleConflicts a), va_rf (mX5_graphConflicts a), .int (mX5_turns a), va_rf (mX5_queue a), .int (mX5_head a), .int (mX5_tail a), va_rf (mX5_ring a)]) := by unfold cVT; simp only [hk]
theorem cVT_1_0 {ci : Nat → Nat} {d : Nat → ClassId} {kd : Nat → Nat} {an : Nat → Nat} {ai : Nat → Nat → Int32} {al : Nat → Nat → Int64} {ar : Nat → Nat → Option Nat} {mX5_newest : Nat → Option Nat} {mX5_rows : Nat → Int32} {mX5_latest : Nat → Int32} {mX5_pins : Nat → Option Nat} {mX5_transactions : Nat → Option Nat} {mX5_count : Nat → Int32} {mX5_holders : Nat → Option Nat} {mX5_tripleConflicts : Nat → Option Nat} {mX5_graphConflicts : Nat → Option Nat} {mX5_turns : Nat → Int32} {mX5_queue : Nat → Option Nat} {mX5_head : Nat → Int32} {mX5_tail : Nat → Int32} {mX5_ring : Nat → Option Nat} {mX58_number : Nat → Int32} {mX58_sees : Nat → Int32} {mX58_state : Nat → Option Nat} {mX59_writes : Nat → Option Nat} {mX59_count : Nat → Int32} {mX59_noted : Nat → Option Nat} {mX59_waitsFor : Nat → Option Nat} {mX59_turn : Nat → Int32} {mX59_triple : Nat → Int32} {mX59_there : Nat → Int32} {mX60_version : Nat → Int32} {mX60_there : Nat → Int32} {mX60_older : Nat → Option Nat} {mX66_version : Nat → Int32} {mX66_count : Nat → Int32} {mX66_next : Nat → Option Nat} {a : Nat} {v : Option Nat} (hk : kd a = 1) : va_up (cVT ci d kd an ai al ar mX5_newest mX5_rows mX5_latest mX5_pins mX5_transactions mX5_count mX5_holders mX5_tripleConflicts mX5_graphConflicts mX5_turns mX5_queue mX5_head mX5_tail mX5_ring mX58_number mX58_sees mX58_state mX59_writes mX59_count mX59_noted mX59_waitsFor mX59_turn mX59_triple mX59_there mX60_version mX60_there mX60_older mX66_version mX66_count mX66_next) a (.inr (ci 0, [va_rf v, .int (mX5_rows a), .int (mX5_latest a), va_rf (mX5_pins a), va_rf (mX5_transactions a), .int (mX5_count a), va_rf (mX5_holders a), va_rf (mX5_tripleConflicts a), va_rf (mX5_graphConflicts a), .int (mX5_turns a), va_rf (mX5_queue a), .int (mX5_head a), .int (mX5_tail a), va_rf (mX5_ring a)])) = (cVT ci d kd an ai al ar (va_up mX5_newest a v) mX5_rows mX5_latest mX5_pins mX5_transactions mX5_count mX5_holders mX5_tripleConflicts mX5_graphConflicts mX5_turns mX5_queue mX5_head mX5_tail mX5_ring mX58_number mX58_sees mX58_state mX59_writes mX59_count mX59_noted mX59_waitsFor mX59_turn mX59_triple mX59_there mX60_version mX60_there mX60_older mX66_version mX66_count mX66_next) := by
  funext b
  by_cases h : b = a
  · subst h
    rw [va_up_self]
    unfold cVT
    rw [hk]
    simp only [va_up_self]
  · rw [va_up_ne _ _ h]
    unfold cVT
    simp only [va_up_ne _ _ h]
theorem cVT_1_1 {ci : Nat → Nat} {d : Nat → ClassId} {kd : Nat → Nat} {an : Nat → Nat} {ai : Nat → Nat → Int32} {al : Nat → Nat → Int64} {ar : Nat → Nat → Option Nat} {mX5_newest : Nat → Option Nat} {mX5_rows : Nat → Int32} {mX5_latest : Nat → Int32} {mX5_pins : Nat → Option Nat} {mX5_transactions : Nat → Option Nat} {mX5_count : Nat → Int32} {mX5_holders : Nat → Option Nat} {mX5_tripleConflicts : Nat → Option Nat} {mX5_graphConflicts : Nat → Option Nat} {mX5_turns : Nat → Int32} {mX5_queue : Nat → Option Nat} {mX5_head : Nat → Int32} {mX5_tail : Nat → Int32} {mX5_ring : Nat → Option Nat} {mX58_number : Nat → Int32} {mX58_sees : Nat → Int32} {mX58_state : Nat → Option Nat} {mX59_writes : Nat → Option Nat} {mX59_count : Nat → Int32} {mX59_noted : Nat → Option Nat} {mX59_waitsFor : Nat → Option Nat} {mX59_turn : Nat → Int32} {mX59_triple : Nat → Int32} {mX59_there : Nat → Int32} {mX60_version : Nat → Int32} {mX60_there : Nat → Int32} {mX60_older : Nat → Option Nat} {mX66_version : Nat → Int32} {mX66_count : Nat → Int32} {mX66_next : Nat → Option Nat} {a : Nat} {v : Int32} (hk : kd a = 1) : va_up (cVT ci d kd an ai al ar mX5_newest mX5_rows mX5_latest mX5_pins mX5_transactions mX5_count mX5_holders mX5_tripleConflicts mX5_graphConflicts mX5_turns mX5_queue mX5_head mX5_tail mX5_ring mX58_number mX58_sees mX58_state mX59_writes mX59_count mX59_noted mX59_waitsFor mX59_turn mX59_triple mX59_there mX60_version mX60_there mX60_older mX66_version mX66_count mX66_next) a (.inr (ci 0, [va_rf (mX5_newest a), .int v, .int (mX5_latest a), va_rf (mX5_pins a), va_rf (mX5_transactions a), .int (mX5_count a), va_rf (mX5_holders a), va_rf (mX5_tripleConflicts a), va_rf (mX5_graphConflicts a), .int (mX5_turns a), va_rf (mX5_queue a), .int (mX5_head a), .int (mX5_tail a), va_rf (mX5_ring a)])) = (cVT ci d kd an ai al ar mX5_newest (va_up mX5_rows a v) mX5_latest mX5_pins mX5_transactions mX5_count mX5_holders mX5_tripleConflicts mX5_graphConflicts mX5_turns mX5_queue mX5_head mX5_tail mX5_ring mX58_number mX58_sees mX58_state mX59_writes mX59_count mX59_noted mX59_waitsFor mX59_turn mX59_triple mX59_there mX60_version mX60_there mX60_older mX66_version mX66_count mX66_next) := by
  funext b
  by_cases h : b = a
  · subst h
    rw [va_up_self]
    unfold cVT
    rw [hk]
    simp only [va_up_self]
  · rw [va_up_ne _ _ h]
    unfold cVT
    simp only [va_up_ne _ _ h]
theorem cVT_1_2 {ci : Nat → Nat} {d : Nat → ClassId} {kd : Nat → Nat} {an : Nat → Nat} {ai : Nat → Nat → Int32} {al : Nat → Nat → Int64} {ar : Nat → Nat → Option Nat} {mX5_newest : Nat → Option Nat} {mX5_rows : Nat → Int32} {mX5_latest : Nat → Int32} {mX5_pins : Nat → Option Nat} {mX5_transactions : Nat → Option Nat} {mX5_count : Nat → Int32} {mX5_holders : Nat → Option Nat} {mX5_tripleConflicts : Nat → Option Nat} {mX5_graphConflicts : Nat → Option Nat} {mX5_turns : Nat → Int32} {mX5_queue : Nat → Option Nat} {mX5_head : Nat → Int32} {mX5_tail : Nat → Int32} {mX5_ring : Nat → Option Nat} {mX58_number : Nat → Int32} {mX58_sees : Nat → Int32} {mX58_state : Nat → Option Nat} {mX59_writes : Nat → Option Nat} {mX59_count : Nat → Int32} {mX59_noted : Nat → Option Nat} {mX59_waitsFor : Nat → Option Nat} {mX59_turn : Nat → Int32} {mX59_triple : Nat → Int32} {mX59_there : Nat → Int32} {mX60_version : Nat → Int32} {mX60_there : Nat → Int32} {mX60_older : Nat → Option Nat} {mX66_version : Nat → Int32} {mX66_count : Nat → Int32} {mX66_next : Nat → Option Nat} {a : Nat} {v : Int32} (hk : kd a = 1) : va_up (cVT ci d kd an ai al ar mX5_newest mX5_rows mX5_latest mX5_pins mX5_transactions mX5_count mX5_holders mX5_tripleConflicts mX5_graphConflicts mX5_turns mX5_queue mX5_head mX5_tail mX5_ring mX58_number mX58_sees mX58_state mX59_writes mX59_count mX59_noted mX59_waitsFor mX59_turn mX59_triple mX59_there mX60_version mX60_there mX60_older mX66_version mX66_count mX66_next) a (.inr (ci 0, [va_rf (mX5_newest a), .int (mX5_rows a), .int v, va_rf (mX5_pins a), va_rf (mX5_transactions a), .int (mX5_count a), va_rf (mX5_holders a), va_rf (mX5_tripleConflicts a), va_rf (mX5_graphConflicts a), .int (mX5_turns a), va_rf (mX5_queue a), .int (mX5_head a), .int (mX5_tail a), va_rf (mX5_ring a)])) = (cVT ci d kd an ai al ar mX5_newest mX5_rows (va_up mX5_latest a v) mX5_pins mX5_transactions mX5_count mX5_holders mX5_tripleConflicts mX5_graphConflicts mX5_turns mX5_queue mX5_head mX5_tail mX5_ring mX58_number mX58_sees mX58_state mX59_writes mX59_count mX59_noted mX59_waitsFor mX59_turn mX59_triple mX59_there mX60_version mX60_there mX60_older mX66_version mX66_count mX66_next) := by
  funext b
  by_cases h : b = a
  · subst h
    rw [va_up_self]
    unfold cVT
    rw [hk]
    simp only [va_up_self]
  · rw [va_up_ne _ _ h]
    unfold cVT
    simp only [va_up_ne _ _ h]
theorem cVT_1_3 {ci : Nat → Nat} {d : Nat → ClassId} {kd : Nat → Nat} {an : Nat → Nat} {ai : Nat → Nat → Int32} {al : Nat → Nat → Int64} {ar : Nat → Nat → Option Nat} {mX5_newest : Nat → Option Nat} {mX5_rows : Nat → Int32} {mX5_latest : Nat → Int32} {mX5_pins : Nat → Option Nat} {mX5_transactions : Nat → Option Nat} {mX5_count : Nat → Int32} {mX5_holders : Nat → Option Nat} {mX5_tripleConflicts : Nat → Option Nat} {mX5_graphConflicts : Nat → Option Nat} {mX5_turns : Nat → Int32} {mX5_queue : Nat → Option Nat} {mX5_head : Nat → Int32} {mX5_tail : Nat → Int32} {mX5_ring : Nat → Option Nat} {mX58_number : Nat → Int32} {mX58_sees : Nat → Int32} {mX58_state : Nat → Option Nat} {mX59_writes : Nat → Option Nat} {mX59_count : Nat → Int32} {mX59_noted : Nat → Option Nat} {mX59_waitsFor : Nat → Option Nat} {mX59_turn : Nat → Int32} {mX59_triple : Nat → Int32} {mX59_there : Nat → Int32} {mX60_version : Nat → Int32} {mX60_there : Nat → Int32} {mX60_older : Nat → Option Nat} {mX66_version : Nat → Int32} {mX66_count : Nat → Int32} {mX66_next : Nat → Option Nat} {a : Nat} {v : Option Nat} (hk : kd a = 1) : va_up (cVT ci d kd an ai al ar mX5_newest mX5_rows mX5_latest mX5_pins mX5_transactions mX5_count mX5_holders mX5_tripleConflicts mX5_graphConflicts mX5_turns mX5_queue mX5_head mX5_tail mX5_ring mX58_number mX58_sees mX58_state mX59_writes mX59_count mX59_noted mX59_waitsFor mX59_turn mX59_triple mX59_there mX60_version mX60_there mX60_older mX66_version mX66_count mX66_next) a (.inr (ci 0, [va_rf (mX5_newest a), .int (mX5_rows a), .int (mX5_latest a), va_rf v, va_rf (mX5_transactions a), .int (mX5_count a), va_rf (mX5_holders a), va_rf (mX5_tripleConflicts a), va_rf (mX5_graphConflicts a), .int (mX5_turns a), va_rf (mX5_queue a), .int (mX5_head a), .int (mX5_tail a), va_rf (mX5_ring a)])) = (cVT ci d kd an ai al ar mX5_newest mX5_rows mX5_latest (va_up mX5_pins a v) mX5_transactions mX5_count mX5_holders mX5_tripleConflicts mX5_graphConflicts mX5_turns mX5_queue mX5_head mX5_tail mX5_ring mX58_number mX58_sees mX58_state mX59_writes mX59_count mX59_noted mX59_waitsFor mX59_turn mX59_triple mX59_there mX60_version mX60_there mX60_older mX66_version mX66_count mX66_next) := by
  funext b
  by_cases h : b = a
  · subst h
    rw [va_up_self]
    unfold cVT
    rw [hk]
    simp only [va_up_self]
  · rw [va_up_ne _ _ h]
    unfold cVT
    simp only [va_up_ne _ _ h]
theorem cVT_1_4 {ci : Nat → Nat} {d : Nat → ClassId} {kd : Nat → Nat} {an : Nat → Nat} {ai : Nat → Nat → Int32} {al : Nat → Nat → Int64} {ar : Nat → Nat → Option Nat} {mX5_newest : Nat → Option Nat} {mX5_rows : Nat → Int32} {mX5_latest : Nat → Int32} {mX5_pins : Nat → Option Nat} {mX5_transactions : Nat → Option Nat} {mX5_count : Nat → Int32} {mX5_holders : Nat → Option Nat} {mX5_tripleConflicts : Nat → Option Nat} {mX5_graphConflicts : Nat → Option Nat} {mX5_turns : Nat → Int32} {mX5_queue : Nat → Option Nat} {mX5_head : Nat → Int32} {mX5_tail : Nat → Int32} {mX5_ring : Nat → Option Nat} {mX58_number : Nat → Int32} {mX58_sees : Nat → Int32} {mX58_state : Nat → Option Nat} {mX59_writes : Nat → Option Nat} {mX59_count : Nat → Int32} {mX59_noted : Nat → Option Nat} {mX59_waitsFor : Nat → Option Nat} {mX59_turn : Nat → Int32} {mX59_triple : Nat → Int32} {mX59_there : Nat → Int32} {mX60_version : Nat → Int32} {mX60_there : Nat → Int32} {mX60_older : Nat → Option Nat} {mX66_version : Nat → Int32} {mX66_count : Nat → Int32} {mX66_next : Nat → Option Nat} {a : Nat} {v : Option Nat} (hk : kd a = 1) : va_up (cVT ci d kd an ai al ar mX5_newest mX5_rows mX5_latest mX5_pins mX5_transactions mX5_count mX5_holders mX5_tripleConflicts mX5_graphConflicts mX5_turns mX5_queue mX5_head mX5_tail mX5_ring mX58_number mX58_sees mX58_state mX59_writes mX59_count mX59_noted mX59_waitsFor mX59_turn mX59_triple mX59_there mX60_version mX60_there mX60_older mX66_version mX66_count mX66_next) a (.inr (ci 0, [va_rf (mX5_newest a), .int (mX5_rows a), .int (mX5_latest a), va_rf (mX5_pins a), va_rf v, .int (mX5_count a), va_rf (mX5_holders a), va_rf (mX5_tripleConflicts a), va_rf (mX5_graphConflicts a), .int (mX5_turns a), va_rf (mX5_queue a), .int (mX5_head a), .int (mX5_tail a), va_rf (mX5_ring a)])) = (cVT ci d kd an ai al ar mX5_newest mX5_rows mX5_latest mX5_pins (va_up mX5_transactions a v) mX5_count mX5_holders mX5_tripleConflicts mX5_graphConflicts mX5_turns mX5_queue mX5_head mX5_tail mX5_ring mX58_number mX58_sees mX58_state mX59_writes mX59_count mX59_noted mX59_waitsFor mX59_turn mX59_triple mX59_there mX60_version mX60_there mX60_older mX66_version mX66_count mX66_next) := by
  funext b
  by_cases h : b = a
  · subst h
    rw [va_up_self]
    unfold cVT
    rw [hk]
    simp only [va_up_self]
  · rw [va_up_ne _ _ h]
    unfold cVT
    simp only [va_up_ne _ _ h]
theorem cVT_1_5 {ci : Nat → Nat} {d : Nat → ClassId} {kd : Nat → Nat} {an : Nat → Nat} {ai : Nat → Nat → Int32} {al : Nat → Nat → Int64} {ar : Nat → Nat → Option Nat} {mX5_newest : Nat → Option Nat} {mX5_rows : Nat → Int32} {mX5_latest : Nat → Int32} {mX5_pins : Nat → Option Nat} {mX5_transactions : Nat → Option Nat} {mX5_count : Nat → Int32} {mX5_holders : Nat → Option Nat} {mX5_tripleConflicts : Nat → Option Nat} {mX5_graphConflicts : Nat → Option Nat} {mX5_turns : Nat → Int32} {mX5_queue : Nat → Option Nat} {mX5_head : Nat → Int32} {mX5_tail : Nat → Int32} {mX5_ring : Nat → Option Nat} {mX58_number : Nat → Int32} {mX58_sees : Nat → Int32} {mX58_state : Nat → Option Nat} {mX59_writes : Nat → Option Nat} {mX59_count : Nat → Int32} {mX59_noted : Nat → Option Nat} {mX59_waitsFor : Nat → Option Nat} {mX59_turn : Nat → Int32} {mX59_triple : Nat → Int32} {mX59_there : Nat → Int32} {mX60_version : Nat → Int32} {mX60_there : Nat → Int32} {mX60_older : Nat → Option Nat} {mX66_version : Nat → Int32} {mX66_count : Nat → Int32} {mX66_next : Nat → Option Nat} {a : Nat} {v : Int32} (hk : kd a = 1) : va_up (cVT ci d kd an ai al ar mX5_newest mX5_rows mX5_latest mX5_pins mX5_transactions mX5_count mX5_holders mX5_tripleConflicts mX5_graphConflicts mX5_turns mX5_queue mX5_head mX5_tail mX5_ring mX58_number mX58_sees mX58_state mX59_writes mX59_count mX59_noted mX59_waitsFor mX59_turn mX59_triple mX59_there mX60_version mX60_there mX60_older mX66_version mX66_count mX66_next) a (.inr (ci 0, [va_rf (mX5_newest a), .int (mX5_rows a), .int (mX5_latest a), va_rf (mX5_pins a), va_rf (mX5_transactions a), .int v, va_rf (mX5_holders a), va_rf (mX5_tripleConflicts a), va_rf (mX5_graphConflicts a), .int (mX5_turns a), va_rf (mX5_queue a), .int (mX5_head a), .int (mX5_tail a), va_rf (mX5_ring a)])) = (cVT ci d kd an ai al ar mX5_newest mX5_rows mX5_latest mX5_pins mX5_transactions (va_up mX5_count a v) mX5_holders mX5_tripleConflicts mX5_graphConflicts mX5_turns mX5_queue mX5_head mX5_tail mX5_ring mX58_number mX58_sees mX58_state mX59_writes mX59_count mX59_noted mX59_waitsFor mX59_turn mX59_triple mX59_there mX60_version mX60_there mX60_older mX66_version mX66_count mX66_next) := by
  funext b
  by_cases h : b = a
  · subst h
    rw [va_up_self]
    unfold cVT
    rw [hk]
    simp only [va_up_self]
  · rw [va_up_ne _ _ h]
    unfold cVT
    simp only [va_up_ne _ _ h]
theorem cVT_1_6 {ci : Nat → Nat} {d : Nat → ClassId} {kd : Nat → Nat} {an : Nat → Nat} {ai : Nat → Nat → Int32} {al : Nat → Nat → Int64} {ar : Nat → Nat → Option Nat} {mX5_newest : Nat → Option Nat} {mX5_rows : Nat → Int32} {mX5_latest : Nat → Int32} {mX5_pins : Nat → Option Nat} {mX5_transactions : Nat → Option Nat} {mX5_count : Nat → Int32} {mX5_holders : Nat → Option Nat} {mX5_tripleConflicts : Nat → Option Nat} {mX5_graphConflicts : Nat → Option Nat} {mX5_turns : Nat → Int32} {mX5_queue : Nat → Option Nat} {mX5_head : Nat → Int32} {mX5_tail : Nat → Int32} {mX5_ring : Nat → Option Nat} {mX58_number : Nat → Int32} {mX58_sees : Nat → Int32} {mX58_state : Nat → Option Nat} {mX59_writes : Nat → Option Nat} {mX59_count : Nat → Int32} {mX59_noted : Nat → Option Nat} {mX59_waitsFor : Nat → Option Nat} {mX59_turn : Nat → Int32} {mX59_triple : Nat → Int32} {mX59_there : Nat → Int32} {mX60_version : Nat → Int32} {mX60_there : Nat → Int32} {mX60_older : Nat → Option Nat} {mX66_version : Nat → Int32} {mX66_count : Nat → Int32} {mX66_next : Nat → Option Nat} {a : Nat} {v : Option Nat} (hk : kd a = 1) : va_up (cVT ci d kd an ai al ar mX5_newest mX5_rows mX5_latest mX5_pins mX5_transactions mX5_count mX5_holders mX5_tripleConflicts mX5_graphConflicts mX5_turns mX5_queue mX5_head mX5_tail mX5_ring mX58_number mX58_sees mX58_state mX59_writes mX59_count mX59_noted mX59_waitsFor mX59_turn mX59_triple mX59_there mX60_version mX60_there mX60_older mX66_version mX66_count mX66_next) a (.inr (ci 0, [va_rf (mX5_newest a), .int (mX5_rows a), .int (mX5_latest a), va_rf (mX5_pins a), va_rf (mX5_transactions a), .int (mX5_count a), va_rf v, va_rf (mX5_tripleConflicts a), va_rf (mX5_graphConflicts a), .int (mX5_turns a), va_rf (mX5_queue a), .int (mX5_head a), .int (mX5_tail a), va_rf (mX5_ring a)])) = (cVT ci d kd an ai al ar mX5_newest mX5_rows mX5_latest mX5_pins mX5_transactions mX5_count (va_up mX5_holders a v) mX5_tripleConflicts mX5_graphConflicts mX5_turns mX5_queue mX5_head mX5_tail mX5_ring mX58_number mX58_sees mX58_state mX59_writes mX59_count mX59_noted mX59_waitsFor mX59_turn mX59_triple mX59_there mX60_version mX60_there mX60_older mX66_version mX66_count mX66_next) := by
  funext b
  by_cases h : b = a
  · subst h
    rw [va_up_self]
    unfold cVT
    rw [hk]
    simp only [va_up_self]
  · rw [va_up_ne _ _ h]
    unfold cVT
    simp only [va_up_ne _ _ h]
theorem cVT_1_7 {ci : Nat → Nat} {d : Nat → ClassId} {kd : Nat → Nat} {an : Nat → Nat} {ai : Nat → Nat → Int32} {al : Nat → Nat → Int64} {ar : Nat → Nat → Option Nat} {mX5_newest : Nat → Option Nat} {mX5_rows : Nat → Int32} {mX5_latest : Nat → Int32} {mX5_pins : Nat → Option Nat} {mX5_transactions : Nat → Option Nat} {mX5_count : Nat → Int32} {mX5_holders : Nat → Option Nat} {mX5_tripleConflicts : Nat → Option Nat} {mX5_graphConflicts : Nat → Option Nat} {mX5_turns : Nat → Int32} {mX5_queue : Nat → Option Nat} {mX5_head : Nat → Int32} {mX5_tail : Nat → Int32} {mX5_ring : Nat → Option Nat} {mX58_number : Nat → Int32} {mX58_sees : Nat → Int32} {mX58_state : Nat → Option Nat} {mX59_writes : Nat → Option Nat} {mX59_count : Nat → Int32} {mX59_noted : Nat → Option Nat} {mX59_waitsFor : Nat → Option Nat} {mX59_turn : Nat → Int32} {mX59_triple : Nat → Int32} {mX59_there : Nat → Int32} {mX60_version : Nat → Int32} {mX60_there : Nat → Int32} {mX60_older : Nat → Option Nat} {mX66_version : Nat → Int32} {mX66_count : Nat → Int32} {mX66_next : Nat → Option Nat} {a : Nat} {v : Option Nat} (hk : kd a = 1) : va_up (cVT ci d kd an ai al ar mX5_newest mX5_rows mX5_latest mX5_pins mX5_transactions mX5_count mX5_holders mX5_tripleConflicts mX5_graphConflicts mX5_turns mX5_queue mX5_head mX5_tail mX5_ring mX58_number mX58_sees mX58_state mX59_writes mX59_count mX59_noted mX59_waitsFor mX59_turn mX59_triple mX59_there mX60_version mX60_there mX60_older mX66_version mX66_count mX66_next) a (.inr (ci 0, [va_rf (mX5_newest a), .int (mX5_rows a), .int (mX5_latest a), va_rf (mX5_pins a), va_rf (mX5_transactions a), .int (mX5_count a), va_rf (mX5_holders a), va_rf v, va_rf (mX5_graphConflicts a), .int (mX5_turns a), va_rf (mX5_queue a), .int (mX5_head a), .int (mX5_tail a), va_rf (mX5_ring a)])) = (cVT ci d kd an ai al ar mX5_newest mX5_rows mX5_latest mX5_pins mX5_transactions mX5_count mX5_holders (va_up mX5_tripleConflicts a v) mX5_graphConflicts mX5_turns mX5_queue mX5_head mX5_tail mX5_ring mX58_number mX58_sees mX58_state mX59_writes mX59_count mX59_noted mX59_waitsFor mX59_turn mX59_triple mX59_there mX60_version mX60_there mX60_older mX66_version mX66_count mX66_next) := by
  funext b
  by_cases h : b = a
  · subst h
    rw [va_up_self]
    unfold cVT
    rw [hk]
    simp only [va_up_self]
  · rw [va_up_ne _ _ h]
    unfold cVT
    simp only [va_up_ne _ _ h]
theorem cVT_1_8 {ci : Nat → Nat} {d : Nat → ClassId} {kd : Nat → Nat} {an : Nat → Nat} {ai : Nat → Nat → Int32} {al : Nat → Nat → Int64} {ar : Nat → Nat → Option Nat} {mX5_newest : Nat → Option Nat} {mX5_rows : Nat → Int32} {mX5_latest : Nat → Int32} {mX5_pins : Nat → Option Nat} {mX5_transactions : Nat → Option Nat} {mX5_count : Nat → Int32} {mX5_holders : Nat → Option Nat} {mX5_tripleConflicts : Nat → Option Nat} {mX5_graphConflicts : Nat → Option Nat} {mX5_turns : Nat → Int32} {mX5_queue : Nat → Option Nat} {mX5_head : Nat → Int32} {mX5_tail : Nat → Int32} {mX5_ring : Nat → Option Nat} {mX58_number : Nat → Int32} {mX58_sees : Nat → Int32} {mX58_state : Nat → Option Nat} {mX59_writes : Nat → Option Nat} {mX59_count : Nat → Int32} {mX59_noted : Nat → Option Nat} {mX59_waitsFor : Nat → Option Nat} {mX59_turn : Nat → Int32} {mX59_triple : Nat → Int32} {mX59_there : Nat → Int32} {mX60_version : Nat → Int32} {mX60_there : Nat → Int32} {mX60_older : Nat → Option Nat} {mX66_version : Nat → Int32} {mX66_count : Nat → Int32} {mX66_next : Nat → Option Nat} {a : Nat} {v : Option Nat} (hk : kd a = 1) : va_up (cVT ci d kd an ai al ar mX5_newest mX5_rows mX5_latest mX5_pins mX5_transactions mX5_count mX5_holders mX5_tripleConflicts mX5_graphConflicts mX5_turns mX5_queue mX5_head mX5_tail mX5_ring mX58_number mX58_sees mX58_state mX59_writes mX59_count mX59_noted mX59_waitsFor mX59_turn mX59_triple mX59_there mX60_version mX60_there mX60_older mX66_version mX66_count mX66_next) a (.inr (ci 0, [va_rf (mX5_newest a), .int (mX5_rows a), .int (mX5_latest a), va_rf (mX5_pins a), va_rf (mX5_transactions a), .int (mX5_count a), va_rf (mX5_holders a), va_rf (mX5_tripleConflicts a), va_rf v, .int (mX5_turns a), va_rf (mX5_queue a), .int (mX5_head a), .int (mX5_tail a), va_rf (mX5_ring a)])) = (cVT ci d kd an ai al ar mX5_newest mX5_rows mX5_latest mX5_pins mX5_transactions mX5_count mX5_holders mX5_tripleConflicts (va_up mX5_graphConflicts a v) mX5_turns mX5_queue mX5_head mX5_tail mX5_ring mX58_number mX58_sees mX58_state mX59_writes mX59_count mX59_noted mX59_waitsFor mX59_turn mX59_triple mX59_there mX60_version mX60_there mX60_older mX66_version mX66_count mX66_next) := by
  funext b
  by_cases h : b = a
  · subst h
    rw [va_up_self]
    unfold cVT
    rw [hk]
    simp only [va_up_self]
  · rw [va_up_ne _ _ h]
    unfold cVT
    simp only [va_up_ne _ _ h]
theorem cVT_1_9 {ci : Nat → Nat} {d : Nat → ClassId} {kd : Nat → Nat} {an : Nat → Nat} {ai : Nat → Nat → Int32} {al : Nat → Nat → Int64} {ar : Nat → Nat → Option Nat} {mX5_newest : Nat → Option Nat} {mX5_rows : Nat → Int32} {mX5_latest : Nat → Int32} {mX5_pins : Nat → Option Nat} {mX5_transactions : Nat → Option Nat} {mX5_count : Nat → Int32} {mX5_holders : Nat → Option Nat} {mX5_tripleConflicts : Nat → Option Nat} {mX5_graphConflicts : Nat → Option Nat} {mX5_turns : Nat → Int32} {mX5_queue : Nat → Option Nat} {mX5_head : Nat → Int32} {mX5_tail : Nat → Int32} {mX5_ring : Nat → Option Nat} {mX58_number : Nat → Int32} {mX58_sees : Nat → Int32} {mX58_state : Nat → Option Nat} {mX59_writes : Nat → Option Nat} {mX59_count : Nat → Int32} {mX59_noted : Nat → Option Nat} {mX59_waitsFor : Nat → Option Nat} {mX59_turn : Nat → Int32} {mX59_triple : Nat → Int32} {mX59_there : Nat → Int32} {mX60_version : Nat → Int32} {mX60_there : Nat → Int32} {mX60_older : Nat → Option Nat} {mX66_version : Nat → Int32} {mX66_count : Nat → Int32} {mX66_next : Nat → Option Nat} {a : Nat} {v : Int32} (hk : kd a = 1) : va_up (cVT ci d kd an ai al ar mX5_newest mX5_rows mX5_latest mX5_pins mX5_transactions mX5_count mX5_holders mX5_tripleConflicts mX5_graphConflicts mX5_turns mX5_queue mX5_head mX5_tail mX5_ring mX58_number mX58_sees mX58_state mX59_writes mX59_count mX59_noted mX59_waitsFor mX59_turn mX59_triple mX59_there mX60_version mX60_there mX60_older mX66_version mX66_count mX66_next) a (.inr (ci 0, [va_rf (mX5_newest a), .int (mX5_rows a), .int (mX5_latest a), va_rf (mX5_pins a), va_rf (mX5_transactions a), .int (mX5_count a), va_rf (mX5_holders a), va_rf (mX5_tripleConflicts a), va_rf (mX5_graphConflicts a), .int v, va_rf (mX5_queue a), .int (mX5_head a), .int (mX5_tail a), va_rf (mX5_ring a)])) = (cVT ci d kd an ai al ar mX5_newest mX5_rows mX5_latest mX5_pins mX5_transactions mX5_count mX5_holders mX5_tripleConflicts mX5_graphConflicts (va_up mX5_turns a v) mX5_queue mX5_head mX5_tail mX5_ring mX58_number mX58_sees mX58_state mX59_writes mX59_count mX59_noted mX59_waitsFor mX59_turn mX59_triple mX59_there mX60_version mX60_there mX60_older mX66_version mX66_count mX66_next) := by
  funext b
  by_cases h : b = a
  · subst h
    rw [va_up_self]
    unfold cVT
    rw [hk]
    simp only [va_up_self]
  · rw [va_up_ne _ _ h]
    unfold cVT
    simp only [va_up_ne _ _ h]
theorem cVT_1_10 {ci : Nat → Nat} {d : Nat → ClassId} {kd : Nat → Nat} {an : Nat → Nat} {ai : Nat → Nat → Int32} {al : Nat → Nat → Int64} {ar : Nat → Nat → Option Nat} {mX5_newest : Nat → Option Nat} {mX5_rows : Nat → Int32} {mX5_latest : Nat → Int32} {mX5_pins : Nat → Option Nat} {mX5_transactions : Nat → Option Nat} {mX5_count : Nat → Int32} {mX5_holders : Nat → Option Nat} {mX5_tripleConflicts : Nat → Option Nat} {mX5_graphConflicts : Nat → Option Nat} {mX5_turns : Nat → Int32} {mX5_queue : Nat → Option Nat} {mX5_head : Nat → Int32} {mX5_tail : Nat → Int32} {mX5_ring : Nat → Option Nat} {mX58_number : Nat → Int32} {mX58_sees : Nat → Int32} {mX58_state : Nat → Option Nat} {mX59_writes : Nat → Option Nat} {mX59_count : Nat → Int32} {mX59_noted : Nat → Option Nat} {mX59_waitsFor : Nat → Option Nat} {mX59_turn : Nat → Int32} {mX59_triple : Nat → Int32} {mX59_there : Nat → Int32} {mX60_version : Nat → Int32} {mX60_there : Nat → Int32} {mX60_older : Nat → Option Nat} {mX66_version : Nat → Int32} {mX66_count : Nat → Int32} {mX66_next : Nat → Option Nat} {a : Nat} {v : Option Nat} (hk : kd a = 1) : va_up (cVT ci d kd an ai al ar mX5_newest mX5_rows mX5_latest mX5_pins mX5_transactions mX5_count mX5_holders mX5_tripleConflicts mX5_graphConflicts mX5_turns mX5_queue mX5_head mX5_tail mX5_ring mX58_number mX58_sees mX58_state mX59_writes mX59_count mX59_noted mX59_waitsFor mX59_turn mX59_triple mX59_there mX60_version mX60_there mX60_older mX66_version mX66_count mX66_next) a (.inr (ci 0, [va_rf (mX5_newest a), .int (mX5_rows a), .int (mX5_latest a), va_rf (mX5_pins a), va_rf (mX5_transactions a), .int (mX5_count a), va_rf (mX5_holders a), va_rf (mX5_tripleConflicts a), va_rf (mX5_graphConflicts a), .int (mX5_turns a), va_rf v, .int (mX5_head a), .int (mX5_tail a), va_rf (mX5_ring a)])) = (cVT ci d kd an ai al ar mX5_newest mX5_rows mX5_latest mX5_pins mX5_transactions mX5_count mX5_holders mX5_tripleConflicts mX5_graphConflicts mX5_turns (va_up mX5_queue a v) mX5_head mX5_tail mX5_ring mX58_number mX58_sees mX58_state mX59_writes mX59_count mX59_noted mX59_waitsFor mX59_turn mX59_triple mX59_there mX60_version mX60_there mX60_older mX66_version mX66_count mX66_next) := by
  funext b
  by_cases h : b = a
  · subst h
    rw [va_up_self]
    unfold cVT
    rw [hk]
    simp only [va_up_self]
  · rw [va_up_ne _ _ h]
    unfold cVT
    simp only [va_up_ne _ _ h]
theorem cVT_1_11 {ci : Nat → Nat} {d : Nat → ClassId} {kd : Nat → Nat} {an : Nat → Nat} {ai : Nat → Nat → Int32} {al : Nat → Nat → Int64} {ar : Nat → Nat → Option Nat} {mX5_newest : Nat → Option Nat} {mX5_rows : Nat → Int32} {mX5_latest : Nat → Int32} {mX5_pins : Nat → Option Nat} {mX5_transactions : Nat → Option Nat} {mX5_count : Nat → Int32} {mX5_holders : Nat → Option Nat} {mX5_tripleConflicts : Nat → Option Nat} {mX5_graphConflicts : Nat → Option Nat} {mX5_turns : Nat → Int32} {mX5_queue : Nat → Option Nat} {mX5_head : Nat → Int32} {mX5_tail : Nat → Int32} {mX5_ring : Nat → Option Nat} {mX58_number : Nat → Int32} {mX58_sees : Nat → Int32} {mX58_state : Nat → Option Nat} {mX59_writes : Nat → Option Nat} {mX59_count : Nat → Int32} {mX59_noted : Nat → Option Nat} {mX59_waitsFor : Nat → Option Nat} {mX59_turn : Nat → Int32} {mX59_triple : Nat → Int32} {mX59_there : Nat → Int32} {mX60_version : Nat → Int32} {mX60_there : Nat → Int32} {mX60_older : Nat → Option Nat} {mX66_version : Nat → Int32} {mX66_count : Nat → Int32} {mX66_next : Nat → Option Nat} {a : Nat} {v : Int32} (hk : kd a = 1) : va_up (cVT ci d kd an ai al ar mX5_newest mX5_rows mX5_latest mX5_pins mX5_transactions mX5_count mX5_holders mX5_tripleConflicts mX5_graphConflicts mX5_turns mX5_queue mX5_head mX5_tail mX5_ring mX58_number mX58_sees mX58_state mX59_writes mX59_count mX59_noted mX59_waitsFor mX59_turn mX59_triple mX59_there mX60_version mX60_there mX60_older mX66_version mX66_count mX66_next) a (.inr (ci 0, [va_rf (mX5_newest a), .int (mX5_rows a), .int (mX5_latest a), va_rf (mX5_pins a), va_rf (mX5_transactions a), .int (mX5_count a), va_rf (mX5_holders a), va_rf (mX5_tripleConflicts a), va_rf (mX5_graphConflicts a), .int (mX5_turns a), va_rf (mX5_queue a), .int v, .int (mX5_tail a), va_rf (mX5_ring a)])) = (cVT ci d kd an ai al ar mX5_newest mX5_rows mX5_latest mX5_pins mX5_transactions mX5_count mX5_holders mX5_tripleConflicts mX5_graphConflicts mX5_turns mX5_queue (va_up mX5_head a v) mX5_tail mX5_ring mX58_number mX58_sees mX58_state mX59_writes mX59_count mX59_noted mX59_waitsFor mX59_turn mX59_triple mX59_there mX60_version mX60_there mX60_older mX66_version mX66_count mX66_next) := by
  funext b
  by_cases h : b = a
  · subst h
    rw [va_up_self]
    unfold cVT
    rw [hk]
    simp only [va_up_self]
  · rw [va_up_ne _ _ h]
    unfold cVT
    simp only [va_up_ne _ _ h]
theorem cVT_1_12 {ci : Nat → Nat} {d : Nat → ClassId} {kd : Nat → Nat} {an : Nat → Nat} {ai : Nat → Nat → Int32} {al : Nat → Nat → Int64} {ar : Nat → Nat → Option Nat} {mX5_newest : Nat → Option Nat} {mX5_rows : Nat → Int32} {mX5_latest : Nat → Int32} {mX5_pins : Nat → Option Nat} {mX5_transactions : Nat → Option Nat} {mX5_count : Nat → Int32} {mX5_holders : Nat → Option Nat} {mX5_tripleConflicts : Nat → Option Nat} {mX5_graphConflicts : Nat → Option Nat} {mX5_turns : Nat → Int32} {mX5_queue : Nat → Option Nat} {mX5_head : Nat → Int32} {mX5_tail : Nat → Int32} {mX5_ring : Nat → Option Nat} {mX58_number : Nat → Int32} {mX58_sees : Nat → Int32} {mX58_state : Nat → Option Nat} {mX59_writes : Nat → Option Nat} {mX59_count : Nat → Int32} {mX59_noted : Nat → Option Nat} {mX59_waitsFor : Nat → Option Nat} {mX59_turn : Nat → Int32} {mX59_triple : Nat → Int32} {mX59_there : Nat → Int32} {mX60_version : Nat → Int32} {mX60_there : Nat → Int32} {mX60_older : Nat → Option Nat} {mX66_version : Nat → Int32} {mX66_count : Nat → Int32} {mX66_next : Nat → Option Nat} {a : Nat} {v : Int32} (hk : kd a = 1) : va_up (cVT ci d kd an ai al ar mX5_newest mX5_rows mX5_latest mX5_pins mX5_transactions mX5_count mX5_holders mX5_tripleConflicts mX5_graphConflicts mX5_turns mX5_queue mX5_head mX5_tail mX5_ring mX58_number mX58_sees mX58_state mX59_writes mX59_count mX59_noted mX59_waitsFor mX59_turn mX59_triple mX59_there mX60_version mX60_there mX60_older mX66_version mX66_count mX66_next) a (.inr (ci 0, [va_rf (mX5_newest a), .int (mX5_rows a), .int (mX5_latest a), va_rf (mX5_pins a), va_rf (mX5_transactions a), .int (mX5_count a), va_rf (mX5_holders a), va_rf (mX5_tripleConflicts a), va_rf (mX5_graphConflicts a), .int (mX5_turns a), va_rf (mX5_queue a), .int (mX5_head a), .int v, va_rf (mX5_ring a)])) = (cVT ci d kd an ai al ar mX5_newest mX5_rows mX5_latest mX5_pins mX5_transactions mX5_count mX5_holders mX5_tripleConflicts mX5_graphConflicts mX5_turns mX5_queue mX5_head (va_up mX5_tail a v) mX5_ring mX58_number mX58_sees mX58_state mX59_writes mX59_count mX59_noted mX59_waitsFor mX59_turn mX59_triple mX59_there mX60_version mX60_there mX60_older mX66_version mX66_count mX66_next) := by
  funext b
  by_cases h : b = a
  · subst h
    rw [va_up_self]
    unfold cVT
    rw [hk]
    simp only [va_up_self]
  · rw [va_up_ne _ _ h]
    unfold cVT
    simp only [va_up_ne _ _ h]
theorem cVT_1_13 {ci : Nat → Nat} {d : Nat → ClassId} {kd : Nat → Nat} {an : Nat → Nat} {ai : Nat → Nat → Int32} {al : Nat → Nat → Int64} {ar : Nat → Nat → Option Nat} {mX5_newest : Nat → Option Nat} {mX5_rows : Nat → Int32} {mX5_latest : Nat → Int32} {mX5_pins : Nat → Option Nat} {mX5_transactions : Nat → Option Nat} {mX5_count : Nat → Int32} {mX5_holders : Nat → Option Nat} {mX5_tripleConflicts : Nat → Option Nat} {mX5_graphConflicts : Nat → Option Nat} {mX5_turns : Nat → Int32} {mX5_queue : Nat → Option Nat} {mX5_head : Nat → Int32} {mX5_tail : Nat → Int32} {mX5_ring : Nat → Option Nat} {mX58_number : Nat → Int32} {mX58_sees : Nat → Int32} {mX58_state : Nat → Option Nat} {mX59_writes : Nat → Option Nat} {mX59_count : Nat → Int32} {mX59_noted : Nat → Option Nat} {mX59_waitsFor : Nat → Option Nat} {mX59_turn : Nat → Int32} {mX59_triple : Nat → Int32} {mX59_there : Nat → Int32} {mX60_version : Nat → Int32} {mX60_there : Nat → Int32} {mX60_older : Nat → Option Nat} {mX66_version : Nat → Int32} {mX66_count : Nat → Int32} {mX66_next : Nat → Option Nat} {a : Nat} {v : Option Nat} (hk : kd a = 1) : va_up (cVT ci d kd an ai al ar mX5_newest mX5_rows mX5_latest mX5_pins mX5_transactions mX5_count mX5_holders mX5_tripleConflicts mX5_graphConflicts mX5_turns mX5_queue mX5_head mX5_tail mX5_ring mX58_number mX58_sees mX58_state mX59_writes mX59_count mX59_noted mX59_waitsFor mX59_turn mX59_triple mX59_there mX60_version mX60_there mX60_older mX66_version mX66_count mX66_next) a (.inr (ci 0, [va_rf (mX5_newest a), .int (mX5_rows a), .int (mX5_latest a), va_rf (mX5_pins a), va_rf (mX5_transactions a), .int (mX5_count a), va_rf (mX5_holders a), va_rf (mX5_tripleConflicts a), va_rf (mX5_graphConflicts a), .int (mX5_turns a), va_rf (mX5_queue a), .int (mX5_head a), .int (mX5_tail a), va_rf v])) = (cVT ci d kd an ai al ar mX5_newest mX5_rows mX5_latest mX5_pins mX5_transactions mX5_count mX5_holders mX5_tripleConflicts mX5_graphConflicts mX5_turns mX5_queue mX5_head mX5_tail (va_up mX5_ring a v) mX58_number mX58_sees mX58_state mX59_writes mX59_count mX59_noted mX59_waitsFor mX59_turn mX59_triple mX59_there mX60_version mX60_there mX60_older mX66_version mX66_count mX66_next) := by
  funext b
  by_cases h : b = a
  · subst h
    rw [va_up_self]
    unfold cVT
    rw [hk]
    simp only [va_up_self]
  · rw [va_up_ne _ _ h]
    unfold cVT
    simp only [va_up_ne _ _ h]
theorem cVT_1_n {ci : Nat → Nat} {d : Nat → ClassId} {kd : Nat → Nat} {an : Nat → Nat} {ai : Nat → Nat → Int32} {al : Nat → Nat → Int64} {ar : Nat → Nat → Option Nat} {mX5_newest : Nat → Option Nat} {mX5_rows : Nat → Int32} {mX5_latest : Nat → Int32} {mX5_pins : Nat → Option Nat} {mX5_transactions : Nat → Option Nat} {mX5_count : Nat → Int32} {mX5_holders : Nat → Option Nat} {mX5_tripleConflicts : Nat → Option Nat} {mX5_graphConflicts : Nat → Option Nat} {mX5_turns : Nat → Int32} {mX5_queue : Nat → Option Nat} {mX5_head : Nat → Int32} {mX5_tail : Nat → Int32} {mX5_ring : Nat → Option Nat} {mX58_number : Nat → Int32} {mX58_sees : Nat → Int32} {mX58_state : Nat → Option Nat} {mX59_writes : Nat → Option Nat} {mX59_count : Nat → Int32} {mX59_noted : Nat → Option Nat} {mX59_waitsFor : Nat → Option Nat} {mX59_turn : Nat → Int32} {mX59_triple : Nat → Int32} {mX59_there : Nat → Int32} {mX60_version : Nat → Int32} {mX60_there : Nat → Int32} {mX60_older : Nat → Option Nat} {mX66_version : Nat → Int32} {mX66_count : Nat → Int32} {mX66_next : Nat → Option Nat} (q : Nat) : va_up (cVT ci d kd an ai al ar mX5_newest mX5_rows mX5_latest mX5_pins mX5_transactions mX5_count mX5_holders mX5_tripleConflicts mX5_graphConflicts mX5_turns mX5_queue mX5_head mX5_tail mX5_ring mX58_number mX58_sees mX58_state mX59_writes mX59_count mX59_noted mX59_waitsFor mX59_turn mX59_triple mX59_there mX60_version mX60_there mX60_older mX66_version mX66_count mX66_next) q (.inr (ci 0, [va_rf none, .int 0, .int 0, va_rf none, va_rf none, .int 0, va_rf none, va_rf none, va_rf none, .int 0, va_rf none, .int 0, .int 0, va_rf none])) = (cVT ci d (va_up kd q 1) an ai al ar (va_up mX5_newest q none) (va_up mX5_rows q 0) (va_up mX5_latest q 0) (va_up mX5_pins q none) (va_up mX5_transactions q none) (va_up mX5_count q 0) (va_up mX5_holders q none) (va_up mX5_tripleConflicts q none) (va_up mX5_graphConflicts q none) (va_up mX5_turns q 0) (va_up mX5_queue q none) (va_up mX5_head q 0) (va_up mX5_tail q 0) (va_up mX5_ring q none) mX58_number mX58_sees mX58_state mX59_writes mX59_count mX59_noted mX59_waitsFor mX59_turn mX59_triple mX59_there mX60_version mX60_there mX60_older mX66_version mX66_count mX66_next) := by
  funext b
  by_cases h : b = q
  · subst h
    rw [va_up_self]
    unfold cVT
    simp only [va_up_self]
  · rw [va_up_ne _ _ h]
    unfold cVT
    simp only [va_up_ne _ _ h]
theorem cVT_2 {ci : Nat → Nat} {d : Nat → ClassId} {kd : Nat → Nat} {an : Nat → Nat} {ai : Nat → Nat → Int32} {al : Nat → Nat → Int64} {ar : Nat → Nat → Option Nat} {mX5_newest : Nat → Option Nat} {mX5_rows : Nat → Int32} {mX5_latest : Nat → Int32} {mX5_pins : Nat → Option Nat} {mX5_transactions : Nat → Option Nat} {mX5_count : Nat → Int32} {mX5_holders : Nat → Option Nat} {mX5_tripleConflicts : Nat → Option Nat} {mX5_graphConflicts : Nat → Option Nat} {mX5_turns : Nat → Int32} {mX5_queue : Nat → Option Nat} {mX5_head : Nat → Int32} {mX5_tail : Nat → Int32} {mX5_ring : Nat → Option Nat} {mX58_number : Nat → Int32} {mX58_sees : Nat → Int32} {mX58_state : Nat → Option Nat} {mX59_writes : Nat → Option Nat} {mX59_count : Nat → Int32} {mX59_noted : Nat → Option Nat} {mX59_waitsFor : Nat → Option Nat} {mX59_turn : Nat → Int32} {mX59_triple : Nat → Int32} {mX59_there : Nat → Int32} {mX60_version : Nat → Int32} {mX60_there : Nat → Int32} {mX60_older : Nat → Option Nat} {mX66_version : Nat → Int32} {mX66_count : Nat → Int32} {mX66_next : Nat → Option Nat} {a : Nat} (hk : kd a = 2) : (cVT ci d kd an ai al ar mX5_newest mX5_rows mX5_latest mX5_pins mX5_transactions mX5_count mX5_holders mX5_tripleConflicts mX5_graphConflicts mX5_turns mX5_queue mX5_head mX5_tail mX5_ring mX58_number mX58_sees mX58_state mX59_writes mX59_count mX59_noted mX59_waitsFor mX59_turn mX59_triple mX59_there mX60_version mX60_there mX60_older mX66_version mX66_count mX66_next) a = .inr (ci 1, [.int (mX58_number a), .int (mX58_sees a), va_rf (mX58_state a), va_rf (mX59_writes a), .int (mX59_count a), va_rf (mX59_noted a), va_rf (mX59_waitsFor a), .int (mX59_turn a), .int (mX59_triple a), .int (mX59_there a)]) := by unfold cVT; simp only [hk]
theorem cVT_2_0 {ci : Nat → Nat} {d : Nat → ClassId} {kd : Nat → Nat} {an : Nat → Nat} {ai : Nat → Nat → Int32} {al : Nat → Nat → Int64} {ar : Nat → Nat → Option Nat} {mX5_newest : Nat → Option Nat} {mX5_rows : Nat → Int32} {mX5_latest : Nat → Int32} {mX5_pins : Nat → Option Nat} {mX5_transactions : Nat → Option Nat} {mX5_count : Nat → Int32} {mX5_holders : Nat → Option Nat} {mX5_tripleConflicts : Nat → Option Nat} {mX5_graphConflicts : Nat → Option Nat} {mX5_turns : Nat → Int32} {mX5_queue : Nat → Option Nat} {mX5_head : Nat → Int32} {mX5_tail : Nat → Int32} {mX5_ring : Nat → Option Nat} {mX58_number : Nat → Int32} {mX58_sees : Nat → Int32} {mX58_state : Nat → Option Nat} {mX59_writes : Nat → Option Nat} {mX59_count : Nat → Int32} {mX59_noted : Nat → Option Nat} {mX59_waitsFor : Nat → Option Nat} {mX59_turn : Nat → Int32} {mX59_triple : Nat → Int32} {mX59_there : Nat → Int32} {mX60_version : Nat → Int32} {mX60_there : Nat → Int32} {mX60_older : Nat → Option Nat} {mX66_version : Nat → Int32} {mX66_count : Nat → Int32} {mX66_next : Nat → Option Nat} {a : Nat} {v : Int32} (hk : kd a = 2) : va_up (cVT ci d kd an ai al ar mX5_newest mX5_rows mX5_latest mX5_pins mX5_transactions mX5_count mX5_holders mX5_tripleConflicts mX5_graphConflicts mX5_turns mX5_queue mX5_head mX5_tail mX5_ring mX58_number mX58_sees mX58_state mX59_writes mX59_count mX59_noted mX59_waitsFor mX59_turn mX59_triple mX59_there mX60_version mX60_there mX60_older mX66_version mX66_count mX66_next) a (.inr (ci 1, [.int v, .int (mX58_sees a), va_rf (mX58_state a), va_rf (mX59_writes a), .int (mX59_count a), va_rf (mX59_noted a), va_rf (mX59_waitsFor a), .int (mX59_turn a), .int (mX59_triple a), .int (mX59_there a)])) = (cVT ci d kd an ai al ar mX5_newest mX5_rows mX5_latest mX5_pins mX5_transactions mX5_count mX5_holders mX5_tripleConflicts mX5_graphConflicts mX5_turns mX5_queue mX5_head mX5_tail mX5_ring (va_up mX58_number a v) mX58_sees mX58_state mX59_writes mX59_count mX59_noted mX59_waitsFor mX59_turn mX59_triple mX59_there mX60_version mX60_there mX60_older mX66_version mX66_count mX66_next) := by
  funext b
  by_cases h : b = a
  · subst h
    rw [va_up_self]
    unfold cVT
    rw [hk]
    simp only [va_up_self]
  · rw [va_up_ne _ _ h]
    unfold cVT
    simp only [va_up_ne _ _ h]
theorem cVT_2_1 {ci : Nat → Nat} {d : Nat → ClassId} {kd : Nat → Nat} {an : Nat → Nat} {ai : Nat → Nat → Int32} {al : Nat → Nat → Int64} {ar : Nat → Nat → Option Nat} {mX5_newest : Nat → Option Nat} {mX5_rows : Nat → Int32} {mX5_latest : Nat → Int32} {mX5_pins : Nat → Option Nat} {mX5_transactions : Nat → Option Nat} {mX5_count : Nat → Int32} {mX5_holders : Nat → Option Nat} {mX5_tripleConflicts : Nat → Option Nat} {mX5_graphConflicts : Nat → Option Nat} {mX5_turns : Nat → Int32} {mX5_queue : Nat → Option Nat} {mX5_head : Nat → Int32} {mX5_tail : Nat → Int32} {mX5_ring : Nat → Option Nat} {mX58_number : Nat → Int32} {mX58_sees : Nat → Int32} {mX58_state : Nat → Option Nat} {mX59_writes : Nat → Option Nat} {mX59_count : Nat → Int32} {mX59_noted : Nat → Option Nat} {mX59_waitsFor : Nat → Option Nat} {mX59_turn : Nat → Int32} {mX59_triple : Nat → Int32} {mX59_there : Nat → Int32} {mX60_version : Nat → Int32} {mX60_there : Nat → Int32} {mX60_older : Nat → Option Nat} {mX66_version : Nat → Int32} {mX66_count : Nat → Int32} {mX66_next : Nat → Option Nat} {a : Nat} {v : Int32} (hk : kd a = 2) : va_up (cVT ci d kd an ai al ar mX5_newest mX5_rows mX5_latest mX5_pins mX5_transactions mX5_count mX5_holders mX5_tripleConflicts mX5_graphConflicts mX5_turns mX5_queue mX5_head mX5_tail mX5_ring mX58_number mX58_sees mX58_state mX59_writes mX59_count mX59_noted mX59_waitsFor mX59_turn mX59_triple mX59_there mX60_version mX60_there mX60_older mX66_version mX66_count mX66_next) a (.inr (ci 1, [.int (mX58_number a), .int v, va_rf (mX58_state a), va_rf (mX59_writes a), .int (mX59_count a), va_rf (mX59_noted a), va_rf (mX59_waitsFor a), .int (mX59_turn a), .int (mX59_triple a), .int (mX59_there a)])) = (cVT ci d kd an ai al ar mX5_newest mX5_rows mX5_latest mX5_pins mX5_transactions mX5_count mX5_holders mX5_tripleConflicts mX5_graphConflicts mX5_turns mX5_queue mX5_head mX5_tail mX5_ring mX58_number (va_up mX58_sees a v) mX58_state mX59_writes mX59_count mX59_noted mX59_waitsFor mX59_turn mX59_triple mX59_there mX60_version mX60_there mX60_older mX66_version mX66_count mX66_next) := by
  funext b
  by_cases h : b = a
  · subst h
    rw [va_up_self]
    unfold cVT
    rw [hk]
    simp only [va_up_self]
  · rw [va_up_ne _ _ h]
    unfold cVT
    simp only [va_up_ne _ _ h]
theorem cVT_2_2 {ci : Nat → Nat} {d : Nat → ClassId} {kd : Nat → Nat} {an : Nat → Nat} {ai : Nat → Nat → Int32} {al : Nat → Nat → Int64} {ar : Nat → Nat → Option Nat} {mX5_newest : Nat → Option Nat} {mX5_rows : Nat → Int32} {mX5_latest : Nat → Int32} {mX5_pins : Nat → Option Nat} {mX5_transactions : Nat → Option Nat} {mX5_count : Nat → Int32} {mX5_holders : Nat → Option Nat} {mX5_tripleConflicts : Nat → Option Nat} {mX5_graphConflicts : Nat → Option Nat} {mX5_turns : Nat → Int32} {mX5_queue : Nat → Option Nat} {mX5_head : Nat → Int32} {mX5_tail : Nat → Int32} {mX5_ring : Nat → Option Nat} {mX58_number : Nat → Int32} {mX58_sees : Nat → Int32} {mX58_state : Nat → Option Nat} {mX59_writes : Nat → Option Nat} {mX59_count : Nat → Int32} {mX59_noted : Nat → Option Nat} {mX59_waitsFor : Nat → Option Nat} {mX59_turn : Nat → Int32} {mX59_triple : Nat → Int32} {mX59_there : Nat → Int32} {mX60_version : Nat → Int32} {mX60_there : Nat → Int32} {mX60_older : Nat → Option Nat} {mX66_version : Nat → Int32} {mX66_count : Nat → Int32} {mX66_next : Nat → Option Nat} {a : Nat} {v : Option Nat} (hk : kd a = 2) : va_up (cVT ci d kd an ai al ar mX5_newest mX5_rows mX5_latest mX5_pins mX5_transactions mX5_count mX5_holders mX5_tripleConflicts mX5_graphConflicts mX5_turns mX5_queue mX5_head mX5_tail mX5_ring mX58_number mX58_sees mX58_state mX59_writes mX59_count mX59_noted mX59_waitsFor mX59_turn mX59_triple mX59_there mX60_version mX60_there mX60_older mX66_version mX66_count mX66_next) a (.inr (ci 1, [.int (mX58_number a), .int (mX58_sees a), va_rf v, va_rf (mX59_writes a), .int (mX59_count a), va_rf (mX59_noted a), va_rf (mX59_waitsFor a), .int (mX59_turn a), .int (mX59_triple a), .int (mX59_there a)])) = (cVT ci d kd an ai al ar mX5_newest mX5_rows mX5_latest mX5_pins mX5_transactions mX5_count mX5_holders mX5_tripleConflicts mX5_graphConflicts mX5_turns mX5_queue mX5_head mX5_tail mX5_ring mX58_number mX58_sees (va_up mX58_state a v) mX59_writes mX59_count mX59_noted mX59_waitsFor mX59_turn mX59_triple mX59_there mX60_version mX60_there mX60_older mX66_version mX66_count mX66_next) := by
  funext b
  by_cases h : b = a
  · subst h
    rw [va_up_self]
    unfold cVT
    rw [hk]
    simp only [va_up_self]
  · rw [va_up_ne _ _ h]
    unfold cVT
    simp only [va_up_ne _ _ h]
theorem cVT_2_3 {ci : Nat → Nat} {d : Nat → ClassId} {kd : Nat → Nat} {an : Nat → Nat} {ai : Nat → Nat → Int32} {al : Nat → Nat → Int64} {ar : Nat → Nat → Option Nat} {mX5_newest : Nat → Option Nat} {mX5_rows : Nat → Int32} {mX5_latest : Nat → Int32} {mX5_pins : Nat → Option Nat} {mX5_transactions : Nat → Option Nat} {mX5_count : Nat → Int32} {mX5_holders : Nat → Option Nat} {mX5_tripleConflicts : Nat → Option Nat} {mX5_graphConflicts : Nat → Option Nat} {mX5_turns : Nat → Int32} {mX5_queue : Nat → Option Nat} {mX5_head : Nat → Int32} {mX5_tail : Nat → Int32} {mX5_ring : Nat → Option Nat} {mX58_number : Nat → Int32} {mX58_sees : Nat → Int32} {mX58_state : Nat → Option Nat} {mX59_writes : Nat → Option Nat} {mX59_count : Nat → Int32} {mX59_noted : Nat → Option Nat} {mX59_waitsFor : Nat → Option Nat} {mX59_turn : Nat → Int32} {mX59_triple : Nat → Int32} {mX59_there : Nat → Int32} {mX60_version : Nat → Int32} {mX60_there : Nat → Int32} {mX60_older : Nat → Option Nat} {mX66_version : Nat → Int32} {mX66_count : Nat → Int32} {mX66_next : Nat → Option Nat} {a : Nat} {v : Option Nat} (hk : kd a = 2) : va_up (cVT ci d kd an ai al ar mX5_newest mX5_rows mX5_latest mX5_pins mX5_transactions mX5_count mX5_holders mX5_tripleConflicts mX5_graphConflicts mX5_turns mX5_queue mX5_head mX5_tail mX5_ring mX58_number mX58_sees mX58_state mX59_writes mX59_count mX59_noted mX59_waitsFor mX59_turn mX59_triple mX59_there mX60_version mX60_there mX60_older mX66_version mX66_count mX66_next) a (.inr (ci 1, [.int (mX58_number a), .int (mX58_sees a), va_rf (mX58_state a), va_rf v, .int (mX59_count a), va_rf (mX59_noted a), va_rf (mX59_waitsFor a), .int (mX59_turn a), .int (mX59_triple a), .int (mX59_there a)])) = (cVT ci d kd an ai al ar mX5_newest mX5_rows mX5_latest mX5_pins mX5_transactions mX5_count mX5_holders mX5_tripleConflicts mX5_graphConflicts mX5_turns mX5_queue mX5_head mX5_tail mX5_ring mX58_number mX58_sees mX58_state (va_up mX59_writes a v) mX59_count mX59_noted mX59_waitsFor mX59_turn mX59_triple mX59_there mX60_version mX60_there mX60_older mX66_version mX66_count mX66_next) := by
  funext b
  by_cases h : b = a
  · subst h
    rw [va_up_self]
    unfold cVT
    rw [hk]
    simp only [va_up_self]
  · rw [va_up_ne _ _ h]
    unfold cVT
    simp only [va_up_ne _ _ h]
theorem cVT_2_4 {ci : Nat → Nat} {d : Nat → ClassId} {kd : Nat → Nat} {an : Nat → Nat} {ai : Nat → Nat → Int32} {al : Nat → Nat → Int64} {ar : Nat → Nat → Option Nat} {mX5_newest : Nat → Option Nat} {mX5_rows : Nat → Int32} {mX5_latest : Nat → Int32} {mX5_pins : Nat → Option Nat} {mX5_transactions : Nat → Option Nat} {mX5_count : Nat → Int32} {mX5_holders : Nat → Option Nat} {mX5_tripleConflicts : Nat → Option Nat} {mX5_graphConflicts : Nat → Option Nat} {mX5_turns : Nat → Int32} {mX5_queue : Nat → Option Nat} {mX5_head : Nat → Int32} {mX5_tail : Nat → Int32} {mX5_ring : Nat → Option Nat} {mX58_number : Nat → Int32} {mX58_sees : Nat → Int32} {mX58_state : Nat → Option Nat} {mX59_writes : Nat → Option Nat} {mX59_count : Nat → Int32} {mX59_noted : Nat → Option Nat} {mX59_waitsFor : Nat → Option Nat} {mX59_turn : Nat → Int32} {mX59_triple : Nat → Int32} {mX59_there : Nat → Int32} {mX60_version : Nat → Int32} {mX60_there : Nat → Int32} {mX60_older : Nat → Option Nat} {mX66_version : Nat → Int32} {mX66_count : Nat → Int32} {mX66_next : Nat → Option Nat} {a : Nat} {v : Int32} (hk : kd a = 2) : va_up (cVT ci d kd an ai al ar mX5_newest mX5_rows mX5_latest mX5_pins mX5_transactions mX5_count mX5_holders mX5_tripleConflicts mX5_graphConflicts mX5_turns mX5_queue mX5_head mX5_tail mX5_ring mX58_number mX58_sees mX58_state mX59_writes mX59_count mX59_noted mX59_waitsFor mX59_turn mX59_triple mX59_there mX60_version mX60_there mX60_older mX66_version mX66_count mX66_next) a (.inr (ci 1, [.int (mX58_number a), .int (mX58_sees a), va_rf (mX58_state a), va_rf (mX59_writes a), .int v, va_rf (mX59_noted a), va_rf (mX59_waitsFor a), .int (mX59_turn a), .int (mX59_triple a), .int (mX59_there a)])) = (cVT ci d kd an ai al ar mX5_newest mX5_rows mX5_latest mX5_pins mX5_transactions mX5_count mX5_holders mX5_tripleConflicts mX5_graphConflicts mX5_turns mX5_queue mX5_head mX5_tail mX5_ring mX58_number mX58_sees mX58_state mX59_writes (va_up mX59_count a v) mX59_noted mX59_waitsFor mX59_turn mX59_triple mX59_there mX60_version mX60_there mX60_older mX66_version mX66_count mX66_next) := by
  funext b
  by_cases h : b = a
  · subst h
    rw [va_up_self]
    unfold cVT
    rw [hk]
    simp only [va_up_self]
  · rw [va_up_ne _ _ h]
    unfold cVT
    simp only [va_up_ne _ _ h]
theorem cVT_2_5 {ci : Nat → Nat} {d : Nat → ClassId} {kd : Nat → Nat} {an : Nat → Nat} {ai : Nat → Nat → Int32} {al : Nat → Nat → Int64} {ar : Nat → Nat → Option Nat} {mX5_newest : Nat → Option Nat} {mX5_rows : Nat → Int32} {mX5_latest : Nat → Int32} {mX5_pins : Nat → Option Nat} {mX5_transactions : Nat → Option Nat} {mX5_count : Nat → Int32} {mX5_holders : Nat → Option Nat} {mX5_tripleConflicts : Nat → Option Nat} {mX5_graphConflicts : Nat → Option Nat} {mX5_turns : Nat → Int32} {mX5_queue : Nat → Option Nat} {mX5_head : Nat → Int32} {mX5_tail : Nat → Int32} {mX5_ring : Nat → Option Nat} {mX58_number : Nat → Int32} {mX58_sees : Nat → Int32} {mX58_state : Nat → Option Nat} {mX59_writes : Nat → Option Nat} {mX59_count : Nat → Int32} {mX59_noted : Nat → Option Nat} {mX59_waitsFor : Nat → Option Nat} {mX59_turn : Nat → Int32} {mX59_triple : Nat → Int32} {mX59_there : Nat → Int32} {mX60_version : Nat → Int32} {mX60_there : Nat → Int32} {mX60_older : Nat → Option Nat} {mX66_version : Nat → Int32} {mX66_count : Nat → Int32} {mX66_next : Nat → Option Nat} {a : Nat} {v : Option Nat} (hk : kd a = 2) : va_up (cVT ci d kd an ai al ar mX5_newest mX5_rows mX5_latest mX5_pins mX5_transactions mX5_count mX5_holders mX5_tripleConflicts mX5_graphConflicts mX5_turns mX5_queue mX5_head mX5_tail mX5_ring mX58_number mX58_sees mX58_state mX59_writes mX59_count mX59_noted mX59_waitsFor mX59_turn mX59_triple mX59_there mX60_version mX60_there mX60_older mX66_version mX66_count mX66_next) a (.inr (ci 1, [.int (mX58_number a), .int (mX58_sees a), va_rf (mX58_state a), va_rf (mX59_writes a), .int (mX59_count a), va_rf v, va_rf (mX59_waitsFor a), .int (mX59_turn a), .int (mX59_triple a), .int (mX59_there a)])) = (cVT ci d kd an ai al ar mX5_newest mX5_rows mX5_latest mX5_pins mX5_transactions mX5_count mX5_holders mX5_tripleConflicts mX5_graphConflicts mX5_turns mX5_queue mX5_head mX5_tail mX5_ring mX58_number mX58_sees mX58_state mX59_writes mX59_count (va_up mX59_noted a v) mX59_waitsFor mX59_turn mX59_triple mX59_there mX60_version mX60_there mX60_older mX66_version mX66_count mX66_next) := by
  funext b
  by_cases h : b = a
  · subst h
    rw [va_up_self]
    unfold cVT
    rw [hk]
    simp only [va_up_self]
  · rw [va_up_ne _ _ h]
    unfold cVT
    simp only [va_up_ne _ _ h]
theorem cVT_2_6 {ci : Nat → Nat} {d : Nat → ClassId} {kd : Nat → Nat} {an : Nat → Nat} {ai : Nat → Nat → Int32} {al : Nat → Nat → Int64} {ar : Nat → Nat → Option Nat} {mX5_newest : Nat → Option Nat} {mX5_rows : Nat → Int32} {mX5_latest : Nat → Int32} {mX5_pins : Nat → Option Nat} {mX5_transactions : Nat → Option Nat} {mX5_count : Nat → Int32} {mX5_holders : Nat → Option Nat} {mX5_tripleConflicts : Nat → Option Nat} {mX5_graphConflicts : Nat → Option Nat} {mX5_turns : Nat → Int32} {mX5_queue : Nat → Option Nat} {mX5_head : Nat → Int32} {mX5_tail : Nat → Int32} {mX5_ring : Nat → Option Nat} {mX58_number : Nat → Int32} {mX58_sees : Nat → Int32} {mX58_state : Nat → Option Nat} {mX59_writes : Nat → Option Nat} {mX59_count : Nat → Int32} {mX59_noted : Nat → Option Nat} {mX59_waitsFor : Nat → Option Nat} {mX59_turn : Nat → Int32} {mX59_triple : Nat → Int32} {mX59_there : Nat → Int32} {mX60_version : Nat → Int32} {mX60_there : Nat → Int32} {mX60_older : Nat → Option Nat} {mX66_version : Nat → Int32} {mX66_count : Nat → Int32} {mX66_next : Nat → Option Nat} {a : Nat} {v : Option Nat} (hk : kd a = 2) : va_up (cVT ci d kd an ai al ar mX5_newest mX5_rows mX5_latest mX5_pins mX5_transactions mX5_count mX5_holders mX5_tripleConflicts mX5_graphConflicts mX5_turns mX5_queue mX5_head mX5_tail mX5_ring mX58_number mX58_sees mX58_state mX59_writes mX59_count mX59_noted mX59_waitsFor mX59_turn mX59_triple mX59_there mX60_version mX60_there mX60_older mX66_version mX66_count mX66_next) a (.inr (ci 1, [.int (mX58_number a), .int (mX58_sees a), va_rf (mX58_state a), va_rf (mX59_writes a), .int (mX59_count a), va_rf (mX59_noted a), va_rf v, .int (mX59_turn a), .int (mX59_triple a), .int (mX59_there a)])) = (cVT ci d kd an ai al ar mX5_newest mX5_rows mX5_latest mX5_pins mX5_transactions mX5_count mX5_holders mX5_tripleConflicts mX5_graphConflicts mX5_turns mX5_queue mX5_head mX5_tail mX5_ring mX58_number mX58_sees mX58_state mX59_writes mX59_count mX59_noted (va_up mX59_waitsFor a v) mX59_turn mX59_triple mX59_there mX60_version mX60_there mX60_older mX66_version mX66_count mX66_next) := by
  funext b
  by_cases h : b = a
  · subst h
    rw [va_up_self]
    unfold cVT
    rw [hk]
    simp only [va_up_self]
  · rw [va_up_ne _ _ h]
    unfold cVT
    simp only [va_up_ne _ _ h]
theorem cVT_2_7 {ci : Nat → Nat} {d : Nat → ClassId} {kd : Nat → Nat} {an : Nat → Nat} {ai : Nat → Nat → Int32} {al : Nat → Nat → Int64} {ar : Nat → Nat → Option Nat} {mX5_newest : Nat → Option Nat} {mX5_rows : Nat → Int32} {mX5_latest : Nat → Int32} {mX5_pins : Nat → Option Nat} {mX5_transactions : Nat → Option Nat} {mX5_count : Nat → Int32} {mX5_holders : Nat → Option Nat} {mX5_tripleConflicts : Nat → Option Nat} {mX5_graphConflicts : Nat → Option Nat} {mX5_turns : Nat → Int32} {mX5_queue : Nat → Option Nat} {mX5_head : Nat → Int32} {mX5_tail : Nat → Int32} {mX5_ring : Nat → Option Nat} {mX58_number : Nat → Int32} {mX58_sees : Nat → Int32} {mX58_state : Nat → Option Nat} {mX59_writes : Nat → Option Nat} {mX59_count : Nat → Int32} {mX59_noted : Nat → Option Nat} {mX59_waitsFor : Nat → Option Nat} {mX59_turn : Nat → Int32} {mX59_triple : Nat → Int32} {mX59_there : Nat → Int32} {mX60_version : Nat → Int32} {mX60_there : Nat → Int32} {mX60_older : Nat → Option Nat} {mX66_version : Nat → Int32} {mX66_count : Nat → Int32} {mX66_next : Nat → Option Nat} {a : Nat} {v : Int32} (hk : kd a = 2) : va_up (cVT ci d kd an ai al ar mX5_newest mX5_rows mX5_latest mX5_pins mX5_transactions mX5_count mX5_holders mX5_tripleConflicts mX5_graphConflicts mX5_turns mX5_queue mX5_head mX5_tail mX5_ring mX58_number mX58_sees mX58_state mX59_writes mX59_count mX59_noted mX59_waitsFor mX59_turn mX59_triple mX59_there mX60_version mX60_there mX60_older mX66_version mX66_count mX66_next) a (.inr (ci 1, [.int (mX58_number a), .int (mX58_sees a), va_rf (mX58_state a), va_rf (mX59_writes a), .int (mX59_count a), va_rf (mX59_noted a), va_rf (mX59_waitsFor a), .int v, .int (mX59_triple a), .int (mX59_there a)])) = (cVT ci d kd an ai al ar mX5_newest mX5_rows mX5_latest mX5_pins mX5_transactions mX5_count mX5_holders mX5_tripleConflicts mX5_graphConflicts mX5_turns mX5_queue mX5_head mX5_tail mX5_ring mX58_number mX58_sees mX58_state mX59_writes mX59_count mX59_noted mX59_waitsFor (va_up mX59_turn a v) mX59_triple mX59_there mX60_version mX60_there mX60_older mX66_version mX66_count mX66_next) := by
  funext b
  by_cases h : b = a
  · subst h
    rw [va_up_self]
    unfold cVT
    rw [hk]
    simp only [va_up_self]
  · rw [va_up_ne _ _ h]
    unfold cVT
    simp only [va_up_ne _ _ h]
theorem cVT_2_8 {ci : Nat → Nat} {d : Nat → ClassId} {kd : Nat → Nat} {an : Nat → Nat} {ai : Nat → Nat → Int32} {al : Nat → Nat → Int64} {ar : Nat → Nat → Option Nat} {mX5_newest : Nat → Option Nat} {mX5_rows : Nat → Int32} {mX5_latest : Nat → Int32} {mX5_pins : Nat → Option Nat} {mX5_transactions : Nat → Option Nat} {mX5_count : Nat → Int32} {mX5_holders : Nat → Option Nat} {mX5_tripleConflicts : Nat → Option Nat} {mX5_graphConflicts : Nat → Option Nat} {mX5_turns : Nat → Int32} {mX5_queue : Nat → Option Nat} {mX5_head : Nat → Int32} {mX5_tail : Nat → Int32} {mX5_ring : Nat → Option Nat} {mX58_number : Nat → Int32} {mX58_sees : Nat → Int32} {mX58_state : Nat → Option Nat} {mX59_writes : Nat → Option Nat} {mX59_count : Nat → Int32} {mX59_noted : Nat → Option Nat} {mX59_waitsFor : Nat → Option Nat} {mX59_turn : Nat → Int32} {mX59_triple : Nat → Int32} {mX59_there : Nat → Int32} {mX60_version : Nat → Int32} {mX60_there : Nat → Int32} {mX60_older : Nat → Option Nat} {mX66_version : Nat → Int32} {mX66_count : Nat → Int32} {mX66_next : Nat → Option Nat} {a : Nat} {v : Int32} (hk : kd a = 2) : va_up (cVT ci d kd an ai al ar mX5_newest mX5_rows mX5_latest mX5_pins mX5_transactions mX5_count mX5_holders mX5_tripleConflicts mX5_graphConflicts mX5_turns mX5_queue mX5_head mX5_tail mX5_ring mX58_number mX58_sees mX58_state mX59_writes mX59_count mX59_noted mX59_waitsFor mX59_turn mX59_triple mX59_there mX60_version mX60_there mX60_older mX66_version mX66_count mX66_next) a (.inr (ci 1, [.int (mX58_number a), .int (mX58_sees a), va_rf (mX58_state a), va_rf (mX59_writes a), .int (mX59_count a), va_rf (mX59_noted a), va_rf (mX59_waitsFor a), .int (mX59_turn a), .int v, .int (mX59_there a)])) = (cVT ci d kd an ai al ar mX5_newest mX5_rows mX5_latest mX5_pins mX5_transactions mX5_count mX5_holders mX5_tripleConflicts mX5_graphConflicts mX5_turns mX5_queue mX5_head mX5_tail mX5_ring mX58_number mX58_sees mX58_state mX59_writes mX59_count mX59_noted mX59_waitsFor mX59_turn (va_up mX59_triple a v) mX59_there mX60_version mX60_there mX60_older mX66_version mX66_count mX66_next) := by
  funext b
  by_cases h : b = a
  · subst h
    rw [va_up_self]
    unfold cVT
    rw [hk]
    simp only [va_up_self]
  · rw [va_up_ne _ _ h]
    unfold cVT
    simp only [va_up_ne _ _ h]
theorem cVT_2_9 {ci : Nat → Nat} {d : Nat → ClassId} {kd : Nat → Nat} {an : Nat → Nat} {ai : Nat → Nat → Int32} {al : Nat → Nat → Int64} {ar : Nat → Nat → Option Nat} {mX5_newest : Nat → Option Nat} {mX5_rows : Nat → Int32} {mX5_latest : Nat → Int32} {mX5_pins : Nat → Option Nat} {mX5_transactions : Nat → Option Nat} {mX5_count : Nat → Int32} {mX5_holders : Nat → Option Nat} {mX5_tripleConflicts : Nat → Option Nat} {mX5_graphConflicts : Nat → Option Nat} {mX5_turns : Nat → Int32} {mX5_queue : Nat → Option Nat} {mX5_head : Nat → Int32} {mX5_tail : Nat → Int32} {mX5_ring : Nat → Option Nat} {mX58_number : Nat → Int32} {mX58_sees : Nat → Int32} {mX58_state : Nat → Option Nat} {mX59_writes : Nat → Option Nat} {mX59_count : Nat → Int32} {mX59_noted : Nat → Option Nat} {mX59_waitsFor : Nat → Option Nat} {mX59_turn : Nat → Int32} {mX59_triple : Nat → Int32} {mX59_there : Nat → Int32} {mX60_version : Nat → Int32} {mX60_there : Nat → Int32} {mX60_older : Nat → Option Nat} {mX66_version : Nat → Int32} {mX66_count : Nat → Int32} {mX66_next : Nat → Option Nat} {a : Nat} {v : Int32} (hk : kd a = 2) : va_up (cVT ci d kd an ai al ar mX5_newest mX5_rows mX5_latest mX5_pins mX5_transactions mX5_count mX5_holders mX5_tripleConflicts mX5_graphConflicts mX5_turns mX5_queue mX5_head mX5_tail mX5_ring mX58_number mX58_sees mX58_state mX59_writes mX59_count mX59_noted mX59_waitsFor mX59_turn mX59_triple mX59_there mX60_version mX60_there mX60_older mX66_version mX66_count mX66_next) a (.inr (ci 1, [.int (mX58_number a), .int (mX58_sees a), va_rf (mX58_state a), va_rf (mX59_writes a), .int (mX59_count a), va_rf (mX59_noted a), va_rf (mX59_waitsFor a), .int (mX59_turn a), .int (mX59_triple a), .int v])) = (cVT ci d kd an ai al ar mX5_newest mX5_rows mX5_latest mX5_pins mX5_transactions mX5_count mX5_holders mX5_tripleConflicts mX5_graphConflicts mX5_turns mX5_queue mX5_head mX5_tail mX5_ring mX58_number mX58_sees mX58_state mX59_writes mX59_count mX59_noted mX59_waitsFor mX59_turn mX59_triple (va_up mX59_there a v) mX60_version mX60_there mX60_older mX66_version mX66_count mX66_next) := by
  funext b
  by_cases h : b = a
  · subst h
    rw [va_up_self]
    unfold cVT
    rw [hk]
    simp only [va_up_self]
  · rw [va_up_ne _ _ h]
    unfold cVT
    simp only [va_up_ne _ _ h]
theorem cVT_2_n {ci : Nat → Nat} {d : Nat → ClassId} {kd : Nat → Nat} {an : Nat → Nat} {ai : Nat → Nat → Int32} {al : Nat → Nat → Int64} {ar : Nat → Nat → Option Nat} {mX5_newest : Nat → Option Nat} {mX5_rows : Nat → Int32} {mX5_latest : Nat → Int32} {mX5_pins : Nat → Option Nat} {mX5_transactions : Nat → Option Nat} {mX5_count : Nat → Int32} {mX5_holders : Nat → Option Nat} {mX5_tripleConflicts : Nat → Option Nat} {mX5_graphConflicts : Nat → Option Nat} {mX5_turns : Nat → Int32} {mX5_queue : Nat → Option Nat} {mX5_head : Nat → Int32} {mX5_tail : Nat → Int32} {mX5_ring : Nat → Option Nat} {mX58_number : Nat → Int32} {mX58_sees : Nat → Int32} {mX58_state : Nat → Option Nat} {mX59_writes : Nat → Option Nat} {mX59_count : Nat → Int32} {mX59_noted : Nat → Option Nat} {mX59_waitsFor : Nat → Option Nat} {mX59_turn : Nat → Int32} {mX59_triple : Nat → Int32} {mX59_there : Nat → Int32} {mX60_version : Nat → Int32} {mX60_there : Nat → Int32} {mX60_older : Nat → Option Nat} {mX66_version : Nat → Int32} {mX66_count : Nat → Int32} {mX66_next : Nat → Option Nat} (q : Nat) : va_up (cVT ci d kd an ai al ar mX5_newest mX5_rows mX5_latest mX5_pins mX5_transactions mX5_count mX5_holders mX5_tripleConflicts mX5_graphConflicts mX5_turns mX5_queue mX5_head mX5_tail mX5_ring mX58_number mX58_sees mX58_state mX59_writes mX59_count mX59_noted mX59_waitsFor mX59_turn mX59_triple mX59_there mX60_version mX60_there mX60_older mX66_version mX66_count mX66_next) q (.inr (ci 1, [.int 0, .int 0, va_rf none, va_rf none, .int 0, va_rf none, va_rf none, .int 0, .int 0, .int 0])) = (cVT ci d (va_up kd q 2) an ai al ar mX5_newest mX5_rows mX5_latest mX5_pins mX5_transactions mX5_count mX5_holders mX5_tripleConflicts mX5_graphConflicts mX5_turns mX5_queue mX5_head mX5_tail mX5_ring (va_up mX58_number q 0) (va_up mX58_sees q 0) (va_up mX58_state q none) (va_up mX59_writes q none) (va_up mX59_count q 0) (va_up mX59_noted q none) (va_up mX59_waitsFor q none) (va_up mX59_turn q 0) (va_up mX59_triple q 0) (va_up mX59_there q 0) mX60_version mX60_there mX60_older mX66_version mX66_count mX66_next) := by
  funext b
  by_cases h : b = q
  · subst h
    rw [va_up_self]
    unfold cVT
    simp only [va_up_self]
  · rw [va_up_ne _ _ h]
    unfold cVT
    simp only [va_up_ne _ _ h]
theorem cVT_3 {ci : Nat → Nat} {d : Nat → ClassId} {kd : Nat → Nat} {an : Nat → Nat} {ai : Nat → Nat → Int32} {al : Nat → Nat → Int64} {ar : Nat → Nat → Option Nat} {mX5_newest : Nat → Option Nat} {mX5_rows : Nat → Int32} {mX5_latest : Nat → Int32} {mX5_pins : Nat → Option Nat} {mX5_transactions : Nat → Option Nat} {mX5_count : Nat → Int32} {mX5_holders : Nat → Option Nat} {mX5_tripleConflicts : Nat → Option Nat} {mX5_graphConflicts : Nat → Option Nat} {mX5_turns : Nat → Int32} {mX5_queue : Nat → Option Nat} {mX5_head : Nat → Int32} {mX5_tail : Nat → Int32} {mX5_ring : Nat → Option Nat} {mX58_number : Nat → Int32} {mX58_sees : Nat → Int32} {mX58_state : Nat → Option Nat} {mX59_writes : Nat → Option Nat} {mX59_count : Nat → Int32} {mX59_noted : Nat → Option Nat} {mX59_waitsFor : Nat → Option Nat} {mX59_turn : Nat → Int32} {mX59_triple : Nat → Int32} {mX59_there : Nat → Int32} {mX60_version : Nat → Int32} {mX60_there : Nat → Int32} {mX60_older : Nat → Option Nat} {mX66_version : Nat → Int32} {mX66_count : Nat → Int32} {mX66_next : Nat → Option Nat} {a : Nat} (hk : kd a = 3) : (cVT ci d kd an ai al ar mX5_newest mX5_rows mX5_latest mX5_pins mX5_transactions mX5_count mX5_holders mX5_tripleConflicts mX5_graphConflicts mX5_turns mX5_queue mX5_head mX5_tail mX5_ring mX58_number mX58_sees mX58_state mX59_writes mX59_count mX59_noted mX59_waitsFor mX59_turn mX59_triple mX59_there mX60_version mX60_there mX60_older mX66_version mX66_count mX66_next) a = .inr (ci 2, [.int (mX58_number a), .int (mX58_sees a), va_rf (mX58_state a)]) := by unfold cVT; simp only [hk]
theorem cVT_3_0 {ci : Nat → Nat} {d : Nat → ClassId} {kd : Nat → Nat} {an : Nat → Nat} {ai : Nat → Nat → Int32} {al : Nat → Nat → Int64} {ar : Nat → Nat → Option Nat} {mX5_newest : Nat → Option Nat} {mX5_rows : Nat → Int32} {mX5_latest : Nat → Int32} {mX5_pins : Nat → Option Nat} {mX5_transactions : Nat → Option Nat} {mX5_count : Nat → Int32} {mX5_holders : Nat → Option Nat} {mX5_tripleConflicts : Nat → Option Nat} {mX5_graphConflicts : Nat → Option Nat} {mX5_turns : Nat → Int32} {mX5_queue : Nat → Option Nat} {mX5_head : Nat → Int32} {mX5_tail : Nat → Int32} {mX5_ring : Nat → Option Nat} {mX58_number : Nat → Int32} {mX58_sees : Nat → Int32} {mX58_state : Nat → Option Nat} {mX59_writes : Nat → Option Nat} {mX59_count : Nat → Int32} {mX59_noted : Nat → Option Nat} {mX59_waitsFor : Nat → Option Nat} {mX59_turn : Nat → Int32} {mX59_triple : Nat → Int32} {mX59_there : Nat → Int32} {mX60_version : Nat → Int32} {mX60_there : Nat → Int32} {mX60_older : Nat → Option Nat} {mX66_version : Nat → Int32} {mX66_count : Nat → Int32} {mX66_next : Nat → Option Nat} {a : Nat} {v : Int32} (hk : kd a = 3) : va_up (cVT ci d kd an ai al ar mX5_newest mX5_rows mX5_latest mX5_pins mX5_transactions mX5_count mX5_holders mX5_tripleConflicts mX5_graphConflicts mX5_turns mX5_queue mX5_head mX5_tail mX5_ring mX58_number mX58_sees mX58_state mX59_writes mX59_count mX59_noted mX59_waitsFor mX59_turn mX59_triple mX59_there mX60_version mX60_there mX60_older mX66_version mX66_count mX66_next) a (.inr (ci 2, [.int v, .int (mX58_sees a), va_rf (mX58_state a)])) = (cVT ci d kd an ai al ar mX5_newest mX5_rows mX5_latest mX5_pins mX5_transactions mX5_count mX5_holders mX5_tripleConflicts mX5_graphConflicts mX5_turns mX5_queue mX5_head mX5_tail mX5_ring (va_up mX58_number a v) mX58_sees mX58_state mX59_writes mX59_count mX59_noted mX59_waitsFor mX59_turn mX59_triple mX59_there mX60_version mX60_there mX60_older mX66_version mX66_count mX66_next) := by
  funext b
  by_cases h : b = a
  · subst h
    rw [va_up_self]
    unfold cVT
    rw [hk]
    simp only [va_up_self]
  · rw [va_up_ne _ _ h]
    unfold cVT
    simp only [va_up_ne _ _ h]
theorem cVT_3_1 {ci : Nat → Nat} {d : Nat → ClassId} {kd : Nat → Nat} {an : Nat → Nat} {ai : Nat → Nat → Int32} {al : Nat → Nat → Int64} {ar : Nat → Nat → Option Nat} {mX5_newest : Nat → Option Nat} {mX5_rows : Nat → Int32} {mX5_latest : Nat → Int32} {mX5_pins : Nat → Option Nat} {mX5_transactions : Nat → Option Nat} {mX5_count : Nat → Int32} {mX5_holders : Nat → Option Nat} {mX5_tripleConflicts : Nat → Option Nat} {mX5_graphConflicts : Nat → Option Nat} {mX5_turns : Nat → Int32} {mX5_queue : Nat → Option Nat} {mX5_head : Nat → Int32} {mX5_tail : Nat → Int32} {mX5_ring : Nat → Option Nat} {mX58_number : Nat → Int32} {mX58_sees : Nat → Int32} {mX58_state : Nat → Option Nat} {mX59_writes : Nat → Option Nat} {mX59_count : Nat → Int32} {mX59_noted : Nat → Option Nat} {mX59_waitsFor : Nat → Option Nat} {mX59_turn : Nat → Int32} {mX59_triple : Nat → Int32} {mX59_there : Nat → Int32} {mX60_version : Nat → Int32} {mX60_there : Nat → Int32} {mX60_older : Nat → Option Nat} {mX66_version : Nat → Int32} {mX66_count : Nat → Int32} {mX66_next : Nat → Option Nat} {a : Nat} {v : Int32} (hk : kd a = 3) : va_up (cVT ci d kd an ai al ar mX5_newest mX5_rows mX5_latest mX5_pins mX5_transactions mX5_count mX5_holders mX5_tripleConflicts mX5_graphConflicts mX5_turns mX5_queue mX5_head mX5_tail mX5_ring mX58_number mX58_sees mX58_state mX59_writes mX59_count mX59_noted mX59_waitsFor mX59_turn mX59_triple mX59_there mX60_version mX60_there mX60_older mX66_version mX66_count mX66_next) a (.inr (ci 2, [.int (mX58_number a), .int v, va_rf (mX58_state a)])) = (cVT ci d kd an ai al ar mX5_newest mX5_rows mX5_latest mX5_pins mX5_transactions mX5_count mX5_holders mX5_tripleConflicts mX5_graphConflicts mX5_turns mX5_queue mX5_head mX5_tail mX5_ring mX58_number (va_up mX58_sees a v) mX58_state mX59_writes mX59_count mX59_noted mX59_waitsFor mX59_turn mX59_triple mX59_there mX60_version mX60_there mX60_older mX66_version mX66_count mX66_next) := by
  funext b
  by_cases h : b = a
  · subst h
    rw [va_up_self]
    unfold cVT
    rw [hk]
    simp only [va_up_self]
  · rw [va_up_ne _ _ h]
    unfold cVT
    simp only [va_up_ne _ _ h]
theorem cVT_3_2 {ci : Nat → Nat} {d : Nat → ClassId} {kd : Nat → Nat} {an : Nat → Nat} {ai : Nat → Nat → Int32} {al : Nat → Nat → Int64} {ar : Nat → Nat → Option Nat} {mX5_newest : Nat → Option Nat} {mX5_rows : Nat → Int32} {mX5_latest : Nat → Int32} {mX5_pins : Nat → Option Nat} {mX5_transactions : Nat → Option Nat} {mX5_count : Nat → Int32} {mX5_holders : Nat → Option Nat} {mX5_tripleConflicts : Nat → Option Nat} {mX5_graphConflicts : Nat → Option Nat} {mX5_turns : Nat → Int32} {mX5_queue : Nat → Option Nat} {mX5_head : Nat → Int32} {mX5_tail : Nat → Int32} {mX5_ring : Nat → Option Nat} {mX58_number : Nat → Int32} {mX58_sees : Nat → Int32} {mX58_state : Nat → Option Nat} {mX59_writes : Nat → Option Nat} {mX59_count : Nat → Int32} {mX59_noted : Nat → Option Nat} {mX59_waitsFor : Nat → Option Nat} {mX59_turn : Nat → Int32} {mX59_triple : Nat → Int32} {mX59_there : Nat → Int32} {mX60_version : Nat → Int32} {mX60_there : Nat → Int32} {mX60_older : Nat → Option Nat} {mX66_version : Nat → Int32} {mX66_count : Nat → Int32} {mX66_next : Nat → Option Nat} {a : Nat} {v : Option Nat} (hk : kd a = 3) : va_up (cVT ci d kd an ai al ar mX5_newest mX5_rows mX5_latest mX5_pins mX5_transactions mX5_count mX5_holders mX5_tripleConflicts mX5_graphConflicts mX5_turns mX5_queue mX5_head mX5_tail mX5_ring mX58_number mX58_sees mX58_state mX59_writes mX59_count mX59_noted mX59_waitsFor mX59_turn mX59_triple mX59_there mX60_version mX60_there mX60_older mX66_version mX66_count mX66_next) a (.inr (ci 2, [.int (mX58_number a), .int (mX58_sees a), va_rf v])) = (cVT ci d kd an ai al ar mX5_newest mX5_rows mX5_latest mX5_pins mX5_transactions mX5_count mX5_holders mX5_tripleConflicts mX5_graphConflicts mX5_turns mX5_queue mX5_head mX5_tail mX5_ring mX58_number mX58_sees (va_up mX58_state a v) mX59_writes mX59_count mX59_noted mX59_waitsFor mX59_turn mX59_triple mX59_there mX60_version mX60_there mX60_older mX66_version mX66_count mX66_next) := by
  funext b
  by_cases h : b = a
  · subst h
    rw [va_up_self]
    unfold cVT
    rw [hk]
    simp only [va_up_self]
  · rw [va_up_ne _ _ h]
    unfold cVT
    simp only [va_up_ne _ _ h]
theorem cVT_3_n {ci : Nat → Nat} {d : Nat → ClassId} {kd : Nat → Nat} {an : Nat → Nat} {ai : Nat → Nat → Int32} {al : Nat → Nat → Int64} {ar : Nat → Nat → Option Nat} {mX5_newest : Nat → Option Nat} {mX5_rows : Nat → Int32} {mX5_latest : Nat → Int32} {mX5_pins : Nat → Option Nat} {mX5_transactions : Nat → Option Nat} {mX5_count : Nat → Int32} {mX5_holders : Nat → Option Nat} {mX5_tripleConflicts : Nat → Option Nat} {mX5_graphConflicts : Nat → Option Nat} {mX5_turns : Nat → Int32} {mX5_queue : Nat → Option Nat} {mX5_head : Nat → Int32} {mX5_tail : Nat → Int32} {mX5_ring : Nat → Option Nat} {mX58_number : Nat → Int32} {mX58_sees : Nat → Int32} {mX58_state : Nat → Option Nat} {mX59_writes : Nat → Option Nat} {mX59_count : Nat → Int32} {mX59_noted : Nat → Option Nat} {mX59_waitsFor : Nat → Option Nat} {mX59_turn : Nat → Int32} {mX59_triple : Nat → Int32} {mX59_there : Nat → Int32} {mX60_version : Nat → Int32} {mX60_there : Nat → Int32} {mX60_older : Nat → Option Nat} {mX66_version : Nat → Int32} {mX66_count : Nat → Int32} {mX66_next : Nat → Option Nat} (q : Nat) : va_up (cVT ci d kd an ai al ar mX5_newest mX5_rows mX5_latest mX5_pins mX5_transactions mX5_count mX5_holders mX5_tripleConflicts mX5_graphConflicts mX5_turns mX5_queue mX5_head mX5_tail mX5_ring mX58_number mX58_sees mX58_state mX59_writes mX59_count mX59_noted mX59_waitsFor mX59_turn mX59_triple mX59_there mX60_version mX60_there mX60_older mX66_version mX66_count mX66_next) q (.inr (ci 2, [.int 0, .int 0, va_rf none])) = (cVT ci d (va_up kd q 3) an ai al ar mX5_newest mX5_rows mX5_latest mX5_pins mX5_transactions mX5_count mX5_holders mX5_tripleConflicts mX5_graphConflicts mX5_turns mX5_queue mX5_head mX5_tail mX5_ring (va_up mX58_number q 0) (va_up mX58_sees q 0) (va_up mX58_state q none) mX59_writes mX59_count mX59_noted mX59_waitsFor mX59_turn mX59_triple mX59_there mX60_version mX60_there mX60_older mX66_version mX66_count mX66_next) := by
  funext b
  by_cases h : b = q
  · subst h
    rw [va_up_self]
    unfold cVT
    simp only [va_up_self]
  · rw [va_up_ne _ _ h]
    unfold cVT
    simp only [va_up_ne _ _ h]
theorem cVT_4 {ci : Nat → Nat} {d : Nat → ClassId} {kd : Nat → Nat} {an : Nat → Nat} {ai : Nat → Nat → Int32} {al : Nat → Nat → Int64} {ar : Nat → Nat → Option Nat} {mX5_newest : Nat → Option Nat} {mX5_rows : Nat → Int32} {mX5_latest : Nat → Int32} {mX5_pins : Nat → Option Nat} {mX5_transactions : Nat → Option Nat} {mX5_count : Nat → Int32} {mX5_holders : Nat → Option Nat} {mX5_tripleConflicts : Nat → Option Nat} {mX5_graphConflicts : Nat → Option Nat} {mX5_turns : Nat → Int32} {mX5_queue : Nat → Option Nat} {mX5_head : Nat → Int32} {mX5_tail : Nat → Int32} {mX5_ring : Nat → Option Nat} {mX58_number : Nat → Int32} {mX58_sees : Nat → Int32} {mX58_state : Nat → Option Nat} {mX59_writes : Nat → Option Nat} {mX59_count : Nat → Int32} {mX59_noted : Nat → Option Nat} {mX59_waitsFor : Nat → Option Nat} {mX59_turn : Nat → Int32} {mX59_triple : Nat → Int32} {mX59_there : Nat → Int32} {mX60_version : Nat → Int32} {mX60_there : Nat → Int32} {mX60_older : Nat → Option Nat} {mX66_version : Nat → Int32} {mX66_count : Nat → Int32} {mX66_next : Nat → Option Nat} {a : Nat} (hk : kd a = 4) : (cVT ci d kd an ai al ar mX5_newest mX5_rows mX5_latest mX5_pins mX5_transactions mX5_count mX5_holders mX5_tripleConflicts mX5_graphConflicts mX5_turns mX5_queue mX5_head mX5_tail mX5_ring mX58_number mX58_sees mX58_state mX59_writes mX59_count mX59_noted mX59_waitsFor mX59_turn mX59_triple mX59_there mX60_version mX60_there mX60_older mX66_version mX66_count mX66_next) a = .inr (ci 3, [.int (mX60_version a), .int (mX60_there a), va_rf (mX60_older a)]) := by unfold cVT; simp only [hk]
theorem cVT_4_0 {ci : Nat → Nat} {d : Nat → ClassId} {kd : Nat → Nat} {an : Nat → Nat} {ai : Nat → Nat → Int32} {al : Nat → Nat → Int64} {ar : Nat → Nat → Option Nat} {mX5_newest : Nat → Option Nat} {mX5_rows : Nat → Int32} {mX5_latest : Nat → Int32} {mX5_pins : Nat → Option Nat} {mX5_transactions : Nat → Option Nat} {mX5_count : Nat → Int32} {mX5_holders : Nat → Option Nat} {mX5_tripleConflicts : Nat → Option Nat} {mX5_graphConflicts : Nat → Option Nat} {mX5_turns : Nat → Int32} {mX5_queue : Nat → Option Nat} {mX5_head : Nat → Int32} {mX5_tail : Nat → Int32} {mX5_ring : Nat → Option Nat} {mX58_number : Nat → Int32} {mX58_sees : Nat → Int32} {mX58_state : Nat → Option Nat} {mX59_writes : Nat → Option Nat} {mX59_count : Nat → Int32} {mX59_noted : Nat → Option Nat} {mX59_waitsFor : Nat → Option Nat} {mX59_turn : Nat → Int32} {mX59_triple : Nat → Int32} {mX59_there : Nat → Int32} {mX60_version : Nat → Int32} {mX60_there : Nat → Int32} {mX60_older : Nat → Option Nat} {mX66_version : Nat → Int32} {mX66_count : Nat → Int32} {mX66_next : Nat → Option Nat} {a : Nat} {v : Int32} (hk : kd a = 4) : va_up (cVT ci d kd an ai al ar mX5_newest mX5_rows mX5_latest mX5_pins mX5_transactions mX5_count mX5_holders mX5_tripleConflicts mX5_graphConflicts mX5_turns mX5_queue mX5_head mX5_tail mX5_ring mX58_number mX58_sees mX58_state mX59_writes mX59_count mX59_noted mX59_waitsFor mX59_turn mX59_triple mX59_there mX60_version mX60_there mX60_older mX66_version mX66_count mX66_next) a (.inr (ci 3, [.int v, .int (mX60_there a), va_rf (mX60_older a)])) = (cVT ci d kd an ai al ar mX5_newest mX5_rows mX5_latest mX5_pins mX5_transactions mX5_count mX5_holders mX5_tripleConflicts mX5_graphConflicts mX5_turns mX5_queue mX5_head mX5_tail mX5_ring mX58_number mX58_sees mX58_state mX59_writes mX59_count mX59_noted mX59_waitsFor mX59_turn mX59_triple mX59_there (va_up mX60_version a v) mX60_there mX60_older mX66_version mX66_count mX66_next) := by
  funext b
  by_cases h : b = a
  · subst h
    rw [va_up_self]
    unfold cVT
    rw [hk]
    simp only [va_up_self]
  · rw [va_up_ne _ _ h]
    unfold cVT
    simp only [va_up_ne _ _ h]
theorem cVT_4_1 {ci : Nat → Nat} {d : Nat → ClassId} {kd : Nat → Nat} {an : Nat → Nat} {ai : Nat → Nat → Int32} {al : Nat → Nat → Int64} {ar : Nat → Nat → Option Nat} {mX5_newest : Nat → Option Nat} {mX5_rows : Nat → Int32} {mX5_latest : Nat → Int32} {mX5_pins : Nat → Option Nat} {mX5_transactions : Nat → Option Nat} {mX5_count : Nat → Int32} {mX5_holders : Nat → Option Nat} {mX5_tripleConflicts : Nat → Option Nat} {mX5_graphConflicts : Nat → Option Nat} {mX5_turns : Nat → Int32} {mX5_queue : Nat → Option Nat} {mX5_head : Nat → Int32} {mX5_tail : Nat → Int32} {mX5_ring : Nat → Option Nat} {mX58_number : Nat → Int32} {mX58_sees : Nat → Int32} {mX58_state : Nat → Option Nat} {mX59_writes : Nat → Option Nat} {mX59_count : Nat → Int32} {mX59_noted : Nat → Option Nat} {mX59_waitsFor : Nat → Option Nat} {mX59_turn : Nat → Int32} {mX59_triple : Nat → Int32} {mX59_there : Nat → Int32} {mX60_version : Nat → Int32} {mX60_there : Nat → Int32} {mX60_older : Nat → Option Nat} {mX66_version : Nat → Int32} {mX66_count : Nat → Int32} {mX66_next : Nat → Option Nat} {a : Nat} {v : Int32} (hk : kd a = 4) : va_up (cVT ci d kd an ai al ar mX5_newest mX5_rows mX5_latest mX5_pins mX5_transactions mX5_count mX5_holders mX5_tripleConflicts mX5_graphConflicts mX5_turns mX5_queue mX5_head mX5_tail mX5_ring mX58_number mX58_sees mX58_state mX59_writes mX59_count mX59_noted mX59_waitsFor mX59_turn mX59_triple mX59_there mX60_version mX60_there mX60_older mX66_version mX66_count mX66_next) a (.inr (ci 3, [.int (mX60_version a), .int v, va_rf (mX60_older a)])) = (cVT ci d kd an ai al ar mX5_newest mX5_rows mX5_latest mX5_pins mX5_transactions mX5_count mX5_holders mX5_tripleConflicts mX5_graphConflicts mX5_turns mX5_queue mX5_head mX5_tail mX5_ring mX58_number mX58_sees mX58_state mX59_writes mX59_count mX59_noted mX59_waitsFor mX59_turn mX59_triple mX59_there mX60_version (va_up mX60_there a v) mX60_older mX66_version mX66_count mX66_next) := by
  funext b
  by_cases h : b = a
  · subst h
    rw [va_up_self]
    unfold cVT
    rw [hk]
    simp only [va_up_self]
  · rw [va_up_ne _ _ h]
    unfold cVT
    simp only [va_up_ne _ _ h]
theorem cVT_4_2 {ci : Nat → Nat} {d : Nat → ClassId} {kd : Nat → Nat} {an : Nat → Nat} {ai : Nat → Nat → Int32} {al : Nat → Nat → Int64} {ar : Nat → Nat → Option Nat} {mX5_newest : Nat → Option Nat} {mX5_rows : Nat → Int32} {mX5_latest : Nat → Int32} {mX5_pins : Nat → Option Nat} {mX5_transactions : Nat → Option Nat} {mX5_count : Nat → Int32} {mX5_holders : Nat → Option Nat} {mX5_tripleConflicts : Nat → Option Nat} {mX5_graphConflicts : Nat → Option Nat} {mX5_turns : Nat → Int32} {mX5_queue : Nat → Option Nat} {mX5_head : Nat → Int32} {mX5_tail : Nat → Int32} {mX5_ring : Nat → Option Nat} {mX58_number : Nat → Int32} {mX58_sees : Nat → Int32} {mX58_state : Nat → Option Nat} {mX59_writes : Nat → Option Nat} {mX59_count : Nat → Int32} {mX59_noted : Nat → Option Nat} {mX59_waitsFor : Nat → Option Nat} {mX59_turn : Nat → Int32} {mX59_triple : Nat → Int32} {mX59_there : Nat → Int32} {mX60_version : Nat → Int32} {mX60_there : Nat → Int32} {mX60_older : Nat → Option Nat} {mX66_version : Nat → Int32} {mX66_count : Nat → Int32} {mX66_next : Nat → Option Nat} {a : Nat} {v : Option Nat} (hk : kd a = 4) : va_up (cVT ci d kd an ai al ar mX5_newest mX5_rows mX5_latest mX5_pins mX5_transactions mX5_count mX5_holders mX5_tripleConflicts mX5_graphConflicts mX5_turns mX5_queue mX5_head mX5_tail mX5_ring mX58_number mX58_sees mX58_state mX59_writes mX59_count mX59_noted mX59_waitsFor mX59_turn mX59_triple mX59_there mX60_version mX60_there mX60_older mX66_version mX66_count mX66_next) a (.inr (ci 3, [.int (mX60_version a), .int (mX60_there a), va_rf v])) = (cVT ci d kd an ai al ar mX5_newest mX5_rows mX5_latest mX5_pins mX5_transactions mX5_count mX5_holders mX5_tripleConflicts mX5_graphConflicts mX5_turns mX5_queue mX5_head mX5_tail mX5_ring mX58_number mX58_sees mX58_state mX59_writes mX59_count mX59_noted mX59_waitsFor mX59_turn mX59_triple mX59_there mX60_version mX60_there (va_up mX60_older a v) mX66_version mX66_count mX66_next) := by
  funext b
  by_cases h : b = a
  · subst h
    rw [va_up_self]
    unfold cVT
    rw [hk]
    simp only [va_up_self]
  · rw [va_up_ne _ _ h]
    unfold cVT
    simp only [va_up_ne _ _ h]
theorem cVT_4_n {ci : Nat → Nat} {d : Nat → ClassId} {kd : Nat → Nat} {an : Nat → Nat} {ai : Nat → Nat → Int32} {al : Nat → Nat → Int64} {ar : Nat → Nat → Option Nat} {mX5_newest : Nat → Option Nat} {mX5_rows : Nat → Int32} {mX5_latest : Nat → Int32} {mX5_pins : Nat → Option Nat} {mX5_transactions : Nat → Option Nat} {mX5_count : Nat → Int32} {mX5_holders : Nat → Option Nat} {mX5_tripleConflicts : Nat → Option Nat} {mX5_graphConflicts : Nat → Option Nat} {mX5_turns : Nat → Int32} {mX5_queue : Nat → Option Nat} {mX5_head : Nat → Int32} {mX5_tail : Nat → Int32} {mX5_ring : Nat → Option Nat} {mX58_number : Nat → Int32} {mX58_sees : Nat → Int32} {mX58_state : Nat → Option Nat} {mX59_writes : Nat → Option Nat} {mX59_count : Nat → Int32} {mX59_noted : Nat → Option Nat} {mX59_waitsFor : Nat → Option Nat} {mX59_turn : Nat → Int32} {mX59_triple : Nat → Int32} {mX59_there : Nat → Int32} {mX60_version : Nat → Int32} {mX60_there : Nat → Int32} {mX60_older : Nat → Option Nat} {mX66_version : Nat → Int32} {mX66_count : Nat → Int32} {mX66_next : Nat → Option Nat} (q : Nat) : va_up (cVT ci d kd an ai al ar mX5_newest mX5_rows mX5_latest mX5_pins mX5_transactions mX5_count mX5_holders mX5_tripleConflicts mX5_graphConflicts mX5_turns mX5_queue mX5_head mX5_tail mX5_ring mX58_number mX58_sees mX58_state mX59_writes mX59_count mX59_noted mX59_waitsFor mX59_turn mX59_triple mX59_there mX60_version mX60_there mX60_older mX66_version mX66_count mX66_next) q (.inr (ci 3, [.int 0, .int 0, va_rf none])) = (cVT ci d (va_up kd q 4) an ai al ar mX5_newest mX5_rows mX5_latest mX5_pins mX5_transactions mX5_count mX5_holders mX5_tripleConflicts mX5_graphConflicts mX5_turns mX5_queue mX5_head mX5_tail mX5_ring mX58_number mX58_sees mX58_state mX59_writes mX59_count mX59_noted mX59_waitsFor mX59_turn mX59_triple mX59_there (va_up mX60_version q 0) (va_up mX60_there q 0) (va_up mX60_older q none) mX66_version mX66_count mX66_next) := by
  funext b
  by_cases h : b = q
  · subst h
    rw [va_up_self]
    unfold cVT
    simp only [va_up_self]
  · rw [va_up_ne _ _ h]
    unfold cVT
    simp only [va_up_ne _ _ h]
theorem cVT_5 {ci : Nat → Nat} {d : Nat → ClassId} {kd : Nat → Nat} {an : Nat → Nat} {ai : Nat → Nat → Int32} {al : Nat → Nat → Int64} {ar : Nat → Nat → Option Nat} {mX5_newest : Nat → Option Nat} {mX5_rows : Nat → Int32} {mX5_latest : Nat → Int32} {mX5_pins : Nat → Option Nat} {mX5_transactions : Nat → Option Nat} {mX5_count : Nat → Int32} {mX5_holders : Nat → Option Nat} {mX5_tripleConflicts : Nat → Option Nat} {mX5_graphConflicts : Nat → Option Nat} {mX5_turns : Nat → Int32} {mX5_queue : Nat → Option Nat} {mX5_head : Nat → Int32} {mX5_tail : Nat → Int32} {mX5_ring : Nat → Option Nat} {mX58_number : Nat → Int32} {mX58_sees : Nat → Int32} {mX58_state : Nat → Option Nat} {mX59_writes : Nat → Option Nat} {mX59_count : Nat → Int32} {mX59_noted : Nat → Option Nat} {mX59_waitsFor : Nat → Option Nat} {mX59_turn : Nat → Int32} {mX59_triple : Nat → Int32} {mX59_there : Nat → Int32} {mX60_version : Nat → Int32} {mX60_there : Nat → Int32} {mX60_older : Nat → Option Nat} {mX66_version : Nat → Int32} {mX66_count : Nat → Int32} {mX66_next : Nat → Option Nat} {a : Nat} (hk : kd a = 5) : (cVT ci d kd an ai al ar mX5_newest mX5_rows mX5_latest mX5_pins mX5_transactions mX5_count mX5_holders mX5_tripleConflicts mX5_graphConflicts mX5_turns mX5_queue mX5_head mX5_tail mX5_ring mX58_number mX58_sees mX58_state mX59_writes mX59_count mX59_noted mX59_waitsFor mX59_turn mX59_triple mX59_there mX60_version mX60_there mX60_older mX66_version mX66_count mX66_next) a = .inr (ci 4, [.int (mX66_version a), .int (mX66_count a), va_rf (mX66_next a)]) := by unfold cVT; simp only [hk]
theorem cVT_5_0 {ci : Nat → Nat} {d : Nat → ClassId} {kd : Nat → Nat} {an : Nat → Nat} {ai : Nat → Nat → Int32} {al : Nat → Nat → Int64} {ar : Nat → Nat → Option Nat} {mX5_newest : Nat → Option Nat} {mX5_rows : Nat → Int32} {mX5_latest : Nat → Int32} {mX5_pins : Nat → Option Nat} {mX5_transactions : Nat → Option Nat} {mX5_count : Nat → Int32} {mX5_holders : Nat → Option Nat} {mX5_tripleConflicts : Nat → Option Nat} {mX5_graphConflicts : Nat → Option Nat} {mX5_turns : Nat → Int32} {mX5_queue : Nat → Option Nat} {mX5_head : Nat → Int32} {mX5_tail : Nat → Int32} {mX5_ring : Nat → Option Nat} {mX58_number : Nat → Int32} {mX58_sees : Nat → Int32} {mX58_state : Nat → Option Nat} {mX59_writes : Nat → Option Nat} {mX59_count : Nat → Int32} {mX59_noted : Nat → Option Nat} {mX59_waitsFor : Nat → Option Nat} {mX59_turn : Nat → Int32} {mX59_triple : Nat → Int32} {mX59_there : Nat → Int32} {mX60_version : Nat → Int32} {mX60_there : Nat → Int32} {mX60_older : Nat → Option Nat} {mX66_version : Nat → Int32} {mX66_count : Nat → Int32} {mX66_next : Nat → Option Nat} {a : Nat} {v : Int32} (hk : kd a = 5) : va_up (cVT ci d kd an ai al ar mX5_newest mX5_rows mX5_latest mX5_pins mX5_transactions mX5_count mX5_holders mX5_tripleConflicts mX5_graphConflicts mX5_turns mX5_queue mX5_head mX5_tail mX5_ring mX58_number mX58_sees mX58_state mX59_writes mX59_count mX59_noted mX59_waitsFor mX59_turn mX59_triple mX59_there mX60_version mX60_there mX60_older mX66_version mX66_count mX66_next) a (.inr (ci 4, [.int v, .int (mX66_count a), va_rf (mX66_next a)])) = (cVT ci d kd an ai al ar mX5_newest mX5_rows mX5_latest mX5_pins mX5_transactions mX5_count mX5_holders mX5_tripleConflicts mX5_graphConflicts mX5_turns mX5_queue mX5_head mX5_tail mX5_ring mX58_number mX58_sees mX58_state mX59_writes mX59_count mX59_noted mX59_waitsFor mX59_turn mX59_triple mX59_there mX60_version mX60_there mX60_older (va_up mX66_version a v) mX66_count mX66_next) := by
  funext b
  by_cases h : b = a
  · subst h
    rw [va_up_self]
    unfold cVT
    rw [hk]
    simp only [va_up_self]
  · rw [va_up_ne _ _ h]
    unfold cVT
    simp only [va_up_ne _ _ h]
theorem cVT_5_1 {ci : Nat → Nat} {d : Nat → ClassId} {kd : Nat → Nat} {an : Nat → Nat} {ai : Nat → Nat → Int32} {al : Nat → Nat → Int64} {ar : Nat → Nat → Option Nat} {mX5_newest : Nat → Option Nat} {mX5_rows : Nat → Int32} {mX5_latest : Nat → Int32} {mX5_pins : Nat → Option Nat} {mX5_transactions : Nat → Option Nat} {mX5_count : Nat → Int32} {mX5_holders : Nat → Option Nat} {mX5_tripleConflicts : Nat → Option Nat} {mX5_graphConflicts : Nat → Option Nat} {mX5_turns : Nat → Int32} {mX5_queue : Nat → Option Nat} {mX5_head : Nat → Int32} {mX5_tail : Nat → Int32} {mX5_ring : Nat → Option Nat} {mX58_number : Nat → Int32} {mX58_sees : Nat → Int32} {mX58_state : Nat → Option Nat} {mX59_writes : Nat → Option Nat} {mX59_count : Nat → Int32} {mX59_noted : Nat → Option Nat} {mX59_waitsFor : Nat → Option Nat} {mX59_turn : Nat → Int32} {mX59_triple : Nat → Int32} {mX59_there : Nat → Int32} {mX60_version : Nat → Int32} {mX60_there : Nat → Int32} {mX60_older : Nat → Option Nat} {mX66_version : Nat → Int32} {mX66_count : Nat → Int32} {mX66_next : Nat → Option Nat} {a : Nat} {v : Int32} (hk : kd a = 5) : va_up (cVT ci d kd an ai al ar mX5_newest mX5_rows mX5_latest mX5_pins mX5_transactions mX5_count mX5_holders mX5_tripleConflicts mX5_graphConflicts mX5_turns mX5_queue mX5_head mX5_tail mX5_ring mX58_number mX58_sees mX58_state mX59_writes mX59_count mX59_noted mX59_waitsFor mX59_turn mX59_triple mX59_there mX60_version mX60_there mX60_older mX66_version mX66_count mX66_next) a (.inr (ci 4, [.int (mX66_version a), .int v, va_rf (mX66_next a)])) = (cVT ci d kd an ai al ar mX5_newest mX5_rows mX5_latest mX5_pins mX5_transactions mX5_count mX5_holders mX5_tripleConflicts mX5_graphConflicts mX5_turns mX5_queue mX5_head mX5_tail mX5_ring mX58_number mX58_sees mX58_state mX59_writes mX59_count mX59_noted mX59_waitsFor mX59_turn mX59_triple mX59_there mX60_version mX60_there mX60_older mX66_version (va_up mX66_count a v) mX66_next) := by
  funext b
  by_cases h : b = a
  · subst h
    rw [va_up_self]
    unfold cVT
    rw [hk]
    simp only [va_up_self]
  · rw [va_up_ne _ _ h]
    unfold cVT
    simp only [va_up_ne _ _ h]
theorem cVT_5_2 {ci : Nat → Nat} {d : Nat → ClassId} {kd : Nat → Nat} {an : Nat → Nat} {ai : Nat → Nat → Int32} {al : Nat → Nat → Int64} {ar : Nat → Nat → Option Nat} {mX5_newest : Nat → Option Nat} {mX5_rows : Nat → Int32} {mX5_latest : Nat → Int32} {mX5_pins : Nat → Option Nat} {mX5_transactions : Nat → Option Nat} {mX5_count : Nat → Int32} {mX5_holders : Nat → Option Nat} {mX5_tripleConflicts : Nat → Option Nat} {mX5_graphConflicts : Nat → Option Nat} {mX5_turns : Nat → Int32} {mX5_queue : Nat → Option Nat} {mX5_head : Nat → Int32} {mX5_tail : Nat → Int32} {mX5_ring : Nat → Option Nat} {mX58_number : Nat → Int32} {mX58_sees : Nat → Int32} {mX58_state : Nat → Option Nat} {mX59_writes : Nat → Option Nat} {mX59_count : Nat → Int32} {mX59_noted : Nat → Option Nat} {mX59_waitsFor : Nat → Option Nat} {mX59_turn : Nat → Int32} {mX59_triple : Nat → Int32} {mX59_there : Nat → Int32} {mX60_version : Nat → Int32} {mX60_there : Nat → Int32} {mX60_older : Nat → Option Nat} {mX66_version : Nat → Int32} {mX66_count : Nat → Int32} {mX66_next : Nat → Option Nat} {a : Nat} {v : Option Nat} (hk : kd a = 5) : va_up (cVT ci d kd an ai al ar mX5_newest mX5_rows mX5_latest mX5_pins mX5_transactions mX5_count mX5_holders mX5_tripleConflicts mX5_graphConflicts mX5_turns mX5_queue mX5_head mX5_tail mX5_ring mX58_number mX58_sees mX58_state mX59_writes mX59_count mX59_noted mX59_waitsFor mX59_turn mX59_triple mX59_there mX60_version mX60_there mX60_older mX66_version mX66_count mX66_next) a (.inr (ci 4, [.int (mX66_version a), .int (mX66_count a), va_rf v])) = (cVT ci d kd an ai al ar mX5_newest mX5_rows mX5_latest mX5_pins mX5_transactions mX5_count mX5_holders mX5_tripleConflicts mX5_graphConflicts mX5_turns mX5_queue mX5_head mX5_tail mX5_ring mX58_number mX58_sees mX58_state mX59_writes mX59_count mX59_noted mX59_waitsFor mX59_turn mX59_triple mX59_there mX60_version mX60_there mX60_older mX66_version mX66_count (va_up mX66_next a v)) := by
  funext b
  by_cases h : b = a
  · subst h
    rw [va_up_self]
    unfold cVT
    rw [hk]
    simp only [va_up_self]
  · rw [va_up_ne _ _ h]
    unfold cVT
    simp only [va_up_ne _ _ h]
theorem cVT_5_n {ci : Nat → Nat} {d : Nat → ClassId} {kd : Nat → Nat} {an : Nat → Nat} {ai : Nat → Nat → Int32} {al : Nat → Nat → Int64} {ar : Nat → Nat → Option Nat} {mX5_newest : Nat → Option Nat} {mX5_rows : Nat → Int32} {mX5_latest : Nat → Int32} {mX5_pins : Nat → Option Nat} {mX5_transactions : Nat → Option Nat} {mX5_count : Nat → Int32} {mX5_holders : Nat → Option Nat} {mX5_tripleConflicts : Nat → Option Nat} {mX5_graphConflicts : Nat → Option Nat} {mX5_turns : Nat → Int32} {mX5_queue : Nat → Option Nat} {mX5_head : Nat → Int32} {mX5_tail : Nat → Int32} {mX5_ring : Nat → Option Nat} {mX58_number : Nat → Int32} {mX58_sees : Nat → Int32} {mX58_state : Nat → Option Nat} {mX59_writes : Nat → Option Nat} {mX59_count : Nat → Int32} {mX59_noted : Nat → Option Nat} {mX59_waitsFor : Nat → Option Nat} {mX59_turn : Nat → Int32} {mX59_triple : Nat → Int32} {mX59_there : Nat → Int32} {mX60_version : Nat → Int32} {mX60_there : Nat → Int32} {mX60_older : Nat → Option Nat} {mX66_version : Nat → Int32} {mX66_count : Nat → Int32} {mX66_next : Nat → Option Nat} (q : Nat) : va_up (cVT ci d kd an ai al ar mX5_newest mX5_rows mX5_latest mX5_pins mX5_transactions mX5_count mX5_holders mX5_tripleConflicts mX5_graphConflicts mX5_turns mX5_queue mX5_head mX5_tail mX5_ring mX58_number mX58_sees mX58_state mX59_writes mX59_count mX59_noted mX59_waitsFor mX59_turn mX59_triple mX59_there mX60_version mX60_there mX60_older mX66_version mX66_count mX66_next) q (.inr (ci 4, [.int 0, .int 0, va_rf none])) = (cVT ci d (va_up kd q 5) an ai al ar mX5_newest mX5_rows mX5_latest mX5_pins mX5_transactions mX5_count mX5_holders mX5_tripleConflicts mX5_graphConflicts mX5_turns mX5_queue mX5_head mX5_tail mX5_ring mX58_number mX58_sees mX58_state mX59_writes mX59_count mX59_noted mX59_waitsFor mX59_turn mX59_triple mX59_there mX60_version mX60_there mX60_older (va_up mX66_version q 0) (va_up mX66_count q 0) (va_up mX66_next q none)) := by
  funext b
  by_cases h : b = q
  · subst h
    rw [va_up_self]
    unfold cVT
    simp only [va_up_self]
  · rw [va_up_ne _ _ h]
    unfold cVT
    simp only [va_up_ne _ _ h]
theorem cVT_6 {ci : Nat → Nat} {d : Nat → ClassId} {kd : Nat → Nat} {an : Nat → Nat} {ai : Nat → Nat → Int32} {al : Nat → Nat → Int64} {ar : Nat → Nat → Option Nat} {mX5_newest : Nat → Option Nat} {mX5_rows : Nat → Int32} {mX5_latest : Nat → Int32} {mX5_pins : Nat → Option Nat} {mX5_transactions : Nat → Option Nat} {mX5_count : Nat → Int32} {mX5_holders : Nat → Option Nat} {mX5_tripleConflicts : Nat → Option Nat} {mX5_graphConflicts : Nat → Option Nat} {mX5_turns : Nat → Int32} {mX5_queue : Nat → Option Nat} {mX5_head : Nat → Int32} {mX5_tail : Nat → Int32} {mX5_ring : Nat → Option Nat} {mX58_number : Nat → Int32} {mX58_sees : Nat → Int32} {mX58_state : Nat → Option Nat} {mX59_writes : Nat → Option Nat} {mX59_count : Nat → Int32} {mX59_noted : Nat → Option Nat} {mX59_waitsFor : Nat → Option Nat} {mX59_turn : Nat → Int32} {mX59_triple : Nat → Int32} {mX59_there : Nat → Int32} {mX60_version : Nat → Int32} {mX60_there : Nat → Int32} {mX60_older : Nat → Option Nat} {mX66_version : Nat → Int32} {mX66_count : Nat → Int32} {mX66_next : Nat → Option Nat} {a : Nat} (hk : kd a = 6) : (cVT ci d kd an ai al ar mX5_newest mX5_rows mX5_latest mX5_pins mX5_transactions mX5_count mX5_holders mX5_tripleConflicts mX5_graphConflicts mX5_turns mX5_queue mX5_head mX5_tail mX5_ring mX58_number mX58_sees mX58_state mX59_writes mX59_count mX59_noted mX59_waitsFor mX59_turn mX59_triple mX59_there mX60_version mX60_there mX60_older mX66_version mX66_count mX66_next) a = .inl (d 0, an a, .inl (ai a)) := by unfold cVT; simp only [hk]
theorem cVT_6_s {ci : Nat → Nat} {d : Nat → ClassId} {kd : Nat → Nat} {an : Nat → Nat} {ai : Nat → Nat → Int32} {al : Nat → Nat → Int64} {ar : Nat → Nat → Option Nat} {mX5_newest : Nat → Option Nat} {mX5_rows : Nat → Int32} {mX5_latest : Nat → Int32} {mX5_pins : Nat → Option Nat} {mX5_transactions : Nat → Option Nat} {mX5_count : Nat → Int32} {mX5_holders : Nat → Option Nat} {mX5_tripleConflicts : Nat → Option Nat} {mX5_graphConflicts : Nat → Option Nat} {mX5_turns : Nat → Int32} {mX5_queue : Nat → Option Nat} {mX5_head : Nat → Int32} {mX5_tail : Nat → Int32} {mX5_ring : Nat → Option Nat} {mX58_number : Nat → Int32} {mX58_sees : Nat → Int32} {mX58_state : Nat → Option Nat} {mX59_writes : Nat → Option Nat} {mX59_count : Nat → Int32} {mX59_noted : Nat → Option Nat} {mX59_waitsFor : Nat → Option Nat} {mX59_turn : Nat → Int32} {mX59_triple : Nat → Int32} {mX59_there : Nat → Int32} {mX60_version : Nat → Int32} {mX60_there : Nat → Int32} {mX60_older : Nat → Option Nat} {mX66_version : Nat → Int32} {mX66_count : Nat → Int32} {mX66_next : Nat → Option Nat} {a : Nat} {g : Nat → Int32} (hk : kd a = 6) : va_up (cVT ci d kd an ai al ar mX5_newest mX5_rows mX5_latest mX5_pins mX5_transactions mX5_count mX5_holders mX5_tripleConflicts mX5_graphConflicts mX5_turns mX5_queue mX5_head mX5_tail mX5_ring mX58_number mX58_sees mX58_state mX59_writes mX59_count mX59_noted mX59_waitsFor mX59_turn mX59_triple mX59_there mX60_version mX60_there mX60_older mX66_version mX66_count mX66_next) a (.inl (d 0, an a, .inl g)) = (cVT ci d kd an (va_up ai a g) al ar mX5_newest mX5_rows mX5_latest mX5_pins mX5_transactions mX5_count mX5_holders mX5_tripleConflicts mX5_graphConflicts mX5_turns mX5_queue mX5_head mX5_tail mX5_ring mX58_number mX58_sees mX58_state mX59_writes mX59_count mX59_noted mX59_waitsFor mX59_turn mX59_triple mX59_there mX60_version mX60_there mX60_older mX66_version mX66_count mX66_next) := by
  funext b
  by_cases h : b = a
  · subst h
    rw [va_up_self]
    unfold cVT
    rw [hk]
    simp only [va_up_self]
  · rw [va_up_ne _ _ h]
    unfold cVT
    simp only [va_up_ne _ _ h]
theorem cVT_6_n {ci : Nat → Nat} {d : Nat → ClassId} {kd : Nat → Nat} {an : Nat → Nat} {ai : Nat → Nat → Int32} {al : Nat → Nat → Int64} {ar : Nat → Nat → Option Nat} {mX5_newest : Nat → Option Nat} {mX5_rows : Nat → Int32} {mX5_latest : Nat → Int32} {mX5_pins : Nat → Option Nat} {mX5_transactions : Nat → Option Nat} {mX5_count : Nat → Int32} {mX5_holders : Nat → Option Nat} {mX5_tripleConflicts : Nat → Option Nat} {mX5_graphConflicts : Nat → Option Nat} {mX5_turns : Nat → Int32} {mX5_queue : Nat → Option Nat} {mX5_head : Nat → Int32} {mX5_tail : Nat → Int32} {mX5_ring : Nat → Option Nat} {mX58_number : Nat → Int32} {mX58_sees : Nat → Int32} {mX58_state : Nat → Option Nat} {mX59_writes : Nat → Option Nat} {mX59_count : Nat → Int32} {mX59_noted : Nat → Option Nat} {mX59_waitsFor : Nat → Option Nat} {mX59_turn : Nat → Int32} {mX59_triple : Nat → Int32} {mX59_there : Nat → Int32} {mX60_version : Nat → Int32} {mX60_there : Nat → Int32} {mX60_older : Nat → Option Nat} {mX66_version : Nat → Int32} {mX66_count : Nat → Int32} {mX66_next : Nat → Option Nat} (n q : Nat) : va_up (cVT ci d kd an ai al ar mX5_newest mX5_rows mX5_latest mX5_pins mX5_transactions mX5_count mX5_holders mX5_tripleConflicts mX5_graphConflicts mX5_turns mX5_queue mX5_head mX5_tail mX5_ring mX58_number mX58_sees mX58_state mX59_writes mX59_count mX59_noted mX59_waitsFor mX59_turn mX59_triple mX59_there mX60_version mX60_there mX60_older mX66_version mX66_count mX66_next) q (.inl (d 0, n, .inl (fun _ => 0))) = (cVT ci d (va_up kd q 6) (va_up an q n) (va_up ai q (fun _ => 0)) al ar mX5_newest mX5_rows mX5_latest mX5_pins mX5_transactions mX5_count mX5_holders mX5_tripleConflicts mX5_graphConflicts mX5_turns mX5_queue mX5_head mX5_tail mX5_ring mX58_number mX58_sees mX58_state mX59_writes mX59_count mX59_noted mX59_waitsFor mX59_turn mX59_triple mX59_there mX60_version mX60_there mX60_older mX66_version mX66_count mX66_next) := by
  funext b
  by_cases h : b = q
  · subst h
    rw [va_up_self]
    unfold cVT
    simp only [va_up_self]
  · rw [va_up_ne _ _ h]
    unfold cVT
    simp only [va_up_ne _ _ h]
theorem cVT_7 {ci : Nat → Nat} {d : Nat → ClassId} {kd : Nat → Nat} {an : Nat → Nat} {ai : Nat → Nat → Int32} {al : Nat → Nat → Int64} {ar : Nat → Nat → Option Nat} {mX5_newest : Nat → Option Nat} {mX5_rows : Nat → Int32} {mX5_latest : Nat → Int32} {mX5_pins : Nat → Option Nat} {mX5_transactions : Nat → Option Nat} {mX5_count : Nat → Int32} {mX5_holders : Nat → Option Nat} {mX5_tripleConflicts : Nat → Option Nat} {mX5_graphConflicts : Nat → Option Nat} {mX5_turns : Nat → Int32} {mX5_queue : Nat → Option Nat} {mX5_head : Nat → Int32} {mX5_tail : Nat → Int32} {mX5_ring : Nat → Option Nat} {mX58_number : Nat → Int32} {mX58_sees : Nat → Int32} {mX58_state : Nat → Option Nat} {mX59_writes : Nat → Option Nat} {mX59_count : Nat → Int32} {mX59_noted : Nat → Option Nat} {mX59_waitsFor : Nat → Option Nat} {mX59_turn : Nat → Int32} {mX59_triple : Nat → Int32} {mX59_there : Nat → Int32} {mX60_version : Nat → Int32} {mX60_there : Nat → Int32} {mX60_older : Nat → Option Nat} {mX66_version : Nat → Int32} {mX66_count : Nat → Int32} {mX66_next : Nat → Option Nat} {a : Nat} (hk : kd a = 7) : (cVT ci d kd an ai al ar mX5_newest mX5_rows mX5_latest mX5_pins mX5_transactions mX5_count mX5_holders mX5_tripleConflicts mX5_graphConflicts mX5_turns mX5_queue mX5_head mX5_tail mX5_ring mX58_number mX58_sees mX58_state mX59_writes mX59_count mX59_noted mX59_waitsFor mX59_turn mX59_triple mX59_there mX60_version mX60_there mX60_older mX66_version mX66_count mX66_next) a = .inl (d 1, an a, .inl (ai a)) := by unfold cVT; simp only [hk]
theorem cVT_7_s {ci : Nat → Nat} {d : Nat → ClassId} {kd : Nat → Nat} {an : Nat → Nat} {ai : Nat → Nat → Int32} {al : Nat → Nat → Int64} {ar : Nat → Nat → Option Nat} {mX5_newest : Nat → Option Nat} {mX5_rows : Nat → Int32} {mX5_latest : Nat → Int32} {mX5_pins : Nat → Option Nat} {mX5_transactions : Nat → Option Nat} {mX5_count : Nat → Int32} {mX5_holders : Nat → Option Nat} {mX5_tripleConflicts : Nat → Option Nat} {mX5_graphConflicts : Nat → Option Nat} {mX5_turns : Nat → Int32} {mX5_queue : Nat → Option Nat} {mX5_head : Nat → Int32} {mX5_tail : Nat → Int32} {mX5_ring : Nat → Option Nat} {mX58_number : Nat → Int32} {mX58_sees : Nat → Int32} {mX58_state : Nat → Option Nat} {mX59_writes : Nat → Option Nat} {mX59_count : Nat → Int32} {mX59_noted : Nat → Option Nat} {mX59_waitsFor : Nat → Option Nat} {mX59_turn : Nat → Int32} {mX59_triple : Nat → Int32} {mX59_there : Nat → Int32} {mX60_version : Nat → Int32} {mX60_there : Nat → Int32} {mX60_older : Nat → Option Nat} {mX66_version : Nat → Int32} {mX66_count : Nat → Int32} {mX66_next : Nat → Option Nat} {a : Nat} {g : Nat → Int32} (hk : kd a = 7) : va_up (cVT ci d kd an ai al ar mX5_newest mX5_rows mX5_latest mX5_pins mX5_transactions mX5_count mX5_holders mX5_tripleConflicts mX5_graphConflicts mX5_turns mX5_queue mX5_head mX5_tail mX5_ring mX58_number mX58_sees mX58_state mX59_writes mX59_count mX59_noted mX59_waitsFor mX59_turn mX59_triple mX59_there mX60_version mX60_there mX60_older mX66_version mX66_count mX66_next) a (.inl (d 1, an a, .inl g)) = (cVT ci d kd an (va_up ai a g) al ar mX5_newest mX5_rows mX5_latest mX5_pins mX5_transactions mX5_count mX5_holders mX5_tripleConflicts mX5_graphConflicts mX5_turns mX5_queue mX5_head mX5_tail mX5_ring mX58_number mX58_sees mX58_state mX59_writes mX59_count mX59_noted mX59_waitsFor mX59_turn mX59_triple mX59_there mX60_version mX60_there mX60_older mX66_version mX66_count mX66_next) := by
  funext b
  by_cases h : b = a
  · subst h
    rw [va_up_self]
    unfold cVT
    rw [hk]
    simp only [va_up_self]
  · rw [va_up_ne _ _ h]
    unfold cVT
    simp only [va_up_ne _ _ h]
theorem cVT_7_n {ci : Nat → Nat} {d : Nat → ClassId} {kd : Nat → Nat} {an : Nat → Nat} {ai : Nat → Nat → Int32} {al : Nat → Nat → Int64} {ar : Nat → Nat → Option Nat} {mX5_newest : Nat → Option Nat} {mX5_rows : Nat → Int32} {mX5_latest : Nat → Int32} {mX5_pins : Nat → Option Nat} {mX5_transactions : Nat → Option Nat} {mX5_count : Nat → Int32} {mX5_holders : Nat → Option Nat} {mX5_tripleConflicts : Nat → Option Nat} {mX5_graphConflicts : Nat → Option Nat} {mX5_turns : Nat → Int32} {mX5_queue : Nat → Option Nat} {mX5_head : Nat → Int32} {mX5_tail : Nat → Int32} {mX5_ring : Nat → Option Nat} {mX58_number : Nat → Int32} {mX58_sees : Nat → Int32} {mX58_state : Nat → Option Nat} {mX59_writes : Nat → Option Nat} {mX59_count : Nat → Int32} {mX59_noted : Nat → Option Nat} {mX59_waitsFor : Nat → Option Nat} {mX59_turn : Nat → Int32} {mX59_triple : Nat → Int32} {mX59_there : Nat → Int32} {mX60_version : Nat → Int32} {mX60_there : Nat → Int32} {mX60_older : Nat → Option Nat} {mX66_version : Nat → Int32} {mX66_count : Nat → Int32} {mX66_next : Nat → Option Nat} (n q : Nat) : va_up (cVT ci d kd an ai al ar mX5_newest mX5_rows mX5_latest mX5_pins mX5_transactions mX5_count mX5_holders mX5_tripleConflicts mX5_graphConflicts mX5_turns mX5_queue mX5_head mX5_tail mX5_ring mX58_number mX58_sees mX58_state mX59_writes mX59_count mX59_noted mX59_waitsFor mX59_turn mX59_triple mX59_there mX60_version mX60_there mX60_older mX66_version mX66_count mX66_next) q (.inl (d 1, n, .inl (fun _ => 0))) = (cVT ci d (va_up kd q 7) (va_up an q n) (va_up ai q (fun _ => 0)) al ar mX5_newest mX5_rows mX5_latest mX5_pins mX5_transactions mX5_count mX5_holders mX5_tripleConflicts mX5_graphConflicts mX5_turns mX5_queue mX5_head mX5_tail mX5_ring mX58_number mX58_sees mX58_state mX59_writes mX59_count mX59_noted mX59_waitsFor mX59_turn mX59_triple mX59_there mX60_version mX60_there mX60_older mX66_version mX66_count mX66_next) := by
  funext b
  by_cases h : b = q
  · subst h
    rw [va_up_self]
    unfold cVT
    simp only [va_up_self]
  · rw [va_up_ne _ _ h]
    unfold cVT
    simp only [va_up_ne _ _ h]
theorem cVT_8 {ci : Nat → Nat} {d : Nat → ClassId} {kd : Nat → Nat} {an : Nat → Nat} {ai : Nat → Nat → Int32} {al : Nat → Nat → Int64} {ar : Nat → Nat → Option Nat} {mX5_newest : Nat → Option Nat} {mX5_rows : Nat → Int32} {mX5_latest : Nat → Int32} {mX5_pins : Nat → Option Nat} {mX5_transactions : Nat → Option Nat} {mX5_count : Nat → Int32} {mX5_holders : Nat → Option Nat} {mX5_tripleConflicts : Nat → Option Nat} {mX5_graphConflicts : Nat → Option Nat} {mX5_turns : Nat → Int32} {mX5_queue : Nat → Option Nat} {mX5_head : Nat → Int32} {mX5_tail : Nat → Int32} {mX5_ring : Nat → Option Nat} {mX58_number : Nat → Int32} {mX58_sees : Nat → Int32} {mX58_state : Nat → Option Nat} {mX59_writes : Nat → Option Nat} {mX59_count : Nat → Int32} {mX59_noted : Nat → Option Nat} {mX59_waitsFor : Nat → Option Nat} {mX59_turn : Nat → Int32} {mX59_triple : Nat → Int32} {mX59_there : Nat → Int32} {mX60_version : Nat → Int32} {mX60_there : Nat → Int32} {mX60_older : Nat → Option Nat} {mX66_version : Nat → Int32} {mX66_count : Nat → Int32} {mX66_next : Nat → Option Nat} {a : Nat} (hk : kd a = 8) : (cVT ci d kd an ai al ar mX5_newest mX5_rows mX5_latest mX5_pins mX5_transactions mX5_count mX5_holders mX5_tripleConflicts mX5_graphConflicts mX5_turns mX5_queue mX5_head mX5_tail mX5_ring mX58_number mX58_sees mX58_state mX59_writes mX59_count mX59_noted mX59_waitsFor mX59_turn mX59_triple mX59_there mX60_version mX60_there mX60_older mX66_version mX66_count mX66_next) a = .inl (d 2, an a, .inl (ai a)) := by unfold cVT; simp only [hk]
theorem cVT_8_s {ci : Nat → Nat} {d : Nat → ClassId} {kd : Nat → Nat} {an : Nat → Nat} {ai : Nat → Nat → Int32} {al : Nat → Nat → Int64} {ar : Nat → Nat → Option Nat} {mX5_newest : Nat → Option Nat} {mX5_rows : Nat → Int32} {mX5_latest : Nat → Int32} {mX5_pins : Nat → Option Nat} {mX5_transactions : Nat → Option Nat} {mX5_count : Nat → Int32} {mX5_holders : Nat → Option Nat} {mX5_tripleConflicts : Nat → Option Nat} {mX5_graphConflicts : Nat → Option Nat} {mX5_turns : Nat → Int32} {mX5_queue : Nat → Option Nat} {mX5_head : Nat → Int32} {mX5_tail : Nat → Int32} {mX5_ring : Nat → Option Nat} {mX58_number : Nat → Int32} {mX58_sees : Nat → Int32} {mX58_state : Nat → Option Nat} {mX59_writes : Nat → Option Nat} {mX59_count : Nat → Int32} {mX59_noted : Nat → Option Nat} {mX59_waitsFor : Nat → Option Nat} {mX59_turn : Nat → Int32} {mX59_triple : Nat → Int32} {mX59_there : Nat → Int32} {mX60_version : Nat → Int32} {mX60_there : Nat → Int32} {mX60_older : Nat → Option Nat} {mX66_version : Nat → Int32} {mX66_count : Nat → Int32} {mX66_next : Nat → Option Nat} {a : Nat} {g : Nat → Int32} (hk : kd a = 8) : va_up (cVT ci d kd an ai al ar mX5_newest mX5_rows mX5_latest mX5_pins mX5_transactions mX5_count mX5_holders mX5_tripleConflicts mX5_graphConflicts mX5_turns mX5_queue mX5_head mX5_tail mX5_ring mX58_number mX58_sees mX58_state mX59_writes mX59_count mX59_noted mX59_waitsFor mX59_turn mX59_triple mX59_there mX60_version mX60_there mX60_older mX66_version mX66_count mX66_next) a (.inl (d 2, an a, .inl g)) = (cVT ci d kd an (va_up ai a g) al ar mX5_newest mX5_rows mX5_latest mX5_pins mX5_transactions mX5_count mX5_holders mX5_tripleConflicts mX5_graphConflicts mX5_turns mX5_queue mX5_head mX5_tail mX5_ring mX58_number mX58_sees mX58_state mX59_writes mX59_count mX59_noted mX59_waitsFor mX59_turn mX59_triple mX59_there mX60_version mX60_there mX60_older mX66_version mX66_count mX66_next) := by
  funext b
  by_cases h : b = a
  · subst h
    rw [va_up_self]
    unfold cVT
    rw [hk]
    simp only [va_up_self]
  · rw [va_up_ne _ _ h]
    unfold cVT
    simp only [va_up_ne _ _ h]
theorem cVT_8_n {ci : Nat → Nat} {d : Nat → ClassId} {kd : Nat → Nat} {an : Nat → Nat} {ai : Nat → Nat → Int32} {al : Nat → Nat → Int64} {ar : Nat → Nat → Option Nat} {mX5_newest : Nat → Option Nat} {mX5_rows : Nat → Int32} {mX5_latest : Nat → Int32} {mX5_pins : Nat → Option Nat} {mX5_transactions : Nat → Option Nat} {mX5_count : Nat → Int32} {mX5_holders : Nat → Option Nat} {mX5_tripleConflicts : Nat → Option Nat} {mX5_graphConflicts : Nat → Option Nat} {mX5_turns : Nat → Int32} {mX5_queue : Nat → Option Nat} {mX5_head : Nat → Int32} {mX5_tail : Nat → Int32} {mX5_ring : Nat → Option Nat} {mX58_number : Nat → Int32} {mX58_sees : Nat → Int32} {mX58_state : Nat → Option Nat} {mX59_writes : Nat → Option Nat} {mX59_count : Nat → Int32} {mX59_noted : Nat → Option Nat} {mX59_waitsFor : Nat → Option Nat} {mX59_turn : Nat → Int32} {mX59_triple : Nat → Int32} {mX59_there : Nat → Int32} {mX60_version : Nat → Int32} {mX60_there : Nat → Int32} {mX60_older : Nat → Option Nat} {mX66_version : Nat → Int32} {mX66_count : Nat → Int32} {mX66_next : Nat → Option Nat} (n q : Nat) : va_up (cVT ci d kd an ai al ar mX5_newest mX5_rows mX5_latest mX5_pins mX5_transactions mX5_count mX5_holders mX5_tripleConflicts mX5_graphConflicts mX5_turns mX5_queue mX5_head mX5_tail mX5_ring mX58_number mX58_sees mX58_state mX59_writes mX59_count mX59_noted mX59_waitsFor mX59_turn mX59_triple mX59_there mX60_version mX60_there mX60_older mX66_version mX66_count mX66_next) q (.inl (d 2, n, .inl (fun _ => 0))) = (cVT ci d (va_up kd q 8) (va_up an q n) (va_up ai q (fun _ => 0)) al ar mX5_newest mX5_rows mX5_latest mX5_pins mX5_transactions mX5_count mX5_holders mX5_tripleConflicts mX5_graphConflicts mX5_turns mX5_queue mX5_head mX5_tail mX5_ring mX58_number mX58_sees mX58_state mX59_writes mX59_count mX59_noted mX59_waitsFor mX59_turn mX59_triple mX59_there mX60_version mX60_there mX60_older mX66_version mX66_count mX66_next) := by
  funext b
  by_cases h : b = q
  · subst h
    rw [va_up_self]
    unfold cVT
    simp only [va_up_self]
  · rw [va_up_ne _ _ h]
    unfold cVT
    simp only [va_up_ne _ _ h]
theorem cVT_9 {ci : Nat → Nat} {d : Nat → ClassId} {kd : Nat → Nat} {an : Nat → Nat} {ai : Nat → Nat → Int32} {al : Nat → Nat → Int64} {ar : Nat → Nat → Option Nat} {mX5_newest : Nat → Option Nat} {mX5_rows : Nat → Int32} {mX5_latest : Nat → Int32} {mX5_pins : Nat → Option Nat} {mX5_transactions : Nat → Option Nat} {mX5_count : Nat → Int32} {mX5_holders : Nat → Option Nat} {mX5_tripleConflicts : Nat → Option Nat} {mX5_graphConflicts : Nat → Option Nat} {mX5_turns : Nat → Int32} {mX5_queue : Nat → Option Nat} {mX5_head : Nat → Int32} {mX5_tail : Nat → Int32} {mX5_ring : Nat → Option Nat} {mX58_number : Nat → Int32} {mX58_sees : Nat → Int32} {mX58_state : Nat → Option Nat} {mX59_writes : Nat → Option Nat} {mX59_count : Nat → Int32} {mX59_noted : Nat → Option Nat} {mX59_waitsFor : Nat → Option Nat} {mX59_turn : Nat → Int32} {mX59_triple : Nat → Int32} {mX59_there : Nat → Int32} {mX60_version : Nat → Int32} {mX60_there : Nat → Int32} {mX60_older : Nat → Option Nat} {mX66_version : Nat → Int32} {mX66_count : Nat → Int32} {mX66_next : Nat → Option Nat} {a : Nat} (hk : kd a = 9) : (cVT ci d kd an ai al ar mX5_newest mX5_rows mX5_latest mX5_pins mX5_transactions mX5_count mX5_holders mX5_tripleConflicts mX5_graphConflicts mX5_turns mX5_queue mX5_head mX5_tail mX5_ring mX58_number mX58_sees mX58_state mX59_writes mX59_count mX59_noted mX59_waitsFor mX59_turn mX59_triple mX59_there mX60_version mX60_there mX60_older mX66_version mX66_count mX66_next) a = .inl (d 3, an a, .inr (.inr (.inr (.inr (ar a))))) := by unfold cVT; simp only [hk]
theorem cVT_9_s {ci : Nat → Nat} {d : Nat → ClassId} {kd : Nat → Nat} {an : Nat → Nat} {ai : Nat → Nat → Int32} {al : Nat → Nat → Int64} {ar : Nat → Nat → Option Nat} {mX5_newest : Nat → Option Nat} {mX5_rows : Nat → Int32} {mX5_latest : Nat → Int32} {mX5_pins : Nat → Option Nat} {mX5_transactions : Nat → Option Nat} {mX5_count : Nat → Int32} {mX5_holders : Nat → Option Nat} {mX5_tripleConflicts : Nat → Option Nat} {mX5_graphConflicts : Nat → Option Nat} {mX5_turns : Nat → Int32} {mX5_queue : Nat → Option Nat} {mX5_head : Nat → Int32} {mX5_tail : Nat → Int32} {mX5_ring : Nat → Option Nat} {mX58_number : Nat → Int32} {mX58_sees : Nat → Int32} {mX58_state : Nat → Option Nat} {mX59_writes : Nat → Option Nat} {mX59_count : Nat → Int32} {mX59_noted : Nat → Option Nat} {mX59_waitsFor : Nat → Option Nat} {mX59_turn : Nat → Int32} {mX59_triple : Nat → Int32} {mX59_there : Nat → Int32} {mX60_version : Nat → Int32} {mX60_there : Nat → Int32} {mX60_older : Nat → Option Nat} {mX66_version : Nat → Int32} {mX66_count : Nat → Int32} {mX66_next : Nat → Option Nat} {a : Nat} {g : Nat → Option Nat} (hk : kd a = 9) : va_up (cVT ci d kd an ai al ar mX5_newest mX5_rows mX5_latest mX5_pins mX5_transactions mX5_count mX5_holders mX5_tripleConflicts mX5_graphConflicts mX5_turns mX5_queue mX5_head mX5_tail mX5_ring mX58_number mX58_sees mX58_state mX59_writes mX59_count mX59_noted mX59_waitsFor mX59_turn mX59_triple mX59_there mX60_version mX60_there mX60_older mX66_version mX66_count mX66_next) a (.inl (d 3, an a, .inr (.inr (.inr (.inr g))))) = (cVT ci d kd an ai al (va_up ar a g) mX5_newest mX5_rows mX5_latest mX5_pins mX5_transactions mX5_count mX5_holders mX5_tripleConflicts mX5_graphConflicts mX5_turns mX5_queue mX5_head mX5_tail mX5_ring mX58_number mX58_sees mX58_state mX59_writes mX59_count mX59_noted mX59_waitsFor mX59_turn mX59_triple mX59_there mX60_version mX60_there mX60_older mX66_version mX66_count mX66_next) := by
  funext b
  by_cases h : b = a
  · subst h
    rw [va_up_self]
    unfold cVT
    rw [hk]
    simp only [va_up_self]
  · rw [va_up_ne _ _ h]
    unfold cVT
    simp only [va_up_ne _ _ h]
theorem cVT_9_n {ci : Nat → Nat} {d : Nat → ClassId} {kd : Nat → Nat} {an : Nat → Nat} {ai : Nat → Nat → Int32} {al : Nat → Nat → Int64} {ar : Nat → Nat → Option Nat} {mX5_newest : Nat → Option Nat} {mX5_rows : Nat → Int32} {mX5_latest : Nat → Int32} {mX5_pins : Nat → Option Nat} {mX5_transactions : Nat → Option Nat} {mX5_count : Nat → Int32} {mX5_holders : Nat → Option Nat} {mX5_tripleConflicts : Nat → Option Nat} {mX5_graphConflicts : Nat → Option Nat} {mX5_turns : Nat → Int32} {mX5_queue : Nat → Option Nat} {mX5_head : Nat → Int32} {mX5_tail : Nat → Int32} {mX5_ring : Nat → Option Nat} {mX58_number : Nat → Int32} {mX58_sees : Nat → Int32} {mX58_state : Nat → Option Nat} {mX59_writes : Nat → Option Nat} {mX59_count : Nat → Int32} {mX59_noted : Nat → Option Nat} {mX59_waitsFor : Nat → Option Nat} {mX59_turn : Nat → Int32} {mX59_triple : Nat → Int32} {mX59_there : Nat → Int32} {mX60_version : Nat → Int32} {mX60_there : Nat → Int32} {mX60_older : Nat → Option Nat} {mX66_version : Nat → Int32} {mX66_count : Nat → Int32} {mX66_next : Nat → Option Nat} (n q : Nat) : va_up (cVT ci d kd an ai al ar mX5_newest mX5_rows mX5_latest mX5_pins mX5_transactions mX5_count mX5_holders mX5_tripleConflicts mX5_graphConflicts mX5_turns mX5_queue mX5_head mX5_tail mX5_ring mX58_number mX58_sees mX58_state mX59_writes mX59_count mX59_noted mX59_waitsFor mX59_turn mX59_triple mX59_there mX60_version mX60_there mX60_older mX66_version mX66_count mX66_next) q (.inl (d 3, n, .inr (.inr (.inr (.inr (fun _ => none)))))) = (cVT ci d (va_up kd q 9) (va_up an q n) ai al (va_up ar q (fun _ => none)) mX5_newest mX5_rows mX5_latest mX5_pins mX5_transactions mX5_count mX5_holders mX5_tripleConflicts mX5_graphConflicts mX5_turns mX5_queue mX5_head mX5_tail mX5_ring mX58_number mX58_sees mX58_state mX59_writes mX59_count mX59_noted mX59_waitsFor mX59_turn mX59_triple mX59_there mX60_version mX60_there mX60_older mX66_version mX66_count mX66_next) := by
  funext b
  by_cases h : b = q
  · subst h
    rw [va_up_self]
    unfold cVT
    simp only [va_up_self]
  · rw [va_up_ne _ _ h]
    unfold cVT
    simp only [va_up_ne _ _ h]
theorem cVT_10 {ci : Nat → Nat} {d : Nat → ClassId} {kd : Nat → Nat} {an : Nat → Nat} {ai : Nat → Nat → Int32} {al : Nat → Nat → Int64} {ar : Nat → Nat → Option Nat} {mX5_newest : Nat → Option Nat} {mX5_rows : Nat → Int32} {mX5_latest : Nat → Int32} {mX5_pins : Nat → Option Nat} {mX5_transactions : Nat → Option Nat} {mX5_count : Nat → Int32} {mX5_holders : Nat → Option Nat} {mX5_tripleConflicts : Nat → Option Nat} {mX5_graphConflicts : Nat → Option Nat} {mX5_turns : Nat → Int32} {mX5_queue : Nat → Option Nat} {mX5_head : Nat → Int32} {mX5_tail : Nat → Int32} {mX5_ring : Nat → Option Nat} {mX58_number : Nat → Int32} {mX58_sees : Nat → Int32} {mX58_state : Nat → Option Nat} {mX59_writes : Nat → Option Nat} {mX59_count : Nat → Int32} {mX59_noted : Nat → Option Nat} {mX59_waitsFor : Nat → Option Nat} {mX59_turn : Nat → Int32} {mX59_triple : Nat → Int32} {mX59_there : Nat → Int32} {mX60_version : Nat → Int32} {mX60_there : Nat → Int32} {mX60_older : Nat → Option Nat} {mX66_version : Nat → Int32} {mX66_count : Nat → Int32} {mX66_next : Nat → Option Nat} {a : Nat} (hk : kd a = 10) : (cVT ci d kd an ai al ar mX5_newest mX5_rows mX5_latest mX5_pins mX5_transactions mX5_count mX5_holders mX5_tripleConflicts mX5_graphConflicts mX5_turns mX5_queue mX5_head mX5_tail mX5_ring mX58_number mX58_sees mX58_state mX59_writes mX59_count mX59_noted mX59_waitsFor mX59_turn mX59_triple mX59_there mX60_version mX60_there mX60_older mX66_version mX66_count mX66_next) a = .inl (d 4, an a, .inr (.inr (.inr (.inr (ar a))))) := by unfold cVT; simp only [hk]
theorem cVT_10_s {ci : Nat → Nat} {d : Nat → ClassId} {kd : Nat → Nat} {an : Nat → Nat} {ai : Nat → Nat → Int32} {al : Nat → Nat → Int64} {ar : Nat → Nat → Option Nat} {mX5_newest : Nat → Option Nat} {mX5_rows : Nat → Int32} {mX5_latest : Nat → Int32} {mX5_pins : Nat → Option Nat} {mX5_transactions : Nat → Option Nat} {mX5_count : Nat → Int32} {mX5_holders : Nat → Option Nat} {mX5_tripleConflicts : Nat → Option Nat} {mX5_graphConflicts : Nat → Option Nat} {mX5_turns : Nat → Int32} {mX5_queue : Nat → Option Nat} {mX5_head : Nat → Int32} {mX5_tail : Nat → Int32} {mX5_ring : Nat → Option Nat} {mX58_number : Nat → Int32} {mX58_sees : Nat → Int32} {mX58_state : Nat → Option Nat} {mX59_writes : Nat → Option Nat} {mX59_count : Nat → Int32} {mX59_noted : Nat → Option Nat} {mX59_waitsFor : Nat → Option Nat} {mX59_turn : Nat → Int32} {mX59_triple : Nat → Int32} {mX59_there : Nat → Int32} {mX60_version : Nat → Int32} {mX60_there : Nat → Int32} {mX60_older : Nat → Option Nat} {mX66_version : Nat → Int32} {mX66_count : Nat → Int32} {mX66_next : Nat → Option Nat} {a : Nat} {g : Nat → Option Nat} (hk : kd a = 10) : va_up (cVT ci d kd an ai al ar mX5_newest mX5_rows mX5_latest mX5_pins mX5_transactions mX5_count mX5_holders mX5_tripleConflicts mX5_graphConflicts mX5_turns mX5_queue mX5_head mX5_tail mX5_ring mX58_number mX58_sees mX58_state mX59_writes mX59_count mX59_noted mX59_waitsFor mX59_turn mX59_triple mX59_there mX60_version mX60_there mX60_older mX66_version mX66_count mX66_next) a (.inl (d 4, an a, .inr (.inr (.inr (.inr g))))) = (cVT ci d kd an ai al (va_up ar a g) mX5_newest mX5_rows mX5_latest mX5_pins mX5_transactions mX5_count mX5_holders mX5_tripleConflicts mX5_graphConflicts mX5_turns mX5_queue mX5_head mX5_tail mX5_ring mX58_number mX58_sees mX58_state mX59_writes mX59_count mX59_noted mX59_waitsFor mX59_turn mX59_triple mX59_there mX60_version mX60_there mX60_older mX66_version mX66_count mX66_next) := by
  funext b
  by_cases h : b = a
  · subst h
    rw [va_up_self]
    unfold cVT
    rw [hk]
    simp only [va_up_self]
  · rw [va_up_ne _ _ h]
    unfold cVT
    simp only [va_up_ne _ _ h]
theorem cVT_10_n {ci : Nat → Nat} {d : Nat → ClassId} {kd : Nat → Nat} {an : Nat → Nat} {ai : Nat → Nat → Int32} {al : Nat → Nat → Int64} {ar : Nat → Nat → Option Nat} {mX5_newest : Nat → Option Nat} {mX5_rows : Nat → Int32} {mX5_latest : Nat → Int32} {mX5_pins : Nat → Option Nat} {mX5_transactions : Nat → Option Nat} {mX5_count : Nat → Int32} {mX5_holders : Nat → Option Nat} {mX5_tripleConflicts : Nat → Option Nat} {mX5_graphConflicts : Nat → Option Nat} {mX5_turns : Nat → Int32} {mX5_queue : Nat → Option Nat} {mX5_head : Nat → Int32} {mX5_tail : Nat → Int32} {mX5_ring : Nat → Option Nat} {mX58_number : Nat → Int32} {mX58_sees : Nat → Int32} {mX58_state : Nat → Option Nat} {mX59_writes : Nat → Option Nat} {mX59_count : Nat → Int32} {mX59_noted : Nat → Option Nat} {mX59_waitsFor : Nat → Option Nat} {mX59_turn : Nat → Int32} {mX59_triple : Nat → Int32} {mX59_there : Nat → Int32} {mX60_version : Nat → Int32} {mX60_there : Nat → Int32} {mX60_older : Nat → Option Nat} {mX66_version : Nat → Int32} {mX66_count : Nat → Int32} {mX66_next : Nat → Option Nat} (n q : Nat) : va_up (cVT ci d kd an ai al ar mX5_newest mX5_rows mX5_latest mX5_pins mX5_transactions mX5_count mX5_holders mX5_tripleConflicts mX5_graphConflicts mX5_turns mX5_queue mX5_head mX5_tail mX5_ring mX58_number mX58_sees mX58_state mX59_writes mX59_count mX59_noted mX59_waitsFor mX59_turn mX59_triple mX59_there mX60_version mX60_there mX60_older mX66_version mX66_count mX66_next) q (.inl (d 4, n, .inr (.inr (.inr (.inr (fun _ => none)))))) = (cVT ci d (va_up kd q 10) (va_up an q n) ai al (va_up ar q (fun _ => none)) mX5_newest mX5_rows mX5_latest mX5_pins mX5_transactions mX5_count mX5_holders mX5_tripleConflicts mX5_graphConflicts mX5_turns mX5_queue mX5_head mX5_tail mX5_ring mX58_number mX58_sees mX58_state mX59_writes mX59_count mX59_noted mX59_waitsFor mX59_turn mX59_triple mX59_there mX60_version mX60_there mX60_older mX66_version mX66_count mX66_next) := by
  funext b
  by_cases h : b = q
  · subst h
    rw [va_up_self]
    unfold cVT
    simp only [va_up_self]
  · rw [va_up_ne _ _ h]
    unfold cVT
    simp only [va_up_ne _ _ h]
theorem cVT_11 {ci : Nat → Nat} {d : Nat → ClassId} {kd : Nat → Nat} {an : Nat → Nat} {ai : Nat → Nat → Int32} {al : Nat → Nat → Int64} {ar : Nat → Nat → Option Nat} {mX5_newest : Nat → Option Nat} {mX5_rows : Nat → Int32} {mX5_latest : Nat → Int32} {mX5_pins : Nat → Option Nat} {mX5_transactions : Nat → Option Nat} {mX5_count : Nat → Int32} {mX5_holders : Nat → Option Nat} {mX5_tripleConflicts : Nat → Option Nat} {mX5_graphConflicts : Nat → Option Nat} {mX5_turns : Nat → Int32} {mX5_queue : Nat → Option Nat} {mX5_head : Nat → Int32} {mX5_tail : Nat → Int32} {mX5_ring : Nat → Option Nat} {mX58_number : Nat → Int32} {mX58_sees : Nat → Int32} {mX58_state : Nat → Option Nat} {mX59_writes : Nat → Option Nat} {mX59_count : Nat → Int32} {mX59_noted : Nat → Option Nat} {mX59_waitsFor : Nat → Option Nat} {mX59_turn : Nat → Int32} {mX59_triple : Nat → Int32} {mX59_there : Nat → Int32} {mX60_version : Nat → Int32} {mX60_there : Nat → Int32} {mX60_older : Nat → Option Nat} {mX66_version : Nat → Int32} {mX66_count : Nat → Int32} {mX66_next : Nat → Option Nat} {a : Nat} (hk : kd a = 11) : (cVT ci d kd an ai al ar mX5_newest mX5_rows mX5_latest mX5_pins mX5_transactions mX5_count mX5_holders mX5_tripleConflicts mX5_graphConflicts mX5_turns mX5_queue mX5_head mX5_tail mX5_ring mX58_number mX58_sees mX58_state mX59_writes mX59_count mX59_noted mX59_waitsFor mX59_turn mX59_triple mX59_there mX60_version mX60_there mX60_older mX66_version mX66_count mX66_next) a = .inl (d 5, an a, .inr (.inr (.inr (.inr (ar a))))) := by unfold cVT; simp only [hk]
theorem cVT_11_s {ci : Nat → Nat} {d : Nat → ClassId} {kd : Nat → Nat} {an : Nat → Nat} {ai : Nat → Nat → Int32} {al : Nat → Nat → Int64} {ar : Nat → Nat → Option Nat} {mX5_newest : Nat → Option Nat} {mX5_rows : Nat → Int32} {mX5_latest : Nat → Int32} {mX5_pins : Nat → Option Nat} {mX5_transactions : Nat → Option Nat} {mX5_count : Nat → Int32} {mX5_holders : Nat → Option Nat} {mX5_tripleConflicts : Nat → Option Nat} {mX5_graphConflicts : Nat → Option Nat} {mX5_turns : Nat → Int32} {mX5_queue : Nat → Option Nat} {mX5_head : Nat → Int32} {mX5_tail : Nat → Int32} {mX5_ring : Nat → Option Nat} {mX58_number : Nat → Int32} {mX58_sees : Nat → Int32} {mX58_state : Nat → Option Nat} {mX59_writes : Nat → Option Nat} {mX59_count : Nat → Int32} {mX59_noted : Nat → Option Nat} {mX59_waitsFor : Nat → Option Nat} {mX59_turn : Nat → Int32} {mX59_triple : Nat → Int32} {mX59_there : Nat → Int32} {mX60_version : Nat → Int32} {mX60_there : Nat → Int32} {mX60_older : Nat → Option Nat} {mX66_version : Nat → Int32} {mX66_count : Nat → Int32} {mX66_next : Nat → Option Nat} {a : Nat} {g : Nat → Option Nat} (hk : kd a = 11) : va_up (cVT ci d kd an ai al ar mX5_newest mX5_rows mX5_latest mX5_pins mX5_transactions mX5_count mX5_holders mX5_tripleConflicts mX5_graphConflicts mX5_turns mX5_queue mX5_head mX5_tail mX5_ring mX58_number mX58_sees mX58_state mX59_writes mX59_count mX59_noted mX59_waitsFor mX59_turn mX59_triple mX59_there mX60_version mX60_there mX60_older mX66_version mX66_count mX66_next) a (.inl (d 5, an a, .inr (.inr (.inr (.inr g))))) = (cVT ci d kd an ai al (va_up ar a g) mX5_newest mX5_rows mX5_latest mX5_pins mX5_transactions mX5_count mX5_holders mX5_tripleConflicts mX5_graphConflicts mX5_turns mX5_queue mX5_head mX5_tail mX5_ring mX58_number mX58_sees mX58_state mX59_writes mX59_count mX59_noted mX59_waitsFor mX59_turn mX59_triple mX59_there mX60_version mX60_there mX60_older mX66_version mX66_count mX66_next) := by
  funext b
  by_cases h : b = a
  · subst h
    rw [va_up_self]
    unfold cVT
    rw [hk]
    simp only [va_up_self]
  · rw [va_up_ne _ _ h]
    unfold cVT
    simp only [va_up_ne _ _ h]
theorem cVT_11_n {ci : Nat → Nat} {d : Nat → ClassId} {kd : Nat → Nat} {an : Nat → Nat} {ai : Nat → Nat → Int32} {al : Nat → Nat → Int64} {ar : Nat → Nat → Option Nat} {mX5_newest : Nat → Option Nat} {mX5_rows : Nat → Int32} {mX5_latest : Nat → Int32} {mX5_pins : Nat → Option Nat} {mX5_transactions : Nat → Option Nat} {mX5_count : Nat → Int32} {mX5_holders : Nat → Option Nat} {mX5_tripleConflicts : Nat → Option Nat} {mX5_graphConflicts : Nat → Option Nat} {mX5_turns : Nat → Int32} {mX5_queue : Nat → Option Nat} {mX5_head : Nat → Int32} {mX5_tail : Nat → Int32} {mX5_ring : Nat → Option Nat} {mX58_number : Nat → Int32} {mX58_sees : Nat → Int32} {mX58_state : Nat → Option Nat} {mX59_writes : Nat → Option Nat} {mX59_count : Nat → Int32} {mX59_noted : Nat → Option Nat} {mX59_waitsFor : Nat → Option Nat} {mX59_turn : Nat → Int32} {mX59_triple : Nat → Int32} {mX59_there : Nat → Int32} {mX60_version : Nat → Int32} {mX60_there : Nat → Int32} {mX60_older : Nat → Option Nat} {mX66_version : Nat → Int32} {mX66_count : Nat → Int32} {mX66_next : Nat → Option Nat} (n q : Nat) : va_up (cVT ci d kd an ai al ar mX5_newest mX5_rows mX5_latest mX5_pins mX5_transactions mX5_count mX5_holders mX5_tripleConflicts mX5_graphConflicts mX5_turns mX5_queue mX5_head mX5_tail mX5_ring mX58_number mX58_sees mX58_state mX59_writes mX59_count mX59_noted mX59_waitsFor mX59_turn mX59_triple mX59_there mX60_version mX60_there mX60_older mX66_version mX66_count mX66_next) q (.inl (d 5, n, .inr (.inr (.inr (.inr (fun _ => none)))))) = (cVT ci d (va_up kd q 11) (va_up an q n) ai al (va_up ar q (fun _ => none)) mX5_newest mX5_rows mX5_latest mX5_pins mX5_transactions mX5_count mX5_holders mX5_tripleConflicts mX5_graphConflicts mX5_turns mX5_queue mX5_head mX5_tail mX5_ring mX58_number mX58_sees mX58_state mX59_writes mX59_count mX59_noted mX59_waitsFor mX59_turn mX59_triple mX59_there mX60_version mX60_there mX60_older mX66_version mX66_count mX66_next) := by
  funext b
  by_cases h : b = q
  · subst h
    rw [va_up_self]
    unfold cVT
    simp only [va_up_self]
  · rw [va_up_ne _ _ h]
    unfold cVT
    simp only [va_up_ne _ _ h]
