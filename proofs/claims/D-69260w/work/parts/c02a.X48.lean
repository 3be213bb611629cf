/-! KnowHouseModel$VersionTransModel (printed by tools/zgen.py) -/
set_option maxRecDepth 100000
def RX48 : String := "KnowHouseModel$VersionTransModel"
def TX48 : u_T := fun k => match k with
  | 0 => ("KnowHouseModel$VersionTransModel", "rowTriples", "[I", true)
  | 1 => ("KnowHouseModel$VersionTransModel", "rowVersions", "[I", true)
  | 2 => ("KnowHouseModel$VersionTransModel", "rowTells", "[Z", true)
  | 3 => ("KnowHouseModel$VersionTransModel", "rows", "I", false)
  | 4 => ("KnowHouseModel$VersionTransModel", "latest", "I", false)
  | 5 => ("KnowHouseModel$VersionTransModel", "pins", "[I", true)
  | 6 => ("KnowHouseModel$VersionTransModel", "writers", "[Z", true)
  | 7 => ("KnowHouseModel$VersionTransModel", "sees", "[I", true)
  | 8 => ("KnowHouseModel$VersionTransModel", "states", "[I", true)
  | 9 => ("KnowHouseModel$VersionTransModel", "notes", "[I", true)
  | 10 => ("KnowHouseModel$VersionTransModel", "wrote", "[I", true)
  | 11 => ("KnowHouseModel$VersionTransModel", "waitsFor", "[I", true)
  | 12 => ("KnowHouseModel$VersionTransModel", "waitTriples", "[I", true)
  | 13 => ("KnowHouseModel$VersionTransModel", "waitTells", "[Z", true)
  | 14 => ("KnowHouseModel$VersionTransModel", "since", "[I", true)
  | 15 => ("KnowHouseModel$VersionTransModel", "clock", "I", false)
  | 16 => ("KnowHouseModel$VersionTransModel", "count", "I", false)
  | 17 => ("KnowHouseModel$VersionTransModel", "holders", "[I", true)
  | 18 => ("KnowHouseModel$VersionTransModel", "queue", "[I", true)
  | 19 => ("KnowHouseModel$VersionTransModel", "queueFrom", "I", false)
  | 20 => ("KnowHouseModel$VersionTransModel", "queueTo", "I", false)
  | 21 => ("KnowHouseModel$VersionTransModel", "ring", "[I", true)
  | 22 => ("KnowHouseModel$VersionTransModel", "ringSize", "I", false)
  | 23 => ("KnowHouseModel$VersionTransModel", "failures", "[I", true)
  | 24 => ("KnowHouseModel$VersionTransModel", "refusals", "[I", true)
  | 25 => ("KnowHouseModel$VersionTransModel", "thrown", "I", false)
  | _ => ("KnowHouseModel$VersionTransModel", "best", "[I", true)
def tyX48 : Nat → FieldType := fun k => match k with
  | 0 => .array .int
  | 1 => .array .int
  | 2 => .array .boolean
  | 3 => .int
  | 4 => .int
  | 5 => .array .int
  | 6 => .array .boolean
  | 7 => .array .int
  | 8 => .array .int
  | 9 => .array .int
  | 10 => .array .int
  | 11 => .array .int
  | 12 => .array .int
  | 13 => .array .boolean
  | 14 => .array .int
  | 15 => .int
  | 16 => .int
  | 17 => .array .int
  | 18 => .array .int
  | 19 => .int
  | 20 => .int
  | 21 => .array .int
  | 22 => .int
  | 23 => .array .int
  | 24 => .array .int
  | 25 => .int
  | _ => .array .int
abbrev wsX480 : List Cond := u_ws RX48 TX48 27
theorem nmX48 : ∀ a, a < 27 → ∀ b, b < 27 → a ≠ b → (TX48 a).2.1 ≠ (TX48 b).2.1 := by decide +kernel
theorem tyX48_ok : ∀ k, k < 27 → parseFieldDescriptor (TX48 k).2.2.1 = some (tyX48 k) := by decide +kernel
abbrev cX48_init : ByteArray := prog_89_method_2_code
def yX48_init : MethodName := ⟨RX48, "<init>", "()V"⟩
abbrev cX48_latest : ByteArray := prog_89_method_13_code
def yX48_latest : MethodName := ⟨RX48, "latest", "()I"⟩
theorem dX48_latest_0 : decode cX48_latest 0 = .ok (.aload_n 0, 1) := by decide +kernel
theorem dX48_latest_1 : decode cX48_latest 1 = .ok (.iconst 0, 1) := by decide +kernel
theorem dX48_latest_2 : decode cX48_latest 2 = .ok (.putfield 1, 3) := by decide +kernel
theorem dX48_latest_5 : decode cX48_latest 5 = .ok (.aload_n 0, 1) := by decide +kernel
theorem dX48_latest_6 : decode cX48_latest 6 = .ok (.getfield 79, 3) := by decide +kernel
theorem dX48_latest_9 : decode cX48_latest 9 = .ok (.ireturn, 1) := by decide +kernel
abbrev cX48_begin : ByteArray := prog_89_method_20_code
def yX48_begin : MethodName := ⟨RX48, "begin", "()I"⟩
theorem dX48_begin_0 : decode cX48_begin 0 = .ok (.aload_n 0, 1) := by decide +kernel
theorem dX48_begin_1 : decode cX48_begin 1 = .ok (.aload_n 0, 1) := by decide +kernel
theorem dX48_begin_2 : decode cX48_begin 2 = .ok (.getfield 72, 3) := by decide +kernel
theorem dX48_begin_5 : decode cX48_begin 5 = .ok (.bipush 60, 2) := by decide +kernel
theorem dX48_begin_7 : decode cX48_begin 7 = .ok (.if_icmp .ge 7, 3) := by decide +kernel
theorem dX48_begin_10 : decode cX48_begin 10 = .ok (.iconst 0, 1) := by decide +kernel
theorem dX48_begin_11 : decode cX48_begin 11 = .ok (.goto 4, 3) := by decide +kernel
theorem dX48_begin_14 : decode cX48_begin 14 = .ok (.iconst 1, 1) := by decide +kernel
theorem dX48_begin_15 : decode cX48_begin 15 = .ok (.putfield 1, 3) := by decide +kernel
theorem dX48_begin_18 : decode cX48_begin 18 = .ok (.aload_n 0, 1) := by decide +kernel
theorem dX48_begin_19 : decode cX48_begin 19 = .ok (.getfield 1, 3) := by decide +kernel
theorem dX48_begin_22 : decode cX48_begin 22 = .ok (.ifCond .ne 15, 3) := by decide +kernel
theorem dX48_begin_25 : decode cX48_begin 25 = .ok (.aload_n 0, 1) := by decide +kernel
theorem dX48_begin_26 : decode cX48_begin 26 = .ok (.iconst 1, 1) := by decide +kernel
theorem dX48_begin_27 : decode cX48_begin 27 = .ok (.aload_n 0, 1) := by decide +kernel
theorem dX48_begin_28 : decode cX48_begin 28 = .ok (.getfield 79, 3) := by decide +kernel
theorem dX48_begin_31 : decode cX48_begin 31 = .ok (.invokevirtual 107, 3) := by decide +kernel
theorem dX48_begin_34 : decode cX48_begin 34 = .ok (.goto 4, 3) := by decide +kernel
theorem dX48_begin_37 : decode cX48_begin 37 = .ok (.iconst 0, 1) := by decide +kernel
theorem dX48_begin_38 : decode cX48_begin 38 = .ok (.ireturn, 1) := by decide +kernel
abbrev cX48_start : ByteArray := prog_89_method_19_code
def yX48_start : MethodName := ⟨RX48, "start", "(ZI)I"⟩
theorem dX48_start_0 : decode cX48_start 0 = .ok (.aload_n 0, 1) := by decide +kernel
theorem dX48_start_1 : decode cX48_start 1 = .ok (.getfield 27, 3) := by decide +kernel
theorem dX48_start_4 : decode cX48_start 4 = .ok (.aload_n 0, 1) := by decide +kernel
theorem dX48_start_5 : decode cX48_start 5 = .ok (.getfield 72, 3) := by decide +kernel
theorem dX48_start_8 : decode cX48_start 8 = .ok (.iload_n 1, 1) := by decide +kernel
theorem dX48_start_9 : decode cX48_start 9 = .ok (.bastore, 1) := by decide +kernel
theorem dX48_start_10 : decode cX48_start 10 = .ok (.aload_n 0, 1) := by decide +kernel
theorem dX48_start_11 : decode cX48_start 11 = .ok (.getfield 30, 3) := by decide +kernel
theorem dX48_start_14 : decode cX48_start 14 = .ok (.aload_n 0, 1) := by decide +kernel
theorem dX48_start_15 : decode cX48_start 15 = .ok (.getfield 72, 3) := by decide +kernel
theorem dX48_start_18 : decode cX48_start 18 = .ok (.iload_n 2, 1) := by decide +kernel
theorem dX48_start_19 : decode cX48_start 19 = .ok (.iastore, 1) := by decide +kernel
theorem dX48_start_20 : decode cX48_start 20 = .ok (.aload_n 0, 1) := by decide +kernel
theorem dX48_start_21 : decode cX48_start 21 = .ok (.getfield 33, 3) := by decide +kernel
theorem dX48_start_24 : decode cX48_start 24 = .ok (.aload_n 0, 1) := by decide +kernel
theorem dX48_start_25 : decode cX48_start 25 = .ok (.getfield 72, 3) := by decide +kernel
theorem dX48_start_28 : decode cX48_start 28 = .ok (.iconst 0, 1) := by decide +kernel
theorem dX48_start_29 : decode cX48_start 29 = .ok (.iastore, 1) := by decide +kernel
theorem dX48_start_30 : decode cX48_start 30 = .ok (.aload_n 0, 1) := by decide +kernel
theorem dX48_start_31 : decode cX48_start 31 = .ok (.getfield 42, 3) := by decide +kernel
theorem dX48_start_34 : decode cX48_start 34 = .ok (.aload_n 0, 1) := by decide +kernel
theorem dX48_start_35 : decode cX48_start 35 = .ok (.getfield 72, 3) := by decide +kernel
theorem dX48_start_38 : decode cX48_start 38 = .ok (.iconst (-1), 1) := by decide +kernel
theorem dX48_start_39 : decode cX48_start 39 = .ok (.iastore, 1) := by decide +kernel
theorem dX48_start_40 : decode cX48_start 40 = .ok (.aload_n 0, 1) := by decide +kernel
theorem dX48_start_41 : decode cX48_start 41 = .ok (.dup, 1) := by decide +kernel
theorem dX48_start_42 : decode cX48_start 42 = .ok (.getfield 72, 3) := by decide +kernel
theorem dX48_start_45 : decode cX48_start 45 = .ok (.iconst 1, 1) := by decide +kernel
theorem dX48_start_46 : decode cX48_start 46 = .ok (.iadd, 1) := by decide +kernel
theorem dX48_start_47 : decode cX48_start 47 = .ok (.putfield 72, 3) := by decide +kernel
theorem dX48_start_50 : decode cX48_start 50 = .ok (.aload_n 0, 1) := by decide +kernel
theorem dX48_start_51 : decode cX48_start 51 = .ok (.getfield 72, 3) := by decide +kernel
theorem dX48_start_54 : decode cX48_start 54 = .ok (.iconst 1, 1) := by decide +kernel
theorem dX48_start_55 : decode cX48_start 55 = .ok (.isub, 1) := by decide +kernel
theorem dX48_start_56 : decode cX48_start 56 = .ok (.ireturn, 1) := by decide +kernel
abbrev cX48_thrown : ByteArray := prog_89_method_1_code
def yX48_thrown : MethodName := ⟨RX48, "thrown", "()I"⟩
theorem dX48_thrown_0 : decode cX48_thrown 0 = .ok (.aload_n 0, 1) := by decide +kernel
theorem dX48_thrown_1 : decode cX48_thrown 1 = .ok (.getfield 1, 3) := by decide +kernel
theorem dX48_thrown_4 : decode cX48_thrown 4 = .ok (.ireturn, 1) := by decide +kernel
abbrev cX48_put : ByteArray := prog_89_method_27_code
def yX48_put : MethodName := ⟨RX48, "put", "(IIZ)I"⟩
theorem dX48_put_0 : decode cX48_put 0 = .ok (.aload_n 0, 1) := by decide +kernel
theorem dX48_put_1 : decode cX48_put 1 = .ok (.iload_n 1, 1) := by decide +kernel
theorem dX48_put_2 : decode cX48_put 2 = .ok (.invokevirtual 111, 3) := by decide +kernel
theorem dX48_put_5 : decode cX48_put 5 = .ok (.ifCond .eq 14, 3) := by decide +kernel
theorem dX48_put_8 : decode cX48_put 8 = .ok (.iload_n 2, 1) := by decide +kernel
theorem dX48_put_9 : decode cX48_put 9 = .ok (.invokestatic 96, 3) := by decide +kernel
theorem dX48_put_12 : decode cX48_put 12 = .ok (.ifCond .eq 7, 3) := by decide +kernel
theorem dX48_put_15 : decode cX48_put 15 = .ok (.iconst 1, 1) := by decide +kernel
theorem dX48_put_16 : decode cX48_put 16 = .ok (.goto 4, 3) := by decide +kernel
theorem dX48_put_19 : decode cX48_put 19 = .ok (.iconst 0, 1) := by decide +kernel
theorem dX48_put_20 : decode cX48_put 20 = .ok (.istore 4, 2) := by decide +kernel
theorem dX48_put_22 : decode cX48_put 22 = .ok (.aload_n 0, 1) := by decide +kernel
theorem dX48_put_23 : decode cX48_put 23 = .ok (.iload 4, 2) := by decide +kernel
theorem dX48_put_25 : decode cX48_put 25 = .ok (.iload 4, 2) := by decide +kernel
theorem dX48_put_27 : decode cX48_put 27 = .ok (.ifCond .eq 15, 3) := by decide +kernel
theorem dX48_put_30 : decode cX48_put 30 = .ok (.aload_n 0, 1) := by decide +kernel
theorem dX48_put_31 : decode cX48_put 31 = .ok (.iload_n 1, 1) := by decide +kernel
theorem dX48_put_32 : decode cX48_put 32 = .ok (.invokevirtual 114, 3) := by decide +kernel
theorem dX48_put_35 : decode cX48_put 35 = .ok (.ifCond .eq 7, 3) := by decide +kernel
theorem dX48_put_38 : decode cX48_put 38 = .ok (.iconst 1, 1) := by decide +kernel
theorem dX48_put_39 : decode cX48_put 39 = .ok (.goto 4, 3) := by decide +kernel
theorem dX48_put_42 : decode cX48_put 42 = .ok (.iconst 0, 1) := by decide +kernel
theorem dX48_put_43 : decode cX48_put 43 = .ok (.invokevirtual 99, 3) := by decide +kernel
theorem dX48_put_46 : decode cX48_put 46 = .ok (.ifCond .eq 5, 3) := by decide +kernel
theorem dX48_put_49 : decode cX48_put 49 = .ok (.iconst 0, 1) := by decide +kernel
theorem dX48_put_50 : decode cX48_put 50 = .ok (.ireturn, 1) := by decide +kernel
theorem dX48_put_51 : decode cX48_put 51 = .ok (.aload_n 0, 1) := by decide +kernel
theorem dX48_put_52 : decode cX48_put 52 = .ok (.iload_n 1, 1) := by decide +kernel
theorem dX48_put_53 : decode cX48_put 53 = .ok (.iload_n 2, 1) := by decide +kernel
theorem dX48_put_54 : decode cX48_put 54 = .ok (.iload_n 3, 1) := by decide +kernel
theorem dX48_put_55 : decode cX48_put 55 = .ok (.invokevirtual 117, 3) := by decide +kernel
theorem dX48_put_58 : decode cX48_put 58 = .ok (.aload_n 0, 1) := by decide +kernel
theorem dX48_put_59 : decode cX48_put 59 = .ok (.invokevirtual 121, 3) := by decide +kernel
theorem dX48_put_62 : decode cX48_put 62 = .ok (.aload_n 0, 1) := by decide +kernel
theorem dX48_put_63 : decode cX48_put 63 = .ok (.getfield 33, 3) := by decide +kernel
theorem dX48_put_66 : decode cX48_put 66 = .ok (.iload_n 1, 1) := by decide +kernel
theorem dX48_put_67 : decode cX48_put 67 = .ok (.iaload, 1) := by decide +kernel
theorem dX48_put_68 : decode cX48_put 68 = .ok (.istore 5, 2) := by decide +kernel
theorem dX48_put_70 : decode cX48_put 70 = .ok (.iload 5, 2) := by decide +kernel
theorem dX48_put_72 : decode cX48_put 72 = .ok (.ifCond .ne 7, 3) := by decide +kernel
theorem dX48_put_75 : decode cX48_put 75 = .ok (.iconst 1, 1) := by decide +kernel
theorem dX48_put_76 : decode cX48_put 76 = .ok (.goto 25, 3) := by decide +kernel
theorem dX48_put_79 : decode cX48_put 79 = .ok (.iload 5, 2) := by decide +kernel
theorem dX48_put_81 : decode cX48_put 81 = .ok (.iconst 1, 1) := by decide +kernel
theorem dX48_put_82 : decode cX48_put 82 = .ok (.if_icmp .ne 7, 3) := by decide +kernel
theorem dX48_put_85 : decode cX48_put 85 = .ok (.iconst 0, 1) := by decide +kernel
theorem dX48_put_86 : decode cX48_put 86 = .ok (.goto 15, 3) := by decide +kernel
theorem dX48_put_89 : decode cX48_put 89 = .ok (.iload 5, 2) := by decide +kernel
theorem dX48_put_91 : decode cX48_put 91 = .ok (.iconst 2, 1) := by decide +kernel
theorem dX48_put_92 : decode cX48_put 92 = .ok (.if_icmp .ne 7, 3) := by decide +kernel
theorem dX48_put_95 : decode cX48_put 95 = .ok (.iconst (-1), 1) := by decide +kernel
theorem dX48_put_96 : decode cX48_put 96 = .ok (.goto 5, 3) := by decide +kernel
theorem dX48_put_99 : decode cX48_put 99 = .ok (.bipush (-2), 2) := by decide +kernel
theorem dX48_put_101 : decode cX48_put 101 = .ok (.ireturn, 1) := by decide +kernel
abbrev cX48_isTransaction : ByteArray := prog_89_method_4_code
def yX48_isTransaction : MethodName := ⟨RX48, "isTransaction", "(I)Z"⟩
theorem dX48_isTransaction_0 : decode cX48_isTransaction 0 = .ok (.iload_n 1, 1) := by decide +kernel
theorem dX48_isTransaction_1 : decode cX48_isTransaction 1 = .ok (.ifCond .lt 15, 3) := by decide +kernel
theorem dX48_isTransaction_4 : decode cX48_isTransaction 4 = .ok (.iload_n 1, 1) := by decide +kernel
theorem dX48_isTransaction_5 : decode cX48_isTransaction 5 = .ok (.aload_n 0, 1) := by decide +kernel
theorem dX48_isTransaction_6 : decode cX48_isTransaction 6 = .ok (.getfield 72, 3) := by decide +kernel
theorem dX48_isTransaction_9 : decode cX48_isTransaction 9 = .ok (.if_icmp .ge 7, 3) := by decide +kernel
theorem dX48_isTransaction_12 : decode cX48_isTransaction 12 = .ok (.iconst 1, 1) := by decide +kernel
theorem dX48_isTransaction_13 : decode cX48_isTransaction 13 = .ok (.goto 4, 3) := by decide +kernel
theorem dX48_isTransaction_16 : decode cX48_isTransaction 16 = .ok (.iconst 0, 1) := by decide +kernel
theorem dX48_isTransaction_17 : decode cX48_isTransaction 17 = .ok (.ireturn, 1) := by decide +kernel
abbrev cX48_isTriple : ByteArray := prog_89_method_5_code
def yX48_isTriple : MethodName := ⟨RX48, "isTriple", "(I)Z"⟩
theorem dX48_isTriple_0 : decode cX48_isTriple 0 = .ok (.iload_n 0, 1) := by decide +kernel
theorem dX48_isTriple_1 : decode cX48_isTriple 1 = .ok (.ifCond .lt 14, 3) := by decide +kernel
theorem dX48_isTriple_4 : decode cX48_isTriple 4 = .ok (.iload_n 0, 1) := by decide +kernel
theorem dX48_isTriple_5 : decode cX48_isTriple 5 = .ok (.sipush 200, 3) := by decide +kernel
theorem dX48_isTriple_8 : decode cX48_isTriple 8 = .ok (.if_icmp .ge 7, 3) := by decide +kernel
theorem dX48_isTriple_11 : decode cX48_isTriple 11 = .ok (.iconst 1, 1) := by decide +kernel
theorem dX48_isTriple_12 : decode cX48_isTriple 12 = .ok (.goto 4, 3) := by decide +kernel
theorem dX48_isTriple_15 : decode cX48_isTriple 15 = .ok (.iconst 0, 1) := by decide +kernel
theorem dX48_isTriple_16 : decode cX48_isTriple 16 = .ok (.ireturn, 1) := by decide +kernel
abbrev cX48_canWrite : ByteArray := prog_89_method_25_code
def yX48_canWrite : MethodName := ⟨RX48, "canWrite", "(I)Z"⟩
theorem dX48_canWrite_0 : decode cX48_canWrite 0 = .ok (.aload_n 0, 1) := by decide +kernel
theorem dX48_canWrite_1 : decode cX48_canWrite 1 = .ok (.getfield 33, 3) := by decide +kernel
theorem dX48_canWrite_4 : decode cX48_canWrite 4 = .ok (.iload_n 1, 1) := by decide +kernel
theorem dX48_canWrite_5 : decode cX48_canWrite 5 = .ok (.iaload, 1) := by decide +kernel
theorem dX48_canWrite_6 : decode cX48_canWrite 6 = .ok (.ifCond .ne 16, 3) := by decide +kernel
theorem dX48_canWrite_9 : decode cX48_canWrite 9 = .ok (.aload_n 0, 1) := by decide +kernel
theorem dX48_canWrite_10 : decode cX48_canWrite 10 = .ok (.getfield 27, 3) := by decide +kernel
theorem dX48_canWrite_13 : decode cX48_canWrite 13 = .ok (.iload_n 1, 1) := by decide +kernel
theorem dX48_canWrite_14 : decode cX48_canWrite 14 = .ok (.baload, 1) := by decide +kernel
theorem dX48_canWrite_15 : decode cX48_canWrite 15 = .ok (.ifCond .eq 7, 3) := by decide +kernel
theorem dX48_canWrite_18 : decode cX48_canWrite 18 = .ok (.iconst 1, 1) := by decide +kernel
theorem dX48_canWrite_19 : decode cX48_canWrite 19 = .ok (.goto 4, 3) := by decide +kernel
theorem dX48_canWrite_22 : decode cX48_canWrite 22 = .ok (.iconst 0, 1) := by decide +kernel
theorem dX48_canWrite_23 : decode cX48_canWrite 23 = .ok (.ireturn, 1) := by decide +kernel
abbrev cX48_fails : ByteArray := prog_89_method_3_code
def yX48_fails : MethodName := ⟨RX48, "fails", "(ZZ)Z"⟩
theorem dX48_fails_0 : decode cX48_fails 0 = .ok (.aload_n 0, 1) := by decide +kernel
theorem dX48_fails_1 : decode cX48_fails 1 = .ok (.iload_n 1, 1) := by decide +kernel
theorem dX48_fails_2 : decode cX48_fails 2 = .ok (.ifCond .ne 7, 3) := by decide +kernel
theorem dX48_fails_5 : decode cX48_fails 5 = .ok (.iconst 1, 1) := by decide +kernel
theorem dX48_fails_6 : decode cX48_fails 6 = .ok (.goto 12, 3) := by decide +kernel
theorem dX48_fails_9 : decode cX48_fails 9 = .ok (.iload_n 2, 1) := by decide +kernel
theorem dX48_fails_10 : decode cX48_fails 10 = .ok (.ifCond .ne 7, 3) := by decide +kernel
theorem dX48_fails_13 : decode cX48_fails 13 = .ok (.iconst 2, 1) := by decide +kernel
theorem dX48_fails_14 : decode cX48_fails 14 = .ok (.goto 4, 3) := by decide +kernel
theorem dX48_fails_17 : decode cX48_fails 17 = .ok (.iconst 0, 1) := by decide +kernel
theorem dX48_fails_18 : decode cX48_fails 18 = .ok (.putfield 1, 3) := by decide +kernel
theorem dX48_fails_21 : decode cX48_fails 21 = .ok (.aload_n 0, 1) := by decide +kernel
theorem dX48_fails_22 : decode cX48_fails 22 = .ok (.getfield 1, 3) := by decide +kernel
theorem dX48_fails_25 : decode cX48_fails 25 = .ok (.ifCond .eq 7, 3) := by decide +kernel
theorem dX48_fails_28 : decode cX48_fails 28 = .ok (.iconst 1, 1) := by decide +kernel
theorem dX48_fails_29 : decode cX48_fails 29 = .ok (.goto 4, 3) := by decide +kernel
theorem dX48_fails_32 : decode cX48_fails 32 = .ok (.iconst 0, 1) := by decide +kernel
theorem dX48_fails_33 : decode cX48_fails 33 = .ok (.ireturn, 1) := by decide +kernel
abbrev cX48_write : ByteArray := prog_89_method_28_code
def yX48_write : MethodName := ⟨RX48, "write", "(IIZ)V"⟩
theorem dX48_write_0 : decode cX48_write 0 = .ok (.aload_n 0, 1) := by decide +kernel
theorem dX48_write_1 : decode cX48_write 1 = .ok (.getfield 42, 3) := by decide +kernel
theorem dX48_write_4 : decode cX48_write 4 = .ok (.iload_n 1, 1) := by decide +kernel
theorem dX48_write_5 : decode cX48_write 5 = .ok (.iconst (-1), 1) := by decide +kernel
theorem dX48_write_6 : decode cX48_write 6 = .ok (.iastore, 1) := by decide +kernel
theorem dX48_write_7 : decode cX48_write 7 = .ok (.aload_n 0, 1) := by decide +kernel
theorem dX48_write_8 : decode cX48_write 8 = .ok (.getfield 33, 3) := by decide +kernel
theorem dX48_write_11 : decode cX48_write 11 = .ok (.iload_n 1, 1) := by decide +kernel
theorem dX48_write_12 : decode cX48_write 12 = .ok (.iconst 0, 1) := by decide +kernel
theorem dX48_write_13 : decode cX48_write 13 = .ok (.iastore, 1) := by decide +kernel
theorem dX48_write_14 : decode cX48_write 14 = .ok (.aload_n 0, 1) := by decide +kernel
theorem dX48_write_15 : decode cX48_write 15 = .ok (.iload_n 2, 1) := by decide +kernel
theorem dX48_write_16 : decode cX48_write 16 = .ok (.aload_n 0, 1) := by decide +kernel
theorem dX48_write_17 : decode cX48_write 17 = .ok (.getfield 30, 3) := by decide +kernel
theorem dX48_write_20 : decode cX48_write 20 = .ok (.iload_n 1, 1) := by decide +kernel
theorem dX48_write_21 : decode cX48_write 21 = .ok (.iaload, 1) := by decide +kernel
theorem dX48_write_22 : decode cX48_write 22 = .ok (.invokevirtual 124, 3) := by decide +kernel
theorem dX48_write_25 : decode cX48_write 25 = .ok (.ifCond .eq 21, 3) := by decide +kernel
theorem dX48_write_28 : decode cX48_write 28 = .ok (.aload_n 0, 1) := by decide +kernel
theorem dX48_write_29 : decode cX48_write 29 = .ok (.getfield 33, 3) := by decide +kernel
theorem dX48_write_32 : decode cX48_write 32 = .ok (.iload_n 1, 1) := by decide +kernel
theorem dX48_write_33 : decode cX48_write 33 = .ok (.iconst 2, 1) := by decide +kernel
theorem dX48_write_34 : decode cX48_write 34 = .ok (.iastore, 1) := by decide +kernel
theorem dX48_write_35 : decode cX48_write 35 = .ok (.aload_n 0, 1) := by decide +kernel
theorem dX48_write_36 : decode cX48_write 36 = .ok (.getfield 63, 3) := by decide +kernel
theorem dX48_write_39 : decode cX48_write 39 = .ok (.iload_n 2, 1) := by decide +kernel
theorem dX48_write_40 : decode cX48_write 40 = .ok (.dup2, 1) := by decide +kernel
theorem dX48_write_41 : decode cX48_write 41 = .ok (.iaload, 1) := by decide +kernel
theorem dX48_write_42 : decode cX48_write 42 = .ok (.iconst 1, 1) := by decide +kernel
theorem dX48_write_43 : decode cX48_write 43 = .ok (.iadd, 1) := by decide +kernel
theorem dX48_write_44 : decode cX48_write 44 = .ok (.iastore, 1) := by decide +kernel
theorem dX48_write_45 : decode cX48_write 45 = .ok (.return_, 1) := by decide +kernel
theorem dX48_write_46 : decode cX48_write 46 = .ok (.aload_n 0, 1) := by decide +kernel
theorem dX48_write_47 : decode cX48_write 47 = .ok (.getfield 54, 3) := by decide +kernel
theorem dX48_write_50 : decode cX48_write 50 = .ok (.iload_n 2, 1) := by decide +kernel
theorem dX48_write_51 : decode cX48_write 51 = .ok (.iaload, 1) := by decide +kernel
theorem dX48_write_52 : decode cX48_write 52 = .ok (.ifCond .lt 72, 3) := by decide +kernel
theorem dX48_write_55 : decode cX48_write 55 = .ok (.aload_n 0, 1) := by decide +kernel
theorem dX48_write_56 : decode cX48_write 56 = .ok (.getfield 54, 3) := by decide +kernel
theorem dX48_write_59 : decode cX48_write 59 = .ok (.iload_n 2, 1) := by decide +kernel
theorem dX48_write_60 : decode cX48_write 60 = .ok (.iaload, 1) := by decide +kernel
theorem dX48_write_61 : decode cX48_write 61 = .ok (.iload_n 1, 1) := by decide +kernel
theorem dX48_write_62 : decode cX48_write 62 = .ok (.if_icmp .eq 62, 3) := by decide +kernel
theorem dX48_write_65 : decode cX48_write 65 = .ok (.aload_n 0, 1) := by decide +kernel
theorem dX48_write_66 : decode cX48_write 66 = .ok (.getfield 33, 3) := by decide +kernel
theorem dX48_write_69 : decode cX48_write 69 = .ok (.iload_n 1, 1) := by decide +kernel
theorem dX48_write_70 : decode cX48_write 70 = .ok (.iconst 1, 1) := by decide +kernel
theorem dX48_write_71 : decode cX48_write 71 = .ok (.iastore, 1) := by decide +kernel
theorem dX48_write_72 : decode cX48_write 72 = .ok (.aload_n 0, 1) := by decide +kernel
theorem dX48_write_73 : decode cX48_write 73 = .ok (.getfield 42, 3) := by decide +kernel
theorem dX48_write_76 : decode cX48_write 76 = .ok (.iload_n 1, 1) := by decide +kernel
theorem dX48_write_77 : decode cX48_write 77 = .ok (.aload_n 0, 1) := by decide +kernel
theorem dX48_write_78 : decode cX48_write 78 = .ok (.getfield 54, 3) := by decide +kernel
theorem dX48_write_81 : decode cX48_write 81 = .ok (.iload_n 2, 1) := by decide +kernel
theorem dX48_write_82 : decode cX48_write 82 = .ok (.iaload, 1) := by decide +kernel
theorem dX48_write_83 : decode cX48_write 83 = .ok (.iastore, 1) := by decide +kernel
theorem dX48_write_84 : decode cX48_write 84 = .ok (.aload_n 0, 1) := by decide +kernel
theorem dX48_write_85 : decode cX48_write 85 = .ok (.getfield 45, 3) := by decide +kernel
theorem dX48_write_88 : decode cX48_write 88 = .ok (.iload_n 1, 1) := by decide +kernel
theorem dX48_write_89 : decode cX48_write 89 = .ok (.iload_n 2, 1) := by decide +kernel
theorem dX48_write_90 : decode cX48_write 90 = .ok (.iastore, 1) := by decide +kernel
theorem dX48_write_91 : decode cX48_write 91 = .ok (.aload_n 0, 1) := by decide +kernel
theorem dX48_write_92 : decode cX48_write 92 = .ok (.getfield 48, 3) := by decide +kernel
theorem dX48_write_95 : decode cX48_write 95 = .ok (.iload_n 1, 1) := by decide +kernel
theorem dX48_write_96 : decode cX48_write 96 = .ok (.iload_n 3, 1) := by decide +kernel
theorem dX48_write_97 : decode cX48_write 97 = .ok (.bastore, 1) := by decide +kernel
theorem dX48_write_98 : decode cX48_write 98 = .ok (.aload_n 0, 1) := by decide +kernel
theorem dX48_write_99 : decode cX48_write 99 = .ok (.getfield 51, 3) := by decide +kernel
theorem dX48_write_102 : decode cX48_write 102 = .ok (.iload_n 1, 1) := by decide +kernel
theorem dX48_write_103 : decode cX48_write 103 = .ok (.aload_n 0, 1) := by decide +kernel
theorem dX48_write_104 : decode cX48_write 104 = .ok (.getfield 127, 3) := by decide +kernel
theorem dX48_write_107 : decode cX48_write 107 = .ok (.iastore, 1) := by decide +kernel
theorem dX48_write_108 : decode cX48_write 108 = .ok (.aload_n 0, 1) := by decide +kernel
theorem dX48_write_109 : decode cX48_write 109 = .ok (.dup, 1) := by decide +kernel
theorem dX48_write_110 : decode cX48_write 110 = .ok (.getfield 127, 3) := by decide +kernel
theorem dX48_write_113 : decode cX48_write 113 = .ok (.iconst 1, 1) := by decide +kernel
theorem dX48_write_114 : decode cX48_write 114 = .ok (.iadd, 1) := by decide +kernel
theorem dX48_write_115 : decode cX48_write 115 = .ok (.putfield 127, 3) := by decide +kernel
theorem dX48_write_118 : decode cX48_write 118 = .ok (.aload_n 0, 1) := by decide +kernel
theorem dX48_write_119 : decode cX48_write 119 = .ok (.iload_n 1, 1) := by decide +kernel
theorem dX48_write_120 : decode cX48_write 120 = .ok (.invokevirtual 130, 3) := by decide +kernel
theorem dX48_write_123 : decode cX48_write 123 = .ok (.return_, 1) := by decide +kernel
theorem dX48_write_124 : decode cX48_write 124 = .ok (.aload_n 0, 1) := by decide +kernel
theorem dX48_write_125 : decode cX48_write 125 = .ok (.getfield 54, 3) := by decide +kernel
theorem dX48_write_128 : decode cX48_write 128 = .ok (.iload_n 2, 1) := by decide +kernel
theorem dX48_write_129 : decode cX48_write 129 = .ok (.iload_n 1, 1) := by decide +kernel
theorem dX48_write_130 : decode cX48_write 130 = .ok (.iastore, 1) := by decide +kernel
theorem dX48_write_131 : decode cX48_write 131 = .ok (.aload_n 0, 1) := by decide +kernel
theorem dX48_write_132 : decode cX48_write 132 = .ok (.getfield 39, 3) := by decide +kernel
theorem dX48_write_135 : decode cX48_write 135 = .ok (.sipush 200, 3) := by decide +kernel
theorem dX48_write_138 : decode cX48_write 138 = .ok (.iload_n 1, 1) := by decide +kernel
theorem dX48_write_139 : decode cX48_write 139 = .ok (.imul, 1) := by decide +kernel
theorem dX48_write_140 : decode cX48_write 140 = .ok (.iload_n 2, 1) := by decide +kernel
theorem dX48_write_141 : decode cX48_write 141 = .ok (.iadd, 1) := by decide +kernel
theorem dX48_write_142 : decode cX48_write 142 = .ok (.iload_n 3, 1) := by decide +kernel
theorem dX48_write_143 : decode cX48_write 143 = .ok (.ifCond .eq 7, 3) := by decide +kernel
theorem dX48_write_146 : decode cX48_write 146 = .ok (.iconst 2, 1) := by decide +kernel
theorem dX48_write_147 : decode cX48_write 147 = .ok (.goto 4, 3) := by decide +kernel
theorem dX48_write_150 : decode cX48_write 150 = .ok (.iconst 1, 1) := by decide +kernel
theorem dX48_write_151 : decode cX48_write 151 = .ok (.iastore, 1) := by decide +kernel
theorem dX48_write_152 : decode cX48_write 152 = .ok (.return_, 1) := by decide +kernel
abbrev cX48_hasAbove : ByteArray := prog_89_method_10_code
def yX48_hasAbove : MethodName := ⟨RX48, "hasAbove", "(II)Z"⟩
theorem dX48_hasAbove_0 : decode cX48_hasAbove 0 = .ok (.iconst 0, 1) := by decide +kernel
theorem dX48_hasAbove_1 : decode cX48_hasAbove 1 = .ok (.istore_n 3, 1) := by decide +kernel
theorem dX48_hasAbove_2 : decode cX48_hasAbove 2 = .ok (.iload_n 3, 1) := by decide +kernel
theorem dX48_hasAbove_3 : decode cX48_hasAbove 3 = .ok (.aload_n 0, 1) := by decide +kernel
theorem dX48_hasAbove_4 : decode cX48_hasAbove 4 = .ok (.getfield 82, 3) := by decide +kernel
theorem dX48_hasAbove_7 : decode cX48_hasAbove 7 = .ok (.if_icmp .ge 31, 3) := by decide +kernel
theorem dX48_hasAbove_10 : decode cX48_hasAbove 10 = .ok (.aload_n 0, 1) := by decide +kernel
theorem dX48_hasAbove_11 : decode cX48_hasAbove 11 = .ok (.getfield 13, 3) := by decide +kernel
theorem dX48_hasAbove_14 : decode cX48_hasAbove 14 = .ok (.iload_n 3, 1) := by decide +kernel
theorem dX48_hasAbove_15 : decode cX48_hasAbove 15 = .ok (.iaload, 1) := by decide +kernel
theorem dX48_hasAbove_16 : decode cX48_hasAbove 16 = .ok (.iload_n 1, 1) := by decide +kernel
theorem dX48_hasAbove_17 : decode cX48_hasAbove 17 = .ok (.if_icmp .ne 15, 3) := by decide +kernel
theorem dX48_hasAbove_20 : decode cX48_hasAbove 20 = .ok (.aload_n 0, 1) := by decide +kernel
theorem dX48_hasAbove_21 : decode cX48_hasAbove 21 = .ok (.getfield 17, 3) := by decide +kernel
theorem dX48_hasAbove_24 : decode cX48_hasAbove 24 = .ok (.iload_n 3, 1) := by decide +kernel
theorem dX48_hasAbove_25 : decode cX48_hasAbove 25 = .ok (.iaload, 1) := by decide +kernel
theorem dX48_hasAbove_26 : decode cX48_hasAbove 26 = .ok (.iload_n 2, 1) := by decide +kernel
theorem dX48_hasAbove_27 : decode cX48_hasAbove 27 = .ok (.if_icmp .le 5, 3) := by decide +kernel
theorem dX48_hasAbove_30 : decode cX48_hasAbove 30 = .ok (.iconst 1, 1) := by decide +kernel
theorem dX48_hasAbove_31 : decode cX48_hasAbove 31 = .ok (.ireturn, 1) := by decide +kernel
theorem dX48_hasAbove_32 : decode cX48_hasAbove 32 = .ok (.iinc 3 1, 3) := by decide +kernel
theorem dX48_hasAbove_35 : decode cX48_hasAbove 35 = .ok (.goto (-33), 3) := by decide +kernel
theorem dX48_hasAbove_38 : decode cX48_hasAbove 38 = .ok (.iconst 0, 1) := by decide +kernel
theorem dX48_hasAbove_39 : decode cX48_hasAbove 39 = .ok (.ireturn, 1) := by decide +kernel
abbrev cX48_lookForRing : ByteArray := prog_89_method_29_code
def yX48_lookForRing : MethodName := ⟨RX48, "lookForRing", "(I)V"⟩
theorem dX48_lookForRing_0 : decode cX48_lookForRing 0 = .ok (.iconst 0, 1) := by decide +kernel
theorem dX48_lookForRing_1 : decode cX48_lookForRing 1 = .ok (.istore_n 2, 1) := by decide +kernel
theorem dX48_lookForRing_2 : decode cX48_lookForRing 2 = .ok (.iload_n 1, 1) := by decide +kernel
theorem dX48_lookForRing_3 : decode cX48_lookForRing 3 = .ok (.istore_n 3, 1) := by decide +kernel
theorem dX48_lookForRing_4 : decode cX48_lookForRing 4 = .ok (.aload_n 0, 1) := by decide +kernel
theorem dX48_lookForRing_5 : decode cX48_lookForRing 5 = .ok (.getfield 33, 3) := by decide +kernel
theorem dX48_lookForRing_8 : decode cX48_lookForRing 8 = .ok (.iload_n 3, 1) := by decide +kernel
theorem dX48_lookForRing_9 : decode cX48_lookForRing 9 = .ok (.iaload, 1) := by decide +kernel
theorem dX48_lookForRing_10 : decode cX48_lookForRing 10 = .ok (.iconst 1, 1) := by decide +kernel
theorem dX48_lookForRing_11 : decode cX48_lookForRing 11 = .ok (.if_icmp .ne 31, 3) := by decide +kernel
theorem dX48_lookForRing_14 : decode cX48_lookForRing 14 = .ok (.iload_n 2, 1) := by decide +kernel
theorem dX48_lookForRing_15 : decode cX48_lookForRing 15 = .ok (.bipush 60, 2) := by decide +kernel
theorem dX48_lookForRing_17 : decode cX48_lookForRing 17 = .ok (.if_icmp .ge 25, 3) := by decide +kernel
theorem dX48_lookForRing_20 : decode cX48_lookForRing 20 = .ok (.aload_n 0, 1) := by decide +kernel
theorem dX48_lookForRing_21 : decode cX48_lookForRing 21 = .ok (.getfield 42, 3) := by decide +kernel
theorem dX48_lookForRing_24 : decode cX48_lookForRing 24 = .ok (.iload_n 3, 1) := by decide +kernel
theorem dX48_lookForRing_25 : decode cX48_lookForRing 25 = .ok (.iaload, 1) := by decide +kernel
theorem dX48_lookForRing_26 : decode cX48_lookForRing 26 = .ok (.istore_n 3, 1) := by decide +kernel
theorem dX48_lookForRing_27 : decode cX48_lookForRing 27 = .ok (.iinc 2 1, 3) := by decide +kernel
theorem dX48_lookForRing_30 : decode cX48_lookForRing 30 = .ok (.iload_n 3, 1) := by decide +kernel
theorem dX48_lookForRing_31 : decode cX48_lookForRing 31 = .ok (.iload_n 1, 1) := by decide +kernel
theorem dX48_lookForRing_32 : decode cX48_lookForRing 32 = .ok (.if_icmp .ne (-28), 3) := by decide +kernel
theorem dX48_lookForRing_35 : decode cX48_lookForRing 35 = .ok (.aload_n 0, 1) := by decide +kernel
theorem dX48_lookForRing_36 : decode cX48_lookForRing 36 = .ok (.iload_n 1, 1) := by decide +kernel
theorem dX48_lookForRing_37 : decode cX48_lookForRing 37 = .ok (.iload_n 2, 1) := by decide +kernel
theorem dX48_lookForRing_38 : decode cX48_lookForRing 38 = .ok (.invokevirtual 134, 3) := by decide +kernel
theorem dX48_lookForRing_41 : decode cX48_lookForRing 41 = .ok (.return_, 1) := by decide +kernel
theorem dX48_lookForRing_42 : decode cX48_lookForRing 42 = .ok (.return_, 1) := by decide +kernel
abbrev cX48_takeRing : ByteArray := prog_89_method_30_code
def yX48_takeRing : MethodName := ⟨RX48, "takeRing", "(II)V"⟩
theorem dX48_takeRing_0 : decode cX48_takeRing 0 = .ok (.aload_n 0, 1) := by decide +kernel
theorem dX48_takeRing_1 : decode cX48_takeRing 1 = .ok (.iconst 0, 1) := by decide +kernel
theorem dX48_takeRing_2 : decode cX48_takeRing 2 = .ok (.putfield 138, 3) := by decide +kernel
theorem dX48_takeRing_5 : decode cX48_takeRing 5 = .ok (.iload_n 1, 1) := by decide +kernel
theorem dX48_takeRing_6 : decode cX48_takeRing 6 = .ok (.istore_n 3, 1) := by decide +kernel
theorem dX48_takeRing_7 : decode cX48_takeRing 7 = .ok (.iconst 0, 1) := by decide +kernel
theorem dX48_takeRing_8 : decode cX48_takeRing 8 = .ok (.istore 4, 2) := by decide +kernel
theorem dX48_takeRing_10 : decode cX48_takeRing 10 = .ok (.iload 4, 2) := by decide +kernel
theorem dX48_takeRing_12 : decode cX48_takeRing 12 = .ok (.iload_n 2, 1) := by decide +kernel
theorem dX48_takeRing_13 : decode cX48_takeRing 13 = .ok (.if_icmp .ge 80, 3) := by decide +kernel
theorem dX48_takeRing_16 : decode cX48_takeRing 16 = .ok (.aload_n 0, 1) := by decide +kernel
theorem dX48_takeRing_17 : decode cX48_takeRing 17 = .ok (.getfield 138, 3) := by decide +kernel
theorem dX48_takeRing_20 : decode cX48_takeRing 20 = .ok (.istore 5, 2) := by decide +kernel
theorem dX48_takeRing_22 : decode cX48_takeRing 22 = .ok (.iload 5, 2) := by decide +kernel
theorem dX48_takeRing_24 : decode cX48_takeRing 24 = .ok (.ifCond .le 38, 3) := by decide +kernel
theorem dX48_takeRing_27 : decode cX48_takeRing 27 = .ok (.aload_n 0, 1) := by decide +kernel
theorem dX48_takeRing_28 : decode cX48_takeRing 28 = .ok (.getfield 60, 3) := by decide +kernel
theorem dX48_takeRing_31 : decode cX48_takeRing 31 = .ok (.iload 5, 2) := by decide +kernel
theorem dX48_takeRing_33 : decode cX48_takeRing 33 = .ok (.iconst 1, 1) := by decide +kernel
theorem dX48_takeRing_34 : decode cX48_takeRing 34 = .ok (.isub, 1) := by decide +kernel
theorem dX48_takeRing_35 : decode cX48_takeRing 35 = .ok (.iaload, 1) := by decide +kernel
theorem dX48_takeRing_36 : decode cX48_takeRing 36 = .ok (.iload_n 3, 1) := by decide +kernel
theorem dX48_takeRing_37 : decode cX48_takeRing 37 = .ok (.if_icmp .le 25, 3) := by decide +kernel
theorem dX48_takeRing_40 : decode cX48_takeRing 40 = .ok (.aload_n 0, 1) := by decide +kernel
theorem dX48_takeRing_41 : decode cX48_takeRing 41 = .ok (.getfield 60, 3) := by decide +kernel
theorem dX48_takeRing_44 : decode cX48_takeRing 44 = .ok (.iload 5, 2) := by decide +kernel
theorem dX48_takeRing_46 : decode cX48_takeRing 46 = .ok (.aload_n 0, 1) := by decide +kernel
theorem dX48_takeRing_47 : decode cX48_takeRing 47 = .ok (.getfield 60, 3) := by decide +kernel
theorem dX48_takeRing_50 : decode cX48_takeRing 50 = .ok (.iload 5, 2) := by decide +kernel
theorem dX48_takeRing_52 : decode cX48_takeRing 52 = .ok (.iconst 1, 1) := by decide +kernel
theorem dX48_takeRing_53 : decode cX48_takeRing 53 = .ok (.isub, 1) := by decide +kernel
theorem dX48_takeRing_54 : decode cX48_takeRing 54 = .ok (.iaload, 1) := by decide +kernel
theorem dX48_takeRing_55 : decode cX48_takeRing 55 = .ok (.iastore, 1) := by decide +kernel
theorem dX48_takeRing_56 : decode cX48_takeRing 56 = .ok (.iinc 5 (-1), 3) := by decide +kernel
theorem dX48_takeRing_59 : decode cX48_takeRing 59 = .ok (.goto (-37), 3) := by decide +kernel
theorem dX48_takeRing_62 : decode cX48_takeRing 62 = .ok (.aload_n 0, 1) := by decide +kernel
theorem dX48_takeRing_63 : decode cX48_takeRing 63 = .ok (.getfield 60, 3) := by decide +kernel
theorem dX48_takeRing_66 : decode cX48_takeRing 66 = .ok (.iload 5, 2) := by decide +kernel
theorem dX48_takeRing_68 : decode cX48_takeRing 68 = .ok (.iload_n 3, 1) := by decide +kernel
theorem dX48_takeRing_69 : decode cX48_takeRing 69 = .ok (.iastore, 1) := by decide +kernel
theorem dX48_takeRing_70 : decode cX48_takeRing 70 = .ok (.aload_n 0, 1) := by decide +kernel
theorem dX48_takeRing_71 : decode cX48_takeRing 71 = .ok (.dup, 1) := by decide +kernel
theorem dX48_takeRing_72 : decode cX48_takeRing 72 = .ok (.getfield 138, 3) := by decide +kernel
theorem dX48_takeRing_75 : decode cX48_takeRing 75 = .ok (.iconst 1, 1) := by decide +kernel
theorem dX48_takeRing_76 : decode cX48_takeRing 76 = .ok (.iadd, 1) := by decide +kernel
theorem dX48_takeRing_77 : decode cX48_takeRing 77 = .ok (.putfield 138, 3) := by decide +kernel
theorem dX48_takeRing_80 : decode cX48_takeRing 80 = .ok (.aload_n 0, 1) := by decide +kernel
theorem dX48_takeRing_81 : decode cX48_takeRing 81 = .ok (.getfield 42, 3) := by decide +kernel
theorem dX48_takeRing_84 : decode cX48_takeRing 84 = .ok (.iload_n 3, 1) := by decide +kernel
theorem dX48_takeRing_85 : decode cX48_takeRing 85 = .ok (.iaload, 1) := by decide +kernel
theorem dX48_takeRing_86 : decode cX48_takeRing 86 = .ok (.istore_n 3, 1) := by decide +kernel
theorem dX48_takeRing_87 : decode cX48_takeRing 87 = .ok (.iinc 4 1, 3) := by decide +kernel
theorem dX48_takeRing_90 : decode cX48_takeRing 90 = .ok (.goto (-80), 3) := by decide +kernel
theorem dX48_takeRing_93 : decode cX48_takeRing 93 = .ok (.aload_n 0, 1) := by decide +kernel
theorem dX48_takeRing_94 : decode cX48_takeRing 94 = .ok (.aload_n 0, 1) := by decide +kernel
theorem dX48_takeRing_95 : decode cX48_takeRing 95 = .ok (.getfield 60, 3) := by decide +kernel
theorem dX48_takeRing_98 : decode cX48_takeRing 98 = .ok (.iload_n 2, 1) := by decide +kernel
theorem dX48_takeRing_99 : decode cX48_takeRing 99 = .ok (.iconst 1, 1) := by decide +kernel
theorem dX48_takeRing_100 : decode cX48_takeRing 100 = .ok (.isub, 1) := by decide +kernel
theorem dX48_takeRing_101 : decode cX48_takeRing 101 = .ok (.iaload, 1) := by decide +kernel
theorem dX48_takeRing_102 : decode cX48_takeRing 102 = .ok (.iconst 4, 1) := by decide +kernel
theorem dX48_takeRing_103 : decode cX48_takeRing 103 = .ok (.invokevirtual 141, 3) := by decide +kernel
theorem dX48_takeRing_106 : decode cX48_takeRing 106 = .ok (.return_, 1) := by decide +kernel
abbrev cX48_end : ByteArray := prog_89_method_31_code
def yX48_end : MethodName := ⟨RX48, "end", "(II)V"⟩
theorem dX48_end_0 : decode cX48_end 0 = .ok (.aload_n 0, 1) := by decide +kernel
theorem dX48_end_1 : decode cX48_end 1 = .ok (.getfield 33, 3) := by decide +kernel
theorem dX48_end_4 : decode cX48_end 4 = .ok (.iload_n 1, 1) := by decide +kernel
theorem dX48_end_5 : decode cX48_end 5 = .ok (.iload_n 2, 1) := by decide +kernel
theorem dX48_end_6 : decode cX48_end 6 = .ok (.iastore, 1) := by decide +kernel
theorem dX48_end_7 : decode cX48_end 7 = .ok (.iconst 0, 1) := by decide +kernel
theorem dX48_end_8 : decode cX48_end 8 = .ok (.istore_n 3, 1) := by decide +kernel
theorem dX48_end_9 : decode cX48_end 9 = .ok (.iload_n 3, 1) := by decide +kernel
theorem dX48_end_10 : decode cX48_end 10 = .ok (.sipush 200, 3) := by decide +kernel
theorem dX48_end_13 : decode cX48_end 13 = .ok (.if_icmp .ge 26, 3) := by decide +kernel
theorem dX48_end_16 : decode cX48_end 16 = .ok (.aload_n 0, 1) := by decide +kernel
theorem dX48_end_17 : decode cX48_end 17 = .ok (.getfield 54, 3) := by decide +kernel
theorem dX48_end_20 : decode cX48_end 20 = .ok (.iload_n 3, 1) := by decide +kernel
theorem dX48_end_21 : decode cX48_end 21 = .ok (.iaload, 1) := by decide +kernel
theorem dX48_end_22 : decode cX48_end 22 = .ok (.iload_n 1, 1) := by decide +kernel
theorem dX48_end_23 : decode cX48_end 23 = .ok (.if_icmp .ne 10, 3) := by decide +kernel
theorem dX48_end_26 : decode cX48_end 26 = .ok (.aload_n 0, 1) := by decide +kernel
theorem dX48_end_27 : decode cX48_end 27 = .ok (.getfield 54, 3) := by decide +kernel
theorem dX48_end_30 : decode cX48_end 30 = .ok (.iload_n 3, 1) := by decide +kernel
theorem dX48_end_31 : decode cX48_end 31 = .ok (.iconst (-1), 1) := by decide +kernel
theorem dX48_end_32 : decode cX48_end 32 = .ok (.iastore, 1) := by decide +kernel
theorem dX48_end_33 : decode cX48_end 33 = .ok (.iinc 3 1, 3) := by decide +kernel
theorem dX48_end_36 : decode cX48_end 36 = .ok (.goto (-27), 3) := by decide +kernel
theorem dX48_end_39 : decode cX48_end 39 = .ok (.iconst (-1), 1) := by decide +kernel
theorem dX48_end_40 : decode cX48_end 40 = .ok (.istore_n 3, 1) := by decide +kernel
theorem dX48_end_41 : decode cX48_end 41 = .ok (.iconst 1, 1) := by decide +kernel
theorem dX48_end_42 : decode cX48_end 42 = .ok (.istore 4, 2) := by decide +kernel
theorem dX48_end_44 : decode cX48_end 44 = .ok (.iload 4, 2) := by decide +kernel
theorem dX48_end_46 : decode cX48_end 46 = .ok (.ifCond .eq 135, 3) := by decide +kernel
theorem dX48_end_49 : decode cX48_end 49 = .ok (.iconst (-1), 1) := by decide +kernel
theorem dX48_end_50 : decode cX48_end 50 = .ok (.istore 5, 2) := by decide +kernel
theorem dX48_end_52 : decode cX48_end 52 = .ok (.iconst 0, 1) := by decide +kernel
theorem dX48_end_53 : decode cX48_end 53 = .ok (.istore 6, 2) := by decide +kernel
theorem dX48_end_55 : decode cX48_end 55 = .ok (.iload 6, 2) := by decide +kernel
theorem dX48_end_57 : decode cX48_end 57 = .ok (.aload_n 0, 1) := by decide +kernel
theorem dX48_end_58 : decode cX48_end 58 = .ok (.getfield 72, 3) := by decide +kernel
theorem dX48_end_61 : decode cX48_end 61 = .ok (.if_icmp .ge 68, 3) := by decide +kernel
theorem dX48_end_64 : decode cX48_end 64 = .ok (.aload_n 0, 1) := by decide +kernel
theorem dX48_end_65 : decode cX48_end 65 = .ok (.getfield 33, 3) := by decide +kernel
theorem dX48_end_68 : decode cX48_end 68 = .ok (.iload 6, 2) := by decide +kernel
theorem dX48_end_70 : decode cX48_end 70 = .ok (.iaload, 1) := by decide +kernel
theorem dX48_end_71 : decode cX48_end 71 = .ok (.iconst 1, 1) := by decide +kernel
theorem dX48_end_72 : decode cX48_end 72 = .ok (.if_icmp .ne 51, 3) := by decide +kernel
theorem dX48_end_75 : decode cX48_end 75 = .ok (.aload_n 0, 1) := by decide +kernel
theorem dX48_end_76 : decode cX48_end 76 = .ok (.getfield 42, 3) := by decide +kernel
theorem dX48_end_79 : decode cX48_end 79 = .ok (.iload 6, 2) := by decide +kernel
theorem dX48_end_81 : decode cX48_end 81 = .ok (.iaload, 1) := by decide +kernel
theorem dX48_end_82 : decode cX48_end 82 = .ok (.iload_n 1, 1) := by decide +kernel
theorem dX48_end_83 : decode cX48_end 83 = .ok (.if_icmp .ne 40, 3) := by decide +kernel
theorem dX48_end_86 : decode cX48_end 86 = .ok (.aload_n 0, 1) := by decide +kernel
theorem dX48_end_87 : decode cX48_end 87 = .ok (.getfield 51, 3) := by decide +kernel
theorem dX48_end_90 : decode cX48_end 90 = .ok (.iload 6, 2) := by decide +kernel
theorem dX48_end_92 : decode cX48_end 92 = .ok (.iaload, 1) := by decide +kernel
theorem dX48_end_93 : decode cX48_end 93 = .ok (.iload_n 3, 1) := by decide +kernel
theorem dX48_end_94 : decode cX48_end 94 = .ok (.if_icmp .le 29, 3) := by decide +kernel
theorem dX48_end_97 : decode cX48_end 97 = .ok (.iload 5, 2) := by decide +kernel
theorem dX48_end_99 : decode cX48_end 99 = .ok (.ifCond .lt 20, 3) := by decide +kernel
theorem dX48_end_102 : decode cX48_end 102 = .ok (.aload_n 0, 1) := by decide +kernel
theorem dX48_end_103 : decode cX48_end 103 = .ok (.getfield 51, 3) := by decide +kernel
theorem dX48_end_106 : decode cX48_end 106 = .ok (.iload 6, 2) := by decide +kernel
theorem dX48_end_108 : decode cX48_end 108 = .ok (.iaload, 1) := by decide +kernel
theorem dX48_end_109 : decode cX48_end 109 = .ok (.aload_n 0, 1) := by decide +kernel
theorem dX48_end_110 : decode cX48_end 110 = .ok (.getfield 51, 3) := by decide +kernel
theorem dX48_end_113 : decode cX48_end 113 = .ok (.iload 5, 2) := by decide +kernel
theorem dX48_end_115 : decode cX48_end 115 = .ok (.iaload, 1) := by decide +kernel
theorem dX48_end_116 : decode cX48_end 116 = .ok (.if_icmp .ge 7, 3) := by decide +kernel
theorem dX48_end_119 : decode cX48_end 119 = .ok (.iload 6, 2) := by decide +kernel
theorem dX48_end_121 : decode cX48_end 121 = .ok (.istore 5, 2) := by decide +kernel
theorem dX48_end_123 : decode cX48_end 123 = .ok (.iinc 6 1, 3) := by decide +kernel
theorem dX48_end_126 : decode cX48_end 126 = .ok (.goto (-71), 3) := by decide +kernel
theorem dX48_end_129 : decode cX48_end 129 = .ok (.iload 5, 2) := by decide +kernel
theorem dX48_end_131 : decode cX48_end 131 = .ok (.ifCond .lt 7, 3) := by decide +kernel
theorem dX48_end_134 : decode cX48_end 134 = .ok (.iconst 1, 1) := by decide +kernel
theorem dX48_end_135 : decode cX48_end 135 = .ok (.goto 4, 3) := by decide +kernel
theorem dX48_end_138 : decode cX48_end 138 = .ok (.iconst 0, 1) := by decide +kernel
theorem dX48_end_139 : decode cX48_end 139 = .ok (.istore 4, 2) := by decide +kernel
theorem dX48_end_141 : decode cX48_end 141 = .ok (.iload 4, 2) := by decide +kernel
theorem dX48_end_143 : decode cX48_end 143 = .ok (.ifCond .ne 6, 3) := by decide +kernel
theorem dX48_end_146 : decode cX48_end 146 = .ok (.goto (-102), 3) := by decide +kernel
theorem dX48_end_149 : decode cX48_end 149 = .ok (.aload_n 0, 1) := by decide +kernel
theorem dX48_end_150 : decode cX48_end 150 = .ok (.getfield 51, 3) := by decide +kernel
theorem dX48_end_153 : decode cX48_end 153 = .ok (.iload 5, 2) := by decide +kernel
theorem dX48_end_155 : decode cX48_end 155 = .ok (.iaload, 1) := by decide +kernel
theorem dX48_end_156 : decode cX48_end 156 = .ok (.istore_n 3, 1) := by decide +kernel
theorem dX48_end_157 : decode cX48_end 157 = .ok (.aload_n 0, 1) := by decide +kernel
theorem dX48_end_158 : decode cX48_end 158 = .ok (.getfield 57, 3) := by decide +kernel
theorem dX48_end_161 : decode cX48_end 161 = .ok (.aload_n 0, 1) := by decide +kernel
theorem dX48_end_162 : decode cX48_end 162 = .ok (.getfield 144, 3) := by decide +kernel
theorem dX48_end_165 : decode cX48_end 165 = .ok (.iload 5, 2) := by decide +kernel
theorem dX48_end_167 : decode cX48_end 167 = .ok (.iastore, 1) := by decide +kernel
theorem dX48_end_168 : decode cX48_end 168 = .ok (.aload_n 0, 1) := by decide +kernel
theorem dX48_end_169 : decode cX48_end 169 = .ok (.dup, 1) := by decide +kernel
theorem dX48_end_170 : decode cX48_end 170 = .ok (.getfield 144, 3) := by decide +kernel
theorem dX48_end_173 : decode cX48_end 173 = .ok (.iconst 1, 1) := by decide +kernel
theorem dX48_end_174 : decode cX48_end 174 = .ok (.iadd, 1) := by decide +kernel
theorem dX48_end_175 : decode cX48_end 175 = .ok (.putfield 144, 3) := by decide +kernel
theorem dX48_end_178 : decode cX48_end 178 = .ok (.goto (-134), 3) := by decide +kernel
theorem dX48_end_181 : decode cX48_end 181 = .ok (.return_, 1) := by decide +kernel
abbrev cX48_goOn : ByteArray := prog_89_method_32_code
def yX48_goOn : MethodName := ⟨RX48, "goOn", "()V"⟩
theorem dX48_goOn_0 : decode cX48_goOn 0 = .ok (.aload_n 0, 1) := by decide +kernel
theorem dX48_goOn_1 : decode cX48_goOn 1 = .ok (.getfield 147, 3) := by decide +kernel
theorem dX48_goOn_4 : decode cX48_goOn 4 = .ok (.aload_n 0, 1) := by decide +kernel
theorem dX48_goOn_5 : decode cX48_goOn 5 = .ok (.getfield 144, 3) := by decide +kernel
theorem dX48_goOn_8 : decode cX48_goOn 8 = .ok (.if_icmp .ge 53, 3) := by decide +kernel
theorem dX48_goOn_11 : decode cX48_goOn 11 = .ok (.aload_n 0, 1) := by decide +kernel
theorem dX48_goOn_12 : decode cX48_goOn 12 = .ok (.getfield 57, 3) := by decide +kernel
theorem dX48_goOn_15 : decode cX48_goOn 15 = .ok (.aload_n 0, 1) := by decide +kernel
theorem dX48_goOn_16 : decode cX48_goOn 16 = .ok (.getfield 147, 3) := by decide +kernel
theorem dX48_goOn_19 : decode cX48_goOn 19 = .ok (.iaload, 1) := by decide +kernel
theorem dX48_goOn_20 : decode cX48_goOn 20 = .ok (.istore_n 1, 1) := by decide +kernel
theorem dX48_goOn_21 : decode cX48_goOn 21 = .ok (.aload_n 0, 1) := by decide +kernel
theorem dX48_goOn_22 : decode cX48_goOn 22 = .ok (.dup, 1) := by decide +kernel
theorem dX48_goOn_23 : decode cX48_goOn 23 = .ok (.getfield 147, 3) := by decide +kernel
theorem dX48_goOn_26 : decode cX48_goOn 26 = .ok (.iconst 1, 1) := by decide +kernel
theorem dX48_goOn_27 : decode cX48_goOn 27 = .ok (.iadd, 1) := by decide +kernel
theorem dX48_goOn_28 : decode cX48_goOn 28 = .ok (.putfield 147, 3) := by decide +kernel
theorem dX48_goOn_31 : decode cX48_goOn 31 = .ok (.aload_n 0, 1) := by decide +kernel
theorem dX48_goOn_32 : decode cX48_goOn 32 = .ok (.getfield 33, 3) := by decide +kernel
theorem dX48_goOn_35 : decode cX48_goOn 35 = .ok (.iload_n 1, 1) := by decide +kernel
theorem dX48_goOn_36 : decode cX48_goOn 36 = .ok (.iaload, 1) := by decide +kernel
theorem dX48_goOn_37 : decode cX48_goOn 37 = .ok (.iconst 1, 1) := by decide +kernel
theorem dX48_goOn_38 : decode cX48_goOn 38 = .ok (.if_icmp .ne 20, 3) := by decide +kernel
theorem dX48_goOn_41 : decode cX48_goOn 41 = .ok (.aload_n 0, 1) := by decide +kernel
theorem dX48_goOn_42 : decode cX48_goOn 42 = .ok (.iload_n 1, 1) := by decide +kernel
theorem dX48_goOn_43 : decode cX48_goOn 43 = .ok (.aload_n 0, 1) := by decide +kernel
theorem dX48_goOn_44 : decode cX48_goOn 44 = .ok (.getfield 45, 3) := by decide +kernel
theorem dX48_goOn_47 : decode cX48_goOn 47 = .ok (.iload_n 1, 1) := by decide +kernel
theorem dX48_goOn_48 : decode cX48_goOn 48 = .ok (.iaload, 1) := by decide +kernel
theorem dX48_goOn_49 : decode cX48_goOn 49 = .ok (.aload_n 0, 1) := by decide +kernel
theorem dX48_goOn_50 : decode cX48_goOn 50 = .ok (.getfield 48, 3) := by decide +kernel
theorem dX48_goOn_53 : decode cX48_goOn 53 = .ok (.iload_n 1, 1) := by decide +kernel
theorem dX48_goOn_54 : decode cX48_goOn 54 = .ok (.baload, 1) := by decide +kernel
theorem dX48_goOn_55 : decode cX48_goOn 55 = .ok (.invokevirtual 117, 3) := by decide +kernel
theorem dX48_goOn_58 : decode cX48_goOn 58 = .ok (.goto (-58), 3) := by decide +kernel
theorem dX48_goOn_61 : decode cX48_goOn 61 = .ok (.aload_n 0, 1) := by decide +kernel
theorem dX48_goOn_62 : decode cX48_goOn 62 = .ok (.iconst 0, 1) := by decide +kernel
theorem dX48_goOn_63 : decode cX48_goOn 63 = .ok (.putfield 147, 3) := by decide +kernel
theorem dX48_goOn_66 : decode cX48_goOn 66 = .ok (.aload_n 0, 1) := by decide +kernel
theorem dX48_goOn_67 : decode cX48_goOn 67 = .ok (.iconst 0, 1) := by decide +kernel
theorem dX48_goOn_68 : decode cX48_goOn 68 = .ok (.putfield 144, 3) := by decide +kernel
theorem dX48_goOn_71 : decode cX48_goOn 71 = .ok (.return_, 1) := by decide +kernel
abbrev cX48_abort : ByteArray := prog_89_method_34_code
def yX48_abort : MethodName := ⟨RX48, "abort", "(I)I"⟩
theorem dX48_abort_0 : decode cX48_abort 0 = .ok (.aload_n 0, 1) := by decide +kernel
theorem dX48_abort_1 : decode cX48_abort 1 = .ok (.iload_n 1, 1) := by decide +kernel
theorem dX48_abort_2 : decode cX48_abort 2 = .ok (.invokevirtual 111, 3) := by decide +kernel
theorem dX48_abort_5 : decode cX48_abort 5 = .ok (.istore_n 2, 1) := by decide +kernel
theorem dX48_abort_6 : decode cX48_abort 6 = .ok (.aload_n 0, 1) := by decide +kernel
theorem dX48_abort_7 : decode cX48_abort 7 = .ok (.iload_n 2, 1) := by decide +kernel
theorem dX48_abort_8 : decode cX48_abort 8 = .ok (.iload_n 2, 1) := by decide +kernel
theorem dX48_abort_9 : decode cX48_abort 9 = .ok (.ifCond .eq 15, 3) := by decide +kernel
theorem dX48_abort_12 : decode cX48_abort 12 = .ok (.aload_n 0, 1) := by decide +kernel
theorem dX48_abort_13 : decode cX48_abort 13 = .ok (.iload_n 1, 1) := by decide +kernel
theorem dX48_abort_14 : decode cX48_abort 14 = .ok (.invokevirtual 89, 3) := by decide +kernel
theorem dX48_abort_17 : decode cX48_abort 17 = .ok (.ifCond .eq 7, 3) := by decide +kernel
theorem dX48_abort_20 : decode cX48_abort 20 = .ok (.iconst 1, 1) := by decide +kernel
theorem dX48_abort_21 : decode cX48_abort 21 = .ok (.goto 4, 3) := by decide +kernel
theorem dX48_abort_24 : decode cX48_abort 24 = .ok (.iconst 0, 1) := by decide +kernel
theorem dX48_abort_25 : decode cX48_abort 25 = .ok (.invokevirtual 99, 3) := by decide +kernel
theorem dX48_abort_28 : decode cX48_abort 28 = .ok (.ifCond .eq 5, 3) := by decide +kernel
theorem dX48_abort_31 : decode cX48_abort 31 = .ok (.iconst 0, 1) := by decide +kernel
theorem dX48_abort_32 : decode cX48_abort 32 = .ok (.ireturn, 1) := by decide +kernel
theorem dX48_abort_33 : decode cX48_abort 33 = .ok (.aload_n 0, 1) := by decide +kernel
theorem dX48_abort_34 : decode cX48_abort 34 = .ok (.iload_n 1, 1) := by decide +kernel
theorem dX48_abort_35 : decode cX48_abort 35 = .ok (.iconst 4, 1) := by decide +kernel
theorem dX48_abort_36 : decode cX48_abort 36 = .ok (.invokevirtual 141, 3) := by decide +kernel
theorem dX48_abort_39 : decode cX48_abort 39 = .ok (.aload_n 0, 1) := by decide +kernel
theorem dX48_abort_40 : decode cX48_abort 40 = .ok (.invokevirtual 121, 3) := by decide +kernel
theorem dX48_abort_43 : decode cX48_abort 43 = .ok (.aload_n 0, 1) := by decide +kernel
theorem dX48_abort_44 : decode cX48_abort 44 = .ok (.iload_n 1, 1) := by decide +kernel
theorem dX48_abort_45 : decode cX48_abort 45 = .ok (.invokevirtual 150, 3) := by decide +kernel
theorem dX48_abort_48 : decode cX48_abort 48 = .ok (.ireturn, 1) := by decide +kernel
abbrev cX48_isLive : ByteArray := prog_89_method_6_code
def yX48_isLive : MethodName := ⟨RX48, "isLive", "(I)Z"⟩
theorem dX48_isLive_0 : decode cX48_isLive 0 = .ok (.aload_n 0, 1) := by decide +kernel
theorem dX48_isLive_1 : decode cX48_isLive 1 = .ok (.getfield 33, 3) := by decide +kernel
theorem dX48_isLive_4 : decode cX48_isLive 4 = .ok (.iload_n 1, 1) := by decide +kernel
theorem dX48_isLive_5 : decode cX48_isLive 5 = .ok (.iaload, 1) := by decide +kernel
theorem dX48_isLive_6 : decode cX48_isLive 6 = .ok (.iconst 3, 1) := by decide +kernel
theorem dX48_isLive_7 : decode cX48_isLive 7 = .ok (.if_icmp .ge 7, 3) := by decide +kernel
theorem dX48_isLive_10 : decode cX48_isLive 10 = .ok (.iconst 1, 1) := by decide +kernel
theorem dX48_isLive_11 : decode cX48_isLive 11 = .ok (.goto 4, 3) := by decide +kernel
theorem dX48_isLive_14 : decode cX48_isLive 14 = .ok (.iconst 0, 1) := by decide +kernel
theorem dX48_isLive_15 : decode cX48_isLive 15 = .ok (.ireturn, 1) := by decide +kernel
abbrev cX48_writes : ByteArray := prog_89_method_33_code
def yX48_writes : MethodName := ⟨RX48, "writes", "(I)I"⟩
theorem dX48_writes_0 : decode cX48_writes 0 = .ok (.iconst 0, 1) := by decide +kernel
theorem dX48_writes_1 : decode cX48_writes 1 = .ok (.istore_n 2, 1) := by decide +kernel
theorem dX48_writes_2 : decode cX48_writes 2 = .ok (.iconst 0, 1) := by decide +kernel
theorem dX48_writes_3 : decode cX48_writes 3 = .ok (.istore_n 3, 1) := by decide +kernel
theorem dX48_writes_4 : decode cX48_writes 4 = .ok (.iload_n 3, 1) := by decide +kernel
theorem dX48_writes_5 : decode cX48_writes 5 = .ok (.sipush 200, 3) := by decide +kernel
theorem dX48_writes_8 : decode cX48_writes 8 = .ok (.if_icmp .ge 32, 3) := by decide +kernel
theorem dX48_writes_11 : decode cX48_writes 11 = .ok (.iload_n 2, 1) := by decide +kernel
theorem dX48_writes_12 : decode cX48_writes 12 = .ok (.aload_n 0, 1) := by decide +kernel
theorem dX48_writes_13 : decode cX48_writes 13 = .ok (.getfield 39, 3) := by decide +kernel
theorem dX48_writes_16 : decode cX48_writes 16 = .ok (.sipush 200, 3) := by decide +kernel
theorem dX48_writes_19 : decode cX48_writes 19 = .ok (.iload_n 1, 1) := by decide +kernel
theorem dX48_writes_20 : decode cX48_writes 20 = .ok (.imul, 1) := by decide +kernel
theorem dX48_writes_21 : decode cX48_writes 21 = .ok (.iload_n 3, 1) := by decide +kernel
theorem dX48_writes_22 : decode cX48_writes 22 = .ok (.iadd, 1) := by decide +kernel
theorem dX48_writes_23 : decode cX48_writes 23 = .ok (.iaload, 1) := by decide +kernel
theorem dX48_writes_24 : decode cX48_writes 24 = .ok (.ifCond .le 7, 3) := by decide +kernel
theorem dX48_writes_27 : decode cX48_writes 27 = .ok (.iconst 1, 1) := by decide +kernel
theorem dX48_writes_28 : decode cX48_writes 28 = .ok (.goto 4, 3) := by decide +kernel
theorem dX48_writes_31 : decode cX48_writes 31 = .ok (.iconst 0, 1) := by decide +kernel
theorem dX48_writes_32 : decode cX48_writes 32 = .ok (.iadd, 1) := by decide +kernel
theorem dX48_writes_33 : decode cX48_writes 33 = .ok (.istore_n 2, 1) := by decide +kernel
theorem dX48_writes_34 : decode cX48_writes 34 = .ok (.iinc 3 1, 3) := by decide +kernel
theorem dX48_writes_37 : decode cX48_writes 37 = .ok (.goto (-33), 3) := by decide +kernel
theorem dX48_writes_40 : decode cX48_writes 40 = .ok (.iload_n 2, 1) := by decide +kernel
theorem dX48_writes_41 : decode cX48_writes 41 = .ok (.ireturn, 1) := by decide +kernel
abbrev cX48_commit : ByteArray := prog_89_method_36_code
def yX48_commit : MethodName := ⟨RX48, "commit", "(I)I"⟩
theorem dX48_commit_0 : decode cX48_commit 0 = .ok (.aload_n 0, 1) := by decide +kernel
theorem dX48_commit_1 : decode cX48_commit 1 = .ok (.iload_n 1, 1) := by decide +kernel
theorem dX48_commit_2 : decode cX48_commit 2 = .ok (.invokevirtual 111, 3) := by decide +kernel
theorem dX48_commit_5 : decode cX48_commit 5 = .ok (.istore_n 2, 1) := by decide +kernel
theorem dX48_commit_6 : decode cX48_commit 6 = .ok (.aload_n 0, 1) := by decide +kernel
theorem dX48_commit_7 : decode cX48_commit 7 = .ok (.iload_n 2, 1) := by decide +kernel
theorem dX48_commit_8 : decode cX48_commit 8 = .ok (.iload_n 2, 1) := by decide +kernel
theorem dX48_commit_9 : decode cX48_commit 9 = .ok (.ifCond .eq 25, 3) := by decide +kernel
theorem dX48_commit_12 : decode cX48_commit 12 = .ok (.aload_n 0, 1) := by decide +kernel
theorem dX48_commit_13 : decode cX48_commit 13 = .ok (.iload_n 1, 1) := by decide +kernel
theorem dX48_commit_14 : decode cX48_commit 14 = .ok (.invokevirtual 89, 3) := by decide +kernel
theorem dX48_commit_17 : decode cX48_commit 17 = .ok (.ifCond .eq 17, 3) := by decide +kernel
theorem dX48_commit_20 : decode cX48_commit 20 = .ok (.aload_n 0, 1) := by decide +kernel
theorem dX48_commit_21 : decode cX48_commit 21 = .ok (.getfield 33, 3) := by decide +kernel
theorem dX48_commit_24 : decode cX48_commit 24 = .ok (.iload_n 1, 1) := by decide +kernel
theorem dX48_commit_25 : decode cX48_commit 25 = .ok (.iaload, 1) := by decide +kernel
theorem dX48_commit_26 : decode cX48_commit 26 = .ok (.iconst 1, 1) := by decide +kernel
theorem dX48_commit_27 : decode cX48_commit 27 = .ok (.if_icmp .eq 7, 3) := by decide +kernel
theorem dX48_commit_30 : decode cX48_commit 30 = .ok (.iconst 1, 1) := by decide +kernel
theorem dX48_commit_31 : decode cX48_commit 31 = .ok (.goto 4, 3) := by decide +kernel
theorem dX48_commit_34 : decode cX48_commit 34 = .ok (.iconst 0, 1) := by decide +kernel
theorem dX48_commit_35 : decode cX48_commit 35 = .ok (.invokevirtual 99, 3) := by decide +kernel
theorem dX48_commit_38 : decode cX48_commit 38 = .ok (.ifCond .eq 5, 3) := by decide +kernel
theorem dX48_commit_41 : decode cX48_commit 41 = .ok (.iconst 0, 1) := by decide +kernel
theorem dX48_commit_42 : decode cX48_commit 42 = .ok (.ireturn, 1) := by decide +kernel
theorem dX48_commit_43 : decode cX48_commit 43 = .ok (.aload_n 0, 1) := by decide +kernel
theorem dX48_commit_44 : decode cX48_commit 44 = .ok (.iload_n 1, 1) := by decide +kernel
theorem dX48_commit_45 : decode cX48_commit 45 = .ok (.invokevirtual 154, 3) := by decide +kernel
theorem dX48_commit_48 : decode cX48_commit 48 = .ok (.istore_n 3, 1) := by decide +kernel
theorem dX48_commit_49 : decode cX48_commit 49 = .ok (.aload_n 0, 1) := by decide +kernel
theorem dX48_commit_50 : decode cX48_commit 50 = .ok (.getfield 33, 3) := by decide +kernel
theorem dX48_commit_53 : decode cX48_commit 53 = .ok (.iload_n 1, 1) := by decide +kernel
theorem dX48_commit_54 : decode cX48_commit 54 = .ok (.iaload, 1) := by decide +kernel
theorem dX48_commit_55 : decode cX48_commit 55 = .ok (.iconst 2, 1) := by decide +kernel
theorem dX48_commit_56 : decode cX48_commit 56 = .ok (.if_icmp .eq 7, 3) := by decide +kernel
theorem dX48_commit_59 : decode cX48_commit 59 = .ok (.iload_n 3, 1) := by decide +kernel
theorem dX48_commit_60 : decode cX48_commit 60 = .ok (.ifCond .lt 35, 3) := by decide +kernel
theorem dX48_commit_63 : decode cX48_commit 63 = .ok (.aload_n 0, 1) := by decide +kernel
theorem dX48_commit_64 : decode cX48_commit 64 = .ok (.getfield 33, 3) := by decide +kernel
theorem dX48_commit_67 : decode cX48_commit 67 = .ok (.iload_n 1, 1) := by decide +kernel
theorem dX48_commit_68 : decode cX48_commit 68 = .ok (.iaload, 1) := by decide +kernel
theorem dX48_commit_69 : decode cX48_commit 69 = .ok (.iconst 2, 1) := by decide +kernel
theorem dX48_commit_70 : decode cX48_commit 70 = .ok (.if_icmp .eq 13, 3) := by decide +kernel
theorem dX48_commit_73 : decode cX48_commit 73 = .ok (.aload_n 0, 1) := by decide +kernel
theorem dX48_commit_74 : decode cX48_commit 74 = .ok (.getfield 66, 3) := by decide +kernel
theorem dX48_commit_77 : decode cX48_commit 77 = .ok (.iload_n 3, 1) := by decide +kernel
theorem dX48_commit_78 : decode cX48_commit 78 = .ok (.dup2, 1) := by decide +kernel
theorem dX48_commit_79 : decode cX48_commit 79 = .ok (.iaload, 1) := by decide +kernel
theorem dX48_commit_80 : decode cX48_commit 80 = .ok (.iconst 1, 1) := by decide +kernel
theorem dX48_commit_81 : decode cX48_commit 81 = .ok (.iadd, 1) := by decide +kernel
theorem dX48_commit_82 : decode cX48_commit 82 = .ok (.iastore, 1) := by decide +kernel
theorem dX48_commit_83 : decode cX48_commit 83 = .ok (.aload_n 0, 1) := by decide +kernel
theorem dX48_commit_84 : decode cX48_commit 84 = .ok (.iload_n 1, 1) := by decide +kernel
theorem dX48_commit_85 : decode cX48_commit 85 = .ok (.iconst 4, 1) := by decide +kernel
theorem dX48_commit_86 : decode cX48_commit 86 = .ok (.invokevirtual 141, 3) := by decide +kernel
theorem dX48_commit_89 : decode cX48_commit 89 = .ok (.aload_n 0, 1) := by decide +kernel
theorem dX48_commit_90 : decode cX48_commit 90 = .ok (.invokevirtual 121, 3) := by decide +kernel
theorem dX48_commit_93 : decode cX48_commit 93 = .ok (.iconst 0, 1) := by decide +kernel
theorem dX48_commit_94 : decode cX48_commit 94 = .ok (.ireturn, 1) := by decide +kernel
theorem dX48_commit_95 : decode cX48_commit 95 = .ok (.aload_n 0, 1) := by decide +kernel
theorem dX48_commit_96 : decode cX48_commit 96 = .ok (.getfield 30, 3) := by decide +kernel
theorem dX48_commit_99 : decode cX48_commit 99 = .ok (.iload_n 1, 1) := by decide +kernel
theorem dX48_commit_100 : decode cX48_commit 100 = .ok (.iaload, 1) := by decide +kernel
theorem dX48_commit_101 : decode cX48_commit 101 = .ok (.istore 4, 2) := by decide +kernel
theorem dX48_commit_103 : decode cX48_commit 103 = .ok (.aload_n 0, 1) := by decide +kernel
theorem dX48_commit_104 : decode cX48_commit 104 = .ok (.getfield 79, 3) := by decide +kernel
theorem dX48_commit_107 : decode cX48_commit 107 = .ok (.iconst 1, 1) := by decide +kernel
theorem dX48_commit_108 : decode cX48_commit 108 = .ok (.iadd, 1) := by decide +kernel
theorem dX48_commit_109 : decode cX48_commit 109 = .ok (.istore 5, 2) := by decide +kernel
theorem dX48_commit_111 : decode cX48_commit 111 = .ok (.iconst 0, 1) := by decide +kernel
theorem dX48_commit_112 : decode cX48_commit 112 = .ok (.istore 6, 2) := by decide +kernel
theorem dX48_commit_114 : decode cX48_commit 114 = .ok (.iload 6, 2) := by decide +kernel
theorem dX48_commit_116 : decode cX48_commit 116 = .ok (.sipush 200, 3) := by decide +kernel
theorem dX48_commit_119 : decode cX48_commit 119 = .ok (.if_icmp .ge 114, 3) := by decide +kernel
theorem dX48_commit_122 : decode cX48_commit 122 = .ok (.aload_n 0, 1) := by decide +kernel
theorem dX48_commit_123 : decode cX48_commit 123 = .ok (.getfield 39, 3) := by decide +kernel
theorem dX48_commit_126 : decode cX48_commit 126 = .ok (.sipush 200, 3) := by decide +kernel
theorem dX48_commit_129 : decode cX48_commit 129 = .ok (.iload_n 1, 1) := by decide +kernel
theorem dX48_commit_130 : decode cX48_commit 130 = .ok (.imul, 1) := by decide +kernel
theorem dX48_commit_131 : decode cX48_commit 131 = .ok (.iload 6, 2) := by decide +kernel
theorem dX48_commit_133 : decode cX48_commit 133 = .ok (.iadd, 1) := by decide +kernel
theorem dX48_commit_134 : decode cX48_commit 134 = .ok (.iaload, 1) := by decide +kernel
theorem dX48_commit_135 : decode cX48_commit 135 = .ok (.istore 7, 2) := by decide +kernel
theorem dX48_commit_137 : decode cX48_commit 137 = .ok (.iload 7, 2) := by decide +kernel
theorem dX48_commit_139 : decode cX48_commit 139 = .ok (.ifCond .eq 88, 3) := by decide +kernel
theorem dX48_commit_142 : decode cX48_commit 142 = .ok (.iload 7, 2) := by decide +kernel
theorem dX48_commit_144 : decode cX48_commit 144 = .ok (.iconst 2, 1) := by decide +kernel
theorem dX48_commit_145 : decode cX48_commit 145 = .ok (.if_icmp .ne 7, 3) := by decide +kernel
theorem dX48_commit_148 : decode cX48_commit 148 = .ok (.iconst 1, 1) := by decide +kernel
theorem dX48_commit_149 : decode cX48_commit 149 = .ok (.goto 4, 3) := by decide +kernel
theorem dX48_commit_152 : decode cX48_commit 152 = .ok (.iconst 0, 1) := by decide +kernel
theorem dX48_commit_153 : decode cX48_commit 153 = .ok (.aload_n 0, 1) := by decide +kernel
theorem dX48_commit_154 : decode cX48_commit 154 = .ok (.iload 6, 2) := by decide +kernel
theorem dX48_commit_156 : decode cX48_commit 156 = .ok (.aload_n 0, 1) := by decide +kernel
theorem dX48_commit_157 : decode cX48_commit 157 = .ok (.getfield 30, 3) := by decide +kernel
theorem dX48_commit_160 : decode cX48_commit 160 = .ok (.iload_n 1, 1) := by decide +kernel
theorem dX48_commit_161 : decode cX48_commit 161 = .ok (.iaload, 1) := by decide +kernel
theorem dX48_commit_162 : decode cX48_commit 162 = .ok (.invokevirtual 103, 3) := by decide +kernel
theorem dX48_commit_165 : decode cX48_commit 165 = .ok (.if_icmp .ne 6, 3) := by decide +kernel
theorem dX48_commit_168 : decode cX48_commit 168 = .ok (.goto 59, 3) := by decide +kernel
theorem dX48_commit_171 : decode cX48_commit 171 = .ok (.aload_n 0, 1) := by decide +kernel
theorem dX48_commit_172 : decode cX48_commit 172 = .ok (.getfield 13, 3) := by decide +kernel
theorem dX48_commit_175 : decode cX48_commit 175 = .ok (.aload_n 0, 1) := by decide +kernel
theorem dX48_commit_176 : decode cX48_commit 176 = .ok (.getfield 82, 3) := by decide +kernel
theorem dX48_commit_179 : decode cX48_commit 179 = .ok (.iload 6, 2) := by decide +kernel
theorem dX48_commit_181 : decode cX48_commit 181 = .ok (.iastore, 1) := by decide +kernel
theorem dX48_commit_182 : decode cX48_commit 182 = .ok (.aload_n 0, 1) := by decide +kernel
theorem dX48_commit_183 : decode cX48_commit 183 = .ok (.getfield 17, 3) := by decide +kernel
theorem dX48_commit_186 : decode cX48_commit 186 = .ok (.aload_n 0, 1) := by decide +kernel
theorem dX48_commit_187 : decode cX48_commit 187 = .ok (.getfield 82, 3) := by decide +kernel
theorem dX48_commit_190 : decode cX48_commit 190 = .ok (.iload 5, 2) := by decide +kernel
theorem dX48_commit_192 : decode cX48_commit 192 = .ok (.iastore, 1) := by decide +kernel
theorem dX48_commit_193 : decode cX48_commit 193 = .ok (.aload_n 0, 1) := by decide +kernel
theorem dX48_commit_194 : decode cX48_commit 194 = .ok (.getfield 20, 3) := by decide +kernel
theorem dX48_commit_197 : decode cX48_commit 197 = .ok (.aload_n 0, 1) := by decide +kernel
theorem dX48_commit_198 : decode cX48_commit 198 = .ok (.getfield 82, 3) := by decide +kernel
theorem dX48_commit_201 : decode cX48_commit 201 = .ok (.iload 7, 2) := by decide +kernel
theorem dX48_commit_203 : decode cX48_commit 203 = .ok (.iconst 2, 1) := by decide +kernel
theorem dX48_commit_204 : decode cX48_commit 204 = .ok (.if_icmp .ne 7, 3) := by decide +kernel
theorem dX48_commit_207 : decode cX48_commit 207 = .ok (.iconst 1, 1) := by decide +kernel
theorem dX48_commit_208 : decode cX48_commit 208 = .ok (.goto 4, 3) := by decide +kernel
theorem dX48_commit_211 : decode cX48_commit 211 = .ok (.iconst 0, 1) := by decide +kernel
theorem dX48_commit_212 : decode cX48_commit 212 = .ok (.bastore, 1) := by decide +kernel
theorem dX48_commit_213 : decode cX48_commit 213 = .ok (.aload_n 0, 1) := by decide +kernel
theorem dX48_commit_214 : decode cX48_commit 214 = .ok (.dup, 1) := by decide +kernel
theorem dX48_commit_215 : decode cX48_commit 215 = .ok (.getfield 82, 3) := by decide +kernel
theorem dX48_commit_218 : decode cX48_commit 218 = .ok (.iconst 1, 1) := by decide +kernel
theorem dX48_commit_219 : decode cX48_commit 219 = .ok (.iadd, 1) := by decide +kernel
theorem dX48_commit_220 : decode cX48_commit 220 = .ok (.putfield 82, 3) := by decide +kernel
theorem dX48_commit_223 : decode cX48_commit 223 = .ok (.iload 5, 2) := by decide +kernel
theorem dX48_commit_225 : decode cX48_commit 225 = .ok (.istore 4, 2) := by decide +kernel
theorem dX48_commit_227 : decode cX48_commit 227 = .ok (.iinc 6 1, 3) := by decide +kernel
theorem dX48_commit_230 : decode cX48_commit 230 = .ok (.goto (-116), 3) := by decide +kernel
theorem dX48_commit_233 : decode cX48_commit 233 = .ok (.iload 4, 2) := by decide +kernel
theorem dX48_commit_235 : decode cX48_commit 235 = .ok (.iload 5, 2) := by decide +kernel
theorem dX48_commit_237 : decode cX48_commit 237 = .ok (.if_icmp .ne 9, 3) := by decide +kernel
theorem dX48_commit_240 : decode cX48_commit 240 = .ok (.aload_n 0, 1) := by decide +kernel
theorem dX48_commit_241 : decode cX48_commit 241 = .ok (.iload 5, 2) := by decide +kernel
theorem dX48_commit_243 : decode cX48_commit 243 = .ok (.putfield 79, 3) := by decide +kernel
theorem dX48_commit_246 : decode cX48_commit 246 = .ok (.aload_n 0, 1) := by decide +kernel
theorem dX48_commit_247 : decode cX48_commit 247 = .ok (.iload_n 1, 1) := by decide +kernel
theorem dX48_commit_248 : decode cX48_commit 248 = .ok (.iconst 3, 1) := by decide +kernel
theorem dX48_commit_249 : decode cX48_commit 249 = .ok (.invokevirtual 141, 3) := by decide +kernel
theorem dX48_commit_252 : decode cX48_commit 252 = .ok (.aload_n 0, 1) := by decide +kernel
theorem dX48_commit_253 : decode cX48_commit 253 = .ok (.invokevirtual 121, 3) := by decide +kernel
theorem dX48_commit_256 : decode cX48_commit 256 = .ok (.iload 4, 2) := by decide +kernel
theorem dX48_commit_258 : decode cX48_commit 258 = .ok (.ireturn, 1) := by decide +kernel
abbrev cX48_changed : ByteArray := prog_89_method_35_code
def yX48_changed : MethodName := ⟨RX48, "changed", "(I)I"⟩
theorem dX48_changed_0 : decode cX48_changed 0 = .ok (.iconst 0, 1) := by decide +kernel
theorem dX48_changed_1 : decode cX48_changed 1 = .ok (.istore_n 2, 1) := by decide +kernel
theorem dX48_changed_2 : decode cX48_changed 2 = .ok (.iload_n 2, 1) := by decide +kernel
theorem dX48_changed_3 : decode cX48_changed 3 = .ok (.iconst 4, 1) := by decide +kernel
theorem dX48_changed_4 : decode cX48_changed 4 = .ok (.if_icmp .ge 63, 3) := by decide +kernel
theorem dX48_changed_7 : decode cX48_changed 7 = .ok (.aload_n 0, 1) := by decide +kernel
theorem dX48_changed_8 : decode cX48_changed 8 = .ok (.getfield 36, 3) := by decide +kernel
theorem dX48_changed_11 : decode cX48_changed 11 = .ok (.iload_n 1, 1) := by decide +kernel
theorem dX48_changed_12 : decode cX48_changed 12 = .ok (.iaload, 1) := by decide +kernel
theorem dX48_changed_13 : decode cX48_changed 13 = .ok (.iload_n 2, 1) := by decide +kernel
theorem dX48_changed_14 : decode cX48_changed 14 = .ok (.ishr, 1) := by decide +kernel
theorem dX48_changed_15 : decode cX48_changed 15 = .ok (.iconst 1, 1) := by decide +kernel
theorem dX48_changed_16 : decode cX48_changed 16 = .ok (.iand, 1) := by decide +kernel
theorem dX48_changed_17 : decode cX48_changed 17 = .ok (.ifCond .ne 6, 3) := by decide +kernel
theorem dX48_changed_20 : decode cX48_changed 20 = .ok (.goto 41, 3) := by decide +kernel
theorem dX48_changed_23 : decode cX48_changed 23 = .ok (.bipush 50, 2) := by decide +kernel
theorem dX48_changed_25 : decode cX48_changed 25 = .ok (.iload_n 2, 1) := by decide +kernel
theorem dX48_changed_26 : decode cX48_changed 26 = .ok (.imul, 1) := by decide +kernel
theorem dX48_changed_27 : decode cX48_changed 27 = .ok (.istore_n 3, 1) := by decide +kernel
theorem dX48_changed_28 : decode cX48_changed 28 = .ok (.iload_n 3, 1) := by decide +kernel
theorem dX48_changed_29 : decode cX48_changed 29 = .ok (.bipush 50, 2) := by decide +kernel
theorem dX48_changed_31 : decode cX48_changed 31 = .ok (.iload_n 2, 1) := by decide +kernel
theorem dX48_changed_32 : decode cX48_changed 32 = .ok (.imul, 1) := by decide +kernel
theorem dX48_changed_33 : decode cX48_changed 33 = .ok (.bipush 50, 2) := by decide +kernel
theorem dX48_changed_35 : decode cX48_changed 35 = .ok (.iadd, 1) := by decide +kernel
theorem dX48_changed_36 : decode cX48_changed 36 = .ok (.if_icmp .ge 25, 3) := by decide +kernel
theorem dX48_changed_39 : decode cX48_changed 39 = .ok (.aload_n 0, 1) := by decide +kernel
theorem dX48_changed_40 : decode cX48_changed 40 = .ok (.iload_n 3, 1) := by decide +kernel
theorem dX48_changed_41 : decode cX48_changed 41 = .ok (.aload_n 0, 1) := by decide +kernel
theorem dX48_changed_42 : decode cX48_changed 42 = .ok (.getfield 30, 3) := by decide +kernel
theorem dX48_changed_45 : decode cX48_changed 45 = .ok (.iload_n 1, 1) := by decide +kernel
theorem dX48_changed_46 : decode cX48_changed 46 = .ok (.iaload, 1) := by decide +kernel
theorem dX48_changed_47 : decode cX48_changed 47 = .ok (.invokevirtual 124, 3) := by decide +kernel
theorem dX48_changed_50 : decode cX48_changed 50 = .ok (.ifCond .eq 5, 3) := by decide +kernel
theorem dX48_changed_53 : decode cX48_changed 53 = .ok (.iload_n 2, 1) := by decide +kernel
theorem dX48_changed_54 : decode cX48_changed 54 = .ok (.ireturn, 1) := by decide +kernel
theorem dX48_changed_55 : decode cX48_changed 55 = .ok (.iinc 3 1, 3) := by decide +kernel
theorem dX48_changed_58 : decode cX48_changed 58 = .ok (.goto (-30), 3) := by decide +kernel
theorem dX48_changed_61 : decode cX48_changed 61 = .ok (.iinc 2 1, 3) := by decide +kernel
theorem dX48_changed_64 : decode cX48_changed 64 = .ok (.goto (-62), 3) := by decide +kernel
theorem dX48_changed_67 : decode cX48_changed 67 = .ok (.iconst (-1), 1) := by decide +kernel
theorem dX48_changed_68 : decode cX48_changed 68 = .ok (.ireturn, 1) := by decide +kernel
abbrev cX48_isThere : ByteArray := prog_89_method_9_code
def yX48_isThere : MethodName := ⟨RX48, "isThere", "(II)Z"⟩
theorem dX48_isThere_0 : decode cX48_isThere 0 = .ok (.aload_n 0, 1) := by decide +kernel
theorem dX48_isThere_1 : decode cX48_isThere 1 = .ok (.iload_n 1, 1) := by decide +kernel
theorem dX48_isThere_2 : decode cX48_isThere 2 = .ok (.iload_n 2, 1) := by decide +kernel
theorem dX48_isThere_3 : decode cX48_isThere 3 = .ok (.invokevirtual 85, 3) := by decide +kernel
theorem dX48_isThere_6 : decode cX48_isThere 6 = .ok (.istore_n 3, 1) := by decide +kernel
theorem dX48_isThere_7 : decode cX48_isThere 7 = .ok (.iload_n 3, 1) := by decide +kernel
theorem dX48_isThere_8 : decode cX48_isThere 8 = .ok (.ifCond .lt 16, 3) := by decide +kernel
theorem dX48_isThere_11 : decode cX48_isThere 11 = .ok (.aload_n 0, 1) := by decide +kernel
theorem dX48_isThere_12 : decode cX48_isThere 12 = .ok (.getfield 20, 3) := by decide +kernel
theorem dX48_isThere_15 : decode cX48_isThere 15 = .ok (.iload_n 3, 1) := by decide +kernel
theorem dX48_isThere_16 : decode cX48_isThere 16 = .ok (.baload, 1) := by decide +kernel
theorem dX48_isThere_17 : decode cX48_isThere 17 = .ok (.ifCond .eq 7, 3) := by decide +kernel
theorem dX48_isThere_20 : decode cX48_isThere 20 = .ok (.iconst 1, 1) := by decide +kernel
theorem dX48_isThere_21 : decode cX48_isThere 21 = .ok (.goto 4, 3) := by decide +kernel
theorem dX48_isThere_24 : decode cX48_isThere 24 = .ok (.iconst 0, 1) := by decide +kernel
theorem dX48_isThere_25 : decode cX48_isThere 25 = .ok (.ireturn, 1) := by decide +kernel
abbrev cX48_rowOf : ByteArray := prog_89_method_8_code
def yX48_rowOf : MethodName := ⟨RX48, "rowOf", "(II)I"⟩
theorem dX48_rowOf_0 : decode cX48_rowOf 0 = .ok (.iconst (-1), 1) := by decide +kernel
theorem dX48_rowOf_1 : decode cX48_rowOf 1 = .ok (.istore_n 3, 1) := by decide +kernel
theorem dX48_rowOf_2 : decode cX48_rowOf 2 = .ok (.iconst 0, 1) := by decide +kernel
theorem dX48_rowOf_3 : decode cX48_rowOf 3 = .ok (.istore 4, 2) := by decide +kernel
theorem dX48_rowOf_5 : decode cX48_rowOf 5 = .ok (.iload 4, 2) := by decide +kernel
theorem dX48_rowOf_7 : decode cX48_rowOf 7 = .ok (.aload_n 0, 1) := by decide +kernel
theorem dX48_rowOf_8 : decode cX48_rowOf 8 = .ok (.getfield 82, 3) := by decide +kernel
theorem dX48_rowOf_11 : decode cX48_rowOf 11 = .ok (.if_icmp .ge 54, 3) := by decide +kernel
theorem dX48_rowOf_14 : decode cX48_rowOf 14 = .ok (.aload_n 0, 1) := by decide +kernel
theorem dX48_rowOf_15 : decode cX48_rowOf 15 = .ok (.getfield 13, 3) := by decide +kernel
theorem dX48_rowOf_18 : decode cX48_rowOf 18 = .ok (.iload 4, 2) := by decide +kernel
theorem dX48_rowOf_20 : decode cX48_rowOf 20 = .ok (.iaload, 1) := by decide +kernel
theorem dX48_rowOf_21 : decode cX48_rowOf 21 = .ok (.iload_n 1, 1) := by decide +kernel
theorem dX48_rowOf_22 : decode cX48_rowOf 22 = .ok (.if_icmp .ne 37, 3) := by decide +kernel
theorem dX48_rowOf_25 : decode cX48_rowOf 25 = .ok (.aload_n 0, 1) := by decide +kernel
theorem dX48_rowOf_26 : decode cX48_rowOf 26 = .ok (.getfield 17, 3) := by decide +kernel
theorem dX48_rowOf_29 : decode cX48_rowOf 29 = .ok (.iload 4, 2) := by decide +kernel
theorem dX48_rowOf_31 : decode cX48_rowOf 31 = .ok (.iaload, 1) := by decide +kernel
theorem dX48_rowOf_32 : decode cX48_rowOf 32 = .ok (.iload_n 2, 1) := by decide +kernel
theorem dX48_rowOf_33 : decode cX48_rowOf 33 = .ok (.if_icmp .gt 26, 3) := by decide +kernel
theorem dX48_rowOf_36 : decode cX48_rowOf 36 = .ok (.iload_n 3, 1) := by decide +kernel
theorem dX48_rowOf_37 : decode cX48_rowOf 37 = .ok (.ifCond .lt 19, 3) := by decide +kernel
theorem dX48_rowOf_40 : decode cX48_rowOf 40 = .ok (.aload_n 0, 1) := by decide +kernel
theorem dX48_rowOf_41 : decode cX48_rowOf 41 = .ok (.getfield 17, 3) := by decide +kernel
theorem dX48_rowOf_44 : decode cX48_rowOf 44 = .ok (.iload 4, 2) := by decide +kernel
theorem dX48_rowOf_46 : decode cX48_rowOf 46 = .ok (.iaload, 1) := by decide +kernel
theorem dX48_rowOf_47 : decode cX48_rowOf 47 = .ok (.aload_n 0, 1) := by decide +kernel
theorem dX48_rowOf_48 : decode cX48_rowOf 48 = .ok (.getfield 17, 3) := by decide +kernel
theorem dX48_rowOf_51 : decode cX48_rowOf 51 = .ok (.iload_n 3, 1) := by decide +kernel
theorem dX48_rowOf_52 : decode cX48_rowOf 52 = .ok (.iaload, 1) := by decide +kernel
theorem dX48_rowOf_53 : decode cX48_rowOf 53 = .ok (.if_icmp .le 6, 3) := by decide +kernel
theorem dX48_rowOf_56 : decode cX48_rowOf 56 = .ok (.iload 4, 2) := by decide +kernel
theorem dX48_rowOf_58 : decode cX48_rowOf 58 = .ok (.istore_n 3, 1) := by decide +kernel
theorem dX48_rowOf_59 : decode cX48_rowOf 59 = .ok (.iinc 4 1, 3) := by decide +kernel
theorem dX48_rowOf_62 : decode cX48_rowOf 62 = .ok (.goto (-57), 3) := by decide +kernel
theorem dX48_rowOf_65 : decode cX48_rowOf 65 = .ok (.iload_n 3, 1) := by decide +kernel
theorem dX48_rowOf_66 : decode cX48_rowOf 66 = .ok (.ireturn, 1) := by decide +kernel
abbrev cX48_told : ByteArray := prog_89_method_15_code
def yX48_told : MethodName := ⟨RX48, "told", "(II)Z"⟩
theorem dX48_told_0 : decode cX48_told 0 = .ok (.aload_n 0, 1) := by decide +kernel
theorem dX48_told_1 : decode cX48_told 1 = .ok (.aload_n 0, 1) := by decide +kernel
theorem dX48_told_2 : decode cX48_told 2 = .ok (.iload_n 1, 1) := by decide +kernel
theorem dX48_told_3 : decode cX48_told 3 = .ok (.invokevirtual 93, 3) := by decide +kernel
theorem dX48_told_6 : decode cX48_told 6 = .ok (.ifCond .eq 14, 3) := by decide +kernel
theorem dX48_told_9 : decode cX48_told 9 = .ok (.iload_n 2, 1) := by decide +kernel
theorem dX48_told_10 : decode cX48_told 10 = .ok (.invokestatic 96, 3) := by decide +kernel
theorem dX48_told_13 : decode cX48_told 13 = .ok (.ifCond .eq 7, 3) := by decide +kernel
theorem dX48_told_16 : decode cX48_told 16 = .ok (.iconst 1, 1) := by decide +kernel
theorem dX48_told_17 : decode cX48_told 17 = .ok (.goto 4, 3) := by decide +kernel
theorem dX48_told_20 : decode cX48_told 20 = .ok (.iconst 0, 1) := by decide +kernel
theorem dX48_told_21 : decode cX48_told 21 = .ok (.iconst 1, 1) := by decide +kernel
theorem dX48_told_22 : decode cX48_told 22 = .ok (.invokevirtual 99, 3) := by decide +kernel
theorem dX48_told_25 : decode cX48_told 25 = .ok (.ifCond .ne 16, 3) := by decide +kernel
theorem dX48_told_28 : decode cX48_told 28 = .ok (.aload_n 0, 1) := by decide +kernel
theorem dX48_told_29 : decode cX48_told 29 = .ok (.iload_n 2, 1) := by decide +kernel
theorem dX48_told_30 : decode cX48_told 30 = .ok (.iload_n 1, 1) := by decide +kernel
theorem dX48_told_31 : decode cX48_told 31 = .ok (.invokevirtual 103, 3) := by decide +kernel
theorem dX48_told_34 : decode cX48_told 34 = .ok (.ifCond .eq 7, 3) := by decide +kernel
theorem dX48_told_37 : decode cX48_told 37 = .ok (.iconst 1, 1) := by decide +kernel
theorem dX48_told_38 : decode cX48_told 38 = .ok (.goto 4, 3) := by decide +kernel
theorem dX48_told_41 : decode cX48_told 41 = .ok (.iconst 0, 1) := by decide +kernel
theorem dX48_told_42 : decode cX48_told 42 = .ok (.ireturn, 1) := by decide +kernel
abbrev cX48_isTellable : ByteArray := prog_89_method_7_code
def yX48_isTellable : MethodName := ⟨RX48, "isTellable", "(I)Z"⟩
theorem dX48_isTellable_0 : decode cX48_isTellable 0 = .ok (.iload_n 1, 1) := by decide +kernel
theorem dX48_isTellable_1 : decode cX48_isTellable 1 = .ok (.aload_n 0, 1) := by decide +kernel
theorem dX48_isTellable_2 : decode cX48_isTellable 2 = .ok (.invokevirtual 75, 3) := by decide +kernel
theorem dX48_isTellable_5 : decode cX48_isTellable 5 = .ok (.if_icmp .lt 15, 3) := by decide +kernel
theorem dX48_isTellable_8 : decode cX48_isTellable 8 = .ok (.iload_n 1, 1) := by decide +kernel
theorem dX48_isTellable_9 : decode cX48_isTellable 9 = .ok (.aload_n 0, 1) := by decide +kernel
theorem dX48_isTellable_10 : decode cX48_isTellable 10 = .ok (.getfield 79, 3) := by decide +kernel
theorem dX48_isTellable_13 : decode cX48_isTellable 13 = .ok (.if_icmp .gt 7, 3) := by decide +kernel
theorem dX48_isTellable_16 : decode cX48_isTellable 16 = .ok (.iconst 1, 1) := by decide +kernel
theorem dX48_isTellable_17 : decode cX48_isTellable 17 = .ok (.goto 4, 3) := by decide +kernel
theorem dX48_isTellable_20 : decode cX48_isTellable 20 = .ok (.iconst 0, 1) := by decide +kernel
theorem dX48_isTellable_21 : decode cX48_isTellable 21 = .ok (.ireturn, 1) := by decide +kernel
abbrev cX48_leastKept : ByteArray := prog_89_method_12_code
def yX48_leastKept : MethodName := ⟨RX48, "leastKept", "()I"⟩
theorem dX48_leastKept_0 : decode cX48_leastKept 0 = .ok (.aload_n 0, 1) := by decide +kernel
theorem dX48_leastKept_1 : decode cX48_leastKept 1 = .ok (.getfield 79, 3) := by decide +kernel
theorem dX48_leastKept_4 : decode cX48_leastKept 4 = .ok (.istore_n 1, 1) := by decide +kernel
theorem dX48_leastKept_5 : decode cX48_leastKept 5 = .ok (.iconst 0, 1) := by decide +kernel
theorem dX48_leastKept_6 : decode cX48_leastKept 6 = .ok (.istore_n 2, 1) := by decide +kernel
theorem dX48_leastKept_7 : decode cX48_leastKept 7 = .ok (.iload_n 2, 1) := by decide +kernel
theorem dX48_leastKept_8 : decode cX48_leastKept 8 = .ok (.aload_n 0, 1) := by decide +kernel
theorem dX48_leastKept_9 : decode cX48_leastKept 9 = .ok (.getfield 72, 3) := by decide +kernel
theorem dX48_leastKept_12 : decode cX48_leastKept 12 = .ok (.if_icmp .ge 38, 3) := by decide +kernel
theorem dX48_leastKept_15 : decode cX48_leastKept 15 = .ok (.aload_n 0, 1) := by decide +kernel
theorem dX48_leastKept_16 : decode cX48_leastKept 16 = .ok (.iload_n 2, 1) := by decide +kernel
theorem dX48_leastKept_17 : decode cX48_leastKept 17 = .ok (.invokevirtual 89, 3) := by decide +kernel
theorem dX48_leastKept_20 : decode cX48_leastKept 20 = .ok (.ifCond .eq 22, 3) := by decide +kernel
theorem dX48_leastKept_23 : decode cX48_leastKept 23 = .ok (.aload_n 0, 1) := by decide +kernel
theorem dX48_leastKept_24 : decode cX48_leastKept 24 = .ok (.getfield 30, 3) := by decide +kernel
theorem dX48_leastKept_27 : decode cX48_leastKept 27 = .ok (.iload_n 2, 1) := by decide +kernel
theorem dX48_leastKept_28 : decode cX48_leastKept 28 = .ok (.iaload, 1) := by decide +kernel
theorem dX48_leastKept_29 : decode cX48_leastKept 29 = .ok (.iload_n 1, 1) := by decide +kernel
theorem dX48_leastKept_30 : decode cX48_leastKept 30 = .ok (.if_icmp .ge 12, 3) := by decide +kernel
theorem dX48_leastKept_33 : decode cX48_leastKept 33 = .ok (.aload_n 0, 1) := by decide +kernel
theorem dX48_leastKept_34 : decode cX48_leastKept 34 = .ok (.getfield 30, 3) := by decide +kernel
theorem dX48_leastKept_37 : decode cX48_leastKept 37 = .ok (.iload_n 2, 1) := by decide +kernel
theorem dX48_leastKept_38 : decode cX48_leastKept 38 = .ok (.iaload, 1) := by decide +kernel
theorem dX48_leastKept_39 : decode cX48_leastKept 39 = .ok (.goto 4, 3) := by decide +kernel
theorem dX48_leastKept_42 : decode cX48_leastKept 42 = .ok (.iload_n 1, 1) := by decide +kernel
theorem dX48_leastKept_43 : decode cX48_leastKept 43 = .ok (.istore_n 1, 1) := by decide +kernel
theorem dX48_leastKept_44 : decode cX48_leastKept 44 = .ok (.iinc 2 1, 3) := by decide +kernel
theorem dX48_leastKept_47 : decode cX48_leastKept 47 = .ok (.goto (-40), 3) := by decide +kernel
theorem dX48_leastKept_50 : decode cX48_leastKept 50 = .ok (.iconst 0, 1) := by decide +kernel
theorem dX48_leastKept_51 : decode cX48_leastKept 51 = .ok (.istore_n 2, 1) := by decide +kernel
theorem dX48_leastKept_52 : decode cX48_leastKept 52 = .ok (.iload_n 2, 1) := by decide +kernel
theorem dX48_leastKept_53 : decode cX48_leastKept 53 = .ok (.bipush 64, 2) := by decide +kernel
theorem dX48_leastKept_55 : decode cX48_leastKept 55 = .ok (.if_icmp .ge 29, 3) := by decide +kernel
theorem dX48_leastKept_58 : decode cX48_leastKept 58 = .ok (.aload_n 0, 1) := by decide +kernel
theorem dX48_leastKept_59 : decode cX48_leastKept 59 = .ok (.getfield 24, 3) := by decide +kernel
theorem dX48_leastKept_62 : decode cX48_leastKept 62 = .ok (.iload_n 2, 1) := by decide +kernel
theorem dX48_leastKept_63 : decode cX48_leastKept 63 = .ok (.iaload, 1) := by decide +kernel
theorem dX48_leastKept_64 : decode cX48_leastKept 64 = .ok (.ifCond .le 12, 3) := by decide +kernel
theorem dX48_leastKept_67 : decode cX48_leastKept 67 = .ok (.iload_n 2, 1) := by decide +kernel
theorem dX48_leastKept_68 : decode cX48_leastKept 68 = .ok (.iload_n 1, 1) := by decide +kernel
theorem dX48_leastKept_69 : decode cX48_leastKept 69 = .ok (.if_icmp .ge 7, 3) := by decide +kernel
theorem dX48_leastKept_72 : decode cX48_leastKept 72 = .ok (.iload_n 2, 1) := by decide +kernel
theorem dX48_leastKept_73 : decode cX48_leastKept 73 = .ok (.goto 4, 3) := by decide +kernel
theorem dX48_leastKept_76 : decode cX48_leastKept 76 = .ok (.iload_n 1, 1) := by decide +kernel
theorem dX48_leastKept_77 : decode cX48_leastKept 77 = .ok (.istore_n 1, 1) := by decide +kernel
theorem dX48_leastKept_78 : decode cX48_leastKept 78 = .ok (.iinc 2 1, 3) := by decide +kernel
theorem dX48_leastKept_81 : decode cX48_leastKept 81 = .ok (.goto (-29), 3) := by decide +kernel
theorem dX48_leastKept_84 : decode cX48_leastKept 84 = .ok (.iload_n 1, 1) := by decide +kernel
theorem dX48_leastKept_85 : decode cX48_leastKept 85 = .ok (.ireturn, 1) := by decide +kernel
abbrev cX48_look : ByteArray := prog_89_method_21_code
def yX48_look : MethodName := ⟨RX48, "look", "(I)I"⟩
theorem dX48_look_0 : decode cX48_look 0 = .ok (.aload_n 0, 1) := by decide +kernel
theorem dX48_look_1 : decode cX48_look 1 = .ok (.aload_n 0, 1) := by decide +kernel
theorem dX48_look_2 : decode cX48_look 2 = .ok (.iload_n 1, 1) := by decide +kernel
theorem dX48_look_3 : decode cX48_look 3 = .ok (.invokevirtual 93, 3) := by decide +kernel
theorem dX48_look_6 : decode cX48_look 6 = .ok (.aload_n 0, 1) := by decide +kernel
theorem dX48_look_7 : decode cX48_look 7 = .ok (.getfield 72, 3) := by decide +kernel
theorem dX48_look_10 : decode cX48_look 10 = .ok (.bipush 60, 2) := by decide +kernel
theorem dX48_look_12 : decode cX48_look 12 = .ok (.if_icmp .ge 7, 3) := by decide +kernel
theorem dX48_look_15 : decode cX48_look 15 = .ok (.iconst 1, 1) := by decide +kernel
theorem dX48_look_16 : decode cX48_look 16 = .ok (.goto 4, 3) := by decide +kernel
theorem dX48_look_19 : decode cX48_look 19 = .ok (.iconst 0, 1) := by decide +kernel
theorem dX48_look_20 : decode cX48_look 20 = .ok (.invokevirtual 99, 3) := by decide +kernel
theorem dX48_look_23 : decode cX48_look 23 = .ok (.ifCond .eq 7, 3) := by decide +kernel
theorem dX48_look_26 : decode cX48_look 26 = .ok (.iconst 0, 1) := by decide +kernel
theorem dX48_look_27 : decode cX48_look 27 = .ok (.goto 9, 3) := by decide +kernel
theorem dX48_look_30 : decode cX48_look 30 = .ok (.aload_n 0, 1) := by decide +kernel
theorem dX48_look_31 : decode cX48_look 31 = .ok (.iconst 0, 1) := by decide +kernel
theorem dX48_look_32 : decode cX48_look 32 = .ok (.iload_n 1, 1) := by decide +kernel
theorem dX48_look_33 : decode cX48_look 33 = .ok (.invokevirtual 107, 3) := by decide +kernel
theorem dX48_look_36 : decode cX48_look 36 = .ok (.ireturn, 1) := by decide +kernel
abbrev cX48_note : ByteArray := prog_89_method_26_code
def yX48_note : MethodName := ⟨RX48, "note", "(II)I"⟩
theorem dX48_note_0 : decode cX48_note 0 = .ok (.aload_n 0, 1) := by decide +kernel
theorem dX48_note_1 : decode cX48_note 1 = .ok (.iload_n 1, 1) := by decide +kernel
theorem dX48_note_2 : decode cX48_note 2 = .ok (.invokevirtual 111, 3) := by decide +kernel
theorem dX48_note_5 : decode cX48_note 5 = .ok (.ifCond .eq 16, 3) := by decide +kernel
theorem dX48_note_8 : decode cX48_note 8 = .ok (.iload_n 2, 1) := by decide +kernel
theorem dX48_note_9 : decode cX48_note 9 = .ok (.ifCond .lt 12, 3) := by decide +kernel
theorem dX48_note_12 : decode cX48_note 12 = .ok (.iload_n 2, 1) := by decide +kernel
theorem dX48_note_13 : decode cX48_note 13 = .ok (.iconst 4, 1) := by decide +kernel
theorem dX48_note_14 : decode cX48_note 14 = .ok (.if_icmp .ge 7, 3) := by decide +kernel
theorem dX48_note_17 : decode cX48_note 17 = .ok (.iconst 1, 1) := by decide +kernel
theorem dX48_note_18 : decode cX48_note 18 = .ok (.goto 4, 3) := by decide +kernel
theorem dX48_note_21 : decode cX48_note 21 = .ok (.iconst 0, 1) := by decide +kernel
theorem dX48_note_22 : decode cX48_note 22 = .ok (.istore_n 3, 1) := by decide +kernel
theorem dX48_note_23 : decode cX48_note 23 = .ok (.aload_n 0, 1) := by decide +kernel
theorem dX48_note_24 : decode cX48_note 24 = .ok (.iload_n 3, 1) := by decide +kernel
theorem dX48_note_25 : decode cX48_note 25 = .ok (.iload_n 3, 1) := by decide +kernel
theorem dX48_note_26 : decode cX48_note 26 = .ok (.ifCond .eq 15, 3) := by decide +kernel
theorem dX48_note_29 : decode cX48_note 29 = .ok (.aload_n 0, 1) := by decide +kernel
theorem dX48_note_30 : decode cX48_note 30 = .ok (.iload_n 1, 1) := by decide +kernel
theorem dX48_note_31 : decode cX48_note 31 = .ok (.invokevirtual 114, 3) := by decide +kernel
theorem dX48_note_34 : decode cX48_note 34 = .ok (.ifCond .eq 7, 3) := by decide +kernel
theorem dX48_note_37 : decode cX48_note 37 = .ok (.iconst 1, 1) := by decide +kernel
theorem dX48_note_38 : decode cX48_note 38 = .ok (.goto 4, 3) := by decide +kernel
theorem dX48_note_41 : decode cX48_note 41 = .ok (.iconst 0, 1) := by decide +kernel
theorem dX48_note_42 : decode cX48_note 42 = .ok (.invokevirtual 99, 3) := by decide +kernel
theorem dX48_note_45 : decode cX48_note 45 = .ok (.ifCond .eq 5, 3) := by decide +kernel
theorem dX48_note_48 : decode cX48_note 48 = .ok (.iconst 0, 1) := by decide +kernel
theorem dX48_note_49 : decode cX48_note 49 = .ok (.ireturn, 1) := by decide +kernel
theorem dX48_note_50 : decode cX48_note 50 = .ok (.aload_n 0, 1) := by decide +kernel
theorem dX48_note_51 : decode cX48_note 51 = .ok (.getfield 36, 3) := by decide +kernel
theorem dX48_note_54 : decode cX48_note 54 = .ok (.iload_n 1, 1) := by decide +kernel
theorem dX48_note_55 : decode cX48_note 55 = .ok (.dup2, 1) := by decide +kernel
theorem dX48_note_56 : decode cX48_note 56 = .ok (.iaload, 1) := by decide +kernel
theorem dX48_note_57 : decode cX48_note 57 = .ok (.iconst 1, 1) := by decide +kernel
theorem dX48_note_58 : decode cX48_note 58 = .ok (.iload_n 2, 1) := by decide +kernel
theorem dX48_note_59 : decode cX48_note 59 = .ok (.ishl, 1) := by decide +kernel
theorem dX48_note_60 : decode cX48_note 60 = .ok (.ior, 1) := by decide +kernel
theorem dX48_note_61 : decode cX48_note 61 = .ok (.iastore, 1) := by decide +kernel
theorem dX48_note_62 : decode cX48_note 62 = .ok (.iconst 0, 1) := by decide +kernel
theorem dX48_note_63 : decode cX48_note 63 = .ok (.istore 4, 2) := by decide +kernel
theorem dX48_note_65 : decode cX48_note 65 = .ok (.iconst 0, 1) := by decide +kernel
theorem dX48_note_66 : decode cX48_note 66 = .ok (.istore 5, 2) := by decide +kernel
theorem dX48_note_68 : decode cX48_note 68 = .ok (.iload 5, 2) := by decide +kernel
theorem dX48_note_70 : decode cX48_note 70 = .ok (.iconst 4, 1) := by decide +kernel
theorem dX48_note_71 : decode cX48_note 71 = .ok (.if_icmp .ge 25, 3) := by decide +kernel
theorem dX48_note_74 : decode cX48_note 74 = .ok (.iload 4, 2) := by decide +kernel
theorem dX48_note_76 : decode cX48_note 76 = .ok (.aload_n 0, 1) := by decide +kernel
theorem dX48_note_77 : decode cX48_note 77 = .ok (.getfield 36, 3) := by decide +kernel
theorem dX48_note_80 : decode cX48_note 80 = .ok (.iload_n 1, 1) := by decide +kernel
theorem dX48_note_81 : decode cX48_note 81 = .ok (.iaload, 1) := by decide +kernel
theorem dX48_note_82 : decode cX48_note 82 = .ok (.iload 5, 2) := by decide +kernel
theorem dX48_note_84 : decode cX48_note 84 = .ok (.ishr, 1) := by decide +kernel
theorem dX48_note_85 : decode cX48_note 85 = .ok (.iconst 1, 1) := by decide +kernel
theorem dX48_note_86 : decode cX48_note 86 = .ok (.iand, 1) := by decide +kernel
theorem dX48_note_87 : decode cX48_note 87 = .ok (.iadd, 1) := by decide +kernel
theorem dX48_note_88 : decode cX48_note 88 = .ok (.istore 4, 2) := by decide +kernel
theorem dX48_note_90 : decode cX48_note 90 = .ok (.iinc 5 1, 3) := by decide +kernel
theorem dX48_note_93 : decode cX48_note 93 = .ok (.goto (-25), 3) := by decide +kernel
theorem dX48_note_96 : decode cX48_note 96 = .ok (.iload 4, 2) := by decide +kernel
theorem dX48_note_98 : decode cX48_note 98 = .ok (.ireturn, 1) := by decide +kernel
abbrev cX48_read : ByteArray := prog_89_method_24_code
def yX48_read : MethodName := ⟨RX48, "read", "(II)Z"⟩
theorem dX48_read_0 : decode cX48_read 0 = .ok (.aload_n 0, 1) := by decide +kernel
theorem dX48_read_1 : decode cX48_read 1 = .ok (.iload_n 1, 1) := by decide +kernel
theorem dX48_read_2 : decode cX48_read 2 = .ok (.invokevirtual 111, 3) := by decide +kernel
theorem dX48_read_5 : decode cX48_read 5 = .ok (.ifCond .eq 14, 3) := by decide +kernel
theorem dX48_read_8 : decode cX48_read 8 = .ok (.iload_n 2, 1) := by decide +kernel
theorem dX48_read_9 : decode cX48_read 9 = .ok (.invokestatic 96, 3) := by decide +kernel
theorem dX48_read_12 : decode cX48_read 12 = .ok (.ifCond .eq 7, 3) := by decide +kernel
theorem dX48_read_15 : decode cX48_read 15 = .ok (.iconst 1, 1) := by decide +kernel
theorem dX48_read_16 : decode cX48_read 16 = .ok (.goto 4, 3) := by decide +kernel
theorem dX48_read_19 : decode cX48_read 19 = .ok (.iconst 0, 1) := by decide +kernel
theorem dX48_read_20 : decode cX48_read 20 = .ok (.istore_n 3, 1) := by decide +kernel
theorem dX48_read_21 : decode cX48_read 21 = .ok (.aload_n 0, 1) := by decide +kernel
theorem dX48_read_22 : decode cX48_read 22 = .ok (.iload_n 3, 1) := by decide +kernel
theorem dX48_read_23 : decode cX48_read 23 = .ok (.iload_n 3, 1) := by decide +kernel
theorem dX48_read_24 : decode cX48_read 24 = .ok (.ifCond .eq 15, 3) := by decide +kernel
theorem dX48_read_27 : decode cX48_read 27 = .ok (.aload_n 0, 1) := by decide +kernel
theorem dX48_read_28 : decode cX48_read 28 = .ok (.iload_n 1, 1) := by decide +kernel
theorem dX48_read_29 : decode cX48_read 29 = .ok (.invokevirtual 89, 3) := by decide +kernel
theorem dX48_read_32 : decode cX48_read 32 = .ok (.ifCond .eq 7, 3) := by decide +kernel
theorem dX48_read_35 : decode cX48_read 35 = .ok (.iconst 1, 1) := by decide +kernel
theorem dX48_read_36 : decode cX48_read 36 = .ok (.goto 4, 3) := by decide +kernel
theorem dX48_read_39 : decode cX48_read 39 = .ok (.iconst 0, 1) := by decide +kernel
theorem dX48_read_40 : decode cX48_read 40 = .ok (.invokevirtual 99, 3) := by decide +kernel
theorem dX48_read_43 : decode cX48_read 43 = .ok (.ifCond .eq 5, 3) := by decide +kernel
theorem dX48_read_46 : decode cX48_read 46 = .ok (.iconst 0, 1) := by decide +kernel
theorem dX48_read_47 : decode cX48_read 47 = .ok (.ireturn, 1) := by decide +kernel
theorem dX48_read_48 : decode cX48_read 48 = .ok (.aload_n 0, 1) := by decide +kernel
theorem dX48_read_49 : decode cX48_read 49 = .ok (.getfield 39, 3) := by decide +kernel
theorem dX48_read_52 : decode cX48_read 52 = .ok (.sipush 200, 3) := by decide +kernel
theorem dX48_read_55 : decode cX48_read 55 = .ok (.iload_n 1, 1) := by decide +kernel
theorem dX48_read_56 : decode cX48_read 56 = .ok (.imul, 1) := by decide +kernel
theorem dX48_read_57 : decode cX48_read 57 = .ok (.iload_n 2, 1) := by decide +kernel
theorem dX48_read_58 : decode cX48_read 58 = .ok (.iadd, 1) := by decide +kernel
theorem dX48_read_59 : decode cX48_read 59 = .ok (.iaload, 1) := by decide +kernel
theorem dX48_read_60 : decode cX48_read 60 = .ok (.istore 4, 2) := by decide +kernel
theorem dX48_read_62 : decode cX48_read 62 = .ok (.iload 4, 2) := by decide +kernel
theorem dX48_read_64 : decode cX48_read 64 = .ok (.ifCond .le 17, 3) := by decide +kernel
theorem dX48_read_67 : decode cX48_read 67 = .ok (.iload 4, 2) := by decide +kernel
theorem dX48_read_69 : decode cX48_read 69 = .ok (.iconst 2, 1) := by decide +kernel
theorem dX48_read_70 : decode cX48_read 70 = .ok (.if_icmp .ne 7, 3) := by decide +kernel
theorem dX48_read_73 : decode cX48_read 73 = .ok (.iconst 1, 1) := by decide +kernel
theorem dX48_read_74 : decode cX48_read 74 = .ok (.goto 18, 3) := by decide +kernel
theorem dX48_read_77 : decode cX48_read 77 = .ok (.iconst 0, 1) := by decide +kernel
theorem dX48_read_78 : decode cX48_read 78 = .ok (.goto 14, 3) := by decide +kernel
theorem dX48_read_81 : decode cX48_read 81 = .ok (.aload_n 0, 1) := by decide +kernel
theorem dX48_read_82 : decode cX48_read 82 = .ok (.iload_n 2, 1) := by decide +kernel
theorem dX48_read_83 : decode cX48_read 83 = .ok (.aload_n 0, 1) := by decide +kernel
theorem dX48_read_84 : decode cX48_read 84 = .ok (.getfield 30, 3) := by decide +kernel
theorem dX48_read_87 : decode cX48_read 87 = .ok (.iload_n 1, 1) := by decide +kernel
theorem dX48_read_88 : decode cX48_read 88 = .ok (.iaload, 1) := by decide +kernel
theorem dX48_read_89 : decode cX48_read 89 = .ok (.invokevirtual 103, 3) := by decide +kernel
theorem dX48_read_92 : decode cX48_read 92 = .ok (.ireturn, 1) := by decide +kernel
abbrev cX48_pin : ByteArray := prog_89_method_16_code
def yX48_pin : MethodName := ⟨RX48, "pin", "(I)I"⟩
theorem dX48_pin_0 : decode cX48_pin 0 = .ok (.aload_n 0, 1) := by decide +kernel
theorem dX48_pin_1 : decode cX48_pin 1 = .ok (.aload_n 0, 1) := by decide +kernel
theorem dX48_pin_2 : decode cX48_pin 2 = .ok (.iload_n 1, 1) := by decide +kernel
theorem dX48_pin_3 : decode cX48_pin 3 = .ok (.invokevirtual 93, 3) := by decide +kernel
theorem dX48_pin_6 : decode cX48_pin 6 = .ok (.iconst 1, 1) := by decide +kernel
theorem dX48_pin_7 : decode cX48_pin 7 = .ok (.invokevirtual 99, 3) := by decide +kernel
theorem dX48_pin_10 : decode cX48_pin 10 = .ok (.ifCond .eq 5, 3) := by decide +kernel
theorem dX48_pin_13 : decode cX48_pin 13 = .ok (.iconst 0, 1) := by decide +kernel
theorem dX48_pin_14 : decode cX48_pin 14 = .ok (.ireturn, 1) := by decide +kernel
theorem dX48_pin_15 : decode cX48_pin 15 = .ok (.aload_n 0, 1) := by decide +kernel
theorem dX48_pin_16 : decode cX48_pin 16 = .ok (.getfield 24, 3) := by decide +kernel
theorem dX48_pin_19 : decode cX48_pin 19 = .ok (.iload_n 1, 1) := by decide +kernel
theorem dX48_pin_20 : decode cX48_pin 20 = .ok (.dup2, 1) := by decide +kernel
theorem dX48_pin_21 : decode cX48_pin 21 = .ok (.iaload, 1) := by decide +kernel
theorem dX48_pin_22 : decode cX48_pin 22 = .ok (.iconst 1, 1) := by decide +kernel
theorem dX48_pin_23 : decode cX48_pin 23 = .ok (.iadd, 1) := by decide +kernel
theorem dX48_pin_24 : decode cX48_pin 24 = .ok (.iastore, 1) := by decide +kernel
theorem dX48_pin_25 : decode cX48_pin 25 = .ok (.aload_n 0, 1) := by decide +kernel
theorem dX48_pin_26 : decode cX48_pin 26 = .ok (.getfield 24, 3) := by decide +kernel
theorem dX48_pin_29 : decode cX48_pin 29 = .ok (.iload_n 1, 1) := by decide +kernel
theorem dX48_pin_30 : decode cX48_pin 30 = .ok (.iaload, 1) := by decide +kernel
theorem dX48_pin_31 : decode cX48_pin 31 = .ok (.ireturn, 1) := by decide +kernel
abbrev cX48_unpin : ByteArray := prog_89_method_17_code
def yX48_unpin : MethodName := ⟨RX48, "unpin", "(I)I"⟩
theorem dX48_unpin_0 : decode cX48_unpin 0 = .ok (.aload_n 0, 1) := by decide +kernel
theorem dX48_unpin_1 : decode cX48_unpin 1 = .ok (.iload_n 1, 1) := by decide +kernel
theorem dX48_unpin_2 : decode cX48_unpin 2 = .ok (.ifCond .lt 22, 3) := by decide +kernel
theorem dX48_unpin_5 : decode cX48_unpin 5 = .ok (.iload_n 1, 1) := by decide +kernel
theorem dX48_unpin_6 : decode cX48_unpin 6 = .ok (.bipush 64, 2) := by decide +kernel
theorem dX48_unpin_8 : decode cX48_unpin 8 = .ok (.if_icmp .ge 16, 3) := by decide +kernel
theorem dX48_unpin_11 : decode cX48_unpin 11 = .ok (.aload_n 0, 1) := by decide +kernel
theorem dX48_unpin_12 : decode cX48_unpin 12 = .ok (.getfield 24, 3) := by decide +kernel
theorem dX48_unpin_15 : decode cX48_unpin 15 = .ok (.iload_n 1, 1) := by decide +kernel
theorem dX48_unpin_16 : decode cX48_unpin 16 = .ok (.iaload, 1) := by decide +kernel
theorem dX48_unpin_17 : decode cX48_unpin 17 = .ok (.ifCond .le 7, 3) := by decide +kernel
theorem dX48_unpin_20 : decode cX48_unpin 20 = .ok (.iconst 1, 1) := by decide +kernel
theorem dX48_unpin_21 : decode cX48_unpin 21 = .ok (.goto 4, 3) := by decide +kernel
theorem dX48_unpin_24 : decode cX48_unpin 24 = .ok (.iconst 0, 1) := by decide +kernel
theorem dX48_unpin_25 : decode cX48_unpin 25 = .ok (.iconst 1, 1) := by decide +kernel
theorem dX48_unpin_26 : decode cX48_unpin 26 = .ok (.invokevirtual 99, 3) := by decide +kernel
theorem dX48_unpin_29 : decode cX48_unpin 29 = .ok (.ifCond .eq 5, 3) := by decide +kernel
theorem dX48_unpin_32 : decode cX48_unpin 32 = .ok (.iconst 0, 1) := by decide +kernel
theorem dX48_unpin_33 : decode cX48_unpin 33 = .ok (.ireturn, 1) := by decide +kernel
theorem dX48_unpin_34 : decode cX48_unpin 34 = .ok (.aload_n 0, 1) := by decide +kernel
theorem dX48_unpin_35 : decode cX48_unpin 35 = .ok (.getfield 24, 3) := by decide +kernel
theorem dX48_unpin_38 : decode cX48_unpin 38 = .ok (.iload_n 1, 1) := by decide +kernel
theorem dX48_unpin_39 : decode cX48_unpin 39 = .ok (.dup2, 1) := by decide +kernel
theorem dX48_unpin_40 : decode cX48_unpin 40 = .ok (.iaload, 1) := by decide +kernel
theorem dX48_unpin_41 : decode cX48_unpin 41 = .ok (.iconst 1, 1) := by decide +kernel
theorem dX48_unpin_42 : decode cX48_unpin 42 = .ok (.isub, 1) := by decide +kernel
theorem dX48_unpin_43 : decode cX48_unpin 43 = .ok (.iastore, 1) := by decide +kernel
theorem dX48_unpin_44 : decode cX48_unpin 44 = .ok (.aload_n 0, 1) := by decide +kernel
theorem dX48_unpin_45 : decode cX48_unpin 45 = .ok (.getfield 24, 3) := by decide +kernel
theorem dX48_unpin_48 : decode cX48_unpin 48 = .ok (.iload_n 1, 1) := by decide +kernel
theorem dX48_unpin_49 : decode cX48_unpin 49 = .ok (.iaload, 1) := by decide +kernel
theorem dX48_unpin_50 : decode cX48_unpin 50 = .ok (.ireturn, 1) := by decide +kernel
abbrev cX48_free : ByteArray := prog_89_method_18_code
def yX48_free : MethodName := ⟨RX48, "free", "()I"⟩
theorem dX48_free_0 : decode cX48_free 0 = .ok (.aload_n 0, 1) := by decide +kernel
theorem dX48_free_1 : decode cX48_free 1 = .ok (.iconst 0, 1) := by decide +kernel
theorem dX48_free_2 : decode cX48_free 2 = .ok (.putfield 1, 3) := by decide +kernel
theorem dX48_free_5 : decode cX48_free 5 = .ok (.aload_n 0, 1) := by decide +kernel
theorem dX48_free_6 : decode cX48_free 6 = .ok (.invokevirtual 75, 3) := by decide +kernel
theorem dX48_free_9 : decode cX48_free 9 = .ok (.istore_n 1, 1) := by decide +kernel
theorem dX48_free_10 : decode cX48_free 10 = .ok (.iconst 0, 1) := by decide +kernel
theorem dX48_free_11 : decode cX48_free 11 = .ok (.istore_n 2, 1) := by decide +kernel
theorem dX48_free_12 : decode cX48_free 12 = .ok (.iconst 0, 1) := by decide +kernel
theorem dX48_free_13 : decode cX48_free 13 = .ok (.istore_n 3, 1) := by decide +kernel
theorem dX48_free_14 : decode cX48_free 14 = .ok (.iload_n 3, 1) := by decide +kernel
theorem dX48_free_15 : decode cX48_free 15 = .ok (.sipush 200, 3) := by decide +kernel
theorem dX48_free_18 : decode cX48_free 18 = .ok (.if_icmp .ge 39, 3) := by decide +kernel
theorem dX48_free_21 : decode cX48_free 21 = .ok (.aload_n 0, 1) := by decide +kernel
theorem dX48_free_22 : decode cX48_free 22 = .ok (.iload_n 3, 1) := by decide +kernel
theorem dX48_free_23 : decode cX48_free 23 = .ok (.iload_n 1, 1) := by decide +kernel
theorem dX48_free_24 : decode cX48_free 24 = .ok (.invokevirtual 85, 3) := by decide +kernel
theorem dX48_free_27 : decode cX48_free 27 = .ok (.istore 4, 2) := by decide +kernel
theorem dX48_free_29 : decode cX48_free 29 = .ok (.aload_n 0, 1) := by decide +kernel
theorem dX48_free_30 : decode cX48_free 30 = .ok (.getfield 69, 3) := by decide +kernel
theorem dX48_free_33 : decode cX48_free 33 = .ok (.iload_n 3, 1) := by decide +kernel
theorem dX48_free_34 : decode cX48_free 34 = .ok (.iload 4, 2) := by decide +kernel
theorem dX48_free_36 : decode cX48_free 36 = .ok (.ifCond .ge 7, 3) := by decide +kernel
theorem dX48_free_39 : decode cX48_free 39 = .ok (.iconst (-1), 1) := by decide +kernel
theorem dX48_free_40 : decode cX48_free 40 = .ok (.goto 10, 3) := by decide +kernel
theorem dX48_free_43 : decode cX48_free 43 = .ok (.aload_n 0, 1) := by decide +kernel
theorem dX48_free_44 : decode cX48_free 44 = .ok (.getfield 17, 3) := by decide +kernel
theorem dX48_free_47 : decode cX48_free 47 = .ok (.iload 4, 2) := by decide +kernel
theorem dX48_free_49 : decode cX48_free 49 = .ok (.iaload, 1) := by decide +kernel
theorem dX48_free_50 : decode cX48_free 50 = .ok (.iastore, 1) := by decide +kernel
theorem dX48_free_51 : decode cX48_free 51 = .ok (.iinc 3 1, 3) := by decide +kernel
theorem dX48_free_54 : decode cX48_free 54 = .ok (.goto (-40), 3) := by decide +kernel
theorem dX48_free_57 : decode cX48_free 57 = .ok (.aload_n 0, 1) := by decide +kernel
theorem dX48_free_58 : decode cX48_free 58 = .ok (.getfield 82, 3) := by decide +kernel
theorem dX48_free_61 : decode cX48_free 61 = .ok (.istore_n 3, 1) := by decide +kernel
theorem dX48_free_62 : decode cX48_free 62 = .ok (.iconst 0, 1) := by decide +kernel
theorem dX48_free_63 : decode cX48_free 63 = .ok (.istore 4, 2) := by decide +kernel
theorem dX48_free_65 : decode cX48_free 65 = .ok (.iload 4, 2) := by decide +kernel
theorem dX48_free_67 : decode cX48_free 67 = .ok (.iload_n 3, 1) := by decide +kernel
theorem dX48_free_68 : decode cX48_free 68 = .ok (.if_icmp .ge 114, 3) := by decide +kernel
theorem dX48_free_71 : decode cX48_free 71 = .ok (.aload_n 0, 1) := by decide +kernel
theorem dX48_free_72 : decode cX48_free 72 = .ok (.getfield 13, 3) := by decide +kernel
theorem dX48_free_75 : decode cX48_free 75 = .ok (.iload 4, 2) := by decide +kernel
theorem dX48_free_77 : decode cX48_free 77 = .ok (.iaload, 1) := by decide +kernel
theorem dX48_free_78 : decode cX48_free 78 = .ok (.istore 5, 2) := by decide +kernel
theorem dX48_free_80 : decode cX48_free 80 = .ok (.aload_n 0, 1) := by decide +kernel
theorem dX48_free_81 : decode cX48_free 81 = .ok (.getfield 17, 3) := by decide +kernel
theorem dX48_free_84 : decode cX48_free 84 = .ok (.iload 4, 2) := by decide +kernel
theorem dX48_free_86 : decode cX48_free 86 = .ok (.iaload, 1) := by decide +kernel
theorem dX48_free_87 : decode cX48_free 87 = .ok (.aload_n 0, 1) := by decide +kernel
theorem dX48_free_88 : decode cX48_free 88 = .ok (.getfield 69, 3) := by decide +kernel
theorem dX48_free_91 : decode cX48_free 91 = .ok (.iload 5, 2) := by decide +kernel
theorem dX48_free_93 : decode cX48_free 93 = .ok (.iaload, 1) := by decide +kernel
theorem dX48_free_94 : decode cX48_free 94 = .ok (.if_icmp .lt 30, 3) := by decide +kernel
theorem dX48_free_97 : decode cX48_free 97 = .ok (.aload_n 0, 1) := by decide +kernel
theorem dX48_free_98 : decode cX48_free 98 = .ok (.getfield 17, 3) := by decide +kernel
theorem dX48_free_101 : decode cX48_free 101 = .ok (.iload 4, 2) := by decide +kernel
theorem dX48_free_103 : decode cX48_free 103 = .ok (.iaload, 1) := by decide +kernel
theorem dX48_free_104 : decode cX48_free 104 = .ok (.aload_n 0, 1) := by decide +kernel
theorem dX48_free_105 : decode cX48_free 105 = .ok (.getfield 69, 3) := by decide +kernel
theorem dX48_free_108 : decode cX48_free 108 = .ok (.iload 5, 2) := by decide +kernel
theorem dX48_free_110 : decode cX48_free 110 = .ok (.iaload, 1) := by decide +kernel
theorem dX48_free_111 : decode cX48_free 111 = .ok (.if_icmp .ne 17, 3) := by decide +kernel
theorem dX48_free_114 : decode cX48_free 114 = .ok (.aload_n 0, 1) := by decide +kernel
theorem dX48_free_115 : decode cX48_free 115 = .ok (.getfield 20, 3) := by decide +kernel
theorem dX48_free_118 : decode cX48_free 118 = .ok (.iload 4, 2) := by decide +kernel
theorem dX48_free_120 : decode cX48_free 120 = .ok (.baload, 1) := by decide +kernel
theorem dX48_free_121 : decode cX48_free 121 = .ok (.ifCond .ne 7, 3) := by decide +kernel
theorem dX48_free_124 : decode cX48_free 124 = .ok (.iconst 1, 1) := by decide +kernel
theorem dX48_free_125 : decode cX48_free 125 = .ok (.goto 4, 3) := by decide +kernel
theorem dX48_free_128 : decode cX48_free 128 = .ok (.iconst 0, 1) := by decide +kernel
theorem dX48_free_129 : decode cX48_free 129 = .ok (.istore 6, 2) := by decide +kernel
theorem dX48_free_131 : decode cX48_free 131 = .ok (.iload 6, 2) := by decide +kernel
theorem dX48_free_133 : decode cX48_free 133 = .ok (.ifCond .eq 6, 3) := by decide +kernel
theorem dX48_free_136 : decode cX48_free 136 = .ok (.goto 40, 3) := by decide +kernel
theorem dX48_free_139 : decode cX48_free 139 = .ok (.aload_n 0, 1) := by decide +kernel
theorem dX48_free_140 : decode cX48_free 140 = .ok (.getfield 13, 3) := by decide +kernel
theorem dX48_free_143 : decode cX48_free 143 = .ok (.iload_n 2, 1) := by decide +kernel
theorem dX48_free_144 : decode cX48_free 144 = .ok (.iload 5, 2) := by decide +kernel
theorem dX48_free_146 : decode cX48_free 146 = .ok (.iastore, 1) := by decide +kernel
theorem dX48_free_147 : decode cX48_free 147 = .ok (.aload_n 0, 1) := by decide +kernel
theorem dX48_free_148 : decode cX48_free 148 = .ok (.getfield 17, 3) := by decide +kernel
theorem dX48_free_151 : decode cX48_free 151 = .ok (.iload_n 2, 1) := by decide +kernel
theorem dX48_free_152 : decode cX48_free 152 = .ok (.aload_n 0, 1) := by decide +kernel
theorem dX48_free_153 : decode cX48_free 153 = .ok (.getfield 17, 3) := by decide +kernel
theorem dX48_free_156 : decode cX48_free 156 = .ok (.iload 4, 2) := by decide +kernel
theorem dX48_free_158 : decode cX48_free 158 = .ok (.iaload, 1) := by decide +kernel
theorem dX48_free_159 : decode cX48_free 159 = .ok (.iastore, 1) := by decide +kernel
theorem dX48_free_160 : decode cX48_free 160 = .ok (.aload_n 0, 1) := by decide +kernel
theorem dX48_free_161 : decode cX48_free 161 = .ok (.getfield 20, 3) := by decide +kernel
theorem dX48_free_164 : decode cX48_free 164 = .ok (.iload_n 2, 1) := by decide +kernel
theorem dX48_free_165 : decode cX48_free 165 = .ok (.aload_n 0, 1) := by decide +kernel
theorem dX48_free_166 : decode cX48_free 166 = .ok (.getfield 20, 3) := by decide +kernel
theorem dX48_free_169 : decode cX48_free 169 = .ok (.iload 4, 2) := by decide +kernel
theorem dX48_free_171 : decode cX48_free 171 = .ok (.baload, 1) := by decide +kernel
theorem dX48_free_172 : decode cX48_free 172 = .ok (.bastore, 1) := by decide +kernel
theorem dX48_free_173 : decode cX48_free 173 = .ok (.iinc 2 1, 3) := by decide +kernel
theorem dX48_free_176 : decode cX48_free 176 = .ok (.iinc 4 1, 3) := by decide +kernel
theorem dX48_free_179 : decode cX48_free 179 = .ok (.goto (-114), 3) := by decide +kernel
theorem dX48_free_182 : decode cX48_free 182 = .ok (.aload_n 0, 1) := by decide +kernel
theorem dX48_free_183 : decode cX48_free 183 = .ok (.iload_n 2, 1) := by decide +kernel
theorem dX48_free_184 : decode cX48_free 184 = .ok (.putfield 82, 3) := by decide +kernel
theorem dX48_free_187 : decode cX48_free 187 = .ok (.iload_n 3, 1) := by decide +kernel
theorem dX48_free_188 : decode cX48_free 188 = .ok (.iload_n 2, 1) := by decide +kernel
theorem dX48_free_189 : decode cX48_free 189 = .ok (.isub, 1) := by decide +kernel
theorem dX48_free_190 : decode cX48_free 190 = .ok (.ireturn, 1) := by decide +kernel
abbrev cX48_rows : ByteArray := prog_89_method_14_code
def yX48_rows : MethodName := ⟨RX48, "rows", "()I"⟩
theorem dX48_rows_0 : decode cX48_rows 0 = .ok (.aload_n 0, 1) := by decide +kernel
theorem dX48_rows_1 : decode cX48_rows 1 = .ok (.iconst 0, 1) := by decide +kernel
theorem dX48_rows_2 : decode cX48_rows 2 = .ok (.putfield 1, 3) := by decide +kernel
theorem dX48_rows_5 : decode cX48_rows 5 = .ok (.aload_n 0, 1) := by decide +kernel
theorem dX48_rows_6 : decode cX48_rows 6 = .ok (.getfield 82, 3) := by decide +kernel
theorem dX48_rows_9 : decode cX48_rows 9 = .ok (.ireturn, 1) := by decide +kernel
abbrev cX48_least : ByteArray := prog_89_method_11_code
def yX48_least : MethodName := ⟨RX48, "least", "()I"⟩
theorem dX48_least_0 : decode cX48_least 0 = .ok (.aload_n 0, 1) := by decide +kernel
theorem dX48_least_1 : decode cX48_least 1 = .ok (.iconst 0, 1) := by decide +kernel
theorem dX48_least_2 : decode cX48_least 2 = .ok (.putfield 1, 3) := by decide +kernel
theorem dX48_least_5 : decode cX48_least 5 = .ok (.aload_n 0, 1) := by decide +kernel
theorem dX48_least_6 : decode cX48_least 6 = .ok (.invokevirtual 75, 3) := by decide +kernel
theorem dX48_least_9 : decode cX48_least 9 = .ok (.ireturn, 1) := by decide +kernel
abbrev cX48_state : ByteArray := prog_89_method_22_code
def yX48_state : MethodName := ⟨RX48, "state", "(I)I"⟩
theorem dX48_state_0 : decode cX48_state 0 = .ok (.aload_n 0, 1) := by decide +kernel
theorem dX48_state_1 : decode cX48_state 1 = .ok (.aload_n 0, 1) := by decide +kernel
theorem dX48_state_2 : decode cX48_state 2 = .ok (.iload_n 1, 1) := by decide +kernel
theorem dX48_state_3 : decode cX48_state 3 = .ok (.invokevirtual 111, 3) := by decide +kernel
theorem dX48_state_6 : decode cX48_state 6 = .ok (.iconst 1, 1) := by decide +kernel
theorem dX48_state_7 : decode cX48_state 7 = .ok (.invokevirtual 99, 3) := by decide +kernel
theorem dX48_state_10 : decode cX48_state 10 = .ok (.ifCond .eq 7, 3) := by decide +kernel
theorem dX48_state_13 : decode cX48_state 13 = .ok (.iconst 0, 1) := by decide +kernel
theorem dX48_state_14 : decode cX48_state 14 = .ok (.goto 9, 3) := by decide +kernel
theorem dX48_state_17 : decode cX48_state 17 = .ok (.aload_n 0, 1) := by decide +kernel
theorem dX48_state_18 : decode cX48_state 18 = .ok (.getfield 33, 3) := by decide +kernel
theorem dX48_state_21 : decode cX48_state 21 = .ok (.iload_n 1, 1) := by decide +kernel
theorem dX48_state_22 : decode cX48_state 22 = .ok (.iaload, 1) := by decide +kernel
theorem dX48_state_23 : decode cX48_state 23 = .ok (.ireturn, 1) := by decide +kernel
abbrev cX48_waits : ByteArray := prog_89_method_23_code
def yX48_waits : MethodName := ⟨RX48, "waits", "(I)I"⟩
theorem dX48_waits_0 : decode cX48_waits 0 = .ok (.aload_n 0, 1) := by decide +kernel
theorem dX48_waits_1 : decode cX48_waits 1 = .ok (.aload_n 0, 1) := by decide +kernel
theorem dX48_waits_2 : decode cX48_waits 2 = .ok (.iload_n 1, 1) := by decide +kernel
theorem dX48_waits_3 : decode cX48_waits 3 = .ok (.invokevirtual 111, 3) := by decide +kernel
theorem dX48_waits_6 : decode cX48_waits 6 = .ok (.iconst 1, 1) := by decide +kernel
theorem dX48_waits_7 : decode cX48_waits 7 = .ok (.invokevirtual 99, 3) := by decide +kernel
theorem dX48_waits_10 : decode cX48_waits 10 = .ok (.ifCond .eq 5, 3) := by decide +kernel
theorem dX48_waits_13 : decode cX48_waits 13 = .ok (.iconst 0, 1) := by decide +kernel
theorem dX48_waits_14 : decode cX48_waits 14 = .ok (.ireturn, 1) := by decide +kernel
theorem dX48_waits_15 : decode cX48_waits 15 = .ok (.aload_n 0, 1) := by decide +kernel
theorem dX48_waits_16 : decode cX48_waits 16 = .ok (.getfield 33, 3) := by decide +kernel
theorem dX48_waits_19 : decode cX48_waits 19 = .ok (.iload_n 1, 1) := by decide +kernel
theorem dX48_waits_20 : decode cX48_waits 20 = .ok (.iaload, 1) := by decide +kernel
theorem dX48_waits_21 : decode cX48_waits 21 = .ok (.iconst 1, 1) := by decide +kernel
theorem dX48_waits_22 : decode cX48_waits 22 = .ok (.if_icmp .ne 12, 3) := by decide +kernel
theorem dX48_waits_25 : decode cX48_waits 25 = .ok (.aload_n 0, 1) := by decide +kernel
theorem dX48_waits_26 : decode cX48_waits 26 = .ok (.getfield 42, 3) := by decide +kernel
theorem dX48_waits_29 : decode cX48_waits 29 = .ok (.iload_n 1, 1) := by decide +kernel
theorem dX48_waits_30 : decode cX48_waits 30 = .ok (.iaload, 1) := by decide +kernel
theorem dX48_waits_31 : decode cX48_waits 31 = .ok (.goto 4, 3) := by decide +kernel
theorem dX48_waits_34 : decode cX48_waits 34 = .ok (.iconst (-1), 1) := by decide +kernel
theorem dX48_waits_35 : decode cX48_waits 35 = .ok (.ireturn, 1) := by decide +kernel
abbrev cX48_ring : ByteArray := prog_89_method_37_code
def yX48_ring : MethodName := ⟨RX48, "ring", "(I)I"⟩
theorem dX48_ring_0 : decode cX48_ring 0 = .ok (.aload_n 0, 1) := by decide +kernel
theorem dX48_ring_1 : decode cX48_ring 1 = .ok (.iconst 0, 1) := by decide +kernel
theorem dX48_ring_2 : decode cX48_ring 2 = .ok (.putfield 1, 3) := by decide +kernel
theorem dX48_ring_5 : decode cX48_ring 5 = .ok (.iload_n 1, 1) := by decide +kernel
theorem dX48_ring_6 : decode cX48_ring 6 = .ok (.ifCond .lt 20, 3) := by decide +kernel
theorem dX48_ring_9 : decode cX48_ring 9 = .ok (.iload_n 1, 1) := by decide +kernel
theorem dX48_ring_10 : decode cX48_ring 10 = .ok (.aload_n 0, 1) := by decide +kernel
theorem dX48_ring_11 : decode cX48_ring 11 = .ok (.getfield 138, 3) := by decide +kernel
theorem dX48_ring_14 : decode cX48_ring 14 = .ok (.if_icmp .ge 12, 3) := by decide +kernel
theorem dX48_ring_17 : decode cX48_ring 17 = .ok (.aload_n 0, 1) := by decide +kernel
theorem dX48_ring_18 : decode cX48_ring 18 = .ok (.getfield 60, 3) := by decide +kernel
theorem dX48_ring_21 : decode cX48_ring 21 = .ok (.iload_n 1, 1) := by decide +kernel
theorem dX48_ring_22 : decode cX48_ring 22 = .ok (.iaload, 1) := by decide +kernel
theorem dX48_ring_23 : decode cX48_ring 23 = .ok (.goto 4, 3) := by decide +kernel
theorem dX48_ring_26 : decode cX48_ring 26 = .ok (.iconst (-1), 1) := by decide +kernel
theorem dX48_ring_27 : decode cX48_ring 27 = .ok (.ireturn, 1) := by decide +kernel
abbrev cX48_conflicts : ByteArray := prog_89_method_38_code
def yX48_conflicts : MethodName := ⟨RX48, "conflicts", "(II)I"⟩
theorem dX48_conflicts_0 : decode cX48_conflicts 0 = .ok (.aload_n 0, 1) := by decide +kernel
theorem dX48_conflicts_1 : decode cX48_conflicts 1 = .ok (.iload_n 1, 1) := by decide +kernel
theorem dX48_conflicts_2 : decode cX48_conflicts 2 = .ok (.ifCond .eq 8, 3) := by decide +kernel
theorem dX48_conflicts_5 : decode cX48_conflicts 5 = .ok (.iload_n 1, 1) := by decide +kernel
theorem dX48_conflicts_6 : decode cX48_conflicts 6 = .ok (.iconst 1, 1) := by decide +kernel
theorem dX48_conflicts_7 : decode cX48_conflicts 7 = .ok (.if_icmp .ne 26, 3) := by decide +kernel
theorem dX48_conflicts_10 : decode cX48_conflicts 10 = .ok (.iload_n 2, 1) := by decide +kernel
theorem dX48_conflicts_11 : decode cX48_conflicts 11 = .ok (.ifCond .lt 22, 3) := by decide +kernel
theorem dX48_conflicts_14 : decode cX48_conflicts 14 = .ok (.iload_n 2, 1) := by decide +kernel
theorem dX48_conflicts_15 : decode cX48_conflicts 15 = .ok (.iload_n 1, 1) := by decide +kernel
theorem dX48_conflicts_16 : decode cX48_conflicts 16 = .ok (.ifCond .ne 9, 3) := by decide +kernel
theorem dX48_conflicts_19 : decode cX48_conflicts 19 = .ok (.sipush 200, 3) := by decide +kernel
theorem dX48_conflicts_22 : decode cX48_conflicts 22 = .ok (.goto 4, 3) := by decide +kernel
theorem dX48_conflicts_25 : decode cX48_conflicts 25 = .ok (.iconst 4, 1) := by decide +kernel
theorem dX48_conflicts_26 : decode cX48_conflicts 26 = .ok (.if_icmp .ge 7, 3) := by decide +kernel
theorem dX48_conflicts_29 : decode cX48_conflicts 29 = .ok (.iconst 1, 1) := by decide +kernel
theorem dX48_conflicts_30 : decode cX48_conflicts 30 = .ok (.goto 4, 3) := by decide +kernel
theorem dX48_conflicts_33 : decode cX48_conflicts 33 = .ok (.iconst 0, 1) := by decide +kernel
theorem dX48_conflicts_34 : decode cX48_conflicts 34 = .ok (.iconst 1, 1) := by decide +kernel
theorem dX48_conflicts_35 : decode cX48_conflicts 35 = .ok (.invokevirtual 99, 3) := by decide +kernel
theorem dX48_conflicts_38 : decode cX48_conflicts 38 = .ok (.ifCond .eq 5, 3) := by decide +kernel
theorem dX48_conflicts_41 : decode cX48_conflicts 41 = .ok (.iconst 0, 1) := by decide +kernel
theorem dX48_conflicts_42 : decode cX48_conflicts 42 = .ok (.ireturn, 1) := by decide +kernel
theorem dX48_conflicts_43 : decode cX48_conflicts 43 = .ok (.iload_n 1, 1) := by decide +kernel
theorem dX48_conflicts_44 : decode cX48_conflicts 44 = .ok (.ifCond .ne 12, 3) := by decide +kernel
theorem dX48_conflicts_47 : decode cX48_conflicts 47 = .ok (.aload_n 0, 1) := by decide +kernel
theorem dX48_conflicts_48 : decode cX48_conflicts 48 = .ok (.getfield 63, 3) := by decide +kernel
theorem dX48_conflicts_51 : decode cX48_conflicts 51 = .ok (.iload_n 2, 1) := by decide +kernel
theorem dX48_conflicts_52 : decode cX48_conflicts 52 = .ok (.iaload, 1) := by decide +kernel
theorem dX48_conflicts_53 : decode cX48_conflicts 53 = .ok (.goto 9, 3) := by decide +kernel
theorem dX48_conflicts_56 : decode cX48_conflicts 56 = .ok (.aload_n 0, 1) := by decide +kernel
theorem dX48_conflicts_57 : decode cX48_conflicts 57 = .ok (.getfield 66, 3) := by decide +kernel
theorem dX48_conflicts_60 : decode cX48_conflicts 60 = .ok (.iload_n 2, 1) := by decide +kernel
theorem dX48_conflicts_61 : decode cX48_conflicts 61 = .ok (.iaload, 1) := by decide +kernel
theorem dX48_conflicts_62 : decode cX48_conflicts 62 = .ok (.ireturn, 1) := by decide +kernel
theorem in_X48 : ∀ w ∈ wsX480, w ∈ lw_all := lw_in wsX480 [6099, 6101, 6103, 6105, 6107, 6109, 6111, 6113, 6115, 6117, 6119, 6121, 6123, 6125, 6127, 6129, 6131, 6133, 6135, 6137, 6139, 6141, 6143, 6145, 6147, 6149, 6151] (by decide +kernel) (by decide +kernel)
theorem q543 : (Jvm.Cond.initialized "KnowHouseModel$VersionTransModel") ∈ lw_all := lw_g (lw_at lw_m1 65 rfl) rfl
theorem q6072 : (Jvm.Cond.fieldLink "KnowHouseModel$VersionTransModel" (13 : Nat) "KnowHouseModel$VersionTransModel" "rowTriples" "[I") ∈ lw_all := lw_g (lw_at lw_m24 74 rfl) rfl
theorem q6073 : (Jvm.Cond.fieldLink "KnowHouseModel$VersionTransModel" (17 : Nat) "KnowHouseModel$VersionTransModel" "rowVersions" "[I") ∈ lw_all := lw_g (lw_at lw_m24 75 rfl) rfl
theorem q6074 : (Jvm.Cond.fieldLink "KnowHouseModel$VersionTransModel" (20 : Nat) "KnowHouseModel$VersionTransModel" "rowTells" "[Z") ∈ lw_all := lw_g (lw_at lw_m24 76 rfl) rfl
theorem q6075 : (Jvm.Cond.fieldLink "KnowHouseModel$VersionTransModel" (82 : Nat) "KnowHouseModel$VersionTransModel" "rows" "I") ∈ lw_all := lw_g (lw_at lw_m24 77 rfl) rfl
theorem q6076 : (Jvm.Cond.fieldLink "KnowHouseModel$VersionTransModel" (79 : Nat) "KnowHouseModel$VersionTransModel" "latest" "I") ∈ lw_all := lw_g (lw_at lw_m24 78 rfl) rfl
theorem q6077 : (Jvm.Cond.fieldLink "KnowHouseModel$VersionTransModel" (24 : Nat) "KnowHouseModel$VersionTransModel" "pins" "[I") ∈ lw_all := lw_g (lw_at lw_m24 79 rfl) rfl
theorem q6078 : (Jvm.Cond.fieldLink "KnowHouseModel$VersionTransModel" (27 : Nat) "KnowHouseModel$VersionTransModel" "writers" "[Z") ∈ lw_all := lw_g (lw_at lw_m24 80 rfl) rfl
theorem q6079 : (Jvm.Cond.fieldLink "KnowHouseModel$VersionTransModel" (30 : Nat) "KnowHouseModel$VersionTransModel" "sees" "[I") ∈ lw_all := lw_g (lw_at lw_m24 81 rfl) rfl
theorem q6080 : (Jvm.Cond.fieldLink "KnowHouseModel$VersionTransModel" (33 : Nat) "KnowHouseModel$VersionTransModel" "states" "[I") ∈ lw_all := lw_g (lw_at lw_m24 82 rfl) rfl
theorem q6081 : (Jvm.Cond.fieldLink "KnowHouseModel$VersionTransModel" (36 : Nat) "KnowHouseModel$VersionTransModel" "notes" "[I") ∈ lw_all := lw_g (lw_at lw_m24 83 rfl) rfl
theorem q6082 : (Jvm.Cond.fieldLink "KnowHouseModel$VersionTransModel" (39 : Nat) "KnowHouseModel$VersionTransModel" "wrote" "[I") ∈ lw_all := lw_g (lw_at lw_m24 84 rfl) rfl
theorem q6083 : (Jvm.Cond.fieldLink "KnowHouseModel$VersionTransModel" (42 : Nat) "KnowHouseModel$VersionTransModel" "waitsFor" "[I") ∈ lw_all := lw_g (lw_at lw_m24 85 rfl) rfl
theorem q6084 : (Jvm.Cond.fieldLink "KnowHouseModel$VersionTransModel" (45 : Nat) "KnowHouseModel$VersionTransModel" "waitTriples" "[I") ∈ lw_all := lw_g (lw_at lw_m24 86 rfl) rfl
theorem q6085 : (Jvm.Cond.fieldLink "KnowHouseModel$VersionTransModel" (48 : Nat) "KnowHouseModel$VersionTransModel" "waitTells" "[Z") ∈ lw_all := lw_g (lw_at lw_m24 87 rfl) rfl
theorem q6086 : (Jvm.Cond.fieldLink "KnowHouseModel$VersionTransModel" (51 : Nat) "KnowHouseModel$VersionTransModel" "since" "[I") ∈ lw_all := lw_g (lw_at lw_m24 88 rfl) rfl
theorem q6087 : (Jvm.Cond.fieldLink "KnowHouseModel$VersionTransModel" (127 : Nat) "KnowHouseModel$VersionTransModel" "clock" "I") ∈ lw_all := lw_g (lw_at lw_m24 89 rfl) rfl
theorem q6088 : (Jvm.Cond.fieldLink "KnowHouseModel$VersionTransModel" (72 : Nat) "KnowHouseModel$VersionTransModel" "count" "I") ∈ lw_all := lw_g (lw_at lw_m24 90 rfl) rfl
theorem q6089 : (Jvm.Cond.fieldLink "KnowHouseModel$VersionTransModel" (54 : Nat) "KnowHouseModel$VersionTransModel" "holders" "[I") ∈ lw_all := lw_g (lw_at lw_m24 91 rfl) rfl
theorem q6090 : (Jvm.Cond.fieldLink "KnowHouseModel$VersionTransModel" (57 : Nat) "KnowHouseModel$VersionTransModel" "queue" "[I") ∈ lw_all := lw_g (lw_at lw_m24 92 rfl) rfl
theorem q6091 : (Jvm.Cond.fieldLink "KnowHouseModel$VersionTransModel" (147 : Nat) "KnowHouseModel$VersionTransModel" "queueFrom" "I") ∈ lw_all := lw_g (lw_at lw_m24 93 rfl) rfl
theorem q6092 : (Jvm.Cond.fieldLink "KnowHouseModel$VersionTransModel" (144 : Nat) "KnowHouseModel$VersionTransModel" "queueTo" "I") ∈ lw_all := lw_g (lw_at lw_m24 94 rfl) rfl
theorem q6093 : (Jvm.Cond.fieldLink "KnowHouseModel$VersionTransModel" (60 : Nat) "KnowHouseModel$VersionTransModel" "ring" "[I") ∈ lw_all := lw_g (lw_at lw_m24 95 rfl) rfl
theorem q6094 : (Jvm.Cond.fieldLink "KnowHouseModel$VersionTransModel" (138 : Nat) "KnowHouseModel$VersionTransModel" "ringSize" "I") ∈ lw_all := lw_g (lw_at lw_m24 96 rfl) rfl
theorem q6095 : (Jvm.Cond.fieldLink "KnowHouseModel$VersionTransModel" (63 : Nat) "KnowHouseModel$VersionTransModel" "failures" "[I") ∈ lw_all := lw_g (lw_at lw_m24 97 rfl) rfl
theorem q6096 : (Jvm.Cond.fieldLink "KnowHouseModel$VersionTransModel" (66 : Nat) "KnowHouseModel$VersionTransModel" "refusals" "[I") ∈ lw_all := lw_g (lw_at lw_m24 98 rfl) rfl
theorem q6097 : (Jvm.Cond.fieldLink "KnowHouseModel$VersionTransModel" (1 : Nat) "KnowHouseModel$VersionTransModel" "thrown" "I") ∈ lw_all := lw_g (lw_at lw_m24 99 rfl) rfl
theorem q6098 : (Jvm.Cond.fieldLink "KnowHouseModel$VersionTransModel" (69 : Nat) "KnowHouseModel$VersionTransModel" "best" "[I") ∈ lw_all := lw_g (lw_at lw_m24 100 rfl) rfl
theorem q7247 : (Jvm.Cond.methodLink "KnowHouseModel$VersionTransModel" (107 : Nat) ({ cls := "KnowHouseModel$VersionTransModel", name := "start", desc := "(ZI)I" } : Jvm.MethodName)) ∈ lw_all := lw_g (lw_at lw_m29 49 rfl) rfl
theorem q7249 : (Jvm.Cond.instanceMethod ({ cls := "KnowHouseModel$VersionTransModel", name := "start", desc := "(ZI)I" } : Jvm.MethodName)) ∈ lw_all := lw_g (lw_at lw_m29 51 rfl) rfl
theorem q7250 : (Jvm.Cond.code ({ cls := "KnowHouseModel$VersionTransModel", name := "start", desc := "(ZI)I" } : Jvm.MethodName) prog_89_method_19_code (3 : Nat) (Option.some Jvm.ClassFile.FieldType.int)) ∈ lw_all := lw_g (lw_at lw_m29 52 rfl) rfl
theorem q7260 : (Jvm.Cond.methodLink "KnowHouseModel$VersionTransModel" (111 : Nat) ({ cls := "KnowHouseModel$VersionTransModel", name := "isTransaction", desc := "(I)Z" } : Jvm.MethodName)) ∈ lw_all := lw_g (lw_at lw_m29 62 rfl) rfl
theorem q7262 : (Jvm.Cond.instanceMethod ({ cls := "KnowHouseModel$VersionTransModel", name := "isTransaction", desc := "(I)Z" } : Jvm.MethodName)) ∈ lw_all := lw_g (lw_at lw_m29 64 rfl) rfl
theorem q7263 : (Jvm.Cond.code ({ cls := "KnowHouseModel$VersionTransModel", name := "isTransaction", desc := "(I)Z" } : Jvm.MethodName) prog_89_method_4_code (2 : Nat) (Option.some Jvm.ClassFile.FieldType.boolean)) ∈ lw_all := lw_g (lw_at lw_m29 65 rfl) rfl
theorem q7264 : (Jvm.Cond.methodLink "KnowHouseModel$VersionTransModel" (96 : Nat) ({ cls := "KnowHouseModel$VersionTransModel", name := "isTriple", desc := "(I)Z" } : Jvm.MethodName)) ∈ lw_all := lw_g (lw_at lw_m29 66 rfl) rfl
theorem q7265 : (Jvm.Cond.static ({ cls := "KnowHouseModel$VersionTransModel", name := "isTriple", desc := "(I)Z" } : Jvm.MethodName)) ∈ lw_all := lw_g (lw_at lw_m29 67 rfl) rfl
theorem q7266 : (Jvm.Cond.code ({ cls := "KnowHouseModel$VersionTransModel", name := "isTriple", desc := "(I)Z" } : Jvm.MethodName) prog_89_method_5_code (1 : Nat) (Option.some Jvm.ClassFile.FieldType.boolean)) ∈ lw_all := lw_g (lw_at lw_m29 68 rfl) rfl
theorem q7267 : (Jvm.Cond.methodLink "KnowHouseModel$VersionTransModel" (114 : Nat) ({ cls := "KnowHouseModel$VersionTransModel", name := "canWrite", desc := "(I)Z" } : Jvm.MethodName)) ∈ lw_all := lw_g (lw_at lw_m29 69 rfl) rfl
theorem q7269 : (Jvm.Cond.instanceMethod ({ cls := "KnowHouseModel$VersionTransModel", name := "canWrite", desc := "(I)Z" } : Jvm.MethodName)) ∈ lw_all := lw_g (lw_at lw_m29 71 rfl) rfl
theorem q7270 : (Jvm.Cond.code ({ cls := "KnowHouseModel$VersionTransModel", name := "canWrite", desc := "(I)Z" } : Jvm.MethodName) prog_89_method_25_code (2 : Nat) (Option.some Jvm.ClassFile.FieldType.boolean)) ∈ lw_all := lw_g (lw_at lw_m29 72 rfl) rfl
theorem q7271 : (Jvm.Cond.methodLink "KnowHouseModel$VersionTransModel" (99 : Nat) ({ cls := "KnowHouseModel$VersionTransModel", name := "fails", desc := "(ZZ)Z" } : Jvm.MethodName)) ∈ lw_all := lw_g (lw_at lw_m29 73 rfl) rfl
theorem q7273 : (Jvm.Cond.instanceMethod ({ cls := "KnowHouseModel$VersionTransModel", name := "fails", desc := "(ZZ)Z" } : Jvm.MethodName)) ∈ lw_all := lw_g (lw_at lw_m29 75 rfl) rfl
theorem q7274 : (Jvm.Cond.code ({ cls := "KnowHouseModel$VersionTransModel", name := "fails", desc := "(ZZ)Z" } : Jvm.MethodName) prog_89_method_3_code (3 : Nat) (Option.some Jvm.ClassFile.FieldType.boolean)) ∈ lw_all := lw_g (lw_at lw_m29 76 rfl) rfl
theorem q7275 : (Jvm.Cond.methodLink "KnowHouseModel$VersionTransModel" (117 : Nat) ({ cls := "KnowHouseModel$VersionTransModel", name := "write", desc := "(IIZ)V" } : Jvm.MethodName)) ∈ lw_all := lw_g (lw_at lw_m29 77 rfl) rfl
theorem q7277 : (Jvm.Cond.instanceMethod ({ cls := "KnowHouseModel$VersionTransModel", name := "write", desc := "(IIZ)V" } : Jvm.MethodName)) ∈ lw_all := lw_g (lw_at lw_m29 79 rfl) rfl
theorem q7278 : (Jvm.Cond.code ({ cls := "KnowHouseModel$VersionTransModel", name := "write", desc := "(IIZ)V" } : Jvm.MethodName) prog_89_method_28_code (4 : Nat) (Option.none : Option Jvm.ClassFile.FieldType)) ∈ lw_all := lw_g (lw_at lw_m29 80 rfl) rfl
theorem q7279 : (Jvm.Cond.methodLink "KnowHouseModel$VersionTransModel" (124 : Nat) ({ cls := "KnowHouseModel$VersionTransModel", name := "hasAbove", desc := "(II)Z" } : Jvm.MethodName)) ∈ lw_all := lw_g (lw_at lw_m29 81 rfl) rfl
theorem q7281 : (Jvm.Cond.instanceMethod ({ cls := "KnowHouseModel$VersionTransModel", name := "hasAbove", desc := "(II)Z" } : Jvm.MethodName)) ∈ lw_all := lw_g (lw_at lw_m29 83 rfl) rfl
theorem q7282 : (Jvm.Cond.code ({ cls := "KnowHouseModel$VersionTransModel", name := "hasAbove", desc := "(II)Z" } : Jvm.MethodName) prog_89_method_10_code (4 : Nat) (Option.some Jvm.ClassFile.FieldType.boolean)) ∈ lw_all := lw_g (lw_at lw_m29 84 rfl) rfl
theorem q7283 : (Jvm.Cond.methodLink "KnowHouseModel$VersionTransModel" (130 : Nat) ({ cls := "KnowHouseModel$VersionTransModel", name := "lookForRing", desc := "(I)V" } : Jvm.MethodName)) ∈ lw_all := lw_g (lw_at lw_m29 85 rfl) rfl
theorem q7285 : (Jvm.Cond.instanceMethod ({ cls := "KnowHouseModel$VersionTransModel", name := "lookForRing", desc := "(I)V" } : Jvm.MethodName)) ∈ lw_all := lw_g (lw_at lw_m29 87 rfl) rfl
theorem q7286 : (Jvm.Cond.code ({ cls := "KnowHouseModel$VersionTransModel", name := "lookForRing", desc := "(I)V" } : Jvm.MethodName) prog_89_method_29_code (4 : Nat) (Option.none : Option Jvm.ClassFile.FieldType)) ∈ lw_all := lw_g (lw_at lw_m29 88 rfl) rfl
theorem q7287 : (Jvm.Cond.methodLink "KnowHouseModel$VersionTransModel" (134 : Nat) ({ cls := "KnowHouseModel$VersionTransModel", name := "takeRing", desc := "(II)V" } : Jvm.MethodName)) ∈ lw_all := lw_g (lw_at lw_m29 89 rfl) rfl
theorem q7289 : (Jvm.Cond.instanceMethod ({ cls := "KnowHouseModel$VersionTransModel", name := "takeRing", desc := "(II)V" } : Jvm.MethodName)) ∈ lw_all := lw_g (lw_at lw_m29 91 rfl) rfl
theorem q7290 : (Jvm.Cond.code ({ cls := "KnowHouseModel$VersionTransModel", name := "takeRing", desc := "(II)V" } : Jvm.MethodName) prog_89_method_30_code (6 : Nat) (Option.none : Option Jvm.ClassFile.FieldType)) ∈ lw_all := lw_g (lw_at lw_m29 92 rfl) rfl
theorem q7291 : (Jvm.Cond.methodLink "KnowHouseModel$VersionTransModel" (141 : Nat) ({ cls := "KnowHouseModel$VersionTransModel", name := "end", desc := "(II)V" } : Jvm.MethodName)) ∈ lw_all := lw_g (lw_at lw_m29 93 rfl) rfl
theorem q7293 : (Jvm.Cond.instanceMethod ({ cls := "KnowHouseModel$VersionTransModel", name := "end", desc := "(II)V" } : Jvm.MethodName)) ∈ lw_all := lw_g (lw_at lw_m29 95 rfl) rfl
theorem q7294 : (Jvm.Cond.code ({ cls := "KnowHouseModel$VersionTransModel", name := "end", desc := "(II)V" } : Jvm.MethodName) prog_89_method_31_code (7 : Nat) (Option.none : Option Jvm.ClassFile.FieldType)) ∈ lw_all := lw_g (lw_at lw_m29 96 rfl) rfl
theorem q7295 : (Jvm.Cond.methodLink "KnowHouseModel$VersionTransModel" (121 : Nat) ({ cls := "KnowHouseModel$VersionTransModel", name := "goOn", desc := "()V" } : Jvm.MethodName)) ∈ lw_all := lw_g (lw_at lw_m29 97 rfl) rfl
theorem q7297 : (Jvm.Cond.instanceMethod ({ cls := "KnowHouseModel$VersionTransModel", name := "goOn", desc := "()V" } : Jvm.MethodName)) ∈ lw_all := lw_g (lw_at lw_m29 99 rfl) rfl
theorem q7298 : (Jvm.Cond.code ({ cls := "KnowHouseModel$VersionTransModel", name := "goOn", desc := "()V" } : Jvm.MethodName) prog_89_method_32_code (2 : Nat) (Option.none : Option Jvm.ClassFile.FieldType)) ∈ lw_all := lw_g (lw_at lw_m29 100 rfl) rfl
theorem q7303 : (Jvm.Cond.methodLink "KnowHouseModel$VersionTransModel" (89 : Nat) ({ cls := "KnowHouseModel$VersionTransModel", name := "isLive", desc := "(I)Z" } : Jvm.MethodName)) ∈ lw_all := lw_g (lw_at lw_m29 105 rfl) rfl
theorem q7305 : (Jvm.Cond.instanceMethod ({ cls := "KnowHouseModel$VersionTransModel", name := "isLive", desc := "(I)Z" } : Jvm.MethodName)) ∈ lw_all := lw_g (lw_at lw_m29 107 rfl) rfl
theorem q7306 : (Jvm.Cond.code ({ cls := "KnowHouseModel$VersionTransModel", name := "isLive", desc := "(I)Z" } : Jvm.MethodName) prog_89_method_6_code (2 : Nat) (Option.some Jvm.ClassFile.FieldType.boolean)) ∈ lw_all := lw_g (lw_at lw_m29 108 rfl) rfl
theorem q7307 : (Jvm.Cond.methodLink "KnowHouseModel$VersionTransModel" (150 : Nat) ({ cls := "KnowHouseModel$VersionTransModel", name := "writes", desc := "(I)I" } : Jvm.MethodName)) ∈ lw_all := lw_g (lw_at lw_m29 109 rfl) rfl
theorem q7309 : (Jvm.Cond.instanceMethod ({ cls := "KnowHouseModel$VersionTransModel", name := "writes", desc := "(I)I" } : Jvm.MethodName)) ∈ lw_all := lw_g (lw_at lw_m29 111 rfl) rfl
theorem q7310 : (Jvm.Cond.code ({ cls := "KnowHouseModel$VersionTransModel", name := "writes", desc := "(I)I" } : Jvm.MethodName) prog_89_method_33_code (4 : Nat) (Option.some Jvm.ClassFile.FieldType.int)) ∈ lw_all := lw_g (lw_at lw_m29 112 rfl) rfl
theorem q7316 : (Jvm.Cond.methodLink "KnowHouseModel$VersionTransModel" (154 : Nat) ({ cls := "KnowHouseModel$VersionTransModel", name := "changed", desc := "(I)I" } : Jvm.MethodName)) ∈ lw_all := lw_g (lw_at lw_m29 118 rfl) rfl
theorem q7318 : (Jvm.Cond.instanceMethod ({ cls := "KnowHouseModel$VersionTransModel", name := "changed", desc := "(I)I" } : Jvm.MethodName)) ∈ lw_all := lw_g (lw_at lw_m29 120 rfl) rfl
theorem q7319 : (Jvm.Cond.code ({ cls := "KnowHouseModel$VersionTransModel", name := "changed", desc := "(I)I" } : Jvm.MethodName) prog_89_method_35_code (4 : Nat) (Option.some Jvm.ClassFile.FieldType.int)) ∈ lw_all := lw_g (lw_at lw_m29 121 rfl) rfl
theorem q7320 : (Jvm.Cond.methodLink "KnowHouseModel$VersionTransModel" (103 : Nat) ({ cls := "KnowHouseModel$VersionTransModel", name := "isThere", desc := "(II)Z" } : Jvm.MethodName)) ∈ lw_all := lw_g (lw_at lw_m29 122 rfl) rfl
theorem q7322 : (Jvm.Cond.instanceMethod ({ cls := "KnowHouseModel$VersionTransModel", name := "isThere", desc := "(II)Z" } : Jvm.MethodName)) ∈ lw_all := lw_g (lw_at lw_m29 124 rfl) rfl
theorem q7323 : (Jvm.Cond.code ({ cls := "KnowHouseModel$VersionTransModel", name := "isThere", desc := "(II)Z" } : Jvm.MethodName) prog_89_method_9_code (4 : Nat) (Option.some Jvm.ClassFile.FieldType.boolean)) ∈ lw_all := lw_g (lw_at lw_m29 125 rfl) rfl
theorem q7324 : (Jvm.Cond.methodLink "KnowHouseModel$VersionTransModel" (85 : Nat) ({ cls := "KnowHouseModel$VersionTransModel", name := "rowOf", desc := "(II)I" } : Jvm.MethodName)) ∈ lw_all := lw_g (lw_at lw_m29 126 rfl) rfl
theorem q7326 : (Jvm.Cond.instanceMethod ({ cls := "KnowHouseModel$VersionTransModel", name := "rowOf", desc := "(II)I" } : Jvm.MethodName)) ∈ lw_all := lw_g (lw_at lw_m29 128 rfl) rfl
theorem q7327 : (Jvm.Cond.code ({ cls := "KnowHouseModel$VersionTransModel", name := "rowOf", desc := "(II)I" } : Jvm.MethodName) prog_89_method_8_code (5 : Nat) (Option.some Jvm.ClassFile.FieldType.int)) ∈ lw_all := lw_g (lw_at lw_m29 129 rfl) rfl
theorem q7392 : (Jvm.Cond.methodLink "KnowHouseModel$VersionTransModel" (93 : Nat) ({ cls := "KnowHouseModel$VersionTransModel", name := "isTellable", desc := "(I)Z" } : Jvm.MethodName)) ∈ lw_all := lw_g (lw_at lw_m29 194 rfl) rfl
theorem q7394 : (Jvm.Cond.instanceMethod ({ cls := "KnowHouseModel$VersionTransModel", name := "isTellable", desc := "(I)Z" } : Jvm.MethodName)) ∈ lw_all := lw_g (lw_at lw_m29 196 rfl) rfl
theorem q7395 : (Jvm.Cond.code ({ cls := "KnowHouseModel$VersionTransModel", name := "isTellable", desc := "(I)Z" } : Jvm.MethodName) prog_89_method_7_code (2 : Nat) (Option.some Jvm.ClassFile.FieldType.boolean)) ∈ lw_all := lw_g (lw_at lw_m29 197 rfl) rfl
theorem q7396 : (Jvm.Cond.methodLink "KnowHouseModel$VersionTransModel" (75 : Nat) ({ cls := "KnowHouseModel$VersionTransModel", name := "leastKept", desc := "()I" } : Jvm.MethodName)) ∈ lw_all := lw_g (lw_at lw_m29 198 rfl) rfl
theorem q7398 : (Jvm.Cond.instanceMethod ({ cls := "KnowHouseModel$VersionTransModel", name := "leastKept", desc := "()I" } : Jvm.MethodName)) ∈ lw_all := lw_g (lw_at lw_m29 200 rfl) rfl
theorem q7399 : (Jvm.Cond.code ({ cls := "KnowHouseModel$VersionTransModel", name := "leastKept", desc := "()I" } : Jvm.MethodName) prog_89_method_12_code (3 : Nat) (Option.some Jvm.ClassFile.FieldType.int)) ∈ lw_all := lw_g (lw_at lw_m29 201 rfl) rfl
theorem gX48_75 : GoodIn lw_all (wsV RX48 75 RX48 yX48_leastKept (ws_ yX48_leastKept cX48_leastKept 3 (Option.some Jvm.ClassFile.FieldType.int))) := lw_V q7396 q7398 qs262 q543 q7399
theorem gX48_85 : GoodIn lw_all (wsV RX48 85 RX48 yX48_rowOf (ws_ yX48_rowOf cX48_rowOf 5 (Option.some Jvm.ClassFile.FieldType.int))) := lw_V q7324 q7326 qs255 q543 q7327
theorem gX48_89 : GoodIn lw_all (wsV RX48 89 RX48 yX48_isLive (ws_ yX48_isLive cX48_isLive 2 (Option.some Jvm.ClassFile.FieldType.boolean))) := lw_V q7303 q7305 qs251 q543 q7306
theorem gX48_93 : GoodIn lw_all (wsV RX48 93 RX48 yX48_isTellable (ws_ yX48_isTellable cX48_isTellable 2 (Option.some Jvm.ClassFile.FieldType.boolean))) := lw_V q7392 q7394 qs261 q543 q7395
theorem gX48_96 : GoodIn lw_all (va_wsS RX48 96 yX48_isTriple (ws_ yX48_isTriple cX48_isTriple 1 (Option.some Jvm.ClassFile.FieldType.boolean))) := lw_S q7264 q7265 q543 q7266
theorem gX48_99 : GoodIn lw_all (wsV RX48 99 RX48 yX48_fails (ws_ yX48_fails cX48_fails 3 (Option.some Jvm.ClassFile.FieldType.boolean))) := lw_V q7271 q7273 qs244 q543 q7274
theorem gX48_103 : GoodIn lw_all (wsV RX48 103 RX48 yX48_isThere (ws_ yX48_isThere cX48_isThere 4 (Option.some Jvm.ClassFile.FieldType.boolean))) := lw_V q7320 q7322 qs254 q543 q7323
theorem gX48_107 : GoodIn lw_all (wsV RX48 107 RX48 yX48_start (ws_ yX48_start cX48_start 3 (Option.some Jvm.ClassFile.FieldType.int))) := lw_V q7247 q7249 qs241 q543 q7250
theorem gX48_111 : GoodIn lw_all (wsV RX48 111 RX48 yX48_isTransaction (ws_ yX48_isTransaction cX48_isTransaction 2 (Option.some Jvm.ClassFile.FieldType.boolean))) := lw_V q7260 q7262 qs242 q543 q7263
theorem gX48_114 : GoodIn lw_all (wsV RX48 114 RX48 yX48_canWrite (ws_ yX48_canWrite cX48_canWrite 2 (Option.some Jvm.ClassFile.FieldType.boolean))) := lw_V q7267 q7269 qs243 q543 q7270
theorem gX48_117 : GoodIn lw_all (wsV RX48 117 RX48 yX48_write (ws_ yX48_write cX48_write 4 (Option.none : Option Jvm.ClassFile.FieldType))) := lw_V q7275 q7277 qs245 q543 q7278
theorem gX48_121 : GoodIn lw_all (wsV RX48 121 RX48 yX48_goOn (ws_ yX48_goOn cX48_goOn 2 (Option.none : Option Jvm.ClassFile.FieldType))) := lw_V q7295 q7297 qs250 q543 q7298
theorem gX48_124 : GoodIn lw_all (wsV RX48 124 RX48 yX48_hasAbove (ws_ yX48_hasAbove cX48_hasAbove 4 (Option.some Jvm.ClassFile.FieldType.boolean))) := lw_V q7279 q7281 qs246 q543 q7282
theorem gX48_130 : GoodIn lw_all (wsV RX48 130 RX48 yX48_lookForRing (ws_ yX48_lookForRing cX48_lookForRing 4 (Option.none : Option Jvm.ClassFile.FieldType))) := lw_V q7283 q7285 qs247 q543 q7286
theorem gX48_134 : GoodIn lw_all (wsV RX48 134 RX48 yX48_takeRing (ws_ yX48_takeRing cX48_takeRing 6 (Option.none : Option Jvm.ClassFile.FieldType))) := lw_V q7287 q7289 qs248 q543 q7290
theorem gX48_141 : GoodIn lw_all (wsV RX48 141 RX48 yX48_end (ws_ yX48_end cX48_end 7 (Option.none : Option Jvm.ClassFile.FieldType))) := lw_V q7291 q7293 qs249 q543 q7294
theorem gX48_150 : GoodIn lw_all (wsV RX48 150 RX48 yX48_writes (ws_ yX48_writes cX48_writes 4 (Option.some Jvm.ClassFile.FieldType.int))) := lw_V q7307 q7309 qs252 q543 q7310
theorem gX48_154 : GoodIn lw_all (wsV RX48 154 RX48 yX48_changed (ws_ yX48_changed cX48_changed 4 (Option.some Jvm.ClassFile.FieldType.int))) := lw_V q7316 q7318 qs253 q543 q7319
theorem hX48_canWrite : yX48_canWrite.cls = RX48 ∧ yX48_canWrite.cls ≠ "java/lang/invoke/MethodHandle" ∧ yX48_canWrite.cls ≠ "java/lang/invoke/VarHandle" ∧ (parseMethodDescriptor yX48_canWrite.desc).map (fun d => d.parameters.length) = some 1 := by decide +kernel
theorem hX48_changed : yX48_changed.cls = RX48 ∧ yX48_changed.cls ≠ "java/lang/invoke/MethodHandle" ∧ yX48_changed.cls ≠ "java/lang/invoke/VarHandle" ∧ (parseMethodDescriptor yX48_changed.desc).map (fun d => d.parameters.length) = some 1 := by decide +kernel
theorem hX48_end : yX48_end.cls = RX48 ∧ yX48_end.cls ≠ "java/lang/invoke/MethodHandle" ∧ yX48_end.cls ≠ "java/lang/invoke/VarHandle" ∧ (parseMethodDescriptor yX48_end.desc).map (fun d => d.parameters.length) = some 2 := by decide +kernel
theorem hX48_fails : yX48_fails.cls = RX48 ∧ yX48_fails.cls ≠ "java/lang/invoke/MethodHandle" ∧ yX48_fails.cls ≠ "java/lang/invoke/VarHandle" ∧ (parseMethodDescriptor yX48_fails.desc).map (fun d => d.parameters.length) = some 2 := by decide +kernel
theorem hX48_goOn : yX48_goOn.cls = RX48 ∧ yX48_goOn.cls ≠ "java/lang/invoke/MethodHandle" ∧ yX48_goOn.cls ≠ "java/lang/invoke/VarHandle" ∧ (parseMethodDescriptor yX48_goOn.desc).map (fun d => d.parameters.length) = some 0 := by decide +kernel
theorem hX48_hasAbove : yX48_hasAbove.cls = RX48 ∧ yX48_hasAbove.cls ≠ "java/lang/invoke/MethodHandle" ∧ yX48_hasAbove.cls ≠ "java/lang/invoke/VarHandle" ∧ (parseMethodDescriptor yX48_hasAbove.desc).map (fun d => d.parameters.length) = some 2 := by decide +kernel
theorem hX48_isLive : yX48_isLive.cls = RX48 ∧ yX48_isLive.cls ≠ "java/lang/invoke/MethodHandle" ∧ yX48_isLive.cls ≠ "java/lang/invoke/VarHandle" ∧ (parseMethodDescriptor yX48_isLive.desc).map (fun d => d.parameters.length) = some 1 := by decide +kernel
theorem hX48_isTellable : yX48_isTellable.cls = RX48 ∧ yX48_isTellable.cls ≠ "java/lang/invoke/MethodHandle" ∧ yX48_isTellable.cls ≠ "java/lang/invoke/VarHandle" ∧ (parseMethodDescriptor yX48_isTellable.desc).map (fun d => d.parameters.length) = some 1 := by decide +kernel
theorem hX48_isThere : yX48_isThere.cls = RX48 ∧ yX48_isThere.cls ≠ "java/lang/invoke/MethodHandle" ∧ yX48_isThere.cls ≠ "java/lang/invoke/VarHandle" ∧ (parseMethodDescriptor yX48_isThere.desc).map (fun d => d.parameters.length) = some 2 := by decide +kernel
theorem hX48_isTransaction : yX48_isTransaction.cls = RX48 ∧ yX48_isTransaction.cls ≠ "java/lang/invoke/MethodHandle" ∧ yX48_isTransaction.cls ≠ "java/lang/invoke/VarHandle" ∧ (parseMethodDescriptor yX48_isTransaction.desc).map (fun d => d.parameters.length) = some 1 := by decide +kernel
theorem hX48_isTriple : yX48_isTriple.cls ≠ "java/lang/invoke/MethodHandle" ∧ yX48_isTriple.cls ≠ "java/lang/invoke/VarHandle" ∧ (parseMethodDescriptor yX48_isTriple.desc).map (fun d => d.parameters.length) = some 1 := by decide +kernel
theorem hX48_leastKept : yX48_leastKept.cls = RX48 ∧ yX48_leastKept.cls ≠ "java/lang/invoke/MethodHandle" ∧ yX48_leastKept.cls ≠ "java/lang/invoke/VarHandle" ∧ (parseMethodDescriptor yX48_leastKept.desc).map (fun d => d.parameters.length) = some 0 := by decide +kernel
theorem hX48_lookForRing : yX48_lookForRing.cls = RX48 ∧ yX48_lookForRing.cls ≠ "java/lang/invoke/MethodHandle" ∧ yX48_lookForRing.cls ≠ "java/lang/invoke/VarHandle" ∧ (parseMethodDescriptor yX48_lookForRing.desc).map (fun d => d.parameters.length) = some 1 := by decide +kernel
theorem hX48_rowOf : yX48_rowOf.cls = RX48 ∧ yX48_rowOf.cls ≠ "java/lang/invoke/MethodHandle" ∧ yX48_rowOf.cls ≠ "java/lang/invoke/VarHandle" ∧ (parseMethodDescriptor yX48_rowOf.desc).map (fun d => d.parameters.length) = some 2 := by decide +kernel
theorem hX48_start : yX48_start.cls = RX48 ∧ yX48_start.cls ≠ "java/lang/invoke/MethodHandle" ∧ yX48_start.cls ≠ "java/lang/invoke/VarHandle" ∧ (parseMethodDescriptor yX48_start.desc).map (fun d => d.parameters.length) = some 2 := by decide +kernel
theorem hX48_takeRing : yX48_takeRing.cls = RX48 ∧ yX48_takeRing.cls ≠ "java/lang/invoke/MethodHandle" ∧ yX48_takeRing.cls ≠ "java/lang/invoke/VarHandle" ∧ (parseMethodDescriptor yX48_takeRing.desc).map (fun d => d.parameters.length) = some 2 := by decide +kernel
theorem hX48_write : yX48_write.cls = RX48 ∧ yX48_write.cls ≠ "java/lang/invoke/MethodHandle" ∧ yX48_write.cls ≠ "java/lang/invoke/VarHandle" ∧ (parseMethodDescriptor yX48_write.desc).map (fun d => d.parameters.length) = some 3 := by decide +kernel
theorem hX48_writes : yX48_writes.cls = RX48 ∧ yX48_writes.cls ≠ "java/lang/invoke/MethodHandle" ∧ yX48_writes.cls ≠ "java/lang/invoke/VarHandle" ∧ (parseMethodDescriptor yX48_writes.desc).map (fun d => d.parameters.length) = some 1 := by decide +kernel
