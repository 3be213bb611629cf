/-! KnowHouseModel$RuleEngineModel (printed by tools/zgen.py) -/
set_option maxRecDepth 100000
def RX55 : String := "KnowHouseModel$RuleEngineModel"
def TX55 : u_T := fun k => match k with
  | 0 => ("KnowHouseModel$RuleEngineModel", "said", "[Z", true)
  | 1 => ("KnowHouseModel$RuleEngineModel", "heads", "[I", true)
  | 2 => ("KnowHouseModel$RuleEngineModel", "kinds", "[I", true)
  | 3 => ("KnowHouseModel$RuleEngineModel", "folded", "[I", true)
  | 4 => ("KnowHouseModel$RuleEngineModel", "lengths", "[I", true)
  | 5 => ("KnowHouseModel$RuleEngineModel", "parts", "[I", true)
  | 6 => ("KnowHouseModel$RuleEngineModel", "rules", "I", false)
  | 7 => ("KnowHouseModel$RuleEngineModel", "known", "Z", false)
  | 8 => ("KnowHouseModel$RuleEngineModel", "rounds", "[I", true)
  | 9 => ("KnowHouseModel$RuleEngineModel", "given", "[I", true)
  | 10 => ("KnowHouseModel$RuleEngineModel", "strata", "[I", true)
  | 11 => ("KnowHouseModel$RuleEngineModel", "circle", "I", false)
  | 12 => ("KnowHouseModel$RuleEngineModel", "turns", "I", false)
  | 13 => ("KnowHouseModel$RuleEngineModel", "needs", "[I", true)
  | 14 => ("KnowHouseModel$RuleEngineModel", "comes", "[Z", true)
  | 15 => ("KnowHouseModel$RuleEngineModel", "values", "[I", true)
  | 16 => ("KnowHouseModel$RuleEngineModel", "plain", "[I", true)
  | 17 => ("KnowHouseModel$RuleEngineModel", "plainCount", "I", false)
  | 18 => ("KnowHouseModel$RuleEngineModel", "pointers", "[I", true)
  | 19 => ("KnowHouseModel$RuleEngineModel", "now", "I", false)
  | 20 => ("KnowHouseModel$RuleEngineModel", "fresh", "[I", true)
  | 21 => ("KnowHouseModel$RuleEngineModel", "many", "[I", true)
  | 22 => ("KnowHouseModel$RuleEngineModel", "sums", "[I", true)
  | 23 => ("KnowHouseModel$RuleEngineModel", "lows", "[I", true)
  | 24 => ("KnowHouseModel$RuleEngineModel", "highs", "[I", true)
  | 25 => ("KnowHouseModel$RuleEngineModel", "layed", "I", false)
  | 26 => ("KnowHouseModel$RuleEngineModel", "worked", "J", false)
  | _ => ("KnowHouseModel$RuleEngineModel", "large", "Z", false)
def tyX55 : Nat → FieldType := fun k => match k with
  | 0 => .array .boolean
  | 1 => .array .int
  | 2 => .array .int
  | 3 => .array .int
  | 4 => .array .int
  | 5 => .array .int
  | 6 => .int
  | 7 => .boolean
  | 8 => .array .int
  | 9 => .array .int
  | 10 => .array .int
  | 11 => .int
  | 12 => .int
  | 13 => .array .int
  | 14 => .array .boolean
  | 15 => .array .int
  | 16 => .array .int
  | 17 => .int
  | 18 => .array .int
  | 19 => .int
  | 20 => .array .int
  | 21 => .array .int
  | 22 => .array .int
  | 23 => .array .int
  | 24 => .array .int
  | 25 => .int
  | 26 => .long
  | _ => .boolean
abbrev wsX550 : List Cond := u_ws RX55 TX55 28
theorem nmX55 : ∀ a, a < 28 → ∀ b, b < 28 → a ≠ b → (TX55 a).2.1 ≠ (TX55 b).2.1 := by decide +kernel
theorem tyX55_ok : ∀ k, k < 28 → parseFieldDescriptor (TX55 k).2.2.1 = some (tyX55 k) := by decide +kernel
abbrev cX55_init : ByteArray := prog_88_method_1_code
def yX55_init : MethodName := ⟨RX55, "<init>", "()V"⟩
abbrev cX55_fact : ByteArray := prog_88_method_7_code
def yX55_fact : MethodName := ⟨RX55, "fact", "(III)I"⟩
theorem dX55_fact_0 : decode cX55_fact 0 = .ok (.iload_n 1, 1) := by decide +kernel
theorem dX55_fact_1 : decode cX55_fact 1 = .ok (.iload_n 2, 1) := by decide +kernel
theorem dX55_fact_2 : decode cX55_fact 2 = .ok (.iload_n 3, 1) := by decide +kernel
theorem dX55_fact_3 : decode cX55_fact 3 = .ok (.invokestatic 75, 3) := by decide +kernel
theorem dX55_fact_6 : decode cX55_fact 6 = .ok (.ifCond .ne 5, 3) := by decide +kernel
theorem dX55_fact_9 : decode cX55_fact 9 = .ok (.iconst (-1), 1) := by decide +kernel
theorem dX55_fact_10 : decode cX55_fact 10 = .ok (.ireturn, 1) := by decide +kernel
theorem dX55_fact_11 : decode cX55_fact 11 = .ok (.aload_n 0, 1) := by decide +kernel
theorem dX55_fact_12 : decode cX55_fact 12 = .ok (.getfield 7, 3) := by decide +kernel
theorem dX55_fact_15 : decode cX55_fact 15 = .ok (.iload_n 1, 1) := by decide +kernel
theorem dX55_fact_16 : decode cX55_fact 16 = .ok (.iload_n 2, 1) := by decide +kernel
theorem dX55_fact_17 : decode cX55_fact 17 = .ok (.iload_n 3, 1) := by decide +kernel
theorem dX55_fact_18 : decode cX55_fact 18 = .ok (.invokestatic 79, 3) := by decide +kernel
theorem dX55_fact_21 : decode cX55_fact 21 = .ok (.baload, 1) := by decide +kernel
theorem dX55_fact_22 : decode cX55_fact 22 = .ok (.ifCond .eq 5, 3) := by decide +kernel
theorem dX55_fact_25 : decode cX55_fact 25 = .ok (.iconst 0, 1) := by decide +kernel
theorem dX55_fact_26 : decode cX55_fact 26 = .ok (.ireturn, 1) := by decide +kernel
theorem dX55_fact_27 : decode cX55_fact 27 = .ok (.aload_n 0, 1) := by decide +kernel
theorem dX55_fact_28 : decode cX55_fact 28 = .ok (.getfield 7, 3) := by decide +kernel
theorem dX55_fact_31 : decode cX55_fact 31 = .ok (.iload_n 1, 1) := by decide +kernel
theorem dX55_fact_32 : decode cX55_fact 32 = .ok (.iload_n 2, 1) := by decide +kernel
theorem dX55_fact_33 : decode cX55_fact 33 = .ok (.iload_n 3, 1) := by decide +kernel
theorem dX55_fact_34 : decode cX55_fact 34 = .ok (.invokestatic 79, 3) := by decide +kernel
theorem dX55_fact_37 : decode cX55_fact 37 = .ok (.iconst 1, 1) := by decide +kernel
theorem dX55_fact_38 : decode cX55_fact 38 = .ok (.bastore, 1) := by decide +kernel
theorem dX55_fact_39 : decode cX55_fact 39 = .ok (.aload_n 0, 1) := by decide +kernel
theorem dX55_fact_40 : decode cX55_fact 40 = .ok (.iconst 0, 1) := by decide +kernel
theorem dX55_fact_41 : decode cX55_fact 41 = .ok (.putfield 83, 3) := by decide +kernel
theorem dX55_fact_44 : decode cX55_fact 44 = .ok (.iconst 1, 1) := by decide +kernel
theorem dX55_fact_45 : decode cX55_fact 45 = .ok (.ireturn, 1) := by decide +kernel
abbrev cX55_isFact : ByteArray := prog_88_method_5_code
def yX55_isFact : MethodName := ⟨RX55, "isFact", "(III)Z"⟩
theorem dX55_isFact_0 : decode cX55_isFact 0 = .ok (.iload_n 0, 1) := by decide +kernel
theorem dX55_isFact_1 : decode cX55_isFact 1 = .ok (.invokestatic 68, 3) := by decide +kernel
theorem dX55_isFact_4 : decode cX55_isFact 4 = .ok (.ifCond .eq 21, 3) := by decide +kernel
theorem dX55_isFact_7 : decode cX55_isFact 7 = .ok (.iload_n 1, 1) := by decide +kernel
theorem dX55_isFact_8 : decode cX55_isFact 8 = .ok (.invokestatic 72, 3) := by decide +kernel
theorem dX55_isFact_11 : decode cX55_isFact 11 = .ok (.ifCond .eq 14, 3) := by decide +kernel
theorem dX55_isFact_14 : decode cX55_isFact 14 = .ok (.iload_n 2, 1) := by decide +kernel
theorem dX55_isFact_15 : decode cX55_isFact 15 = .ok (.invokestatic 72, 3) := by decide +kernel
theorem dX55_isFact_18 : decode cX55_isFact 18 = .ok (.ifCond .eq 7, 3) := by decide +kernel
theorem dX55_isFact_21 : decode cX55_isFact 21 = .ok (.iconst 1, 1) := by decide +kernel
theorem dX55_isFact_22 : decode cX55_isFact 22 = .ok (.goto 4, 3) := by decide +kernel
theorem dX55_isFact_25 : decode cX55_isFact 25 = .ok (.iconst 0, 1) := by decide +kernel
theorem dX55_isFact_26 : decode cX55_isFact 26 = .ok (.ireturn, 1) := by decide +kernel
abbrev cX55_isName : ByteArray := prog_88_method_2_code
def yX55_isName : MethodName := ⟨RX55, "isName", "(I)Z"⟩
theorem dX55_isName_0 : decode cX55_isName 0 = .ok (.iload_n 0, 1) := by decide +kernel
theorem dX55_isName_1 : decode cX55_isName 1 = .ok (.ifCond .lt 13, 3) := by decide +kernel
theorem dX55_isName_4 : decode cX55_isName 4 = .ok (.iload_n 0, 1) := by decide +kernel
theorem dX55_isName_5 : decode cX55_isName 5 = .ok (.bipush 16, 2) := by decide +kernel
theorem dX55_isName_7 : decode cX55_isName 7 = .ok (.if_icmp .ge 7, 3) := by decide +kernel
theorem dX55_isName_10 : decode cX55_isName 10 = .ok (.iconst 1, 1) := by decide +kernel
theorem dX55_isName_11 : decode cX55_isName 11 = .ok (.goto 4, 3) := by decide +kernel
theorem dX55_isName_14 : decode cX55_isName 14 = .ok (.iconst 0, 1) := by decide +kernel
theorem dX55_isName_15 : decode cX55_isName 15 = .ok (.ireturn, 1) := by decide +kernel
abbrev cX55_isNumber : ByteArray := prog_88_method_3_code
def yX55_isNumber : MethodName := ⟨RX55, "isNumber", "(I)Z"⟩
theorem dX55_isNumber_0 : decode cX55_isNumber 0 = .ok (.iload_n 0, 1) := by decide +kernel
theorem dX55_isNumber_1 : decode cX55_isNumber 1 = .ok (.ifCond .lt 13, 3) := by decide +kernel
theorem dX55_isNumber_4 : decode cX55_isNumber 4 = .ok (.iload_n 0, 1) := by decide +kernel
theorem dX55_isNumber_5 : decode cX55_isNumber 5 = .ok (.bipush 32, 2) := by decide +kernel
theorem dX55_isNumber_7 : decode cX55_isNumber 7 = .ok (.if_icmp .ge 7, 3) := by decide +kernel
theorem dX55_isNumber_10 : decode cX55_isNumber 10 = .ok (.iconst 1, 1) := by decide +kernel
theorem dX55_isNumber_11 : decode cX55_isNumber 11 = .ok (.goto 4, 3) := by decide +kernel
theorem dX55_isNumber_14 : decode cX55_isNumber 14 = .ok (.iconst 0, 1) := by decide +kernel
theorem dX55_isNumber_15 : decode cX55_isNumber 15 = .ok (.ireturn, 1) := by decide +kernel
abbrev cX55_code : ByteArray := prog_88_method_6_code
def yX55_code : MethodName := ⟨RX55, "code", "(III)I"⟩
theorem dX55_code_0 : decode cX55_code 0 = .ok (.sipush 1024, 3) := by decide +kernel
theorem dX55_code_3 : decode cX55_code 3 = .ok (.iload_n 0, 1) := by decide +kernel
theorem dX55_code_4 : decode cX55_code 4 = .ok (.imul, 1) := by decide +kernel
theorem dX55_code_5 : decode cX55_code 5 = .ok (.bipush 32, 2) := by decide +kernel
theorem dX55_code_7 : decode cX55_code 7 = .ok (.iload_n 1, 1) := by decide +kernel
theorem dX55_code_8 : decode cX55_code 8 = .ok (.imul, 1) := by decide +kernel
theorem dX55_code_9 : decode cX55_code 9 = .ok (.iadd, 1) := by decide +kernel
theorem dX55_code_10 : decode cX55_code 10 = .ok (.iload_n 2, 1) := by decide +kernel
theorem dX55_code_11 : decode cX55_code 11 = .ok (.iadd, 1) := by decide +kernel
theorem dX55_code_12 : decode cX55_code 12 = .ok (.ireturn, 1) := by decide +kernel
abbrev cX55_remove : ByteArray := prog_88_method_8_code
def yX55_remove : MethodName := ⟨RX55, "remove", "(III)I"⟩
theorem dX55_remove_0 : decode cX55_remove 0 = .ok (.iload_n 1, 1) := by decide +kernel
theorem dX55_remove_1 : decode cX55_remove 1 = .ok (.iload_n 2, 1) := by decide +kernel
theorem dX55_remove_2 : decode cX55_remove 2 = .ok (.iload_n 3, 1) := by decide +kernel
theorem dX55_remove_3 : decode cX55_remove 3 = .ok (.invokestatic 75, 3) := by decide +kernel
theorem dX55_remove_6 : decode cX55_remove 6 = .ok (.ifCond .ne 5, 3) := by decide +kernel
theorem dX55_remove_9 : decode cX55_remove 9 = .ok (.iconst (-1), 1) := by decide +kernel
theorem dX55_remove_10 : decode cX55_remove 10 = .ok (.ireturn, 1) := by decide +kernel
theorem dX55_remove_11 : decode cX55_remove 11 = .ok (.aload_n 0, 1) := by decide +kernel
theorem dX55_remove_12 : decode cX55_remove 12 = .ok (.getfield 7, 3) := by decide +kernel
theorem dX55_remove_15 : decode cX55_remove 15 = .ok (.iload_n 1, 1) := by decide +kernel
theorem dX55_remove_16 : decode cX55_remove 16 = .ok (.iload_n 2, 1) := by decide +kernel
theorem dX55_remove_17 : decode cX55_remove 17 = .ok (.iload_n 3, 1) := by decide +kernel
theorem dX55_remove_18 : decode cX55_remove 18 = .ok (.invokestatic 79, 3) := by decide +kernel
theorem dX55_remove_21 : decode cX55_remove 21 = .ok (.baload, 1) := by decide +kernel
theorem dX55_remove_22 : decode cX55_remove 22 = .ok (.ifCond .ne 5, 3) := by decide +kernel
theorem dX55_remove_25 : decode cX55_remove 25 = .ok (.iconst 0, 1) := by decide +kernel
theorem dX55_remove_26 : decode cX55_remove 26 = .ok (.ireturn, 1) := by decide +kernel
theorem dX55_remove_27 : decode cX55_remove 27 = .ok (.aload_n 0, 1) := by decide +kernel
theorem dX55_remove_28 : decode cX55_remove 28 = .ok (.getfield 7, 3) := by decide +kernel
theorem dX55_remove_31 : decode cX55_remove 31 = .ok (.iload_n 1, 1) := by decide +kernel
theorem dX55_remove_32 : decode cX55_remove 32 = .ok (.iload_n 2, 1) := by decide +kernel
theorem dX55_remove_33 : decode cX55_remove 33 = .ok (.iload_n 3, 1) := by decide +kernel
theorem dX55_remove_34 : decode cX55_remove 34 = .ok (.invokestatic 79, 3) := by decide +kernel
theorem dX55_remove_37 : decode cX55_remove 37 = .ok (.iconst 0, 1) := by decide +kernel
theorem dX55_remove_38 : decode cX55_remove 38 = .ok (.bastore, 1) := by decide +kernel
theorem dX55_remove_39 : decode cX55_remove 39 = .ok (.aload_n 0, 1) := by decide +kernel
theorem dX55_remove_40 : decode cX55_remove 40 = .ok (.iconst 0, 1) := by decide +kernel
theorem dX55_remove_41 : decode cX55_remove 41 = .ok (.putfield 83, 3) := by decide +kernel
theorem dX55_remove_44 : decode cX55_remove 44 = .ok (.iconst 1, 1) := by decide +kernel
theorem dX55_remove_45 : decode cX55_remove 45 = .ok (.ireturn, 1) := by decide +kernel
abbrev cX55_holds : ByteArray := prog_88_method_34_code
def yX55_holds : MethodName := ⟨RX55, "holds", "(III)I"⟩
theorem dX55_holds_0 : decode cX55_holds 0 = .ok (.iload_n 1, 1) := by decide +kernel
theorem dX55_holds_1 : decode cX55_holds 1 = .ok (.iload_n 2, 1) := by decide +kernel
theorem dX55_holds_2 : decode cX55_holds 2 = .ok (.iload_n 3, 1) := by decide +kernel
theorem dX55_holds_3 : decode cX55_holds 3 = .ok (.invokestatic 75, 3) := by decide +kernel
theorem dX55_holds_6 : decode cX55_holds 6 = .ok (.ifCond .ne 5, 3) := by decide +kernel
theorem dX55_holds_9 : decode cX55_holds 9 = .ok (.iconst (-1), 1) := by decide +kernel
theorem dX55_holds_10 : decode cX55_holds 10 = .ok (.ireturn, 1) := by decide +kernel
theorem dX55_holds_11 : decode cX55_holds 11 = .ok (.aload_n 0, 1) := by decide +kernel
theorem dX55_holds_12 : decode cX55_holds 12 = .ok (.invokevirtual 173, 3) := by decide +kernel
theorem dX55_holds_15 : decode cX55_holds 15 = .ok (.iload_n 1, 1) := by decide +kernel
theorem dX55_holds_16 : decode cX55_holds 16 = .ok (.iload_n 2, 1) := by decide +kernel
theorem dX55_holds_17 : decode cX55_holds 17 = .ok (.iload_n 3, 1) := by decide +kernel
theorem dX55_holds_18 : decode cX55_holds 18 = .ok (.invokestatic 79, 3) := by decide +kernel
theorem dX55_holds_21 : decode cX55_holds 21 = .ok (.istore 4, 2) := by decide +kernel
theorem dX55_holds_23 : decode cX55_holds 23 = .ok (.aload_n 0, 1) := by decide +kernel
theorem dX55_holds_24 : decode cX55_holds 24 = .ok (.getfield 7, 3) := by decide +kernel
theorem dX55_holds_27 : decode cX55_holds 27 = .ok (.iload 4, 2) := by decide +kernel
theorem dX55_holds_29 : decode cX55_holds 29 = .ok (.baload, 1) := by decide +kernel
theorem dX55_holds_30 : decode cX55_holds 30 = .ok (.ifCond .eq 7, 3) := by decide +kernel
theorem dX55_holds_33 : decode cX55_holds 33 = .ok (.iconst 1, 1) := by decide +kernel
theorem dX55_holds_34 : decode cX55_holds 34 = .ok (.goto 18, 3) := by decide +kernel
theorem dX55_holds_37 : decode cX55_holds 37 = .ok (.aload_n 0, 1) := by decide +kernel
theorem dX55_holds_38 : decode cX55_holds 38 = .ok (.getfield 29, 3) := by decide +kernel
theorem dX55_holds_41 : decode cX55_holds 41 = .ok (.iload 4, 2) := by decide +kernel
theorem dX55_holds_43 : decode cX55_holds 43 = .ok (.iaload, 1) := by decide +kernel
theorem dX55_holds_44 : decode cX55_holds 44 = .ok (.ifCond .lt 7, 3) := by decide +kernel
theorem dX55_holds_47 : decode cX55_holds 47 = .ok (.iconst 2, 1) := by decide +kernel
theorem dX55_holds_48 : decode cX55_holds 48 = .ok (.goto 4, 3) := by decide +kernel
theorem dX55_holds_51 : decode cX55_holds 51 = .ok (.iconst 0, 1) := by decide +kernel
theorem dX55_holds_52 : decode cX55_holds 52 = .ok (.ireturn, 1) := by decide +kernel
abbrev cX55_work : ByteArray := prog_88_method_29_code
def yX55_work : MethodName := ⟨RX55, "work", "()V"⟩
theorem dX55_work_0 : decode cX55_work 0 = .ok (.aload_n 0, 1) := by decide +kernel
theorem dX55_work_1 : decode cX55_work 1 = .ok (.getfield 83, 3) := by decide +kernel
theorem dX55_work_4 : decode cX55_work 4 = .ok (.ifCond .eq 4, 3) := by decide +kernel
theorem dX55_work_7 : decode cX55_work 7 = .ok (.return_, 1) := by decide +kernel
theorem dX55_work_8 : decode cX55_work 8 = .ok (.aload_n 0, 1) := by decide +kernel
theorem dX55_work_9 : decode cX55_work 9 = .ok (.invokevirtual 145, 3) := by decide +kernel
theorem dX55_work_12 : decode cX55_work 12 = .ok (.aload_n 0, 1) := by decide +kernel
theorem dX55_work_13 : decode cX55_work 13 = .ok (.invokevirtual 148, 3) := by decide +kernel
theorem dX55_work_16 : decode cX55_work 16 = .ok (.aload_n 0, 1) := by decide +kernel
theorem dX55_work_17 : decode cX55_work 17 = .ok (.iconst 0, 1) := by decide +kernel
theorem dX55_work_18 : decode cX55_work 18 = .ok (.putfield 151, 3) := by decide +kernel
theorem dX55_work_21 : decode cX55_work 21 = .ok (.iconst 0, 1) := by decide +kernel
theorem dX55_work_22 : decode cX55_work 22 = .ok (.istore_n 1, 1) := by decide +kernel
theorem dX55_work_23 : decode cX55_work 23 = .ok (.iload_n 1, 1) := by decide +kernel
theorem dX55_work_24 : decode cX55_work 24 = .ok (.sipush 16384, 3) := by decide +kernel
theorem dX55_work_27 : decode cX55_work 27 = .ok (.if_icmp .ge 43, 3) := by decide +kernel
theorem dX55_work_30 : decode cX55_work 30 = .ok (.aload_n 0, 1) := by decide +kernel
theorem dX55_work_31 : decode cX55_work 31 = .ok (.getfield 29, 3) := by decide +kernel
theorem dX55_work_34 : decode cX55_work 34 = .ok (.iload_n 1, 1) := by decide +kernel
theorem dX55_work_35 : decode cX55_work 35 = .ok (.aload_n 0, 1) := by decide +kernel
theorem dX55_work_36 : decode cX55_work 36 = .ok (.getfield 7, 3) := by decide +kernel
theorem dX55_work_39 : decode cX55_work 39 = .ok (.iload_n 1, 1) := by decide +kernel
theorem dX55_work_40 : decode cX55_work 40 = .ok (.baload, 1) := by decide +kernel
theorem dX55_work_41 : decode cX55_work 41 = .ok (.ifCond .eq 7, 3) := by decide +kernel
theorem dX55_work_44 : decode cX55_work 44 = .ok (.iconst 0, 1) := by decide +kernel
theorem dX55_work_45 : decode cX55_work 45 = .ok (.goto 4, 3) := by decide +kernel
theorem dX55_work_48 : decode cX55_work 48 = .ok (.iconst (-1), 1) := by decide +kernel
theorem dX55_work_49 : decode cX55_work 49 = .ok (.iastore, 1) := by decide +kernel
theorem dX55_work_50 : decode cX55_work 50 = .ok (.aload_n 0, 1) := by decide +kernel
theorem dX55_work_51 : decode cX55_work 51 = .ok (.getfield 32, 3) := by decide +kernel
theorem dX55_work_54 : decode cX55_work 54 = .ok (.iload_n 1, 1) := by decide +kernel
theorem dX55_work_55 : decode cX55_work 55 = .ok (.iconst 0, 1) := by decide +kernel
theorem dX55_work_56 : decode cX55_work 56 = .ok (.iastore, 1) := by decide +kernel
theorem dX55_work_57 : decode cX55_work 57 = .ok (.aload_n 0, 1) := by decide +kernel
theorem dX55_work_58 : decode cX55_work 58 = .ok (.getfield 53, 3) := by decide +kernel
theorem dX55_work_61 : decode cX55_work 61 = .ok (.iload_n 1, 1) := by decide +kernel
theorem dX55_work_62 : decode cX55_work 62 = .ok (.iconst 0, 1) := by decide +kernel
theorem dX55_work_63 : decode cX55_work 63 = .ok (.iastore, 1) := by decide +kernel
theorem dX55_work_64 : decode cX55_work 64 = .ok (.iinc 1 1, 3) := by decide +kernel
theorem dX55_work_67 : decode cX55_work 67 = .ok (.goto (-44), 3) := by decide +kernel
theorem dX55_work_70 : decode cX55_work 70 = .ok (.aload_n 0, 1) := by decide +kernel
theorem dX55_work_71 : decode cX55_work 71 = .ok (.iconst 0, 1) := by decide +kernel
theorem dX55_work_72 : decode cX55_work 72 = .ok (.putfield 154, 3) := by decide +kernel
theorem dX55_work_75 : decode cX55_work 75 = .ok (.aload_n 0, 1) := by decide +kernel
theorem dX55_work_76 : decode cX55_work 76 = .ok (.lconst 0, 1) := by decide +kernel
theorem dX55_work_77 : decode cX55_work 77 = .ok (.putfield 157, 3) := by decide +kernel
theorem dX55_work_80 : decode cX55_work 80 = .ok (.iconst 0, 1) := by decide +kernel
theorem dX55_work_81 : decode cX55_work 81 = .ok (.istore_n 1, 1) := by decide +kernel
theorem dX55_work_82 : decode cX55_work 82 = .ok (.iload_n 1, 1) := by decide +kernel
theorem dX55_work_83 : decode cX55_work 83 = .ok (.bipush 16, 2) := by decide +kernel
theorem dX55_work_85 : decode cX55_work 85 = .ok (.if_icmp .ge 141, 3) := by decide +kernel
theorem dX55_work_88 : decode cX55_work 88 = .ok (.aload_n 0, 1) := by decide +kernel
theorem dX55_work_89 : decode cX55_work 89 = .ok (.getfield 108, 3) := by decide +kernel
theorem dX55_work_92 : decode cX55_work 92 = .ok (.ifCond .ge 134, 3) := by decide +kernel
theorem dX55_work_95 : decode cX55_work 95 = .ok (.aload_n 0, 1) := by decide +kernel
theorem dX55_work_96 : decode cX55_work 96 = .ok (.getfield 154, 3) := by decide +kernel
theorem dX55_work_99 : decode cX55_work 99 = .ok (.ifCond .ne 127, 3) := by decide +kernel
theorem dX55_work_102 : decode cX55_work 102 = .ok (.iconst 1, 1) := by decide +kernel
theorem dX55_work_103 : decode cX55_work 103 = .ok (.istore_n 2, 1) := by decide +kernel
theorem dX55_work_104 : decode cX55_work 104 = .ok (.aload_n 0, 1) := by decide +kernel
theorem dX55_work_105 : decode cX55_work 105 = .ok (.iconst 1, 1) := by decide +kernel
theorem dX55_work_106 : decode cX55_work 106 = .ok (.putfield 130, 3) := by decide +kernel
theorem dX55_work_109 : decode cX55_work 109 = .ok (.aload_n 0, 1) := by decide +kernel
theorem dX55_work_110 : decode cX55_work 110 = .ok (.getfield 130, 3) := by decide +kernel
theorem dX55_work_113 : decode cX55_work 113 = .ok (.ifCond .le 107, 3) := by decide +kernel
theorem dX55_work_116 : decode cX55_work 116 = .ok (.aload_n 0, 1) := by decide +kernel
theorem dX55_work_117 : decode cX55_work 117 = .ok (.getfield 154, 3) := by decide +kernel
theorem dX55_work_120 : decode cX55_work 120 = .ok (.ifCond .ne 100, 3) := by decide +kernel
theorem dX55_work_123 : decode cX55_work 123 = .ok (.aload_n 0, 1) := by decide +kernel
theorem dX55_work_124 : decode cX55_work 124 = .ok (.iconst 0, 1) := by decide +kernel
theorem dX55_work_125 : decode cX55_work 125 = .ok (.putfield 130, 3) := by decide +kernel
theorem dX55_work_128 : decode cX55_work 128 = .ok (.aload_n 0, 1) := by decide +kernel
theorem dX55_work_129 : decode cX55_work 129 = .ok (.aload_n 0, 1) := by decide +kernel
theorem dX55_work_130 : decode cX55_work 130 = .ok (.getfield 151, 3) := by decide +kernel
theorem dX55_work_133 : decode cX55_work 133 = .ok (.iconst 1, 1) := by decide +kernel
theorem dX55_work_134 : decode cX55_work 134 = .ok (.iadd, 1) := by decide +kernel
theorem dX55_work_135 : decode cX55_work 135 = .ok (.putfield 111, 3) := by decide +kernel
theorem dX55_work_138 : decode cX55_work 138 = .ok (.aload_n 0, 1) := by decide +kernel
theorem dX55_work_139 : decode cX55_work 139 = .ok (.iload_n 1, 1) := by decide +kernel
theorem dX55_work_140 : decode cX55_work 140 = .ok (.invokevirtual 161, 3) := by decide +kernel
theorem dX55_work_143 : decode cX55_work 143 = .ok (.iconst 0, 1) := by decide +kernel
theorem dX55_work_144 : decode cX55_work 144 = .ok (.istore_n 3, 1) := by decide +kernel
theorem dX55_work_145 : decode cX55_work 145 = .ok (.iload_n 3, 1) := by decide +kernel
theorem dX55_work_146 : decode cX55_work 146 = .ok (.aload_n 0, 1) := by decide +kernel
theorem dX55_work_147 : decode cX55_work 147 = .ok (.getfield 87, 3) := by decide +kernel
theorem dX55_work_150 : decode cX55_work 150 = .ok (.if_icmp .ge 47, 3) := by decide +kernel
theorem dX55_work_153 : decode cX55_work 153 = .ok (.aload_n 0, 1) := by decide +kernel
theorem dX55_work_154 : decode cX55_work 154 = .ok (.getfield 154, 3) := by decide +kernel
theorem dX55_work_157 : decode cX55_work 157 = .ok (.ifCond .ne 40, 3) := by decide +kernel
theorem dX55_work_160 : decode cX55_work 160 = .ok (.aload_n 0, 1) := by decide +kernel
theorem dX55_work_161 : decode cX55_work 161 = .ok (.iload_n 3, 1) := by decide +kernel
theorem dX55_work_162 : decode cX55_work 162 = .ok (.invokevirtual 105, 3) := by decide +kernel
theorem dX55_work_165 : decode cX55_work 165 = .ok (.ifCond .eq 26, 3) := by decide +kernel
theorem dX55_work_168 : decode cX55_work 168 = .ok (.aload_n 0, 1) := by decide +kernel
theorem dX55_work_169 : decode cX55_work 169 = .ok (.getfield 35, 3) := by decide +kernel
theorem dX55_work_172 : decode cX55_work 172 = .ok (.aload_n 0, 1) := by decide +kernel
theorem dX55_work_173 : decode cX55_work 173 = .ok (.getfield 13, 3) := by decide +kernel
theorem dX55_work_176 : decode cX55_work 176 = .ok (.iconst 3, 1) := by decide +kernel
theorem dX55_work_177 : decode cX55_work 177 = .ok (.iload_n 3, 1) := by decide +kernel
theorem dX55_work_178 : decode cX55_work 178 = .ok (.imul, 1) := by decide +kernel
theorem dX55_work_179 : decode cX55_work 179 = .ok (.iaload, 1) := by decide +kernel
theorem dX55_work_180 : decode cX55_work 180 = .ok (.iaload, 1) := by decide +kernel
theorem dX55_work_181 : decode cX55_work 181 = .ok (.iload_n 1, 1) := by decide +kernel
theorem dX55_work_182 : decode cX55_work 182 = .ok (.if_icmp .ne 9, 3) := by decide +kernel
theorem dX55_work_185 : decode cX55_work 185 = .ok (.aload_n 0, 1) := by decide +kernel
theorem dX55_work_186 : decode cX55_work 186 = .ok (.iload_n 3, 1) := by decide +kernel
theorem dX55_work_187 : decode cX55_work 187 = .ok (.iload_n 2, 1) := by decide +kernel
theorem dX55_work_188 : decode cX55_work 188 = .ok (.invokevirtual 164, 3) := by decide +kernel
theorem dX55_work_191 : decode cX55_work 191 = .ok (.iinc 3 1, 3) := by decide +kernel
theorem dX55_work_194 : decode cX55_work 194 = .ok (.goto (-49), 3) := by decide +kernel
theorem dX55_work_197 : decode cX55_work 197 = .ok (.aload_n 0, 1) := by decide +kernel
theorem dX55_work_198 : decode cX55_work 198 = .ok (.getfield 130, 3) := by decide +kernel
theorem dX55_work_201 : decode cX55_work 201 = .ok (.ifCond .le 13, 3) := by decide +kernel
theorem dX55_work_204 : decode cX55_work 204 = .ok (.aload_n 0, 1) := by decide +kernel
theorem dX55_work_205 : decode cX55_work 205 = .ok (.dup, 1) := by decide +kernel
theorem dX55_work_206 : decode cX55_work 206 = .ok (.getfield 151, 3) := by decide +kernel
theorem dX55_work_209 : decode cX55_work 209 = .ok (.iconst 1, 1) := by decide +kernel
theorem dX55_work_210 : decode cX55_work 210 = .ok (.iadd, 1) := by decide +kernel
theorem dX55_work_211 : decode cX55_work 211 = .ok (.putfield 151, 3) := by decide +kernel
theorem dX55_work_214 : decode cX55_work 214 = .ok (.iinc 2 1, 3) := by decide +kernel
theorem dX55_work_217 : decode cX55_work 217 = .ok (.goto (-108), 3) := by decide +kernel
theorem dX55_work_220 : decode cX55_work 220 = .ok (.iinc 1 1, 3) := by decide +kernel
theorem dX55_work_223 : decode cX55_work 223 = .ok (.goto (-141), 3) := by decide +kernel
theorem dX55_work_226 : decode cX55_work 226 = .ok (.aload_n 0, 1) := by decide +kernel
theorem dX55_work_227 : decode cX55_work 227 = .ok (.iconst (-1), 1) := by decide +kernel
theorem dX55_work_228 : decode cX55_work 228 = .ok (.putfield 111, 3) := by decide +kernel
theorem dX55_work_231 : decode cX55_work 231 = .ok (.aload_n 0, 1) := by decide +kernel
theorem dX55_work_232 : decode cX55_work 232 = .ok (.getfield 108, 3) := by decide +kernel
theorem dX55_work_235 : decode cX55_work 235 = .ok (.ifCond .ge 15, 3) := by decide +kernel
theorem dX55_work_238 : decode cX55_work 238 = .ok (.aload_n 0, 1) := by decide +kernel
theorem dX55_work_239 : decode cX55_work 239 = .ok (.getfield 154, 3) := by decide +kernel
theorem dX55_work_242 : decode cX55_work 242 = .ok (.ifCond .ne 8, 3) := by decide +kernel
theorem dX55_work_245 : decode cX55_work 245 = .ok (.aload_n 0, 1) := by decide +kernel
theorem dX55_work_246 : decode cX55_work 246 = .ok (.iconst (-1), 1) := by decide +kernel
theorem dX55_work_247 : decode cX55_work 247 = .ok (.invokevirtual 161, 3) := by decide +kernel
theorem dX55_work_250 : decode cX55_work 250 = .ok (.iconst 0, 1) := by decide +kernel
theorem dX55_work_251 : decode cX55_work 251 = .ok (.istore_n 1, 1) := by decide +kernel
theorem dX55_work_252 : decode cX55_work 252 = .ok (.iload_n 1, 1) := by decide +kernel
theorem dX55_work_253 : decode cX55_work 253 = .ok (.aload_n 0, 1) := by decide +kernel
theorem dX55_work_254 : decode cX55_work 254 = .ok (.getfield 87, 3) := by decide +kernel
theorem dX55_work_257 : decode cX55_work 257 = .ok (.if_icmp .ge 37, 3) := by decide +kernel
theorem dX55_work_260 : decode cX55_work 260 = .ok (.aload_n 0, 1) := by decide +kernel
theorem dX55_work_261 : decode cX55_work 261 = .ok (.getfield 108, 3) := by decide +kernel
theorem dX55_work_264 : decode cX55_work 264 = .ok (.ifCond .ge 30, 3) := by decide +kernel
theorem dX55_work_267 : decode cX55_work 267 = .ok (.aload_n 0, 1) := by decide +kernel
theorem dX55_work_268 : decode cX55_work 268 = .ok (.getfield 154, 3) := by decide +kernel
theorem dX55_work_271 : decode cX55_work 271 = .ok (.ifCond .ne 23, 3) := by decide +kernel
theorem dX55_work_274 : decode cX55_work 274 = .ok (.aload_n 0, 1) := by decide +kernel
theorem dX55_work_275 : decode cX55_work 275 = .ok (.iload_n 1, 1) := by decide +kernel
theorem dX55_work_276 : decode cX55_work 276 = .ok (.invokevirtual 105, 3) := by decide +kernel
theorem dX55_work_279 : decode cX55_work 279 = .ok (.ifCond .eq 9, 3) := by decide +kernel
theorem dX55_work_282 : decode cX55_work 282 = .ok (.aload_n 0, 1) := by decide +kernel
theorem dX55_work_283 : decode cX55_work 283 = .ok (.iload_n 1, 1) := by decide +kernel
theorem dX55_work_284 : decode cX55_work 284 = .ok (.iconst (-1), 1) := by decide +kernel
theorem dX55_work_285 : decode cX55_work 285 = .ok (.invokevirtual 164, 3) := by decide +kernel
theorem dX55_work_288 : decode cX55_work 288 = .ok (.iinc 1 1, 3) := by decide +kernel
theorem dX55_work_291 : decode cX55_work 291 = .ok (.goto (-39), 3) := by decide +kernel
theorem dX55_work_294 : decode cX55_work 294 = .ok (.iconst 0, 1) := by decide +kernel
theorem dX55_work_295 : decode cX55_work 295 = .ok (.istore_n 1, 1) := by decide +kernel
theorem dX55_work_296 : decode cX55_work 296 = .ok (.iload_n 1, 1) := by decide +kernel
theorem dX55_work_297 : decode cX55_work 297 = .ok (.sipush 16384, 3) := by decide +kernel
theorem dX55_work_300 : decode cX55_work 300 = .ok (.if_icmp .ge 43, 3) := by decide +kernel
theorem dX55_work_303 : decode cX55_work 303 = .ok (.aload_n 0, 1) := by decide +kernel
theorem dX55_work_304 : decode cX55_work 304 = .ok (.getfield 154, 3) := by decide +kernel
theorem dX55_work_307 : decode cX55_work 307 = .ok (.ifCond .eq 36, 3) := by decide +kernel
theorem dX55_work_310 : decode cX55_work 310 = .ok (.aload_n 0, 1) := by decide +kernel
theorem dX55_work_311 : decode cX55_work 311 = .ok (.getfield 29, 3) := by decide +kernel
theorem dX55_work_314 : decode cX55_work 314 = .ok (.iload_n 1, 1) := by decide +kernel
theorem dX55_work_315 : decode cX55_work 315 = .ok (.aload_n 0, 1) := by decide +kernel
theorem dX55_work_316 : decode cX55_work 316 = .ok (.getfield 7, 3) := by decide +kernel
theorem dX55_work_319 : decode cX55_work 319 = .ok (.iload_n 1, 1) := by decide +kernel
theorem dX55_work_320 : decode cX55_work 320 = .ok (.baload, 1) := by decide +kernel
theorem dX55_work_321 : decode cX55_work 321 = .ok (.ifCond .eq 7, 3) := by decide +kernel
theorem dX55_work_324 : decode cX55_work 324 = .ok (.iconst 0, 1) := by decide +kernel
theorem dX55_work_325 : decode cX55_work 325 = .ok (.goto 4, 3) := by decide +kernel
theorem dX55_work_328 : decode cX55_work 328 = .ok (.iconst (-1), 1) := by decide +kernel
theorem dX55_work_329 : decode cX55_work 329 = .ok (.iastore, 1) := by decide +kernel
theorem dX55_work_330 : decode cX55_work 330 = .ok (.aload_n 0, 1) := by decide +kernel
theorem dX55_work_331 : decode cX55_work 331 = .ok (.getfield 32, 3) := by decide +kernel
theorem dX55_work_334 : decode cX55_work 334 = .ok (.iload_n 1, 1) := by decide +kernel
theorem dX55_work_335 : decode cX55_work 335 = .ok (.iconst 0, 1) := by decide +kernel
theorem dX55_work_336 : decode cX55_work 336 = .ok (.iastore, 1) := by decide +kernel
theorem dX55_work_337 : decode cX55_work 337 = .ok (.iinc 1 1, 3) := by decide +kernel
theorem dX55_work_340 : decode cX55_work 340 = .ok (.goto (-44), 3) := by decide +kernel
theorem dX55_work_343 : decode cX55_work 343 = .ok (.aload_n 0, 1) := by decide +kernel
theorem dX55_work_344 : decode cX55_work 344 = .ok (.iconst 1, 1) := by decide +kernel
theorem dX55_work_345 : decode cX55_work 345 = .ok (.putfield 83, 3) := by decide +kernel
theorem dX55_work_348 : decode cX55_work 348 = .ok (.return_, 1) := by decide +kernel
abbrev cX55_need : ByteArray := prog_88_method_19_code
def yX55_need : MethodName := ⟨RX55, "need", "()V"⟩
theorem dX55_need_0 : decode cX55_need 0 = .ok (.iconst 0, 1) := by decide +kernel
theorem dX55_need_1 : decode cX55_need 1 = .ok (.istore_n 1, 1) := by decide +kernel
theorem dX55_need_2 : decode cX55_need 2 = .ok (.iload_n 1, 1) := by decide +kernel
theorem dX55_need_3 : decode cX55_need 3 = .ok (.sipush 256, 3) := by decide +kernel
theorem dX55_need_6 : decode cX55_need 6 = .ok (.if_icmp .ge 16, 3) := by decide +kernel
theorem dX55_need_9 : decode cX55_need 9 = .ok (.aload_n 0, 1) := by decide +kernel
theorem dX55_need_10 : decode cX55_need 10 = .ok (.getfield 38, 3) := by decide +kernel
theorem dX55_need_13 : decode cX55_need 13 = .ok (.iload_n 1, 1) := by decide +kernel
theorem dX55_need_14 : decode cX55_need 14 = .ok (.iconst 0, 1) := by decide +kernel
theorem dX55_need_15 : decode cX55_need 15 = .ok (.iastore, 1) := by decide +kernel
theorem dX55_need_16 : decode cX55_need 16 = .ok (.iinc 1 1, 3) := by decide +kernel
theorem dX55_need_19 : decode cX55_need 19 = .ok (.goto (-17), 3) := by decide +kernel
theorem dX55_need_22 : decode cX55_need 22 = .ok (.iconst 0, 1) := by decide +kernel
theorem dX55_need_23 : decode cX55_need 23 = .ok (.istore_n 1, 1) := by decide +kernel
theorem dX55_need_24 : decode cX55_need 24 = .ok (.iload_n 1, 1) := by decide +kernel
theorem dX55_need_25 : decode cX55_need 25 = .ok (.aload_n 0, 1) := by decide +kernel
theorem dX55_need_26 : decode cX55_need 26 = .ok (.getfield 87, 3) := by decide +kernel
theorem dX55_need_29 : decode cX55_need 29 = .ok (.if_icmp .ge 129, 3) := by decide +kernel
theorem dX55_need_32 : decode cX55_need 32 = .ok (.aload_n 0, 1) := by decide +kernel
theorem dX55_need_33 : decode cX55_need 33 = .ok (.iload_n 1, 1) := by decide +kernel
theorem dX55_need_34 : decode cX55_need 34 = .ok (.invokevirtual 105, 3) := by decide +kernel
theorem dX55_need_37 : decode cX55_need 37 = .ok (.ifCond .ne 6, 3) := by decide +kernel
theorem dX55_need_40 : decode cX55_need 40 = .ok (.goto 112, 3) := by decide +kernel
theorem dX55_need_43 : decode cX55_need 43 = .ok (.iconst 0, 1) := by decide +kernel
theorem dX55_need_44 : decode cX55_need 44 = .ok (.istore_n 2, 1) := by decide +kernel
theorem dX55_need_45 : decode cX55_need 45 = .ok (.iload_n 2, 1) := by decide +kernel
theorem dX55_need_46 : decode cX55_need 46 = .ok (.aload_n 0, 1) := by decide +kernel
theorem dX55_need_47 : decode cX55_need 47 = .ok (.getfield 23, 3) := by decide +kernel
theorem dX55_need_50 : decode cX55_need 50 = .ok (.iload_n 1, 1) := by decide +kernel
theorem dX55_need_51 : decode cX55_need 51 = .ok (.iaload, 1) := by decide +kernel
theorem dX55_need_52 : decode cX55_need 52 = .ok (.if_icmp .ge 100, 3) := by decide +kernel
theorem dX55_need_55 : decode cX55_need 55 = .ok (.bipush 20, 2) := by decide +kernel
theorem dX55_need_57 : decode cX55_need 57 = .ok (.iload_n 1, 1) := by decide +kernel
theorem dX55_need_58 : decode cX55_need 58 = .ok (.imul, 1) := by decide +kernel
theorem dX55_need_59 : decode cX55_need 59 = .ok (.iconst 4, 1) := by decide +kernel
theorem dX55_need_60 : decode cX55_need 60 = .ok (.iload_n 2, 1) := by decide +kernel
theorem dX55_need_61 : decode cX55_need 61 = .ok (.imul, 1) := by decide +kernel
theorem dX55_need_62 : decode cX55_need 62 = .ok (.iadd, 1) := by decide +kernel
theorem dX55_need_63 : decode cX55_need 63 = .ok (.istore_n 3, 1) := by decide +kernel
theorem dX55_need_64 : decode cX55_need 64 = .ok (.aload_n 0, 1) := by decide +kernel
theorem dX55_need_65 : decode cX55_need 65 = .ok (.getfield 26, 3) := by decide +kernel
theorem dX55_need_68 : decode cX55_need 68 = .ok (.iload_n 3, 1) := by decide +kernel
theorem dX55_need_69 : decode cX55_need 69 = .ok (.iaload, 1) := by decide +kernel
theorem dX55_need_70 : decode cX55_need 70 = .ok (.iconst 2, 1) := by decide +kernel
theorem dX55_need_71 : decode cX55_need 71 = .ok (.if_icmp .ne 6, 3) := by decide +kernel
theorem dX55_need_74 : decode cX55_need 74 = .ok (.goto 72, 3) := by decide +kernel
theorem dX55_need_77 : decode cX55_need 77 = .ok (.bipush 16, 2) := by decide +kernel
theorem dX55_need_79 : decode cX55_need 79 = .ok (.aload_n 0, 1) := by decide +kernel
theorem dX55_need_80 : decode cX55_need 80 = .ok (.getfield 13, 3) := by decide +kernel
theorem dX55_need_83 : decode cX55_need 83 = .ok (.iconst 3, 1) := by decide +kernel
theorem dX55_need_84 : decode cX55_need 84 = .ok (.iload_n 1, 1) := by decide +kernel
theorem dX55_need_85 : decode cX55_need 85 = .ok (.imul, 1) := by decide +kernel
theorem dX55_need_86 : decode cX55_need 86 = .ok (.iaload, 1) := by decide +kernel
theorem dX55_need_87 : decode cX55_need 87 = .ok (.imul, 1) := by decide +kernel
theorem dX55_need_88 : decode cX55_need 88 = .ok (.aload_n 0, 1) := by decide +kernel
theorem dX55_need_89 : decode cX55_need 89 = .ok (.getfield 26, 3) := by decide +kernel
theorem dX55_need_92 : decode cX55_need 92 = .ok (.iload_n 3, 1) := by decide +kernel
theorem dX55_need_93 : decode cX55_need 93 = .ok (.iconst 1, 1) := by decide +kernel
theorem dX55_need_94 : decode cX55_need 94 = .ok (.iadd, 1) := by decide +kernel
theorem dX55_need_95 : decode cX55_need 95 = .ok (.iaload, 1) := by decide +kernel
theorem dX55_need_96 : decode cX55_need 96 = .ok (.iadd, 1) := by decide +kernel
theorem dX55_need_97 : decode cX55_need 97 = .ok (.istore 4, 2) := by decide +kernel
theorem dX55_need_99 : decode cX55_need 99 = .ok (.aload_n 0, 1) := by decide +kernel
theorem dX55_need_100 : decode cX55_need 100 = .ok (.getfield 26, 3) := by decide +kernel
theorem dX55_need_103 : decode cX55_need 103 = .ok (.iload_n 3, 1) := by decide +kernel
theorem dX55_need_104 : decode cX55_need 104 = .ok (.iaload, 1) := by decide +kernel
theorem dX55_need_105 : decode cX55_need 105 = .ok (.iconst 1, 1) := by decide +kernel
theorem dX55_need_106 : decode cX55_need 106 = .ok (.if_icmp .eq 12, 3) := by decide +kernel
theorem dX55_need_109 : decode cX55_need 109 = .ok (.aload_n 0, 1) := by decide +kernel
theorem dX55_need_110 : decode cX55_need 110 = .ok (.getfield 17, 3) := by decide +kernel
theorem dX55_need_113 : decode cX55_need 113 = .ok (.iload_n 1, 1) := by decide +kernel
theorem dX55_need_114 : decode cX55_need 114 = .ok (.iaload, 1) := by decide +kernel
theorem dX55_need_115 : decode cX55_need 115 = .ok (.ifCond .lt 7, 3) := by decide +kernel
theorem dX55_need_118 : decode cX55_need 118 = .ok (.iconst 2, 1) := by decide +kernel
theorem dX55_need_119 : decode cX55_need 119 = .ok (.goto 4, 3) := by decide +kernel
theorem dX55_need_122 : decode cX55_need 122 = .ok (.iconst 1, 1) := by decide +kernel
theorem dX55_need_123 : decode cX55_need 123 = .ok (.istore 5, 2) := by decide +kernel
theorem dX55_need_125 : decode cX55_need 125 = .ok (.iload 5, 2) := by decide +kernel
theorem dX55_need_127 : decode cX55_need 127 = .ok (.aload_n 0, 1) := by decide +kernel
theorem dX55_need_128 : decode cX55_need 128 = .ok (.getfield 38, 3) := by decide +kernel
theorem dX55_need_131 : decode cX55_need 131 = .ok (.iload 4, 2) := by decide +kernel
theorem dX55_need_133 : decode cX55_need 133 = .ok (.iaload, 1) := by decide +kernel
theorem dX55_need_134 : decode cX55_need 134 = .ok (.if_icmp .le 12, 3) := by decide +kernel
theorem dX55_need_137 : decode cX55_need 137 = .ok (.aload_n 0, 1) := by decide +kernel
theorem dX55_need_138 : decode cX55_need 138 = .ok (.getfield 38, 3) := by decide +kernel
theorem dX55_need_141 : decode cX55_need 141 = .ok (.iload 4, 2) := by decide +kernel
theorem dX55_need_143 : decode cX55_need 143 = .ok (.iload 5, 2) := by decide +kernel
theorem dX55_need_145 : decode cX55_need 145 = .ok (.iastore, 1) := by decide +kernel
theorem dX55_need_146 : decode cX55_need 146 = .ok (.iinc 2 1, 3) := by decide +kernel
theorem dX55_need_149 : decode cX55_need 149 = .ok (.goto (-104), 3) := by decide +kernel
theorem dX55_need_152 : decode cX55_need 152 = .ok (.iinc 1 1, 3) := by decide +kernel
theorem dX55_need_155 : decode cX55_need 155 = .ok (.goto (-131), 3) := by decide +kernel
theorem dX55_need_158 : decode cX55_need 158 = .ok (.iconst 0, 1) := by decide +kernel
theorem dX55_need_159 : decode cX55_need 159 = .ok (.istore_n 1, 1) := by decide +kernel
theorem dX55_need_160 : decode cX55_need 160 = .ok (.iload_n 1, 1) := by decide +kernel
theorem dX55_need_161 : decode cX55_need 161 = .ok (.sipush 256, 3) := by decide +kernel
theorem dX55_need_164 : decode cX55_need 164 = .ok (.if_icmp .ge 29, 3) := by decide +kernel
theorem dX55_need_167 : decode cX55_need 167 = .ok (.aload_n 0, 1) := by decide +kernel
theorem dX55_need_168 : decode cX55_need 168 = .ok (.getfield 41, 3) := by decide +kernel
theorem dX55_need_171 : decode cX55_need 171 = .ok (.iload_n 1, 1) := by decide +kernel
theorem dX55_need_172 : decode cX55_need 172 = .ok (.aload_n 0, 1) := by decide +kernel
theorem dX55_need_173 : decode cX55_need 173 = .ok (.getfield 38, 3) := by decide +kernel
theorem dX55_need_176 : decode cX55_need 176 = .ok (.iload_n 1, 1) := by decide +kernel
theorem dX55_need_177 : decode cX55_need 177 = .ok (.iaload, 1) := by decide +kernel
theorem dX55_need_178 : decode cX55_need 178 = .ok (.ifCond .le 7, 3) := by decide +kernel
theorem dX55_need_181 : decode cX55_need 181 = .ok (.iconst 1, 1) := by decide +kernel
theorem dX55_need_182 : decode cX55_need 182 = .ok (.goto 4, 3) := by decide +kernel
theorem dX55_need_185 : decode cX55_need 185 = .ok (.iconst 0, 1) := by decide +kernel
theorem dX55_need_186 : decode cX55_need 186 = .ok (.bastore, 1) := by decide +kernel
theorem dX55_need_187 : decode cX55_need 187 = .ok (.iinc 1 1, 3) := by decide +kernel
theorem dX55_need_190 : decode cX55_need 190 = .ok (.goto (-30), 3) := by decide +kernel
theorem dX55_need_193 : decode cX55_need 193 = .ok (.iconst 0, 1) := by decide +kernel
theorem dX55_need_194 : decode cX55_need 194 = .ok (.istore_n 1, 1) := by decide +kernel
theorem dX55_need_195 : decode cX55_need 195 = .ok (.iload_n 1, 1) := by decide +kernel
theorem dX55_need_196 : decode cX55_need 196 = .ok (.bipush 16, 2) := by decide +kernel
theorem dX55_need_198 : decode cX55_need 198 = .ok (.if_icmp .ge 65, 3) := by decide +kernel
theorem dX55_need_201 : decode cX55_need 201 = .ok (.iconst 0, 1) := by decide +kernel
theorem dX55_need_202 : decode cX55_need 202 = .ok (.istore_n 2, 1) := by decide +kernel
theorem dX55_need_203 : decode cX55_need 203 = .ok (.iload_n 2, 1) := by decide +kernel
theorem dX55_need_204 : decode cX55_need 204 = .ok (.sipush 256, 3) := by decide +kernel
theorem dX55_need_207 : decode cX55_need 207 = .ok (.if_icmp .ge 50, 3) := by decide +kernel
theorem dX55_need_210 : decode cX55_need 210 = .ok (.aload_n 0, 1) := by decide +kernel
theorem dX55_need_211 : decode cX55_need 211 = .ok (.getfield 41, 3) := by decide +kernel
theorem dX55_need_214 : decode cX55_need 214 = .ok (.bipush 16, 2) := by decide +kernel
theorem dX55_need_216 : decode cX55_need 216 = .ok (.iload_n 2, 1) := by decide +kernel
theorem dX55_need_217 : decode cX55_need 217 = .ok (.bipush 16, 2) := by decide +kernel
theorem dX55_need_219 : decode cX55_need 219 = .ok (.idiv, 1) := by decide +kernel
theorem dX55_need_220 : decode cX55_need 220 = .ok (.imul, 1) := by decide +kernel
theorem dX55_need_221 : decode cX55_need 221 = .ok (.iload_n 1, 1) := by decide +kernel
theorem dX55_need_222 : decode cX55_need 222 = .ok (.iadd, 1) := by decide +kernel
theorem dX55_need_223 : decode cX55_need 223 = .ok (.baload, 1) := by decide +kernel
theorem dX55_need_224 : decode cX55_need 224 = .ok (.ifCond .eq 27, 3) := by decide +kernel
theorem dX55_need_227 : decode cX55_need 227 = .ok (.aload_n 0, 1) := by decide +kernel
theorem dX55_need_228 : decode cX55_need 228 = .ok (.getfield 41, 3) := by decide +kernel
theorem dX55_need_231 : decode cX55_need 231 = .ok (.bipush 16, 2) := by decide +kernel
theorem dX55_need_233 : decode cX55_need 233 = .ok (.iload_n 1, 1) := by decide +kernel
theorem dX55_need_234 : decode cX55_need 234 = .ok (.imul, 1) := by decide +kernel
theorem dX55_need_235 : decode cX55_need 235 = .ok (.iload_n 2, 1) := by decide +kernel
theorem dX55_need_236 : decode cX55_need 236 = .ok (.bipush 16, 2) := by decide +kernel
theorem dX55_need_238 : decode cX55_need 238 = .ok (.irem, 1) := by decide +kernel
theorem dX55_need_239 : decode cX55_need 239 = .ok (.iadd, 1) := by decide +kernel
theorem dX55_need_240 : decode cX55_need 240 = .ok (.baload, 1) := by decide +kernel
theorem dX55_need_241 : decode cX55_need 241 = .ok (.ifCond .eq 10, 3) := by decide +kernel
theorem dX55_need_244 : decode cX55_need 244 = .ok (.aload_n 0, 1) := by decide +kernel
theorem dX55_need_245 : decode cX55_need 245 = .ok (.getfield 41, 3) := by decide +kernel
theorem dX55_need_248 : decode cX55_need 248 = .ok (.iload_n 2, 1) := by decide +kernel
theorem dX55_need_249 : decode cX55_need 249 = .ok (.iconst 1, 1) := by decide +kernel
theorem dX55_need_250 : decode cX55_need 250 = .ok (.bastore, 1) := by decide +kernel
theorem dX55_need_251 : decode cX55_need 251 = .ok (.iinc 2 1, 3) := by decide +kernel
theorem dX55_need_254 : decode cX55_need 254 = .ok (.goto (-51), 3) := by decide +kernel
theorem dX55_need_257 : decode cX55_need 257 = .ok (.iinc 1 1, 3) := by decide +kernel
theorem dX55_need_260 : decode cX55_need 260 = .ok (.goto (-65), 3) := by decide +kernel
theorem dX55_need_263 : decode cX55_need 263 = .ok (.aload_n 0, 1) := by decide +kernel
theorem dX55_need_264 : decode cX55_need 264 = .ok (.iconst (-1), 1) := by decide +kernel
theorem dX55_need_265 : decode cX55_need 265 = .ok (.putfield 108, 3) := by decide +kernel
theorem dX55_need_268 : decode cX55_need 268 = .ok (.sipush 255, 3) := by decide +kernel
theorem dX55_need_271 : decode cX55_need 271 = .ok (.istore_n 1, 1) := by decide +kernel
theorem dX55_need_272 : decode cX55_need 272 = .ok (.iload_n 1, 1) := by decide +kernel
theorem dX55_need_273 : decode cX55_need 273 = .ok (.ifCond .lt 53, 3) := by decide +kernel
theorem dX55_need_276 : decode cX55_need 276 = .ok (.iload_n 1, 1) := by decide +kernel
theorem dX55_need_277 : decode cX55_need 277 = .ok (.bipush 16, 2) := by decide +kernel
theorem dX55_need_279 : decode cX55_need 279 = .ok (.idiv, 1) := by decide +kernel
theorem dX55_need_280 : decode cX55_need 280 = .ok (.istore_n 2, 1) := by decide +kernel
theorem dX55_need_281 : decode cX55_need 281 = .ok (.iload_n 1, 1) := by decide +kernel
theorem dX55_need_282 : decode cX55_need 282 = .ok (.bipush 16, 2) := by decide +kernel
theorem dX55_need_284 : decode cX55_need 284 = .ok (.irem, 1) := by decide +kernel
theorem dX55_need_285 : decode cX55_need 285 = .ok (.istore_n 3, 1) := by decide +kernel
theorem dX55_need_286 : decode cX55_need 286 = .ok (.aload_n 0, 1) := by decide +kernel
theorem dX55_need_287 : decode cX55_need 287 = .ok (.getfield 38, 3) := by decide +kernel
theorem dX55_need_290 : decode cX55_need 290 = .ok (.iload_n 1, 1) := by decide +kernel
theorem dX55_need_291 : decode cX55_need 291 = .ok (.iaload, 1) := by decide +kernel
theorem dX55_need_292 : decode cX55_need 292 = .ok (.iconst 2, 1) := by decide +kernel
theorem dX55_need_293 : decode cX55_need 293 = .ok (.if_icmp .ne 27, 3) := by decide +kernel
theorem dX55_need_296 : decode cX55_need 296 = .ok (.iload_n 2, 1) := by decide +kernel
theorem dX55_need_297 : decode cX55_need 297 = .ok (.iload_n 3, 1) := by decide +kernel
theorem dX55_need_298 : decode cX55_need 298 = .ok (.if_icmp .eq 17, 3) := by decide +kernel
theorem dX55_need_301 : decode cX55_need 301 = .ok (.aload_n 0, 1) := by decide +kernel
theorem dX55_need_302 : decode cX55_need 302 = .ok (.getfield 41, 3) := by decide +kernel
theorem dX55_need_305 : decode cX55_need 305 = .ok (.bipush 16, 2) := by decide +kernel
theorem dX55_need_307 : decode cX55_need 307 = .ok (.iload_n 3, 1) := by decide +kernel
theorem dX55_need_308 : decode cX55_need 308 = .ok (.imul, 1) := by decide +kernel
theorem dX55_need_309 : decode cX55_need 309 = .ok (.iload_n 2, 1) := by decide +kernel
theorem dX55_need_310 : decode cX55_need 310 = .ok (.iadd, 1) := by decide +kernel
theorem dX55_need_311 : decode cX55_need 311 = .ok (.baload, 1) := by decide +kernel
theorem dX55_need_312 : decode cX55_need 312 = .ok (.ifCond .eq 8, 3) := by decide +kernel
theorem dX55_need_315 : decode cX55_need 315 = .ok (.aload_n 0, 1) := by decide +kernel
theorem dX55_need_316 : decode cX55_need 316 = .ok (.iload_n 2, 1) := by decide +kernel
theorem dX55_need_317 : decode cX55_need 317 = .ok (.putfield 108, 3) := by decide +kernel
theorem dX55_need_320 : decode cX55_need 320 = .ok (.iinc 1 (-1), 3) := by decide +kernel
theorem dX55_need_323 : decode cX55_need 323 = .ok (.goto (-51), 3) := by decide +kernel
theorem dX55_need_326 : decode cX55_need 326 = .ok (.return_, 1) := by decide +kernel
abbrev cX55_isSafe : ByteArray := prog_88_method_17_code
def yX55_isSafe : MethodName := ⟨RX55, "isSafe", "(I)Z"⟩
theorem dX55_isSafe_0 : decode cX55_isSafe 0 = .ok (.aload_n 0, 1) := by decide +kernel
theorem dX55_isSafe_1 : decode cX55_isSafe 1 = .ok (.iload_n 1, 1) := by decide +kernel
theorem dX55_isSafe_2 : decode cX55_isSafe 2 = .ok (.aload_n 0, 1) := by decide +kernel
theorem dX55_isSafe_3 : decode cX55_isSafe 3 = .ok (.getfield 13, 3) := by decide +kernel
theorem dX55_isSafe_6 : decode cX55_isSafe 6 = .ok (.iconst 3, 1) := by decide +kernel
theorem dX55_isSafe_7 : decode cX55_isSafe 7 = .ok (.iload_n 1, 1) := by decide +kernel
theorem dX55_isSafe_8 : decode cX55_isSafe 8 = .ok (.imul, 1) := by decide +kernel
theorem dX55_isSafe_9 : decode cX55_isSafe 9 = .ok (.iconst 1, 1) := by decide +kernel
theorem dX55_isSafe_10 : decode cX55_isSafe 10 = .ok (.iadd, 1) := by decide +kernel
theorem dX55_isSafe_11 : decode cX55_isSafe 11 = .ok (.iaload, 1) := by decide +kernel
theorem dX55_isSafe_12 : decode cX55_isSafe 12 = .ok (.invokevirtual 101, 3) := by decide +kernel
theorem dX55_isSafe_15 : decode cX55_isSafe 15 = .ok (.ifCond .eq 51, 3) := by decide +kernel
theorem dX55_isSafe_18 : decode cX55_isSafe 18 = .ok (.aload_n 0, 1) := by decide +kernel
theorem dX55_isSafe_19 : decode cX55_isSafe 19 = .ok (.getfield 17, 3) := by decide +kernel
theorem dX55_isSafe_22 : decode cX55_isSafe 22 = .ok (.iload_n 1, 1) := by decide +kernel
theorem dX55_isSafe_23 : decode cX55_isSafe 23 = .ok (.iaload, 1) := by decide +kernel
theorem dX55_isSafe_24 : decode cX55_isSafe 24 = .ok (.ifCond .lt 20, 3) := by decide +kernel
theorem dX55_isSafe_27 : decode cX55_isSafe 27 = .ok (.aload_n 0, 1) := by decide +kernel
theorem dX55_isSafe_28 : decode cX55_isSafe 28 = .ok (.iload_n 1, 1) := by decide +kernel
theorem dX55_isSafe_29 : decode cX55_isSafe 29 = .ok (.aload_n 0, 1) := by decide +kernel
theorem dX55_isSafe_30 : decode cX55_isSafe 30 = .ok (.getfield 20, 3) := by decide +kernel
theorem dX55_isSafe_33 : decode cX55_isSafe 33 = .ok (.iload_n 1, 1) := by decide +kernel
theorem dX55_isSafe_34 : decode cX55_isSafe 34 = .ok (.iaload, 1) := by decide +kernel
theorem dX55_isSafe_35 : decode cX55_isSafe 35 = .ok (.invokevirtual 101, 3) := by decide +kernel
theorem dX55_isSafe_38 : decode cX55_isSafe 38 = .ok (.ifCond .eq 28, 3) := by decide +kernel
theorem dX55_isSafe_41 : decode cX55_isSafe 41 = .ok (.goto 21, 3) := by decide +kernel
theorem dX55_isSafe_44 : decode cX55_isSafe 44 = .ok (.aload_n 0, 1) := by decide +kernel
theorem dX55_isSafe_45 : decode cX55_isSafe 45 = .ok (.iload_n 1, 1) := by decide +kernel
theorem dX55_isSafe_46 : decode cX55_isSafe 46 = .ok (.aload_n 0, 1) := by decide +kernel
theorem dX55_isSafe_47 : decode cX55_isSafe 47 = .ok (.getfield 13, 3) := by decide +kernel
theorem dX55_isSafe_50 : decode cX55_isSafe 50 = .ok (.iconst 3, 1) := by decide +kernel
theorem dX55_isSafe_51 : decode cX55_isSafe 51 = .ok (.iload_n 1, 1) := by decide +kernel
theorem dX55_isSafe_52 : decode cX55_isSafe 52 = .ok (.imul, 1) := by decide +kernel
theorem dX55_isSafe_53 : decode cX55_isSafe 53 = .ok (.iconst 2, 1) := by decide +kernel
theorem dX55_isSafe_54 : decode cX55_isSafe 54 = .ok (.iadd, 1) := by decide +kernel
theorem dX55_isSafe_55 : decode cX55_isSafe 55 = .ok (.iaload, 1) := by decide +kernel
theorem dX55_isSafe_56 : decode cX55_isSafe 56 = .ok (.invokevirtual 101, 3) := by decide +kernel
theorem dX55_isSafe_59 : decode cX55_isSafe 59 = .ok (.ifCond .eq 7, 3) := by decide +kernel
theorem dX55_isSafe_62 : decode cX55_isSafe 62 = .ok (.iconst 1, 1) := by decide +kernel
theorem dX55_isSafe_63 : decode cX55_isSafe 63 = .ok (.goto 4, 3) := by decide +kernel
theorem dX55_isSafe_66 : decode cX55_isSafe 66 = .ok (.iconst 0, 1) := by decide +kernel
theorem dX55_isSafe_67 : decode cX55_isSafe 67 = .ok (.istore_n 2, 1) := by decide +kernel
theorem dX55_isSafe_68 : decode cX55_isSafe 68 = .ok (.iconst 0, 1) := by decide +kernel
theorem dX55_isSafe_69 : decode cX55_isSafe 69 = .ok (.istore_n 3, 1) := by decide +kernel
theorem dX55_isSafe_70 : decode cX55_isSafe 70 = .ok (.iload_n 3, 1) := by decide +kernel
theorem dX55_isSafe_71 : decode cX55_isSafe 71 = .ok (.aload_n 0, 1) := by decide +kernel
theorem dX55_isSafe_72 : decode cX55_isSafe 72 = .ok (.getfield 23, 3) := by decide +kernel
theorem dX55_isSafe_75 : decode cX55_isSafe 75 = .ok (.iload_n 1, 1) := by decide +kernel
theorem dX55_isSafe_76 : decode cX55_isSafe 76 = .ok (.iaload, 1) := by decide +kernel
theorem dX55_isSafe_77 : decode cX55_isSafe 77 = .ok (.if_icmp .ge 73, 3) := by decide +kernel
theorem dX55_isSafe_80 : decode cX55_isSafe 80 = .ok (.iload_n 2, 1) := by decide +kernel
theorem dX55_isSafe_81 : decode cX55_isSafe 81 = .ok (.ifCond .eq 69, 3) := by decide +kernel
theorem dX55_isSafe_84 : decode cX55_isSafe 84 = .ok (.bipush 20, 2) := by decide +kernel
theorem dX55_isSafe_86 : decode cX55_isSafe 86 = .ok (.iload_n 1, 1) := by decide +kernel
theorem dX55_isSafe_87 : decode cX55_isSafe 87 = .ok (.imul, 1) := by decide +kernel
theorem dX55_isSafe_88 : decode cX55_isSafe 88 = .ok (.iconst 4, 1) := by decide +kernel
theorem dX55_isSafe_89 : decode cX55_isSafe 89 = .ok (.iload_n 3, 1) := by decide +kernel
theorem dX55_isSafe_90 : decode cX55_isSafe 90 = .ok (.imul, 1) := by decide +kernel
theorem dX55_isSafe_91 : decode cX55_isSafe 91 = .ok (.iadd, 1) := by decide +kernel
theorem dX55_isSafe_92 : decode cX55_isSafe 92 = .ok (.istore 4, 2) := by decide +kernel
theorem dX55_isSafe_94 : decode cX55_isSafe 94 = .ok (.aload_n 0, 1) := by decide +kernel
theorem dX55_isSafe_95 : decode cX55_isSafe 95 = .ok (.getfield 26, 3) := by decide +kernel
theorem dX55_isSafe_98 : decode cX55_isSafe 98 = .ok (.iload 4, 2) := by decide +kernel
theorem dX55_isSafe_100 : decode cX55_isSafe 100 = .ok (.iaload, 1) := by decide +kernel
theorem dX55_isSafe_101 : decode cX55_isSafe 101 = .ok (.ifCond .eq 37, 3) := by decide +kernel
theorem dX55_isSafe_104 : decode cX55_isSafe 104 = .ok (.aload_n 0, 1) := by decide +kernel
theorem dX55_isSafe_105 : decode cX55_isSafe 105 = .ok (.iload_n 1, 1) := by decide +kernel
theorem dX55_isSafe_106 : decode cX55_isSafe 106 = .ok (.aload_n 0, 1) := by decide +kernel
theorem dX55_isSafe_107 : decode cX55_isSafe 107 = .ok (.getfield 26, 3) := by decide +kernel
theorem dX55_isSafe_110 : decode cX55_isSafe 110 = .ok (.iload 4, 2) := by decide +kernel
theorem dX55_isSafe_112 : decode cX55_isSafe 112 = .ok (.iconst 2, 1) := by decide +kernel
theorem dX55_isSafe_113 : decode cX55_isSafe 113 = .ok (.iadd, 1) := by decide +kernel
theorem dX55_isSafe_114 : decode cX55_isSafe 114 = .ok (.iaload, 1) := by decide +kernel
theorem dX55_isSafe_115 : decode cX55_isSafe 115 = .ok (.invokevirtual 101, 3) := by decide +kernel
theorem dX55_isSafe_118 : decode cX55_isSafe 118 = .ok (.ifCond .eq 24, 3) := by decide +kernel
theorem dX55_isSafe_121 : decode cX55_isSafe 121 = .ok (.aload_n 0, 1) := by decide +kernel
theorem dX55_isSafe_122 : decode cX55_isSafe 122 = .ok (.iload_n 1, 1) := by decide +kernel
theorem dX55_isSafe_123 : decode cX55_isSafe 123 = .ok (.aload_n 0, 1) := by decide +kernel
theorem dX55_isSafe_124 : decode cX55_isSafe 124 = .ok (.getfield 26, 3) := by decide +kernel
theorem dX55_isSafe_127 : decode cX55_isSafe 127 = .ok (.iload 4, 2) := by decide +kernel
theorem dX55_isSafe_129 : decode cX55_isSafe 129 = .ok (.iconst 3, 1) := by decide +kernel
theorem dX55_isSafe_130 : decode cX55_isSafe 130 = .ok (.iadd, 1) := by decide +kernel
theorem dX55_isSafe_131 : decode cX55_isSafe 131 = .ok (.iaload, 1) := by decide +kernel
theorem dX55_isSafe_132 : decode cX55_isSafe 132 = .ok (.invokevirtual 101, 3) := by decide +kernel
theorem dX55_isSafe_135 : decode cX55_isSafe 135 = .ok (.ifCond .eq 7, 3) := by decide +kernel
theorem dX55_isSafe_138 : decode cX55_isSafe 138 = .ok (.iconst 1, 1) := by decide +kernel
theorem dX55_isSafe_139 : decode cX55_isSafe 139 = .ok (.goto 4, 3) := by decide +kernel
theorem dX55_isSafe_142 : decode cX55_isSafe 142 = .ok (.iconst 0, 1) := by decide +kernel
theorem dX55_isSafe_143 : decode cX55_isSafe 143 = .ok (.istore_n 2, 1) := by decide +kernel
theorem dX55_isSafe_144 : decode cX55_isSafe 144 = .ok (.iinc 3 1, 3) := by decide +kernel
theorem dX55_isSafe_147 : decode cX55_isSafe 147 = .ok (.goto (-77), 3) := by decide +kernel
theorem dX55_isSafe_150 : decode cX55_isSafe 150 = .ok (.iload_n 2, 1) := by decide +kernel
theorem dX55_isSafe_151 : decode cX55_isSafe 151 = .ok (.ireturn, 1) := by decide +kernel
abbrev cX55_isBound : ByteArray := prog_88_method_16_code
def yX55_isBound : MethodName := ⟨RX55, "isBound", "(II)Z"⟩
theorem dX55_isBound_0 : decode cX55_isBound 0 = .ok (.iload_n 2, 1) := by decide +kernel
theorem dX55_isBound_1 : decode cX55_isBound 1 = .ok (.ifCond .lt 7, 3) := by decide +kernel
theorem dX55_isBound_4 : decode cX55_isBound 4 = .ok (.iconst 1, 1) := by decide +kernel
theorem dX55_isBound_5 : decode cX55_isBound 5 = .ok (.goto 4, 3) := by decide +kernel
theorem dX55_isBound_8 : decode cX55_isBound 8 = .ok (.iconst 0, 1) := by decide +kernel
theorem dX55_isBound_9 : decode cX55_isBound 9 = .ok (.istore_n 3, 1) := by decide +kernel
theorem dX55_isBound_10 : decode cX55_isBound 10 = .ok (.iconst 0, 1) := by decide +kernel
theorem dX55_isBound_11 : decode cX55_isBound 11 = .ok (.istore 4, 2) := by decide +kernel
theorem dX55_isBound_13 : decode cX55_isBound 13 = .ok (.iload 4, 2) := by decide +kernel
theorem dX55_isBound_15 : decode cX55_isBound 15 = .ok (.aload_n 0, 1) := by decide +kernel
theorem dX55_isBound_16 : decode cX55_isBound 16 = .ok (.getfield 23, 3) := by decide +kernel
theorem dX55_isBound_19 : decode cX55_isBound 19 = .ok (.iload_n 1, 1) := by decide +kernel
theorem dX55_isBound_20 : decode cX55_isBound 20 = .ok (.iaload, 1) := by decide +kernel
theorem dX55_isBound_21 : decode cX55_isBound 21 = .ok (.if_icmp .ge 66, 3) := by decide +kernel
theorem dX55_isBound_24 : decode cX55_isBound 24 = .ok (.bipush 20, 2) := by decide +kernel
theorem dX55_isBound_26 : decode cX55_isBound 26 = .ok (.iload_n 1, 1) := by decide +kernel
theorem dX55_isBound_27 : decode cX55_isBound 27 = .ok (.imul, 1) := by decide +kernel
theorem dX55_isBound_28 : decode cX55_isBound 28 = .ok (.iconst 4, 1) := by decide +kernel
theorem dX55_isBound_29 : decode cX55_isBound 29 = .ok (.iload 4, 2) := by decide +kernel
theorem dX55_isBound_31 : decode cX55_isBound 31 = .ok (.imul, 1) := by decide +kernel
theorem dX55_isBound_32 : decode cX55_isBound 32 = .ok (.iadd, 1) := by decide +kernel
theorem dX55_isBound_33 : decode cX55_isBound 33 = .ok (.istore 5, 2) := by decide +kernel
theorem dX55_isBound_35 : decode cX55_isBound 35 = .ok (.iload_n 3, 1) := by decide +kernel
theorem dX55_isBound_36 : decode cX55_isBound 36 = .ok (.ifCond .ne 39, 3) := by decide +kernel
theorem dX55_isBound_39 : decode cX55_isBound 39 = .ok (.aload_n 0, 1) := by decide +kernel
theorem dX55_isBound_40 : decode cX55_isBound 40 = .ok (.getfield 26, 3) := by decide +kernel
theorem dX55_isBound_43 : decode cX55_isBound 43 = .ok (.iload 5, 2) := by decide +kernel
theorem dX55_isBound_45 : decode cX55_isBound 45 = .ok (.iaload, 1) := by decide +kernel
theorem dX55_isBound_46 : decode cX55_isBound 46 = .ok (.ifCond .ne 33, 3) := by decide +kernel
theorem dX55_isBound_49 : decode cX55_isBound 49 = .ok (.aload_n 0, 1) := by decide +kernel
theorem dX55_isBound_50 : decode cX55_isBound 50 = .ok (.getfield 26, 3) := by decide +kernel
theorem dX55_isBound_53 : decode cX55_isBound 53 = .ok (.iload 5, 2) := by decide +kernel
theorem dX55_isBound_55 : decode cX55_isBound 55 = .ok (.iconst 2, 1) := by decide +kernel
theorem dX55_isBound_56 : decode cX55_isBound 56 = .ok (.iadd, 1) := by decide +kernel
theorem dX55_isBound_57 : decode cX55_isBound 57 = .ok (.iaload, 1) := by decide +kernel
theorem dX55_isBound_58 : decode cX55_isBound 58 = .ok (.iload_n 2, 1) := by decide +kernel
theorem dX55_isBound_59 : decode cX55_isBound 59 = .ok (.if_icmp .eq 16, 3) := by decide +kernel
theorem dX55_isBound_62 : decode cX55_isBound 62 = .ok (.aload_n 0, 1) := by decide +kernel
theorem dX55_isBound_63 : decode cX55_isBound 63 = .ok (.getfield 26, 3) := by decide +kernel
theorem dX55_isBound_66 : decode cX55_isBound 66 = .ok (.iload 5, 2) := by decide +kernel
theorem dX55_isBound_68 : decode cX55_isBound 68 = .ok (.iconst 3, 1) := by decide +kernel
theorem dX55_isBound_69 : decode cX55_isBound 69 = .ok (.iadd, 1) := by decide +kernel
theorem dX55_isBound_70 : decode cX55_isBound 70 = .ok (.iaload, 1) := by decide +kernel
theorem dX55_isBound_71 : decode cX55_isBound 71 = .ok (.iload_n 2, 1) := by decide +kernel
theorem dX55_isBound_72 : decode cX55_isBound 72 = .ok (.if_icmp .ne 7, 3) := by decide +kernel
theorem dX55_isBound_75 : decode cX55_isBound 75 = .ok (.iconst 1, 1) := by decide +kernel
theorem dX55_isBound_76 : decode cX55_isBound 76 = .ok (.goto 4, 3) := by decide +kernel
theorem dX55_isBound_79 : decode cX55_isBound 79 = .ok (.iconst 0, 1) := by decide +kernel
theorem dX55_isBound_80 : decode cX55_isBound 80 = .ok (.istore_n 3, 1) := by decide +kernel
theorem dX55_isBound_81 : decode cX55_isBound 81 = .ok (.iinc 4 1, 3) := by decide +kernel
theorem dX55_isBound_84 : decode cX55_isBound 84 = .ok (.goto (-71), 3) := by decide +kernel
theorem dX55_isBound_87 : decode cX55_isBound 87 = .ok (.iload_n 3, 1) := by decide +kernel
theorem dX55_isBound_88 : decode cX55_isBound 88 = .ok (.ireturn, 1) := by decide +kernel
abbrev cX55_layer : ByteArray := prog_88_method_20_code
def yX55_layer : MethodName := ⟨RX55, "layer", "()V"⟩
theorem dX55_layer_0 : decode cX55_layer 0 = .ok (.iconst 0, 1) := by decide +kernel
theorem dX55_layer_1 : decode cX55_layer 1 = .ok (.istore_n 1, 1) := by decide +kernel
theorem dX55_layer_2 : decode cX55_layer 2 = .ok (.iload_n 1, 1) := by decide +kernel
theorem dX55_layer_3 : decode cX55_layer 3 = .ok (.bipush 16, 2) := by decide +kernel
theorem dX55_layer_5 : decode cX55_layer 5 = .ok (.if_icmp .ge 16, 3) := by decide +kernel
theorem dX55_layer_8 : decode cX55_layer 8 = .ok (.aload_n 0, 1) := by decide +kernel
theorem dX55_layer_9 : decode cX55_layer 9 = .ok (.getfield 35, 3) := by decide +kernel
theorem dX55_layer_12 : decode cX55_layer 12 = .ok (.iload_n 1, 1) := by decide +kernel
theorem dX55_layer_13 : decode cX55_layer 13 = .ok (.iconst 0, 1) := by decide +kernel
theorem dX55_layer_14 : decode cX55_layer 14 = .ok (.iastore, 1) := by decide +kernel
theorem dX55_layer_15 : decode cX55_layer 15 = .ok (.iinc 1 1, 3) := by decide +kernel
theorem dX55_layer_18 : decode cX55_layer 18 = .ok (.goto (-16), 3) := by decide +kernel
theorem dX55_layer_21 : decode cX55_layer 21 = .ok (.aload_n 0, 1) := by decide +kernel
theorem dX55_layer_22 : decode cX55_layer 22 = .ok (.getfield 108, 3) := by decide +kernel
theorem dX55_layer_25 : decode cX55_layer 25 = .ok (.ifCond .ge 7, 3) := by decide +kernel
theorem dX55_layer_28 : decode cX55_layer 28 = .ok (.iconst 1, 1) := by decide +kernel
theorem dX55_layer_29 : decode cX55_layer 29 = .ok (.goto 4, 3) := by decide +kernel
theorem dX55_layer_32 : decode cX55_layer 32 = .ok (.iconst 0, 1) := by decide +kernel
theorem dX55_layer_33 : decode cX55_layer 33 = .ok (.istore_n 1, 1) := by decide +kernel
theorem dX55_layer_34 : decode cX55_layer 34 = .ok (.iload_n 1, 1) := by decide +kernel
theorem dX55_layer_35 : decode cX55_layer 35 = .ok (.ifCond .eq 79, 3) := by decide +kernel
theorem dX55_layer_38 : decode cX55_layer 38 = .ok (.iconst 0, 1) := by decide +kernel
theorem dX55_layer_39 : decode cX55_layer 39 = .ok (.istore_n 1, 1) := by decide +kernel
theorem dX55_layer_40 : decode cX55_layer 40 = .ok (.iconst 0, 1) := by decide +kernel
theorem dX55_layer_41 : decode cX55_layer 41 = .ok (.istore_n 2, 1) := by decide +kernel
theorem dX55_layer_42 : decode cX55_layer 42 = .ok (.iload_n 2, 1) := by decide +kernel
theorem dX55_layer_43 : decode cX55_layer 43 = .ok (.sipush 256, 3) := by decide +kernel
theorem dX55_layer_46 : decode cX55_layer 46 = .ok (.if_icmp .ge 65, 3) := by decide +kernel
theorem dX55_layer_49 : decode cX55_layer 49 = .ok (.aload_n 0, 1) := by decide +kernel
theorem dX55_layer_50 : decode cX55_layer 50 = .ok (.getfield 35, 3) := by decide +kernel
theorem dX55_layer_53 : decode cX55_layer 53 = .ok (.iload_n 2, 1) := by decide +kernel
theorem dX55_layer_54 : decode cX55_layer 54 = .ok (.bipush 16, 2) := by decide +kernel
theorem dX55_layer_56 : decode cX55_layer 56 = .ok (.irem, 1) := by decide +kernel
theorem dX55_layer_57 : decode cX55_layer 57 = .ok (.iaload, 1) := by decide +kernel
theorem dX55_layer_58 : decode cX55_layer 58 = .ok (.aload_n 0, 1) := by decide +kernel
theorem dX55_layer_59 : decode cX55_layer 59 = .ok (.getfield 38, 3) := by decide +kernel
theorem dX55_layer_62 : decode cX55_layer 62 = .ok (.iload_n 2, 1) := by decide +kernel
theorem dX55_layer_63 : decode cX55_layer 63 = .ok (.iaload, 1) := by decide +kernel
theorem dX55_layer_64 : decode cX55_layer 64 = .ok (.iadd, 1) := by decide +kernel
theorem dX55_layer_65 : decode cX55_layer 65 = .ok (.iconst 1, 1) := by decide +kernel
theorem dX55_layer_66 : decode cX55_layer 66 = .ok (.isub, 1) := by decide +kernel
theorem dX55_layer_67 : decode cX55_layer 67 = .ok (.istore_n 3, 1) := by decide +kernel
theorem dX55_layer_68 : decode cX55_layer 68 = .ok (.aload_n 0, 1) := by decide +kernel
theorem dX55_layer_69 : decode cX55_layer 69 = .ok (.getfield 38, 3) := by decide +kernel
theorem dX55_layer_72 : decode cX55_layer 72 = .ok (.iload_n 2, 1) := by decide +kernel
theorem dX55_layer_73 : decode cX55_layer 73 = .ok (.iaload, 1) := by decide +kernel
theorem dX55_layer_74 : decode cX55_layer 74 = .ok (.ifCond .eq 31, 3) := by decide +kernel
theorem dX55_layer_77 : decode cX55_layer 77 = .ok (.aload_n 0, 1) := by decide +kernel
theorem dX55_layer_78 : decode cX55_layer 78 = .ok (.getfield 35, 3) := by decide +kernel
theorem dX55_layer_81 : decode cX55_layer 81 = .ok (.iload_n 2, 1) := by decide +kernel
theorem dX55_layer_82 : decode cX55_layer 82 = .ok (.bipush 16, 2) := by decide +kernel
theorem dX55_layer_84 : decode cX55_layer 84 = .ok (.idiv, 1) := by decide +kernel
theorem dX55_layer_85 : decode cX55_layer 85 = .ok (.iaload, 1) := by decide +kernel
theorem dX55_layer_86 : decode cX55_layer 86 = .ok (.iload_n 3, 1) := by decide +kernel
theorem dX55_layer_87 : decode cX55_layer 87 = .ok (.if_icmp .lt 6, 3) := by decide +kernel
theorem dX55_layer_90 : decode cX55_layer 90 = .ok (.goto 15, 3) := by decide +kernel
theorem dX55_layer_93 : decode cX55_layer 93 = .ok (.aload_n 0, 1) := by decide +kernel
theorem dX55_layer_94 : decode cX55_layer 94 = .ok (.getfield 35, 3) := by decide +kernel
theorem dX55_layer_97 : decode cX55_layer 97 = .ok (.iload_n 2, 1) := by decide +kernel
theorem dX55_layer_98 : decode cX55_layer 98 = .ok (.bipush 16, 2) := by decide +kernel
theorem dX55_layer_100 : decode cX55_layer 100 = .ok (.idiv, 1) := by decide +kernel
theorem dX55_layer_101 : decode cX55_layer 101 = .ok (.iload_n 3, 1) := by decide +kernel
theorem dX55_layer_102 : decode cX55_layer 102 = .ok (.iastore, 1) := by decide +kernel
theorem dX55_layer_103 : decode cX55_layer 103 = .ok (.iconst 1, 1) := by decide +kernel
theorem dX55_layer_104 : decode cX55_layer 104 = .ok (.istore_n 1, 1) := by decide +kernel
theorem dX55_layer_105 : decode cX55_layer 105 = .ok (.iinc 2 1, 3) := by decide +kernel
theorem dX55_layer_108 : decode cX55_layer 108 = .ok (.goto (-66), 3) := by decide +kernel
theorem dX55_layer_111 : decode cX55_layer 111 = .ok (.goto (-77), 3) := by decide +kernel
theorem dX55_layer_114 : decode cX55_layer 114 = .ok (.return_, 1) := by decide +kernel
abbrev cX55_addWork : ByteArray := prog_88_method_31_code
def yX55_addWork : MethodName := ⟨RX55, "addWork", "(I)V"⟩
theorem dX55_addWork_0 : decode cX55_addWork 0 = .ok (.iconst 0, 1) := by decide +kernel
theorem dX55_addWork_1 : decode cX55_addWork 1 = .ok (.istore_n 2, 1) := by decide +kernel
theorem dX55_addWork_2 : decode cX55_addWork 2 = .ok (.iload_n 2, 1) := by decide +kernel
theorem dX55_addWork_3 : decode cX55_addWork 3 = .ok (.aload_n 0, 1) := by decide +kernel
theorem dX55_addWork_4 : decode cX55_addWork 4 = .ok (.getfield 87, 3) := by decide +kernel
theorem dX55_addWork_7 : decode cX55_addWork 7 = .ok (.if_icmp .ge 110, 3) := by decide +kernel
theorem dX55_addWork_10 : decode cX55_addWork 10 = .ok (.aload_n 0, 1) := by decide +kernel
theorem dX55_addWork_11 : decode cX55_addWork 11 = .ok (.iload_n 2, 1) := by decide +kernel
theorem dX55_addWork_12 : decode cX55_addWork 12 = .ok (.invokevirtual 105, 3) := by decide +kernel
theorem dX55_addWork_15 : decode cX55_addWork 15 = .ok (.ifCond .eq 96, 3) := by decide +kernel
theorem dX55_addWork_18 : decode cX55_addWork 18 = .ok (.iload_n 1, 1) := by decide +kernel
theorem dX55_addWork_19 : decode cX55_addWork 19 = .ok (.ifCond .lt 23, 3) := by decide +kernel
theorem dX55_addWork_22 : decode cX55_addWork 22 = .ok (.aload_n 0, 1) := by decide +kernel
theorem dX55_addWork_23 : decode cX55_addWork 23 = .ok (.getfield 35, 3) := by decide +kernel
theorem dX55_addWork_26 : decode cX55_addWork 26 = .ok (.aload_n 0, 1) := by decide +kernel
theorem dX55_addWork_27 : decode cX55_addWork 27 = .ok (.getfield 13, 3) := by decide +kernel
theorem dX55_addWork_30 : decode cX55_addWork 30 = .ok (.iconst 3, 1) := by decide +kernel
theorem dX55_addWork_31 : decode cX55_addWork 31 = .ok (.iload_n 2, 1) := by decide +kernel
theorem dX55_addWork_32 : decode cX55_addWork 32 = .ok (.imul, 1) := by decide +kernel
theorem dX55_addWork_33 : decode cX55_addWork 33 = .ok (.iaload, 1) := by decide +kernel
theorem dX55_addWork_34 : decode cX55_addWork 34 = .ok (.iaload, 1) := by decide +kernel
theorem dX55_addWork_35 : decode cX55_addWork 35 = .ok (.iload_n 1, 1) := by decide +kernel
theorem dX55_addWork_36 : decode cX55_addWork 36 = .ok (.if_icmp .eq 6, 3) := by decide +kernel
theorem dX55_addWork_39 : decode cX55_addWork 39 = .ok (.goto 72, 3) := by decide +kernel
theorem dX55_addWork_42 : decode cX55_addWork 42 = .ok (.lconst 1, 1) := by decide +kernel
theorem dX55_addWork_43 : decode cX55_addWork 43 = .ok (.lstore_n 3, 1) := by decide +kernel
theorem dX55_addWork_44 : decode cX55_addWork 44 = .ok (.iconst 0, 1) := by decide +kernel
theorem dX55_addWork_45 : decode cX55_addWork 45 = .ok (.istore 5, 2) := by decide +kernel
theorem dX55_addWork_47 : decode cX55_addWork 47 = .ok (.iload 5, 2) := by decide +kernel
theorem dX55_addWork_49 : decode cX55_addWork 49 = .ok (.aload_n 0, 1) := by decide +kernel
theorem dX55_addWork_50 : decode cX55_addWork 50 = .ok (.getfield 23, 3) := by decide +kernel
theorem dX55_addWork_53 : decode cX55_addWork 53 = .ok (.iload_n 2, 1) := by decide +kernel
theorem dX55_addWork_54 : decode cX55_addWork 54 = .ok (.iaload, 1) := by decide +kernel
theorem dX55_addWork_55 : decode cX55_addWork 55 = .ok (.if_icmp .ge 46, 3) := by decide +kernel
theorem dX55_addWork_58 : decode cX55_addWork 58 = .ok (.bipush 20, 2) := by decide +kernel
theorem dX55_addWork_60 : decode cX55_addWork 60 = .ok (.iload_n 2, 1) := by decide +kernel
theorem dX55_addWork_61 : decode cX55_addWork 61 = .ok (.imul, 1) := by decide +kernel
theorem dX55_addWork_62 : decode cX55_addWork 62 = .ok (.iconst 4, 1) := by decide +kernel
theorem dX55_addWork_63 : decode cX55_addWork 63 = .ok (.iload 5, 2) := by decide +kernel
theorem dX55_addWork_65 : decode cX55_addWork 65 = .ok (.imul, 1) := by decide +kernel
theorem dX55_addWork_66 : decode cX55_addWork 66 = .ok (.iadd, 1) := by decide +kernel
theorem dX55_addWork_67 : decode cX55_addWork 67 = .ok (.istore 6, 2) := by decide +kernel
theorem dX55_addWork_69 : decode cX55_addWork 69 = .ok (.aload_n 0, 1) := by decide +kernel
theorem dX55_addWork_70 : decode cX55_addWork 70 = .ok (.getfield 26, 3) := by decide +kernel
theorem dX55_addWork_73 : decode cX55_addWork 73 = .ok (.iload 6, 2) := by decide +kernel
theorem dX55_addWork_75 : decode cX55_addWork 75 = .ok (.iaload, 1) := by decide +kernel
theorem dX55_addWork_76 : decode cX55_addWork 76 = .ok (.ifCond .ne 19, 3) := by decide +kernel
theorem dX55_addWork_79 : decode cX55_addWork 79 = .ok (.lload_n 3, 1) := by decide +kernel
theorem dX55_addWork_80 : decode cX55_addWork 80 = .ok (.aload_n 0, 1) := by decide +kernel
theorem dX55_addWork_81 : decode cX55_addWork 81 = .ok (.aload_n 0, 1) := by decide +kernel
theorem dX55_addWork_82 : decode cX55_addWork 82 = .ok (.getfield 26, 3) := by decide +kernel
theorem dX55_addWork_85 : decode cX55_addWork 85 = .ok (.iload 6, 2) := by decide +kernel
theorem dX55_addWork_87 : decode cX55_addWork 87 = .ok (.iconst 1, 1) := by decide +kernel
theorem dX55_addWork_88 : decode cX55_addWork 88 = .ok (.iadd, 1) := by decide +kernel
theorem dX55_addWork_89 : decode cX55_addWork 89 = .ok (.iaload, 1) := by decide +kernel
theorem dX55_addWork_90 : decode cX55_addWork 90 = .ok (.invokevirtual 167, 3) := by decide +kernel
theorem dX55_addWork_93 : decode cX55_addWork 93 = .ok (.lmul, 1) := by decide +kernel
theorem dX55_addWork_94 : decode cX55_addWork 94 = .ok (.lstore_n 3, 1) := by decide +kernel
theorem dX55_addWork_95 : decode cX55_addWork 95 = .ok (.iinc 5 1, 3) := by decide +kernel
theorem dX55_addWork_98 : decode cX55_addWork 98 = .ok (.goto (-51), 3) := by decide +kernel
theorem dX55_addWork_101 : decode cX55_addWork 101 = .ok (.aload_n 0, 1) := by decide +kernel
theorem dX55_addWork_102 : decode cX55_addWork 102 = .ok (.aload_n 0, 1) := by decide +kernel
theorem dX55_addWork_103 : decode cX55_addWork 103 = .ok (.getfield 157, 3) := by decide +kernel
theorem dX55_addWork_106 : decode cX55_addWork 106 = .ok (.lload_n 3, 1) := by decide +kernel
theorem dX55_addWork_107 : decode cX55_addWork 107 = .ok (.ladd, 1) := by decide +kernel
theorem dX55_addWork_108 : decode cX55_addWork 108 = .ok (.putfield 157, 3) := by decide +kernel
theorem dX55_addWork_111 : decode cX55_addWork 111 = .ok (.iinc 2 1, 3) := by decide +kernel
theorem dX55_addWork_114 : decode cX55_addWork 114 = .ok (.goto (-112), 3) := by decide +kernel
theorem dX55_addWork_117 : decode cX55_addWork 117 = .ok (.aload_n 0, 1) := by decide +kernel
theorem dX55_addWork_118 : decode cX55_addWork 118 = .ok (.aload_n 0, 1) := by decide +kernel
theorem dX55_addWork_119 : decode cX55_addWork 119 = .ok (.getfield 157, 3) := by decide +kernel
theorem dX55_addWork_122 : decode cX55_addWork 122 = .ok (.ldc2_w 171, 3) := by decide +kernel
theorem dX55_addWork_125 : decode cX55_addWork 125 = .ok (.lcmp, 1) := by decide +kernel
theorem dX55_addWork_126 : decode cX55_addWork 126 = .ok (.ifCond .le 7, 3) := by decide +kernel
theorem dX55_addWork_129 : decode cX55_addWork 129 = .ok (.iconst 1, 1) := by decide +kernel
theorem dX55_addWork_130 : decode cX55_addWork 130 = .ok (.goto 4, 3) := by decide +kernel
theorem dX55_addWork_133 : decode cX55_addWork 133 = .ok (.iconst 0, 1) := by decide +kernel
theorem dX55_addWork_134 : decode cX55_addWork 134 = .ok (.putfield 154, 3) := by decide +kernel
theorem dX55_addWork_137 : decode cX55_addWork 137 = .ok (.return_, 1) := by decide +kernel
abbrev cX55_factsOf : ByteArray := prog_88_method_30_code
def yX55_factsOf : MethodName := ⟨RX55, "factsOf", "(I)J"⟩
theorem dX55_factsOf_0 : decode cX55_factsOf 0 = .ok (.lconst 0, 1) := by decide +kernel
theorem dX55_factsOf_1 : decode cX55_factsOf 1 = .ok (.lstore_n 2, 1) := by decide +kernel
theorem dX55_factsOf_2 : decode cX55_factsOf 2 = .ok (.sipush 1024, 3) := by decide +kernel
theorem dX55_factsOf_5 : decode cX55_factsOf 5 = .ok (.iload_n 1, 1) := by decide +kernel
theorem dX55_factsOf_6 : decode cX55_factsOf 6 = .ok (.imul, 1) := by decide +kernel
theorem dX55_factsOf_7 : decode cX55_factsOf 7 = .ok (.istore 4, 2) := by decide +kernel
theorem dX55_factsOf_9 : decode cX55_factsOf 9 = .ok (.iload 4, 2) := by decide +kernel
theorem dX55_factsOf_11 : decode cX55_factsOf 11 = .ok (.sipush 1024, 3) := by decide +kernel
theorem dX55_factsOf_14 : decode cX55_factsOf 14 = .ok (.iload_n 1, 1) := by decide +kernel
theorem dX55_factsOf_15 : decode cX55_factsOf 15 = .ok (.imul, 1) := by decide +kernel
theorem dX55_factsOf_16 : decode cX55_factsOf 16 = .ok (.sipush 1024, 3) := by decide +kernel
theorem dX55_factsOf_19 : decode cX55_factsOf 19 = .ok (.iadd, 1) := by decide +kernel
theorem dX55_factsOf_20 : decode cX55_factsOf 20 = .ok (.if_icmp .ge 27, 3) := by decide +kernel
theorem dX55_factsOf_23 : decode cX55_factsOf 23 = .ok (.lload_n 2, 1) := by decide +kernel
theorem dX55_factsOf_24 : decode cX55_factsOf 24 = .ok (.aload_n 0, 1) := by decide +kernel
theorem dX55_factsOf_25 : decode cX55_factsOf 25 = .ok (.getfield 29, 3) := by decide +kernel
theorem dX55_factsOf_28 : decode cX55_factsOf 28 = .ok (.iload 4, 2) := by decide +kernel
theorem dX55_factsOf_30 : decode cX55_factsOf 30 = .ok (.iaload, 1) := by decide +kernel
theorem dX55_factsOf_31 : decode cX55_factsOf 31 = .ok (.ifCond .lt 7, 3) := by decide +kernel
theorem dX55_factsOf_34 : decode cX55_factsOf 34 = .ok (.lconst 1, 1) := by decide +kernel
theorem dX55_factsOf_35 : decode cX55_factsOf 35 = .ok (.goto 4, 3) := by decide +kernel
theorem dX55_factsOf_38 : decode cX55_factsOf 38 = .ok (.lconst 0, 1) := by decide +kernel
theorem dX55_factsOf_39 : decode cX55_factsOf 39 = .ok (.ladd, 1) := by decide +kernel
theorem dX55_factsOf_40 : decode cX55_factsOf 40 = .ok (.lstore_n 2, 1) := by decide +kernel
theorem dX55_factsOf_41 : decode cX55_factsOf 41 = .ok (.iinc 4 1, 3) := by decide +kernel
theorem dX55_factsOf_44 : decode cX55_factsOf 44 = .ok (.goto (-35), 3) := by decide +kernel
theorem dX55_factsOf_47 : decode cX55_factsOf 47 = .ok (.lload_n 2, 1) := by decide +kernel
theorem dX55_factsOf_48 : decode cX55_factsOf 48 = .ok (.lreturn, 1) := by decide +kernel
abbrev cX55_spread : ByteArray := prog_88_method_28_code
def yX55_spread : MethodName := ⟨RX55, "spread", "(II)V"⟩
theorem dX55_spread_0 : decode cX55_spread 0 = .ok (.aload_n 0, 1) := by decide +kernel
theorem dX55_spread_1 : decode cX55_spread 1 = .ok (.getfield 13, 3) := by decide +kernel
theorem dX55_spread_4 : decode cX55_spread 4 = .ok (.iconst 3, 1) := by decide +kernel
theorem dX55_spread_5 : decode cX55_spread 5 = .ok (.iload_n 1, 1) := by decide +kernel
theorem dX55_spread_6 : decode cX55_spread 6 = .ok (.imul, 1) := by decide +kernel
theorem dX55_spread_7 : decode cX55_spread 7 = .ok (.iaload, 1) := by decide +kernel
theorem dX55_spread_8 : decode cX55_spread 8 = .ok (.istore_n 3, 1) := by decide +kernel
theorem dX55_spread_9 : decode cX55_spread 9 = .ok (.aload_n 0, 1) := by decide +kernel
theorem dX55_spread_10 : decode cX55_spread 10 = .ok (.getfield 17, 3) := by decide +kernel
theorem dX55_spread_13 : decode cX55_spread 13 = .ok (.iload_n 1, 1) := by decide +kernel
theorem dX55_spread_14 : decode cX55_spread 14 = .ok (.iaload, 1) := by decide +kernel
theorem dX55_spread_15 : decode cX55_spread 15 = .ok (.ifCond .lt 7, 3) := by decide +kernel
theorem dX55_spread_18 : decode cX55_spread 18 = .ok (.iconst 1, 1) := by decide +kernel
theorem dX55_spread_19 : decode cX55_spread 19 = .ok (.goto 4, 3) := by decide +kernel
theorem dX55_spread_22 : decode cX55_spread 22 = .ok (.iconst 0, 1) := by decide +kernel
theorem dX55_spread_23 : decode cX55_spread 23 = .ok (.istore 4, 2) := by decide +kernel
theorem dX55_spread_25 : decode cX55_spread 25 = .ok (.iconst 0, 1) := by decide +kernel
theorem dX55_spread_26 : decode cX55_spread 26 = .ok (.istore 5, 2) := by decide +kernel
theorem dX55_spread_28 : decode cX55_spread 28 = .ok (.iload 5, 2) := by decide +kernel
theorem dX55_spread_30 : decode cX55_spread 30 = .ok (.bipush 32, 2) := by decide +kernel
theorem dX55_spread_32 : decode cX55_spread 32 = .ok (.if_icmp .ge 30, 3) := by decide +kernel
theorem dX55_spread_35 : decode cX55_spread 35 = .ok (.iload 4, 2) := by decide +kernel
theorem dX55_spread_37 : decode cX55_spread 37 = .ok (.ifCond .eq 25, 3) := by decide +kernel
theorem dX55_spread_40 : decode cX55_spread 40 = .ok (.aload_n 0, 1) := by decide +kernel
theorem dX55_spread_41 : decode cX55_spread 41 = .ok (.getfield 56, 3) := by decide +kernel
theorem dX55_spread_44 : decode cX55_spread 44 = .ok (.iload 5, 2) := by decide +kernel
theorem dX55_spread_46 : decode cX55_spread 46 = .ok (.iconst 0, 1) := by decide +kernel
theorem dX55_spread_47 : decode cX55_spread 47 = .ok (.iastore, 1) := by decide +kernel
theorem dX55_spread_48 : decode cX55_spread 48 = .ok (.aload_n 0, 1) := by decide +kernel
theorem dX55_spread_49 : decode cX55_spread 49 = .ok (.getfield 59, 3) := by decide +kernel
theorem dX55_spread_52 : decode cX55_spread 52 = .ok (.iload 5, 2) := by decide +kernel
theorem dX55_spread_54 : decode cX55_spread 54 = .ok (.iconst 0, 1) := by decide +kernel
theorem dX55_spread_55 : decode cX55_spread 55 = .ok (.iastore, 1) := by decide +kernel
theorem dX55_spread_56 : decode cX55_spread 56 = .ok (.iinc 5 1, 3) := by decide +kernel
theorem dX55_spread_59 : decode cX55_spread 59 = .ok (.goto (-31), 3) := by decide +kernel
theorem dX55_spread_62 : decode cX55_spread 62 = .ok (.aload_n 0, 1) := by decide +kernel
theorem dX55_spread_63 : decode cX55_spread 63 = .ok (.iload_n 1, 1) := by decide +kernel
theorem dX55_spread_64 : decode cX55_spread 64 = .ok (.invokevirtual 133, 3) := by decide +kernel
theorem dX55_spread_67 : decode cX55_spread 67 = .ok (.aload_n 0, 1) := by decide +kernel
theorem dX55_spread_68 : decode cX55_spread 68 = .ok (.iload_n 1, 1) := by decide +kernel
theorem dX55_spread_69 : decode cX55_spread 69 = .ok (.iconst 1, 1) := by decide +kernel
theorem dX55_spread_70 : decode cX55_spread 70 = .ok (.invokevirtual 137, 3) := by decide +kernel
theorem dX55_spread_73 : decode cX55_spread 73 = .ok (.istore 5, 2) := by decide +kernel
theorem dX55_spread_75 : decode cX55_spread 75 = .ok (.iload 5, 2) := by decide +kernel
theorem dX55_spread_77 : decode cX55_spread 77 = .ok (.ifCond .eq 206, 3) := by decide +kernel
theorem dX55_spread_80 : decode cX55_spread 80 = .ok (.aload_n 0, 1) := by decide +kernel
theorem dX55_spread_81 : decode cX55_spread 81 = .ok (.aload_n 0, 1) := by decide +kernel
theorem dX55_spread_82 : decode cX55_spread 82 = .ok (.getfield 13, 3) := by decide +kernel
theorem dX55_spread_85 : decode cX55_spread 85 = .ok (.iconst 3, 1) := by decide +kernel
theorem dX55_spread_86 : decode cX55_spread 86 = .ok (.iload_n 1, 1) := by decide +kernel
theorem dX55_spread_87 : decode cX55_spread 87 = .ok (.imul, 1) := by decide +kernel
theorem dX55_spread_88 : decode cX55_spread 88 = .ok (.iconst 1, 1) := by decide +kernel
theorem dX55_spread_89 : decode cX55_spread 89 = .ok (.iadd, 1) := by decide +kernel
theorem dX55_spread_90 : decode cX55_spread 90 = .ok (.iaload, 1) := by decide +kernel
theorem dX55_spread_91 : decode cX55_spread 91 = .ok (.invokevirtual 126, 3) := by decide +kernel
theorem dX55_spread_94 : decode cX55_spread 94 = .ok (.istore 6, 2) := by decide +kernel
theorem dX55_spread_96 : decode cX55_spread 96 = .ok (.iload 4, 2) := by decide +kernel
theorem dX55_spread_98 : decode cX55_spread 98 = .ok (.ifCond .ne 31, 3) := by decide +kernel
theorem dX55_spread_101 : decode cX55_spread 101 = .ok (.aload_n 0, 1) := by decide +kernel
theorem dX55_spread_102 : decode cX55_spread 102 = .ok (.iload_n 3, 1) := by decide +kernel
theorem dX55_spread_103 : decode cX55_spread 103 = .ok (.iload 6, 2) := by decide +kernel
theorem dX55_spread_105 : decode cX55_spread 105 = .ok (.aload_n 0, 1) := by decide +kernel
theorem dX55_spread_106 : decode cX55_spread 106 = .ok (.aload_n 0, 1) := by decide +kernel
theorem dX55_spread_107 : decode cX55_spread 107 = .ok (.getfield 13, 3) := by decide +kernel
theorem dX55_spread_110 : decode cX55_spread 110 = .ok (.iconst 3, 1) := by decide +kernel
theorem dX55_spread_111 : decode cX55_spread 111 = .ok (.iload_n 1, 1) := by decide +kernel
theorem dX55_spread_112 : decode cX55_spread 112 = .ok (.imul, 1) := by decide +kernel
theorem dX55_spread_113 : decode cX55_spread 113 = .ok (.iconst 2, 1) := by decide +kernel
theorem dX55_spread_114 : decode cX55_spread 114 = .ok (.iadd, 1) := by decide +kernel
theorem dX55_spread_115 : decode cX55_spread 115 = .ok (.iaload, 1) := by decide +kernel
theorem dX55_spread_116 : decode cX55_spread 116 = .ok (.invokevirtual 126, 3) := by decide +kernel
theorem dX55_spread_119 : decode cX55_spread 119 = .ok (.invokestatic 79, 3) := by decide +kernel
theorem dX55_spread_122 : decode cX55_spread 122 = .ok (.iload_n 2, 1) := by decide +kernel
theorem dX55_spread_123 : decode cX55_spread 123 = .ok (.invokevirtual 141, 3) := by decide +kernel
theorem dX55_spread_126 : decode cX55_spread 126 = .ok (.goto 131, 3) := by decide +kernel
theorem dX55_spread_129 : decode cX55_spread 129 = .ok (.aload_n 0, 1) := by decide +kernel
theorem dX55_spread_130 : decode cX55_spread 130 = .ok (.getfield 44, 3) := by decide +kernel
theorem dX55_spread_133 : decode cX55_spread 133 = .ok (.iconst (-1), 1) := by decide +kernel
theorem dX55_spread_134 : decode cX55_spread 134 = .ok (.aload_n 0, 1) := by decide +kernel
theorem dX55_spread_135 : decode cX55_spread 135 = .ok (.getfield 20, 3) := by decide +kernel
theorem dX55_spread_138 : decode cX55_spread 138 = .ok (.iload_n 1, 1) := by decide +kernel
theorem dX55_spread_139 : decode cX55_spread 139 = .ok (.iaload, 1) := by decide +kernel
theorem dX55_spread_140 : decode cX55_spread 140 = .ok (.isub, 1) := by decide +kernel
theorem dX55_spread_141 : decode cX55_spread 141 = .ok (.iaload, 1) := by decide +kernel
theorem dX55_spread_142 : decode cX55_spread 142 = .ok (.istore 7, 2) := by decide +kernel
theorem dX55_spread_144 : decode cX55_spread 144 = .ok (.aload_n 0, 1) := by decide +kernel
theorem dX55_spread_145 : decode cX55_spread 145 = .ok (.getfield 62, 3) := by decide +kernel
theorem dX55_spread_148 : decode cX55_spread 148 = .ok (.iload 6, 2) := by decide +kernel
theorem dX55_spread_150 : decode cX55_spread 150 = .ok (.aload_n 0, 1) := by decide +kernel
theorem dX55_spread_151 : decode cX55_spread 151 = .ok (.getfield 56, 3) := by decide +kernel
theorem dX55_spread_154 : decode cX55_spread 154 = .ok (.iload 6, 2) := by decide +kernel
theorem dX55_spread_156 : decode cX55_spread 156 = .ok (.iaload, 1) := by decide +kernel
theorem dX55_spread_157 : decode cX55_spread 157 = .ok (.ifCond .eq 15, 3) := by decide +kernel
theorem dX55_spread_160 : decode cX55_spread 160 = .ok (.iload 7, 2) := by decide +kernel
theorem dX55_spread_162 : decode cX55_spread 162 = .ok (.aload_n 0, 1) := by decide +kernel
theorem dX55_spread_163 : decode cX55_spread 163 = .ok (.getfield 62, 3) := by decide +kernel
theorem dX55_spread_166 : decode cX55_spread 166 = .ok (.iload 6, 2) := by decide +kernel
theorem dX55_spread_168 : decode cX55_spread 168 = .ok (.iaload, 1) := by decide +kernel
theorem dX55_spread_169 : decode cX55_spread 169 = .ok (.if_icmp .ge 8, 3) := by decide +kernel
theorem dX55_spread_172 : decode cX55_spread 172 = .ok (.iload 7, 2) := by decide +kernel
theorem dX55_spread_174 : decode cX55_spread 174 = .ok (.goto 10, 3) := by decide +kernel
theorem dX55_spread_177 : decode cX55_spread 177 = .ok (.aload_n 0, 1) := by decide +kernel
theorem dX55_spread_178 : decode cX55_spread 178 = .ok (.getfield 62, 3) := by decide +kernel
theorem dX55_spread_181 : decode cX55_spread 181 = .ok (.iload 6, 2) := by decide +kernel
theorem dX55_spread_183 : decode cX55_spread 183 = .ok (.iaload, 1) := by decide +kernel
theorem dX55_spread_184 : decode cX55_spread 184 = .ok (.iastore, 1) := by decide +kernel
theorem dX55_spread_185 : decode cX55_spread 185 = .ok (.aload_n 0, 1) := by decide +kernel
theorem dX55_spread_186 : decode cX55_spread 186 = .ok (.getfield 65, 3) := by decide +kernel
theorem dX55_spread_189 : decode cX55_spread 189 = .ok (.iload 6, 2) := by decide +kernel
theorem dX55_spread_191 : decode cX55_spread 191 = .ok (.aload_n 0, 1) := by decide +kernel
theorem dX55_spread_192 : decode cX55_spread 192 = .ok (.getfield 56, 3) := by decide +kernel
theorem dX55_spread_195 : decode cX55_spread 195 = .ok (.iload 6, 2) := by decide +kernel
theorem dX55_spread_197 : decode cX55_spread 197 = .ok (.iaload, 1) := by decide +kernel
theorem dX55_spread_198 : decode cX55_spread 198 = .ok (.ifCond .eq 15, 3) := by decide +kernel
theorem dX55_spread_201 : decode cX55_spread 201 = .ok (.iload 7, 2) := by decide +kernel
theorem dX55_spread_203 : decode cX55_spread 203 = .ok (.aload_n 0, 1) := by decide +kernel
theorem dX55_spread_204 : decode cX55_spread 204 = .ok (.getfield 65, 3) := by decide +kernel
theorem dX55_spread_207 : decode cX55_spread 207 = .ok (.iload 6, 2) := by decide +kernel
theorem dX55_spread_209 : decode cX55_spread 209 = .ok (.iaload, 1) := by decide +kernel
theorem dX55_spread_210 : decode cX55_spread 210 = .ok (.if_icmp .le 8, 3) := by decide +kernel
theorem dX55_spread_213 : decode cX55_spread 213 = .ok (.iload 7, 2) := by decide +kernel
theorem dX55_spread_215 : decode cX55_spread 215 = .ok (.goto 10, 3) := by decide +kernel
theorem dX55_spread_218 : decode cX55_spread 218 = .ok (.aload_n 0, 1) := by decide +kernel
theorem dX55_spread_219 : decode cX55_spread 219 = .ok (.getfield 65, 3) := by decide +kernel
theorem dX55_spread_222 : decode cX55_spread 222 = .ok (.iload 6, 2) := by decide +kernel
theorem dX55_spread_224 : decode cX55_spread 224 = .ok (.iaload, 1) := by decide +kernel
theorem dX55_spread_225 : decode cX55_spread 225 = .ok (.iastore, 1) := by decide +kernel
theorem dX55_spread_226 : decode cX55_spread 226 = .ok (.aload_n 0, 1) := by decide +kernel
theorem dX55_spread_227 : decode cX55_spread 227 = .ok (.getfield 56, 3) := by decide +kernel
theorem dX55_spread_230 : decode cX55_spread 230 = .ok (.iload 6, 2) := by decide +kernel
theorem dX55_spread_232 : decode cX55_spread 232 = .ok (.dup2, 1) := by decide +kernel
theorem dX55_spread_233 : decode cX55_spread 233 = .ok (.iaload, 1) := by decide +kernel
theorem dX55_spread_234 : decode cX55_spread 234 = .ok (.iconst 1, 1) := by decide +kernel
theorem dX55_spread_235 : decode cX55_spread 235 = .ok (.iadd, 1) := by decide +kernel
theorem dX55_spread_236 : decode cX55_spread 236 = .ok (.iastore, 1) := by decide +kernel
theorem dX55_spread_237 : decode cX55_spread 237 = .ok (.aload_n 0, 1) := by decide +kernel
theorem dX55_spread_238 : decode cX55_spread 238 = .ok (.getfield 59, 3) := by decide +kernel
theorem dX55_spread_241 : decode cX55_spread 241 = .ok (.iload 6, 2) := by decide +kernel
theorem dX55_spread_243 : decode cX55_spread 243 = .ok (.aload_n 0, 1) := by decide +kernel
theorem dX55_spread_244 : decode cX55_spread 244 = .ok (.getfield 59, 3) := by decide +kernel
theorem dX55_spread_247 : decode cX55_spread 247 = .ok (.iload 6, 2) := by decide +kernel
theorem dX55_spread_249 : decode cX55_spread 249 = .ok (.iaload, 1) := by decide +kernel
theorem dX55_spread_250 : decode cX55_spread 250 = .ok (.iload 7, 2) := by decide +kernel
theorem dX55_spread_252 : decode cX55_spread 252 = .ok (.iadd, 1) := by decide +kernel
theorem dX55_spread_253 : decode cX55_spread 253 = .ok (.bipush 32, 2) := by decide +kernel
theorem dX55_spread_255 : decode cX55_spread 255 = .ok (.irem, 1) := by decide +kernel
theorem dX55_spread_256 : decode cX55_spread 256 = .ok (.iastore, 1) := by decide +kernel
theorem dX55_spread_257 : decode cX55_spread 257 = .ok (.aload_n 0, 1) := by decide +kernel
theorem dX55_spread_258 : decode cX55_spread 258 = .ok (.getfield 114, 3) := by decide +kernel
theorem dX55_spread_261 : decode cX55_spread 261 = .ok (.ifCond .le 16, 3) := by decide +kernel
theorem dX55_spread_264 : decode cX55_spread 264 = .ok (.aload_n 0, 1) := by decide +kernel
theorem dX55_spread_265 : decode cX55_spread 265 = .ok (.iload_n 1, 1) := by decide +kernel
theorem dX55_spread_266 : decode cX55_spread 266 = .ok (.iconst 0, 1) := by decide +kernel
theorem dX55_spread_267 : decode cX55_spread 267 = .ok (.invokevirtual 137, 3) := by decide +kernel
theorem dX55_spread_270 : decode cX55_spread 270 = .ok (.ifCond .eq 7, 3) := by decide +kernel
theorem dX55_spread_273 : decode cX55_spread 273 = .ok (.iconst 1, 1) := by decide +kernel
theorem dX55_spread_274 : decode cX55_spread 274 = .ok (.goto 4, 3) := by decide +kernel
theorem dX55_spread_277 : decode cX55_spread 277 = .ok (.iconst 0, 1) := by decide +kernel
theorem dX55_spread_278 : decode cX55_spread 278 = .ok (.istore 5, 2) := by decide +kernel
theorem dX55_spread_280 : decode cX55_spread 280 = .ok (.goto (-205), 3) := by decide +kernel
theorem dX55_spread_283 : decode cX55_spread 283 = .ok (.iconst 0, 1) := by decide +kernel
theorem dX55_spread_284 : decode cX55_spread 284 = .ok (.istore 6, 2) := by decide +kernel
theorem dX55_spread_286 : decode cX55_spread 286 = .ok (.iload 6, 2) := by decide +kernel
theorem dX55_spread_288 : decode cX55_spread 288 = .ok (.bipush 32, 2) := by decide +kernel
theorem dX55_spread_290 : decode cX55_spread 290 = .ok (.if_icmp .ge 111, 3) := by decide +kernel
theorem dX55_spread_293 : decode cX55_spread 293 = .ok (.iload 4, 2) := by decide +kernel
theorem dX55_spread_295 : decode cX55_spread 295 = .ok (.ifCond .eq 106, 3) := by decide +kernel
theorem dX55_spread_298 : decode cX55_spread 298 = .ok (.aload_n 0, 1) := by decide +kernel
theorem dX55_spread_299 : decode cX55_spread 299 = .ok (.getfield 56, 3) := by decide +kernel
theorem dX55_spread_302 : decode cX55_spread 302 = .ok (.iload 6, 2) := by decide +kernel
theorem dX55_spread_304 : decode cX55_spread 304 = .ok (.iaload, 1) := by decide +kernel
theorem dX55_spread_305 : decode cX55_spread 305 = .ok (.ifCond .ne 6, 3) := by decide +kernel
theorem dX55_spread_308 : decode cX55_spread 308 = .ok (.goto 87, 3) := by decide +kernel
theorem dX55_spread_311 : decode cX55_spread 311 = .ok (.aload_n 0, 1) := by decide +kernel
theorem dX55_spread_312 : decode cX55_spread 312 = .ok (.getfield 17, 3) := by decide +kernel
theorem dX55_spread_315 : decode cX55_spread 315 = .ok (.iload_n 1, 1) := by decide +kernel
theorem dX55_spread_316 : decode cX55_spread 316 = .ok (.iaload, 1) := by decide +kernel
theorem dX55_spread_317 : decode cX55_spread 317 = .ok (.ifCond .ne 16, 3) := by decide +kernel
theorem dX55_spread_320 : decode cX55_spread 320 = .ok (.aload_n 0, 1) := by decide +kernel
theorem dX55_spread_321 : decode cX55_spread 321 = .ok (.getfield 56, 3) := by decide +kernel
theorem dX55_spread_324 : decode cX55_spread 324 = .ok (.iload 6, 2) := by decide +kernel
theorem dX55_spread_326 : decode cX55_spread 326 = .ok (.iaload, 1) := by decide +kernel
theorem dX55_spread_327 : decode cX55_spread 327 = .ok (.bipush 32, 2) := by decide +kernel
theorem dX55_spread_329 : decode cX55_spread 329 = .ok (.irem, 1) := by decide +kernel
theorem dX55_spread_330 : decode cX55_spread 330 = .ok (.goto 50, 3) := by decide +kernel
theorem dX55_spread_333 : decode cX55_spread 333 = .ok (.aload_n 0, 1) := by decide +kernel
theorem dX55_spread_334 : decode cX55_spread 334 = .ok (.getfield 17, 3) := by decide +kernel
theorem dX55_spread_337 : decode cX55_spread 337 = .ok (.iload_n 1, 1) := by decide +kernel
theorem dX55_spread_338 : decode cX55_spread 338 = .ok (.iaload, 1) := by decide +kernel
theorem dX55_spread_339 : decode cX55_spread 339 = .ok (.iconst 1, 1) := by decide +kernel
theorem dX55_spread_340 : decode cX55_spread 340 = .ok (.if_icmp .ne 13, 3) := by decide +kernel
theorem dX55_spread_343 : decode cX55_spread 343 = .ok (.aload_n 0, 1) := by decide +kernel
theorem dX55_spread_344 : decode cX55_spread 344 = .ok (.getfield 59, 3) := by decide +kernel
theorem dX55_spread_347 : decode cX55_spread 347 = .ok (.iload 6, 2) := by decide +kernel
theorem dX55_spread_349 : decode cX55_spread 349 = .ok (.iaload, 1) := by decide +kernel
theorem dX55_spread_350 : decode cX55_spread 350 = .ok (.goto 30, 3) := by decide +kernel
theorem dX55_spread_353 : decode cX55_spread 353 = .ok (.aload_n 0, 1) := by decide +kernel
theorem dX55_spread_354 : decode cX55_spread 354 = .ok (.getfield 17, 3) := by decide +kernel
theorem dX55_spread_357 : decode cX55_spread 357 = .ok (.iload_n 1, 1) := by decide +kernel
theorem dX55_spread_358 : decode cX55_spread 358 = .ok (.iaload, 1) := by decide +kernel
theorem dX55_spread_359 : decode cX55_spread 359 = .ok (.iconst 2, 1) := by decide +kernel
theorem dX55_spread_360 : decode cX55_spread 360 = .ok (.if_icmp .ne 13, 3) := by decide +kernel
theorem dX55_spread_363 : decode cX55_spread 363 = .ok (.aload_n 0, 1) := by decide +kernel
theorem dX55_spread_364 : decode cX55_spread 364 = .ok (.getfield 62, 3) := by decide +kernel
theorem dX55_spread_367 : decode cX55_spread 367 = .ok (.iload 6, 2) := by decide +kernel
theorem dX55_spread_369 : decode cX55_spread 369 = .ok (.iaload, 1) := by decide +kernel
theorem dX55_spread_370 : decode cX55_spread 370 = .ok (.goto 10, 3) := by decide +kernel
theorem dX55_spread_373 : decode cX55_spread 373 = .ok (.aload_n 0, 1) := by decide +kernel
theorem dX55_spread_374 : decode cX55_spread 374 = .ok (.getfield 65, 3) := by decide +kernel
theorem dX55_spread_377 : decode cX55_spread 377 = .ok (.iload 6, 2) := by decide +kernel
theorem dX55_spread_379 : decode cX55_spread 379 = .ok (.iaload, 1) := by decide +kernel
theorem dX55_spread_380 : decode cX55_spread 380 = .ok (.istore 7, 2) := by decide +kernel
theorem dX55_spread_382 : decode cX55_spread 382 = .ok (.aload_n 0, 1) := by decide +kernel
theorem dX55_spread_383 : decode cX55_spread 383 = .ok (.iload_n 3, 1) := by decide +kernel
theorem dX55_spread_384 : decode cX55_spread 384 = .ok (.iload 6, 2) := by decide +kernel
theorem dX55_spread_386 : decode cX55_spread 386 = .ok (.iload 7, 2) := by decide +kernel
theorem dX55_spread_388 : decode cX55_spread 388 = .ok (.invokestatic 79, 3) := by decide +kernel
theorem dX55_spread_391 : decode cX55_spread 391 = .ok (.iload_n 2, 1) := by decide +kernel
theorem dX55_spread_392 : decode cX55_spread 392 = .ok (.invokevirtual 141, 3) := by decide +kernel
theorem dX55_spread_395 : decode cX55_spread 395 = .ok (.iinc 6 1, 3) := by decide +kernel
theorem dX55_spread_398 : decode cX55_spread 398 = .ok (.goto (-112), 3) := by decide +kernel
theorem dX55_spread_401 : decode cX55_spread 401 = .ok (.return_, 1) := by decide +kernel
abbrev cX55_begin : ByteArray := prog_88_method_24_code
def yX55_begin : MethodName := ⟨RX55, "begin", "(I)V"⟩
theorem dX55_begin_0 : decode cX55_begin 0 = .ok (.aload_n 0, 1) := by decide +kernel
theorem dX55_begin_1 : decode cX55_begin 1 = .ok (.iconst 0, 1) := by decide +kernel
theorem dX55_begin_2 : decode cX55_begin 2 = .ok (.putfield 114, 3) := by decide +kernel
theorem dX55_begin_5 : decode cX55_begin 5 = .ok (.iconst 0, 1) := by decide +kernel
theorem dX55_begin_6 : decode cX55_begin 6 = .ok (.istore_n 2, 1) := by decide +kernel
theorem dX55_begin_7 : decode cX55_begin 7 = .ok (.iload_n 2, 1) := by decide +kernel
theorem dX55_begin_8 : decode cX55_begin 8 = .ok (.aload_n 0, 1) := by decide +kernel
theorem dX55_begin_9 : decode cX55_begin 9 = .ok (.getfield 23, 3) := by decide +kernel
theorem dX55_begin_12 : decode cX55_begin 12 = .ok (.iload_n 1, 1) := by decide +kernel
theorem dX55_begin_13 : decode cX55_begin 13 = .ok (.iaload, 1) := by decide +kernel
theorem dX55_begin_14 : decode cX55_begin 14 = .ok (.if_icmp .ge 48, 3) := by decide +kernel
theorem dX55_begin_17 : decode cX55_begin 17 = .ok (.aload_n 0, 1) := by decide +kernel
theorem dX55_begin_18 : decode cX55_begin 18 = .ok (.getfield 26, 3) := by decide +kernel
theorem dX55_begin_21 : decode cX55_begin 21 = .ok (.bipush 20, 2) := by decide +kernel
theorem dX55_begin_23 : decode cX55_begin 23 = .ok (.iload_n 1, 1) := by decide +kernel
theorem dX55_begin_24 : decode cX55_begin 24 = .ok (.imul, 1) := by decide +kernel
theorem dX55_begin_25 : decode cX55_begin 25 = .ok (.iconst 4, 1) := by decide +kernel
theorem dX55_begin_26 : decode cX55_begin 26 = .ok (.iload_n 2, 1) := by decide +kernel
theorem dX55_begin_27 : decode cX55_begin 27 = .ok (.imul, 1) := by decide +kernel
theorem dX55_begin_28 : decode cX55_begin 28 = .ok (.iadd, 1) := by decide +kernel
theorem dX55_begin_29 : decode cX55_begin 29 = .ok (.iaload, 1) := by decide +kernel
theorem dX55_begin_30 : decode cX55_begin 30 = .ok (.ifCond .eq 6, 3) := by decide +kernel
theorem dX55_begin_33 : decode cX55_begin 33 = .ok (.goto 23, 3) := by decide +kernel
theorem dX55_begin_36 : decode cX55_begin 36 = .ok (.aload_n 0, 1) := by decide +kernel
theorem dX55_begin_37 : decode cX55_begin 37 = .ok (.getfield 47, 3) := by decide +kernel
theorem dX55_begin_40 : decode cX55_begin 40 = .ok (.aload_n 0, 1) := by decide +kernel
theorem dX55_begin_41 : decode cX55_begin 41 = .ok (.getfield 114, 3) := by decide +kernel
theorem dX55_begin_44 : decode cX55_begin 44 = .ok (.iload_n 2, 1) := by decide +kernel
theorem dX55_begin_45 : decode cX55_begin 45 = .ok (.iastore, 1) := by decide +kernel
theorem dX55_begin_46 : decode cX55_begin 46 = .ok (.aload_n 0, 1) := by decide +kernel
theorem dX55_begin_47 : decode cX55_begin 47 = .ok (.dup, 1) := by decide +kernel
theorem dX55_begin_48 : decode cX55_begin 48 = .ok (.getfield 114, 3) := by decide +kernel
theorem dX55_begin_51 : decode cX55_begin 51 = .ok (.iconst 1, 1) := by decide +kernel
theorem dX55_begin_52 : decode cX55_begin 52 = .ok (.iadd, 1) := by decide +kernel
theorem dX55_begin_53 : decode cX55_begin 53 = .ok (.putfield 114, 3) := by decide +kernel
theorem dX55_begin_56 : decode cX55_begin 56 = .ok (.iinc 2 1, 3) := by decide +kernel
theorem dX55_begin_59 : decode cX55_begin 59 = .ok (.goto (-52), 3) := by decide +kernel
theorem dX55_begin_62 : decode cX55_begin 62 = .ok (.aload_n 0, 1) := by decide +kernel
theorem dX55_begin_63 : decode cX55_begin 63 = .ok (.getfield 114, 3) := by decide +kernel
theorem dX55_begin_66 : decode cX55_begin 66 = .ok (.ifCond .le 35, 3) := by decide +kernel
theorem dX55_begin_69 : decode cX55_begin 69 = .ok (.aload_n 0, 1) := by decide +kernel
theorem dX55_begin_70 : decode cX55_begin 70 = .ok (.getfield 50, 3) := by decide +kernel
theorem dX55_begin_73 : decode cX55_begin 73 = .ok (.iconst 0, 1) := by decide +kernel
theorem dX55_begin_74 : decode cX55_begin 74 = .ok (.sipush 1024, 3) := by decide +kernel
theorem dX55_begin_77 : decode cX55_begin 77 = .ok (.aload_n 0, 1) := by decide +kernel
theorem dX55_begin_78 : decode cX55_begin 78 = .ok (.getfield 26, 3) := by decide +kernel
theorem dX55_begin_81 : decode cX55_begin 81 = .ok (.bipush 20, 2) := by decide +kernel
theorem dX55_begin_83 : decode cX55_begin 83 = .ok (.iload_n 1, 1) := by decide +kernel
theorem dX55_begin_84 : decode cX55_begin 84 = .ok (.imul, 1) := by decide +kernel
theorem dX55_begin_85 : decode cX55_begin 85 = .ok (.iconst 4, 1) := by decide +kernel
theorem dX55_begin_86 : decode cX55_begin 86 = .ok (.aload_n 0, 1) := by decide +kernel
theorem dX55_begin_87 : decode cX55_begin 87 = .ok (.getfield 47, 3) := by decide +kernel
theorem dX55_begin_90 : decode cX55_begin 90 = .ok (.iconst 0, 1) := by decide +kernel
theorem dX55_begin_91 : decode cX55_begin 91 = .ok (.iaload, 1) := by decide +kernel
theorem dX55_begin_92 : decode cX55_begin 92 = .ok (.imul, 1) := by decide +kernel
theorem dX55_begin_93 : decode cX55_begin 93 = .ok (.iadd, 1) := by decide +kernel
theorem dX55_begin_94 : decode cX55_begin 94 = .ok (.iconst 1, 1) := by decide +kernel
theorem dX55_begin_95 : decode cX55_begin 95 = .ok (.iadd, 1) := by decide +kernel
theorem dX55_begin_96 : decode cX55_begin 96 = .ok (.iaload, 1) := by decide +kernel
theorem dX55_begin_97 : decode cX55_begin 97 = .ok (.imul, 1) := by decide +kernel
theorem dX55_begin_98 : decode cX55_begin 98 = .ok (.iconst 1, 1) := by decide +kernel
theorem dX55_begin_99 : decode cX55_begin 99 = .ok (.isub, 1) := by decide +kernel
theorem dX55_begin_100 : decode cX55_begin 100 = .ok (.iastore, 1) := by decide +kernel
theorem dX55_begin_101 : decode cX55_begin 101 = .ok (.return_, 1) := by decide +kernel
abbrev cX55_next : ByteArray := prog_88_method_25_code
def yX55_next : MethodName := ⟨RX55, "next", "(IZ)Z"⟩
theorem dX55_next_0 : decode cX55_next 0 = .ok (.aload_n 0, 1) := by decide +kernel
theorem dX55_next_1 : decode cX55_next 1 = .ok (.getfield 114, 3) := by decide +kernel
theorem dX55_next_4 : decode cX55_next 4 = .ok (.ifCond .ne 30, 3) := by decide +kernel
theorem dX55_next_7 : decode cX55_next 7 = .ok (.iload_n 2, 1) := by decide +kernel
theorem dX55_next_8 : decode cX55_next 8 = .ok (.ifCond .eq 24, 3) := by decide +kernel
theorem dX55_next_11 : decode cX55_next 11 = .ok (.aload_n 0, 1) := by decide +kernel
theorem dX55_next_12 : decode cX55_next 12 = .ok (.iload_n 1, 1) := by decide +kernel
theorem dX55_next_13 : decode cX55_next 13 = .ok (.iconst 0, 1) := by decide +kernel
theorem dX55_next_14 : decode cX55_next 14 = .ok (.invokevirtual 117, 3) := by decide +kernel
theorem dX55_next_17 : decode cX55_next 17 = .ok (.ifCond .eq 15, 3) := by decide +kernel
theorem dX55_next_20 : decode cX55_next 20 = .ok (.aload_n 0, 1) := by decide +kernel
theorem dX55_next_21 : decode cX55_next 21 = .ok (.iload_n 1, 1) := by decide +kernel
theorem dX55_next_22 : decode cX55_next 22 = .ok (.invokevirtual 120, 3) := by decide +kernel
theorem dX55_next_25 : decode cX55_next 25 = .ok (.ifCond .eq 7, 3) := by decide +kernel
theorem dX55_next_28 : decode cX55_next 28 = .ok (.iconst 1, 1) := by decide +kernel
theorem dX55_next_29 : decode cX55_next 29 = .ok (.goto 4, 3) := by decide +kernel
theorem dX55_next_32 : decode cX55_next 32 = .ok (.iconst 0, 1) := by decide +kernel
theorem dX55_next_33 : decode cX55_next 33 = .ok (.ireturn, 1) := by decide +kernel
theorem dX55_next_34 : decode cX55_next 34 = .ok (.iload_n 2, 1) := by decide +kernel
theorem dX55_next_35 : decode cX55_next 35 = .ok (.ifCond .eq 7, 3) := by decide +kernel
theorem dX55_next_38 : decode cX55_next 38 = .ok (.iconst 0, 1) := by decide +kernel
theorem dX55_next_39 : decode cX55_next 39 = .ok (.goto 9, 3) := by decide +kernel
theorem dX55_next_42 : decode cX55_next 42 = .ok (.aload_n 0, 1) := by decide +kernel
theorem dX55_next_43 : decode cX55_next 43 = .ok (.getfield 114, 3) := by decide +kernel
theorem dX55_next_46 : decode cX55_next 46 = .ok (.iconst 1, 1) := by decide +kernel
theorem dX55_next_47 : decode cX55_next 47 = .ok (.isub, 1) := by decide +kernel
theorem dX55_next_48 : decode cX55_next 48 = .ok (.istore_n 3, 1) := by decide +kernel
theorem dX55_next_49 : decode cX55_next 49 = .ok (.iload_n 3, 1) := by decide +kernel
theorem dX55_next_50 : decode cX55_next 50 = .ok (.ifCond .lt 171, 3) := by decide +kernel
theorem dX55_next_53 : decode cX55_next 53 = .ok (.aload_n 0, 1) := by decide +kernel
theorem dX55_next_54 : decode cX55_next 54 = .ok (.getfield 26, 3) := by decide +kernel
theorem dX55_next_57 : decode cX55_next 57 = .ok (.bipush 20, 2) := by decide +kernel
theorem dX55_next_59 : decode cX55_next 59 = .ok (.iload_n 1, 1) := by decide +kernel
theorem dX55_next_60 : decode cX55_next 60 = .ok (.imul, 1) := by decide +kernel
theorem dX55_next_61 : decode cX55_next 61 = .ok (.iconst 4, 1) := by decide +kernel
theorem dX55_next_62 : decode cX55_next 62 = .ok (.aload_n 0, 1) := by decide +kernel
theorem dX55_next_63 : decode cX55_next 63 = .ok (.getfield 47, 3) := by decide +kernel
theorem dX55_next_66 : decode cX55_next 66 = .ok (.iload_n 3, 1) := by decide +kernel
theorem dX55_next_67 : decode cX55_next 67 = .ok (.iaload, 1) := by decide +kernel
theorem dX55_next_68 : decode cX55_next 68 = .ok (.imul, 1) := by decide +kernel
theorem dX55_next_69 : decode cX55_next 69 = .ok (.iadd, 1) := by decide +kernel
theorem dX55_next_70 : decode cX55_next 70 = .ok (.iconst 1, 1) := by decide +kernel
theorem dX55_next_71 : decode cX55_next 71 = .ok (.iadd, 1) := by decide +kernel
theorem dX55_next_72 : decode cX55_next 72 = .ok (.iaload, 1) := by decide +kernel
theorem dX55_next_73 : decode cX55_next 73 = .ok (.istore 4, 2) := by decide +kernel
theorem dX55_next_75 : decode cX55_next 75 = .ok (.aload_n 0, 1) := by decide +kernel
theorem dX55_next_76 : decode cX55_next 76 = .ok (.getfield 50, 3) := by decide +kernel
theorem dX55_next_79 : decode cX55_next 79 = .ok (.iload_n 3, 1) := by decide +kernel
theorem dX55_next_80 : decode cX55_next 80 = .ok (.iaload, 1) := by decide +kernel
theorem dX55_next_81 : decode cX55_next 81 = .ok (.iconst 1, 1) := by decide +kernel
theorem dX55_next_82 : decode cX55_next 82 = .ok (.iadd, 1) := by decide +kernel
theorem dX55_next_83 : decode cX55_next 83 = .ok (.istore 5, 2) := by decide +kernel
theorem dX55_next_85 : decode cX55_next 85 = .ok (.aload_n 0, 1) := by decide +kernel
theorem dX55_next_86 : decode cX55_next 86 = .ok (.getfield 50, 3) := by decide +kernel
theorem dX55_next_89 : decode cX55_next 89 = .ok (.iload_n 3, 1) := by decide +kernel
theorem dX55_next_90 : decode cX55_next 90 = .ok (.iload 5, 2) := by decide +kernel
theorem dX55_next_92 : decode cX55_next 92 = .ok (.iastore, 1) := by decide +kernel
theorem dX55_next_93 : decode cX55_next 93 = .ok (.iload 5, 2) := by decide +kernel
theorem dX55_next_95 : decode cX55_next 95 = .ok (.sipush 1024, 3) := by decide +kernel
theorem dX55_next_98 : decode cX55_next 98 = .ok (.iload 4, 2) := by decide +kernel
theorem dX55_next_100 : decode cX55_next 100 = .ok (.imul, 1) := by decide +kernel
theorem dX55_next_101 : decode cX55_next 101 = .ok (.sipush 1024, 3) := by decide +kernel
theorem dX55_next_104 : decode cX55_next 104 = .ok (.iadd, 1) := by decide +kernel
theorem dX55_next_105 : decode cX55_next 105 = .ok (.if_icmp .ge 37, 3) := by decide +kernel
theorem dX55_next_108 : decode cX55_next 108 = .ok (.aload_n 0, 1) := by decide +kernel
theorem dX55_next_109 : decode cX55_next 109 = .ok (.iload 5, 2) := by decide +kernel
theorem dX55_next_111 : decode cX55_next 111 = .ok (.invokevirtual 123, 3) := by decide +kernel
theorem dX55_next_114 : decode cX55_next 114 = .ok (.ifCond .eq 14, 3) := by decide +kernel
theorem dX55_next_117 : decode cX55_next 117 = .ok (.aload_n 0, 1) := by decide +kernel
theorem dX55_next_118 : decode cX55_next 118 = .ok (.iload_n 1, 1) := by decide +kernel
theorem dX55_next_119 : decode cX55_next 119 = .ok (.iload_n 3, 1) := by decide +kernel
theorem dX55_next_120 : decode cX55_next 120 = .ok (.iconst 1, 1) := by decide +kernel
theorem dX55_next_121 : decode cX55_next 121 = .ok (.iadd, 1) := by decide +kernel
theorem dX55_next_122 : decode cX55_next 122 = .ok (.invokevirtual 117, 3) := by decide +kernel
theorem dX55_next_125 : decode cX55_next 125 = .ok (.ifCond .ne 17, 3) := by decide +kernel
theorem dX55_next_128 : decode cX55_next 128 = .ok (.iinc 5 1, 3) := by decide +kernel
theorem dX55_next_131 : decode cX55_next 131 = .ok (.aload_n 0, 1) := by decide +kernel
theorem dX55_next_132 : decode cX55_next 132 = .ok (.getfield 50, 3) := by decide +kernel
theorem dX55_next_135 : decode cX55_next 135 = .ok (.iload_n 3, 1) := by decide +kernel
theorem dX55_next_136 : decode cX55_next 136 = .ok (.iload 5, 2) := by decide +kernel
theorem dX55_next_138 : decode cX55_next 138 = .ok (.iastore, 1) := by decide +kernel
theorem dX55_next_139 : decode cX55_next 139 = .ok (.goto (-46), 3) := by decide +kernel
theorem dX55_next_142 : decode cX55_next 142 = .ok (.iload 5, 2) := by decide +kernel
theorem dX55_next_144 : decode cX55_next 144 = .ok (.sipush 1024, 3) := by decide +kernel
theorem dX55_next_147 : decode cX55_next 147 = .ok (.iload 4, 2) := by decide +kernel
theorem dX55_next_149 : decode cX55_next 149 = .ok (.imul, 1) := by decide +kernel
theorem dX55_next_150 : decode cX55_next 150 = .ok (.sipush 1024, 3) := by decide +kernel
theorem dX55_next_153 : decode cX55_next 153 = .ok (.iadd, 1) := by decide +kernel
theorem dX55_next_154 : decode cX55_next 154 = .ok (.if_icmp .ne 9, 3) := by decide +kernel
theorem dX55_next_157 : decode cX55_next 157 = .ok (.iinc 3 (-1), 3) := by decide +kernel
theorem dX55_next_160 : decode cX55_next 160 = .ok (.goto 58, 3) := by decide +kernel
theorem dX55_next_163 : decode cX55_next 163 = .ok (.iload_n 3, 1) := by decide +kernel
theorem dX55_next_164 : decode cX55_next 164 = .ok (.aload_n 0, 1) := by decide +kernel
theorem dX55_next_165 : decode cX55_next 165 = .ok (.getfield 114, 3) := by decide +kernel
theorem dX55_next_168 : decode cX55_next 168 = .ok (.iconst 1, 1) := by decide +kernel
theorem dX55_next_169 : decode cX55_next 169 = .ok (.isub, 1) := by decide +kernel
theorem dX55_next_170 : decode cX55_next 170 = .ok (.if_icmp .ne 13, 3) := by decide +kernel
theorem dX55_next_173 : decode cX55_next 173 = .ok (.aload_n 0, 1) := by decide +kernel
theorem dX55_next_174 : decode cX55_next 174 = .ok (.iload_n 1, 1) := by decide +kernel
theorem dX55_next_175 : decode cX55_next 175 = .ok (.invokevirtual 120, 3) := by decide +kernel
theorem dX55_next_178 : decode cX55_next 178 = .ok (.ifCond .eq 40, 3) := by decide +kernel
theorem dX55_next_181 : decode cX55_next 181 = .ok (.iconst 1, 1) := by decide +kernel
theorem dX55_next_182 : decode cX55_next 182 = .ok (.ireturn, 1) := by decide +kernel
theorem dX55_next_183 : decode cX55_next 183 = .ok (.iinc 3 1, 3) := by decide +kernel
theorem dX55_next_186 : decode cX55_next 186 = .ok (.aload_n 0, 1) := by decide +kernel
theorem dX55_next_187 : decode cX55_next 187 = .ok (.getfield 50, 3) := by decide +kernel
theorem dX55_next_190 : decode cX55_next 190 = .ok (.iload_n 3, 1) := by decide +kernel
theorem dX55_next_191 : decode cX55_next 191 = .ok (.sipush 1024, 3) := by decide +kernel
theorem dX55_next_194 : decode cX55_next 194 = .ok (.aload_n 0, 1) := by decide +kernel
theorem dX55_next_195 : decode cX55_next 195 = .ok (.getfield 26, 3) := by decide +kernel
theorem dX55_next_198 : decode cX55_next 198 = .ok (.bipush 20, 2) := by decide +kernel
theorem dX55_next_200 : decode cX55_next 200 = .ok (.iload_n 1, 1) := by decide +kernel
theorem dX55_next_201 : decode cX55_next 201 = .ok (.imul, 1) := by decide +kernel
theorem dX55_next_202 : decode cX55_next 202 = .ok (.iconst 4, 1) := by decide +kernel
theorem dX55_next_203 : decode cX55_next 203 = .ok (.aload_n 0, 1) := by decide +kernel
theorem dX55_next_204 : decode cX55_next 204 = .ok (.getfield 47, 3) := by decide +kernel
theorem dX55_next_207 : decode cX55_next 207 = .ok (.iload_n 3, 1) := by decide +kernel
theorem dX55_next_208 : decode cX55_next 208 = .ok (.iaload, 1) := by decide +kernel
theorem dX55_next_209 : decode cX55_next 209 = .ok (.imul, 1) := by decide +kernel
theorem dX55_next_210 : decode cX55_next 210 = .ok (.iadd, 1) := by decide +kernel
theorem dX55_next_211 : decode cX55_next 211 = .ok (.iconst 1, 1) := by decide +kernel
theorem dX55_next_212 : decode cX55_next 212 = .ok (.iadd, 1) := by decide +kernel
theorem dX55_next_213 : decode cX55_next 213 = .ok (.iaload, 1) := by decide +kernel
theorem dX55_next_214 : decode cX55_next 214 = .ok (.imul, 1) := by decide +kernel
theorem dX55_next_215 : decode cX55_next 215 = .ok (.iconst 1, 1) := by decide +kernel
theorem dX55_next_216 : decode cX55_next 216 = .ok (.isub, 1) := by decide +kernel
theorem dX55_next_217 : decode cX55_next 217 = .ok (.iastore, 1) := by decide +kernel
theorem dX55_next_218 : decode cX55_next 218 = .ok (.goto (-169), 3) := by decide +kernel
theorem dX55_next_221 : decode cX55_next 221 = .ok (.iconst 0, 1) := by decide +kernel
theorem dX55_next_222 : decode cX55_next 222 = .ok (.ireturn, 1) := by decide +kernel
abbrev cX55_tell : ByteArray := prog_88_method_23_code
def yX55_tell : MethodName := ⟨RX55, "tell", "(II)Z"⟩
theorem dX55_tell_0 : decode cX55_tell 0 = .ok (.iconst 0, 1) := by decide +kernel
theorem dX55_tell_1 : decode cX55_tell 1 = .ok (.istore_n 3, 1) := by decide +kernel
theorem dX55_tell_2 : decode cX55_tell 2 = .ok (.iload_n 3, 1) := by decide +kernel
theorem dX55_tell_3 : decode cX55_tell 3 = .ok (.bipush 6, 2) := by decide +kernel
theorem dX55_tell_5 : decode cX55_tell 5 = .ok (.if_icmp .ge 16, 3) := by decide +kernel
theorem dX55_tell_8 : decode cX55_tell 8 = .ok (.aload_n 0, 1) := by decide +kernel
theorem dX55_tell_9 : decode cX55_tell 9 = .ok (.getfield 44, 3) := by decide +kernel
theorem dX55_tell_12 : decode cX55_tell 12 = .ok (.iload_n 3, 1) := by decide +kernel
theorem dX55_tell_13 : decode cX55_tell 13 = .ok (.iconst (-1), 1) := by decide +kernel
theorem dX55_tell_14 : decode cX55_tell 14 = .ok (.iastore, 1) := by decide +kernel
theorem dX55_tell_15 : decode cX55_tell 15 = .ok (.iinc 3 1, 3) := by decide +kernel
theorem dX55_tell_18 : decode cX55_tell 18 = .ok (.goto (-16), 3) := by decide +kernel
theorem dX55_tell_21 : decode cX55_tell 21 = .ok (.iconst 0, 1) := by decide +kernel
theorem dX55_tell_22 : decode cX55_tell 22 = .ok (.istore_n 3, 1) := by decide +kernel
theorem dX55_tell_23 : decode cX55_tell 23 = .ok (.iload_n 3, 1) := by decide +kernel
theorem dX55_tell_24 : decode cX55_tell 24 = .ok (.iload_n 2, 1) := by decide +kernel
theorem dX55_tell_25 : decode cX55_tell 25 = .ok (.if_icmp .ge 144, 3) := by decide +kernel
theorem dX55_tell_28 : decode cX55_tell 28 = .ok (.bipush 20, 2) := by decide +kernel
theorem dX55_tell_30 : decode cX55_tell 30 = .ok (.iload_n 1, 1) := by decide +kernel
theorem dX55_tell_31 : decode cX55_tell 31 = .ok (.imul, 1) := by decide +kernel
theorem dX55_tell_32 : decode cX55_tell 32 = .ok (.iconst 4, 1) := by decide +kernel
theorem dX55_tell_33 : decode cX55_tell 33 = .ok (.aload_n 0, 1) := by decide +kernel
theorem dX55_tell_34 : decode cX55_tell 34 = .ok (.getfield 47, 3) := by decide +kernel
theorem dX55_tell_37 : decode cX55_tell 37 = .ok (.iload_n 3, 1) := by decide +kernel
theorem dX55_tell_38 : decode cX55_tell 38 = .ok (.iaload, 1) := by decide +kernel
theorem dX55_tell_39 : decode cX55_tell 39 = .ok (.imul, 1) := by decide +kernel
theorem dX55_tell_40 : decode cX55_tell 40 = .ok (.iadd, 1) := by decide +kernel
theorem dX55_tell_41 : decode cX55_tell 41 = .ok (.istore 4, 2) := by decide +kernel
theorem dX55_tell_43 : decode cX55_tell 43 = .ok (.aload_n 0, 1) := by decide +kernel
theorem dX55_tell_44 : decode cX55_tell 44 = .ok (.getfield 50, 3) := by decide +kernel
theorem dX55_tell_47 : decode cX55_tell 47 = .ok (.iload_n 3, 1) := by decide +kernel
theorem dX55_tell_48 : decode cX55_tell 48 = .ok (.iaload, 1) := by decide +kernel
theorem dX55_tell_49 : decode cX55_tell 49 = .ok (.istore 5, 2) := by decide +kernel
theorem dX55_tell_51 : decode cX55_tell 51 = .ok (.iconst 0, 1) := by decide +kernel
theorem dX55_tell_52 : decode cX55_tell 52 = .ok (.istore 6, 2) := by decide +kernel
theorem dX55_tell_54 : decode cX55_tell 54 = .ok (.iload 6, 2) := by decide +kernel
theorem dX55_tell_56 : decode cX55_tell 56 = .ok (.iconst 2, 1) := by decide +kernel
theorem dX55_tell_57 : decode cX55_tell 57 = .ok (.if_icmp .ge 106, 3) := by decide +kernel
theorem dX55_tell_60 : decode cX55_tell 60 = .ok (.aload_n 0, 1) := by decide +kernel
theorem dX55_tell_61 : decode cX55_tell 61 = .ok (.getfield 26, 3) := by decide +kernel
theorem dX55_tell_64 : decode cX55_tell 64 = .ok (.iload 4, 2) := by decide +kernel
theorem dX55_tell_66 : decode cX55_tell 66 = .ok (.iconst 2, 1) := by decide +kernel
theorem dX55_tell_67 : decode cX55_tell 67 = .ok (.iadd, 1) := by decide +kernel
theorem dX55_tell_68 : decode cX55_tell 68 = .ok (.iload 6, 2) := by decide +kernel
theorem dX55_tell_70 : decode cX55_tell 70 = .ok (.iadd, 1) := by decide +kernel
theorem dX55_tell_71 : decode cX55_tell 71 = .ok (.iaload, 1) := by decide +kernel
theorem dX55_tell_72 : decode cX55_tell 72 = .ok (.istore 7, 2) := by decide +kernel
theorem dX55_tell_74 : decode cX55_tell 74 = .ok (.iload 6, 2) := by decide +kernel
theorem dX55_tell_76 : decode cX55_tell 76 = .ok (.ifCond .ne 14, 3) := by decide +kernel
theorem dX55_tell_79 : decode cX55_tell 79 = .ok (.iload 5, 2) := by decide +kernel
theorem dX55_tell_81 : decode cX55_tell 81 = .ok (.bipush 32, 2) := by decide +kernel
theorem dX55_tell_83 : decode cX55_tell 83 = .ok (.idiv, 1) := by decide +kernel
theorem dX55_tell_84 : decode cX55_tell 84 = .ok (.bipush 32, 2) := by decide +kernel
theorem dX55_tell_86 : decode cX55_tell 86 = .ok (.irem, 1) := by decide +kernel
theorem dX55_tell_87 : decode cX55_tell 87 = .ok (.goto 8, 3) := by decide +kernel
theorem dX55_tell_90 : decode cX55_tell 90 = .ok (.iload 5, 2) := by decide +kernel
theorem dX55_tell_92 : decode cX55_tell 92 = .ok (.bipush 32, 2) := by decide +kernel
theorem dX55_tell_94 : decode cX55_tell 94 = .ok (.irem, 1) := by decide +kernel
theorem dX55_tell_95 : decode cX55_tell 95 = .ok (.istore 8, 2) := by decide +kernel
theorem dX55_tell_97 : decode cX55_tell 97 = .ok (.iload 7, 2) := by decide +kernel
theorem dX55_tell_99 : decode cX55_tell 99 = .ok (.ifCond .lt 13, 3) := by decide +kernel
theorem dX55_tell_102 : decode cX55_tell 102 = .ok (.iload 7, 2) := by decide +kernel
theorem dX55_tell_104 : decode cX55_tell 104 = .ok (.iload 8, 2) := by decide +kernel
theorem dX55_tell_106 : decode cX55_tell 106 = .ok (.if_icmp .eq 35, 3) := by decide +kernel
theorem dX55_tell_109 : decode cX55_tell 109 = .ok (.goto 30, 3) := by decide +kernel
theorem dX55_tell_112 : decode cX55_tell 112 = .ok (.aload_n 0, 1) := by decide +kernel
theorem dX55_tell_113 : decode cX55_tell 113 = .ok (.getfield 44, 3) := by decide +kernel
theorem dX55_tell_116 : decode cX55_tell 116 = .ok (.iconst (-1), 1) := by decide +kernel
theorem dX55_tell_117 : decode cX55_tell 117 = .ok (.iload 7, 2) := by decide +kernel
theorem dX55_tell_119 : decode cX55_tell 119 = .ok (.isub, 1) := by decide +kernel
theorem dX55_tell_120 : decode cX55_tell 120 = .ok (.iaload, 1) := by decide +kernel
theorem dX55_tell_121 : decode cX55_tell 121 = .ok (.iconst (-1), 1) := by decide +kernel
theorem dX55_tell_122 : decode cX55_tell 122 = .ok (.if_icmp .eq 19, 3) := by decide +kernel
theorem dX55_tell_125 : decode cX55_tell 125 = .ok (.aload_n 0, 1) := by decide +kernel
theorem dX55_tell_126 : decode cX55_tell 126 = .ok (.getfield 44, 3) := by decide +kernel
theorem dX55_tell_129 : decode cX55_tell 129 = .ok (.iconst (-1), 1) := by decide +kernel
theorem dX55_tell_130 : decode cX55_tell 130 = .ok (.iload 7, 2) := by decide +kernel
theorem dX55_tell_132 : decode cX55_tell 132 = .ok (.isub, 1) := by decide +kernel
theorem dX55_tell_133 : decode cX55_tell 133 = .ok (.iaload, 1) := by decide +kernel
theorem dX55_tell_134 : decode cX55_tell 134 = .ok (.iload 8, 2) := by decide +kernel
theorem dX55_tell_136 : decode cX55_tell 136 = .ok (.if_icmp .eq 5, 3) := by decide +kernel
theorem dX55_tell_139 : decode cX55_tell 139 = .ok (.iconst 0, 1) := by decide +kernel
theorem dX55_tell_140 : decode cX55_tell 140 = .ok (.ireturn, 1) := by decide +kernel
theorem dX55_tell_141 : decode cX55_tell 141 = .ok (.iload 7, 2) := by decide +kernel
theorem dX55_tell_143 : decode cX55_tell 143 = .ok (.ifCond .ge 14, 3) := by decide +kernel
theorem dX55_tell_146 : decode cX55_tell 146 = .ok (.aload_n 0, 1) := by decide +kernel
theorem dX55_tell_147 : decode cX55_tell 147 = .ok (.getfield 44, 3) := by decide +kernel
theorem dX55_tell_150 : decode cX55_tell 150 = .ok (.iconst (-1), 1) := by decide +kernel
theorem dX55_tell_151 : decode cX55_tell 151 = .ok (.iload 7, 2) := by decide +kernel
theorem dX55_tell_153 : decode cX55_tell 153 = .ok (.isub, 1) := by decide +kernel
theorem dX55_tell_154 : decode cX55_tell 154 = .ok (.iload 8, 2) := by decide +kernel
theorem dX55_tell_156 : decode cX55_tell 156 = .ok (.iastore, 1) := by decide +kernel
theorem dX55_tell_157 : decode cX55_tell 157 = .ok (.iinc 6 1, 3) := by decide +kernel
theorem dX55_tell_160 : decode cX55_tell 160 = .ok (.goto (-106), 3) := by decide +kernel
theorem dX55_tell_163 : decode cX55_tell 163 = .ok (.iinc 3 1, 3) := by decide +kernel
theorem dX55_tell_166 : decode cX55_tell 166 = .ok (.goto (-143), 3) := by decide +kernel
theorem dX55_tell_169 : decode cX55_tell 169 = .ok (.iconst 1, 1) := by decide +kernel
theorem dX55_tell_170 : decode cX55_tell 170 = .ok (.ireturn, 1) := by decide +kernel
abbrev cX55_passes : ByteArray := prog_88_method_26_code
def yX55_passes : MethodName := ⟨RX55, "passes", "(I)Z"⟩
theorem dX55_passes_0 : decode cX55_passes 0 = .ok (.iconst 1, 1) := by decide +kernel
theorem dX55_passes_1 : decode cX55_passes 1 = .ok (.istore_n 2, 1) := by decide +kernel
theorem dX55_passes_2 : decode cX55_passes 2 = .ok (.iconst 0, 1) := by decide +kernel
theorem dX55_passes_3 : decode cX55_passes 3 = .ok (.istore_n 3, 1) := by decide +kernel
theorem dX55_passes_4 : decode cX55_passes 4 = .ok (.iload_n 3, 1) := by decide +kernel
theorem dX55_passes_5 : decode cX55_passes 5 = .ok (.aload_n 0, 1) := by decide +kernel
theorem dX55_passes_6 : decode cX55_passes 6 = .ok (.getfield 23, 3) := by decide +kernel
theorem dX55_passes_9 : decode cX55_passes 9 = .ok (.iload_n 1, 1) := by decide +kernel
theorem dX55_passes_10 : decode cX55_passes 10 = .ok (.iaload, 1) := by decide +kernel
theorem dX55_passes_11 : decode cX55_passes 11 = .ok (.if_icmp .ge 174, 3) := by decide +kernel
theorem dX55_passes_14 : decode cX55_passes 14 = .ok (.iload_n 2, 1) := by decide +kernel
theorem dX55_passes_15 : decode cX55_passes 15 = .ok (.ifCond .eq 170, 3) := by decide +kernel
theorem dX55_passes_18 : decode cX55_passes 18 = .ok (.bipush 20, 2) := by decide +kernel
theorem dX55_passes_20 : decode cX55_passes 20 = .ok (.iload_n 1, 1) := by decide +kernel
theorem dX55_passes_21 : decode cX55_passes 21 = .ok (.imul, 1) := by decide +kernel
theorem dX55_passes_22 : decode cX55_passes 22 = .ok (.iconst 4, 1) := by decide +kernel
theorem dX55_passes_23 : decode cX55_passes 23 = .ok (.iload_n 3, 1) := by decide +kernel
theorem dX55_passes_24 : decode cX55_passes 24 = .ok (.imul, 1) := by decide +kernel
theorem dX55_passes_25 : decode cX55_passes 25 = .ok (.iadd, 1) := by decide +kernel
theorem dX55_passes_26 : decode cX55_passes 26 = .ok (.istore 4, 2) := by decide +kernel
theorem dX55_passes_28 : decode cX55_passes 28 = .ok (.aload_n 0, 1) := by decide +kernel
theorem dX55_passes_29 : decode cX55_passes 29 = .ok (.aload_n 0, 1) := by decide +kernel
theorem dX55_passes_30 : decode cX55_passes 30 = .ok (.getfield 26, 3) := by decide +kernel
theorem dX55_passes_33 : decode cX55_passes 33 = .ok (.iload 4, 2) := by decide +kernel
theorem dX55_passes_35 : decode cX55_passes 35 = .ok (.iconst 2, 1) := by decide +kernel
theorem dX55_passes_36 : decode cX55_passes 36 = .ok (.iadd, 1) := by decide +kernel
theorem dX55_passes_37 : decode cX55_passes 37 = .ok (.iaload, 1) := by decide +kernel
theorem dX55_passes_38 : decode cX55_passes 38 = .ok (.invokevirtual 126, 3) := by decide +kernel
theorem dX55_passes_41 : decode cX55_passes 41 = .ok (.istore 5, 2) := by decide +kernel
theorem dX55_passes_43 : decode cX55_passes 43 = .ok (.aload_n 0, 1) := by decide +kernel
theorem dX55_passes_44 : decode cX55_passes 44 = .ok (.aload_n 0, 1) := by decide +kernel
theorem dX55_passes_45 : decode cX55_passes 45 = .ok (.getfield 26, 3) := by decide +kernel
theorem dX55_passes_48 : decode cX55_passes 48 = .ok (.iload 4, 2) := by decide +kernel
theorem dX55_passes_50 : decode cX55_passes 50 = .ok (.iconst 3, 1) := by decide +kernel
theorem dX55_passes_51 : decode cX55_passes 51 = .ok (.iadd, 1) := by decide +kernel
theorem dX55_passes_52 : decode cX55_passes 52 = .ok (.iaload, 1) := by decide +kernel
theorem dX55_passes_53 : decode cX55_passes 53 = .ok (.invokevirtual 126, 3) := by decide +kernel
theorem dX55_passes_56 : decode cX55_passes 56 = .ok (.istore 6, 2) := by decide +kernel
theorem dX55_passes_58 : decode cX55_passes 58 = .ok (.aload_n 0, 1) := by decide +kernel
theorem dX55_passes_59 : decode cX55_passes 59 = .ok (.getfield 26, 3) := by decide +kernel
theorem dX55_passes_62 : decode cX55_passes 62 = .ok (.iload 4, 2) := by decide +kernel
theorem dX55_passes_64 : decode cX55_passes 64 = .ok (.iaload, 1) := by decide +kernel
theorem dX55_passes_65 : decode cX55_passes 65 = .ok (.iconst 1, 1) := by decide +kernel
theorem dX55_passes_66 : decode cX55_passes 66 = .ok (.if_icmp .ne 32, 3) := by decide +kernel
theorem dX55_passes_69 : decode cX55_passes 69 = .ok (.aload_n 0, 1) := by decide +kernel
theorem dX55_passes_70 : decode cX55_passes 70 = .ok (.aload_n 0, 1) := by decide +kernel
theorem dX55_passes_71 : decode cX55_passes 71 = .ok (.getfield 26, 3) := by decide +kernel
theorem dX55_passes_74 : decode cX55_passes 74 = .ok (.iload 4, 2) := by decide +kernel
theorem dX55_passes_76 : decode cX55_passes 76 = .ok (.iconst 1, 1) := by decide +kernel
theorem dX55_passes_77 : decode cX55_passes 77 = .ok (.iadd, 1) := by decide +kernel
theorem dX55_passes_78 : decode cX55_passes 78 = .ok (.iaload, 1) := by decide +kernel
theorem dX55_passes_79 : decode cX55_passes 79 = .ok (.iload 5, 2) := by decide +kernel
theorem dX55_passes_81 : decode cX55_passes 81 = .ok (.iload 6, 2) := by decide +kernel
theorem dX55_passes_83 : decode cX55_passes 83 = .ok (.invokestatic 79, 3) := by decide +kernel
theorem dX55_passes_86 : decode cX55_passes 86 = .ok (.invokevirtual 123, 3) := by decide +kernel
theorem dX55_passes_89 : decode cX55_passes 89 = .ok (.ifCond .ne 7, 3) := by decide +kernel
theorem dX55_passes_92 : decode cX55_passes 92 = .ok (.iconst 1, 1) := by decide +kernel
theorem dX55_passes_93 : decode cX55_passes 93 = .ok (.goto 4, 3) := by decide +kernel
theorem dX55_passes_96 : decode cX55_passes 96 = .ok (.iconst 0, 1) := by decide +kernel
theorem dX55_passes_97 : decode cX55_passes 97 = .ok (.istore_n 2, 1) := by decide +kernel
theorem dX55_passes_98 : decode cX55_passes 98 = .ok (.aload_n 0, 1) := by decide +kernel
theorem dX55_passes_99 : decode cX55_passes 99 = .ok (.getfield 26, 3) := by decide +kernel
theorem dX55_passes_102 : decode cX55_passes 102 = .ok (.iload 4, 2) := by decide +kernel
theorem dX55_passes_104 : decode cX55_passes 104 = .ok (.iaload, 1) := by decide +kernel
theorem dX55_passes_105 : decode cX55_passes 105 = .ok (.iconst 2, 1) := by decide +kernel
theorem dX55_passes_106 : decode cX55_passes 106 = .ok (.if_icmp .ne 73, 3) := by decide +kernel
theorem dX55_passes_109 : decode cX55_passes 109 = .ok (.aload_n 0, 1) := by decide +kernel
theorem dX55_passes_110 : decode cX55_passes 110 = .ok (.getfield 26, 3) := by decide +kernel
theorem dX55_passes_113 : decode cX55_passes 113 = .ok (.iload 4, 2) := by decide +kernel
theorem dX55_passes_115 : decode cX55_passes 115 = .ok (.iconst 1, 1) := by decide +kernel
theorem dX55_passes_116 : decode cX55_passes 116 = .ok (.iadd, 1) := by decide +kernel
theorem dX55_passes_117 : decode cX55_passes 117 = .ok (.iaload, 1) := by decide +kernel
theorem dX55_passes_118 : decode cX55_passes 118 = .ok (.ifCond .ne 18, 3) := by decide +kernel
theorem dX55_passes_121 : decode cX55_passes 121 = .ok (.iload 5, 2) := by decide +kernel
theorem dX55_passes_123 : decode cX55_passes 123 = .ok (.iload 6, 2) := by decide +kernel
theorem dX55_passes_125 : decode cX55_passes 125 = .ok (.if_icmp .ge 7, 3) := by decide +kernel
theorem dX55_passes_128 : decode cX55_passes 128 = .ok (.iconst 1, 1) := by decide +kernel
theorem dX55_passes_129 : decode cX55_passes 129 = .ok (.goto 49, 3) := by decide +kernel
theorem dX55_passes_132 : decode cX55_passes 132 = .ok (.iconst 0, 1) := by decide +kernel
theorem dX55_passes_133 : decode cX55_passes 133 = .ok (.goto 45, 3) := by decide +kernel
theorem dX55_passes_136 : decode cX55_passes 136 = .ok (.aload_n 0, 1) := by decide +kernel
theorem dX55_passes_137 : decode cX55_passes 137 = .ok (.getfield 26, 3) := by decide +kernel
theorem dX55_passes_140 : decode cX55_passes 140 = .ok (.iload 4, 2) := by decide +kernel
theorem dX55_passes_142 : decode cX55_passes 142 = .ok (.iconst 1, 1) := by decide +kernel
theorem dX55_passes_143 : decode cX55_passes 143 = .ok (.iadd, 1) := by decide +kernel
theorem dX55_passes_144 : decode cX55_passes 144 = .ok (.iaload, 1) := by decide +kernel
theorem dX55_passes_145 : decode cX55_passes 145 = .ok (.iconst 1, 1) := by decide +kernel
theorem dX55_passes_146 : decode cX55_passes 146 = .ok (.if_icmp .ne 18, 3) := by decide +kernel
theorem dX55_passes_149 : decode cX55_passes 149 = .ok (.iload 5, 2) := by decide +kernel
theorem dX55_passes_151 : decode cX55_passes 151 = .ok (.iload 6, 2) := by decide +kernel
theorem dX55_passes_153 : decode cX55_passes 153 = .ok (.if_icmp .eq 7, 3) := by decide +kernel
theorem dX55_passes_156 : decode cX55_passes 156 = .ok (.iconst 1, 1) := by decide +kernel
theorem dX55_passes_157 : decode cX55_passes 157 = .ok (.goto 21, 3) := by decide +kernel
theorem dX55_passes_160 : decode cX55_passes 160 = .ok (.iconst 0, 1) := by decide +kernel
theorem dX55_passes_161 : decode cX55_passes 161 = .ok (.goto 17, 3) := by decide +kernel
theorem dX55_passes_164 : decode cX55_passes 164 = .ok (.iload 6, 2) := by decide +kernel
theorem dX55_passes_166 : decode cX55_passes 166 = .ok (.iload 5, 2) := by decide +kernel
theorem dX55_passes_168 : decode cX55_passes 168 = .ok (.iconst 1, 1) := by decide +kernel
theorem dX55_passes_169 : decode cX55_passes 169 = .ok (.iadd, 1) := by decide +kernel
theorem dX55_passes_170 : decode cX55_passes 170 = .ok (.if_icmp .ne 7, 3) := by decide +kernel
theorem dX55_passes_173 : decode cX55_passes 173 = .ok (.iconst 1, 1) := by decide +kernel
theorem dX55_passes_174 : decode cX55_passes 174 = .ok (.goto 4, 3) := by decide +kernel
theorem dX55_passes_177 : decode cX55_passes 177 = .ok (.iconst 0, 1) := by decide +kernel
theorem dX55_passes_178 : decode cX55_passes 178 = .ok (.istore_n 2, 1) := by decide +kernel
theorem dX55_passes_179 : decode cX55_passes 179 = .ok (.iinc 3 1, 3) := by decide +kernel
theorem dX55_passes_182 : decode cX55_passes 182 = .ok (.goto (-178), 3) := by decide +kernel
theorem dX55_passes_185 : decode cX55_passes 185 = .ok (.iload_n 2, 1) := by decide +kernel
theorem dX55_passes_186 : decode cX55_passes 186 = .ok (.ireturn, 1) := by decide +kernel
abbrev cX55_valueOf : ByteArray := prog_88_method_21_code
def yX55_valueOf : MethodName := ⟨RX55, "valueOf", "(I)I"⟩
theorem dX55_valueOf_0 : decode cX55_valueOf 0 = .ok (.iload_n 1, 1) := by decide +kernel
theorem dX55_valueOf_1 : decode cX55_valueOf 1 = .ok (.ifCond .lt 7, 3) := by decide +kernel
theorem dX55_valueOf_4 : decode cX55_valueOf 4 = .ok (.iload_n 1, 1) := by decide +kernel
theorem dX55_valueOf_5 : decode cX55_valueOf 5 = .ok (.goto 11, 3) := by decide +kernel
theorem dX55_valueOf_8 : decode cX55_valueOf 8 = .ok (.aload_n 0, 1) := by decide +kernel
theorem dX55_valueOf_9 : decode cX55_valueOf 9 = .ok (.getfield 44, 3) := by decide +kernel
theorem dX55_valueOf_12 : decode cX55_valueOf 12 = .ok (.iconst (-1), 1) := by decide +kernel
theorem dX55_valueOf_13 : decode cX55_valueOf 13 = .ok (.iload_n 1, 1) := by decide +kernel
theorem dX55_valueOf_14 : decode cX55_valueOf 14 = .ok (.isub, 1) := by decide +kernel
theorem dX55_valueOf_15 : decode cX55_valueOf 15 = .ok (.iaload, 1) := by decide +kernel
theorem dX55_valueOf_16 : decode cX55_valueOf 16 = .ok (.ireturn, 1) := by decide +kernel
abbrev cX55_isOld : ByteArray := prog_88_method_22_code
def yX55_isOld : MethodName := ⟨RX55, "isOld", "(I)Z"⟩
theorem dX55_isOld_0 : decode cX55_isOld 0 = .ok (.aload_n 0, 1) := by decide +kernel
theorem dX55_isOld_1 : decode cX55_isOld 1 = .ok (.getfield 29, 3) := by decide +kernel
theorem dX55_isOld_4 : decode cX55_isOld 4 = .ok (.iload_n 1, 1) := by decide +kernel
theorem dX55_isOld_5 : decode cX55_isOld 5 = .ok (.iaload, 1) := by decide +kernel
theorem dX55_isOld_6 : decode cX55_isOld 6 = .ok (.ifCond .lt 27, 3) := by decide +kernel
theorem dX55_isOld_9 : decode cX55_isOld 9 = .ok (.aload_n 0, 1) := by decide +kernel
theorem dX55_isOld_10 : decode cX55_isOld 10 = .ok (.getfield 111, 3) := by decide +kernel
theorem dX55_isOld_13 : decode cX55_isOld 13 = .ok (.ifCond .lt 16, 3) := by decide +kernel
theorem dX55_isOld_16 : decode cX55_isOld 16 = .ok (.aload_n 0, 1) := by decide +kernel
theorem dX55_isOld_17 : decode cX55_isOld 17 = .ok (.getfield 53, 3) := by decide +kernel
theorem dX55_isOld_20 : decode cX55_isOld 20 = .ok (.iload_n 1, 1) := by decide +kernel
theorem dX55_isOld_21 : decode cX55_isOld 21 = .ok (.iaload, 1) := by decide +kernel
theorem dX55_isOld_22 : decode cX55_isOld 22 = .ok (.aload_n 0, 1) := by decide +kernel
theorem dX55_isOld_23 : decode cX55_isOld 23 = .ok (.getfield 111, 3) := by decide +kernel
theorem dX55_isOld_26 : decode cX55_isOld 26 = .ok (.if_icmp .eq 7, 3) := by decide +kernel
theorem dX55_isOld_29 : decode cX55_isOld 29 = .ok (.iconst 1, 1) := by decide +kernel
theorem dX55_isOld_30 : decode cX55_isOld 30 = .ok (.goto 4, 3) := by decide +kernel
theorem dX55_isOld_33 : decode cX55_isOld 33 = .ok (.iconst 0, 1) := by decide +kernel
theorem dX55_isOld_34 : decode cX55_isOld 34 = .ok (.ireturn, 1) := by decide +kernel
abbrev cX55_give : ByteArray := prog_88_method_27_code
def yX55_give : MethodName := ⟨RX55, "give", "(II)V"⟩
theorem dX55_give_0 : decode cX55_give 0 = .ok (.iload_n 2, 1) := by decide +kernel
theorem dX55_give_1 : decode cX55_give 1 = .ok (.ifCond .ge 16, 3) := by decide +kernel
theorem dX55_give_4 : decode cX55_give 4 = .ok (.aload_n 0, 1) := by decide +kernel
theorem dX55_give_5 : decode cX55_give 5 = .ok (.getfield 32, 3) := by decide +kernel
theorem dX55_give_8 : decode cX55_give 8 = .ok (.iload_n 1, 1) := by decide +kernel
theorem dX55_give_9 : decode cX55_give 9 = .ok (.dup2, 1) := by decide +kernel
theorem dX55_give_10 : decode cX55_give 10 = .ok (.iaload, 1) := by decide +kernel
theorem dX55_give_11 : decode cX55_give 11 = .ok (.iconst 1, 1) := by decide +kernel
theorem dX55_give_12 : decode cX55_give 12 = .ok (.iadd, 1) := by decide +kernel
theorem dX55_give_13 : decode cX55_give 13 = .ok (.iastore, 1) := by decide +kernel
theorem dX55_give_14 : decode cX55_give 14 = .ok (.goto 39, 3) := by decide +kernel
theorem dX55_give_17 : decode cX55_give 17 = .ok (.aload_n 0, 1) := by decide +kernel
theorem dX55_give_18 : decode cX55_give 18 = .ok (.getfield 29, 3) := by decide +kernel
theorem dX55_give_21 : decode cX55_give 21 = .ok (.iload_n 1, 1) := by decide +kernel
theorem dX55_give_22 : decode cX55_give 22 = .ok (.iaload, 1) := by decide +kernel
theorem dX55_give_23 : decode cX55_give 23 = .ok (.ifCond .ge 30, 3) := by decide +kernel
theorem dX55_give_26 : decode cX55_give 26 = .ok (.aload_n 0, 1) := by decide +kernel
theorem dX55_give_27 : decode cX55_give 27 = .ok (.getfield 29, 3) := by decide +kernel
theorem dX55_give_30 : decode cX55_give 30 = .ok (.iload_n 1, 1) := by decide +kernel
theorem dX55_give_31 : decode cX55_give 31 = .ok (.iload_n 2, 1) := by decide +kernel
theorem dX55_give_32 : decode cX55_give 32 = .ok (.iastore, 1) := by decide +kernel
theorem dX55_give_33 : decode cX55_give 33 = .ok (.aload_n 0, 1) := by decide +kernel
theorem dX55_give_34 : decode cX55_give 34 = .ok (.getfield 53, 3) := by decide +kernel
theorem dX55_give_37 : decode cX55_give 37 = .ok (.iload_n 1, 1) := by decide +kernel
theorem dX55_give_38 : decode cX55_give 38 = .ok (.aload_n 0, 1) := by decide +kernel
theorem dX55_give_39 : decode cX55_give 39 = .ok (.getfield 111, 3) := by decide +kernel
theorem dX55_give_42 : decode cX55_give 42 = .ok (.iastore, 1) := by decide +kernel
theorem dX55_give_43 : decode cX55_give 43 = .ok (.aload_n 0, 1) := by decide +kernel
theorem dX55_give_44 : decode cX55_give 44 = .ok (.dup, 1) := by decide +kernel
theorem dX55_give_45 : decode cX55_give 45 = .ok (.getfield 130, 3) := by decide +kernel
theorem dX55_give_48 : decode cX55_give 48 = .ok (.iconst 1, 1) := by decide +kernel
theorem dX55_give_49 : decode cX55_give 49 = .ok (.iadd, 1) := by decide +kernel
theorem dX55_give_50 : decode cX55_give 50 = .ok (.putfield 130, 3) := by decide +kernel
theorem dX55_give_53 : decode cX55_give 53 = .ok (.return_, 1) := by decide +kernel
abbrev cX55_rule : ByteArray := prog_88_method_10_code
def yX55_rule : MethodName := ⟨RX55, "rule", "(III)I"⟩
theorem dX55_rule_0 : decode cX55_rule 0 = .ok (.iload_n 1, 1) := by decide +kernel
theorem dX55_rule_1 : decode cX55_rule 1 = .ok (.invokestatic 68, 3) := by decide +kernel
theorem dX55_rule_4 : decode cX55_rule 4 = .ok (.ifCond .eq 17, 3) := by decide +kernel
theorem dX55_rule_7 : decode cX55_rule 7 = .ok (.iload_n 2, 1) := by decide +kernel
theorem dX55_rule_8 : decode cX55_rule 8 = .ok (.invokestatic 91, 3) := by decide +kernel
theorem dX55_rule_11 : decode cX55_rule 11 = .ok (.ifCond .eq 10, 3) := by decide +kernel
theorem dX55_rule_14 : decode cX55_rule 14 = .ok (.iload_n 3, 1) := by decide +kernel
theorem dX55_rule_15 : decode cX55_rule 15 = .ok (.invokestatic 91, 3) := by decide +kernel
theorem dX55_rule_18 : decode cX55_rule 18 = .ok (.ifCond .ne 5, 3) := by decide +kernel
theorem dX55_rule_21 : decode cX55_rule 21 = .ok (.iconst (-1), 1) := by decide +kernel
theorem dX55_rule_22 : decode cX55_rule 22 = .ok (.ireturn, 1) := by decide +kernel
theorem dX55_rule_23 : decode cX55_rule 23 = .ok (.aload_n 0, 1) := by decide +kernel
theorem dX55_rule_24 : decode cX55_rule 24 = .ok (.getfield 87, 3) := by decide +kernel
theorem dX55_rule_27 : decode cX55_rule 27 = .ok (.bipush 16, 2) := by decide +kernel
theorem dX55_rule_29 : decode cX55_rule 29 = .ok (.if_icmp .ne 6, 3) := by decide +kernel
theorem dX55_rule_32 : decode cX55_rule 32 = .ok (.bipush (-3), 2) := by decide +kernel
theorem dX55_rule_34 : decode cX55_rule 34 = .ok (.ireturn, 1) := by decide +kernel
theorem dX55_rule_35 : decode cX55_rule 35 = .ok (.aload_n 0, 1) := by decide +kernel
theorem dX55_rule_36 : decode cX55_rule 36 = .ok (.getfield 13, 3) := by decide +kernel
theorem dX55_rule_39 : decode cX55_rule 39 = .ok (.iconst 3, 1) := by decide +kernel
theorem dX55_rule_40 : decode cX55_rule 40 = .ok (.aload_n 0, 1) := by decide +kernel
theorem dX55_rule_41 : decode cX55_rule 41 = .ok (.getfield 87, 3) := by decide +kernel
theorem dX55_rule_44 : decode cX55_rule 44 = .ok (.imul, 1) := by decide +kernel
theorem dX55_rule_45 : decode cX55_rule 45 = .ok (.iload_n 1, 1) := by decide +kernel
theorem dX55_rule_46 : decode cX55_rule 46 = .ok (.iastore, 1) := by decide +kernel
theorem dX55_rule_47 : decode cX55_rule 47 = .ok (.aload_n 0, 1) := by decide +kernel
theorem dX55_rule_48 : decode cX55_rule 48 = .ok (.getfield 13, 3) := by decide +kernel
theorem dX55_rule_51 : decode cX55_rule 51 = .ok (.iconst 3, 1) := by decide +kernel
theorem dX55_rule_52 : decode cX55_rule 52 = .ok (.aload_n 0, 1) := by decide +kernel
theorem dX55_rule_53 : decode cX55_rule 53 = .ok (.getfield 87, 3) := by decide +kernel
theorem dX55_rule_56 : decode cX55_rule 56 = .ok (.imul, 1) := by decide +kernel
theorem dX55_rule_57 : decode cX55_rule 57 = .ok (.iconst 1, 1) := by decide +kernel
theorem dX55_rule_58 : decode cX55_rule 58 = .ok (.iadd, 1) := by decide +kernel
theorem dX55_rule_59 : decode cX55_rule 59 = .ok (.iload_n 2, 1) := by decide +kernel
theorem dX55_rule_60 : decode cX55_rule 60 = .ok (.iastore, 1) := by decide +kernel
theorem dX55_rule_61 : decode cX55_rule 61 = .ok (.aload_n 0, 1) := by decide +kernel
theorem dX55_rule_62 : decode cX55_rule 62 = .ok (.getfield 13, 3) := by decide +kernel
theorem dX55_rule_65 : decode cX55_rule 65 = .ok (.iconst 3, 1) := by decide +kernel
theorem dX55_rule_66 : decode cX55_rule 66 = .ok (.aload_n 0, 1) := by decide +kernel
theorem dX55_rule_67 : decode cX55_rule 67 = .ok (.getfield 87, 3) := by decide +kernel
theorem dX55_rule_70 : decode cX55_rule 70 = .ok (.imul, 1) := by decide +kernel
theorem dX55_rule_71 : decode cX55_rule 71 = .ok (.iconst 2, 1) := by decide +kernel
theorem dX55_rule_72 : decode cX55_rule 72 = .ok (.iadd, 1) := by decide +kernel
theorem dX55_rule_73 : decode cX55_rule 73 = .ok (.iload_n 3, 1) := by decide +kernel
theorem dX55_rule_74 : decode cX55_rule 74 = .ok (.iastore, 1) := by decide +kernel
theorem dX55_rule_75 : decode cX55_rule 75 = .ok (.aload_n 0, 1) := by decide +kernel
theorem dX55_rule_76 : decode cX55_rule 76 = .ok (.getfield 17, 3) := by decide +kernel
theorem dX55_rule_79 : decode cX55_rule 79 = .ok (.aload_n 0, 1) := by decide +kernel
theorem dX55_rule_80 : decode cX55_rule 80 = .ok (.getfield 87, 3) := by decide +kernel
theorem dX55_rule_83 : decode cX55_rule 83 = .ok (.iconst (-1), 1) := by decide +kernel
theorem dX55_rule_84 : decode cX55_rule 84 = .ok (.iastore, 1) := by decide +kernel
theorem dX55_rule_85 : decode cX55_rule 85 = .ok (.aload_n 0, 1) := by decide +kernel
theorem dX55_rule_86 : decode cX55_rule 86 = .ok (.getfield 20, 3) := by decide +kernel
theorem dX55_rule_89 : decode cX55_rule 89 = .ok (.aload_n 0, 1) := by decide +kernel
theorem dX55_rule_90 : decode cX55_rule 90 = .ok (.getfield 87, 3) := by decide +kernel
theorem dX55_rule_93 : decode cX55_rule 93 = .ok (.iconst 0, 1) := by decide +kernel
theorem dX55_rule_94 : decode cX55_rule 94 = .ok (.iastore, 1) := by decide +kernel
theorem dX55_rule_95 : decode cX55_rule 95 = .ok (.aload_n 0, 1) := by decide +kernel
theorem dX55_rule_96 : decode cX55_rule 96 = .ok (.getfield 23, 3) := by decide +kernel
theorem dX55_rule_99 : decode cX55_rule 99 = .ok (.aload_n 0, 1) := by decide +kernel
theorem dX55_rule_100 : decode cX55_rule 100 = .ok (.getfield 87, 3) := by decide +kernel
theorem dX55_rule_103 : decode cX55_rule 103 = .ok (.iconst 0, 1) := by decide +kernel
theorem dX55_rule_104 : decode cX55_rule 104 = .ok (.iastore, 1) := by decide +kernel
theorem dX55_rule_105 : decode cX55_rule 105 = .ok (.aload_n 0, 1) := by decide +kernel
theorem dX55_rule_106 : decode cX55_rule 106 = .ok (.dup, 1) := by decide +kernel
theorem dX55_rule_107 : decode cX55_rule 107 = .ok (.getfield 87, 3) := by decide +kernel
theorem dX55_rule_110 : decode cX55_rule 110 = .ok (.iconst 1, 1) := by decide +kernel
theorem dX55_rule_111 : decode cX55_rule 111 = .ok (.iadd, 1) := by decide +kernel
theorem dX55_rule_112 : decode cX55_rule 112 = .ok (.putfield 87, 3) := by decide +kernel
theorem dX55_rule_115 : decode cX55_rule 115 = .ok (.aload_n 0, 1) := by decide +kernel
theorem dX55_rule_116 : decode cX55_rule 116 = .ok (.iconst 0, 1) := by decide +kernel
theorem dX55_rule_117 : decode cX55_rule 117 = .ok (.putfield 83, 3) := by decide +kernel
theorem dX55_rule_120 : decode cX55_rule 120 = .ok (.aload_n 0, 1) := by decide +kernel
theorem dX55_rule_121 : decode cX55_rule 121 = .ok (.getfield 87, 3) := by decide +kernel
theorem dX55_rule_124 : decode cX55_rule 124 = .ok (.iconst 1, 1) := by decide +kernel
theorem dX55_rule_125 : decode cX55_rule 125 = .ok (.isub, 1) := by decide +kernel
theorem dX55_rule_126 : decode cX55_rule 126 = .ok (.ireturn, 1) := by decide +kernel
abbrev cX55_isItem : ByteArray := prog_88_method_4_code
def yX55_isItem : MethodName := ⟨RX55, "isItem", "(I)Z"⟩
theorem dX55_isItem_0 : decode cX55_isItem 0 = .ok (.iload_n 0, 1) := by decide +kernel
theorem dX55_isItem_1 : decode cX55_isItem 1 = .ok (.bipush (-6), 2) := by decide +kernel
theorem dX55_isItem_3 : decode cX55_isItem 3 = .ok (.if_icmp .lt 13, 3) := by decide +kernel
theorem dX55_isItem_6 : decode cX55_isItem 6 = .ok (.iload_n 0, 1) := by decide +kernel
theorem dX55_isItem_7 : decode cX55_isItem 7 = .ok (.bipush 32, 2) := by decide +kernel
theorem dX55_isItem_9 : decode cX55_isItem 9 = .ok (.if_icmp .ge 7, 3) := by decide +kernel
theorem dX55_isItem_12 : decode cX55_isItem 12 = .ok (.iconst 1, 1) := by decide +kernel
theorem dX55_isItem_13 : decode cX55_isItem 13 = .ok (.goto 4, 3) := by decide +kernel
theorem dX55_isItem_16 : decode cX55_isItem 16 = .ok (.iconst 0, 1) := by decide +kernel
theorem dX55_isItem_17 : decode cX55_isItem 17 = .ok (.ireturn, 1) := by decide +kernel
abbrev cX55_body : ByteArray := prog_88_method_12_code
def yX55_body : MethodName := ⟨RX55, "body", "(IIIIZ)I"⟩
theorem dX55_body_0 : decode cX55_body 0 = .ok (.aload_n 0, 1) := by decide +kernel
theorem dX55_body_1 : decode cX55_body 1 = .ok (.iload_n 1, 1) := by decide +kernel
theorem dX55_body_2 : decode cX55_body 2 = .ok (.invokevirtual 94, 3) := by decide +kernel
theorem dX55_body_5 : decode cX55_body 5 = .ok (.ifCond .eq 47, 3) := by decide +kernel
theorem dX55_body_8 : decode cX55_body 8 = .ok (.iload_n 2, 1) := by decide +kernel
theorem dX55_body_9 : decode cX55_body 9 = .ok (.invokestatic 68, 3) := by decide +kernel
theorem dX55_body_12 : decode cX55_body 12 = .ok (.ifCond .eq 40, 3) := by decide +kernel
theorem dX55_body_15 : decode cX55_body 15 = .ok (.iload_n 3, 1) := by decide +kernel
theorem dX55_body_16 : decode cX55_body 16 = .ok (.invokestatic 91, 3) := by decide +kernel
theorem dX55_body_19 : decode cX55_body 19 = .ok (.ifCond .eq 33, 3) := by decide +kernel
theorem dX55_body_22 : decode cX55_body 22 = .ok (.iload 4, 2) := by decide +kernel
theorem dX55_body_24 : decode cX55_body 24 = .ok (.invokestatic 91, 3) := by decide +kernel
theorem dX55_body_27 : decode cX55_body 27 = .ok (.ifCond .eq 25, 3) := by decide +kernel
theorem dX55_body_30 : decode cX55_body 30 = .ok (.aload_n 0, 1) := by decide +kernel
theorem dX55_body_31 : decode cX55_body 31 = .ok (.iload_n 1, 1) := by decide +kernel
theorem dX55_body_32 : decode cX55_body 32 = .ok (.iload 5, 2) := by decide +kernel
theorem dX55_body_34 : decode cX55_body 34 = .ok (.ifCond .eq 7, 3) := by decide +kernel
theorem dX55_body_37 : decode cX55_body 37 = .ok (.iconst 1, 1) := by decide +kernel
theorem dX55_body_38 : decode cX55_body 38 = .ok (.goto 4, 3) := by decide +kernel
theorem dX55_body_41 : decode cX55_body 41 = .ok (.iconst 0, 1) := by decide +kernel
theorem dX55_body_42 : decode cX55_body 42 = .ok (.iload_n 2, 1) := by decide +kernel
theorem dX55_body_43 : decode cX55_body 43 = .ok (.iload_n 3, 1) := by decide +kernel
theorem dX55_body_44 : decode cX55_body 44 = .ok (.iload 4, 2) := by decide +kernel
theorem dX55_body_46 : decode cX55_body 46 = .ok (.invokevirtual 97, 3) := by decide +kernel
theorem dX55_body_49 : decode cX55_body 49 = .ok (.goto 4, 3) := by decide +kernel
theorem dX55_body_52 : decode cX55_body 52 = .ok (.iconst (-1), 1) := by decide +kernel
theorem dX55_body_53 : decode cX55_body 53 = .ok (.ireturn, 1) := by decide +kernel
abbrev cX55_isRule : ByteArray := prog_88_method_9_code
def yX55_isRule : MethodName := ⟨RX55, "isRule", "(I)Z"⟩
theorem dX55_isRule_0 : decode cX55_isRule 0 = .ok (.iload_n 1, 1) := by decide +kernel
theorem dX55_isRule_1 : decode cX55_isRule 1 = .ok (.ifCond .lt 15, 3) := by decide +kernel
theorem dX55_isRule_4 : decode cX55_isRule 4 = .ok (.iload_n 1, 1) := by decide +kernel
theorem dX55_isRule_5 : decode cX55_isRule 5 = .ok (.aload_n 0, 1) := by decide +kernel
theorem dX55_isRule_6 : decode cX55_isRule 6 = .ok (.getfield 87, 3) := by decide +kernel
theorem dX55_isRule_9 : decode cX55_isRule 9 = .ok (.if_icmp .ge 7, 3) := by decide +kernel
theorem dX55_isRule_12 : decode cX55_isRule 12 = .ok (.iconst 1, 1) := by decide +kernel
theorem dX55_isRule_13 : decode cX55_isRule 13 = .ok (.goto 4, 3) := by decide +kernel
theorem dX55_isRule_16 : decode cX55_isRule 16 = .ok (.iconst 0, 1) := by decide +kernel
theorem dX55_isRule_17 : decode cX55_isRule 17 = .ok (.ireturn, 1) := by decide +kernel
abbrev cX55_part : ByteArray := prog_88_method_11_code
def yX55_part : MethodName := ⟨RX55, "part", "(IIIII)I"⟩
theorem dX55_part_0 : decode cX55_part 0 = .ok (.aload_n 0, 1) := by decide +kernel
theorem dX55_part_1 : decode cX55_part 1 = .ok (.getfield 23, 3) := by decide +kernel
theorem dX55_part_4 : decode cX55_part 4 = .ok (.iload_n 1, 1) := by decide +kernel
theorem dX55_part_5 : decode cX55_part 5 = .ok (.iaload, 1) := by decide +kernel
theorem dX55_part_6 : decode cX55_part 6 = .ok (.iconst 5, 1) := by decide +kernel
theorem dX55_part_7 : decode cX55_part 7 = .ok (.if_icmp .ne 6, 3) := by decide +kernel
theorem dX55_part_10 : decode cX55_part 10 = .ok (.bipush (-3), 2) := by decide +kernel
theorem dX55_part_12 : decode cX55_part 12 = .ok (.ireturn, 1) := by decide +kernel
theorem dX55_part_13 : decode cX55_part 13 = .ok (.bipush 20, 2) := by decide +kernel
theorem dX55_part_15 : decode cX55_part 15 = .ok (.iload_n 1, 1) := by decide +kernel
theorem dX55_part_16 : decode cX55_part 16 = .ok (.imul, 1) := by decide +kernel
theorem dX55_part_17 : decode cX55_part 17 = .ok (.iconst 4, 1) := by decide +kernel
theorem dX55_part_18 : decode cX55_part 18 = .ok (.aload_n 0, 1) := by decide +kernel
theorem dX55_part_19 : decode cX55_part 19 = .ok (.getfield 23, 3) := by decide +kernel
theorem dX55_part_22 : decode cX55_part 22 = .ok (.iload_n 1, 1) := by decide +kernel
theorem dX55_part_23 : decode cX55_part 23 = .ok (.iaload, 1) := by decide +kernel
theorem dX55_part_24 : decode cX55_part 24 = .ok (.imul, 1) := by decide +kernel
theorem dX55_part_25 : decode cX55_part 25 = .ok (.iadd, 1) := by decide +kernel
theorem dX55_part_26 : decode cX55_part 26 = .ok (.istore 6, 2) := by decide +kernel
theorem dX55_part_28 : decode cX55_part 28 = .ok (.aload_n 0, 1) := by decide +kernel
theorem dX55_part_29 : decode cX55_part 29 = .ok (.getfield 26, 3) := by decide +kernel
theorem dX55_part_32 : decode cX55_part 32 = .ok (.iload 6, 2) := by decide +kernel
theorem dX55_part_34 : decode cX55_part 34 = .ok (.iload_n 2, 1) := by decide +kernel
theorem dX55_part_35 : decode cX55_part 35 = .ok (.iastore, 1) := by decide +kernel
theorem dX55_part_36 : decode cX55_part 36 = .ok (.aload_n 0, 1) := by decide +kernel
theorem dX55_part_37 : decode cX55_part 37 = .ok (.getfield 26, 3) := by decide +kernel
theorem dX55_part_40 : decode cX55_part 40 = .ok (.iload 6, 2) := by decide +kernel
theorem dX55_part_42 : decode cX55_part 42 = .ok (.iconst 1, 1) := by decide +kernel
theorem dX55_part_43 : decode cX55_part 43 = .ok (.iadd, 1) := by decide +kernel
theorem dX55_part_44 : decode cX55_part 44 = .ok (.iload_n 3, 1) := by decide +kernel
theorem dX55_part_45 : decode cX55_part 45 = .ok (.iastore, 1) := by decide +kernel
theorem dX55_part_46 : decode cX55_part 46 = .ok (.aload_n 0, 1) := by decide +kernel
theorem dX55_part_47 : decode cX55_part 47 = .ok (.getfield 26, 3) := by decide +kernel
theorem dX55_part_50 : decode cX55_part 50 = .ok (.iload 6, 2) := by decide +kernel
theorem dX55_part_52 : decode cX55_part 52 = .ok (.iconst 2, 1) := by decide +kernel
theorem dX55_part_53 : decode cX55_part 53 = .ok (.iadd, 1) := by decide +kernel
theorem dX55_part_54 : decode cX55_part 54 = .ok (.iload 4, 2) := by decide +kernel
theorem dX55_part_56 : decode cX55_part 56 = .ok (.iastore, 1) := by decide +kernel
theorem dX55_part_57 : decode cX55_part 57 = .ok (.aload_n 0, 1) := by decide +kernel
theorem dX55_part_58 : decode cX55_part 58 = .ok (.getfield 26, 3) := by decide +kernel
theorem dX55_part_61 : decode cX55_part 61 = .ok (.iload 6, 2) := by decide +kernel
theorem dX55_part_63 : decode cX55_part 63 = .ok (.iconst 3, 1) := by decide +kernel
theorem dX55_part_64 : decode cX55_part 64 = .ok (.iadd, 1) := by decide +kernel
theorem dX55_part_65 : decode cX55_part 65 = .ok (.iload 5, 2) := by decide +kernel
theorem dX55_part_67 : decode cX55_part 67 = .ok (.iastore, 1) := by decide +kernel
theorem dX55_part_68 : decode cX55_part 68 = .ok (.aload_n 0, 1) := by decide +kernel
theorem dX55_part_69 : decode cX55_part 69 = .ok (.getfield 23, 3) := by decide +kernel
theorem dX55_part_72 : decode cX55_part 72 = .ok (.iload_n 1, 1) := by decide +kernel
theorem dX55_part_73 : decode cX55_part 73 = .ok (.dup2, 1) := by decide +kernel
theorem dX55_part_74 : decode cX55_part 74 = .ok (.iaload, 1) := by decide +kernel
theorem dX55_part_75 : decode cX55_part 75 = .ok (.iconst 1, 1) := by decide +kernel
theorem dX55_part_76 : decode cX55_part 76 = .ok (.iadd, 1) := by decide +kernel
theorem dX55_part_77 : decode cX55_part 77 = .ok (.iastore, 1) := by decide +kernel
theorem dX55_part_78 : decode cX55_part 78 = .ok (.aload_n 0, 1) := by decide +kernel
theorem dX55_part_79 : decode cX55_part 79 = .ok (.iconst 0, 1) := by decide +kernel
theorem dX55_part_80 : decode cX55_part 80 = .ok (.putfield 83, 3) := by decide +kernel
theorem dX55_part_83 : decode cX55_part 83 = .ok (.aload_n 0, 1) := by decide +kernel
theorem dX55_part_84 : decode cX55_part 84 = .ok (.getfield 23, 3) := by decide +kernel
theorem dX55_part_87 : decode cX55_part 87 = .ok (.iload_n 1, 1) := by decide +kernel
theorem dX55_part_88 : decode cX55_part 88 = .ok (.iaload, 1) := by decide +kernel
theorem dX55_part_89 : decode cX55_part 89 = .ok (.ireturn, 1) := by decide +kernel
abbrev cX55_filter : ByteArray := prog_88_method_13_code
def yX55_filter : MethodName := ⟨RX55, "filter", "(IIII)I"⟩
theorem dX55_filter_0 : decode cX55_filter 0 = .ok (.aload_n 0, 1) := by decide +kernel
theorem dX55_filter_1 : decode cX55_filter 1 = .ok (.iload_n 1, 1) := by decide +kernel
theorem dX55_filter_2 : decode cX55_filter 2 = .ok (.invokevirtual 94, 3) := by decide +kernel
theorem dX55_filter_5 : decode cX55_filter 5 = .ok (.ifCond .eq 40, 3) := by decide +kernel
theorem dX55_filter_8 : decode cX55_filter 8 = .ok (.iload_n 2, 1) := by decide +kernel
theorem dX55_filter_9 : decode cX55_filter 9 = .ok (.ifCond .lt 36, 3) := by decide +kernel
theorem dX55_filter_12 : decode cX55_filter 12 = .ok (.iload_n 2, 1) := by decide +kernel
theorem dX55_filter_13 : decode cX55_filter 13 = .ok (.iconst 3, 1) := by decide +kernel
theorem dX55_filter_14 : decode cX55_filter 14 = .ok (.if_icmp .ge 31, 3) := by decide +kernel
theorem dX55_filter_17 : decode cX55_filter 17 = .ok (.iload_n 3, 1) := by decide +kernel
theorem dX55_filter_18 : decode cX55_filter 18 = .ok (.invokestatic 91, 3) := by decide +kernel
theorem dX55_filter_21 : decode cX55_filter 21 = .ok (.ifCond .eq 24, 3) := by decide +kernel
theorem dX55_filter_24 : decode cX55_filter 24 = .ok (.iload 4, 2) := by decide +kernel
theorem dX55_filter_26 : decode cX55_filter 26 = .ok (.invokestatic 91, 3) := by decide +kernel
theorem dX55_filter_29 : decode cX55_filter 29 = .ok (.ifCond .eq 16, 3) := by decide +kernel
theorem dX55_filter_32 : decode cX55_filter 32 = .ok (.aload_n 0, 1) := by decide +kernel
theorem dX55_filter_33 : decode cX55_filter 33 = .ok (.iload_n 1, 1) := by decide +kernel
theorem dX55_filter_34 : decode cX55_filter 34 = .ok (.iconst 2, 1) := by decide +kernel
theorem dX55_filter_35 : decode cX55_filter 35 = .ok (.iload_n 2, 1) := by decide +kernel
theorem dX55_filter_36 : decode cX55_filter 36 = .ok (.iload_n 3, 1) := by decide +kernel
theorem dX55_filter_37 : decode cX55_filter 37 = .ok (.iload 4, 2) := by decide +kernel
theorem dX55_filter_39 : decode cX55_filter 39 = .ok (.invokevirtual 97, 3) := by decide +kernel
theorem dX55_filter_42 : decode cX55_filter 42 = .ok (.goto 4, 3) := by decide +kernel
theorem dX55_filter_45 : decode cX55_filter 45 = .ok (.iconst (-1), 1) := by decide +kernel
theorem dX55_filter_46 : decode cX55_filter 46 = .ok (.ireturn, 1) := by decide +kernel
abbrev cX55_aggregate : ByteArray := prog_88_method_14_code
def yX55_aggregate : MethodName := ⟨RX55, "aggregate", "(III)I"⟩
theorem dX55_aggregate_0 : decode cX55_aggregate 0 = .ok (.aload_n 0, 1) := by decide +kernel
theorem dX55_aggregate_1 : decode cX55_aggregate 1 = .ok (.iload_n 1, 1) := by decide +kernel
theorem dX55_aggregate_2 : decode cX55_aggregate 2 = .ok (.invokevirtual 94, 3) := by decide +kernel
theorem dX55_aggregate_5 : decode cX55_aggregate 5 = .ok (.ifCond .eq 28, 3) := by decide +kernel
theorem dX55_aggregate_8 : decode cX55_aggregate 8 = .ok (.iload_n 2, 1) := by decide +kernel
theorem dX55_aggregate_9 : decode cX55_aggregate 9 = .ok (.iconst (-1), 1) := by decide +kernel
theorem dX55_aggregate_10 : decode cX55_aggregate 10 = .ok (.if_icmp .lt 23, 3) := by decide +kernel
theorem dX55_aggregate_13 : decode cX55_aggregate 13 = .ok (.iload_n 2, 1) := by decide +kernel
theorem dX55_aggregate_14 : decode cX55_aggregate 14 = .ok (.iconst 3, 1) := by decide +kernel
theorem dX55_aggregate_15 : decode cX55_aggregate 15 = .ok (.if_icmp .gt 18, 3) := by decide +kernel
theorem dX55_aggregate_18 : decode cX55_aggregate 18 = .ok (.iload_n 2, 1) := by decide +kernel
theorem dX55_aggregate_19 : decode cX55_aggregate 19 = .ok (.ifCond .lt 16, 3) := by decide +kernel
theorem dX55_aggregate_22 : decode cX55_aggregate 22 = .ok (.iload_n 3, 1) := by decide +kernel
theorem dX55_aggregate_23 : decode cX55_aggregate 23 = .ok (.iconst (-1), 1) := by decide +kernel
theorem dX55_aggregate_24 : decode cX55_aggregate 24 = .ok (.if_icmp .gt 9, 3) := by decide +kernel
theorem dX55_aggregate_27 : decode cX55_aggregate 27 = .ok (.iload_n 3, 1) := by decide +kernel
theorem dX55_aggregate_28 : decode cX55_aggregate 28 = .ok (.bipush (-6), 2) := by decide +kernel
theorem dX55_aggregate_30 : decode cX55_aggregate 30 = .ok (.if_icmp .ge 5, 3) := by decide +kernel
theorem dX55_aggregate_33 : decode cX55_aggregate 33 = .ok (.iconst (-1), 1) := by decide +kernel
theorem dX55_aggregate_34 : decode cX55_aggregate 34 = .ok (.ireturn, 1) := by decide +kernel
theorem dX55_aggregate_35 : decode cX55_aggregate 35 = .ok (.aload_n 0, 1) := by decide +kernel
theorem dX55_aggregate_36 : decode cX55_aggregate 36 = .ok (.getfield 17, 3) := by decide +kernel
theorem dX55_aggregate_39 : decode cX55_aggregate 39 = .ok (.iload_n 1, 1) := by decide +kernel
theorem dX55_aggregate_40 : decode cX55_aggregate 40 = .ok (.iload_n 2, 1) := by decide +kernel
theorem dX55_aggregate_41 : decode cX55_aggregate 41 = .ok (.iastore, 1) := by decide +kernel
theorem dX55_aggregate_42 : decode cX55_aggregate 42 = .ok (.aload_n 0, 1) := by decide +kernel
theorem dX55_aggregate_43 : decode cX55_aggregate 43 = .ok (.getfield 20, 3) := by decide +kernel
theorem dX55_aggregate_46 : decode cX55_aggregate 46 = .ok (.iload_n 1, 1) := by decide +kernel
theorem dX55_aggregate_47 : decode cX55_aggregate 47 = .ok (.iload_n 3, 1) := by decide +kernel
theorem dX55_aggregate_48 : decode cX55_aggregate 48 = .ok (.iastore, 1) := by decide +kernel
theorem dX55_aggregate_49 : decode cX55_aggregate 49 = .ok (.aload_n 0, 1) := by decide +kernel
theorem dX55_aggregate_50 : decode cX55_aggregate 50 = .ok (.iconst 0, 1) := by decide +kernel
theorem dX55_aggregate_51 : decode cX55_aggregate 51 = .ok (.putfield 83, 3) := by decide +kernel
theorem dX55_aggregate_54 : decode cX55_aggregate 54 = .ok (.iconst 1, 1) := by decide +kernel
theorem dX55_aggregate_55 : decode cX55_aggregate 55 = .ok (.ireturn, 1) := by decide +kernel
abbrev cX55_drop : ByteArray := prog_88_method_15_code
def yX55_drop : MethodName := ⟨RX55, "drop", "(I)I"⟩
theorem dX55_drop_0 : decode cX55_drop 0 = .ok (.aload_n 0, 1) := by decide +kernel
theorem dX55_drop_1 : decode cX55_drop 1 = .ok (.iload_n 1, 1) := by decide +kernel
theorem dX55_drop_2 : decode cX55_drop 2 = .ok (.invokevirtual 94, 3) := by decide +kernel
theorem dX55_drop_5 : decode cX55_drop 5 = .ok (.ifCond .ne 5, 3) := by decide +kernel
theorem dX55_drop_8 : decode cX55_drop 8 = .ok (.iconst (-1), 1) := by decide +kernel
theorem dX55_drop_9 : decode cX55_drop 9 = .ok (.ireturn, 1) := by decide +kernel
theorem dX55_drop_10 : decode cX55_drop 10 = .ok (.aload_n 0, 1) := by decide +kernel
theorem dX55_drop_11 : decode cX55_drop 11 = .ok (.dup, 1) := by decide +kernel
theorem dX55_drop_12 : decode cX55_drop 12 = .ok (.getfield 87, 3) := by decide +kernel
theorem dX55_drop_15 : decode cX55_drop 15 = .ok (.iconst 1, 1) := by decide +kernel
theorem dX55_drop_16 : decode cX55_drop 16 = .ok (.isub, 1) := by decide +kernel
theorem dX55_drop_17 : decode cX55_drop 17 = .ok (.putfield 87, 3) := by decide +kernel
theorem dX55_drop_20 : decode cX55_drop 20 = .ok (.iload_n 1, 1) := by decide +kernel
theorem dX55_drop_21 : decode cX55_drop 21 = .ok (.istore_n 2, 1) := by decide +kernel
theorem dX55_drop_22 : decode cX55_drop 22 = .ok (.iload_n 2, 1) := by decide +kernel
theorem dX55_drop_23 : decode cX55_drop 23 = .ok (.aload_n 0, 1) := by decide +kernel
theorem dX55_drop_24 : decode cX55_drop 24 = .ok (.getfield 87, 3) := by decide +kernel
theorem dX55_drop_27 : decode cX55_drop 27 = .ok (.if_icmp .ge 125, 3) := by decide +kernel
theorem dX55_drop_30 : decode cX55_drop 30 = .ok (.iconst 0, 1) := by decide +kernel
theorem dX55_drop_31 : decode cX55_drop 31 = .ok (.istore_n 3, 1) := by decide +kernel
theorem dX55_drop_32 : decode cX55_drop 32 = .ok (.iload_n 3, 1) := by decide +kernel
theorem dX55_drop_33 : decode cX55_drop 33 = .ok (.iconst 3, 1) := by decide +kernel
theorem dX55_drop_34 : decode cX55_drop 34 = .ok (.if_icmp .ge 31, 3) := by decide +kernel
theorem dX55_drop_37 : decode cX55_drop 37 = .ok (.aload_n 0, 1) := by decide +kernel
theorem dX55_drop_38 : decode cX55_drop 38 = .ok (.getfield 13, 3) := by decide +kernel
theorem dX55_drop_41 : decode cX55_drop 41 = .ok (.iconst 3, 1) := by decide +kernel
theorem dX55_drop_42 : decode cX55_drop 42 = .ok (.iload_n 2, 1) := by decide +kernel
theorem dX55_drop_43 : decode cX55_drop 43 = .ok (.imul, 1) := by decide +kernel
theorem dX55_drop_44 : decode cX55_drop 44 = .ok (.iload_n 3, 1) := by decide +kernel
theorem dX55_drop_45 : decode cX55_drop 45 = .ok (.iadd, 1) := by decide +kernel
theorem dX55_drop_46 : decode cX55_drop 46 = .ok (.aload_n 0, 1) := by decide +kernel
theorem dX55_drop_47 : decode cX55_drop 47 = .ok (.getfield 13, 3) := by decide +kernel
theorem dX55_drop_50 : decode cX55_drop 50 = .ok (.iconst 3, 1) := by decide +kernel
theorem dX55_drop_51 : decode cX55_drop 51 = .ok (.iload_n 2, 1) := by decide +kernel
theorem dX55_drop_52 : decode cX55_drop 52 = .ok (.imul, 1) := by decide +kernel
theorem dX55_drop_53 : decode cX55_drop 53 = .ok (.iconst 3, 1) := by decide +kernel
theorem dX55_drop_54 : decode cX55_drop 54 = .ok (.iadd, 1) := by decide +kernel
theorem dX55_drop_55 : decode cX55_drop 55 = .ok (.iload_n 3, 1) := by decide +kernel
theorem dX55_drop_56 : decode cX55_drop 56 = .ok (.iadd, 1) := by decide +kernel
theorem dX55_drop_57 : decode cX55_drop 57 = .ok (.iaload, 1) := by decide +kernel
theorem dX55_drop_58 : decode cX55_drop 58 = .ok (.iastore, 1) := by decide +kernel
theorem dX55_drop_59 : decode cX55_drop 59 = .ok (.iinc 3 1, 3) := by decide +kernel
theorem dX55_drop_62 : decode cX55_drop 62 = .ok (.goto (-30), 3) := by decide +kernel
theorem dX55_drop_65 : decode cX55_drop 65 = .ok (.iconst 0, 1) := by decide +kernel
theorem dX55_drop_66 : decode cX55_drop 66 = .ok (.istore_n 3, 1) := by decide +kernel
theorem dX55_drop_67 : decode cX55_drop 67 = .ok (.iload_n 3, 1) := by decide +kernel
theorem dX55_drop_68 : decode cX55_drop 68 = .ok (.bipush 20, 2) := by decide +kernel
theorem dX55_drop_70 : decode cX55_drop 70 = .ok (.if_icmp .ge 34, 3) := by decide +kernel
theorem dX55_drop_73 : decode cX55_drop 73 = .ok (.aload_n 0, 1) := by decide +kernel
theorem dX55_drop_74 : decode cX55_drop 74 = .ok (.getfield 26, 3) := by decide +kernel
theorem dX55_drop_77 : decode cX55_drop 77 = .ok (.bipush 20, 2) := by decide +kernel
theorem dX55_drop_79 : decode cX55_drop 79 = .ok (.iload_n 2, 1) := by decide +kernel
theorem dX55_drop_80 : decode cX55_drop 80 = .ok (.imul, 1) := by decide +kernel
theorem dX55_drop_81 : decode cX55_drop 81 = .ok (.iload_n 3, 1) := by decide +kernel
theorem dX55_drop_82 : decode cX55_drop 82 = .ok (.iadd, 1) := by decide +kernel
theorem dX55_drop_83 : decode cX55_drop 83 = .ok (.aload_n 0, 1) := by decide +kernel
theorem dX55_drop_84 : decode cX55_drop 84 = .ok (.getfield 26, 3) := by decide +kernel
theorem dX55_drop_87 : decode cX55_drop 87 = .ok (.bipush 20, 2) := by decide +kernel
theorem dX55_drop_89 : decode cX55_drop 89 = .ok (.iload_n 2, 1) := by decide +kernel
theorem dX55_drop_90 : decode cX55_drop 90 = .ok (.imul, 1) := by decide +kernel
theorem dX55_drop_91 : decode cX55_drop 91 = .ok (.bipush 20, 2) := by decide +kernel
theorem dX55_drop_93 : decode cX55_drop 93 = .ok (.iadd, 1) := by decide +kernel
theorem dX55_drop_94 : decode cX55_drop 94 = .ok (.iload_n 3, 1) := by decide +kernel
theorem dX55_drop_95 : decode cX55_drop 95 = .ok (.iadd, 1) := by decide +kernel
theorem dX55_drop_96 : decode cX55_drop 96 = .ok (.iaload, 1) := by decide +kernel
theorem dX55_drop_97 : decode cX55_drop 97 = .ok (.iastore, 1) := by decide +kernel
theorem dX55_drop_98 : decode cX55_drop 98 = .ok (.iinc 3 1, 3) := by decide +kernel
theorem dX55_drop_101 : decode cX55_drop 101 = .ok (.goto (-34), 3) := by decide +kernel
theorem dX55_drop_104 : decode cX55_drop 104 = .ok (.aload_n 0, 1) := by decide +kernel
theorem dX55_drop_105 : decode cX55_drop 105 = .ok (.getfield 17, 3) := by decide +kernel
theorem dX55_drop_108 : decode cX55_drop 108 = .ok (.iload_n 2, 1) := by decide +kernel
theorem dX55_drop_109 : decode cX55_drop 109 = .ok (.aload_n 0, 1) := by decide +kernel
theorem dX55_drop_110 : decode cX55_drop 110 = .ok (.getfield 17, 3) := by decide +kernel
theorem dX55_drop_113 : decode cX55_drop 113 = .ok (.iload_n 2, 1) := by decide +kernel
theorem dX55_drop_114 : decode cX55_drop 114 = .ok (.iconst 1, 1) := by decide +kernel
theorem dX55_drop_115 : decode cX55_drop 115 = .ok (.iadd, 1) := by decide +kernel
theorem dX55_drop_116 : decode cX55_drop 116 = .ok (.iaload, 1) := by decide +kernel
theorem dX55_drop_117 : decode cX55_drop 117 = .ok (.iastore, 1) := by decide +kernel
theorem dX55_drop_118 : decode cX55_drop 118 = .ok (.aload_n 0, 1) := by decide +kernel
theorem dX55_drop_119 : decode cX55_drop 119 = .ok (.getfield 20, 3) := by decide +kernel
theorem dX55_drop_122 : decode cX55_drop 122 = .ok (.iload_n 2, 1) := by decide +kernel
theorem dX55_drop_123 : decode cX55_drop 123 = .ok (.aload_n 0, 1) := by decide +kernel
theorem dX55_drop_124 : decode cX55_drop 124 = .ok (.getfield 20, 3) := by decide +kernel
theorem dX55_drop_127 : decode cX55_drop 127 = .ok (.iload_n 2, 1) := by decide +kernel
theorem dX55_drop_128 : decode cX55_drop 128 = .ok (.iconst 1, 1) := by decide +kernel
theorem dX55_drop_129 : decode cX55_drop 129 = .ok (.iadd, 1) := by decide +kernel
theorem dX55_drop_130 : decode cX55_drop 130 = .ok (.iaload, 1) := by decide +kernel
theorem dX55_drop_131 : decode cX55_drop 131 = .ok (.iastore, 1) := by decide +kernel
theorem dX55_drop_132 : decode cX55_drop 132 = .ok (.aload_n 0, 1) := by decide +kernel
theorem dX55_drop_133 : decode cX55_drop 133 = .ok (.getfield 23, 3) := by decide +kernel
theorem dX55_drop_136 : decode cX55_drop 136 = .ok (.iload_n 2, 1) := by decide +kernel
theorem dX55_drop_137 : decode cX55_drop 137 = .ok (.aload_n 0, 1) := by decide +kernel
theorem dX55_drop_138 : decode cX55_drop 138 = .ok (.getfield 23, 3) := by decide +kernel
theorem dX55_drop_141 : decode cX55_drop 141 = .ok (.iload_n 2, 1) := by decide +kernel
theorem dX55_drop_142 : decode cX55_drop 142 = .ok (.iconst 1, 1) := by decide +kernel
theorem dX55_drop_143 : decode cX55_drop 143 = .ok (.iadd, 1) := by decide +kernel
theorem dX55_drop_144 : decode cX55_drop 144 = .ok (.iaload, 1) := by decide +kernel
theorem dX55_drop_145 : decode cX55_drop 145 = .ok (.iastore, 1) := by decide +kernel
theorem dX55_drop_146 : decode cX55_drop 146 = .ok (.iinc 2 1, 3) := by decide +kernel
theorem dX55_drop_149 : decode cX55_drop 149 = .ok (.goto (-127), 3) := by decide +kernel
theorem dX55_drop_152 : decode cX55_drop 152 = .ok (.aload_n 0, 1) := by decide +kernel
theorem dX55_drop_153 : decode cX55_drop 153 = .ok (.iconst 0, 1) := by decide +kernel
theorem dX55_drop_154 : decode cX55_drop 154 = .ok (.putfield 83, 3) := by decide +kernel
theorem dX55_drop_157 : decode cX55_drop 157 = .ok (.aload_n 0, 1) := by decide +kernel
theorem dX55_drop_158 : decode cX55_drop 158 = .ok (.getfield 87, 3) := by decide +kernel
theorem dX55_drop_161 : decode cX55_drop 161 = .ok (.ireturn, 1) := by decide +kernel
abbrev cX55_safe : ByteArray := prog_88_method_18_code
def yX55_safe : MethodName := ⟨RX55, "safe", "(I)I"⟩
theorem dX55_safe_0 : decode cX55_safe 0 = .ok (.aload_n 0, 1) := by decide +kernel
theorem dX55_safe_1 : decode cX55_safe 1 = .ok (.iload_n 1, 1) := by decide +kernel
theorem dX55_safe_2 : decode cX55_safe 2 = .ok (.invokevirtual 94, 3) := by decide +kernel
theorem dX55_safe_5 : decode cX55_safe 5 = .ok (.ifCond .eq 19, 3) := by decide +kernel
theorem dX55_safe_8 : decode cX55_safe 8 = .ok (.aload_n 0, 1) := by decide +kernel
theorem dX55_safe_9 : decode cX55_safe 9 = .ok (.iload_n 1, 1) := by decide +kernel
theorem dX55_safe_10 : decode cX55_safe 10 = .ok (.invokevirtual 105, 3) := by decide +kernel
theorem dX55_safe_13 : decode cX55_safe 13 = .ok (.ifCond .eq 7, 3) := by decide +kernel
theorem dX55_safe_16 : decode cX55_safe 16 = .ok (.iconst 1, 1) := by decide +kernel
theorem dX55_safe_17 : decode cX55_safe 17 = .ok (.goto 8, 3) := by decide +kernel
theorem dX55_safe_20 : decode cX55_safe 20 = .ok (.iconst 0, 1) := by decide +kernel
theorem dX55_safe_21 : decode cX55_safe 21 = .ok (.goto 4, 3) := by decide +kernel
theorem dX55_safe_24 : decode cX55_safe 24 = .ok (.iconst (-1), 1) := by decide +kernel
theorem dX55_safe_25 : decode cX55_safe 25 = .ok (.ireturn, 1) := by decide +kernel
abbrev cX55_run : ByteArray := prog_88_method_32_code
def yX55_run : MethodName := ⟨RX55, "run", "()I"⟩
theorem dX55_run_0 : decode cX55_run 0 = .ok (.aload_n 0, 1) := by decide +kernel
theorem dX55_run_1 : decode cX55_run 1 = .ok (.invokevirtual 173, 3) := by decide +kernel
theorem dX55_run_4 : decode cX55_run 4 = .ok (.aload_n 0, 1) := by decide +kernel
theorem dX55_run_5 : decode cX55_run 5 = .ok (.getfield 108, 3) := by decide +kernel
theorem dX55_run_8 : decode cX55_run 8 = .ok (.ifCond .lt 13, 3) := by decide +kernel
theorem dX55_run_11 : decode cX55_run 11 = .ok (.bipush (-10), 2) := by decide +kernel
theorem dX55_run_13 : decode cX55_run 13 = .ok (.aload_n 0, 1) := by decide +kernel
theorem dX55_run_14 : decode cX55_run 14 = .ok (.getfield 108, 3) := by decide +kernel
theorem dX55_run_17 : decode cX55_run 17 = .ok (.isub, 1) := by decide +kernel
theorem dX55_run_18 : decode cX55_run 18 = .ok (.goto 19, 3) := by decide +kernel
theorem dX55_run_21 : decode cX55_run 21 = .ok (.aload_n 0, 1) := by decide +kernel
theorem dX55_run_22 : decode cX55_run 22 = .ok (.getfield 154, 3) := by decide +kernel
theorem dX55_run_25 : decode cX55_run 25 = .ok (.ifCond .eq 8, 3) := by decide +kernel
theorem dX55_run_28 : decode cX55_run 28 = .ok (.bipush (-4), 2) := by decide +kernel
theorem dX55_run_30 : decode cX55_run 30 = .ok (.goto 7, 3) := by decide +kernel
theorem dX55_run_33 : decode cX55_run 33 = .ok (.aload_n 0, 1) := by decide +kernel
theorem dX55_run_34 : decode cX55_run 34 = .ok (.getfield 151, 3) := by decide +kernel
theorem dX55_run_37 : decode cX55_run 37 = .ok (.ireturn, 1) := by decide +kernel
abbrev cX55_stratum : ByteArray := prog_88_method_33_code
def yX55_stratum : MethodName := ⟨RX55, "stratum", "(I)I"⟩
theorem dX55_stratum_0 : decode cX55_stratum 0 = .ok (.iload_n 1, 1) := by decide +kernel
theorem dX55_stratum_1 : decode cX55_stratum 1 = .ok (.invokestatic 68, 3) := by decide +kernel
theorem dX55_stratum_4 : decode cX55_stratum 4 = .ok (.ifCond .ne 5, 3) := by decide +kernel
theorem dX55_stratum_7 : decode cX55_stratum 7 = .ok (.iconst (-1), 1) := by decide +kernel
theorem dX55_stratum_8 : decode cX55_stratum 8 = .ok (.ireturn, 1) := by decide +kernel
theorem dX55_stratum_9 : decode cX55_stratum 9 = .ok (.aload_n 0, 1) := by decide +kernel
theorem dX55_stratum_10 : decode cX55_stratum 10 = .ok (.invokevirtual 173, 3) := by decide +kernel
theorem dX55_stratum_13 : decode cX55_stratum 13 = .ok (.aload_n 0, 1) := by decide +kernel
theorem dX55_stratum_14 : decode cX55_stratum 14 = .ok (.getfield 108, 3) := by decide +kernel
theorem dX55_stratum_17 : decode cX55_stratum 17 = .ok (.ifCond .lt 8, 3) := by decide +kernel
theorem dX55_stratum_20 : decode cX55_stratum 20 = .ok (.bipush (-2), 2) := by decide +kernel
theorem dX55_stratum_22 : decode cX55_stratum 22 = .ok (.goto 9, 3) := by decide +kernel
theorem dX55_stratum_25 : decode cX55_stratum 25 = .ok (.aload_n 0, 1) := by decide +kernel
theorem dX55_stratum_26 : decode cX55_stratum 26 = .ok (.getfield 35, 3) := by decide +kernel
theorem dX55_stratum_29 : decode cX55_stratum 29 = .ok (.iload_n 1, 1) := by decide +kernel
theorem dX55_stratum_30 : decode cX55_stratum 30 = .ok (.iaload, 1) := by decide +kernel
theorem dX55_stratum_31 : decode cX55_stratum 31 = .ok (.ireturn, 1) := by decide +kernel
abbrev cX55_round : ByteArray := prog_88_method_35_code
def yX55_round : MethodName := ⟨RX55, "round", "(III)I"⟩
theorem dX55_round_0 : decode cX55_round 0 = .ok (.iload_n 1, 1) := by decide +kernel
theorem dX55_round_1 : decode cX55_round 1 = .ok (.iload_n 2, 1) := by decide +kernel
theorem dX55_round_2 : decode cX55_round 2 = .ok (.iload_n 3, 1) := by decide +kernel
theorem dX55_round_3 : decode cX55_round 3 = .ok (.invokestatic 75, 3) := by decide +kernel
theorem dX55_round_6 : decode cX55_round 6 = .ok (.ifCond .ne 5, 3) := by decide +kernel
theorem dX55_round_9 : decode cX55_round 9 = .ok (.iconst (-1), 1) := by decide +kernel
theorem dX55_round_10 : decode cX55_round 10 = .ok (.ireturn, 1) := by decide +kernel
theorem dX55_round_11 : decode cX55_round 11 = .ok (.aload_n 0, 1) := by decide +kernel
theorem dX55_round_12 : decode cX55_round 12 = .ok (.invokevirtual 173, 3) := by decide +kernel
theorem dX55_round_15 : decode cX55_round 15 = .ok (.iload_n 1, 1) := by decide +kernel
theorem dX55_round_16 : decode cX55_round 16 = .ok (.iload_n 2, 1) := by decide +kernel
theorem dX55_round_17 : decode cX55_round 17 = .ok (.iload_n 3, 1) := by decide +kernel
theorem dX55_round_18 : decode cX55_round 18 = .ok (.invokestatic 79, 3) := by decide +kernel
theorem dX55_round_21 : decode cX55_round 21 = .ok (.istore 4, 2) := by decide +kernel
theorem dX55_round_23 : decode cX55_round 23 = .ok (.aload_n 0, 1) := by decide +kernel
theorem dX55_round_24 : decode cX55_round 24 = .ok (.getfield 29, 3) := by decide +kernel
theorem dX55_round_27 : decode cX55_round 27 = .ok (.iload 4, 2) := by decide +kernel
theorem dX55_round_29 : decode cX55_round 29 = .ok (.iaload, 1) := by decide +kernel
theorem dX55_round_30 : decode cX55_round 30 = .ok (.ifCond .lt 13, 3) := by decide +kernel
theorem dX55_round_33 : decode cX55_round 33 = .ok (.aload_n 0, 1) := by decide +kernel
theorem dX55_round_34 : decode cX55_round 34 = .ok (.getfield 29, 3) := by decide +kernel
theorem dX55_round_37 : decode cX55_round 37 = .ok (.iload 4, 2) := by decide +kernel
theorem dX55_round_39 : decode cX55_round 39 = .ok (.iaload, 1) := by decide +kernel
theorem dX55_round_40 : decode cX55_round 40 = .ok (.goto 5, 3) := by decide +kernel
theorem dX55_round_43 : decode cX55_round 43 = .ok (.bipush (-2), 2) := by decide +kernel
theorem dX55_round_45 : decode cX55_round 45 = .ok (.ireturn, 1) := by decide +kernel
abbrev cX55_counts : ByteArray := prog_88_method_36_code
def yX55_counts : MethodName := ⟨RX55, "counts", "(III)I"⟩
theorem dX55_counts_0 : decode cX55_counts 0 = .ok (.iload_n 1, 1) := by decide +kernel
theorem dX55_counts_1 : decode cX55_counts 1 = .ok (.iload_n 2, 1) := by decide +kernel
theorem dX55_counts_2 : decode cX55_counts 2 = .ok (.iload_n 3, 1) := by decide +kernel
theorem dX55_counts_3 : decode cX55_counts 3 = .ok (.invokestatic 75, 3) := by decide +kernel
theorem dX55_counts_6 : decode cX55_counts 6 = .ok (.ifCond .ne 5, 3) := by decide +kernel
theorem dX55_counts_9 : decode cX55_counts 9 = .ok (.iconst (-1), 1) := by decide +kernel
theorem dX55_counts_10 : decode cX55_counts 10 = .ok (.ireturn, 1) := by decide +kernel
theorem dX55_counts_11 : decode cX55_counts 11 = .ok (.aload_n 0, 1) := by decide +kernel
theorem dX55_counts_12 : decode cX55_counts 12 = .ok (.invokevirtual 173, 3) := by decide +kernel
theorem dX55_counts_15 : decode cX55_counts 15 = .ok (.aload_n 0, 1) := by decide +kernel
theorem dX55_counts_16 : decode cX55_counts 16 = .ok (.getfield 32, 3) := by decide +kernel
theorem dX55_counts_19 : decode cX55_counts 19 = .ok (.iload_n 1, 1) := by decide +kernel
theorem dX55_counts_20 : decode cX55_counts 20 = .ok (.iload_n 2, 1) := by decide +kernel
theorem dX55_counts_21 : decode cX55_counts 21 = .ok (.iload_n 3, 1) := by decide +kernel
theorem dX55_counts_22 : decode cX55_counts 22 = .ok (.invokestatic 79, 3) := by decide +kernel
theorem dX55_counts_25 : decode cX55_counts 25 = .ok (.iaload, 1) := by decide +kernel
theorem dX55_counts_26 : decode cX55_counts 26 = .ok (.ireturn, 1) := by decide +kernel
abbrev cX55_row : ByteArray := prog_88_method_37_code
def yX55_row : MethodName := ⟨RX55, "row", "(I)I"⟩
theorem dX55_row_0 : decode cX55_row 0 = .ok (.aload_n 0, 1) := by decide +kernel
theorem dX55_row_1 : decode cX55_row 1 = .ok (.invokevirtual 173, 3) := by decide +kernel
theorem dX55_row_4 : decode cX55_row 4 = .ok (.iload_n 1, 1) := by decide +kernel
theorem dX55_row_5 : decode cX55_row 5 = .ok (.sipush 16384, 3) := by decide +kernel
theorem dX55_row_8 : decode cX55_row 8 = .ok (.if_icmp .lt 6, 3) := by decide +kernel
theorem dX55_row_11 : decode cX55_row 11 = .ok (.bipush (-2), 2) := by decide +kernel
theorem dX55_row_13 : decode cX55_row 13 = .ok (.ireturn, 1) := by decide +kernel
theorem dX55_row_14 : decode cX55_row 14 = .ok (.iload_n 1, 1) := by decide +kernel
theorem dX55_row_15 : decode cX55_row 15 = .ok (.ifCond .ge 7, 3) := by decide +kernel
theorem dX55_row_18 : decode cX55_row 18 = .ok (.iconst 0, 1) := by decide +kernel
theorem dX55_row_19 : decode cX55_row 19 = .ok (.goto 6, 3) := by decide +kernel
theorem dX55_row_22 : decode cX55_row 22 = .ok (.iload_n 1, 1) := by decide +kernel
theorem dX55_row_23 : decode cX55_row 23 = .ok (.iconst 1, 1) := by decide +kernel
theorem dX55_row_24 : decode cX55_row 24 = .ok (.iadd, 1) := by decide +kernel
theorem dX55_row_25 : decode cX55_row 25 = .ok (.istore_n 2, 1) := by decide +kernel
theorem dX55_row_26 : decode cX55_row 26 = .ok (.iload_n 2, 1) := by decide +kernel
theorem dX55_row_27 : decode cX55_row 27 = .ok (.sipush 16384, 3) := by decide +kernel
theorem dX55_row_30 : decode cX55_row 30 = .ok (.if_icmp .ge 18, 3) := by decide +kernel
theorem dX55_row_33 : decode cX55_row 33 = .ok (.aload_n 0, 1) := by decide +kernel
theorem dX55_row_34 : decode cX55_row 34 = .ok (.getfield 29, 3) := by decide +kernel
theorem dX55_row_37 : decode cX55_row 37 = .ok (.iload_n 2, 1) := by decide +kernel
theorem dX55_row_38 : decode cX55_row 38 = .ok (.iaload, 1) := by decide +kernel
theorem dX55_row_39 : decode cX55_row 39 = .ok (.ifCond .ge 9, 3) := by decide +kernel
theorem dX55_row_42 : decode cX55_row 42 = .ok (.iinc 2 1, 3) := by decide +kernel
theorem dX55_row_45 : decode cX55_row 45 = .ok (.goto (-19), 3) := by decide +kernel
theorem dX55_row_48 : decode cX55_row 48 = .ok (.iload_n 2, 1) := by decide +kernel
theorem dX55_row_49 : decode cX55_row 49 = .ok (.sipush 16384, 3) := by decide +kernel
theorem dX55_row_52 : decode cX55_row 52 = .ok (.if_icmp .ge 7, 3) := by decide +kernel
theorem dX55_row_55 : decode cX55_row 55 = .ok (.iload_n 2, 1) := by decide +kernel
theorem dX55_row_56 : decode cX55_row 56 = .ok (.goto 5, 3) := by decide +kernel
theorem dX55_row_59 : decode cX55_row 59 = .ok (.bipush (-2), 2) := by decide +kernel
theorem dX55_row_61 : decode cX55_row 61 = .ok (.ireturn, 1) := by decide +kernel
abbrev cX55_size : ByteArray := prog_88_method_38_code
def yX55_size : MethodName := ⟨RX55, "size", "()I"⟩
theorem dX55_size_0 : decode cX55_size 0 = .ok (.aload_n 0, 1) := by decide +kernel
theorem dX55_size_1 : decode cX55_size 1 = .ok (.invokevirtual 173, 3) := by decide +kernel
theorem dX55_size_4 : decode cX55_size 4 = .ok (.iconst 0, 1) := by decide +kernel
theorem dX55_size_5 : decode cX55_size 5 = .ok (.istore_n 1, 1) := by decide +kernel
theorem dX55_size_6 : decode cX55_size 6 = .ok (.iconst 0, 1) := by decide +kernel
theorem dX55_size_7 : decode cX55_size 7 = .ok (.istore_n 2, 1) := by decide +kernel
theorem dX55_size_8 : decode cX55_size 8 = .ok (.iload_n 2, 1) := by decide +kernel
theorem dX55_size_9 : decode cX55_size 9 = .ok (.sipush 16384, 3) := by decide +kernel
theorem dX55_size_12 : decode cX55_size 12 = .ok (.if_icmp .ge 26, 3) := by decide +kernel
theorem dX55_size_15 : decode cX55_size 15 = .ok (.iload_n 1, 1) := by decide +kernel
theorem dX55_size_16 : decode cX55_size 16 = .ok (.aload_n 0, 1) := by decide +kernel
theorem dX55_size_17 : decode cX55_size 17 = .ok (.getfield 29, 3) := by decide +kernel
theorem dX55_size_20 : decode cX55_size 20 = .ok (.iload_n 2, 1) := by decide +kernel
theorem dX55_size_21 : decode cX55_size 21 = .ok (.iaload, 1) := by decide +kernel
theorem dX55_size_22 : decode cX55_size 22 = .ok (.ifCond .lt 7, 3) := by decide +kernel
theorem dX55_size_25 : decode cX55_size 25 = .ok (.iconst 1, 1) := by decide +kernel
theorem dX55_size_26 : decode cX55_size 26 = .ok (.goto 4, 3) := by decide +kernel
theorem dX55_size_29 : decode cX55_size 29 = .ok (.iconst 0, 1) := by decide +kernel
theorem dX55_size_30 : decode cX55_size 30 = .ok (.iadd, 1) := by decide +kernel
theorem dX55_size_31 : decode cX55_size 31 = .ok (.istore_n 1, 1) := by decide +kernel
theorem dX55_size_32 : decode cX55_size 32 = .ok (.iinc 2 1, 3) := by decide +kernel
theorem dX55_size_35 : decode cX55_size 35 = .ok (.goto (-27), 3) := by decide +kernel
theorem dX55_size_38 : decode cX55_size 38 = .ok (.iload_n 1, 1) := by decide +kernel
theorem dX55_size_39 : decode cX55_size 39 = .ok (.ireturn, 1) := by decide +kernel
theorem in_X55 : ∀ w ∈ wsX550, w ∈ lw_all := lw_in wsX550 [6604, 6606, 6608, 6610, 6612, 6614, 6616, 6618, 6620, 6622, 6624, 6626, 6628, 6630, 6632, 6634, 6636, 6638, 6640, 6642, 6644, 6646, 6648, 6650, 6652, 6654, 6656, 6658] (by decide +kernel) (by decide +kernel)
theorem q550 : (Jvm.Cond.initialized "KnowHouseModel$RuleEngineModel") ∈ lw_all := lw_g (lw_at lw_m1 72 rfl) rfl
theorem q6576 : (Jvm.Cond.fieldLink "KnowHouseModel$RuleEngineModel" (7 : Nat) "KnowHouseModel$RuleEngineModel" "said" "[Z") ∈ lw_all := lw_g (lw_at lw_m26 98 rfl) rfl
theorem q6577 : (Jvm.Cond.fieldLink "KnowHouseModel$RuleEngineModel" (13 : Nat) "KnowHouseModel$RuleEngineModel" "heads" "[I") ∈ lw_all := lw_g (lw_at lw_m26 99 rfl) rfl
theorem q6578 : (Jvm.Cond.fieldLink "KnowHouseModel$RuleEngineModel" (17 : Nat) "KnowHouseModel$RuleEngineModel" "kinds" "[I") ∈ lw_all := lw_g (lw_at lw_m26 100 rfl) rfl
theorem q6579 : (Jvm.Cond.fieldLink "KnowHouseModel$RuleEngineModel" (20 : Nat) "KnowHouseModel$RuleEngineModel" "folded" "[I") ∈ lw_all := lw_g (lw_at lw_m26 101 rfl) rfl
theorem q6580 : (Jvm.Cond.fieldLink "KnowHouseModel$RuleEngineModel" (23 : Nat) "KnowHouseModel$RuleEngineModel" "lengths" "[I") ∈ lw_all := lw_g (lw_at lw_m26 102 rfl) rfl
theorem q6581 : (Jvm.Cond.fieldLink "KnowHouseModel$RuleEngineModel" (26 : Nat) "KnowHouseModel$RuleEngineModel" "parts" "[I") ∈ lw_all := lw_g (lw_at lw_m26 103 rfl) rfl
theorem q6582 : (Jvm.Cond.fieldLink "KnowHouseModel$RuleEngineModel" (87 : Nat) "KnowHouseModel$RuleEngineModel" "rules" "I") ∈ lw_all := lw_g (lw_at lw_m26 104 rfl) rfl
theorem q6583 : (Jvm.Cond.fieldLink "KnowHouseModel$RuleEngineModel" (83 : Nat) "KnowHouseModel$RuleEngineModel" "known" "Z") ∈ lw_all := lw_g (lw_at lw_m26 105 rfl) rfl
theorem q6584 : (Jvm.Cond.fieldLink "KnowHouseModel$RuleEngineModel" (29 : Nat) "KnowHouseModel$RuleEngineModel" "rounds" "[I") ∈ lw_all := lw_g (lw_at lw_m26 106 rfl) rfl
theorem q6585 : (Jvm.Cond.fieldLink "KnowHouseModel$RuleEngineModel" (32 : Nat) "KnowHouseModel$RuleEngineModel" "given" "[I") ∈ lw_all := lw_g (lw_at lw_m26 107 rfl) rfl
theorem q6586 : (Jvm.Cond.fieldLink "KnowHouseModel$RuleEngineModel" (35 : Nat) "KnowHouseModel$RuleEngineModel" "strata" "[I") ∈ lw_all := lw_g (lw_at lw_m26 108 rfl) rfl
theorem q6587 : (Jvm.Cond.fieldLink "KnowHouseModel$RuleEngineModel" (108 : Nat) "KnowHouseModel$RuleEngineModel" "circle" "I") ∈ lw_all := lw_g (lw_at lw_m26 109 rfl) rfl
theorem q6588 : (Jvm.Cond.fieldLink "KnowHouseModel$RuleEngineModel" (151 : Nat) "KnowHouseModel$RuleEngineModel" "turns" "I") ∈ lw_all := lw_g (lw_at lw_m26 110 rfl) rfl
theorem q6589 : (Jvm.Cond.fieldLink "KnowHouseModel$RuleEngineModel" (38 : Nat) "KnowHouseModel$RuleEngineModel" "needs" "[I") ∈ lw_all := lw_g (lw_at lw_m26 111 rfl) rfl
theorem q6590 : (Jvm.Cond.fieldLink "KnowHouseModel$RuleEngineModel" (41 : Nat) "KnowHouseModel$RuleEngineModel" "comes" "[Z") ∈ lw_all := lw_g (lw_at lw_m26 112 rfl) rfl
theorem q6591 : (Jvm.Cond.fieldLink "KnowHouseModel$RuleEngineModel" (44 : Nat) "KnowHouseModel$RuleEngineModel" "values" "[I") ∈ lw_all := lw_g (lw_at lw_m26 113 rfl) rfl
theorem q6592 : (Jvm.Cond.fieldLink "KnowHouseModel$RuleEngineModel" (47 : Nat) "KnowHouseModel$RuleEngineModel" "plain" "[I") ∈ lw_all := lw_g (lw_at lw_m26 114 rfl) rfl
theorem q6593 : (Jvm.Cond.fieldLink "KnowHouseModel$RuleEngineModel" (114 : Nat) "KnowHouseModel$RuleEngineModel" "plainCount" "I") ∈ lw_all := lw_g (lw_at lw_m26 115 rfl) rfl
theorem q6594 : (Jvm.Cond.fieldLink "KnowHouseModel$RuleEngineModel" (50 : Nat) "KnowHouseModel$RuleEngineModel" "pointers" "[I") ∈ lw_all := lw_g (lw_at lw_m26 116 rfl) rfl
theorem q6595 : (Jvm.Cond.fieldLink "KnowHouseModel$RuleEngineModel" (111 : Nat) "KnowHouseModel$RuleEngineModel" "now" "I") ∈ lw_all := lw_g (lw_at lw_m26 117 rfl) rfl
theorem q6596 : (Jvm.Cond.fieldLink "KnowHouseModel$RuleEngineModel" (53 : Nat) "KnowHouseModel$RuleEngineModel" "fresh" "[I") ∈ lw_all := lw_g (lw_at lw_m26 118 rfl) rfl
theorem q6597 : (Jvm.Cond.fieldLink "KnowHouseModel$RuleEngineModel" (56 : Nat) "KnowHouseModel$RuleEngineModel" "many" "[I") ∈ lw_all := lw_g (lw_at lw_m26 119 rfl) rfl
theorem q6598 : (Jvm.Cond.fieldLink "KnowHouseModel$RuleEngineModel" (59 : Nat) "KnowHouseModel$RuleEngineModel" "sums" "[I") ∈ lw_all := lw_g (lw_at lw_m26 120 rfl) rfl
theorem q6599 : (Jvm.Cond.fieldLink "KnowHouseModel$RuleEngineModel" (62 : Nat) "KnowHouseModel$RuleEngineModel" "lows" "[I") ∈ lw_all := lw_g (lw_at lw_m26 121 rfl) rfl
theorem q6600 : (Jvm.Cond.fieldLink "KnowHouseModel$RuleEngineModel" (65 : Nat) "KnowHouseModel$RuleEngineModel" "highs" "[I") ∈ lw_all := lw_g (lw_at lw_m26 122 rfl) rfl
theorem q6601 : (Jvm.Cond.fieldLink "KnowHouseModel$RuleEngineModel" (130 : Nat) "KnowHouseModel$RuleEngineModel" "layed" "I") ∈ lw_all := lw_g (lw_at lw_m26 123 rfl) rfl
theorem q6602 : (Jvm.Cond.fieldLink "KnowHouseModel$RuleEngineModel" (157 : Nat) "KnowHouseModel$RuleEngineModel" "worked" "J") ∈ lw_all := lw_g (lw_at lw_m26 124 rfl) rfl
theorem q6603 : (Jvm.Cond.fieldLink "KnowHouseModel$RuleEngineModel" (154 : Nat) "KnowHouseModel$RuleEngineModel" "large" "Z") ∈ lw_all := lw_g (lw_at lw_m26 125 rfl) rfl
theorem q7360 : (Jvm.Cond.methodLink "KnowHouseModel$RuleEngineModel" (75 : Nat) ({ cls := "KnowHouseModel$RuleEngineModel", name := "isFact", desc := "(III)Z" } : Jvm.MethodName)) ∈ lw_all := lw_g (lw_at lw_m29 162 rfl) rfl
theorem q7361 : (Jvm.Cond.static ({ cls := "KnowHouseModel$RuleEngineModel", name := "isFact", desc := "(III)Z" } : Jvm.MethodName)) ∈ lw_all := lw_g (lw_at lw_m29 163 rfl) rfl
theorem q7362 : (Jvm.Cond.code ({ cls := "KnowHouseModel$RuleEngineModel", name := "isFact", desc := "(III)Z" } : Jvm.MethodName) prog_88_method_5_code (3 : Nat) (Option.some Jvm.ClassFile.FieldType.boolean)) ∈ lw_all := lw_g (lw_at lw_m29 164 rfl) rfl
theorem q7363 : (Jvm.Cond.methodLink "KnowHouseModel$RuleEngineModel" (68 : Nat) ({ cls := "KnowHouseModel$RuleEngineModel", name := "isName", desc := "(I)Z" } : Jvm.MethodName)) ∈ lw_all := lw_g (lw_at lw_m29 165 rfl) rfl
theorem q7364 : (Jvm.Cond.static ({ cls := "KnowHouseModel$RuleEngineModel", name := "isName", desc := "(I)Z" } : Jvm.MethodName)) ∈ lw_all := lw_g (lw_at lw_m29 166 rfl) rfl
theorem q7365 : (Jvm.Cond.code ({ cls := "KnowHouseModel$RuleEngineModel", name := "isName", desc := "(I)Z" } : Jvm.MethodName) prog_88_method_2_code (1 : Nat) (Option.some Jvm.ClassFile.FieldType.boolean)) ∈ lw_all := lw_g (lw_at lw_m29 167 rfl) rfl
theorem q7366 : (Jvm.Cond.methodLink "KnowHouseModel$RuleEngineModel" (72 : Nat) ({ cls := "KnowHouseModel$RuleEngineModel", name := "isNumber", desc := "(I)Z" } : Jvm.MethodName)) ∈ lw_all := lw_g (lw_at lw_m29 168 rfl) rfl
theorem q7367 : (Jvm.Cond.static ({ cls := "KnowHouseModel$RuleEngineModel", name := "isNumber", desc := "(I)Z" } : Jvm.MethodName)) ∈ lw_all := lw_g (lw_at lw_m29 169 rfl) rfl
theorem q7368 : (Jvm.Cond.code ({ cls := "KnowHouseModel$RuleEngineModel", name := "isNumber", desc := "(I)Z" } : Jvm.MethodName) prog_88_method_3_code (1 : Nat) (Option.some Jvm.ClassFile.FieldType.boolean)) ∈ lw_all := lw_g (lw_at lw_m29 170 rfl) rfl
theorem q7369 : (Jvm.Cond.methodLink "KnowHouseModel$RuleEngineModel" (79 : Nat) ({ cls := "KnowHouseModel$RuleEngineModel", name := "code", desc := "(III)I" } : Jvm.MethodName)) ∈ lw_all := lw_g (lw_at lw_m29 171 rfl) rfl
theorem q7370 : (Jvm.Cond.static ({ cls := "KnowHouseModel$RuleEngineModel", name := "code", desc := "(III)I" } : Jvm.MethodName)) ∈ lw_all := lw_g (lw_at lw_m29 172 rfl) rfl
theorem q7371 : (Jvm.Cond.code ({ cls := "KnowHouseModel$RuleEngineModel", name := "code", desc := "(III)I" } : Jvm.MethodName) prog_88_method_6_code (3 : Nat) (Option.some Jvm.ClassFile.FieldType.int)) ∈ lw_all := lw_g (lw_at lw_m29 173 rfl) rfl
theorem q7888 : (Jvm.Cond.methodLink "KnowHouseModel$RuleEngineModel" (173 : Nat) ({ cls := "KnowHouseModel$RuleEngineModel", name := "work", desc := "()V" } : Jvm.MethodName)) ∈ lw_all := lw_g (lw_at lw_m31 210 rfl) rfl
theorem q7890 : (Jvm.Cond.instanceMethod ({ cls := "KnowHouseModel$RuleEngineModel", name := "work", desc := "()V" } : Jvm.MethodName)) ∈ lw_all := lw_g (lw_at lw_m31 212 rfl) rfl
theorem q7891 : (Jvm.Cond.code ({ cls := "KnowHouseModel$RuleEngineModel", name := "work", desc := "()V" } : Jvm.MethodName) prog_88_method_29_code (4 : Nat) (Option.none : Option Jvm.ClassFile.FieldType)) ∈ lw_all := lw_g (lw_at lw_m31 213 rfl) rfl
theorem q7892 : (Jvm.Cond.methodLink "KnowHouseModel$RuleEngineModel" (145 : Nat) ({ cls := "KnowHouseModel$RuleEngineModel", name := "need", desc := "()V" } : Jvm.MethodName)) ∈ lw_all := lw_g (lw_at lw_m31 214 rfl) rfl
theorem q7894 : (Jvm.Cond.instanceMethod ({ cls := "KnowHouseModel$RuleEngineModel", name := "need", desc := "()V" } : Jvm.MethodName)) ∈ lw_all := lw_g (lw_at lw_m31 216 rfl) rfl
theorem q7895 : (Jvm.Cond.code ({ cls := "KnowHouseModel$RuleEngineModel", name := "need", desc := "()V" } : Jvm.MethodName) prog_88_method_19_code (6 : Nat) (Option.none : Option Jvm.ClassFile.FieldType)) ∈ lw_all := lw_g (lw_at lw_m31 217 rfl) rfl
theorem q7896 : (Jvm.Cond.methodLink "KnowHouseModel$RuleEngineModel" (105 : Nat) ({ cls := "KnowHouseModel$RuleEngineModel", name := "isSafe", desc := "(I)Z" } : Jvm.MethodName)) ∈ lw_all := lw_g (lw_at lw_m31 218 rfl) rfl
theorem q7898 : (Jvm.Cond.instanceMethod ({ cls := "KnowHouseModel$RuleEngineModel", name := "isSafe", desc := "(I)Z" } : Jvm.MethodName)) ∈ lw_all := lw_g (lw_at lw_m31 220 rfl) rfl
theorem q7899 : (Jvm.Cond.code ({ cls := "KnowHouseModel$RuleEngineModel", name := "isSafe", desc := "(I)Z" } : Jvm.MethodName) prog_88_method_17_code (5 : Nat) (Option.some Jvm.ClassFile.FieldType.boolean)) ∈ lw_all := lw_g (lw_at lw_m31 221 rfl) rfl
theorem q7900 : (Jvm.Cond.methodLink "KnowHouseModel$RuleEngineModel" (101 : Nat) ({ cls := "KnowHouseModel$RuleEngineModel", name := "isBound", desc := "(II)Z" } : Jvm.MethodName)) ∈ lw_all := lw_g (lw_at lw_m31 222 rfl) rfl
theorem q7902 : (Jvm.Cond.instanceMethod ({ cls := "KnowHouseModel$RuleEngineModel", name := "isBound", desc := "(II)Z" } : Jvm.MethodName)) ∈ lw_all := lw_g (lw_at lw_m31 224 rfl) rfl
theorem q7903 : (Jvm.Cond.code ({ cls := "KnowHouseModel$RuleEngineModel", name := "isBound", desc := "(II)Z" } : Jvm.MethodName) prog_88_method_16_code (6 : Nat) (Option.some Jvm.ClassFile.FieldType.boolean)) ∈ lw_all := lw_g (lw_at lw_m31 225 rfl) rfl
theorem q7904 : (Jvm.Cond.methodLink "KnowHouseModel$RuleEngineModel" (148 : Nat) ({ cls := "KnowHouseModel$RuleEngineModel", name := "layer", desc := "()V" } : Jvm.MethodName)) ∈ lw_all := lw_g (lw_at lw_m31 226 rfl) rfl
theorem q7906 : (Jvm.Cond.instanceMethod ({ cls := "KnowHouseModel$RuleEngineModel", name := "layer", desc := "()V" } : Jvm.MethodName)) ∈ lw_all := lw_g (lw_at lw_m31 228 rfl) rfl
theorem q7907 : (Jvm.Cond.code ({ cls := "KnowHouseModel$RuleEngineModel", name := "layer", desc := "()V" } : Jvm.MethodName) prog_88_method_20_code (4 : Nat) (Option.none : Option Jvm.ClassFile.FieldType)) ∈ lw_all := lw_g (lw_at lw_m31 229 rfl) rfl
theorem q7908 : (Jvm.Cond.methodLink "KnowHouseModel$RuleEngineModel" (161 : Nat) ({ cls := "KnowHouseModel$RuleEngineModel", name := "addWork", desc := "(I)V" } : Jvm.MethodName)) ∈ lw_all := lw_g (lw_at lw_m31 230 rfl) rfl
theorem q7910 : (Jvm.Cond.instanceMethod ({ cls := "KnowHouseModel$RuleEngineModel", name := "addWork", desc := "(I)V" } : Jvm.MethodName)) ∈ lw_all := lw_g (lw_at lw_m31 232 rfl) rfl
theorem q7911 : (Jvm.Cond.code ({ cls := "KnowHouseModel$RuleEngineModel", name := "addWork", desc := "(I)V" } : Jvm.MethodName) prog_88_method_31_code (7 : Nat) (Option.none : Option Jvm.ClassFile.FieldType)) ∈ lw_all := lw_g (lw_at lw_m31 233 rfl) rfl
theorem q7912 : (Jvm.Cond.methodLink "KnowHouseModel$RuleEngineModel" (167 : Nat) ({ cls := "KnowHouseModel$RuleEngineModel", name := "factsOf", desc := "(I)J" } : Jvm.MethodName)) ∈ lw_all := lw_g (lw_at lw_m31 234 rfl) rfl
theorem q7914 : (Jvm.Cond.instanceMethod ({ cls := "KnowHouseModel$RuleEngineModel", name := "factsOf", desc := "(I)J" } : Jvm.MethodName)) ∈ lw_all := lw_g (lw_at lw_m31 236 rfl) rfl
theorem q7915 : (Jvm.Cond.code ({ cls := "KnowHouseModel$RuleEngineModel", name := "factsOf", desc := "(I)J" } : Jvm.MethodName) prog_88_method_30_code (5 : Nat) (Option.some Jvm.ClassFile.FieldType.long)) ∈ lw_all := lw_g (lw_at lw_m31 237 rfl) rfl
theorem q7916 : (Jvm.Cond.constantLong "KnowHouseModel$RuleEngineModel" (171 : Nat) (200000 : Int64)) ∈ lw_all := lw_g (lw_at lw_m31 238 rfl) rfl
theorem q7917 : (Jvm.Cond.methodLink "KnowHouseModel$RuleEngineModel" (164 : Nat) ({ cls := "KnowHouseModel$RuleEngineModel", name := "spread", desc := "(II)V" } : Jvm.MethodName)) ∈ lw_all := lw_g (lw_at lw_m31 239 rfl) rfl
theorem q7919 : (Jvm.Cond.instanceMethod ({ cls := "KnowHouseModel$RuleEngineModel", name := "spread", desc := "(II)V" } : Jvm.MethodName)) ∈ lw_all := lw_g (lw_at lw_m32 1 rfl) rfl
theorem q7920 : (Jvm.Cond.code ({ cls := "KnowHouseModel$RuleEngineModel", name := "spread", desc := "(II)V" } : Jvm.MethodName) prog_88_method_28_code (8 : Nat) (Option.none : Option Jvm.ClassFile.FieldType)) ∈ lw_all := lw_g (lw_at lw_m32 2 rfl) rfl
theorem q7921 : (Jvm.Cond.methodLink "KnowHouseModel$RuleEngineModel" (133 : Nat) ({ cls := "KnowHouseModel$RuleEngineModel", name := "begin", desc := "(I)V" } : Jvm.MethodName)) ∈ lw_all := lw_g (lw_at lw_m32 3 rfl) rfl
theorem q7923 : (Jvm.Cond.instanceMethod ({ cls := "KnowHouseModel$RuleEngineModel", name := "begin", desc := "(I)V" } : Jvm.MethodName)) ∈ lw_all := lw_g (lw_at lw_m32 5 rfl) rfl
theorem q7924 : (Jvm.Cond.code ({ cls := "KnowHouseModel$RuleEngineModel", name := "begin", desc := "(I)V" } : Jvm.MethodName) prog_88_method_24_code (3 : Nat) (Option.none : Option Jvm.ClassFile.FieldType)) ∈ lw_all := lw_g (lw_at lw_m32 6 rfl) rfl
theorem q7925 : (Jvm.Cond.methodLink "KnowHouseModel$RuleEngineModel" (137 : Nat) ({ cls := "KnowHouseModel$RuleEngineModel", name := "next", desc := "(IZ)Z" } : Jvm.MethodName)) ∈ lw_all := lw_g (lw_at lw_m32 7 rfl) rfl
theorem q7927 : (Jvm.Cond.instanceMethod ({ cls := "KnowHouseModel$RuleEngineModel", name := "next", desc := "(IZ)Z" } : Jvm.MethodName)) ∈ lw_all := lw_g (lw_at lw_m32 9 rfl) rfl
theorem q7928 : (Jvm.Cond.code ({ cls := "KnowHouseModel$RuleEngineModel", name := "next", desc := "(IZ)Z" } : Jvm.MethodName) prog_88_method_25_code (6 : Nat) (Option.some Jvm.ClassFile.FieldType.boolean)) ∈ lw_all := lw_g (lw_at lw_m32 10 rfl) rfl
theorem q7929 : (Jvm.Cond.methodLink "KnowHouseModel$RuleEngineModel" (117 : Nat) ({ cls := "KnowHouseModel$RuleEngineModel", name := "tell", desc := "(II)Z" } : Jvm.MethodName)) ∈ lw_all := lw_g (lw_at lw_m32 11 rfl) rfl
theorem q7931 : (Jvm.Cond.instanceMethod ({ cls := "KnowHouseModel$RuleEngineModel", name := "tell", desc := "(II)Z" } : Jvm.MethodName)) ∈ lw_all := lw_g (lw_at lw_m32 13 rfl) rfl
theorem q7932 : (Jvm.Cond.code ({ cls := "KnowHouseModel$RuleEngineModel", name := "tell", desc := "(II)Z" } : Jvm.MethodName) prog_88_method_23_code (9 : Nat) (Option.some Jvm.ClassFile.FieldType.boolean)) ∈ lw_all := lw_g (lw_at lw_m32 14 rfl) rfl
theorem q7933 : (Jvm.Cond.methodLink "KnowHouseModel$RuleEngineModel" (120 : Nat) ({ cls := "KnowHouseModel$RuleEngineModel", name := "passes", desc := "(I)Z" } : Jvm.MethodName)) ∈ lw_all := lw_g (lw_at lw_m32 15 rfl) rfl
theorem q7935 : (Jvm.Cond.instanceMethod ({ cls := "KnowHouseModel$RuleEngineModel", name := "passes", desc := "(I)Z" } : Jvm.MethodName)) ∈ lw_all := lw_g (lw_at lw_m32 17 rfl) rfl
theorem q7936 : (Jvm.Cond.code ({ cls := "KnowHouseModel$RuleEngineModel", name := "passes", desc := "(I)Z" } : Jvm.MethodName) prog_88_method_26_code (7 : Nat) (Option.some Jvm.ClassFile.FieldType.boolean)) ∈ lw_all := lw_g (lw_at lw_m32 18 rfl) rfl
theorem q7937 : (Jvm.Cond.methodLink "KnowHouseModel$RuleEngineModel" (126 : Nat) ({ cls := "KnowHouseModel$RuleEngineModel", name := "valueOf", desc := "(I)I" } : Jvm.MethodName)) ∈ lw_all := lw_g (lw_at lw_m32 19 rfl) rfl
theorem q7939 : (Jvm.Cond.instanceMethod ({ cls := "KnowHouseModel$RuleEngineModel", name := "valueOf", desc := "(I)I" } : Jvm.MethodName)) ∈ lw_all := lw_g (lw_at lw_m32 21 rfl) rfl
theorem q7940 : (Jvm.Cond.code ({ cls := "KnowHouseModel$RuleEngineModel", name := "valueOf", desc := "(I)I" } : Jvm.MethodName) prog_88_method_21_code (2 : Nat) (Option.some Jvm.ClassFile.FieldType.int)) ∈ lw_all := lw_g (lw_at lw_m32 22 rfl) rfl
theorem q7941 : (Jvm.Cond.methodLink "KnowHouseModel$RuleEngineModel" (123 : Nat) ({ cls := "KnowHouseModel$RuleEngineModel", name := "isOld", desc := "(I)Z" } : Jvm.MethodName)) ∈ lw_all := lw_g (lw_at lw_m32 23 rfl) rfl
theorem q7943 : (Jvm.Cond.instanceMethod ({ cls := "KnowHouseModel$RuleEngineModel", name := "isOld", desc := "(I)Z" } : Jvm.MethodName)) ∈ lw_all := lw_g (lw_at lw_m32 25 rfl) rfl
theorem q7944 : (Jvm.Cond.code ({ cls := "KnowHouseModel$RuleEngineModel", name := "isOld", desc := "(I)Z" } : Jvm.MethodName) prog_88_method_22_code (2 : Nat) (Option.some Jvm.ClassFile.FieldType.boolean)) ∈ lw_all := lw_g (lw_at lw_m32 26 rfl) rfl
theorem q7945 : (Jvm.Cond.methodLink "KnowHouseModel$RuleEngineModel" (141 : Nat) ({ cls := "KnowHouseModel$RuleEngineModel", name := "give", desc := "(II)V" } : Jvm.MethodName)) ∈ lw_all := lw_g (lw_at lw_m32 27 rfl) rfl
theorem q7947 : (Jvm.Cond.instanceMethod ({ cls := "KnowHouseModel$RuleEngineModel", name := "give", desc := "(II)V" } : Jvm.MethodName)) ∈ lw_all := lw_g (lw_at lw_m32 29 rfl) rfl
theorem q7948 : (Jvm.Cond.code ({ cls := "KnowHouseModel$RuleEngineModel", name := "give", desc := "(II)V" } : Jvm.MethodName) prog_88_method_27_code (3 : Nat) (Option.none : Option Jvm.ClassFile.FieldType)) ∈ lw_all := lw_g (lw_at lw_m32 30 rfl) rfl
theorem q8718 : (Jvm.Cond.methodLink "KnowHouseModel$RuleEngineModel" (91 : Nat) ({ cls := "KnowHouseModel$RuleEngineModel", name := "isItem", desc := "(I)Z" } : Jvm.MethodName)) ∈ lw_all := lw_g (lw_at lw_m35 80 rfl) rfl
theorem q8719 : (Jvm.Cond.static ({ cls := "KnowHouseModel$RuleEngineModel", name := "isItem", desc := "(I)Z" } : Jvm.MethodName)) ∈ lw_all := lw_g (lw_at lw_m35 81 rfl) rfl
theorem q8720 : (Jvm.Cond.code ({ cls := "KnowHouseModel$RuleEngineModel", name := "isItem", desc := "(I)Z" } : Jvm.MethodName) prog_88_method_4_code (1 : Nat) (Option.some Jvm.ClassFile.FieldType.boolean)) ∈ lw_all := lw_g (lw_at lw_m35 82 rfl) rfl
theorem q8725 : (Jvm.Cond.methodLink "KnowHouseModel$RuleEngineModel" (94 : Nat) ({ cls := "KnowHouseModel$RuleEngineModel", name := "isRule", desc := "(I)Z" } : Jvm.MethodName)) ∈ lw_all := lw_g (lw_at lw_m35 87 rfl) rfl
theorem q8727 : (Jvm.Cond.instanceMethod ({ cls := "KnowHouseModel$RuleEngineModel", name := "isRule", desc := "(I)Z" } : Jvm.MethodName)) ∈ lw_all := lw_g (lw_at lw_m35 89 rfl) rfl
theorem q8728 : (Jvm.Cond.code ({ cls := "KnowHouseModel$RuleEngineModel", name := "isRule", desc := "(I)Z" } : Jvm.MethodName) prog_88_method_9_code (2 : Nat) (Option.some Jvm.ClassFile.FieldType.boolean)) ∈ lw_all := lw_g (lw_at lw_m35 90 rfl) rfl
theorem q8729 : (Jvm.Cond.methodLink "KnowHouseModel$RuleEngineModel" (97 : Nat) ({ cls := "KnowHouseModel$RuleEngineModel", name := "part", desc := "(IIIII)I" } : Jvm.MethodName)) ∈ lw_all := lw_g (lw_at lw_m35 91 rfl) rfl
theorem q8731 : (Jvm.Cond.instanceMethod ({ cls := "KnowHouseModel$RuleEngineModel", name := "part", desc := "(IIIII)I" } : Jvm.MethodName)) ∈ lw_all := lw_g (lw_at lw_m35 93 rfl) rfl
theorem q8732 : (Jvm.Cond.code ({ cls := "KnowHouseModel$RuleEngineModel", name := "part", desc := "(IIIII)I" } : Jvm.MethodName) prog_88_method_11_code (7 : Nat) (Option.some Jvm.ClassFile.FieldType.int)) ∈ lw_all := lw_g (lw_at lw_m35 94 rfl) rfl
theorem gX55_68 : GoodIn lw_all (va_wsS RX55 68 yX55_isName (ws_ yX55_isName cX55_isName 1 (Option.some Jvm.ClassFile.FieldType.boolean))) := lw_S q7363 q7364 q550 q7365
theorem gX55_72 : GoodIn lw_all (va_wsS RX55 72 yX55_isNumber (ws_ yX55_isNumber cX55_isNumber 1 (Option.some Jvm.ClassFile.FieldType.boolean))) := lw_S q7366 q7367 q550 q7368
theorem gX55_75 : GoodIn lw_all (va_wsS RX55 75 yX55_isFact (ws_ yX55_isFact cX55_isFact 3 (Option.some Jvm.ClassFile.FieldType.boolean))) := lw_S q7360 q7361 q550 q7362
theorem gX55_79 : GoodIn lw_all (va_wsS RX55 79 yX55_code (ws_ yX55_code cX55_code 3 (Option.some Jvm.ClassFile.FieldType.int))) := lw_S q7369 q7370 q550 q7371
theorem gX55_91 : GoodIn lw_all (va_wsS RX55 91 yX55_isItem (ws_ yX55_isItem cX55_isItem 1 (Option.some Jvm.ClassFile.FieldType.boolean))) := lw_S q8718 q8719 q550 q8720
theorem gX55_94 : GoodIn lw_all (wsV RX55 94 RX55 yX55_isRule (ws_ yX55_isRule cX55_isRule 2 (Option.some Jvm.ClassFile.FieldType.boolean))) := lw_V q8725 q8727 qs444 q550 q8728
theorem gX55_97 : GoodIn lw_all (wsV RX55 97 RX55 yX55_part (ws_ yX55_part cX55_part 7 (Option.some Jvm.ClassFile.FieldType.int))) := lw_V q8729 q8731 qs445 q550 q8732
theorem gX55_101 : GoodIn lw_all (wsV RX55 101 RX55 yX55_isBound (ws_ yX55_isBound cX55_isBound 6 (Option.some Jvm.ClassFile.FieldType.boolean))) := lw_V q7900 q7902 qs350 q550 q7903
theorem gX55_105 : GoodIn lw_all (wsV RX55 105 RX55 yX55_isSafe (ws_ yX55_isSafe cX55_isSafe 5 (Option.some Jvm.ClassFile.FieldType.boolean))) := lw_V q7896 q7898 qs349 q550 q7899
theorem gX55_117 : GoodIn lw_all (wsV RX55 117 RX55 yX55_tell (ws_ yX55_tell cX55_tell 9 (Option.some Jvm.ClassFile.FieldType.boolean))) := lw_V q7929 q7931 qs357 q550 q7932
theorem gX55_120 : GoodIn lw_all (wsV RX55 120 RX55 yX55_passes (ws_ yX55_passes cX55_passes 7 (Option.some Jvm.ClassFile.FieldType.boolean))) := lw_V q7933 q7935 qs358 q550 q7936
theorem gX55_123 : GoodIn lw_all (wsV RX55 123 RX55 yX55_isOld (ws_ yX55_isOld cX55_isOld 2 (Option.some Jvm.ClassFile.FieldType.boolean))) := lw_V q7941 q7943 qs360 q550 q7944
theorem gX55_126 : GoodIn lw_all (wsV RX55 126 RX55 yX55_valueOf (ws_ yX55_valueOf cX55_valueOf 2 (Option.some Jvm.ClassFile.FieldType.int))) := lw_V q7937 q7939 qs359 q550 q7940
theorem gX55_133 : GoodIn lw_all (wsV RX55 133 RX55 yX55_begin (ws_ yX55_begin cX55_begin 3 (Option.none : Option Jvm.ClassFile.FieldType))) := lw_V q7921 q7923 qs355 q550 q7924
theorem gX55_137 : GoodIn lw_all (wsV RX55 137 RX55 yX55_next (ws_ yX55_next cX55_next 6 (Option.some Jvm.ClassFile.FieldType.boolean))) := lw_V q7925 q7927 qs356 q550 q7928
theorem gX55_141 : GoodIn lw_all (wsV RX55 141 RX55 yX55_give (ws_ yX55_give cX55_give 3 (Option.none : Option Jvm.ClassFile.FieldType))) := lw_V q7945 q7947 qs361 q550 q7948
theorem gX55_145 : GoodIn lw_all (wsV RX55 145 RX55 yX55_need (ws_ yX55_need cX55_need 6 (Option.none : Option Jvm.ClassFile.FieldType))) := lw_V q7892 q7894 qs348 q550 q7895
theorem gX55_148 : GoodIn lw_all (wsV RX55 148 RX55 yX55_layer (ws_ yX55_layer cX55_layer 4 (Option.none : Option Jvm.ClassFile.FieldType))) := lw_V q7904 q7906 qs351 q550 q7907
theorem gX55_161 : GoodIn lw_all (wsV RX55 161 RX55 yX55_addWork (ws_ yX55_addWork cX55_addWork 7 (Option.none : Option Jvm.ClassFile.FieldType))) := lw_V q7908 q7910 qs352 q550 q7911
theorem gX55_164 : GoodIn lw_all (wsV RX55 164 RX55 yX55_spread (ws_ yX55_spread cX55_spread 8 (Option.none : Option Jvm.ClassFile.FieldType))) := lw_V q7917 q7919 qs354 q550 q7920
theorem gX55_167 : GoodIn lw_all (wsV RX55 167 RX55 yX55_factsOf (ws_ yX55_factsOf cX55_factsOf 5 (Option.some Jvm.ClassFile.FieldType.long))) := lw_V q7912 q7914 qs353 q550 q7915
theorem gX55_173 : GoodIn lw_all (wsV RX55 173 RX55 yX55_work (ws_ yX55_work cX55_work 4 (Option.none : Option Jvm.ClassFile.FieldType))) := lw_V q7888 q7890 qs347 q550 q7891
theorem hX55_addWork : yX55_addWork.cls = RX55 ∧ yX55_addWork.cls ≠ "java/lang/invoke/MethodHandle" ∧ yX55_addWork.cls ≠ "java/lang/invoke/VarHandle" ∧ (parseMethodDescriptor yX55_addWork.desc).map (fun d => d.parameters.length) = some 1 := by decide +kernel
theorem hX55_begin : yX55_begin.cls = RX55 ∧ yX55_begin.cls ≠ "java/lang/invoke/MethodHandle" ∧ yX55_begin.cls ≠ "java/lang/invoke/VarHandle" ∧ (parseMethodDescriptor yX55_begin.desc).map (fun d => d.parameters.length) = some 1 := by decide +kernel
theorem hX55_code : yX55_code.cls ≠ "java/lang/invoke/MethodHandle" ∧ yX55_code.cls ≠ "java/lang/invoke/VarHandle" ∧ (parseMethodDescriptor yX55_code.desc).map (fun d => d.parameters.length) = some 3 := by decide +kernel
theorem hX55_factsOf : yX55_factsOf.cls = RX55 ∧ yX55_factsOf.cls ≠ "java/lang/invoke/MethodHandle" ∧ yX55_factsOf.cls ≠ "java/lang/invoke/VarHandle" ∧ (parseMethodDescriptor yX55_factsOf.desc).map (fun d => d.parameters.length) = some 1 := by decide +kernel
theorem hX55_give : yX55_give.cls = RX55 ∧ yX55_give.cls ≠ "java/lang/invoke/MethodHandle" ∧ yX55_give.cls ≠ "java/lang/invoke/VarHandle" ∧ (parseMethodDescriptor yX55_give.desc).map (fun d => d.parameters.length) = some 2 := by decide +kernel
theorem hX55_isBound : yX55_isBound.cls = RX55 ∧ yX55_isBound.cls ≠ "java/lang/invoke/MethodHandle" ∧ yX55_isBound.cls ≠ "java/lang/invoke/VarHandle" ∧ (parseMethodDescriptor yX55_isBound.desc).map (fun d => d.parameters.length) = some 2 := by decide +kernel
theorem hX55_isFact : yX55_isFact.cls ≠ "java/lang/invoke/MethodHandle" ∧ yX55_isFact.cls ≠ "java/lang/invoke/VarHandle" ∧ (parseMethodDescriptor yX55_isFact.desc).map (fun d => d.parameters.length) = some 3 := by decide +kernel
theorem hX55_isItem : yX55_isItem.cls ≠ "java/lang/invoke/MethodHandle" ∧ yX55_isItem.cls ≠ "java/lang/invoke/VarHandle" ∧ (parseMethodDescriptor yX55_isItem.desc).map (fun d => d.parameters.length) = some 1 := by decide +kernel
theorem hX55_isName : yX55_isName.cls ≠ "java/lang/invoke/MethodHandle" ∧ yX55_isName.cls ≠ "java/lang/invoke/VarHandle" ∧ (parseMethodDescriptor yX55_isName.desc).map (fun d => d.parameters.length) = some 1 := by decide +kernel
theorem hX55_isNumber : yX55_isNumber.cls ≠ "java/lang/invoke/MethodHandle" ∧ yX55_isNumber.cls ≠ "java/lang/invoke/VarHandle" ∧ (parseMethodDescriptor yX55_isNumber.desc).map (fun d => d.parameters.length) = some 1 := by decide +kernel
theorem hX55_isOld : yX55_isOld.cls = RX55 ∧ yX55_isOld.cls ≠ "java/lang/invoke/MethodHandle" ∧ yX55_isOld.cls ≠ "java/lang/invoke/VarHandle" ∧ (parseMethodDescriptor yX55_isOld.desc).map (fun d => d.parameters.length) = some 1 := by decide +kernel
theorem hX55_isRule : yX55_isRule.cls = RX55 ∧ yX55_isRule.cls ≠ "java/lang/invoke/MethodHandle" ∧ yX55_isRule.cls ≠ "java/lang/invoke/VarHandle" ∧ (parseMethodDescriptor yX55_isRule.desc).map (fun d => d.parameters.length) = some 1 := by decide +kernel
theorem hX55_isSafe : yX55_isSafe.cls = RX55 ∧ yX55_isSafe.cls ≠ "java/lang/invoke/MethodHandle" ∧ yX55_isSafe.cls ≠ "java/lang/invoke/VarHandle" ∧ (parseMethodDescriptor yX55_isSafe.desc).map (fun d => d.parameters.length) = some 1 := by decide +kernel
theorem hX55_layer : yX55_layer.cls = RX55 ∧ yX55_layer.cls ≠ "java/lang/invoke/MethodHandle" ∧ yX55_layer.cls ≠ "java/lang/invoke/VarHandle" ∧ (parseMethodDescriptor yX55_layer.desc).map (fun d => d.parameters.length) = some 0 := by decide +kernel
theorem hX55_need : yX55_need.cls = RX55 ∧ yX55_need.cls ≠ "java/lang/invoke/MethodHandle" ∧ yX55_need.cls ≠ "java/lang/invoke/VarHandle" ∧ (parseMethodDescriptor yX55_need.desc).map (fun d => d.parameters.length) = some 0 := by decide +kernel
theorem hX55_next : yX55_next.cls = RX55 ∧ yX55_next.cls ≠ "java/lang/invoke/MethodHandle" ∧ yX55_next.cls ≠ "java/lang/invoke/VarHandle" ∧ (parseMethodDescriptor yX55_next.desc).map (fun d => d.parameters.length) = some 2 := by decide +kernel
theorem hX55_part : yX55_part.cls = RX55 ∧ yX55_part.cls ≠ "java/lang/invoke/MethodHandle" ∧ yX55_part.cls ≠ "java/lang/invoke/VarHandle" ∧ (parseMethodDescriptor yX55_part.desc).map (fun d => d.parameters.length) = some 5 := by decide +kernel
theorem hX55_passes : yX55_passes.cls = RX55 ∧ yX55_passes.cls ≠ "java/lang/invoke/MethodHandle" ∧ yX55_passes.cls ≠ "java/lang/invoke/VarHandle" ∧ (parseMethodDescriptor yX55_passes.desc).map (fun d => d.parameters.length) = some 1 := by decide +kernel
theorem hX55_spread : yX55_spread.cls = RX55 ∧ yX55_spread.cls ≠ "java/lang/invoke/MethodHandle" ∧ yX55_spread.cls ≠ "java/lang/invoke/VarHandle" ∧ (parseMethodDescriptor yX55_spread.desc).map (fun d => d.parameters.length) = some 2 := by decide +kernel
theorem hX55_tell : yX55_tell.cls = RX55 ∧ yX55_tell.cls ≠ "java/lang/invoke/MethodHandle" ∧ yX55_tell.cls ≠ "java/lang/invoke/VarHandle" ∧ (parseMethodDescriptor yX55_tell.desc).map (fun d => d.parameters.length) = some 2 := by decide +kernel
theorem hX55_valueOf : yX55_valueOf.cls = RX55 ∧ yX55_valueOf.cls ≠ "java/lang/invoke/MethodHandle" ∧ yX55_valueOf.cls ≠ "java/lang/invoke/VarHandle" ∧ (parseMethodDescriptor yX55_valueOf.desc).map (fun d => d.parameters.length) = some 1 := by decide +kernel
theorem hX55_work : yX55_work.cls = RX55 ∧ yX55_work.cls ≠ "java/lang/invoke/MethodHandle" ∧ yX55_work.cls ≠ "java/lang/invoke/VarHandle" ∧ (parseMethodDescriptor yX55_work.desc).map (fun d => d.parameters.length) = some 0 := by decide +kernel
