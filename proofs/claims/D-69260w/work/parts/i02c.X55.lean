/-! KnowHouseModel$RuleEngineModel (printed by tools/zgen.py) -/
set_option maxRecDepth 100000
set_option maxHeartbeats 4000000 in
theorem walkX55_isName {l : Launch} {dC : Nat → ClassId} {dI : Nat → Nat → Nat} {cl : List vw_C} {ci : Nat} (hc : cl[ci]? = some (RX55, TX55, 28)) {ad : Nat → Nat} {d : Nat → ClassId} {sz : Nat} {f_said : Nat → Int32} {f_heads : Nat → Int32} {f_kinds : Nat → Int32} {f_folded : Nat → Int32} {f_lengths : Nat → Int32} {f_parts : Nat → Int32} {f_rules : Int32} {f_known : Int32} {f_rounds : Nat → Int32} {f_given : Nat → Int32} {f_strata : Nat → Int32} {f_circle : Int32} {f_turns : Int32} {f_needs : Nat → Int32} {f_comes : Nat → Int32} {f_values : Nat → Int32} {f_plain : Nat → Int32} {f_plainCount : Int32} {f_pointers : Nat → Int32} {f_now : Int32} {f_fresh : Nat → Int32} {f_many : Nat → Int32} {f_sums : Nat → Int32} {f_lows : Nat → Int32} {f_highs : Nat → Int32} {f_layed : Int32} {f_worked : Int64} {f_large : Int32} {x0 : Int32} {post : Int → Prop} (hw : wpX55_isName post  x0.toInt) :
    Met l yX55_isName (ws_ yX55_isName cX55_isName 1 (some .boolean)) ({ frames := 0, cells := 0, slots := 0, locals := 0 } : Room) (kPc (dC, dI) cl (tX55 d) [.int x0] sz (wX55 ci ad d f_said f_heads f_kinds f_folded f_lengths f_parts f_rules f_known f_rounds f_given f_strata f_circle f_turns f_needs f_comes f_values f_plain f_plainCount f_pointers f_now f_fresh f_many f_sums f_lows f_highs f_layed f_worked f_large)) (va_Qi (fun (r : Int32) (_ : Unit) => post r.toInt) (kB (dC, dI) cl (tX55 d) (va_A (wX55 ci ad d f_said f_heads f_kinds f_folded f_lengths f_parts f_rules f_known f_rounds f_given f_strata f_circle f_turns f_needs f_comes f_values f_plain f_plainCount f_pointers f_now f_fresh f_many f_sums f_lows f_highs f_layed f_worked f_large) sz) (fun _ : Unit => (wX55 ci ad d f_said f_heads f_kinds f_folded f_lengths f_parts f_rules f_known f_rounds f_given f_strata f_circle f_turns f_needs f_comes f_values f_plain f_plainCount f_pointers f_now f_fresh f_many f_sums f_lows f_highs f_layed f_worked f_large))) (va_A (wX55 ci ad d f_said f_heads f_kinds f_folded f_lengths f_parts f_rules f_known f_rounds f_given f_strata f_circle f_turns f_needs f_comes f_values f_plain f_plainCount f_pointers f_now f_fresh f_many f_sums f_lows f_highs f_layed f_worked f_large) sz)) 0 0 (va_A (wX55 ci ad d f_said f_heads f_kinds f_folded f_lengths f_parts f_rules f_known f_rounds f_given f_strata f_circle f_turns f_needs f_comes f_values f_plain f_plainCount f_pointers f_now f_fresh f_many f_sums f_lows f_highs f_layed f_worked f_large) sz) := by
  refine k_enter (by decide) (Nat.le_of_ble_eq_true rfl) ?_
  intro p e s m below meth c ls X hsz hH hl
  subst hsz
  generalize va_A (wX55 ci ad d f_said f_heads f_kinds f_folded f_lengths f_parts f_rules f_known f_rounds f_given f_strata f_circle f_turns f_needs f_comes f_values f_plain f_plainCount f_pointers f_now f_fresh f_many f_sums f_lows f_highs f_layed f_worked f_large) s.heap.size = A at hH ⊢
  have hx := X.1.1
  have hb := X.1.2.1
  have hl : lv_has ls 1 [(0, .int x0)] := hl
  unfold wpX55_isName at hw
  refine lv_iload_n hx hb dX55_isName_0 rfl (lv_at hl 0 rfl) ?_
  refine lv_if_lt (tgt := 14) hx hb dX55_isName_1 (by decide) (fun c_1 => ?_) (fun c_1 => ?_)
  · have hw := hw.1 (z_lt (rfl : x0.toInt = _) (rfl : (0 : Int32).toInt = 0) c_1)
    refine lv_iconst (v := 0) hx hb dX55_isName_14 (by decide) ?_
    exact k_iret (v := 0) X hH () hw rfl rfl dX55_isName_15
  · have hw := hw.2 (z_nlt (rfl : x0.toInt = _) (rfl : (0 : Int32).toInt = 0) c_1)
    refine lv_iload_n hx hb dX55_isName_4 rfl (lv_at hl 0 rfl) ?_
    refine lv_bipush (v := 16) hx hb dX55_isName_5 (by decide) ?_
    refine lv_icmp_ge (tgt := 14) hx hb dX55_isName_7 (by decide) (fun c_2 => ?_) (fun c_2 => ?_)
    · have hw := hw.1 (z_le (rfl : (16 : Int32).toInt = 16) (rfl : x0.toInt = _) c_2)
      refine lv_iconst (v := 0) hx hb dX55_isName_14 (by decide) ?_
      exact k_iret (v := 0) X hH () hw rfl rfl dX55_isName_15
    · have hw := hw.2 (z_nle (rfl : (16 : Int32).toInt = 16) (rfl : x0.toInt = _) c_2)
      refine lv_iconst (v := 1) hx hb dX55_isName_10 (by decide) ?_
      refine lv_goto (tgt := 15) hx hb dX55_isName_11 (by decide) ?_
      exact k_iret (v := 1) X hH () hw rfl rfl dX55_isName_15
set_option maxHeartbeats 4000000 in
theorem walkX55_isNumber {l : Launch} {dC : Nat → ClassId} {dI : Nat → Nat → Nat} {cl : List vw_C} {ci : Nat} (hc : cl[ci]? = some (RX55, TX55, 28)) {ad : Nat → Nat} {d : Nat → ClassId} {sz : Nat} {f_said : Nat → Int32} {f_heads : Nat → Int32} {f_kinds : Nat → Int32} {f_folded : Nat → Int32} {f_lengths : Nat → Int32} {f_parts : Nat → Int32} {f_rules : Int32} {f_known : Int32} {f_rounds : Nat → Int32} {f_given : Nat → Int32} {f_strata : Nat → Int32} {f_circle : Int32} {f_turns : Int32} {f_needs : Nat → Int32} {f_comes : Nat → Int32} {f_values : Nat → Int32} {f_plain : Nat → Int32} {f_plainCount : Int32} {f_pointers : Nat → Int32} {f_now : Int32} {f_fresh : Nat → Int32} {f_many : Nat → Int32} {f_sums : Nat → Int32} {f_lows : Nat → Int32} {f_highs : Nat → Int32} {f_layed : Int32} {f_worked : Int64} {f_large : Int32} {x0 : Int32} {post : Int → Prop} (hw : wpX55_isNumber post  x0.toInt) :
    Met l yX55_isNumber (ws_ yX55_isNumber cX55_isNumber 1 (some .boolean)) ({ frames := 0, cells := 0, slots := 0, locals := 0 } : Room) (kPc (dC, dI) cl (tX55 d) [.int x0] sz (wX55 ci ad d f_said f_heads f_kinds f_folded f_lengths f_parts f_rules f_known f_rounds f_given f_strata f_circle f_turns f_needs f_comes f_values f_plain f_plainCount f_pointers f_now f_fresh f_many f_sums f_lows f_highs f_layed f_worked f_large)) (va_Qi (fun (r : Int32) (_ : Unit) => post r.toInt) (kB (dC, dI) cl (tX55 d) (va_A (wX55 ci ad d f_said f_heads f_kinds f_folded f_lengths f_parts f_rules f_known f_rounds f_given f_strata f_circle f_turns f_needs f_comes f_values f_plain f_plainCount f_pointers f_now f_fresh f_many f_sums f_lows f_highs f_layed f_worked f_large) sz) (fun _ : Unit => (wX55 ci ad d f_said f_heads f_kinds f_folded f_lengths f_parts f_rules f_known f_rounds f_given f_strata f_circle f_turns f_needs f_comes f_values f_plain f_plainCount f_pointers f_now f_fresh f_many f_sums f_lows f_highs f_layed f_worked f_large))) (va_A (wX55 ci ad d f_said f_heads f_kinds f_folded f_lengths f_parts f_rules f_known f_rounds f_given f_strata f_circle f_turns f_needs f_comes f_values f_plain f_plainCount f_pointers f_now f_fresh f_many f_sums f_lows f_highs f_layed f_worked f_large) sz)) 0 0 (va_A (wX55 ci ad d f_said f_heads f_kinds f_folded f_lengths f_parts f_rules f_known f_rounds f_given f_strata f_circle f_turns f_needs f_comes f_values f_plain f_plainCount f_pointers f_now f_fresh f_many f_sums f_lows f_highs f_layed f_worked f_large) sz) := by
  refine k_enter (by decide) (Nat.le_of_ble_eq_true rfl) ?_
  intro p e s m below meth c ls X hsz hH hl
  subst hsz
  generalize va_A (wX55 ci ad d f_said f_heads f_kinds f_folded f_lengths f_parts f_rules f_known f_rounds f_given f_strata f_circle f_turns f_needs f_comes f_values f_plain f_plainCount f_pointers f_now f_fresh f_many f_sums f_lows f_highs f_layed f_worked f_large) s.heap.size = A at hH ⊢
  have hx := X.1.1
  have hb := X.1.2.1
  have hl : lv_has ls 1 [(0, .int x0)] := hl
  unfold wpX55_isNumber at hw
  refine lv_iload_n hx hb dX55_isNumber_0 rfl (lv_at hl 0 rfl) ?_
  refine lv_if_lt (tgt := 14) hx hb dX55_isNumber_1 (by decide) (fun c_1 => ?_) (fun c_1 => ?_)
  · have hw := hw.1 (z_lt (rfl : x0.toInt = _) (rfl : (0 : Int32).toInt = 0) c_1)
    refine lv_iconst (v := 0) hx hb dX55_isNumber_14 (by decide) ?_
    exact k_iret (v := 0) X hH () hw rfl rfl dX55_isNumber_15
  · have hw := hw.2 (z_nlt (rfl : x0.toInt = _) (rfl : (0 : Int32).toInt = 0) c_1)
    refine lv_iload_n hx hb dX55_isNumber_4 rfl (lv_at hl 0 rfl) ?_
    refine lv_bipush (v := 32) hx hb dX55_isNumber_5 (by decide) ?_
    refine lv_icmp_ge (tgt := 14) hx hb dX55_isNumber_7 (by decide) (fun c_2 => ?_) (fun c_2 => ?_)
    · have hw := hw.1 (z_le (rfl : (32 : Int32).toInt = 32) (rfl : x0.toInt = _) c_2)
      refine lv_iconst (v := 0) hx hb dX55_isNumber_14 (by decide) ?_
      exact k_iret (v := 0) X hH () hw rfl rfl dX55_isNumber_15
    · have hw := hw.2 (z_nle (rfl : (32 : Int32).toInt = 32) (rfl : x0.toInt = _) c_2)
      refine lv_iconst (v := 1) hx hb dX55_isNumber_10 (by decide) ?_
      refine lv_goto (tgt := 15) hx hb dX55_isNumber_11 (by decide) ?_
      exact k_iret (v := 1) X hH () hw rfl rfl dX55_isNumber_15
set_option maxHeartbeats 4000000 in
theorem walkX55_isFact {l : Launch} {dC : Nat → ClassId} {dI : Nat → Nat → Nat} {cl : List vw_C} {ci : Nat} (hc : cl[ci]? = some (RX55, TX55, 28)) {ad : Nat → Nat} {d : Nat → ClassId} {sz : Nat} {f_said : Nat → Int32} {f_heads : Nat → Int32} {f_kinds : Nat → Int32} {f_folded : Nat → Int32} {f_lengths : Nat → Int32} {f_parts : Nat → Int32} {f_rules : Int32} {f_known : Int32} {f_rounds : Nat → Int32} {f_given : Nat → Int32} {f_strata : Nat → Int32} {f_circle : Int32} {f_turns : Int32} {f_needs : Nat → Int32} {f_comes : Nat → Int32} {f_values : Nat → Int32} {f_plain : Nat → Int32} {f_plainCount : Int32} {f_pointers : Nat → Int32} {f_now : Int32} {f_fresh : Nat → Int32} {f_many : Nat → Int32} {f_sums : Nat → Int32} {f_lows : Nat → Int32} {f_highs : Nat → Int32} {f_layed : Int32} {f_worked : Int64} {f_large : Int32} {x0 : Int32} {x1 : Int32} {x2 : Int32} {post : Int → Prop} (hw : wpX55_isFact post  x0.toInt x1.toInt x2.toInt) :
    Met l yX55_isFact (ws_ yX55_isFact cX55_isFact 3 (some .boolean)) ({ frames := 1, cells := 0, slots := 0, locals := 20 } : Room) (kPc (dC, dI) cl (tX55 d) [.int x0, .int x1, .int x2] sz (wX55 ci ad d f_said f_heads f_kinds f_folded f_lengths f_parts f_rules f_known f_rounds f_given f_strata f_circle f_turns f_needs f_comes f_values f_plain f_plainCount f_pointers f_now f_fresh f_many f_sums f_lows f_highs f_layed f_worked f_large)) (va_Qi (fun (r : Int32) (_ : Unit) => post r.toInt) (kB (dC, dI) cl (tX55 d) (va_A (wX55 ci ad d f_said f_heads f_kinds f_folded f_lengths f_parts f_rules f_known f_rounds f_given f_strata f_circle f_turns f_needs f_comes f_values f_plain f_plainCount f_pointers f_now f_fresh f_many f_sums f_lows f_highs f_layed f_worked f_large) sz) (fun _ : Unit => (wX55 ci ad d f_said f_heads f_kinds f_folded f_lengths f_parts f_rules f_known f_rounds f_given f_strata f_circle f_turns f_needs f_comes f_values f_plain f_plainCount f_pointers f_now f_fresh f_many f_sums f_lows f_highs f_layed f_worked f_large))) (va_A (wX55 ci ad d f_said f_heads f_kinds f_folded f_lengths f_parts f_rules f_known f_rounds f_given f_strata f_circle f_turns f_needs f_comes f_values f_plain f_plainCount f_pointers f_now f_fresh f_many f_sums f_lows f_highs f_layed f_worked f_large) sz)) 0 0 (va_A (wX55 ci ad d f_said f_heads f_kinds f_folded f_lengths f_parts f_rules f_known f_rounds f_given f_strata f_circle f_turns f_needs f_comes f_values f_plain f_plainCount f_pointers f_now f_fresh f_many f_sums f_lows f_highs f_layed f_worked f_large) sz) := by
  refine k_enter (by decide) (Nat.le_of_ble_eq_true rfl) ?_
  intro p e s m below meth c ls X hsz hH hl
  subst hsz
  generalize va_A (wX55 ci ad d f_said f_heads f_kinds f_folded f_lengths f_parts f_rules f_known f_rounds f_given f_strata f_circle f_turns f_needs f_comes f_values f_plain f_plainCount f_pointers f_now f_fresh f_many f_sums f_lows f_highs f_layed f_worked f_large) s.heap.size = A at hH ⊢
  have hx := X.1.1
  have hb := X.1.2.1
  have hl : lv_has ls 3 [(0, .int x0), (1, .int x1), (2, .int x2)] := hl
  unfold wpX55_isFact at hw
  refine lv_iload_n hx hb dX55_isFact_0 rfl (lv_at hl 0 rfl) ?_
  refine k_i0 hH (k_runS (As := [.int x0]) (rest := []) X hH.1 hH.2.1 X.2.2.2 (walkX55_isName hc (x0 := x0) (f_said := f_said) (f_heads := f_heads) (f_kinds := f_kinds) (f_folded := f_folded) (f_lengths := f_lengths) (f_parts := f_parts) (f_rules := f_rules) (f_known := f_known) (f_rounds := f_rounds) (f_given := f_given) (f_strata := f_strata) (f_circle := f_circle) (f_turns := f_turns) (f_needs := f_needs) (f_comes := f_comes) (f_values := f_values) (f_plain := f_plain) (f_plainCount := f_plainCount) (f_pointers := f_pointers) (f_now := f_now) (f_fresh := f_fresh) (f_many := f_many) (f_sums := f_sums) (f_lows := f_lows) (f_highs := f_highs) (f_layed := f_layed) (f_worked := f_worked) (f_large := f_large) hw) (va_cwS 1 X.1.2.2.2.2 gX55_68 rfl rfl rfl hX55_isName ⟨Nat.le_of_ble_eq_true rfl, Nat.le_of_ble_eq_true rfl⟩) rfl hl.1 rfl (Nat.le_of_ble_eq_true rfl) dX55_isFact_1 ⟨Nat.le_refl 0, Nat.le_refl 0⟩) (fun r_1 _ H locs hw hH => ?_)
  have hH : kH (dC, dI) cl A s.heap H locs (wX55 ci ad d f_said f_heads f_kinds f_folded f_lengths f_parts f_rules f_known f_rounds f_given f_strata f_circle f_turns f_needs f_comes f_values f_plain f_plainCount f_pointers f_now f_fresh f_many f_sums f_lows f_highs f_layed f_worked f_large) := hH
  refine lv_if_eq (tgt := 25) hx hb dX55_isFact_4 (by decide) (fun c_2 => ?_) (fun c_2 => ?_)
  · have hw := hw.1 (z_eq (rfl : r_1.toInt = _) (rfl : (0 : Int32).toInt = 0) c_2)
    refine lv_iconst (v := 0) hx hb dX55_isFact_25 (by decide) ?_
    exact k_iret (v := 0) X hH () hw rfl rfl dX55_isFact_26
  · have hw := hw.2 (z_neq (rfl : r_1.toInt = _) (rfl : (0 : Int32).toInt = 0) c_2)
    refine lv_iload_n hx hb dX55_isFact_7 rfl (lv_at hl 1 rfl) ?_
    refine k_i0 hH (k_runS (As := [.int x1]) (rest := []) X hH.1 hH.2.1 X.2.2.2 (walkX55_isNumber hc (x0 := x1) (f_said := f_said) (f_heads := f_heads) (f_kinds := f_kinds) (f_folded := f_folded) (f_lengths := f_lengths) (f_parts := f_parts) (f_rules := f_rules) (f_known := f_known) (f_rounds := f_rounds) (f_given := f_given) (f_strata := f_strata) (f_circle := f_circle) (f_turns := f_turns) (f_needs := f_needs) (f_comes := f_comes) (f_values := f_values) (f_plain := f_plain) (f_plainCount := f_plainCount) (f_pointers := f_pointers) (f_now := f_now) (f_fresh := f_fresh) (f_many := f_many) (f_sums := f_sums) (f_lows := f_lows) (f_highs := f_highs) (f_layed := f_layed) (f_worked := f_worked) (f_large := f_large) hw) (va_cwS 1 X.1.2.2.2.2 gX55_72 rfl rfl rfl hX55_isNumber ⟨Nat.le_of_ble_eq_true rfl, Nat.le_of_ble_eq_true rfl⟩) rfl hl.1 rfl (Nat.le_of_ble_eq_true rfl) dX55_isFact_8 ⟨Nat.le_refl 0, Nat.le_refl 0⟩) (fun r_3 _ H locs hw hH => ?_)
    have hH : kH (dC, dI) cl A s.heap H locs (wX55 ci ad d f_said f_heads f_kinds f_folded f_lengths f_parts f_rules f_known f_rounds f_given f_strata f_circle f_turns f_needs f_comes f_values f_plain f_plainCount f_pointers f_now f_fresh f_many f_sums f_lows f_highs f_layed f_worked f_large) := hH
    refine lv_if_eq (tgt := 25) hx hb dX55_isFact_11 (by decide) (fun c_4 => ?_) (fun c_4 => ?_)
    · have hw := hw.1 (z_eq (rfl : r_3.toInt = _) (rfl : (0 : Int32).toInt = 0) c_4)
      refine lv_iconst (v := 0) hx hb dX55_isFact_25 (by decide) ?_
      exact k_iret (v := 0) X hH () hw rfl rfl dX55_isFact_26
    · have hw := hw.2 (z_neq (rfl : r_3.toInt = _) (rfl : (0 : Int32).toInt = 0) c_4)
      refine lv_iload_n hx hb dX55_isFact_14 rfl (lv_at hl 2 rfl) ?_
      refine k_i0 hH (k_runS (As := [.int x2]) (rest := []) X hH.1 hH.2.1 X.2.2.2 (walkX55_isNumber hc (x0 := x2) (f_said := f_said) (f_heads := f_heads) (f_kinds := f_kinds) (f_folded := f_folded) (f_lengths := f_lengths) (f_parts := f_parts) (f_rules := f_rules) (f_known := f_known) (f_rounds := f_rounds) (f_given := f_given) (f_strata := f_strata) (f_circle := f_circle) (f_turns := f_turns) (f_needs := f_needs) (f_comes := f_comes) (f_values := f_values) (f_plain := f_plain) (f_plainCount := f_plainCount) (f_pointers := f_pointers) (f_now := f_now) (f_fresh := f_fresh) (f_many := f_many) (f_sums := f_sums) (f_lows := f_lows) (f_highs := f_highs) (f_layed := f_layed) (f_worked := f_worked) (f_large := f_large) hw) (va_cwS 1 X.1.2.2.2.2 gX55_72 rfl rfl rfl hX55_isNumber ⟨Nat.le_of_ble_eq_true rfl, Nat.le_of_ble_eq_true rfl⟩) rfl hl.1 rfl (Nat.le_of_ble_eq_true rfl) dX55_isFact_15 ⟨Nat.le_refl 0, Nat.le_refl 0⟩) (fun r_5 _ H locs hw hH => ?_)
      have hH : kH (dC, dI) cl A s.heap H locs (wX55 ci ad d f_said f_heads f_kinds f_folded f_lengths f_parts f_rules f_known f_rounds f_given f_strata f_circle f_turns f_needs f_comes f_values f_plain f_plainCount f_pointers f_now f_fresh f_many f_sums f_lows f_highs f_layed f_worked f_large) := hH
      refine lv_if_eq (tgt := 25) hx hb dX55_isFact_18 (by decide) (fun c_6 => ?_) (fun c_6 => ?_)
      · have hw := hw.1 (z_eq (rfl : r_5.toInt = _) (rfl : (0 : Int32).toInt = 0) c_6)
        refine lv_iconst (v := 0) hx hb dX55_isFact_25 (by decide) ?_
        exact k_iret (v := 0) X hH () hw rfl rfl dX55_isFact_26
      · have hw := hw.2 (z_neq (rfl : r_5.toInt = _) (rfl : (0 : Int32).toInt = 0) c_6)
        refine lv_iconst (v := 1) hx hb dX55_isFact_21 (by decide) ?_
        refine lv_goto (tgt := 26) hx hb dX55_isFact_22 (by decide) ?_
        exact k_iret (v := 1) X hH () hw rfl rfl dX55_isFact_26
set_option maxHeartbeats 4000000 in
theorem walkX55_code {l : Launch} {dC : Nat → ClassId} {dI : Nat → Nat → Nat} {cl : List vw_C} {ci : Nat} (hc : cl[ci]? = some (RX55, TX55, 28)) {ad : Nat → Nat} {d : Nat → ClassId} {sz : Nat} {f_said : Nat → Int32} {f_heads : Nat → Int32} {f_kinds : Nat → Int32} {f_folded : Nat → Int32} {f_lengths : Nat → Int32} {f_parts : Nat → Int32} {f_rules : Int32} {f_known : Int32} {f_rounds : Nat → Int32} {f_given : Nat → Int32} {f_strata : Nat → Int32} {f_circle : Int32} {f_turns : Int32} {f_needs : Nat → Int32} {f_comes : Nat → Int32} {f_values : Nat → Int32} {f_plain : Nat → Int32} {f_plainCount : Int32} {f_pointers : Nat → Int32} {f_now : Int32} {f_fresh : Nat → Int32} {f_many : Nat → Int32} {f_sums : Nat → Int32} {f_lows : Nat → Int32} {f_highs : Nat → Int32} {f_layed : Int32} {f_worked : Int64} {f_large : Int32} {x0 : Int32} {x1 : Int32} {x2 : Int32} {post : Int → Prop} (hw : wpX55_code post  x0.toInt x1.toInt x2.toInt) :
    Met l yX55_code (ws_ yX55_code cX55_code 3 (some .int)) ({ frames := 0, cells := 0, slots := 0, locals := 0 } : Room) (kPc (dC, dI) cl (tX55 d) [.int x0, .int x1, .int x2] sz (wX55 ci ad d f_said f_heads f_kinds f_folded f_lengths f_parts f_rules f_known f_rounds f_given f_strata f_circle f_turns f_needs f_comes f_values f_plain f_plainCount f_pointers f_now f_fresh f_many f_sums f_lows f_highs f_layed f_worked f_large)) (va_Qi (fun (r : Int32) (_ : Unit) => post r.toInt) (kB (dC, dI) cl (tX55 d) (va_A (wX55 ci ad d f_said f_heads f_kinds f_folded f_lengths f_parts f_rules f_known f_rounds f_given f_strata f_circle f_turns f_needs f_comes f_values f_plain f_plainCount f_pointers f_now f_fresh f_many f_sums f_lows f_highs f_layed f_worked f_large) sz) (fun _ : Unit => (wX55 ci ad d f_said f_heads f_kinds f_folded f_lengths f_parts f_rules f_known f_rounds f_given f_strata f_circle f_turns f_needs f_comes f_values f_plain f_plainCount f_pointers f_now f_fresh f_many f_sums f_lows f_highs f_layed f_worked f_large))) (va_A (wX55 ci ad d f_said f_heads f_kinds f_folded f_lengths f_parts f_rules f_known f_rounds f_given f_strata f_circle f_turns f_needs f_comes f_values f_plain f_plainCount f_pointers f_now f_fresh f_many f_sums f_lows f_highs f_layed f_worked f_large) sz)) 0 0 (va_A (wX55 ci ad d f_said f_heads f_kinds f_folded f_lengths f_parts f_rules f_known f_rounds f_given f_strata f_circle f_turns f_needs f_comes f_values f_plain f_plainCount f_pointers f_now f_fresh f_many f_sums f_lows f_highs f_layed f_worked f_large) sz) := by
  refine k_enter (by decide) (Nat.le_of_ble_eq_true rfl) ?_
  intro p e s m below meth c ls X hsz hH hl
  subst hsz
  generalize va_A (wX55 ci ad d f_said f_heads f_kinds f_folded f_lengths f_parts f_rules f_known f_rounds f_given f_strata f_circle f_turns f_needs f_comes f_values f_plain f_plainCount f_pointers f_now f_fresh f_many f_sums f_lows f_highs f_layed f_worked f_large) s.heap.size = A at hH ⊢
  have hx := X.1.1
  have hb := X.1.2.1
  have hl : lv_has ls 3 [(0, .int x0), (1, .int x1), (2, .int x2)] := hl
  unfold wpX55_code at hw
  refine lv_sipush (v := 1024) hx hb dX55_code_0 (by decide) ?_
  refine lv_iload_n hx hb dX55_code_3 rfl (lv_at hl 0 rfl) ?_
  refine lv_imul hx hb dX55_code_4 ?_
  have e_1 := z_mul (z_m (rfl : (1024 : Int32).toInt = 1024)) (z_m (rfl : x0.toInt = _))
  refine lv_bipush (v := 32) hx hb dX55_code_5 (by decide) ?_
  refine lv_iload_n hx hb dX55_code_7 rfl (lv_at hl 1 rfl) ?_
  refine lv_imul hx hb dX55_code_8 ?_
  have e_2 := z_mul (z_m (rfl : (32 : Int32).toInt = 32)) (z_m (rfl : x1.toInt = _))
  refine lv_iadd hx hb dX55_code_9 ?_
  have e_3 := z_add e_1 e_2
  refine lv_iload_n hx hb dX55_code_10 rfl (lv_at hl 2 rfl) ?_
  refine lv_iadd hx hb dX55_code_11 ?_
  have e_4 := z_add e_3 (z_m (rfl : x2.toInt = _))
  have hq_5 := hw.1
  have hw := hw.2
  have e_6 := z_x e_4 hq_5
  exact k_iret (v := ((1024 * x0) + (32 * x1)) + x2) X hH () (by rw [show (((1024 * x0) + (32 * x1)) + x2 : Int32).toInt = _ from e_6]; exact hw) rfl rfl dX55_code_12
set_option maxHeartbeats 4000000 in
theorem walkX55_fact {l : Launch} {dC : Nat → ClassId} {dI : Nat → Nat → Nat} {cl : List vw_C} {ci : Nat} (hc : cl[ci]? = some (RX55, TX55, 28)) {ad : Nat → Nat} {d : Nat → ClassId} {sz : Nat} {f_said : Nat → Int32} {f_heads : Nat → Int32} {f_kinds : Nat → Int32} {f_folded : Nat → Int32} {f_lengths : Nat → Int32} {f_parts : Nat → Int32} {f_rules : Int32} {f_known : Int32} {f_rounds : Nat → Int32} {f_given : Nat → Int32} {f_strata : Nat → Int32} {f_circle : Int32} {f_turns : Int32} {f_needs : Nat → Int32} {f_comes : Nat → Int32} {f_values : Nat → Int32} {f_plain : Nat → Int32} {f_plainCount : Int32} {f_pointers : Nat → Int32} {f_now : Int32} {f_fresh : Nat → Int32} {f_many : Nat → Int32} {f_sums : Nat → Int32} {f_lows : Nat → Int32} {f_highs : Nat → Int32} {f_layed : Int32} {f_worked : Int64} {f_large : Int32} {x1 : Int32} {x2 : Int32} {x3 : Int32} {post : Int → (Int → Int) → Int → Prop} (hw : wpX55_fact post (zF f_said) f_known.toInt x1.toInt x2.toInt x3.toInt) :
    Met l yX55_fact (ws_ yX55_fact cX55_fact 4 (some .int)) ({ frames := 2, cells := 0, slots := 0, locals := 42 } : Room) (kPc (dC, dI) cl (tX55 d) [.ref (ad 0), .int x1, .int x2, .int x3] sz (wX55 ci ad d f_said f_heads f_kinds f_folded f_lengths f_parts f_rules f_known f_rounds f_given f_strata f_circle f_turns f_needs f_comes f_values f_plain f_plainCount f_pointers f_now f_fresh f_many f_sums f_lows f_highs f_layed f_worked f_large)) (va_Qi (fun (r : Int32) (u : (Nat → Int32) × Int32) => post r.toInt (zF (u.1)) (u.2).toInt) (kB (dC, dI) cl (tX55 d) (va_A (wX55 ci ad d f_said f_heads f_kinds f_folded f_lengths f_parts f_rules f_known f_rounds f_given f_strata f_circle f_turns f_needs f_comes f_values f_plain f_plainCount f_pointers f_now f_fresh f_many f_sums f_lows f_highs f_layed f_worked f_large) sz) (fun u : (Nat → Int32) × Int32 => (wX55 ci ad d (u.1) f_heads f_kinds f_folded f_lengths f_parts f_rules (u.2) f_rounds f_given f_strata f_circle f_turns f_needs f_comes f_values f_plain f_plainCount f_pointers f_now f_fresh f_many f_sums f_lows f_highs f_layed f_worked f_large))) (va_A (wX55 ci ad d f_said f_heads f_kinds f_folded f_lengths f_parts f_rules f_known f_rounds f_given f_strata f_circle f_turns f_needs f_comes f_values f_plain f_plainCount f_pointers f_now f_fresh f_many f_sums f_lows f_highs f_layed f_worked f_large) sz)) 0 0 (va_A (wX55 ci ad d f_said f_heads f_kinds f_folded f_lengths f_parts f_rules f_known f_rounds f_given f_strata f_circle f_turns f_needs f_comes f_values f_plain f_plainCount f_pointers f_now f_fresh f_many f_sums f_lows f_highs f_layed f_worked f_large) sz) := by
  refine k_enter (by decide) (Nat.le_of_ble_eq_true rfl) ?_
  intro p e s m below meth c ls X hsz hH hl
  subst hsz
  generalize va_A (wX55 ci ad d f_said f_heads f_kinds f_folded f_lengths f_parts f_rules f_known f_rounds f_given f_strata f_circle f_turns f_needs f_comes f_values f_plain f_plainCount f_pointers f_now f_fresh f_many f_sums f_lows f_highs f_layed f_worked f_large) s.heap.size = A at hH ⊢
  have hx := X.1.1
  have hb := X.1.2.1
  have hl : lv_has ls 4 [(0, .ref (ad 0)), (1, .int x1), (2, .int x2), (3, .int x3)] := hl
  unfold wpX55_fact at hw
  refine lv_iload_n hx hb dX55_fact_0 rfl (lv_at hl 1 rfl) ?_
  refine lv_iload_n hx hb dX55_fact_1 rfl (lv_at hl 2 rfl) ?_
  refine lv_iload_n hx hb dX55_fact_2 rfl (lv_at hl 3 rfl) ?_
  refine k_i0 hH (k_runS (As := [.int x1, .int x2, .int x3]) (rest := []) X hH.1 hH.2.1 X.2.2.2 (walkX55_isFact hc (x0 := x1) (x1 := x2) (x2 := x3) (f_said := f_said) (f_heads := f_heads) (f_kinds := f_kinds) (f_folded := f_folded) (f_lengths := f_lengths) (f_parts := f_parts) (f_rules := f_rules) (f_known := f_known) (f_rounds := f_rounds) (f_given := f_given) (f_strata := f_strata) (f_circle := f_circle) (f_turns := f_turns) (f_needs := f_needs) (f_comes := f_comes) (f_values := f_values) (f_plain := f_plain) (f_plainCount := f_plainCount) (f_pointers := f_pointers) (f_now := f_now) (f_fresh := f_fresh) (f_many := f_many) (f_sums := f_sums) (f_lows := f_lows) (f_highs := f_highs) (f_layed := f_layed) (f_worked := f_worked) (f_large := f_large) hw) (va_cwS 3 X.1.2.2.2.2 gX55_75 rfl rfl rfl hX55_isFact ⟨Nat.le_of_ble_eq_true rfl, Nat.le_of_ble_eq_true rfl⟩) rfl hl.1 rfl (Nat.le_of_ble_eq_true rfl) dX55_fact_3 ⟨Nat.le_refl 0, Nat.le_refl 0⟩) (fun r_1 _ H locs hw hH => ?_)
  have hH : kH (dC, dI) cl A s.heap H locs (wX55 ci ad d f_said f_heads f_kinds f_folded f_lengths f_parts f_rules f_known f_rounds f_given f_strata f_circle f_turns f_needs f_comes f_values f_plain f_plainCount f_pointers f_now f_fresh f_many f_sums f_lows f_highs f_layed f_worked f_large) := hH
  refine lv_if_ne (tgt := 11) hx hb dX55_fact_6 (by decide) (fun c_2 => ?_) (fun c_2 => ?_)
  · have hw := hw.2 (z_ne (rfl : r_1.toInt = _) (rfl : (0 : Int32).toInt = 0) c_2)
    refine lv_aload_n hx hb dX55_fact_11 rfl (lv_at hl 0 rfl) ?_
    refine k_get X hH in_X55 0 rfl hc 0 (by decide) q6576 rfl dX55_fact_12 ?_
    refine lv_iload_n hx hb dX55_fact_15 rfl (lv_at hl 1 rfl) ?_
    refine lv_iload_n hx hb dX55_fact_16 rfl (lv_at hl 2 rfl) ?_
    refine lv_iload_n hx hb dX55_fact_17 rfl (lv_at hl 3 rfl) ?_
    refine k_i0 hH (k_runS (As := [.int x1, .int x2, .int x3]) (rest := [.ref (ad 1)]) X hH.1 hH.2.1 X.2.2.2 (walkX55_code hc (x0 := x1) (x1 := x2) (x2 := x3) (f_said := f_said) (f_heads := f_heads) (f_kinds := f_kinds) (f_folded := f_folded) (f_lengths := f_lengths) (f_parts := f_parts) (f_rules := f_rules) (f_known := f_known) (f_rounds := f_rounds) (f_given := f_given) (f_strata := f_strata) (f_circle := f_circle) (f_turns := f_turns) (f_needs := f_needs) (f_comes := f_comes) (f_values := f_values) (f_plain := f_plain) (f_plainCount := f_plainCount) (f_pointers := f_pointers) (f_now := f_now) (f_fresh := f_fresh) (f_many := f_many) (f_sums := f_sums) (f_lows := f_lows) (f_highs := f_highs) (f_layed := f_layed) (f_worked := f_worked) (f_large := f_large) hw) (va_cwS 3 X.1.2.2.2.2 gX55_79 rfl rfl rfl hX55_code ⟨Nat.le_of_ble_eq_true rfl, Nat.le_of_ble_eq_true rfl⟩) rfl hl.1 rfl (Nat.le_of_ble_eq_true rfl) dX55_fact_18 ⟨Nat.le_refl 0, Nat.le_refl 0⟩) (fun r_3 _ H locs hw hH => ?_)
    have hH : kH (dC, dI) cl A s.heap H locs (wX55 ci ad d f_said f_heads f_kinds f_folded f_lengths f_parts f_rules f_known f_rounds f_given f_strata f_circle f_turns f_needs f_comes f_values f_plain f_plainCount f_pointers f_now f_fresh f_many f_sums f_lows f_highs f_layed f_worked f_large) := hH
    have hq_4 := hw.1
    have hw := hw.2
    refine k_zald X hH 1 0 rfl rfl (z_in (rfl : r_3.toInt = _) hq_4) dX55_fact_21 ?_
    have e_5 := z_ld (f := f_said) (rfl : r_3.toInt = _) hq_4.1
    refine lv_if_eq (tgt := 27) hx hb dX55_fact_22 (by decide) (fun c_6 => ?_) (fun c_6 => ?_)
    · have hw := hw.1 (z_eq e_5 (rfl : (0 : Int32).toInt = 0) c_6)
      refine lv_aload_n hx hb dX55_fact_27 rfl (lv_at hl 0 rfl) ?_
      refine k_get X hH in_X55 0 rfl hc 0 (by decide) q6576 rfl dX55_fact_28 ?_
      refine lv_iload_n hx hb dX55_fact_31 rfl (lv_at hl 1 rfl) ?_
      refine lv_iload_n hx hb dX55_fact_32 rfl (lv_at hl 2 rfl) ?_
      refine lv_iload_n hx hb dX55_fact_33 rfl (lv_at hl 3 rfl) ?_
      refine k_i0 hH (k_runS (As := [.int x1, .int x2, .int x3]) (rest := [.ref (ad 1)]) X hH.1 hH.2.1 X.2.2.2 (walkX55_code hc (x0 := x1) (x1 := x2) (x2 := x3) (f_said := f_said) (f_heads := f_heads) (f_kinds := f_kinds) (f_folded := f_folded) (f_lengths := f_lengths) (f_parts := f_parts) (f_rules := f_rules) (f_known := f_known) (f_rounds := f_rounds) (f_given := f_given) (f_strata := f_strata) (f_circle := f_circle) (f_turns := f_turns) (f_needs := f_needs) (f_comes := f_comes) (f_values := f_values) (f_plain := f_plain) (f_plainCount := f_plainCount) (f_pointers := f_pointers) (f_now := f_now) (f_fresh := f_fresh) (f_many := f_many) (f_sums := f_sums) (f_lows := f_lows) (f_highs := f_highs) (f_layed := f_layed) (f_worked := f_worked) (f_large := f_large) hw) (va_cwS 3 X.1.2.2.2.2 gX55_79 rfl rfl rfl hX55_code ⟨Nat.le_of_ble_eq_true rfl, Nat.le_of_ble_eq_true rfl⟩) rfl hl.1 rfl (Nat.le_of_ble_eq_true rfl) dX55_fact_34 ⟨Nat.le_refl 0, Nat.le_refl 0⟩) (fun r_7 _ H locs hw hH => ?_)
      have hH : kH (dC, dI) cl A s.heap H locs (wX55 ci ad d f_said f_heads f_kinds f_folded f_lengths f_parts f_rules f_known f_rounds f_given f_strata f_circle f_turns f_needs f_comes f_values f_plain f_plainCount f_pointers f_now f_fresh f_many f_sums f_lows f_highs f_layed f_worked f_large) := hH
      refine lv_iconst (v := 1) hx hb dX55_fact_37 (by decide) ?_
      have hq_9 := hw.1
      have hw := hw.2
      obtain ⟨f_said_8, ef_said_8⟩ : ∃ y : Nat → Int32, y = upd f_said r_7.toNatClampNeg (vp_nar .boolean 1) := ⟨_, rfl⟩
      refine k_zast X hH 1 0 rfl rfl (z_in (rfl : r_7.toInt = _) hq_9) dX55_fact_38 ef_said_8 (ws1 := (wX55 ci ad d f_said_8 f_heads f_kinds f_folded f_lengths f_parts f_rules f_known f_rounds f_given f_strata f_circle f_turns f_needs f_comes f_values f_plain f_plainCount f_pointers f_now f_fresh f_many f_sums f_lows f_highs f_layed f_worked f_large)) rfl (fun H locs hH => ?_)
      have hw := hw (zF f_said_8) (by rw [ef_said_8]; exact z_st (f := f_said) (rfl : r_7.toInt = _) hq_9.1 (z_narZ (rfl : (1 : Int32).toInt = 1) (by decide)))
      refine lv_aload_n hx hb dX55_fact_39 rfl (lv_at hl 0 rfl) ?_
      refine lv_iconst (v := 0) hx hb dX55_fact_40 (by decide) ?_
      refine k_put X hH in_X55 tyX55_ok nmX55 0 rfl hc 7 (by decide) q6583 rfl (ty := .boolean) rfl rfl rfl (Nat.le_of_ble_eq_true rfl) dX55_fact_41 (ws1 := (wX55 ci ad d f_said_8 f_heads f_kinds f_folded f_lengths f_parts f_rules 0 f_rounds f_given f_strata f_circle f_turns f_needs f_comes f_values f_plain f_plainCount f_pointers f_now f_fresh f_many f_sums f_lows f_highs f_layed f_worked f_large)) rfl (fun H locs hH => ?_)
      refine lv_iconst (v := 1) hx hb dX55_fact_44 (by decide) ?_
      exact k_iret (v := 1) X hH (f_said_8, 0) hw rfl rfl dX55_fact_45
    · have hw := hw.2 (z_neq e_5 (rfl : (0 : Int32).toInt = 0) c_6)
      refine lv_iconst (v := 0) hx hb dX55_fact_25 (by decide) ?_
      exact k_iret (v := 0) X hH (f_said, f_known) hw rfl rfl dX55_fact_26
  · have hw := hw.1 (z_eq (rfl : r_1.toInt = _) (rfl : (0 : Int32).toInt = 0) c_2)
    refine lv_iconst (v := (-1)) hx hb dX55_fact_9 (by decide) ?_
    exact k_iret (v := (-1)) X hH (f_said, f_known) hw rfl rfl dX55_fact_10
set_option maxHeartbeats 4000000 in
theorem walkX55_remove {l : Launch} {dC : Nat → ClassId} {dI : Nat → Nat → Nat} {cl : List vw_C} {ci : Nat} (hc : cl[ci]? = some (RX55, TX55, 28)) {ad : Nat → Nat} {d : Nat → ClassId} {sz : Nat} {f_said : Nat → Int32} {f_heads : Nat → Int32} {f_kinds : Nat → Int32} {f_folded : Nat → Int32} {f_lengths : Nat → Int32} {f_parts : Nat → Int32} {f_rules : Int32} {f_known : Int32} {f_rounds : Nat → Int32} {f_given : Nat → Int32} {f_strata : Nat → Int32} {f_circle : Int32} {f_turns : Int32} {f_needs : Nat → Int32} {f_comes : Nat → Int32} {f_values : Nat → Int32} {f_plain : Nat → Int32} {f_plainCount : Int32} {f_pointers : Nat → Int32} {f_now : Int32} {f_fresh : Nat → Int32} {f_many : Nat → Int32} {f_sums : Nat → Int32} {f_lows : Nat → Int32} {f_highs : Nat → Int32} {f_layed : Int32} {f_worked : Int64} {f_large : Int32} {x1 : Int32} {x2 : Int32} {x3 : Int32} {post : Int → (Int → Int) → Int → Prop} (hw : wpX55_remove post (zF f_said) f_known.toInt x1.toInt x2.toInt x3.toInt) :
    Met l yX55_remove (ws_ yX55_remove cX55_remove 4 (some .int)) ({ frames := 2, cells := 0, slots := 0, locals := 42 } : Room) (kPc (dC, dI) cl (tX55 d) [.ref (ad 0), .int x1, .int x2, .int x3] sz (wX55 ci ad d f_said f_heads f_kinds f_folded f_lengths f_parts f_rules f_known f_rounds f_given f_strata f_circle f_turns f_needs f_comes f_values f_plain f_plainCount f_pointers f_now f_fresh f_many f_sums f_lows f_highs f_layed f_worked f_large)) (va_Qi (fun (r : Int32) (u : (Nat → Int32) × Int32) => post r.toInt (zF (u.1)) (u.2).toInt) (kB (dC, dI) cl (tX55 d) (va_A (wX55 ci ad d f_said f_heads f_kinds f_folded f_lengths f_parts f_rules f_known f_rounds f_given f_strata f_circle f_turns f_needs f_comes f_values f_plain f_plainCount f_pointers f_now f_fresh f_many f_sums f_lows f_highs f_layed f_worked f_large) sz) (fun u : (Nat → Int32) × Int32 => (wX55 ci ad d (u.1) f_heads f_kinds f_folded f_lengths f_parts f_rules (u.2) f_rounds f_given f_strata f_circle f_turns f_needs f_comes f_values f_plain f_plainCount f_pointers f_now f_fresh f_many f_sums f_lows f_highs f_layed f_worked f_large))) (va_A (wX55 ci ad d f_said f_heads f_kinds f_folded f_lengths f_parts f_rules f_known f_rounds f_given f_strata f_circle f_turns f_needs f_comes f_values f_plain f_plainCount f_pointers f_now f_fresh f_many f_sums f_lows f_highs f_layed f_worked f_large) sz)) 0 0 (va_A (wX55 ci ad d f_said f_heads f_kinds f_folded f_lengths f_parts f_rules f_known f_rounds f_given f_strata f_circle f_turns f_needs f_comes f_values f_plain f_plainCount f_pointers f_now f_fresh f_many f_sums f_lows f_highs f_layed f_worked f_large) sz) := by
  refine k_enter (by decide) (Nat.le_of_ble_eq_true rfl) ?_
  intro p e s m below meth c ls X hsz hH hl
  subst hsz
  generalize va_A (wX55 ci ad d f_said f_heads f_kinds f_folded f_lengths f_parts f_rules f_known f_rounds f_given f_strata f_circle f_turns f_needs f_comes f_values f_plain f_plainCount f_pointers f_now f_fresh f_many f_sums f_lows f_highs f_layed f_worked f_large) s.heap.size = A at hH ⊢
  have hx := X.1.1
  have hb := X.1.2.1
  have hl : lv_has ls 4 [(0, .ref (ad 0)), (1, .int x1), (2, .int x2), (3, .int x3)] := hl
  unfold wpX55_remove at hw
  refine lv_iload_n hx hb dX55_remove_0 rfl (lv_at hl 1 rfl) ?_
  refine lv_iload_n hx hb dX55_remove_1 rfl (lv_at hl 2 rfl) ?_
  refine lv_iload_n hx hb dX55_remove_2 rfl (lv_at hl 3 rfl) ?_
  refine k_i0 hH (k_runS (As := [.int x1, .int x2, .int x3]) (rest := []) X hH.1 hH.2.1 X.2.2.2 (walkX55_isFact hc (x0 := x1) (x1 := x2) (x2 := x3) (f_said := f_said) (f_heads := f_heads) (f_kinds := f_kinds) (f_folded := f_folded) (f_lengths := f_lengths) (f_parts := f_parts) (f_rules := f_rules) (f_known := f_known) (f_rounds := f_rounds) (f_given := f_given) (f_strata := f_strata) (f_circle := f_circle) (f_turns := f_turns) (f_needs := f_needs) (f_comes := f_comes) (f_values := f_values) (f_plain := f_plain) (f_plainCount := f_plainCount) (f_pointers := f_pointers) (f_now := f_now) (f_fresh := f_fresh) (f_many := f_many) (f_sums := f_sums) (f_lows := f_lows) (f_highs := f_highs) (f_layed := f_layed) (f_worked := f_worked) (f_large := f_large) hw) (va_cwS 3 X.1.2.2.2.2 gX55_75 rfl rfl rfl hX55_isFact ⟨Nat.le_of_ble_eq_true rfl, Nat.le_of_ble_eq_true rfl⟩) rfl hl.1 rfl (Nat.le_of_ble_eq_true rfl) dX55_remove_3 ⟨Nat.le_refl 0, Nat.le_refl 0⟩) (fun r_1 _ H locs hw hH => ?_)
  have hH : kH (dC, dI) cl A s.heap H locs (wX55 ci ad d f_said f_heads f_kinds f_folded f_lengths f_parts f_rules f_known f_rounds f_given f_strata f_circle f_turns f_needs f_comes f_values f_plain f_plainCount f_pointers f_now f_fresh f_many f_sums f_lows f_highs f_layed f_worked f_large) := hH
  refine lv_if_ne (tgt := 11) hx hb dX55_remove_6 (by decide) (fun c_2 => ?_) (fun c_2 => ?_)
  · have hw := hw.2 (z_ne (rfl : r_1.toInt = _) (rfl : (0 : Int32).toInt = 0) c_2)
    refine lv_aload_n hx hb dX55_remove_11 rfl (lv_at hl 0 rfl) ?_
    refine k_get X hH in_X55 0 rfl hc 0 (by decide) q6576 rfl dX55_remove_12 ?_
    refine lv_iload_n hx hb dX55_remove_15 rfl (lv_at hl 1 rfl) ?_
    refine lv_iload_n hx hb dX55_remove_16 rfl (lv_at hl 2 rfl) ?_
    refine lv_iload_n hx hb dX55_remove_17 rfl (lv_at hl 3 rfl) ?_
    refine k_i0 hH (k_runS (As := [.int x1, .int x2, .int x3]) (rest := [.ref (ad 1)]) X hH.1 hH.2.1 X.2.2.2 (walkX55_code hc (x0 := x1) (x1 := x2) (x2 := x3) (f_said := f_said) (f_heads := f_heads) (f_kinds := f_kinds) (f_folded := f_folded) (f_lengths := f_lengths) (f_parts := f_parts) (f_rules := f_rules) (f_known := f_known) (f_rounds := f_rounds) (f_given := f_given) (f_strata := f_strata) (f_circle := f_circle) (f_turns := f_turns) (f_needs := f_needs) (f_comes := f_comes) (f_values := f_values) (f_plain := f_plain) (f_plainCount := f_plainCount) (f_pointers := f_pointers) (f_now := f_now) (f_fresh := f_fresh) (f_many := f_many) (f_sums := f_sums) (f_lows := f_lows) (f_highs := f_highs) (f_layed := f_layed) (f_worked := f_worked) (f_large := f_large) hw) (va_cwS 3 X.1.2.2.2.2 gX55_79 rfl rfl rfl hX55_code ⟨Nat.le_of_ble_eq_true rfl, Nat.le_of_ble_eq_true rfl⟩) rfl hl.1 rfl (Nat.le_of_ble_eq_true rfl) dX55_remove_18 ⟨Nat.le_refl 0, Nat.le_refl 0⟩) (fun r_3 _ H locs hw hH => ?_)
    have hH : kH (dC, dI) cl A s.heap H locs (wX55 ci ad d f_said f_heads f_kinds f_folded f_lengths f_parts f_rules f_known f_rounds f_given f_strata f_circle f_turns f_needs f_comes f_values f_plain f_plainCount f_pointers f_now f_fresh f_many f_sums f_lows f_highs f_layed f_worked f_large) := hH
    have hq_4 := hw.1
    have hw := hw.2
    refine k_zald X hH 1 0 rfl rfl (z_in (rfl : r_3.toInt = _) hq_4) dX55_remove_21 ?_
    have e_5 := z_ld (f := f_said) (rfl : r_3.toInt = _) hq_4.1
    refine lv_if_ne (tgt := 27) hx hb dX55_remove_22 (by decide) (fun c_6 => ?_) (fun c_6 => ?_)
    · have hw := hw.2 (z_ne e_5 (rfl : (0 : Int32).toInt = 0) c_6)
      refine lv_aload_n hx hb dX55_remove_27 rfl (lv_at hl 0 rfl) ?_
      refine k_get X hH in_X55 0 rfl hc 0 (by decide) q6576 rfl dX55_remove_28 ?_
      refine lv_iload_n hx hb dX55_remove_31 rfl (lv_at hl 1 rfl) ?_
      refine lv_iload_n hx hb dX55_remove_32 rfl (lv_at hl 2 rfl) ?_
      refine lv_iload_n hx hb dX55_remove_33 rfl (lv_at hl 3 rfl) ?_
      refine k_i0 hH (k_runS (As := [.int x1, .int x2, .int x3]) (rest := [.ref (ad 1)]) X hH.1 hH.2.1 X.2.2.2 (walkX55_code hc (x0 := x1) (x1 := x2) (x2 := x3) (f_said := f_said) (f_heads := f_heads) (f_kinds := f_kinds) (f_folded := f_folded) (f_lengths := f_lengths) (f_parts := f_parts) (f_rules := f_rules) (f_known := f_known) (f_rounds := f_rounds) (f_given := f_given) (f_strata := f_strata) (f_circle := f_circle) (f_turns := f_turns) (f_needs := f_needs) (f_comes := f_comes) (f_values := f_values) (f_plain := f_plain) (f_plainCount := f_plainCount) (f_pointers := f_pointers) (f_now := f_now) (f_fresh := f_fresh) (f_many := f_many) (f_sums := f_sums) (f_lows := f_lows) (f_highs := f_highs) (f_layed := f_layed) (f_worked := f_worked) (f_large := f_large) hw) (va_cwS 3 X.1.2.2.2.2 gX55_79 rfl rfl rfl hX55_code ⟨Nat.le_of_ble_eq_true rfl, Nat.le_of_ble_eq_true rfl⟩) rfl hl.1 rfl (Nat.le_of_ble_eq_true rfl) dX55_remove_34 ⟨Nat.le_refl 0, Nat.le_refl 0⟩) (fun r_7 _ H locs hw hH => ?_)
      have hH : kH (dC, dI) cl A s.heap H locs (wX55 ci ad d f_said f_heads f_kinds f_folded f_lengths f_parts f_rules f_known f_rounds f_given f_strata f_circle f_turns f_needs f_comes f_values f_plain f_plainCount f_pointers f_now f_fresh f_many f_sums f_lows f_highs f_layed f_worked f_large) := hH
      refine lv_iconst (v := 0) hx hb dX55_remove_37 (by decide) ?_
      have hq_9 := hw.1
      have hw := hw.2
      obtain ⟨f_said_8, ef_said_8⟩ : ∃ y : Nat → Int32, y = upd f_said r_7.toNatClampNeg (vp_nar .boolean 0) := ⟨_, rfl⟩
      refine k_zast X hH 1 0 rfl rfl (z_in (rfl : r_7.toInt = _) hq_9) dX55_remove_38 ef_said_8 (ws1 := (wX55 ci ad d f_said_8 f_heads f_kinds f_folded f_lengths f_parts f_rules f_known f_rounds f_given f_strata f_circle f_turns f_needs f_comes f_values f_plain f_plainCount f_pointers f_now f_fresh f_many f_sums f_lows f_highs f_layed f_worked f_large)) rfl (fun H locs hH => ?_)
      have hw := hw (zF f_said_8) (by rw [ef_said_8]; exact z_st (f := f_said) (rfl : r_7.toInt = _) hq_9.1 (z_narZ (rfl : (0 : Int32).toInt = 0) (by decide)))
      refine lv_aload_n hx hb dX55_remove_39 rfl (lv_at hl 0 rfl) ?_
      refine lv_iconst (v := 0) hx hb dX55_remove_40 (by decide) ?_
      refine k_put X hH in_X55 tyX55_ok nmX55 0 rfl hc 7 (by decide) q6583 rfl (ty := .boolean) rfl rfl rfl (Nat.le_of_ble_eq_true rfl) dX55_remove_41 (ws1 := (wX55 ci ad d f_said_8 f_heads f_kinds f_folded f_lengths f_parts f_rules 0 f_rounds f_given f_strata f_circle f_turns f_needs f_comes f_values f_plain f_plainCount f_pointers f_now f_fresh f_many f_sums f_lows f_highs f_layed f_worked f_large)) rfl (fun H locs hH => ?_)
      refine lv_iconst (v := 1) hx hb dX55_remove_44 (by decide) ?_
      exact k_iret (v := 1) X hH (f_said_8, 0) hw rfl rfl dX55_remove_45
    · have hw := hw.1 (z_eq e_5 (rfl : (0 : Int32).toInt = 0) c_6)
      refine lv_iconst (v := 0) hx hb dX55_remove_25 (by decide) ?_
      exact k_iret (v := 0) X hH (f_said, f_known) hw rfl rfl dX55_remove_26
  · have hw := hw.1 (z_eq (rfl : r_1.toInt = _) (rfl : (0 : Int32).toInt = 0) c_2)
    refine lv_iconst (v := (-1)) hx hb dX55_remove_9 (by decide) ?_
    exact k_iret (v := (-1)) X hH (f_said, f_known) hw rfl rfl dX55_remove_10
set_option maxHeartbeats 4000000 in
theorem atX55_isBound_13 {p : Program} {l : Launch} {e : Env} {s : State} {m : MethodId} {args : Array Value} {below : List Frame} {meth : Method} {c : Code} {dC : Nat → ClassId} {dI : Nat → Nat → Nat} {cl : List vw_C} {ci : Nat} (hc : cl[ci]? = some (RX55, TX55, 28)) {ad : Nat → Nat} {d : Nat → ClassId} {A : Nat → Prop} {post : Int → Prop} {f_said : Nat → Int32} {f_heads : Nat → Int32} {f_kinds : Nat → Int32} {f_folded : Nat → Int32} {f_lengths : Nat → Int32} {f_parts : Nat → Int32} {f_rules : Int32} {f_known : Int32} {f_rounds : Nat → Int32} {f_given : Nat → Int32} {f_strata : Nat → Int32} {f_circle : Int32} {f_turns : Int32} {f_needs : Nat → Int32} {f_comes : Nat → Int32} {f_values : Nat → Int32} {f_plain : Nat → Int32} {f_plainCount : Int32} {f_pointers : Nat → Int32} {f_now : Int32} {f_fresh : Nat → Int32} {f_many : Nat → Int32} {f_sums : Nat → Int32} {f_lows : Nat → Int32} {f_highs : Nat → Int32} {f_layed : Int32} {f_worked : Int64} {f_large : Int32} (X : kX p s m args meth c cX55_isBound 6 RX55 (some .boolean) (dC, dI) cl (tX55 d)) {K87 : Int → Prop} {x1 : Int32} {x2 : Int32}  (hk87 : ∀ (x3 : Int32), K87 x3.toInt → ∀ (H : Heap) (locs : List Loc) (ls : Array Slot), kH (dC, dI) cl A s.heap H locs (wX55 ci ad d f_said f_heads f_kinds f_folded f_lengths f_parts f_rules f_known f_rounds f_given f_strata f_circle f_turns f_needs f_comes f_values f_plain f_plainCount f_pointers f_now f_fresh f_many f_sums f_lows f_highs f_layed f_worked f_large) → lv_has ls 6 [(3, .int x3)] → W p l e ({ frames := 0, cells := 0, slots := 0, locals := 0 } : Room) s m args below meth c H locs 0 0 (MQ below (va_Qi (fun (r : Int32) (_ : Unit) => post r.toInt) (kB (dC, dI) cl (tX55 d) A (fun _ : Unit => (wX55 ci ad d f_said f_heads f_kinds f_folded f_lengths f_parts f_rules f_known f_rounds f_given f_strata f_circle f_turns f_needs f_comes f_values f_plain f_plainCount f_pointers f_now f_fresh f_many f_sums f_lows f_highs f_layed f_worked f_large))) A) args s 0 0 A) (F0 m 87 ls [])) :
    ∀ (nn : Nat) (x3 : Int32) (x4 : Int32), wX55_isBound_13 K87 x1.toInt x2.toInt (zF f_lengths) (zF f_parts) nn x3.toInt x4.toInt → ∀ (H : Heap) (locs : List Loc) (ls : Array Slot), kH (dC, dI) cl A s.heap H locs (wX55 ci ad d f_said f_heads f_kinds f_folded f_lengths f_parts f_rules f_known f_rounds f_given f_strata f_circle f_turns f_needs f_comes f_values f_plain f_plainCount f_pointers f_now f_fresh f_many f_sums f_lows f_highs f_layed f_worked f_large) → lv_has ls 6 [(0, .ref (ad 0)), (1, .int x1), (2, .int x2), (3, .int x3), (4, .int x4)] → W p l e ({ frames := 0, cells := 0, slots := 0, locals := 0 } : Room) s m args below meth c H locs 0 0 (MQ below (va_Qi (fun (r : Int32) (_ : Unit) => post r.toInt) (kB (dC, dI) cl (tX55 d) A (fun _ : Unit => (wX55 ci ad d f_said f_heads f_kinds f_folded f_lengths f_parts f_rules f_known f_rounds f_given f_strata f_circle f_turns f_needs f_comes f_values f_plain f_plainCount f_pointers f_now f_fresh f_many f_sums f_lows f_highs f_layed f_worked f_large))) A) args s 0 0 A) (F0 m 13 ls []) := by
  have hx := X.1.1
  have hb := X.1.2.1
  intro nn
  induction nn with
  | zero =>
    intro x3 x4 hw
    exact False.elim hw
  | succ n ih =>
    intro x3 x4 hw H locs ls hH hl
    rw [wX55_isBound_13] at hw
    refine lv_iload hx hb dX55_isBound_13 (lv_at hl 4 rfl) ?_
    refine lv_aload_n hx hb dX55_isBound_15 rfl (lv_at hl 0 rfl) ?_
    refine k_get X hH in_X55 0 rfl hc 4 (by decide) q6580 rfl dX55_isBound_16 ?_
    refine lv_iload_n hx hb dX55_isBound_19 rfl (lv_at hl 1 rfl) ?_
    have hq_2 := hw.1
    have hw := hw.2
    refine k_iald X hH 5 4 rfl rfl (z_in (rfl : x1.toInt = _) hq_2) dX55_isBound_20 ?_
    have e_3 := z_ld (f := f_lengths) (rfl : x1.toInt = _) hq_2.1
    refine lv_icmp_ge (tgt := 87) hx hb dX55_isBound_21 (by decide) (fun c_4 => ?_) (fun c_4 => ?_)
    · have hw := hw.1 (z_le e_3 (rfl : x4.toInt = _) c_4)
      exact hk87 x3 hw _ _ ls hH (lv_sub hl [3] rfl)
    · have hw := hw.2 (z_nle e_3 (rfl : x4.toInt = _) c_4)
      refine lv_bipush (v := 20) hx hb dX55_isBound_24 (by decide) ?_
      refine lv_iload_n hx hb dX55_isBound_26 rfl (lv_at hl 1 rfl) ?_
      refine lv_imul hx hb dX55_isBound_27 ?_
      have e_5 := z_mul (z_m (rfl : (20 : Int32).toInt = 20)) (z_m (rfl : x1.toInt = _))
      refine lv_iconst (v := 4) hx hb dX55_isBound_28 (by decide) ?_
      refine lv_iload hx hb dX55_isBound_29 (lv_at hl 4 rfl) ?_
      refine lv_imul hx hb dX55_isBound_31 ?_
      have e_6 := z_mul (z_m (rfl : (4 : Int32).toInt = 4)) (z_m (rfl : x4.toInt = _))
      refine lv_iadd hx hb dX55_isBound_32 ?_
      have e_7 := z_add e_5 e_6
      have hq_8 := hw.1
      have hw := hw.2
      have e_9 := z_x e_7 hq_8
      refine lv_topi (fun x5_10 ex5_10 => ?_)
      have hw := hw x5_10.toInt (by rw [ex5_10]; exact e_9)
      refine lv_istore (lv' := [(5, .int x5_10), (0, .ref (ad 0)), (1, .int x1), (2, .int x2), (3, .int x3), (4, .int x4)]) hx hb dX55_isBound_33 hl (by decide) rfl (fun ls hl => ?_)
      refine lv_iload_n hx hb dX55_isBound_35 rfl (lv_at hl 4 rfl) ?_
      refine lv_if_ne (tgt := 75) hx hb dX55_isBound_36 (by decide) (fun c_11 => ?_) (fun c_11 => ?_)
      · have hw := hw.2 (z_ne (rfl : x3.toInt = _) (rfl : (0 : Int32).toInt = 0) c_11)
        refine lv_iconst (v := 1) hx hb dX55_isBound_75 (by decide) ?_
        refine lv_goto (tgt := 80) hx hb dX55_isBound_76 (by decide) ?_
        refine lv_istore_n (lv' := [(3, .int 1), (5, .int x5_10), (0, .ref (ad 0)), (1, .int x1), (2, .int x2), (4, .int x4)]) hx hb dX55_isBound_80 rfl hl (by decide) rfl (fun ls hl => ?_)
        have hq_13 := hw.1
        have hw := hw.2
        obtain ⟨x4_12, ex4_12⟩ : ∃ y : Int32, y = x4 + 1 := ⟨_, rfl⟩
        have hw := hw x4_12.toInt (by rw [ex4_12]; exact (z_x (z_add (z_m (rfl : x4.toInt = _)) (z_m (rfl : (1 : Int32).toInt = 1))) hq_13))
        refine lv_iinc (v := x4_12) (lv' := [(4, .int x4_12), (3, .int 1), (5, .int x5_10), (0, .ref (ad 0)), (1, .int x1), (2, .int x2)]) hx hb dX55_isBound_81 hl (k := 5) rfl (by rw [ex4_12]; rfl) (by decide) rfl (fun ls hl => ?_)
        refine lv_goto (tgt := 13) hx hb dX55_isBound_84 (by decide) ?_
        exact ih 1 x4_12 hw _ _ ls hH (lv_sub hl [3, 4, 5, 1, 0] rfl)
      · have hw := hw.1 (z_eq (rfl : x3.toInt = _) (rfl : (0 : Int32).toInt = 0) c_11)
        refine lv_aload_n hx hb dX55_isBound_39 rfl (lv_at hl 1 rfl) ?_
        refine k_get X hH in_X55 0 rfl hc 5 (by decide) q6581 rfl dX55_isBound_40 ?_
        refine lv_iload hx hb dX55_isBound_43 (lv_at hl 0 rfl) ?_
        have hq_14 := hw.1
        have hw := hw.2
        refine k_iald X hH 6 5 rfl rfl (z_in (rfl : x5_10.toInt = _) hq_14) dX55_isBound_45 ?_
        have e_15 := z_ld (f := f_parts) (rfl : x5_10.toInt = _) hq_14.1
        refine lv_if_ne (tgt := 79) hx hb dX55_isBound_46 (by decide) (fun c_16 => ?_) (fun c_16 => ?_)
        · have hw := hw.2 (z_ne e_15 (rfl : (0 : Int32).toInt = 0) c_16)
          refine lv_iconst (v := 0) hx hb dX55_isBound_79 (by decide) ?_
          refine lv_istore_n (lv' := [(3, .int 0), (5, .int x5_10), (0, .ref (ad 0)), (1, .int x1), (2, .int x2), (4, .int x4)]) hx hb dX55_isBound_80 rfl hl (by decide) rfl (fun ls hl => ?_)
          have hq_18 := hw.1
          have hw := hw.2
          obtain ⟨x4_17, ex4_17⟩ : ∃ y : Int32, y = x4 + 1 := ⟨_, rfl⟩
          have hw := hw x4_17.toInt (by rw [ex4_17]; exact (z_x (z_add (z_m (rfl : x4.toInt = _)) (z_m (rfl : (1 : Int32).toInt = 1))) hq_18))
          refine lv_iinc (v := x4_17) (lv' := [(4, .int x4_17), (3, .int 0), (5, .int x5_10), (0, .ref (ad 0)), (1, .int x1), (2, .int x2)]) hx hb dX55_isBound_81 hl (k := 5) rfl (by rw [ex4_17]; rfl) (by decide) rfl (fun ls hl => ?_)
          refine lv_goto (tgt := 13) hx hb dX55_isBound_84 (by decide) ?_
          exact ih 0 x4_17 hw _ _ ls hH (lv_sub hl [3, 4, 5, 1, 0] rfl)
        · have hw := hw.1 (z_eq e_15 (rfl : (0 : Int32).toInt = 0) c_16)
          refine lv_aload_n hx hb dX55_isBound_49 rfl (lv_at hl 1 rfl) ?_
          refine k_get X hH in_X55 0 rfl hc 5 (by decide) q6581 rfl dX55_isBound_50 ?_
          refine lv_iload hx hb dX55_isBound_53 (lv_at hl 0 rfl) ?_
          refine lv_iconst (v := 2) hx hb dX55_isBound_55 (by decide) ?_
          refine lv_iadd hx hb dX55_isBound_56 ?_
          have e_19 := z_add (z_m (rfl : x5_10.toInt = _)) (z_m (rfl : (2 : Int32).toInt = 2))
          have hq_20 := hw.1
          have hw := hw.2
          have e_21 := z_xi e_19 hq_20 (by decide)
          refine k_iald X hH 6 5 rfl rfl (z_in e_21 hq_20) dX55_isBound_57 ?_
          have e_22 := z_ld (f := f_parts) e_21 hq_20.1
          refine lv_iload_n hx hb dX55_isBound_58 rfl (lv_at hl 3 rfl) ?_
          refine lv_icmp_eq (tgt := 75) hx hb dX55_isBound_59 (by decide) (fun c_23 => ?_) (fun c_23 => ?_)
          · have hw := hw.1 (z_eq e_22 (rfl : x2.toInt = _) c_23)
            refine lv_iconst (v := 1) hx hb dX55_isBound_75 (by decide) ?_
            refine lv_goto (tgt := 80) hx hb dX55_isBound_76 (by decide) ?_
            refine lv_istore_n (lv' := [(3, .int 1), (5, .int x5_10), (0, .ref (ad 0)), (1, .int x1), (2, .int x2), (4, .int x4)]) hx hb dX55_isBound_80 rfl hl (by decide) rfl (fun ls hl => ?_)
            have hq_25 := hw.1
            have hw := hw.2
            obtain ⟨x4_24, ex4_24⟩ : ∃ y : Int32, y = x4 + 1 := ⟨_, rfl⟩
            have hw := hw x4_24.toInt (by rw [ex4_24]; exact (z_x (z_add (z_m (rfl : x4.toInt = _)) (z_m (rfl : (1 : Int32).toInt = 1))) hq_25))
            refine lv_iinc (v := x4_24) (lv' := [(4, .int x4_24), (3, .int 1), (5, .int x5_10), (0, .ref (ad 0)), (1, .int x1), (2, .int x2)]) hx hb dX55_isBound_81 hl (k := 5) rfl (by rw [ex4_24]; rfl) (by decide) rfl (fun ls hl => ?_)
            refine lv_goto (tgt := 13) hx hb dX55_isBound_84 (by decide) ?_
            exact ih 1 x4_24 hw _ _ ls hH (lv_sub hl [3, 4, 5, 1, 0] rfl)
          · have hw := hw.2 (z_neq e_22 (rfl : x2.toInt = _) c_23)
            refine lv_aload_n hx hb dX55_isBound_62 rfl (lv_at hl 1 rfl) ?_
            refine k_get X hH in_X55 0 rfl hc 5 (by decide) q6581 rfl dX55_isBound_63 ?_
            refine lv_iload hx hb dX55_isBound_66 (lv_at hl 0 rfl) ?_
            refine lv_iconst (v := 3) hx hb dX55_isBound_68 (by decide) ?_
            refine lv_iadd hx hb dX55_isBound_69 ?_
            have e_26 := z_add (z_m (rfl : x5_10.toInt = _)) (z_m (rfl : (3 : Int32).toInt = 3))
            have hq_27 := hw.1
            have hw := hw.2
            have e_28 := z_xi e_26 hq_27 (by decide)
            refine k_iald X hH 6 5 rfl rfl (z_in e_28 hq_27) dX55_isBound_70 ?_
            have e_29 := z_ld (f := f_parts) e_28 hq_27.1
            refine lv_iload_n hx hb dX55_isBound_71 rfl (lv_at hl 3 rfl) ?_
            refine lv_icmp_ne (tgt := 79) hx hb dX55_isBound_72 (by decide) (fun c_30 => ?_) (fun c_30 => ?_)
            · have hw := hw.2 (z_ne e_29 (rfl : x2.toInt = _) c_30)
              refine lv_iconst (v := 0) hx hb dX55_isBound_79 (by decide) ?_
              refine lv_istore_n (lv' := [(3, .int 0), (5, .int x5_10), (0, .ref (ad 0)), (1, .int x1), (2, .int x2), (4, .int x4)]) hx hb dX55_isBound_80 rfl hl (by decide) rfl (fun ls hl => ?_)
              have hq_32 := hw.1
              have hw := hw.2
              obtain ⟨x4_31, ex4_31⟩ : ∃ y : Int32, y = x4 + 1 := ⟨_, rfl⟩
              have hw := hw x4_31.toInt (by rw [ex4_31]; exact (z_x (z_add (z_m (rfl : x4.toInt = _)) (z_m (rfl : (1 : Int32).toInt = 1))) hq_32))
              refine lv_iinc (v := x4_31) (lv' := [(4, .int x4_31), (3, .int 0), (5, .int x5_10), (0, .ref (ad 0)), (1, .int x1), (2, .int x2)]) hx hb dX55_isBound_81 hl (k := 5) rfl (by rw [ex4_31]; rfl) (by decide) rfl (fun ls hl => ?_)
              refine lv_goto (tgt := 13) hx hb dX55_isBound_84 (by decide) ?_
              exact ih 0 x4_31 hw _ _ ls hH (lv_sub hl [3, 4, 5, 1, 0] rfl)
            · have hw := hw.1 (z_eq e_29 (rfl : x2.toInt = _) c_30)
              refine lv_iconst (v := 1) hx hb dX55_isBound_75 (by decide) ?_
              refine lv_goto (tgt := 80) hx hb dX55_isBound_76 (by decide) ?_
              refine lv_istore_n (lv' := [(3, .int 1), (5, .int x5_10), (0, .ref (ad 0)), (1, .int x1), (2, .int x2), (4, .int x4)]) hx hb dX55_isBound_80 rfl hl (by decide) rfl (fun ls hl => ?_)
              have hq_34 := hw.1
              have hw := hw.2
              obtain ⟨x4_33, ex4_33⟩ : ∃ y : Int32, y = x4 + 1 := ⟨_, rfl⟩
              have hw := hw x4_33.toInt (by rw [ex4_33]; exact (z_x (z_add (z_m (rfl : x4.toInt = _)) (z_m (rfl : (1 : Int32).toInt = 1))) hq_34))
              refine lv_iinc (v := x4_33) (lv' := [(4, .int x4_33), (3, .int 1), (5, .int x5_10), (0, .ref (ad 0)), (1, .int x1), (2, .int x2)]) hx hb dX55_isBound_81 hl (k := 5) rfl (by rw [ex4_33]; rfl) (by decide) rfl (fun ls hl => ?_)
              refine lv_goto (tgt := 13) hx hb dX55_isBound_84 (by decide) ?_
              exact ih 1 x4_33 hw _ _ ls hH (lv_sub hl [3, 4, 5, 1, 0] rfl)
set_option maxHeartbeats 4000000 in
theorem walkX55_isBound {l : Launch} {dC : Nat → ClassId} {dI : Nat → Nat → Nat} {cl : List vw_C} {ci : Nat} (hc : cl[ci]? = some (RX55, TX55, 28)) {ad : Nat → Nat} {d : Nat → ClassId} {sz : Nat} {f_said : Nat → Int32} {f_heads : Nat → Int32} {f_kinds : Nat → Int32} {f_folded : Nat → Int32} {f_lengths : Nat → Int32} {f_parts : Nat → Int32} {f_rules : Int32} {f_known : Int32} {f_rounds : Nat → Int32} {f_given : Nat → Int32} {f_strata : Nat → Int32} {f_circle : Int32} {f_turns : Int32} {f_needs : Nat → Int32} {f_comes : Nat → Int32} {f_values : Nat → Int32} {f_plain : Nat → Int32} {f_plainCount : Int32} {f_pointers : Nat → Int32} {f_now : Int32} {f_fresh : Nat → Int32} {f_many : Nat → Int32} {f_sums : Nat → Int32} {f_lows : Nat → Int32} {f_highs : Nat → Int32} {f_layed : Int32} {f_worked : Int64} {f_large : Int32} {x1 : Int32} {x2 : Int32} {post : Int → Prop} (hw : wpX55_isBound post (zF f_lengths) (zF f_parts) x1.toInt x2.toInt) :
    Met l yX55_isBound (ws_ yX55_isBound cX55_isBound 6 (some .boolean)) ({ frames := 0, cells := 0, slots := 0, locals := 0 } : Room) (kPc (dC, dI) cl (tX55 d) [.ref (ad 0), .int x1, .int x2] sz (wX55 ci ad d f_said f_heads f_kinds f_folded f_lengths f_parts f_rules f_known f_rounds f_given f_strata f_circle f_turns f_needs f_comes f_values f_plain f_plainCount f_pointers f_now f_fresh f_many f_sums f_lows f_highs f_layed f_worked f_large)) (va_Qi (fun (r : Int32) (_ : Unit) => post r.toInt) (kB (dC, dI) cl (tX55 d) (va_A (wX55 ci ad d f_said f_heads f_kinds f_folded f_lengths f_parts f_rules f_known f_rounds f_given f_strata f_circle f_turns f_needs f_comes f_values f_plain f_plainCount f_pointers f_now f_fresh f_many f_sums f_lows f_highs f_layed f_worked f_large) sz) (fun _ : Unit => (wX55 ci ad d f_said f_heads f_kinds f_folded f_lengths f_parts f_rules f_known f_rounds f_given f_strata f_circle f_turns f_needs f_comes f_values f_plain f_plainCount f_pointers f_now f_fresh f_many f_sums f_lows f_highs f_layed f_worked f_large))) (va_A (wX55 ci ad d f_said f_heads f_kinds f_folded f_lengths f_parts f_rules f_known f_rounds f_given f_strata f_circle f_turns f_needs f_comes f_values f_plain f_plainCount f_pointers f_now f_fresh f_many f_sums f_lows f_highs f_layed f_worked f_large) sz)) 0 0 (va_A (wX55 ci ad d f_said f_heads f_kinds f_folded f_lengths f_parts f_rules f_known f_rounds f_given f_strata f_circle f_turns f_needs f_comes f_values f_plain f_plainCount f_pointers f_now f_fresh f_many f_sums f_lows f_highs f_layed f_worked f_large) sz) := by
  refine k_enter (by decide) (Nat.le_of_ble_eq_true rfl) ?_
  intro p e s m below meth c ls X hsz hH hl
  subst hsz
  generalize va_A (wX55 ci ad d f_said f_heads f_kinds f_folded f_lengths f_parts f_rules f_known f_rounds f_given f_strata f_circle f_turns f_needs f_comes f_values f_plain f_plainCount f_pointers f_now f_fresh f_many f_sums f_lows f_highs f_layed f_worked f_large) s.heap.size = A at hH ⊢
  have hx := X.1.1
  have hb := X.1.2.1
  have hl : lv_has ls 6 [(0, .ref (ad 0)), (1, .int x1), (2, .int x2)] := hl
  unfold wpX55_isBound at hw
  refine lv_iload_n hx hb dX55_isBound_0 rfl (lv_at hl 2 rfl) ?_
  refine lv_if_lt (tgt := 8) hx hb dX55_isBound_1 (by decide) (fun c_1 => ?_) (fun c_1 => ?_)
  · have hw := hw.1 (z_lt (rfl : x2.toInt = _) (rfl : (0 : Int32).toInt = 0) c_1)
    refine lv_iconst (v := 0) hx hb dX55_isBound_8 (by decide) ?_
    refine lv_istore_n (lv' := [(3, .int 0), (0, .ref (ad 0)), (1, .int x1), (2, .int x2)]) hx hb dX55_isBound_9 rfl hl (by decide) rfl (fun ls hl => ?_)
    refine lv_iconst (v := 0) hx hb dX55_isBound_10 (by decide) ?_
    refine lv_istore (lv' := [(4, .int 0), (3, .int 0), (0, .ref (ad 0)), (1, .int x1), (2, .int x2)]) hx hb dX55_isBound_11 hl (by decide) rfl (fun ls hl => ?_)
    obtain ⟨fu, hw⟩ := hw
    refine atX55_isBound_13 hc X ?_ fu 0 0 hw _ _ ls hH (lv_sub hl [2, 3, 4, 1, 0] rfl)
    · intro x3_35 hw H locs ls hH hl
      refine lv_iload_n hx hb dX55_isBound_87 rfl (lv_at hl 0 rfl) ?_
      have hq_36 := hw.1
      have hw := hw.2
      exact k_iret (v := x3_35) X hH () hw rfl (k_zn (z_boolE (rfl : x3_35.toInt = _) hq_36)) dX55_isBound_88
  · have hw := hw.2 (z_nlt (rfl : x2.toInt = _) (rfl : (0 : Int32).toInt = 0) c_1)
    refine lv_iconst (v := 1) hx hb dX55_isBound_4 (by decide) ?_
    refine lv_goto (tgt := 9) hx hb dX55_isBound_5 (by decide) ?_
    refine lv_istore_n (lv' := [(3, .int 1), (0, .ref (ad 0)), (1, .int x1), (2, .int x2)]) hx hb dX55_isBound_9 rfl hl (by decide) rfl (fun ls hl => ?_)
    refine lv_iconst (v := 0) hx hb dX55_isBound_10 (by decide) ?_
    refine lv_istore (lv' := [(4, .int 0), (3, .int 1), (0, .ref (ad 0)), (1, .int x1), (2, .int x2)]) hx hb dX55_isBound_11 hl (by decide) rfl (fun ls hl => ?_)
    obtain ⟨fu, hw⟩ := hw
    refine atX55_isBound_13 hc X ?_ fu 1 0 hw _ _ ls hH (lv_sub hl [2, 3, 4, 1, 0] rfl)
    · intro x3_37 hw H locs ls hH hl
      refine lv_iload_n hx hb dX55_isBound_87 rfl (lv_at hl 0 rfl) ?_
      have hq_38 := hw.1
      have hw := hw.2
      exact k_iret (v := x3_37) X hH () hw rfl (k_zn (z_boolE (rfl : x3_37.toInt = _) hq_38)) dX55_isBound_88
set_option maxHeartbeats 4000000 in
theorem atX55_isSafe_70 {p : Program} {l : Launch} {e : Env} {s : State} {m : MethodId} {args : Array Value} {below : List Frame} {meth : Method} {c : Code} {dC : Nat → ClassId} {dI : Nat → Nat → Nat} {cl : List vw_C} {ci : Nat} (hc : cl[ci]? = some (RX55, TX55, 28)) {ad : Nat → Nat} {d : Nat → ClassId} {A : Nat → Prop} {post : Int → Prop} {f_said : Nat → Int32} {f_heads : Nat → Int32} {f_kinds : Nat → Int32} {f_folded : Nat → Int32} {f_lengths : Nat → Int32} {f_parts : Nat → Int32} {f_rules : Int32} {f_known : Int32} {f_rounds : Nat → Int32} {f_given : Nat → Int32} {f_strata : Nat → Int32} {f_circle : Int32} {f_turns : Int32} {f_needs : Nat → Int32} {f_comes : Nat → Int32} {f_values : Nat → Int32} {f_plain : Nat → Int32} {f_plainCount : Int32} {f_pointers : Nat → Int32} {f_now : Int32} {f_fresh : Nat → Int32} {f_many : Nat → Int32} {f_sums : Nat → Int32} {f_lows : Nat → Int32} {f_highs : Nat → Int32} {f_layed : Int32} {f_worked : Int64} {f_large : Int32} (X : kX p s m args meth c cX55_isSafe 5 RX55 (some .boolean) (dC, dI) cl (tX55 d)) {K150 : Int → Prop} {x1 : Int32}  (hk150 : ∀ (x2 : Int32), K150 x2.toInt → ∀ (H : Heap) (locs : List Loc) (ls : Array Slot), kH (dC, dI) cl A s.heap H locs (wX55 ci ad d f_said f_heads f_kinds f_folded f_lengths f_parts f_rules f_known f_rounds f_given f_strata f_circle f_turns f_needs f_comes f_values f_plain f_plainCount f_pointers f_now f_fresh f_many f_sums f_lows f_highs f_layed f_worked f_large) → lv_has ls 5 [(2, .int x2)] → W p l e ({ frames := 1, cells := 0, slots := 0, locals := 25 } : Room) s m args below meth c H locs 0 0 (MQ below (va_Qi (fun (r : Int32) (_ : Unit) => post r.toInt) (kB (dC, dI) cl (tX55 d) A (fun _ : Unit => (wX55 ci ad d f_said f_heads f_kinds f_folded f_lengths f_parts f_rules f_known f_rounds f_given f_strata f_circle f_turns f_needs f_comes f_values f_plain f_plainCount f_pointers f_now f_fresh f_many f_sums f_lows f_highs f_layed f_worked f_large))) A) args s 0 0 A) (F0 m 150 ls [])) :
    ∀ (nn : Nat) (x2 : Int32) (x3 : Int32), wX55_isSafe_70 K150 x1.toInt (zF f_lengths) (zF f_parts) nn x2.toInt x3.toInt → ∀ (H : Heap) (locs : List Loc) (ls : Array Slot), kH (dC, dI) cl A s.heap H locs (wX55 ci ad d f_said f_heads f_kinds f_folded f_lengths f_parts f_rules f_known f_rounds f_given f_strata f_circle f_turns f_needs f_comes f_values f_plain f_plainCount f_pointers f_now f_fresh f_many f_sums f_lows f_highs f_layed f_worked f_large) → lv_has ls 5 [(0, .ref (ad 0)), (1, .int x1), (2, .int x2), (3, .int x3)] → W p l e ({ frames := 1, cells := 0, slots := 0, locals := 25 } : Room) s m args below meth c H locs 0 0 (MQ below (va_Qi (fun (r : Int32) (_ : Unit) => post r.toInt) (kB (dC, dI) cl (tX55 d) A (fun _ : Unit => (wX55 ci ad d f_said f_heads f_kinds f_folded f_lengths f_parts f_rules f_known f_rounds f_given f_strata f_circle f_turns f_needs f_comes f_values f_plain f_plainCount f_pointers f_now f_fresh f_many f_sums f_lows f_highs f_layed f_worked f_large))) A) args s 0 0 A) (F0 m 70 ls []) := by
  have hx := X.1.1
  have hb := X.1.2.1
  intro nn
  induction nn with
  | zero =>
    intro x2 x3 hw
    exact False.elim hw
  | succ n ih =>
    intro x2 x3 hw H locs ls hH hl
    rw [wX55_isSafe_70] at hw
    refine lv_iload_n hx hb dX55_isSafe_70 rfl (lv_at hl 3 rfl) ?_
    refine lv_aload_n hx hb dX55_isSafe_71 rfl (lv_at hl 0 rfl) ?_
    refine k_get X hH in_X55 0 rfl hc 4 (by decide) q6580 rfl dX55_isSafe_72 ?_
    refine lv_iload_n hx hb dX55_isSafe_75 rfl (lv_at hl 1 rfl) ?_
    have hq_8 := hw.1
    have hw := hw.2
    refine k_iald X hH 5 4 rfl rfl (z_in (rfl : x1.toInt = _) hq_8) dX55_isSafe_76 ?_
    have e_9 := z_ld (f := f_lengths) (rfl : x1.toInt = _) hq_8.1
    refine lv_icmp_ge (tgt := 150) hx hb dX55_isSafe_77 (by decide) (fun c_10 => ?_) (fun c_10 => ?_)
    · have hw := hw.1 (z_le e_9 (rfl : x3.toInt = _) c_10)
      exact hk150 x2 hw _ _ ls hH (lv_sub hl [2] rfl)
    · have hw := hw.2 (z_nle e_9 (rfl : x3.toInt = _) c_10)
      refine lv_iload_n hx hb dX55_isSafe_80 rfl (lv_at hl 2 rfl) ?_
      refine lv_if_eq (tgt := 150) hx hb dX55_isSafe_81 (by decide) (fun c_11 => ?_) (fun c_11 => ?_)
      · have hw := hw.1 (z_eq (rfl : x2.toInt = _) (rfl : (0 : Int32).toInt = 0) c_11)
        exact hk150 x2 hw _ _ ls hH (lv_sub hl [2] rfl)
      · have hw := hw.2 (z_neq (rfl : x2.toInt = _) (rfl : (0 : Int32).toInt = 0) c_11)
        refine lv_bipush (v := 20) hx hb dX55_isSafe_84 (by decide) ?_
        refine lv_iload_n hx hb dX55_isSafe_86 rfl (lv_at hl 1 rfl) ?_
        refine lv_imul hx hb dX55_isSafe_87 ?_
        have e_12 := z_mul (z_m (rfl : (20 : Int32).toInt = 20)) (z_m (rfl : x1.toInt = _))
        refine lv_iconst (v := 4) hx hb dX55_isSafe_88 (by decide) ?_
        refine lv_iload_n hx hb dX55_isSafe_89 rfl (lv_at hl 3 rfl) ?_
        refine lv_imul hx hb dX55_isSafe_90 ?_
        have e_13 := z_mul (z_m (rfl : (4 : Int32).toInt = 4)) (z_m (rfl : x3.toInt = _))
        refine lv_iadd hx hb dX55_isSafe_91 ?_
        have e_14 := z_add e_12 e_13
        have hq_15 := hw.1
        have hw := hw.2
        have e_16 := z_x e_14 hq_15
        refine lv_topi (fun x4_17 ex4_17 => ?_)
        have hw := hw x4_17.toInt (by rw [ex4_17]; exact e_16)
        refine lv_istore (lv' := [(4, .int x4_17), (0, .ref (ad 0)), (1, .int x1), (2, .int x2), (3, .int x3)]) hx hb dX55_isSafe_92 hl (by decide) rfl (fun ls hl => ?_)
        refine lv_aload_n hx hb dX55_isSafe_94 rfl (lv_at hl 1 rfl) ?_
        refine k_get X hH in_X55 0 rfl hc 5 (by decide) q6581 rfl dX55_isSafe_95 ?_
        refine lv_iload hx hb dX55_isSafe_98 (lv_at hl 0 rfl) ?_
        have hq_18 := hw.1
        have hw := hw.2
        refine k_iald X hH 6 5 rfl rfl (z_in (rfl : x4_17.toInt = _) hq_18) dX55_isSafe_100 ?_
        have e_19 := z_ld (f := f_parts) (rfl : x4_17.toInt = _) hq_18.1
        refine lv_if_eq (tgt := 138) hx hb dX55_isSafe_101 (by decide) (fun c_20 => ?_) (fun c_20 => ?_)
        · have hw := hw.1 (z_eq e_19 (rfl : (0 : Int32).toInt = 0) c_20)
          refine lv_iconst (v := 1) hx hb dX55_isSafe_138 (by decide) ?_
          refine lv_goto (tgt := 143) hx hb dX55_isSafe_139 (by decide) ?_
          refine lv_istore_n (lv' := [(2, .int 1), (4, .int x4_17), (0, .ref (ad 0)), (1, .int x1), (3, .int x3)]) hx hb dX55_isSafe_143 rfl hl (by decide) rfl (fun ls hl => ?_)
          have hq_22 := hw.1
          have hw := hw.2
          obtain ⟨x3_21, ex3_21⟩ : ∃ y : Int32, y = x3 + 1 := ⟨_, rfl⟩
          have hw := hw x3_21.toInt (by rw [ex3_21]; exact (z_x (z_add (z_m (rfl : x3.toInt = _)) (z_m (rfl : (1 : Int32).toInt = 1))) hq_22))
          refine lv_iinc (v := x3_21) (lv' := [(3, .int x3_21), (2, .int 1), (4, .int x4_17), (0, .ref (ad 0)), (1, .int x1)]) hx hb dX55_isSafe_144 hl (k := 4) rfl (by rw [ex3_21]; rfl) (by decide) rfl (fun ls hl => ?_)
          refine lv_goto (tgt := 70) hx hb dX55_isSafe_147 (by decide) ?_
          exact ih 1 x3_21 hw _ _ ls hH (lv_sub hl [3, 4, 1, 0] rfl)
        · have hw := hw.2 (z_neq e_19 (rfl : (0 : Int32).toInt = 0) c_20)
          refine lv_aload_n hx hb dX55_isSafe_104 rfl (lv_at hl 1 rfl) ?_
          refine lv_iload_n hx hb dX55_isSafe_105 rfl (lv_at hl 2 rfl) ?_
          refine lv_aload_n hx hb dX55_isSafe_106 rfl (lv_at hl 1 rfl) ?_
          refine k_get X hH in_X55 0 rfl hc 5 (by decide) q6581 rfl dX55_isSafe_107 ?_
          refine lv_iload hx hb dX55_isSafe_110 (lv_at hl 0 rfl) ?_
          refine lv_iconst (v := 2) hx hb dX55_isSafe_112 (by decide) ?_
          refine lv_iadd hx hb dX55_isSafe_113 ?_
          have e_23 := z_add (z_m (rfl : x4_17.toInt = _)) (z_m (rfl : (2 : Int32).toInt = 2))
          have hq_24 := hw.1
          have hw := hw.2
          have e_25 := z_xi e_23 hq_24 (by decide)
          refine k_iald X hH 6 5 rfl rfl (z_in e_25 hq_24) dX55_isSafe_114 ?_
          have e_26 := z_ld (f := f_parts) e_25 hq_24.1
          refine k_i0 hH (k_runV (As := [.int x1, .int (f_parts (x4_17 + 2).toNatClampNeg)]) (rest := []) X hH.1 hH.2.1 X.2.2.2 (walkX55_isBound hc (x1 := x1) (x2 := (f_parts (x4_17 + 2).toNatClampNeg)) (f_said := f_said) (f_heads := f_heads) (f_kinds := f_kinds) (f_folded := f_folded) (f_lengths := f_lengths) (f_parts := f_parts) (f_rules := f_rules) (f_known := f_known) (f_rounds := f_rounds) (f_given := f_given) (f_strata := f_strata) (f_circle := f_circle) (f_turns := f_turns) (f_needs := f_needs) (f_comes := f_comes) (f_values := f_values) (f_plain := f_plain) (f_plainCount := f_plainCount) (f_pointers := f_pointers) (f_now := f_now) (f_fresh := f_fresh) (f_many := f_many) (f_sums := f_sums) (f_lows := f_lows) (f_highs := f_highs) (f_layed := f_layed) (f_worked := f_worked) (f_large := f_large) (by rw [show (f_parts (x4_17 + 2).toNatClampNeg : Int32).toInt = _ from e_26]; exact hw)) (cwV 2 X.1.2.2.2.2 gX55_101 rfl rfl rfl hX55_isBound ⟨Nat.le_of_ble_eq_true rfl, Nat.le_of_ble_eq_true rfl⟩) hc (q0 := 0) rfl rfl hl.1 rfl (Nat.le_of_ble_eq_true rfl) dX55_isSafe_115 ⟨Nat.le_refl 0, Nat.le_refl 0⟩) (fun r_27 _ H locs hw hH => ?_)
          have hH : kH (dC, dI) cl A s.heap H locs (wX55 ci ad d f_said f_heads f_kinds f_folded f_lengths f_parts f_rules f_known f_rounds f_given f_strata f_circle f_turns f_needs f_comes f_values f_plain f_plainCount f_pointers f_now f_fresh f_many f_sums f_lows f_highs f_layed f_worked f_large) := hH
          refine lv_if_eq (tgt := 142) hx hb dX55_isSafe_118 (by decide) (fun c_28 => ?_) (fun c_28 => ?_)
          · have hw := hw.1 (z_eq (rfl : r_27.toInt = _) (rfl : (0 : Int32).toInt = 0) c_28)
            refine lv_iconst (v := 0) hx hb dX55_isSafe_142 (by decide) ?_
            refine lv_istore_n (lv' := [(2, .int 0), (4, .int x4_17), (0, .ref (ad 0)), (1, .int x1), (3, .int x3)]) hx hb dX55_isSafe_143 rfl hl (by decide) rfl (fun ls hl => ?_)
            have hq_30 := hw.1
            have hw := hw.2
            obtain ⟨x3_29, ex3_29⟩ : ∃ y : Int32, y = x3 + 1 := ⟨_, rfl⟩
            have hw := hw x3_29.toInt (by rw [ex3_29]; exact (z_x (z_add (z_m (rfl : x3.toInt = _)) (z_m (rfl : (1 : Int32).toInt = 1))) hq_30))
            refine lv_iinc (v := x3_29) (lv' := [(3, .int x3_29), (2, .int 0), (4, .int x4_17), (0, .ref (ad 0)), (1, .int x1)]) hx hb dX55_isSafe_144 hl (k := 4) rfl (by rw [ex3_29]; rfl) (by decide) rfl (fun ls hl => ?_)
            refine lv_goto (tgt := 70) hx hb dX55_isSafe_147 (by decide) ?_
            exact ih 0 x3_29 hw _ _ ls hH (lv_sub hl [3, 4, 1, 0] rfl)
          · have hw := hw.2 (z_neq (rfl : r_27.toInt = _) (rfl : (0 : Int32).toInt = 0) c_28)
            refine lv_aload_n hx hb dX55_isSafe_121 rfl (lv_at hl 1 rfl) ?_
            refine lv_iload_n hx hb dX55_isSafe_122 rfl (lv_at hl 2 rfl) ?_
            refine lv_aload_n hx hb dX55_isSafe_123 rfl (lv_at hl 1 rfl) ?_
            refine k_get X hH in_X55 0 rfl hc 5 (by decide) q6581 rfl dX55_isSafe_124 ?_
            refine lv_iload hx hb dX55_isSafe_127 (lv_at hl 0 rfl) ?_
            refine lv_iconst (v := 3) hx hb dX55_isSafe_129 (by decide) ?_
            refine lv_iadd hx hb dX55_isSafe_130 ?_
            have e_31 := z_add (z_m (rfl : x4_17.toInt = _)) (z_m (rfl : (3 : Int32).toInt = 3))
            have hq_32 := hw.1
            have hw := hw.2
            have e_33 := z_xi e_31 hq_32 (by decide)
            refine k_iald X hH 6 5 rfl rfl (z_in e_33 hq_32) dX55_isSafe_131 ?_
            have e_34 := z_ld (f := f_parts) e_33 hq_32.1
            refine k_i0 hH (k_runV (As := [.int x1, .int (f_parts (x4_17 + 3).toNatClampNeg)]) (rest := []) X hH.1 hH.2.1 X.2.2.2 (walkX55_isBound hc (x1 := x1) (x2 := (f_parts (x4_17 + 3).toNatClampNeg)) (f_said := f_said) (f_heads := f_heads) (f_kinds := f_kinds) (f_folded := f_folded) (f_lengths := f_lengths) (f_parts := f_parts) (f_rules := f_rules) (f_known := f_known) (f_rounds := f_rounds) (f_given := f_given) (f_strata := f_strata) (f_circle := f_circle) (f_turns := f_turns) (f_needs := f_needs) (f_comes := f_comes) (f_values := f_values) (f_plain := f_plain) (f_plainCount := f_plainCount) (f_pointers := f_pointers) (f_now := f_now) (f_fresh := f_fresh) (f_many := f_many) (f_sums := f_sums) (f_lows := f_lows) (f_highs := f_highs) (f_layed := f_layed) (f_worked := f_worked) (f_large := f_large) (by rw [show (f_parts (x4_17 + 3).toNatClampNeg : Int32).toInt = _ from e_34]; exact hw)) (cwV 2 X.1.2.2.2.2 gX55_101 rfl rfl rfl hX55_isBound ⟨Nat.le_of_ble_eq_true rfl, Nat.le_of_ble_eq_true rfl⟩) hc (q0 := 0) rfl rfl hl.1 rfl (Nat.le_of_ble_eq_true rfl) dX55_isSafe_132 ⟨Nat.le_refl 0, Nat.le_refl 0⟩) (fun r_35 _ H locs hw hH => ?_)
            have hH : kH (dC, dI) cl A s.heap H locs (wX55 ci ad d f_said f_heads f_kinds f_folded f_lengths f_parts f_rules f_known f_rounds f_given f_strata f_circle f_turns f_needs f_comes f_values f_plain f_plainCount f_pointers f_now f_fresh f_many f_sums f_lows f_highs f_layed f_worked f_large) := hH
            refine lv_if_eq (tgt := 142) hx hb dX55_isSafe_135 (by decide) (fun c_36 => ?_) (fun c_36 => ?_)
            · have hw := hw.1 (z_eq (rfl : r_35.toInt = _) (rfl : (0 : Int32).toInt = 0) c_36)
              refine lv_iconst (v := 0) hx hb dX55_isSafe_142 (by decide) ?_
              refine lv_istore_n (lv' := [(2, .int 0), (4, .int x4_17), (0, .ref (ad 0)), (1, .int x1), (3, .int x3)]) hx hb dX55_isSafe_143 rfl hl (by decide) rfl (fun ls hl => ?_)
              have hq_38 := hw.1
              have hw := hw.2
              obtain ⟨x3_37, ex3_37⟩ : ∃ y : Int32, y = x3 + 1 := ⟨_, rfl⟩
              have hw := hw x3_37.toInt (by rw [ex3_37]; exact (z_x (z_add (z_m (rfl : x3.toInt = _)) (z_m (rfl : (1 : Int32).toInt = 1))) hq_38))
              refine lv_iinc (v := x3_37) (lv' := [(3, .int x3_37), (2, .int 0), (4, .int x4_17), (0, .ref (ad 0)), (1, .int x1)]) hx hb dX55_isSafe_144 hl (k := 4) rfl (by rw [ex3_37]; rfl) (by decide) rfl (fun ls hl => ?_)
              refine lv_goto (tgt := 70) hx hb dX55_isSafe_147 (by decide) ?_
              exact ih 0 x3_37 hw _ _ ls hH (lv_sub hl [3, 4, 1, 0] rfl)
            · have hw := hw.2 (z_neq (rfl : r_35.toInt = _) (rfl : (0 : Int32).toInt = 0) c_36)
              refine lv_iconst (v := 1) hx hb dX55_isSafe_138 (by decide) ?_
              refine lv_goto (tgt := 143) hx hb dX55_isSafe_139 (by decide) ?_
              refine lv_istore_n (lv' := [(2, .int 1), (4, .int x4_17), (0, .ref (ad 0)), (1, .int x1), (3, .int x3)]) hx hb dX55_isSafe_143 rfl hl (by decide) rfl (fun ls hl => ?_)
              have hq_40 := hw.1
              have hw := hw.2
              obtain ⟨x3_39, ex3_39⟩ : ∃ y : Int32, y = x3 + 1 := ⟨_, rfl⟩
              have hw := hw x3_39.toInt (by rw [ex3_39]; exact (z_x (z_add (z_m (rfl : x3.toInt = _)) (z_m (rfl : (1 : Int32).toInt = 1))) hq_40))
              refine lv_iinc (v := x3_39) (lv' := [(3, .int x3_39), (2, .int 1), (4, .int x4_17), (0, .ref (ad 0)), (1, .int x1)]) hx hb dX55_isSafe_144 hl (k := 4) rfl (by rw [ex3_39]; rfl) (by decide) rfl (fun ls hl => ?_)
              refine lv_goto (tgt := 70) hx hb dX55_isSafe_147 (by decide) ?_
              exact ih 1 x3_39 hw _ _ ls hH (lv_sub hl [3, 4, 1, 0] rfl)
set_option maxHeartbeats 4000000 in
theorem walkX55_isSafe {l : Launch} {dC : Nat → ClassId} {dI : Nat → Nat → Nat} {cl : List vw_C} {ci : Nat} (hc : cl[ci]? = some (RX55, TX55, 28)) {ad : Nat → Nat} {d : Nat → ClassId} {sz : Nat} {f_said : Nat → Int32} {f_heads : Nat → Int32} {f_kinds : Nat → Int32} {f_folded : Nat → Int32} {f_lengths : Nat → Int32} {f_parts : Nat → Int32} {f_rules : Int32} {f_known : Int32} {f_rounds : Nat → Int32} {f_given : Nat → Int32} {f_strata : Nat → Int32} {f_circle : Int32} {f_turns : Int32} {f_needs : Nat → Int32} {f_comes : Nat → Int32} {f_values : Nat → Int32} {f_plain : Nat → Int32} {f_plainCount : Int32} {f_pointers : Nat → Int32} {f_now : Int32} {f_fresh : Nat → Int32} {f_many : Nat → Int32} {f_sums : Nat → Int32} {f_lows : Nat → Int32} {f_highs : Nat → Int32} {f_layed : Int32} {f_worked : Int64} {f_large : Int32} {x1 : Int32} {post : Int → Prop} (hw : wpX55_isSafe post (zF f_heads) (zF f_kinds) (zF f_folded) (zF f_lengths) (zF f_parts) x1.toInt) :
    Met l yX55_isSafe (ws_ yX55_isSafe cX55_isSafe 5 (some .boolean)) ({ frames := 1, cells := 0, slots := 0, locals := 25 } : Room) (kPc (dC, dI) cl (tX55 d) [.ref (ad 0), .int x1] sz (wX55 ci ad d f_said f_heads f_kinds f_folded f_lengths f_parts f_rules f_known f_rounds f_given f_strata f_circle f_turns f_needs f_comes f_values f_plain f_plainCount f_pointers f_now f_fresh f_many f_sums f_lows f_highs f_layed f_worked f_large)) (va_Qi (fun (r : Int32) (_ : Unit) => post r.toInt) (kB (dC, dI) cl (tX55 d) (va_A (wX55 ci ad d f_said f_heads f_kinds f_folded f_lengths f_parts f_rules f_known f_rounds f_given f_strata f_circle f_turns f_needs f_comes f_values f_plain f_plainCount f_pointers f_now f_fresh f_many f_sums f_lows f_highs f_layed f_worked f_large) sz) (fun _ : Unit => (wX55 ci ad d f_said f_heads f_kinds f_folded f_lengths f_parts f_rules f_known f_rounds f_given f_strata f_circle f_turns f_needs f_comes f_values f_plain f_plainCount f_pointers f_now f_fresh f_many f_sums f_lows f_highs f_layed f_worked f_large))) (va_A (wX55 ci ad d f_said f_heads f_kinds f_folded f_lengths f_parts f_rules f_known f_rounds f_given f_strata f_circle f_turns f_needs f_comes f_values f_plain f_plainCount f_pointers f_now f_fresh f_many f_sums f_lows f_highs f_layed f_worked f_large) sz)) 0 0 (va_A (wX55 ci ad d f_said f_heads f_kinds f_folded f_lengths f_parts f_rules f_known f_rounds f_given f_strata f_circle f_turns f_needs f_comes f_values f_plain f_plainCount f_pointers f_now f_fresh f_many f_sums f_lows f_highs f_layed f_worked f_large) sz) := by
  refine k_enter (by decide) (Nat.le_of_ble_eq_true rfl) ?_
  intro p e s m below meth c ls X hsz hH hl
  subst hsz
  generalize va_A (wX55 ci ad d f_said f_heads f_kinds f_folded f_lengths f_parts f_rules f_known f_rounds f_given f_strata f_circle f_turns f_needs f_comes f_values f_plain f_plainCount f_pointers f_now f_fresh f_many f_sums f_lows f_highs f_layed f_worked f_large) s.heap.size = A at hH ⊢
  have hx := X.1.1
  have hb := X.1.2.1
  have hl : lv_has ls 5 [(0, .ref (ad 0)), (1, .int x1)] := hl
  unfold wpX55_isSafe at hw
  refine lv_aload_n hx hb dX55_isSafe_0 rfl (lv_at hl 0 rfl) ?_
  refine lv_iload_n hx hb dX55_isSafe_1 rfl (lv_at hl 1 rfl) ?_
  refine lv_aload_n hx hb dX55_isSafe_2 rfl (lv_at hl 0 rfl) ?_
  refine k_get X hH in_X55 0 rfl hc 1 (by decide) q6577 rfl dX55_isSafe_3 ?_
  refine lv_iconst (v := 3) hx hb dX55_isSafe_6 (by decide) ?_
  refine lv_iload_n hx hb dX55_isSafe_7 rfl (lv_at hl 1 rfl) ?_
  refine lv_imul hx hb dX55_isSafe_8 ?_
  have e_1 := z_mul (z_m (rfl : (3 : Int32).toInt = 3)) (z_m (rfl : x1.toInt = _))
  refine lv_iconst (v := 1) hx hb dX55_isSafe_9 (by decide) ?_
  refine lv_iadd hx hb dX55_isSafe_10 ?_
  have e_2 := z_add e_1 (z_m (rfl : (1 : Int32).toInt = 1))
  have hq_3 := hw.1
  have hw := hw.2
  have e_4 := z_xi e_2 hq_3 (by decide)
  refine k_iald X hH 2 1 rfl rfl (z_in e_4 hq_3) dX55_isSafe_11 ?_
  have e_5 := z_ld (f := f_heads) e_4 hq_3.1
  refine k_i0 hH (k_runV (As := [.int x1, .int (f_heads ((3 * x1) + 1).toNatClampNeg)]) (rest := []) X hH.1 hH.2.1 X.2.2.2 (walkX55_isBound hc (x1 := x1) (x2 := (f_heads ((3 * x1) + 1).toNatClampNeg)) (f_said := f_said) (f_heads := f_heads) (f_kinds := f_kinds) (f_folded := f_folded) (f_lengths := f_lengths) (f_parts := f_parts) (f_rules := f_rules) (f_known := f_known) (f_rounds := f_rounds) (f_given := f_given) (f_strata := f_strata) (f_circle := f_circle) (f_turns := f_turns) (f_needs := f_needs) (f_comes := f_comes) (f_values := f_values) (f_plain := f_plain) (f_plainCount := f_plainCount) (f_pointers := f_pointers) (f_now := f_now) (f_fresh := f_fresh) (f_many := f_many) (f_sums := f_sums) (f_lows := f_lows) (f_highs := f_highs) (f_layed := f_layed) (f_worked := f_worked) (f_large := f_large) (by rw [show (f_heads ((3 * x1) + 1).toNatClampNeg : Int32).toInt = _ from e_5]; exact hw)) (cwV 2 X.1.2.2.2.2 gX55_101 rfl rfl rfl hX55_isBound ⟨Nat.le_of_ble_eq_true rfl, Nat.le_of_ble_eq_true rfl⟩) hc (q0 := 0) rfl rfl hl.1 rfl (Nat.le_of_ble_eq_true rfl) dX55_isSafe_12 ⟨Nat.le_refl 0, Nat.le_refl 0⟩) (fun r_6 _ H locs hw hH => ?_)
  have hH : kH (dC, dI) cl A s.heap H locs (wX55 ci ad d f_said f_heads f_kinds f_folded f_lengths f_parts f_rules f_known f_rounds f_given f_strata f_circle f_turns f_needs f_comes f_values f_plain f_plainCount f_pointers f_now f_fresh f_many f_sums f_lows f_highs f_layed f_worked f_large) := hH
  refine lv_if_eq (tgt := 66) hx hb dX55_isSafe_15 (by decide) (fun c_7 => ?_) (fun c_7 => ?_)
  · have hw := hw.1 (z_eq (rfl : r_6.toInt = _) (rfl : (0 : Int32).toInt = 0) c_7)
    refine lv_iconst (v := 0) hx hb dX55_isSafe_66 (by decide) ?_
    refine lv_istore_n (lv' := [(2, .int 0), (0, .ref (ad 0)), (1, .int x1)]) hx hb dX55_isSafe_67 rfl hl (by decide) rfl (fun ls hl => ?_)
    refine lv_iconst (v := 0) hx hb dX55_isSafe_68 (by decide) ?_
    refine lv_istore_n (lv' := [(3, .int 0), (2, .int 0), (0, .ref (ad 0)), (1, .int x1)]) hx hb dX55_isSafe_69 rfl hl (by decide) rfl (fun ls hl => ?_)
    obtain ⟨fu, hw⟩ := hw
    refine atX55_isSafe_70 hc X ?_ fu 0 0 hw _ _ ls hH (lv_sub hl [2, 3, 1, 0] rfl)
    · intro x2_41 hw H locs ls hH hl
      refine lv_iload_n hx hb dX55_isSafe_150 rfl (lv_at hl 0 rfl) ?_
      have hq_42 := hw.1
      have hw := hw.2
      exact k_iret (v := x2_41) X hH () hw rfl (k_zn (z_boolE (rfl : x2_41.toInt = _) hq_42)) dX55_isSafe_151
  · have hw := hw.2 (z_neq (rfl : r_6.toInt = _) (rfl : (0 : Int32).toInt = 0) c_7)
    refine lv_aload_n hx hb dX55_isSafe_18 rfl (lv_at hl 0 rfl) ?_
    refine k_get X hH in_X55 0 rfl hc 2 (by decide) q6578 rfl dX55_isSafe_19 ?_
    refine lv_iload_n hx hb dX55_isSafe_22 rfl (lv_at hl 1 rfl) ?_
    have hq_43 := hw.1
    have hw := hw.2
    refine k_iald X hH 3 2 rfl rfl (z_in (rfl : x1.toInt = _) hq_43) dX55_isSafe_23 ?_
    have e_44 := z_ld (f := f_kinds) (rfl : x1.toInt = _) hq_43.1
    refine lv_if_lt (tgt := 44) hx hb dX55_isSafe_24 (by decide) (fun c_45 => ?_) (fun c_45 => ?_)
    · have hw := hw.1 (z_lt e_44 (rfl : (0 : Int32).toInt = 0) c_45)
      refine lv_aload_n hx hb dX55_isSafe_44 rfl (lv_at hl 0 rfl) ?_
      refine lv_iload_n hx hb dX55_isSafe_45 rfl (lv_at hl 1 rfl) ?_
      refine lv_aload_n hx hb dX55_isSafe_46 rfl (lv_at hl 0 rfl) ?_
      refine k_get X hH in_X55 0 rfl hc 1 (by decide) q6577 rfl dX55_isSafe_47 ?_
      refine lv_iconst (v := 3) hx hb dX55_isSafe_50 (by decide) ?_
      refine lv_iload_n hx hb dX55_isSafe_51 rfl (lv_at hl 1 rfl) ?_
      refine lv_imul hx hb dX55_isSafe_52 ?_
      have e_46 := z_mul (z_m (rfl : (3 : Int32).toInt = 3)) (z_m (rfl : x1.toInt = _))
      refine lv_iconst (v := 2) hx hb dX55_isSafe_53 (by decide) ?_
      refine lv_iadd hx hb dX55_isSafe_54 ?_
      have e_47 := z_add e_46 (z_m (rfl : (2 : Int32).toInt = 2))
      have hq_48 := hw.1
      have hw := hw.2
      have e_49 := z_xi e_47 hq_48 (by decide)
      refine k_iald X hH 2 1 rfl rfl (z_in e_49 hq_48) dX55_isSafe_55 ?_
      have e_50 := z_ld (f := f_heads) e_49 hq_48.1
      refine k_i0 hH (k_runV (As := [.int x1, .int (f_heads ((3 * x1) + 2).toNatClampNeg)]) (rest := []) X hH.1 hH.2.1 X.2.2.2 (walkX55_isBound hc (x1 := x1) (x2 := (f_heads ((3 * x1) + 2).toNatClampNeg)) (f_said := f_said) (f_heads := f_heads) (f_kinds := f_kinds) (f_folded := f_folded) (f_lengths := f_lengths) (f_parts := f_parts) (f_rules := f_rules) (f_known := f_known) (f_rounds := f_rounds) (f_given := f_given) (f_strata := f_strata) (f_circle := f_circle) (f_turns := f_turns) (f_needs := f_needs) (f_comes := f_comes) (f_values := f_values) (f_plain := f_plain) (f_plainCount := f_plainCount) (f_pointers := f_pointers) (f_now := f_now) (f_fresh := f_fresh) (f_many := f_many) (f_sums := f_sums) (f_lows := f_lows) (f_highs := f_highs) (f_layed := f_layed) (f_worked := f_worked) (f_large := f_large) (by rw [show (f_heads ((3 * x1) + 2).toNatClampNeg : Int32).toInt = _ from e_50]; exact hw)) (cwV 2 X.1.2.2.2.2 gX55_101 rfl rfl rfl hX55_isBound ⟨Nat.le_of_ble_eq_true rfl, Nat.le_of_ble_eq_true rfl⟩) hc (q0 := 0) rfl rfl hl.1 rfl (Nat.le_of_ble_eq_true rfl) dX55_isSafe_56 ⟨Nat.le_refl 0, Nat.le_refl 0⟩) (fun r_51 _ H locs hw hH => ?_)
      have hH : kH (dC, dI) cl A s.heap H locs (wX55 ci ad d f_said f_heads f_kinds f_folded f_lengths f_parts f_rules f_known f_rounds f_given f_strata f_circle f_turns f_needs f_comes f_values f_plain f_plainCount f_pointers f_now f_fresh f_many f_sums f_lows f_highs f_layed f_worked f_large) := hH
      refine lv_if_eq (tgt := 66) hx hb dX55_isSafe_59 (by decide) (fun c_52 => ?_) (fun c_52 => ?_)
      · have hw := hw.1 (z_eq (rfl : r_51.toInt = _) (rfl : (0 : Int32).toInt = 0) c_52)
        refine lv_iconst (v := 0) hx hb dX55_isSafe_66 (by decide) ?_
        refine lv_istore_n (lv' := [(2, .int 0), (0, .ref (ad 0)), (1, .int x1)]) hx hb dX55_isSafe_67 rfl hl (by decide) rfl (fun ls hl => ?_)
        refine lv_iconst (v := 0) hx hb dX55_isSafe_68 (by decide) ?_
        refine lv_istore_n (lv' := [(3, .int 0), (2, .int 0), (0, .ref (ad 0)), (1, .int x1)]) hx hb dX55_isSafe_69 rfl hl (by decide) rfl (fun ls hl => ?_)
        obtain ⟨fu, hw⟩ := hw
        refine atX55_isSafe_70 hc X ?_ fu 0 0 hw _ _ ls hH (lv_sub hl [2, 3, 1, 0] rfl)
        · intro x2_53 hw H locs ls hH hl
          refine lv_iload_n hx hb dX55_isSafe_150 rfl (lv_at hl 0 rfl) ?_
          have hq_54 := hw.1
          have hw := hw.2
          exact k_iret (v := x2_53) X hH () hw rfl (k_zn (z_boolE (rfl : x2_53.toInt = _) hq_54)) dX55_isSafe_151
      · have hw := hw.2 (z_neq (rfl : r_51.toInt = _) (rfl : (0 : Int32).toInt = 0) c_52)
        refine lv_iconst (v := 1) hx hb dX55_isSafe_62 (by decide) ?_
        refine lv_goto (tgt := 67) hx hb dX55_isSafe_63 (by decide) ?_
        refine lv_istore_n (lv' := [(2, .int 1), (0, .ref (ad 0)), (1, .int x1)]) hx hb dX55_isSafe_67 rfl hl (by decide) rfl (fun ls hl => ?_)
        refine lv_iconst (v := 0) hx hb dX55_isSafe_68 (by decide) ?_
        refine lv_istore_n (lv' := [(3, .int 0), (2, .int 1), (0, .ref (ad 0)), (1, .int x1)]) hx hb dX55_isSafe_69 rfl hl (by decide) rfl (fun ls hl => ?_)
        obtain ⟨fu, hw⟩ := hw
        refine atX55_isSafe_70 hc X ?_ fu 1 0 hw _ _ ls hH (lv_sub hl [2, 3, 1, 0] rfl)
        · intro x2_55 hw H locs ls hH hl
          refine lv_iload_n hx hb dX55_isSafe_150 rfl (lv_at hl 0 rfl) ?_
          have hq_56 := hw.1
          have hw := hw.2
          exact k_iret (v := x2_55) X hH () hw rfl (k_zn (z_boolE (rfl : x2_55.toInt = _) hq_56)) dX55_isSafe_151
    · have hw := hw.2 (z_nlt e_44 (rfl : (0 : Int32).toInt = 0) c_45)
      refine lv_aload_n hx hb dX55_isSafe_27 rfl (lv_at hl 0 rfl) ?_
      refine lv_iload_n hx hb dX55_isSafe_28 rfl (lv_at hl 1 rfl) ?_
      refine lv_aload_n hx hb dX55_isSafe_29 rfl (lv_at hl 0 rfl) ?_
      refine k_get X hH in_X55 0 rfl hc 3 (by decide) q6579 rfl dX55_isSafe_30 ?_
      refine lv_iload_n hx hb dX55_isSafe_33 rfl (lv_at hl 1 rfl) ?_
      refine k_iald X hH 4 3 rfl rfl (z_in (rfl : x1.toInt = _) hq_43) dX55_isSafe_34 ?_
      have e_57 := z_ld (f := f_folded) (rfl : x1.toInt = _) hq_43.1
      refine k_i0 hH (k_runV (As := [.int x1, .int (f_folded x1.toNatClampNeg)]) (rest := []) X hH.1 hH.2.1 X.2.2.2 (walkX55_isBound hc (x1 := x1) (x2 := (f_folded x1.toNatClampNeg)) (f_said := f_said) (f_heads := f_heads) (f_kinds := f_kinds) (f_folded := f_folded) (f_lengths := f_lengths) (f_parts := f_parts) (f_rules := f_rules) (f_known := f_known) (f_rounds := f_rounds) (f_given := f_given) (f_strata := f_strata) (f_circle := f_circle) (f_turns := f_turns) (f_needs := f_needs) (f_comes := f_comes) (f_values := f_values) (f_plain := f_plain) (f_plainCount := f_plainCount) (f_pointers := f_pointers) (f_now := f_now) (f_fresh := f_fresh) (f_many := f_many) (f_sums := f_sums) (f_lows := f_lows) (f_highs := f_highs) (f_layed := f_layed) (f_worked := f_worked) (f_large := f_large) (by rw [show (f_folded x1.toNatClampNeg : Int32).toInt = _ from e_57]; exact hw)) (cwV 2 X.1.2.2.2.2 gX55_101 rfl rfl rfl hX55_isBound ⟨Nat.le_of_ble_eq_true rfl, Nat.le_of_ble_eq_true rfl⟩) hc (q0 := 0) rfl rfl hl.1 rfl (Nat.le_of_ble_eq_true rfl) dX55_isSafe_35 ⟨Nat.le_refl 0, Nat.le_refl 0⟩) (fun r_58 _ H locs hw hH => ?_)
      have hH : kH (dC, dI) cl A s.heap H locs (wX55 ci ad d f_said f_heads f_kinds f_folded f_lengths f_parts f_rules f_known f_rounds f_given f_strata f_circle f_turns f_needs f_comes f_values f_plain f_plainCount f_pointers f_now f_fresh f_many f_sums f_lows f_highs f_layed f_worked f_large) := hH
      refine lv_if_eq (tgt := 66) hx hb dX55_isSafe_38 (by decide) (fun c_59 => ?_) (fun c_59 => ?_)
      · have hw := hw.1 (z_eq (rfl : r_58.toInt = _) (rfl : (0 : Int32).toInt = 0) c_59)
        refine lv_iconst (v := 0) hx hb dX55_isSafe_66 (by decide) ?_
        refine lv_istore_n (lv' := [(2, .int 0), (0, .ref (ad 0)), (1, .int x1)]) hx hb dX55_isSafe_67 rfl hl (by decide) rfl (fun ls hl => ?_)
        refine lv_iconst (v := 0) hx hb dX55_isSafe_68 (by decide) ?_
        refine lv_istore_n (lv' := [(3, .int 0), (2, .int 0), (0, .ref (ad 0)), (1, .int x1)]) hx hb dX55_isSafe_69 rfl hl (by decide) rfl (fun ls hl => ?_)
        obtain ⟨fu, hw⟩ := hw
        refine atX55_isSafe_70 hc X ?_ fu 0 0 hw _ _ ls hH (lv_sub hl [2, 3, 1, 0] rfl)
        · intro x2_60 hw H locs ls hH hl
          refine lv_iload_n hx hb dX55_isSafe_150 rfl (lv_at hl 0 rfl) ?_
          have hq_61 := hw.1
          have hw := hw.2
          exact k_iret (v := x2_60) X hH () hw rfl (k_zn (z_boolE (rfl : x2_60.toInt = _) hq_61)) dX55_isSafe_151
      · have hw := hw.2 (z_neq (rfl : r_58.toInt = _) (rfl : (0 : Int32).toInt = 0) c_59)
        refine lv_goto (tgt := 62) hx hb dX55_isSafe_41 (by decide) ?_
        refine lv_iconst (v := 1) hx hb dX55_isSafe_62 (by decide) ?_
        refine lv_goto (tgt := 67) hx hb dX55_isSafe_63 (by decide) ?_
        refine lv_istore_n (lv' := [(2, .int 1), (0, .ref (ad 0)), (1, .int x1)]) hx hb dX55_isSafe_67 rfl hl (by decide) rfl (fun ls hl => ?_)
        refine lv_iconst (v := 0) hx hb dX55_isSafe_68 (by decide) ?_
        refine lv_istore_n (lv' := [(3, .int 0), (2, .int 1), (0, .ref (ad 0)), (1, .int x1)]) hx hb dX55_isSafe_69 rfl hl (by decide) rfl (fun ls hl => ?_)
        obtain ⟨fu, hw⟩ := hw
        refine atX55_isSafe_70 hc X ?_ fu 1 0 hw _ _ ls hH (lv_sub hl [2, 3, 1, 0] rfl)
        · intro x2_62 hw H locs ls hH hl
          refine lv_iload_n hx hb dX55_isSafe_150 rfl (lv_at hl 0 rfl) ?_
          have hq_63 := hw.1
          have hw := hw.2
          exact k_iret (v := x2_62) X hH () hw rfl (k_zn (z_boolE (rfl : x2_62.toInt = _) hq_63)) dX55_isSafe_151
set_option maxHeartbeats 4000000 in
theorem atX55_need_2 {p : Program} {l : Launch} {e : Env} {s : State} {m : MethodId} {args : Array Value} {below : List Frame} {meth : Method} {c : Code} {dC : Nat → ClassId} {dI : Nat → Nat → Nat} {cl : List vw_C} {ci : Nat} (hc : cl[ci]? = some (RX55, TX55, 28)) {ad : Nat → Nat} {d : Nat → ClassId} {A : Nat → Prop} {post : Int → (Int → Int) → (Int → Int) → Prop} {f_said : Nat → Int32} {f_heads : Nat → Int32} {f_kinds : Nat → Int32} {f_folded : Nat → Int32} {f_lengths : Nat → Int32} {f_parts : Nat → Int32} {f_rules : Int32} {f_known : Int32} {f_rounds : Nat → Int32} {f_given : Nat → Int32} {f_strata : Nat → Int32} {f_turns : Int32} {f_values : Nat → Int32} {f_plain : Nat → Int32} {f_plainCount : Int32} {f_pointers : Nat → Int32} {f_now : Int32} {f_fresh : Nat → Int32} {f_many : Nat → Int32} {f_sums : Nat → Int32} {f_lows : Nat → Int32} {f_highs : Nat → Int32} {f_layed : Int32} {f_worked : Int64} {f_large : Int32} (X : kX p s m args meth c cX55_need 6 RX55 none (dC, dI) cl (tX55 d)) {K22 : (Int → Int) → Prop}  {f_circle : Int32} {f_comes : Nat → Int32} (hk22 : ∀ (f_needs : Nat → Int32), K22 (zF f_needs) → ∀ (H : Heap) (locs : List Loc) (ls : Array Slot), kH (dC, dI) cl A s.heap H locs (wX55 ci ad d f_said f_heads f_kinds f_folded f_lengths f_parts f_rules f_known f_rounds f_given f_strata f_circle f_turns f_needs f_comes f_values f_plain f_plainCount f_pointers f_now f_fresh f_many f_sums f_lows f_highs f_layed f_worked f_large) → lv_has ls 6 [(0, .ref (ad 0))] → W p l e ({ frames := 2, cells := 0, slots := 0, locals := 49 } : Room) s m args below meth c H locs 0 0 (MQ below (va_Qv (fun (u : Int32 × (Nat → Int32) × (Nat → Int32)) => post (u.1).toInt (zF (u.2.1)) (zF (u.2.2))) (kB (dC, dI) cl (tX55 d) A (fun u : Int32 × (Nat → Int32) × (Nat → Int32) => (wX55 ci ad d f_said f_heads f_kinds f_folded f_lengths f_parts f_rules f_known f_rounds f_given f_strata (u.1) f_turns (u.2.1) (u.2.2) f_values f_plain f_plainCount f_pointers f_now f_fresh f_many f_sums f_lows f_highs f_layed f_worked f_large))) A) args s 0 0 A) (F0 m 22 ls [])) :
    ∀ (nn : Nat) (x1 : Int32) (f_needs : Nat → Int32), wX55_need_2 K22 nn x1.toInt (zF f_needs) → ∀ (H : Heap) (locs : List Loc) (ls : Array Slot), kH (dC, dI) cl A s.heap H locs (wX55 ci ad d f_said f_heads f_kinds f_folded f_lengths f_parts f_rules f_known f_rounds f_given f_strata f_circle f_turns f_needs f_comes f_values f_plain f_plainCount f_pointers f_now f_fresh f_many f_sums f_lows f_highs f_layed f_worked f_large) → lv_has ls 6 [(0, .ref (ad 0)), (1, .int x1)] → W p l e ({ frames := 2, cells := 0, slots := 0, locals := 49 } : Room) s m args below meth c H locs 0 0 (MQ below (va_Qv (fun (u : Int32 × (Nat → Int32) × (Nat → Int32)) => post (u.1).toInt (zF (u.2.1)) (zF (u.2.2))) (kB (dC, dI) cl (tX55 d) A (fun u : Int32 × (Nat → Int32) × (Nat → Int32) => (wX55 ci ad d f_said f_heads f_kinds f_folded f_lengths f_parts f_rules f_known f_rounds f_given f_strata (u.1) f_turns (u.2.1) (u.2.2) f_values f_plain f_plainCount f_pointers f_now f_fresh f_many f_sums f_lows f_highs f_layed f_worked f_large))) A) args s 0 0 A) (F0 m 2 ls []) := by
  have hx := X.1.1
  have hb := X.1.2.1
  intro nn
  induction nn with
  | zero =>
    intro x1 f_needs hw
    exact False.elim hw
  | succ n ih =>
    intro x1 f_needs hw H locs ls hH hl
    rw [wX55_need_2] at hw
    refine lv_iload_n hx hb dX55_need_2 rfl (lv_at hl 1 rfl) ?_
    refine lv_sipush (v := 256) hx hb dX55_need_3 (by decide) ?_
    refine lv_icmp_ge (tgt := 22) hx hb dX55_need_6 (by decide) (fun c_1 => ?_) (fun c_1 => ?_)
    · have hw := hw.1 (z_le (rfl : (256 : Int32).toInt = 256) (rfl : x1.toInt = _) c_1)
      exact hk22 f_needs hw _ _ ls hH (lv_sub hl [0] rfl)
    · have hw := hw.2 (z_nle (rfl : (256 : Int32).toInt = 256) (rfl : x1.toInt = _) c_1)
      refine lv_aload_n hx hb dX55_need_9 rfl (lv_at hl 0 rfl) ?_
      refine k_get X hH in_X55 0 rfl hc 13 (by decide) q6589 rfl dX55_need_10 ?_
      refine lv_iload_n hx hb dX55_need_13 rfl (lv_at hl 1 rfl) ?_
      refine lv_iconst (v := 0) hx hb dX55_need_14 (by decide) ?_
      have hq_3 := hw.1
      have hw := hw.2
      obtain ⟨f_needs_2, ef_needs_2⟩ : ∃ y : Nat → Int32, y = upd f_needs x1.toNatClampNeg 0 := ⟨_, rfl⟩
      refine k_iast X hH 10 9 rfl rfl (z_in (rfl : x1.toInt = _) hq_3) dX55_need_15 ef_needs_2 (ws1 := (wX55 ci ad d f_said f_heads f_kinds f_folded f_lengths f_parts f_rules f_known f_rounds f_given f_strata f_circle f_turns f_needs_2 f_comes f_values f_plain f_plainCount f_pointers f_now f_fresh f_many f_sums f_lows f_highs f_layed f_worked f_large)) rfl (fun H locs hH => ?_)
      have hw := hw (zF f_needs_2) (by rw [ef_needs_2]; exact z_st (f := f_needs) (rfl : x1.toInt = _) hq_3.1 (rfl : (0 : Int32).toInt = 0))
      have hq_5 := hw.1
      have hw := hw.2
      obtain ⟨x1_4, ex1_4⟩ : ∃ y : Int32, y = x1 + 1 := ⟨_, rfl⟩
      have hw := hw x1_4.toInt (by rw [ex1_4]; exact (z_x (z_add (z_m (rfl : x1.toInt = _)) (z_m (rfl : (1 : Int32).toInt = 1))) hq_5))
      refine lv_iinc (v := x1_4) (lv' := [(1, .int x1_4), (0, .ref (ad 0))]) hx hb dX55_need_16 hl (k := 1) rfl (by rw [ex1_4]; rfl) (by decide) rfl (fun ls hl => ?_)
      refine lv_goto (tgt := 2) hx hb dX55_need_19 (by decide) ?_
      exact ih x1_4 f_needs_2 hw _ _ ls hH (lv_sub hl [1, 0] rfl)
set_option maxHeartbeats 4000000 in
theorem atX55_need_123 {p : Program} {l : Launch} {e : Env} {s : State} {m : MethodId} {args : Array Value} {below : List Frame} {meth : Method} {c : Code} {dC : Nat → ClassId} {dI : Nat → Nat → Nat} {cl : List vw_C} {ci : Nat} (hc : cl[ci]? = some (RX55, TX55, 28)) {ad : Nat → Nat} {d : Nat → ClassId} {A : Nat → Prop} {post : Int → (Int → Int) → (Int → Int) → Prop} {f_said : Nat → Int32} {f_heads : Nat → Int32} {f_kinds : Nat → Int32} {f_folded : Nat → Int32} {f_lengths : Nat → Int32} {f_parts : Nat → Int32} {f_rules : Int32} {f_known : Int32} {f_rounds : Nat → Int32} {f_given : Nat → Int32} {f_strata : Nat → Int32} {f_turns : Int32} {f_values : Nat → Int32} {f_plain : Nat → Int32} {f_plainCount : Int32} {f_pointers : Nat → Int32} {f_now : Int32} {f_fresh : Nat → Int32} {f_many : Nat → Int32} {f_sums : Nat → Int32} {f_lows : Nat → Int32} {f_highs : Nat → Int32} {f_layed : Int32} {f_worked : Int64} {f_large : Int32} (X : kX p s m args meth c cX55_need 6 RX55 none (dC, dI) cl (tX55 d)) {K45 : Int → (Int → Int) → Prop} {x1 : Int32} {f_circle : Int32} {f_comes : Nat → Int32} (hk45 : ∀ (x2 : Int32) (f_needs : Nat → Int32), K45 x2.toInt (zF f_needs) → ∀ (H : Heap) (locs : List Loc) (ls : Array Slot), kH (dC, dI) cl A s.heap H locs (wX55 ci ad d f_said f_heads f_kinds f_folded f_lengths f_parts f_rules f_known f_rounds f_given f_strata f_circle f_turns f_needs f_comes f_values f_plain f_plainCount f_pointers f_now f_fresh f_many f_sums f_lows f_highs f_layed f_worked f_large) → lv_has ls 6 [(0, .ref (ad 0)), (1, .int x1), (2, .int x2)] → W p l e ({ frames := 2, cells := 0, slots := 0, locals := 49 } : Room) s m args below meth c H locs 0 0 (MQ below (va_Qv (fun (u : Int32 × (Nat → Int32) × (Nat → Int32)) => post (u.1).toInt (zF (u.2.1)) (zF (u.2.2))) (kB (dC, dI) cl (tX55 d) A (fun u : Int32 × (Nat → Int32) × (Nat → Int32) => (wX55 ci ad d f_said f_heads f_kinds f_folded f_lengths f_parts f_rules f_known f_rounds f_given f_strata (u.1) f_turns (u.2.1) (u.2.2) f_values f_plain f_plainCount f_pointers f_now f_fresh f_many f_sums f_lows f_highs f_layed f_worked f_large))) A) args s 0 0 A) (F0 m 45 ls [])) :
    ∀ (x2 : Int32) (x4 : Int32) (y0 : Int32) (f_needs : Nat → Int32), wX55_need_123 K45 x2.toInt x4.toInt y0.toInt (zF f_needs) → ∀ (H : Heap) (locs : List Loc) (ls : Array Slot), kH (dC, dI) cl A s.heap H locs (wX55 ci ad d f_said f_heads f_kinds f_folded f_lengths f_parts f_rules f_known f_rounds f_given f_strata f_circle f_turns f_needs f_comes f_values f_plain f_plainCount f_pointers f_now f_fresh f_many f_sums f_lows f_highs f_layed f_worked f_large) → lv_has ls 6 [(0, .ref (ad 0)), (1, .int x1), (2, .int x2), (4, .int x4)] → W p l e ({ frames := 2, cells := 0, slots := 0, locals := 49 } : Room) s m args below meth c H locs 0 0 (MQ below (va_Qv (fun (u : Int32 × (Nat → Int32) × (Nat → Int32)) => post (u.1).toInt (zF (u.2.1)) (zF (u.2.2))) (kB (dC, dI) cl (tX55 d) A (fun u : Int32 × (Nat → Int32) × (Nat → Int32) => (wX55 ci ad d f_said f_heads f_kinds f_folded f_lengths f_parts f_rules f_known f_rounds f_given f_strata (u.1) f_turns (u.2.1) (u.2.2) f_values f_plain f_plainCount f_pointers f_now f_fresh f_many f_sums f_lows f_highs f_layed f_worked f_large))) A) args s 0 0 A) (F0 m 123 ls [.int y0]) := by
  have hx := X.1.1
  have hb := X.1.2.1
  intro x2 x4 y0 f_needs hw H locs ls hH hl
  unfold wX55_need_123 at hw
  refine lv_istore (lv' := [(5, .int y0), (0, .ref (ad 0)), (1, .int x1), (2, .int x2), (4, .int x4)]) hx hb dX55_need_123 hl (by decide) rfl (fun ls hl => ?_)
  refine lv_iload hx hb dX55_need_125 (lv_at hl 0 rfl) ?_
  refine lv_aload_n hx hb dX55_need_127 rfl (lv_at hl 1 rfl) ?_
  refine k_get X hH in_X55 0 rfl hc 13 (by decide) q6589 rfl dX55_need_128 ?_
  refine lv_iload hx hb dX55_need_131 (lv_at hl 4 rfl) ?_
  have hq_37 := hw.1
  have hw := hw.2
  refine k_iald X hH 10 9 rfl rfl (z_in (rfl : x4.toInt = _) hq_37) dX55_need_133 ?_
  have e_38 := z_ld (f := f_needs) (rfl : x4.toInt = _) hq_37.1
  refine lv_icmp_le (tgt := 146) hx hb dX55_need_134 (by decide) (fun c_39 => ?_) (fun c_39 => ?_)
  · have hw := hw.1 (z_le (rfl : y0.toInt = _) e_38 c_39)
    have hq_41 := hw.1
    have hw := hw.2
    obtain ⟨x2_40, ex2_40⟩ : ∃ y : Int32, y = x2 + 1 := ⟨_, rfl⟩
    have hw := hw x2_40.toInt (by rw [ex2_40]; exact (z_x (z_add (z_m (rfl : x2.toInt = _)) (z_m (rfl : (1 : Int32).toInt = 1))) hq_41))
    refine lv_iinc (v := x2_40) (lv' := [(2, .int x2_40), (5, .int y0), (0, .ref (ad 0)), (1, .int x1), (4, .int x4)]) hx hb dX55_need_146 hl (k := 3) rfl (by rw [ex2_40]; rfl) (by decide) rfl (fun ls hl => ?_)
    refine lv_goto (tgt := 45) hx hb dX55_need_149 (by decide) ?_
    exact hk45 x2_40 f_needs hw _ _ ls hH (lv_sub hl [2, 3, 0] rfl)
  · have hw := hw.2 (z_nle (rfl : y0.toInt = _) e_38 c_39)
    refine lv_aload_n hx hb dX55_need_137 rfl (lv_at hl 1 rfl) ?_
    refine k_get X hH in_X55 0 rfl hc 13 (by decide) q6589 rfl dX55_need_138 ?_
    refine lv_iload hx hb dX55_need_141 (lv_at hl 4 rfl) ?_
    refine lv_iload hx hb dX55_need_143 (lv_at hl 0 rfl) ?_
    obtain ⟨f_needs_42, ef_needs_42⟩ : ∃ y : Nat → Int32, y = upd f_needs x4.toNatClampNeg y0 := ⟨_, rfl⟩
    refine k_iast X hH 10 9 rfl rfl (z_in (rfl : x4.toInt = _) hq_37) dX55_need_145 ef_needs_42 (ws1 := (wX55 ci ad d f_said f_heads f_kinds f_folded f_lengths f_parts f_rules f_known f_rounds f_given f_strata f_circle f_turns f_needs_42 f_comes f_values f_plain f_plainCount f_pointers f_now f_fresh f_many f_sums f_lows f_highs f_layed f_worked f_large)) rfl (fun H locs hH => ?_)
    have hw := hw (zF f_needs_42) (by rw [ef_needs_42]; exact z_st (f := f_needs) (rfl : x4.toInt = _) hq_37.1 (rfl : y0.toInt = _))
    have hq_44 := hw.1
    have hw := hw.2
    obtain ⟨x2_43, ex2_43⟩ : ∃ y : Int32, y = x2 + 1 := ⟨_, rfl⟩
    have hw := hw x2_43.toInt (by rw [ex2_43]; exact (z_x (z_add (z_m (rfl : x2.toInt = _)) (z_m (rfl : (1 : Int32).toInt = 1))) hq_44))
    refine lv_iinc (v := x2_43) (lv' := [(2, .int x2_43), (5, .int y0), (0, .ref (ad 0)), (1, .int x1), (4, .int x4)]) hx hb dX55_need_146 hl (k := 3) rfl (by rw [ex2_43]; rfl) (by decide) rfl (fun ls hl => ?_)
    refine lv_goto (tgt := 45) hx hb dX55_need_149 (by decide) ?_
    exact hk45 x2_43 f_needs_42 hw _ _ ls hH (lv_sub hl [2, 3, 0] rfl)
set_option maxHeartbeats 4000000 in
theorem atX55_need_45 {p : Program} {l : Launch} {e : Env} {s : State} {m : MethodId} {args : Array Value} {below : List Frame} {meth : Method} {c : Code} {dC : Nat → ClassId} {dI : Nat → Nat → Nat} {cl : List vw_C} {ci : Nat} (hc : cl[ci]? = some (RX55, TX55, 28)) {ad : Nat → Nat} {d : Nat → ClassId} {A : Nat → Prop} {post : Int → (Int → Int) → (Int → Int) → Prop} {f_said : Nat → Int32} {f_heads : Nat → Int32} {f_kinds : Nat → Int32} {f_folded : Nat → Int32} {f_lengths : Nat → Int32} {f_parts : Nat → Int32} {f_rules : Int32} {f_known : Int32} {f_rounds : Nat → Int32} {f_given : Nat → Int32} {f_strata : Nat → Int32} {f_turns : Int32} {f_values : Nat → Int32} {f_plain : Nat → Int32} {f_plainCount : Int32} {f_pointers : Nat → Int32} {f_now : Int32} {f_fresh : Nat → Int32} {f_many : Nat → Int32} {f_sums : Nat → Int32} {f_lows : Nat → Int32} {f_highs : Nat → Int32} {f_layed : Int32} {f_worked : Int64} {f_large : Int32} (X : kX p s m args meth c cX55_need 6 RX55 none (dC, dI) cl (tX55 d)) {K152 : (Int → Int) → Prop} {x1 : Int32} {f_circle : Int32} {f_comes : Nat → Int32} (hk152 : ∀ (f_needs : Nat → Int32), K152 (zF f_needs) → ∀ (H : Heap) (locs : List Loc) (ls : Array Slot), kH (dC, dI) cl A s.heap H locs (wX55 ci ad d f_said f_heads f_kinds f_folded f_lengths f_parts f_rules f_known f_rounds f_given f_strata f_circle f_turns f_needs f_comes f_values f_plain f_plainCount f_pointers f_now f_fresh f_many f_sums f_lows f_highs f_layed f_worked f_large) → lv_has ls 6 [(0, .ref (ad 0)), (1, .int x1)] → W p l e ({ frames := 2, cells := 0, slots := 0, locals := 49 } : Room) s m args below meth c H locs 0 0 (MQ below (va_Qv (fun (u : Int32 × (Nat → Int32) × (Nat → Int32)) => post (u.1).toInt (zF (u.2.1)) (zF (u.2.2))) (kB (dC, dI) cl (tX55 d) A (fun u : Int32 × (Nat → Int32) × (Nat → Int32) => (wX55 ci ad d f_said f_heads f_kinds f_folded f_lengths f_parts f_rules f_known f_rounds f_given f_strata (u.1) f_turns (u.2.1) (u.2.2) f_values f_plain f_plainCount f_pointers f_now f_fresh f_many f_sums f_lows f_highs f_layed f_worked f_large))) A) args s 0 0 A) (F0 m 152 ls [])) :
    ∀ (nn : Nat) (x2 : Int32) (f_needs : Nat → Int32), wX55_need_45 K152 x1.toInt (zF f_heads) (zF f_kinds) (zF f_lengths) (zF f_parts) nn x2.toInt (zF f_needs) → ∀ (H : Heap) (locs : List Loc) (ls : Array Slot), kH (dC, dI) cl A s.heap H locs (wX55 ci ad d f_said f_heads f_kinds f_folded f_lengths f_parts f_rules f_known f_rounds f_given f_strata f_circle f_turns f_needs f_comes f_values f_plain f_plainCount f_pointers f_now f_fresh f_many f_sums f_lows f_highs f_layed f_worked f_large) → lv_has ls 6 [(0, .ref (ad 0)), (1, .int x1), (2, .int x2)] → W p l e ({ frames := 2, cells := 0, slots := 0, locals := 49 } : Room) s m args below meth c H locs 0 0 (MQ below (va_Qv (fun (u : Int32 × (Nat → Int32) × (Nat → Int32)) => post (u.1).toInt (zF (u.2.1)) (zF (u.2.2))) (kB (dC, dI) cl (tX55 d) A (fun u : Int32 × (Nat → Int32) × (Nat → Int32) => (wX55 ci ad d f_said f_heads f_kinds f_folded f_lengths f_parts f_rules f_known f_rounds f_given f_strata (u.1) f_turns (u.2.1) (u.2.2) f_values f_plain f_plainCount f_pointers f_now f_fresh f_many f_sums f_lows f_highs f_layed f_worked f_large))) A) args s 0 0 A) (F0 m 45 ls []) := by
  have hx := X.1.1
  have hb := X.1.2.1
  intro nn
  induction nn with
  | zero =>
    intro x2 f_needs hw
    exact False.elim hw
  | succ n ih =>
    intro x2 f_needs hw H locs ls hH hl
    rw [wX55_need_45] at hw
    refine lv_iload_n hx hb dX55_need_45 rfl (lv_at hl 2 rfl) ?_
    refine lv_aload_n hx hb dX55_need_46 rfl (lv_at hl 0 rfl) ?_
    refine k_get X hH in_X55 0 rfl hc 4 (by decide) q6580 rfl dX55_need_47 ?_
    refine lv_iload_n hx hb dX55_need_50 rfl (lv_at hl 1 rfl) ?_
    have hq_10 := hw.1
    have hw := hw.2
    refine k_iald X hH 5 4 rfl rfl (z_in (rfl : x1.toInt = _) hq_10) dX55_need_51 ?_
    have e_11 := z_ld (f := f_lengths) (rfl : x1.toInt = _) hq_10.1
    refine lv_icmp_ge (tgt := 152) hx hb dX55_need_52 (by decide) (fun c_12 => ?_) (fun c_12 => ?_)
    · have hw := hw.1 (z_le e_11 (rfl : x2.toInt = _) c_12)
      exact hk152 f_needs hw _ _ ls hH (lv_sub hl [0, 1] rfl)
    · have hw := hw.2 (z_nle e_11 (rfl : x2.toInt = _) c_12)
      refine lv_bipush (v := 20) hx hb dX55_need_55 (by decide) ?_
      refine lv_iload_n hx hb dX55_need_57 rfl (lv_at hl 1 rfl) ?_
      refine lv_imul hx hb dX55_need_58 ?_
      have e_13 := z_mul (z_m (rfl : (20 : Int32).toInt = 20)) (z_m (rfl : x1.toInt = _))
      refine lv_iconst (v := 4) hx hb dX55_need_59 (by decide) ?_
      refine lv_iload_n hx hb dX55_need_60 rfl (lv_at hl 2 rfl) ?_
      refine lv_imul hx hb dX55_need_61 ?_
      have e_14 := z_mul (z_m (rfl : (4 : Int32).toInt = 4)) (z_m (rfl : x2.toInt = _))
      refine lv_iadd hx hb dX55_need_62 ?_
      have e_15 := z_add e_13 e_14
      have hq_16 := hw.1
      have hw := hw.2
      have e_17 := z_x e_15 hq_16
      refine lv_topi (fun x3_18 ex3_18 => ?_)
      have hw := hw x3_18.toInt (by rw [ex3_18]; exact e_17)
      refine lv_istore_n (lv' := [(3, .int x3_18), (0, .ref (ad 0)), (1, .int x1), (2, .int x2)]) hx hb dX55_need_63 rfl hl (by decide) rfl (fun ls hl => ?_)
      refine lv_aload_n hx hb dX55_need_64 rfl (lv_at hl 1 rfl) ?_
      refine k_get X hH in_X55 0 rfl hc 5 (by decide) q6581 rfl dX55_need_65 ?_
      refine lv_iload_n hx hb dX55_need_68 rfl (lv_at hl 0 rfl) ?_
      have hq_19 := hw.1
      have hw := hw.2
      refine k_iald X hH 6 5 rfl rfl (z_in (rfl : x3_18.toInt = _) hq_19) dX55_need_69 ?_
      have e_20 := z_ld (f := f_parts) (rfl : x3_18.toInt = _) hq_19.1
      refine lv_iconst (v := 2) hx hb dX55_need_70 (by decide) ?_
      refine lv_icmp_ne (tgt := 77) hx hb dX55_need_71 (by decide) (fun c_21 => ?_) (fun c_21 => ?_)
      · have hw := hw.2 (z_ne e_20 (rfl : (2 : Int32).toInt = 2) c_21)
        refine lv_bipush (v := 16) hx hb dX55_need_77 (by decide) ?_
        refine lv_aload_n hx hb dX55_need_79 rfl (lv_at hl 1 rfl) ?_
        refine k_get X hH in_X55 0 rfl hc 1 (by decide) q6577 rfl dX55_need_80 ?_
        refine lv_iconst (v := 3) hx hb dX55_need_83 (by decide) ?_
        refine lv_iload_n hx hb dX55_need_84 rfl (lv_at hl 2 rfl) ?_
        refine lv_imul hx hb dX55_need_85 ?_
        have e_22 := z_mul (z_m (rfl : (3 : Int32).toInt = 3)) (z_m (rfl : x1.toInt = _))
        have hq_23 := hw.1
        have hw := hw.2
        have e_24 := z_xi e_22 hq_23 (by decide)
        refine k_iald X hH 2 1 rfl rfl (z_in e_24 hq_23) dX55_need_86 ?_
        have e_25 := z_ld (f := f_heads) e_24 hq_23.1
        refine lv_imul hx hb dX55_need_87 ?_
        have e_26 := z_mul (z_m (rfl : (16 : Int32).toInt = 16)) (z_m e_25)
        refine lv_aload_n hx hb dX55_need_88 rfl (lv_at hl 1 rfl) ?_
        refine k_get X hH in_X55 0 rfl hc 5 (by decide) q6581 rfl dX55_need_89 ?_
        refine lv_iload_n hx hb dX55_need_92 rfl (lv_at hl 0 rfl) ?_
        refine lv_iconst (v := 1) hx hb dX55_need_93 (by decide) ?_
        refine lv_iadd hx hb dX55_need_94 ?_
        have e_27 := z_add (z_m (rfl : x3_18.toInt = _)) (z_m (rfl : (1 : Int32).toInt = 1))
        have hq_28 := hw.1
        have hw := hw.2
        have e_29 := z_xi e_27 hq_28 (by decide)
        refine k_iald X hH 6 5 rfl rfl (z_in e_29 hq_28) dX55_need_95 ?_
        have e_30 := z_ld (f := f_parts) e_29 hq_28.1
        refine lv_iadd hx hb dX55_need_96 ?_
        have e_31 := z_add e_26 (z_m e_30)
        have hq_32 := hw.1
        have hw := hw.2
        have e_33 := z_x e_31 hq_32
        refine lv_topi (fun x4_34 ex4_34 => ?_)
        have hw := hw x4_34.toInt (by rw [ex4_34]; exact e_33)
        refine lv_istore (lv' := [(4, .int x4_34), (3, .int x3_18), (0, .ref (ad 0)), (1, .int x1), (2, .int x2)]) hx hb dX55_need_97 hl (by decide) rfl (fun ls hl => ?_)
        refine lv_aload_n hx hb dX55_need_99 rfl (lv_at hl 2 rfl) ?_
        refine k_get X hH in_X55 0 rfl hc 5 (by decide) q6581 rfl dX55_need_100 ?_
        refine lv_iload_n hx hb dX55_need_103 rfl (lv_at hl 1 rfl) ?_
        refine k_iald X hH 6 5 rfl rfl (z_in (rfl : x3_18.toInt = _) hq_19) dX55_need_104 ?_
        have e_35 := z_ld (f := f_parts) (rfl : x3_18.toInt = _) hq_19.1
        refine lv_iconst (v := 1) hx hb dX55_need_105 (by decide) ?_
        refine lv_icmp_eq (tgt := 118) hx hb dX55_need_106 (by decide) (fun c_36 => ?_) (fun c_36 => ?_)
        · have hw := hw.1 (z_eq e_35 (rfl : (1 : Int32).toInt = 1) c_36)
          refine lv_iconst (v := 2) hx hb dX55_need_118 (by decide) ?_
          refine lv_goto (tgt := 123) hx hb dX55_need_119 (by decide) ?_
          exact atX55_need_123 hc X (fun x2 f_needs hw H locs ls hH hl => ih x2 f_needs hw _ _ ls hH (lv_sub hl [0, 1, 2] rfl)) x2 x4_34 2 f_needs hw _ _ ls hH (lv_sub hl [2, 3, 4, 0] rfl)
        · have hw := hw.2 (z_neq e_35 (rfl : (1 : Int32).toInt = 1) c_36)
          refine lv_aload_n hx hb dX55_need_109 rfl (lv_at hl 2 rfl) ?_
          refine k_get X hH in_X55 0 rfl hc 2 (by decide) q6578 rfl dX55_need_110 ?_
          refine lv_iload_n hx hb dX55_need_113 rfl (lv_at hl 3 rfl) ?_
          refine k_iald X hH 3 2 rfl rfl (z_in (rfl : x1.toInt = _) hq_10) dX55_need_114 ?_
          have e_45 := z_ld (f := f_kinds) (rfl : x1.toInt = _) hq_10.1
          refine lv_if_lt (tgt := 122) hx hb dX55_need_115 (by decide) (fun c_46 => ?_) (fun c_46 => ?_)
          · have hw := hw.1 (z_lt e_45 (rfl : (0 : Int32).toInt = 0) c_46)
            refine lv_iconst (v := 1) hx hb dX55_need_122 (by decide) ?_
            exact atX55_need_123 hc X (fun x2 f_needs hw H locs ls hH hl => ih x2 f_needs hw _ _ ls hH (lv_sub hl [0, 1, 2] rfl)) x2 x4_34 1 f_needs hw _ _ ls hH (lv_sub hl [2, 3, 4, 0] rfl)
          · have hw := hw.2 (z_nlt e_45 (rfl : (0 : Int32).toInt = 0) c_46)
            refine lv_iconst (v := 2) hx hb dX55_need_118 (by decide) ?_
            refine lv_goto (tgt := 123) hx hb dX55_need_119 (by decide) ?_
            exact atX55_need_123 hc X (fun x2 f_needs hw H locs ls hH hl => ih x2 f_needs hw _ _ ls hH (lv_sub hl [0, 1, 2] rfl)) x2 x4_34 2 f_needs hw _ _ ls hH (lv_sub hl [2, 3, 4, 0] rfl)
      · have hw := hw.1 (z_eq e_20 (rfl : (2 : Int32).toInt = 2) c_21)
        refine lv_goto (tgt := 146) hx hb dX55_need_74 (by decide) ?_
        have hq_48 := hw.1
        have hw := hw.2
        obtain ⟨x2_47, ex2_47⟩ : ∃ y : Int32, y = x2 + 1 := ⟨_, rfl⟩
        have hw := hw x2_47.toInt (by rw [ex2_47]; exact (z_x (z_add (z_m (rfl : x2.toInt = _)) (z_m (rfl : (1 : Int32).toInt = 1))) hq_48))
        refine lv_iinc (v := x2_47) (lv' := [(2, .int x2_47), (3, .int x3_18), (0, .ref (ad 0)), (1, .int x1)]) hx hb dX55_need_146 hl (k := 3) rfl (by rw [ex2_47]; rfl) (by decide) rfl (fun ls hl => ?_)
        refine lv_goto (tgt := 45) hx hb dX55_need_149 (by decide) ?_
        exact ih x2_47 f_needs hw _ _ ls hH (lv_sub hl [2, 3, 0] rfl)
set_option maxHeartbeats 4000000 in
theorem atX55_need_24 {p : Program} {l : Launch} {e : Env} {s : State} {m : MethodId} {args : Array Value} {below : List Frame} {meth : Method} {c : Code} {dC : Nat → ClassId} {dI : Nat → Nat → Nat} {cl : List vw_C} {ci : Nat} (hc : cl[ci]? = some (RX55, TX55, 28)) {ad : Nat → Nat} {d : Nat → ClassId} {A : Nat → Prop} {post : Int → (Int → Int) → (Int → Int) → Prop} {f_said : Nat → Int32} {f_heads : Nat → Int32} {f_kinds : Nat → Int32} {f_folded : Nat → Int32} {f_lengths : Nat → Int32} {f_parts : Nat → Int32} {f_rules : Int32} {f_known : Int32} {f_rounds : Nat → Int32} {f_given : Nat → Int32} {f_strata : Nat → Int32} {f_turns : Int32} {f_values : Nat → Int32} {f_plain : Nat → Int32} {f_plainCount : Int32} {f_pointers : Nat → Int32} {f_now : Int32} {f_fresh : Nat → Int32} {f_many : Nat → Int32} {f_sums : Nat → Int32} {f_lows : Nat → Int32} {f_highs : Nat → Int32} {f_layed : Int32} {f_worked : Int64} {f_large : Int32} (X : kX p s m args meth c cX55_need 6 RX55 none (dC, dI) cl (tX55 d)) {K158 : (Int → Int) → Prop}  {f_circle : Int32} {f_comes : Nat → Int32} (hk158 : ∀ (f_needs : Nat → Int32), K158 (zF f_needs) → ∀ (H : Heap) (locs : List Loc) (ls : Array Slot), kH (dC, dI) cl A s.heap H locs (wX55 ci ad d f_said f_heads f_kinds f_folded f_lengths f_parts f_rules f_known f_rounds f_given f_strata f_circle f_turns f_needs f_comes f_values f_plain f_plainCount f_pointers f_now f_fresh f_many f_sums f_lows f_highs f_layed f_worked f_large) → lv_has ls 6 [(0, .ref (ad 0))] → W p l e ({ frames := 2, cells := 0, slots := 0, locals := 49 } : Room) s m args below meth c H locs 0 0 (MQ below (va_Qv (fun (u : Int32 × (Nat → Int32) × (Nat → Int32)) => post (u.1).toInt (zF (u.2.1)) (zF (u.2.2))) (kB (dC, dI) cl (tX55 d) A (fun u : Int32 × (Nat → Int32) × (Nat → Int32) => (wX55 ci ad d f_said f_heads f_kinds f_folded f_lengths f_parts f_rules f_known f_rounds f_given f_strata (u.1) f_turns (u.2.1) (u.2.2) f_values f_plain f_plainCount f_pointers f_now f_fresh f_many f_sums f_lows f_highs f_layed f_worked f_large))) A) args s 0 0 A) (F0 m 158 ls [])) :
    ∀ (nn : Nat) (x1 : Int32) (f_needs : Nat → Int32), wX55_need_24 K158 (zF f_heads) (zF f_kinds) (zF f_folded) (zF f_lengths) (zF f_parts) f_rules.toInt nn x1.toInt (zF f_needs) → ∀ (H : Heap) (locs : List Loc) (ls : Array Slot), kH (dC, dI) cl A s.heap H locs (wX55 ci ad d f_said f_heads f_kinds f_folded f_lengths f_parts f_rules f_known f_rounds f_given f_strata f_circle f_turns f_needs f_comes f_values f_plain f_plainCount f_pointers f_now f_fresh f_many f_sums f_lows f_highs f_layed f_worked f_large) → lv_has ls 6 [(0, .ref (ad 0)), (1, .int x1)] → W p l e ({ frames := 2, cells := 0, slots := 0, locals := 49 } : Room) s m args below meth c H locs 0 0 (MQ below (va_Qv (fun (u : Int32 × (Nat → Int32) × (Nat → Int32)) => post (u.1).toInt (zF (u.2.1)) (zF (u.2.2))) (kB (dC, dI) cl (tX55 d) A (fun u : Int32 × (Nat → Int32) × (Nat → Int32) => (wX55 ci ad d f_said f_heads f_kinds f_folded f_lengths f_parts f_rules f_known f_rounds f_given f_strata (u.1) f_turns (u.2.1) (u.2.2) f_values f_plain f_plainCount f_pointers f_now f_fresh f_many f_sums f_lows f_highs f_layed f_worked f_large))) A) args s 0 0 A) (F0 m 24 ls []) := by
  have hx := X.1.1
  have hb := X.1.2.1
  intro nn
  induction nn with
  | zero =>
    intro x1 f_needs hw
    exact False.elim hw
  | succ n ih =>
    intro x1 f_needs hw H locs ls hH hl
    rw [wX55_need_24] at hw
    refine lv_iload_n hx hb dX55_need_24 rfl (lv_at hl 1 rfl) ?_
    refine lv_aload_n hx hb dX55_need_25 rfl (lv_at hl 0 rfl) ?_
    refine k_get X hH in_X55 0 rfl hc 6 (by decide) q6582 rfl dX55_need_26 ?_
    refine lv_icmp_ge (tgt := 158) hx hb dX55_need_29 (by decide) (fun c_7 => ?_) (fun c_7 => ?_)
    · have hw := hw.1 (z_le (rfl : f_rules.toInt = _) (rfl : x1.toInt = _) c_7)
      exact hk158 f_needs hw _ _ ls hH (lv_sub hl [0] rfl)
    · have hw := hw.2 (z_nle (rfl : f_rules.toInt = _) (rfl : x1.toInt = _) c_7)
      refine lv_aload_n hx hb dX55_need_32 rfl (lv_at hl 0 rfl) ?_
      refine lv_iload_n hx hb dX55_need_33 rfl (lv_at hl 1 rfl) ?_
      refine k_i0 hH (k_runV (As := [.int x1]) (rest := []) X hH.1 hH.2.1 X.2.2.2 (walkX55_isSafe hc (x1 := x1) (f_said := f_said) (f_heads := f_heads) (f_kinds := f_kinds) (f_folded := f_folded) (f_lengths := f_lengths) (f_parts := f_parts) (f_rules := f_rules) (f_known := f_known) (f_rounds := f_rounds) (f_given := f_given) (f_strata := f_strata) (f_circle := f_circle) (f_turns := f_turns) (f_needs := f_needs) (f_comes := f_comes) (f_values := f_values) (f_plain := f_plain) (f_plainCount := f_plainCount) (f_pointers := f_pointers) (f_now := f_now) (f_fresh := f_fresh) (f_many := f_many) (f_sums := f_sums) (f_lows := f_lows) (f_highs := f_highs) (f_layed := f_layed) (f_worked := f_worked) (f_large := f_large) hw) (cwV 1 X.1.2.2.2.2 gX55_105 rfl rfl rfl hX55_isSafe ⟨Nat.le_of_ble_eq_true rfl, Nat.le_of_ble_eq_true rfl⟩) hc (q0 := 0) rfl rfl hl.1 rfl (Nat.le_of_ble_eq_true rfl) dX55_need_34 ⟨Nat.le_refl 0, Nat.le_refl 0⟩) (fun r_8 _ H locs hw hH => ?_)
      have hH : kH (dC, dI) cl A s.heap H locs (wX55 ci ad d f_said f_heads f_kinds f_folded f_lengths f_parts f_rules f_known f_rounds f_given f_strata f_circle f_turns f_needs f_comes f_values f_plain f_plainCount f_pointers f_now f_fresh f_many f_sums f_lows f_highs f_layed f_worked f_large) := hH
      refine lv_if_ne (tgt := 43) hx hb dX55_need_37 (by decide) (fun c_9 => ?_) (fun c_9 => ?_)
      · have hw := hw.2 (z_ne (rfl : r_8.toInt = _) (rfl : (0 : Int32).toInt = 0) c_9)
        refine lv_iconst (v := 0) hx hb dX55_need_43 (by decide) ?_
        refine lv_istore_n (lv' := [(2, .int 0), (0, .ref (ad 0)), (1, .int x1)]) hx hb dX55_need_44 rfl hl (by decide) rfl (fun ls hl => ?_)
        obtain ⟨fu, hw⟩ := hw
        refine atX55_need_45 hc X ?_ fu 0 f_needs hw _ _ ls hH (lv_sub hl [1, 2, 0] rfl)
        · intro f_needs_49 hw H locs ls hH hl
          have hq_51 := hw.1
          have hw := hw.2
          obtain ⟨x1_50, ex1_50⟩ : ∃ y : Int32, y = x1 + 1 := ⟨_, rfl⟩
          have hw := hw x1_50.toInt (by rw [ex1_50]; exact (z_x (z_add (z_m (rfl : x1.toInt = _)) (z_m (rfl : (1 : Int32).toInt = 1))) hq_51))
          refine lv_iinc (v := x1_50) (lv' := [(1, .int x1_50), (0, .ref (ad 0))]) hx hb dX55_need_152 hl (k := 1) rfl (by rw [ex1_50]; rfl) (by decide) rfl (fun ls hl => ?_)
          refine lv_goto (tgt := 24) hx hb dX55_need_155 (by decide) ?_
          exact ih x1_50 f_needs_49 hw _ _ ls hH (lv_sub hl [1, 0] rfl)
      · have hw := hw.1 (z_eq (rfl : r_8.toInt = _) (rfl : (0 : Int32).toInt = 0) c_9)
        refine lv_goto (tgt := 152) hx hb dX55_need_40 (by decide) ?_
        have hq_53 := hw.1
        have hw := hw.2
        obtain ⟨x1_52, ex1_52⟩ : ∃ y : Int32, y = x1 + 1 := ⟨_, rfl⟩
        have hw := hw x1_52.toInt (by rw [ex1_52]; exact (z_x (z_add (z_m (rfl : x1.toInt = _)) (z_m (rfl : (1 : Int32).toInt = 1))) hq_53))
        refine lv_iinc (v := x1_52) (lv' := [(1, .int x1_52), (0, .ref (ad 0))]) hx hb dX55_need_152 hl (k := 1) rfl (by rw [ex1_52]; rfl) (by decide) rfl (fun ls hl => ?_)
        refine lv_goto (tgt := 24) hx hb dX55_need_155 (by decide) ?_
        exact ih x1_52 f_needs hw _ _ ls hH (lv_sub hl [1, 0] rfl)
set_option maxHeartbeats 4000000 in
theorem atX55_need_160 {p : Program} {l : Launch} {e : Env} {s : State} {m : MethodId} {args : Array Value} {below : List Frame} {meth : Method} {c : Code} {dC : Nat → ClassId} {dI : Nat → Nat → Nat} {cl : List vw_C} {ci : Nat} (hc : cl[ci]? = some (RX55, TX55, 28)) {ad : Nat → Nat} {d : Nat → ClassId} {A : Nat → Prop} {post : Int → (Int → Int) → (Int → Int) → Prop} {f_said : Nat → Int32} {f_heads : Nat → Int32} {f_kinds : Nat → Int32} {f_folded : Nat → Int32} {f_lengths : Nat → Int32} {f_parts : Nat → Int32} {f_rules : Int32} {f_known : Int32} {f_rounds : Nat → Int32} {f_given : Nat → Int32} {f_strata : Nat → Int32} {f_turns : Int32} {f_values : Nat → Int32} {f_plain : Nat → Int32} {f_plainCount : Int32} {f_pointers : Nat → Int32} {f_now : Int32} {f_fresh : Nat → Int32} {f_many : Nat → Int32} {f_sums : Nat → Int32} {f_lows : Nat → Int32} {f_highs : Nat → Int32} {f_layed : Int32} {f_worked : Int64} {f_large : Int32} (X : kX p s m args meth c cX55_need 6 RX55 none (dC, dI) cl (tX55 d)) {K193 : (Int → Int) → Prop}  {f_circle : Int32} {f_needs : Nat → Int32} (hk193 : ∀ (f_comes : Nat → Int32), K193 (zF f_comes) → ∀ (H : Heap) (locs : List Loc) (ls : Array Slot), kH (dC, dI) cl A s.heap H locs (wX55 ci ad d f_said f_heads f_kinds f_folded f_lengths f_parts f_rules f_known f_rounds f_given f_strata f_circle f_turns f_needs f_comes f_values f_plain f_plainCount f_pointers f_now f_fresh f_many f_sums f_lows f_highs f_layed f_worked f_large) → lv_has ls 6 [(0, .ref (ad 0))] → W p l e ({ frames := 2, cells := 0, slots := 0, locals := 49 } : Room) s m args below meth c H locs 0 0 (MQ below (va_Qv (fun (u : Int32 × (Nat → Int32) × (Nat → Int32)) => post (u.1).toInt (zF (u.2.1)) (zF (u.2.2))) (kB (dC, dI) cl (tX55 d) A (fun u : Int32 × (Nat → Int32) × (Nat → Int32) => (wX55 ci ad d f_said f_heads f_kinds f_folded f_lengths f_parts f_rules f_known f_rounds f_given f_strata (u.1) f_turns (u.2.1) (u.2.2) f_values f_plain f_plainCount f_pointers f_now f_fresh f_many f_sums f_lows f_highs f_layed f_worked f_large))) A) args s 0 0 A) (F0 m 193 ls [])) :
    ∀ (nn : Nat) (x1 : Int32) (f_comes : Nat → Int32), wX55_need_160 K193 (zF f_needs) nn x1.toInt (zF f_comes) → ∀ (H : Heap) (locs : List Loc) (ls : Array Slot), kH (dC, dI) cl A s.heap H locs (wX55 ci ad d f_said f_heads f_kinds f_folded f_lengths f_parts f_rules f_known f_rounds f_given f_strata f_circle f_turns f_needs f_comes f_values f_plain f_plainCount f_pointers f_now f_fresh f_many f_sums f_lows f_highs f_layed f_worked f_large) → lv_has ls 6 [(0, .ref (ad 0)), (1, .int x1)] → W p l e ({ frames := 2, cells := 0, slots := 0, locals := 49 } : Room) s m args below meth c H locs 0 0 (MQ below (va_Qv (fun (u : Int32 × (Nat → Int32) × (Nat → Int32)) => post (u.1).toInt (zF (u.2.1)) (zF (u.2.2))) (kB (dC, dI) cl (tX55 d) A (fun u : Int32 × (Nat → Int32) × (Nat → Int32) => (wX55 ci ad d f_said f_heads f_kinds f_folded f_lengths f_parts f_rules f_known f_rounds f_given f_strata (u.1) f_turns (u.2.1) (u.2.2) f_values f_plain f_plainCount f_pointers f_now f_fresh f_many f_sums f_lows f_highs f_layed f_worked f_large))) A) args s 0 0 A) (F0 m 160 ls []) := by
  have hx := X.1.1
  have hb := X.1.2.1
  intro nn
  induction nn with
  | zero =>
    intro x1 f_comes hw
    exact False.elim hw
  | succ n ih =>
    intro x1 f_comes hw H locs ls hH hl
    rw [wX55_need_160] at hw
    refine lv_iload_n hx hb dX55_need_160 rfl (lv_at hl 1 rfl) ?_
    refine lv_sipush (v := 256) hx hb dX55_need_161 (by decide) ?_
    refine lv_icmp_ge (tgt := 193) hx hb dX55_need_164 (by decide) (fun c_55 => ?_) (fun c_55 => ?_)
    · have hw := hw.1 (z_le (rfl : (256 : Int32).toInt = 256) (rfl : x1.toInt = _) c_55)
      exact hk193 f_comes hw _ _ ls hH (lv_sub hl [0] rfl)
    · have hw := hw.2 (z_nle (rfl : (256 : Int32).toInt = 256) (rfl : x1.toInt = _) c_55)
      refine lv_aload_n hx hb dX55_need_167 rfl (lv_at hl 0 rfl) ?_
      refine k_get X hH in_X55 0 rfl hc 14 (by decide) q6590 rfl dX55_need_168 ?_
      refine lv_iload_n hx hb dX55_need_171 rfl (lv_at hl 1 rfl) ?_
      refine lv_aload_n hx hb dX55_need_172 rfl (lv_at hl 0 rfl) ?_
      refine k_get X hH in_X55 0 rfl hc 13 (by decide) q6589 rfl dX55_need_173 ?_
      refine lv_iload_n hx hb dX55_need_176 rfl (lv_at hl 1 rfl) ?_
      have hq_56 := hw.1
      have hw := hw.2
      refine k_iald X hH 10 9 rfl rfl (z_in (rfl : x1.toInt = _) hq_56) dX55_need_177 ?_
      have e_57 := z_ld (f := f_needs) (rfl : x1.toInt = _) hq_56.1
      refine lv_if_le (tgt := 185) hx hb dX55_need_178 (by decide) (fun c_58 => ?_) (fun c_58 => ?_)
      · have hw := hw.1 (z_le e_57 (rfl : (0 : Int32).toInt = 0) c_58)
        refine lv_iconst (v := 0) hx hb dX55_need_185 (by decide) ?_
        obtain ⟨f_comes_59, ef_comes_59⟩ : ∃ y : Nat → Int32, y = upd f_comes x1.toNatClampNeg (vp_nar .boolean 0) := ⟨_, rfl⟩
        refine k_zast X hH 11 10 rfl rfl (z_in (rfl : x1.toInt = _) hq_56) dX55_need_186 ef_comes_59 (ws1 := (wX55 ci ad d f_said f_heads f_kinds f_folded f_lengths f_parts f_rules f_known f_rounds f_given f_strata f_circle f_turns f_needs f_comes_59 f_values f_plain f_plainCount f_pointers f_now f_fresh f_many f_sums f_lows f_highs f_layed f_worked f_large)) rfl (fun H locs hH => ?_)
        have hw := hw (zF f_comes_59) (by rw [ef_comes_59]; exact z_st (f := f_comes) (rfl : x1.toInt = _) hq_56.1 (z_narZ (rfl : (0 : Int32).toInt = 0) (by decide)))
        have hq_61 := hw.1
        have hw := hw.2
        obtain ⟨x1_60, ex1_60⟩ : ∃ y : Int32, y = x1 + 1 := ⟨_, rfl⟩
        have hw := hw x1_60.toInt (by rw [ex1_60]; exact (z_x (z_add (z_m (rfl : x1.toInt = _)) (z_m (rfl : (1 : Int32).toInt = 1))) hq_61))
        refine lv_iinc (v := x1_60) (lv' := [(1, .int x1_60), (0, .ref (ad 0))]) hx hb dX55_need_187 hl (k := 1) rfl (by rw [ex1_60]; rfl) (by decide) rfl (fun ls hl => ?_)
        refine lv_goto (tgt := 160) hx hb dX55_need_190 (by decide) ?_
        exact ih x1_60 f_comes_59 hw _ _ ls hH (lv_sub hl [1, 0] rfl)
      · have hw := hw.2 (z_nle e_57 (rfl : (0 : Int32).toInt = 0) c_58)
        refine lv_iconst (v := 1) hx hb dX55_need_181 (by decide) ?_
        refine lv_goto (tgt := 186) hx hb dX55_need_182 (by decide) ?_
        obtain ⟨f_comes_62, ef_comes_62⟩ : ∃ y : Nat → Int32, y = upd f_comes x1.toNatClampNeg (vp_nar .boolean 1) := ⟨_, rfl⟩
        refine k_zast X hH 11 10 rfl rfl (z_in (rfl : x1.toInt = _) hq_56) dX55_need_186 ef_comes_62 (ws1 := (wX55 ci ad d f_said f_heads f_kinds f_folded f_lengths f_parts f_rules f_known f_rounds f_given f_strata f_circle f_turns f_needs f_comes_62 f_values f_plain f_plainCount f_pointers f_now f_fresh f_many f_sums f_lows f_highs f_layed f_worked f_large)) rfl (fun H locs hH => ?_)
        have hw := hw (zF f_comes_62) (by rw [ef_comes_62]; exact z_st (f := f_comes) (rfl : x1.toInt = _) hq_56.1 (z_narZ (rfl : (1 : Int32).toInt = 1) (by decide)))
        have hq_64 := hw.1
        have hw := hw.2
        obtain ⟨x1_63, ex1_63⟩ : ∃ y : Int32, y = x1 + 1 := ⟨_, rfl⟩
        have hw := hw x1_63.toInt (by rw [ex1_63]; exact (z_x (z_add (z_m (rfl : x1.toInt = _)) (z_m (rfl : (1 : Int32).toInt = 1))) hq_64))
        refine lv_iinc (v := x1_63) (lv' := [(1, .int x1_63), (0, .ref (ad 0))]) hx hb dX55_need_187 hl (k := 1) rfl (by rw [ex1_63]; rfl) (by decide) rfl (fun ls hl => ?_)
        refine lv_goto (tgt := 160) hx hb dX55_need_190 (by decide) ?_
        exact ih x1_63 f_comes_62 hw _ _ ls hH (lv_sub hl [1, 0] rfl)
set_option maxHeartbeats 4000000 in
theorem atX55_need_203 {p : Program} {l : Launch} {e : Env} {s : State} {m : MethodId} {args : Array Value} {below : List Frame} {meth : Method} {c : Code} {dC : Nat → ClassId} {dI : Nat → Nat → Nat} {cl : List vw_C} {ci : Nat} (hc : cl[ci]? = some (RX55, TX55, 28)) {ad : Nat → Nat} {d : Nat → ClassId} {A : Nat → Prop} {post : Int → (Int → Int) → (Int → Int) → Prop} {f_said : Nat → Int32} {f_heads : Nat → Int32} {f_kinds : Nat → Int32} {f_folded : Nat → Int32} {f_lengths : Nat → Int32} {f_parts : Nat → Int32} {f_rules : Int32} {f_known : Int32} {f_rounds : Nat → Int32} {f_given : Nat → Int32} {f_strata : Nat → Int32} {f_turns : Int32} {f_values : Nat → Int32} {f_plain : Nat → Int32} {f_plainCount : Int32} {f_pointers : Nat → Int32} {f_now : Int32} {f_fresh : Nat → Int32} {f_many : Nat → Int32} {f_sums : Nat → Int32} {f_lows : Nat → Int32} {f_highs : Nat → Int32} {f_layed : Int32} {f_worked : Int64} {f_large : Int32} (X : kX p s m args meth c cX55_need 6 RX55 none (dC, dI) cl (tX55 d)) {K257 : (Int → Int) → Prop} {x1 : Int32} {f_circle : Int32} {f_needs : Nat → Int32} (hk257 : ∀ (f_comes : Nat → Int32), K257 (zF f_comes) → ∀ (H : Heap) (locs : List Loc) (ls : Array Slot), kH (dC, dI) cl A s.heap H locs (wX55 ci ad d f_said f_heads f_kinds f_folded f_lengths f_parts f_rules f_known f_rounds f_given f_strata f_circle f_turns f_needs f_comes f_values f_plain f_plainCount f_pointers f_now f_fresh f_many f_sums f_lows f_highs f_layed f_worked f_large) → lv_has ls 6 [(0, .ref (ad 0)), (1, .int x1)] → W p l e ({ frames := 2, cells := 0, slots := 0, locals := 49 } : Room) s m args below meth c H locs 0 0 (MQ below (va_Qv (fun (u : Int32 × (Nat → Int32) × (Nat → Int32)) => post (u.1).toInt (zF (u.2.1)) (zF (u.2.2))) (kB (dC, dI) cl (tX55 d) A (fun u : Int32 × (Nat → Int32) × (Nat → Int32) => (wX55 ci ad d f_said f_heads f_kinds f_folded f_lengths f_parts f_rules f_known f_rounds f_given f_strata (u.1) f_turns (u.2.1) (u.2.2) f_values f_plain f_plainCount f_pointers f_now f_fresh f_many f_sums f_lows f_highs f_layed f_worked f_large))) A) args s 0 0 A) (F0 m 257 ls [])) :
    ∀ (nn : Nat) (x2 : Int32) (f_comes : Nat → Int32), wX55_need_203 K257 x1.toInt nn x2.toInt (zF f_comes) → ∀ (H : Heap) (locs : List Loc) (ls : Array Slot), kH (dC, dI) cl A s.heap H locs (wX55 ci ad d f_said f_heads f_kinds f_folded f_lengths f_parts f_rules f_known f_rounds f_given f_strata f_circle f_turns f_needs f_comes f_values f_plain f_plainCount f_pointers f_now f_fresh f_many f_sums f_lows f_highs f_layed f_worked f_large) → lv_has ls 6 [(0, .ref (ad 0)), (1, .int x1), (2, .int x2)] → W p l e ({ frames := 2, cells := 0, slots := 0, locals := 49 } : Room) s m args below meth c H locs 0 0 (MQ below (va_Qv (fun (u : Int32 × (Nat → Int32) × (Nat → Int32)) => post (u.1).toInt (zF (u.2.1)) (zF (u.2.2))) (kB (dC, dI) cl (tX55 d) A (fun u : Int32 × (Nat → Int32) × (Nat → Int32) => (wX55 ci ad d f_said f_heads f_kinds f_folded f_lengths f_parts f_rules f_known f_rounds f_given f_strata (u.1) f_turns (u.2.1) (u.2.2) f_values f_plain f_plainCount f_pointers f_now f_fresh f_many f_sums f_lows f_highs f_layed f_worked f_large))) A) args s 0 0 A) (F0 m 203 ls []) := by
  have hx := X.1.1
  have hb := X.1.2.1
  intro nn
  induction nn with
  | zero =>
    intro x2 f_comes hw
    exact False.elim hw
  | succ n ih =>
    intro x2 f_comes hw H locs ls hH hl
    rw [wX55_need_203] at hw
    refine lv_iload_n hx hb dX55_need_203 rfl (lv_at hl 2 rfl) ?_
    refine lv_sipush (v := 256) hx hb dX55_need_204 (by decide) ?_
    refine lv_icmp_ge (tgt := 257) hx hb dX55_need_207 (by decide) (fun c_67 => ?_) (fun c_67 => ?_)
    · have hw := hw.1 (z_le (rfl : (256 : Int32).toInt = 256) (rfl : x2.toInt = _) c_67)
      exact hk257 f_comes hw _ _ ls hH (lv_sub hl [0, 1] rfl)
    · have hw := hw.2 (z_nle (rfl : (256 : Int32).toInt = 256) (rfl : x2.toInt = _) c_67)
      refine lv_aload_n hx hb dX55_need_210 rfl (lv_at hl 0 rfl) ?_
      refine k_get X hH in_X55 0 rfl hc 14 (by decide) q6590 rfl dX55_need_211 ?_
      refine lv_bipush (v := 16) hx hb dX55_need_214 (by decide) ?_
      refine lv_iload_n hx hb dX55_need_216 rfl (lv_at hl 2 rfl) ?_
      refine lv_bipush (v := 16) hx hb dX55_need_217 (by decide) ?_
      have hq_68 := hw.1
      have hw := hw.2
      refine lv_idiv hx hb dX55_need_219 (by decide) ?_
      have e_69 := z_div (rfl : x2.toInt = _) (rfl : (16 : Int32).toInt = 16) hq_68 (by decide)
      refine lv_imul hx hb dX55_need_220 ?_
      have e_70 := z_mul (z_m (rfl : (16 : Int32).toInt = 16)) (z_m e_69)
      refine lv_iload_n hx hb dX55_need_221 rfl (lv_at hl 1 rfl) ?_
      refine lv_iadd hx hb dX55_need_222 ?_
      have e_71 := z_add e_70 (z_m (rfl : x1.toInt = _))
      have hq_72 := hw.1
      have hw := hw.2
      have e_73 := z_xi e_71 hq_72 (by decide)
      refine k_zald X hH 11 10 rfl rfl (z_in e_73 hq_72) dX55_need_223 ?_
      have e_74 := z_ld (f := f_comes) e_73 hq_72.1
      refine lv_if_eq (tgt := 251) hx hb dX55_need_224 (by decide) (fun c_75 => ?_) (fun c_75 => ?_)
      · have hw := hw.1 (z_eq e_74 (rfl : (0 : Int32).toInt = 0) c_75)
        have hq_77 := hw.1
        have hw := hw.2
        obtain ⟨x2_76, ex2_76⟩ : ∃ y : Int32, y = x2 + 1 := ⟨_, rfl⟩
        have hw := hw x2_76.toInt (by rw [ex2_76]; exact (z_x (z_add (z_m (rfl : x2.toInt = _)) (z_m (rfl : (1 : Int32).toInt = 1))) hq_77))
        refine lv_iinc (v := x2_76) (lv' := [(2, .int x2_76), (0, .ref (ad 0)), (1, .int x1)]) hx hb dX55_need_251 hl (k := 2) rfl (by rw [ex2_76]; rfl) (by decide) rfl (fun ls hl => ?_)
        refine lv_goto (tgt := 203) hx hb dX55_need_254 (by decide) ?_
        exact ih x2_76 f_comes hw _ _ ls hH (lv_sub hl [1, 2, 0] rfl)
      · have hw := hw.2 (z_neq e_74 (rfl : (0 : Int32).toInt = 0) c_75)
        refine lv_aload_n hx hb dX55_need_227 rfl (lv_at hl 0 rfl) ?_
        refine k_get X hH in_X55 0 rfl hc 14 (by decide) q6590 rfl dX55_need_228 ?_
        refine lv_bipush (v := 16) hx hb dX55_need_231 (by decide) ?_
        refine lv_iload_n hx hb dX55_need_233 rfl (lv_at hl 1 rfl) ?_
        refine lv_imul hx hb dX55_need_234 ?_
        have e_78 := z_mul (z_m (rfl : (16 : Int32).toInt = 16)) (z_m (rfl : x1.toInt = _))
        refine lv_iload_n hx hb dX55_need_235 rfl (lv_at hl 2 rfl) ?_
        refine lv_bipush (v := 16) hx hb dX55_need_236 (by decide) ?_
        refine lv_irem hx hb dX55_need_238 (by decide) ?_
        have e_79 := z_rem (rfl : x2.toInt = _) (rfl : (16 : Int32).toInt = 16) hq_68 (by decide)
        refine lv_iadd hx hb dX55_need_239 ?_
        have e_80 := z_add e_78 (z_m e_79)
        have hq_81 := hw.1
        have hw := hw.2
        have e_82 := z_xi e_80 hq_81 (by decide)
        refine k_zald X hH 11 10 rfl rfl (z_in e_82 hq_81) dX55_need_240 ?_
        have e_83 := z_ld (f := f_comes) e_82 hq_81.1
        refine lv_if_eq (tgt := 251) hx hb dX55_need_241 (by decide) (fun c_84 => ?_) (fun c_84 => ?_)
        · have hw := hw.1 (z_eq e_83 (rfl : (0 : Int32).toInt = 0) c_84)
          have hq_86 := hw.1
          have hw := hw.2
          obtain ⟨x2_85, ex2_85⟩ : ∃ y : Int32, y = x2 + 1 := ⟨_, rfl⟩
          have hw := hw x2_85.toInt (by rw [ex2_85]; exact (z_x (z_add (z_m (rfl : x2.toInt = _)) (z_m (rfl : (1 : Int32).toInt = 1))) hq_86))
          refine lv_iinc (v := x2_85) (lv' := [(2, .int x2_85), (0, .ref (ad 0)), (1, .int x1)]) hx hb dX55_need_251 hl (k := 2) rfl (by rw [ex2_85]; rfl) (by decide) rfl (fun ls hl => ?_)
          refine lv_goto (tgt := 203) hx hb dX55_need_254 (by decide) ?_
          exact ih x2_85 f_comes hw _ _ ls hH (lv_sub hl [1, 2, 0] rfl)
        · have hw := hw.2 (z_neq e_83 (rfl : (0 : Int32).toInt = 0) c_84)
          refine lv_aload_n hx hb dX55_need_244 rfl (lv_at hl 0 rfl) ?_
          refine k_get X hH in_X55 0 rfl hc 14 (by decide) q6590 rfl dX55_need_245 ?_
          refine lv_iload_n hx hb dX55_need_248 rfl (lv_at hl 2 rfl) ?_
          refine lv_iconst (v := 1) hx hb dX55_need_249 (by decide) ?_
          have hq_88 := hw.1
          have hw := hw.2
          obtain ⟨f_comes_87, ef_comes_87⟩ : ∃ y : Nat → Int32, y = upd f_comes x2.toNatClampNeg (vp_nar .boolean 1) := ⟨_, rfl⟩
          refine k_zast X hH 11 10 rfl rfl (z_in (rfl : x2.toInt = _) hq_88) dX55_need_250 ef_comes_87 (ws1 := (wX55 ci ad d f_said f_heads f_kinds f_folded f_lengths f_parts f_rules f_known f_rounds f_given f_strata f_circle f_turns f_needs f_comes_87 f_values f_plain f_plainCount f_pointers f_now f_fresh f_many f_sums f_lows f_highs f_layed f_worked f_large)) rfl (fun H locs hH => ?_)
          have hw := hw (zF f_comes_87) (by rw [ef_comes_87]; exact z_st (f := f_comes) (rfl : x2.toInt = _) hq_88.1 (z_narZ (rfl : (1 : Int32).toInt = 1) (by decide)))
          have hq_90 := hw.1
          have hw := hw.2
          obtain ⟨x2_89, ex2_89⟩ : ∃ y : Int32, y = x2 + 1 := ⟨_, rfl⟩
          have hw := hw x2_89.toInt (by rw [ex2_89]; exact (z_x (z_add (z_m (rfl : x2.toInt = _)) (z_m (rfl : (1 : Int32).toInt = 1))) hq_90))
          refine lv_iinc (v := x2_89) (lv' := [(2, .int x2_89), (0, .ref (ad 0)), (1, .int x1)]) hx hb dX55_need_251 hl (k := 2) rfl (by rw [ex2_89]; rfl) (by decide) rfl (fun ls hl => ?_)
          refine lv_goto (tgt := 203) hx hb dX55_need_254 (by decide) ?_
          exact ih x2_89 f_comes_87 hw _ _ ls hH (lv_sub hl [1, 2, 0] rfl)
set_option maxHeartbeats 4000000 in
theorem atX55_need_195 {p : Program} {l : Launch} {e : Env} {s : State} {m : MethodId} {args : Array Value} {below : List Frame} {meth : Method} {c : Code} {dC : Nat → ClassId} {dI : Nat → Nat → Nat} {cl : List vw_C} {ci : Nat} (hc : cl[ci]? = some (RX55, TX55, 28)) {ad : Nat → Nat} {d : Nat → ClassId} {A : Nat → Prop} {post : Int → (Int → Int) → (Int → Int) → Prop} {f_said : Nat → Int32} {f_heads : Nat → Int32} {f_kinds : Nat → Int32} {f_folded : Nat → Int32} {f_lengths : Nat → Int32} {f_parts : Nat → Int32} {f_rules : Int32} {f_known : Int32} {f_rounds : Nat → Int32} {f_given : Nat → Int32} {f_strata : Nat → Int32} {f_turns : Int32} {f_values : Nat → Int32} {f_plain : Nat → Int32} {f_plainCount : Int32} {f_pointers : Nat → Int32} {f_now : Int32} {f_fresh : Nat → Int32} {f_many : Nat → Int32} {f_sums : Nat → Int32} {f_lows : Nat → Int32} {f_highs : Nat → Int32} {f_layed : Int32} {f_worked : Int64} {f_large : Int32} (X : kX p s m args meth c cX55_need 6 RX55 none (dC, dI) cl (tX55 d)) {K263 : (Int → Int) → Prop}  {f_circle : Int32} {f_needs : Nat → Int32} (hk263 : ∀ (f_comes : Nat → Int32), K263 (zF f_comes) → ∀ (H : Heap) (locs : List Loc) (ls : Array Slot), kH (dC, dI) cl A s.heap H locs (wX55 ci ad d f_said f_heads f_kinds f_folded f_lengths f_parts f_rules f_known f_rounds f_given f_strata f_circle f_turns f_needs f_comes f_values f_plain f_plainCount f_pointers f_now f_fresh f_many f_sums f_lows f_highs f_layed f_worked f_large) → lv_has ls 6 [(0, .ref (ad 0))] → W p l e ({ frames := 2, cells := 0, slots := 0, locals := 49 } : Room) s m args below meth c H locs 0 0 (MQ below (va_Qv (fun (u : Int32 × (Nat → Int32) × (Nat → Int32)) => post (u.1).toInt (zF (u.2.1)) (zF (u.2.2))) (kB (dC, dI) cl (tX55 d) A (fun u : Int32 × (Nat → Int32) × (Nat → Int32) => (wX55 ci ad d f_said f_heads f_kinds f_folded f_lengths f_parts f_rules f_known f_rounds f_given f_strata (u.1) f_turns (u.2.1) (u.2.2) f_values f_plain f_plainCount f_pointers f_now f_fresh f_many f_sums f_lows f_highs f_layed f_worked f_large))) A) args s 0 0 A) (F0 m 263 ls [])) :
    ∀ (nn : Nat) (x1 : Int32) (f_comes : Nat → Int32), wX55_need_195 K263 nn x1.toInt (zF f_comes) → ∀ (H : Heap) (locs : List Loc) (ls : Array Slot), kH (dC, dI) cl A s.heap H locs (wX55 ci ad d f_said f_heads f_kinds f_folded f_lengths f_parts f_rules f_known f_rounds f_given f_strata f_circle f_turns f_needs f_comes f_values f_plain f_plainCount f_pointers f_now f_fresh f_many f_sums f_lows f_highs f_layed f_worked f_large) → lv_has ls 6 [(0, .ref (ad 0)), (1, .int x1)] → W p l e ({ frames := 2, cells := 0, slots := 0, locals := 49 } : Room) s m args below meth c H locs 0 0 (MQ below (va_Qv (fun (u : Int32 × (Nat → Int32) × (Nat → Int32)) => post (u.1).toInt (zF (u.2.1)) (zF (u.2.2))) (kB (dC, dI) cl (tX55 d) A (fun u : Int32 × (Nat → Int32) × (Nat → Int32) => (wX55 ci ad d f_said f_heads f_kinds f_folded f_lengths f_parts f_rules f_known f_rounds f_given f_strata (u.1) f_turns (u.2.1) (u.2.2) f_values f_plain f_plainCount f_pointers f_now f_fresh f_many f_sums f_lows f_highs f_layed f_worked f_large))) A) args s 0 0 A) (F0 m 195 ls []) := by
  have hx := X.1.1
  have hb := X.1.2.1
  intro nn
  induction nn with
  | zero =>
    intro x1 f_comes hw
    exact False.elim hw
  | succ n ih =>
    intro x1 f_comes hw H locs ls hH hl
    rw [wX55_need_195] at hw
    refine lv_iload_n hx hb dX55_need_195 rfl (lv_at hl 1 rfl) ?_
    refine lv_bipush (v := 16) hx hb dX55_need_196 (by decide) ?_
    refine lv_icmp_ge (tgt := 263) hx hb dX55_need_198 (by decide) (fun c_66 => ?_) (fun c_66 => ?_)
    · have hw := hw.1 (z_le (rfl : (16 : Int32).toInt = 16) (rfl : x1.toInt = _) c_66)
      exact hk263 f_comes hw _ _ ls hH (lv_sub hl [0] rfl)
    · have hw := hw.2 (z_nle (rfl : (16 : Int32).toInt = 16) (rfl : x1.toInt = _) c_66)
      refine lv_iconst (v := 0) hx hb dX55_need_201 (by decide) ?_
      refine lv_istore_n (lv' := [(2, .int 0), (0, .ref (ad 0)), (1, .int x1)]) hx hb dX55_need_202 rfl hl (by decide) rfl (fun ls hl => ?_)
      obtain ⟨fu, hw⟩ := hw
      refine atX55_need_203 hc X ?_ fu 0 f_comes hw _ _ ls hH (lv_sub hl [1, 2, 0] rfl)
      · intro f_comes_91 hw H locs ls hH hl
        have hq_93 := hw.1
        have hw := hw.2
        obtain ⟨x1_92, ex1_92⟩ : ∃ y : Int32, y = x1 + 1 := ⟨_, rfl⟩
        have hw := hw x1_92.toInt (by rw [ex1_92]; exact (z_x (z_add (z_m (rfl : x1.toInt = _)) (z_m (rfl : (1 : Int32).toInt = 1))) hq_93))
        refine lv_iinc (v := x1_92) (lv' := [(1, .int x1_92), (0, .ref (ad 0))]) hx hb dX55_need_257 hl (k := 1) rfl (by rw [ex1_92]; rfl) (by decide) rfl (fun ls hl => ?_)
        refine lv_goto (tgt := 195) hx hb dX55_need_260 (by decide) ?_
        exact ih x1_92 f_comes_91 hw _ _ ls hH (lv_sub hl [1, 0] rfl)
set_option maxHeartbeats 4000000 in
theorem atX55_need_272 {p : Program} {l : Launch} {e : Env} {s : State} {m : MethodId} {args : Array Value} {below : List Frame} {meth : Method} {c : Code} {dC : Nat → ClassId} {dI : Nat → Nat → Nat} {cl : List vw_C} {ci : Nat} (hc : cl[ci]? = some (RX55, TX55, 28)) {ad : Nat → Nat} {d : Nat → ClassId} {A : Nat → Prop} {post : Int → (Int → Int) → (Int → Int) → Prop} {f_said : Nat → Int32} {f_heads : Nat → Int32} {f_kinds : Nat → Int32} {f_folded : Nat → Int32} {f_lengths : Nat → Int32} {f_parts : Nat → Int32} {f_rules : Int32} {f_known : Int32} {f_rounds : Nat → Int32} {f_given : Nat → Int32} {f_strata : Nat → Int32} {f_turns : Int32} {f_values : Nat → Int32} {f_plain : Nat → Int32} {f_plainCount : Int32} {f_pointers : Nat → Int32} {f_now : Int32} {f_fresh : Nat → Int32} {f_many : Nat → Int32} {f_sums : Nat → Int32} {f_lows : Nat → Int32} {f_highs : Nat → Int32} {f_layed : Int32} {f_worked : Int64} {f_large : Int32} (X : kX p s m args meth c cX55_need 6 RX55 none (dC, dI) cl (tX55 d)) {K326 : Int → Prop}  {f_needs : Nat → Int32} {f_comes : Nat → Int32} (hk326 : ∀ (f_circle : Int32), K326 f_circle.toInt → ∀ (H : Heap) (locs : List Loc) (ls : Array Slot), kH (dC, dI) cl A s.heap H locs (wX55 ci ad d f_said f_heads f_kinds f_folded f_lengths f_parts f_rules f_known f_rounds f_given f_strata f_circle f_turns f_needs f_comes f_values f_plain f_plainCount f_pointers f_now f_fresh f_many f_sums f_lows f_highs f_layed f_worked f_large) → lv_has ls 6 [] → W p l e ({ frames := 2, cells := 0, slots := 0, locals := 49 } : Room) s m args below meth c H locs 0 0 (MQ below (va_Qv (fun (u : Int32 × (Nat → Int32) × (Nat → Int32)) => post (u.1).toInt (zF (u.2.1)) (zF (u.2.2))) (kB (dC, dI) cl (tX55 d) A (fun u : Int32 × (Nat → Int32) × (Nat → Int32) => (wX55 ci ad d f_said f_heads f_kinds f_folded f_lengths f_parts f_rules f_known f_rounds f_given f_strata (u.1) f_turns (u.2.1) (u.2.2) f_values f_plain f_plainCount f_pointers f_now f_fresh f_many f_sums f_lows f_highs f_layed f_worked f_large))) A) args s 0 0 A) (F0 m 326 ls [])) :
    ∀ (nn : Nat) (x1 : Int32) (f_circle : Int32), wX55_need_272 K326 (zF f_needs) (zF f_comes) nn x1.toInt f_circle.toInt → ∀ (H : Heap) (locs : List Loc) (ls : Array Slot), kH (dC, dI) cl A s.heap H locs (wX55 ci ad d f_said f_heads f_kinds f_folded f_lengths f_parts f_rules f_known f_rounds f_given f_strata f_circle f_turns f_needs f_comes f_values f_plain f_plainCount f_pointers f_now f_fresh f_many f_sums f_lows f_highs f_layed f_worked f_large) → lv_has ls 6 [(0, .ref (ad 0)), (1, .int x1)] → W p l e ({ frames := 2, cells := 0, slots := 0, locals := 49 } : Room) s m args below meth c H locs 0 0 (MQ below (va_Qv (fun (u : Int32 × (Nat → Int32) × (Nat → Int32)) => post (u.1).toInt (zF (u.2.1)) (zF (u.2.2))) (kB (dC, dI) cl (tX55 d) A (fun u : Int32 × (Nat → Int32) × (Nat → Int32) => (wX55 ci ad d f_said f_heads f_kinds f_folded f_lengths f_parts f_rules f_known f_rounds f_given f_strata (u.1) f_turns (u.2.1) (u.2.2) f_values f_plain f_plainCount f_pointers f_now f_fresh f_many f_sums f_lows f_highs f_layed f_worked f_large))) A) args s 0 0 A) (F0 m 272 ls []) := by
  have hx := X.1.1
  have hb := X.1.2.1
  intro nn
  induction nn with
  | zero =>
    intro x1 f_circle hw
    exact False.elim hw
  | succ n ih =>
    intro x1 f_circle hw H locs ls hH hl
    rw [wX55_need_272] at hw
    refine lv_iload_n hx hb dX55_need_272 rfl (lv_at hl 1 rfl) ?_
    refine lv_if_lt (tgt := 326) hx hb dX55_need_273 (by decide) (fun c_95 => ?_) (fun c_95 => ?_)
    · have hw := hw.1 (z_lt (rfl : x1.toInt = _) (rfl : (0 : Int32).toInt = 0) c_95)
      exact hk326 f_circle hw _ _ ls hH (lv_sub hl [] rfl)
    · have hw := hw.2 (z_nlt (rfl : x1.toInt = _) (rfl : (0 : Int32).toInt = 0) c_95)
      refine lv_iload_n hx hb dX55_need_276 rfl (lv_at hl 1 rfl) ?_
      refine lv_bipush (v := 16) hx hb dX55_need_277 (by decide) ?_
      have hq_96 := hw.1
      have hw := hw.2
      refine lv_idiv hx hb dX55_need_279 (by decide) ?_
      have e_97 := z_div (rfl : x1.toInt = _) (rfl : (16 : Int32).toInt = 16) hq_96 (by decide)
      refine lv_topi (fun x2_98 ex2_98 => ?_)
      have hw := hw x2_98.toInt (by rw [ex2_98]; exact e_97)
      refine lv_istore_n (lv' := [(2, .int x2_98), (0, .ref (ad 0)), (1, .int x1)]) hx hb dX55_need_280 rfl hl (by decide) rfl (fun ls hl => ?_)
      refine lv_iload_n hx hb dX55_need_281 rfl (lv_at hl 2 rfl) ?_
      refine lv_bipush (v := 16) hx hb dX55_need_282 (by decide) ?_
      refine lv_irem hx hb dX55_need_284 (by decide) ?_
      have e_99 := z_rem (rfl : x1.toInt = _) (rfl : (16 : Int32).toInt = 16) hq_96 (by decide)
      refine lv_topi (fun x3_100 ex3_100 => ?_)
      have hw := hw x3_100.toInt (by rw [ex3_100]; exact e_99)
      refine lv_istore_n (lv' := [(3, .int x3_100), (2, .int x2_98), (0, .ref (ad 0)), (1, .int x1)]) hx hb dX55_need_285 rfl hl (by decide) rfl (fun ls hl => ?_)
      refine lv_aload_n hx hb dX55_need_286 rfl (lv_at hl 2 rfl) ?_
      refine k_get X hH in_X55 0 rfl hc 13 (by decide) q6589 rfl dX55_need_287 ?_
      refine lv_iload_n hx hb dX55_need_290 rfl (lv_at hl 3 rfl) ?_
      have hq_101 := hw.1
      have hw := hw.2
      refine k_iald X hH 10 9 rfl rfl (z_in (rfl : x1.toInt = _) hq_101) dX55_need_291 ?_
      have e_102 := z_ld (f := f_needs) (rfl : x1.toInt = _) hq_101.1
      refine lv_iconst (v := 2) hx hb dX55_need_292 (by decide) ?_
      refine lv_icmp_ne (tgt := 320) hx hb dX55_need_293 (by decide) (fun c_103 => ?_) (fun c_103 => ?_)
      · have hw := hw.2 (z_ne e_102 (rfl : (2 : Int32).toInt = 2) c_103)
        have hq_105 := hw.1
        have hw := hw.2
        obtain ⟨x1_104, ex1_104⟩ : ∃ y : Int32, y = x1 + (-1) := ⟨_, rfl⟩
        have hw := hw x1_104.toInt (by rw [ex1_104]; exact (z_x (z_add (z_m (rfl : x1.toInt = _)) (z_m (rfl : ((-1) : Int32).toInt = (-1)))) hq_105))
        refine lv_iinc (v := x1_104) (lv' := [(1, .int x1_104), (3, .int x3_100), (2, .int x2_98), (0, .ref (ad 0))]) hx hb dX55_need_320 hl (k := 3) rfl (by rw [ex1_104]; rfl) (by decide) rfl (fun ls hl => ?_)
        refine lv_goto (tgt := 272) hx hb dX55_need_323 (by decide) ?_
        exact ih x1_104 f_circle hw _ _ ls hH (lv_sub hl [3, 0] rfl)
      · have hw := hw.1 (z_eq e_102 (rfl : (2 : Int32).toInt = 2) c_103)
        refine lv_iload_n hx hb dX55_need_296 rfl (lv_at hl 1 rfl) ?_
        refine lv_iload_n hx hb dX55_need_297 rfl (lv_at hl 0 rfl) ?_
        refine lv_icmp_eq (tgt := 315) hx hb dX55_need_298 (by decide) (fun c_106 => ?_) (fun c_106 => ?_)
        · have hw := hw.1 (z_eq (rfl : x2_98.toInt = _) (rfl : x3_100.toInt = _) c_106)
          refine lv_aload_n hx hb dX55_need_315 rfl (lv_at hl 2 rfl) ?_
          refine lv_iload_n hx hb dX55_need_316 rfl (lv_at hl 1 rfl) ?_
          refine k_put X hH in_X55 tyX55_ok nmX55 0 rfl hc 11 (by decide) q6587 rfl (ty := .int) rfl rfl rfl (Nat.le_of_ble_eq_true rfl) dX55_need_317 (ws1 := (wX55 ci ad d f_said f_heads f_kinds f_folded f_lengths f_parts f_rules f_known f_rounds f_given f_strata x2_98 f_turns f_needs f_comes f_values f_plain f_plainCount f_pointers f_now f_fresh f_many f_sums f_lows f_highs f_layed f_worked f_large)) rfl (fun H locs hH => ?_)
          have hq_108 := hw.1
          have hw := hw.2
          obtain ⟨x1_107, ex1_107⟩ : ∃ y : Int32, y = x1 + (-1) := ⟨_, rfl⟩
          have hw := hw x1_107.toInt (by rw [ex1_107]; exact (z_x (z_add (z_m (rfl : x1.toInt = _)) (z_m (rfl : ((-1) : Int32).toInt = (-1)))) hq_108))
          refine lv_iinc (v := x1_107) (lv' := [(1, .int x1_107), (3, .int x3_100), (2, .int x2_98), (0, .ref (ad 0))]) hx hb dX55_need_320 hl (k := 3) rfl (by rw [ex1_107]; rfl) (by decide) rfl (fun ls hl => ?_)
          refine lv_goto (tgt := 272) hx hb dX55_need_323 (by decide) ?_
          exact ih x1_107 x2_98 hw _ _ ls hH (lv_sub hl [3, 0] rfl)
        · have hw := hw.2 (z_neq (rfl : x2_98.toInt = _) (rfl : x3_100.toInt = _) c_106)
          refine lv_aload_n hx hb dX55_need_301 rfl (lv_at hl 2 rfl) ?_
          refine k_get X hH in_X55 0 rfl hc 14 (by decide) q6590 rfl dX55_need_302 ?_
          refine lv_bipush (v := 16) hx hb dX55_need_305 (by decide) ?_
          refine lv_iload_n hx hb dX55_need_307 rfl (lv_at hl 0 rfl) ?_
          refine lv_imul hx hb dX55_need_308 ?_
          have e_109 := z_mul (z_m (rfl : (16 : Int32).toInt = 16)) (z_m (rfl : x3_100.toInt = _))
          refine lv_iload_n hx hb dX55_need_309 rfl (lv_at hl 1 rfl) ?_
          refine lv_iadd hx hb dX55_need_310 ?_
          have e_110 := z_add e_109 (z_m (rfl : x2_98.toInt = _))
          have hq_111 := hw.1
          have hw := hw.2
          have e_112 := z_xi e_110 hq_111 (by decide)
          refine k_zald X hH 11 10 rfl rfl (z_in e_112 hq_111) dX55_need_311 ?_
          have e_113 := z_ld (f := f_comes) e_112 hq_111.1
          refine lv_if_eq (tgt := 320) hx hb dX55_need_312 (by decide) (fun c_114 => ?_) (fun c_114 => ?_)
          · have hw := hw.1 (z_eq e_113 (rfl : (0 : Int32).toInt = 0) c_114)
            have hq_116 := hw.1
            have hw := hw.2
            obtain ⟨x1_115, ex1_115⟩ : ∃ y : Int32, y = x1 + (-1) := ⟨_, rfl⟩
            have hw := hw x1_115.toInt (by rw [ex1_115]; exact (z_x (z_add (z_m (rfl : x1.toInt = _)) (z_m (rfl : ((-1) : Int32).toInt = (-1)))) hq_116))
            refine lv_iinc (v := x1_115) (lv' := [(1, .int x1_115), (3, .int x3_100), (2, .int x2_98), (0, .ref (ad 0))]) hx hb dX55_need_320 hl (k := 3) rfl (by rw [ex1_115]; rfl) (by decide) rfl (fun ls hl => ?_)
            refine lv_goto (tgt := 272) hx hb dX55_need_323 (by decide) ?_
            exact ih x1_115 f_circle hw _ _ ls hH (lv_sub hl [3, 0] rfl)
          · have hw := hw.2 (z_neq e_113 (rfl : (0 : Int32).toInt = 0) c_114)
            refine lv_aload_n hx hb dX55_need_315 rfl (lv_at hl 2 rfl) ?_
            refine lv_iload_n hx hb dX55_need_316 rfl (lv_at hl 1 rfl) ?_
            refine k_put X hH in_X55 tyX55_ok nmX55 0 rfl hc 11 (by decide) q6587 rfl (ty := .int) rfl rfl rfl (Nat.le_of_ble_eq_true rfl) dX55_need_317 (ws1 := (wX55 ci ad d f_said f_heads f_kinds f_folded f_lengths f_parts f_rules f_known f_rounds f_given f_strata x2_98 f_turns f_needs f_comes f_values f_plain f_plainCount f_pointers f_now f_fresh f_many f_sums f_lows f_highs f_layed f_worked f_large)) rfl (fun H locs hH => ?_)
            have hq_118 := hw.1
            have hw := hw.2
            obtain ⟨x1_117, ex1_117⟩ : ∃ y : Int32, y = x1 + (-1) := ⟨_, rfl⟩
            have hw := hw x1_117.toInt (by rw [ex1_117]; exact (z_x (z_add (z_m (rfl : x1.toInt = _)) (z_m (rfl : ((-1) : Int32).toInt = (-1)))) hq_118))
            refine lv_iinc (v := x1_117) (lv' := [(1, .int x1_117), (3, .int x3_100), (2, .int x2_98), (0, .ref (ad 0))]) hx hb dX55_need_320 hl (k := 3) rfl (by rw [ex1_117]; rfl) (by decide) rfl (fun ls hl => ?_)
            refine lv_goto (tgt := 272) hx hb dX55_need_323 (by decide) ?_
            exact ih x1_117 x2_98 hw _ _ ls hH (lv_sub hl [3, 0] rfl)
set_option maxHeartbeats 4000000 in
theorem walkX55_need {l : Launch} {dC : Nat → ClassId} {dI : Nat → Nat → Nat} {cl : List vw_C} {ci : Nat} (hc : cl[ci]? = some (RX55, TX55, 28)) {ad : Nat → Nat} {d : Nat → ClassId} {sz : Nat} {f_said : Nat → Int32} {f_heads : Nat → Int32} {f_kinds : Nat → Int32} {f_folded : Nat → Int32} {f_lengths : Nat → Int32} {f_parts : Nat → Int32} {f_rules : Int32} {f_known : Int32} {f_rounds : Nat → Int32} {f_given : Nat → Int32} {f_strata : Nat → Int32} {f_circle : Int32} {f_turns : Int32} {f_needs : Nat → Int32} {f_comes : Nat → Int32} {f_values : Nat → Int32} {f_plain : Nat → Int32} {f_plainCount : Int32} {f_pointers : Nat → Int32} {f_now : Int32} {f_fresh : Nat → Int32} {f_many : Nat → Int32} {f_sums : Nat → Int32} {f_lows : Nat → Int32} {f_highs : Nat → Int32} {f_layed : Int32} {f_worked : Int64} {f_large : Int32}  {post : Int → (Int → Int) → (Int → Int) → Prop} (hw : wpX55_need post (zF f_heads) (zF f_kinds) (zF f_folded) (zF f_lengths) (zF f_parts) f_rules.toInt (zF f_needs) (zF f_comes) ) :
    Met l yX55_need (ws_ yX55_need cX55_need 6 none) ({ frames := 2, cells := 0, slots := 0, locals := 49 } : Room) (kPc (dC, dI) cl (tX55 d) [.ref (ad 0)] sz (wX55 ci ad d f_said f_heads f_kinds f_folded f_lengths f_parts f_rules f_known f_rounds f_given f_strata f_circle f_turns f_needs f_comes f_values f_plain f_plainCount f_pointers f_now f_fresh f_many f_sums f_lows f_highs f_layed f_worked f_large)) (va_Qv (fun (u : Int32 × (Nat → Int32) × (Nat → Int32)) => post (u.1).toInt (zF (u.2.1)) (zF (u.2.2))) (kB (dC, dI) cl (tX55 d) (va_A (wX55 ci ad d f_said f_heads f_kinds f_folded f_lengths f_parts f_rules f_known f_rounds f_given f_strata f_circle f_turns f_needs f_comes f_values f_plain f_plainCount f_pointers f_now f_fresh f_many f_sums f_lows f_highs f_layed f_worked f_large) sz) (fun u : Int32 × (Nat → Int32) × (Nat → Int32) => (wX55 ci ad d f_said f_heads f_kinds f_folded f_lengths f_parts f_rules f_known f_rounds f_given f_strata (u.1) f_turns (u.2.1) (u.2.2) f_values f_plain f_plainCount f_pointers f_now f_fresh f_many f_sums f_lows f_highs f_layed f_worked f_large))) (va_A (wX55 ci ad d f_said f_heads f_kinds f_folded f_lengths f_parts f_rules f_known f_rounds f_given f_strata f_circle f_turns f_needs f_comes f_values f_plain f_plainCount f_pointers f_now f_fresh f_many f_sums f_lows f_highs f_layed f_worked f_large) sz)) 0 0 (va_A (wX55 ci ad d f_said f_heads f_kinds f_folded f_lengths f_parts f_rules f_known f_rounds f_given f_strata f_circle f_turns f_needs f_comes f_values f_plain f_plainCount f_pointers f_now f_fresh f_many f_sums f_lows f_highs f_layed f_worked f_large) sz) := by
  refine k_enter (by decide) (Nat.le_of_ble_eq_true rfl) ?_
  intro p e s m below meth c ls X hsz hH hl
  subst hsz
  generalize va_A (wX55 ci ad d f_said f_heads f_kinds f_folded f_lengths f_parts f_rules f_known f_rounds f_given f_strata f_circle f_turns f_needs f_comes f_values f_plain f_plainCount f_pointers f_now f_fresh f_many f_sums f_lows f_highs f_layed f_worked f_large) s.heap.size = A at hH ⊢
  have hx := X.1.1
  have hb := X.1.2.1
  have hl : lv_has ls 6 [(0, .ref (ad 0))] := hl
  unfold wpX55_need at hw
  refine lv_iconst (v := 0) hx hb dX55_need_0 (by decide) ?_
  refine lv_istore_n (lv' := [(1, .int 0), (0, .ref (ad 0))]) hx hb dX55_need_1 rfl hl (by decide) rfl (fun ls hl => ?_)
  obtain ⟨fu, hw⟩ := hw
  refine atX55_need_2 hc X ?_ fu 0 f_needs hw _ _ ls hH (lv_sub hl [1, 0] rfl)
  · intro f_needs_6 hw H locs ls hH hl
    refine lv_iconst (v := 0) hx hb dX55_need_22 (by decide) ?_
    refine lv_istore_n (lv' := [(1, .int 0), (0, .ref (ad 0))]) hx hb dX55_need_23 rfl hl (by decide) rfl (fun ls hl => ?_)
    obtain ⟨fu, hw⟩ := hw
    refine atX55_need_24 hc X ?_ fu 0 f_needs_6 hw _ _ ls hH (lv_sub hl [1, 0] rfl)
    · intro f_needs_54 hw H locs ls hH hl
      refine lv_iconst (v := 0) hx hb dX55_need_158 (by decide) ?_
      refine lv_istore_n (lv' := [(1, .int 0), (0, .ref (ad 0))]) hx hb dX55_need_159 rfl hl (by decide) rfl (fun ls hl => ?_)
      obtain ⟨fu, hw⟩ := hw
      refine atX55_need_160 hc X ?_ fu 0 f_comes hw _ _ ls hH (lv_sub hl [1, 0] rfl)
      · intro f_comes_65 hw H locs ls hH hl
        refine lv_iconst (v := 0) hx hb dX55_need_193 (by decide) ?_
        refine lv_istore_n (lv' := [(1, .int 0), (0, .ref (ad 0))]) hx hb dX55_need_194 rfl hl (by decide) rfl (fun ls hl => ?_)
        obtain ⟨fu, hw⟩ := hw
        refine atX55_need_195 hc X ?_ fu 0 f_comes_65 hw _ _ ls hH (lv_sub hl [1, 0] rfl)
        · intro f_comes_94 hw H locs ls hH hl
          refine lv_aload_n hx hb dX55_need_263 rfl (lv_at hl 0 rfl) ?_
          refine lv_iconst (v := (-1)) hx hb dX55_need_264 (by decide) ?_
          refine k_put X hH in_X55 tyX55_ok nmX55 0 rfl hc 11 (by decide) q6587 rfl (ty := .int) rfl rfl rfl (Nat.le_of_ble_eq_true rfl) dX55_need_265 (ws1 := (wX55 ci ad d f_said f_heads f_kinds f_folded f_lengths f_parts f_rules f_known f_rounds f_given f_strata (-1) f_turns f_needs_54 f_comes_94 f_values f_plain f_plainCount f_pointers f_now f_fresh f_many f_sums f_lows f_highs f_layed f_worked f_large)) rfl (fun H locs hH => ?_)
          refine lv_sipush (v := 255) hx hb dX55_need_268 (by decide) ?_
          refine lv_istore_n (lv' := [(1, .int 255), (0, .ref (ad 0))]) hx hb dX55_need_271 rfl hl (by decide) rfl (fun ls hl => ?_)
          obtain ⟨fu, hw⟩ := hw
          refine atX55_need_272 hc X ?_ fu 255 (-1) hw _ _ ls hH (lv_sub hl [1, 0] rfl)
          · intro f_circle_119 hw H locs ls hH hl
            exact k_vret X hH (f_circle_119, f_needs_54, f_comes_94) hw rfl dX55_need_326
set_option maxHeartbeats 4000000 in
theorem atX55_layer_2 {p : Program} {l : Launch} {e : Env} {s : State} {m : MethodId} {args : Array Value} {below : List Frame} {meth : Method} {c : Code} {dC : Nat → ClassId} {dI : Nat → Nat → Nat} {cl : List vw_C} {ci : Nat} (hc : cl[ci]? = some (RX55, TX55, 28)) {ad : Nat → Nat} {d : Nat → ClassId} {A : Nat → Prop} {post : (Int → Int) → Prop} {f_said : Nat → Int32} {f_heads : Nat → Int32} {f_kinds : Nat → Int32} {f_folded : Nat → Int32} {f_lengths : Nat → Int32} {f_parts : Nat → Int32} {f_rules : Int32} {f_known : Int32} {f_rounds : Nat → Int32} {f_given : Nat → Int32} {f_circle : Int32} {f_turns : Int32} {f_needs : Nat → Int32} {f_comes : Nat → Int32} {f_values : Nat → Int32} {f_plain : Nat → Int32} {f_plainCount : Int32} {f_pointers : Nat → Int32} {f_now : Int32} {f_fresh : Nat → Int32} {f_many : Nat → Int32} {f_sums : Nat → Int32} {f_lows : Nat → Int32} {f_highs : Nat → Int32} {f_layed : Int32} {f_worked : Int64} {f_large : Int32} (X : kX p s m args meth c cX55_layer 4 RX55 none (dC, dI) cl (tX55 d)) {K21 : (Int → Int) → Prop}   (hk21 : ∀ (f_strata : Nat → Int32), K21 (zF f_strata) → ∀ (H : Heap) (locs : List Loc) (ls : Array Slot), kH (dC, dI) cl A s.heap H locs (wX55 ci ad d f_said f_heads f_kinds f_folded f_lengths f_parts f_rules f_known f_rounds f_given f_strata f_circle f_turns f_needs f_comes f_values f_plain f_plainCount f_pointers f_now f_fresh f_many f_sums f_lows f_highs f_layed f_worked f_large) → lv_has ls 4 [(0, .ref (ad 0))] → W p l e ({ frames := 0, cells := 0, slots := 0, locals := 0 } : Room) s m args below meth c H locs 0 0 (MQ below (va_Qv (fun (u : (Nat → Int32)) => post (zF (u))) (kB (dC, dI) cl (tX55 d) A (fun u : (Nat → Int32) => (wX55 ci ad d f_said f_heads f_kinds f_folded f_lengths f_parts f_rules f_known f_rounds f_given (u) f_circle f_turns f_needs f_comes f_values f_plain f_plainCount f_pointers f_now f_fresh f_many f_sums f_lows f_highs f_layed f_worked f_large))) A) args s 0 0 A) (F0 m 21 ls [])) :
    ∀ (nn : Nat) (x1 : Int32) (f_strata : Nat → Int32), wX55_layer_2 K21 nn x1.toInt (zF f_strata) → ∀ (H : Heap) (locs : List Loc) (ls : Array Slot), kH (dC, dI) cl A s.heap H locs (wX55 ci ad d f_said f_heads f_kinds f_folded f_lengths f_parts f_rules f_known f_rounds f_given f_strata f_circle f_turns f_needs f_comes f_values f_plain f_plainCount f_pointers f_now f_fresh f_many f_sums f_lows f_highs f_layed f_worked f_large) → lv_has ls 4 [(0, .ref (ad 0)), (1, .int x1)] → W p l e ({ frames := 0, cells := 0, slots := 0, locals := 0 } : Room) s m args below meth c H locs 0 0 (MQ below (va_Qv (fun (u : (Nat → Int32)) => post (zF (u))) (kB (dC, dI) cl (tX55 d) A (fun u : (Nat → Int32) => (wX55 ci ad d f_said f_heads f_kinds f_folded f_lengths f_parts f_rules f_known f_rounds f_given (u) f_circle f_turns f_needs f_comes f_values f_plain f_plainCount f_pointers f_now f_fresh f_many f_sums f_lows f_highs f_layed f_worked f_large))) A) args s 0 0 A) (F0 m 2 ls []) := by
  have hx := X.1.1
  have hb := X.1.2.1
  intro nn
  induction nn with
  | zero =>
    intro x1 f_strata hw
    exact False.elim hw
  | succ n ih =>
    intro x1 f_strata hw H locs ls hH hl
    rw [wX55_layer_2] at hw
    refine lv_iload_n hx hb dX55_layer_2 rfl (lv_at hl 1 rfl) ?_
    refine lv_bipush (v := 16) hx hb dX55_layer_3 (by decide) ?_
    refine lv_icmp_ge (tgt := 21) hx hb dX55_layer_5 (by decide) (fun c_1 => ?_) (fun c_1 => ?_)
    · have hw := hw.1 (z_le (rfl : (16 : Int32).toInt = 16) (rfl : x1.toInt = _) c_1)
      exact hk21 f_strata hw _ _ ls hH (lv_sub hl [0] rfl)
    · have hw := hw.2 (z_nle (rfl : (16 : Int32).toInt = 16) (rfl : x1.toInt = _) c_1)
      refine lv_aload_n hx hb dX55_layer_8 rfl (lv_at hl 0 rfl) ?_
      refine k_get X hH in_X55 0 rfl hc 10 (by decide) q6586 rfl dX55_layer_9 ?_
      refine lv_iload_n hx hb dX55_layer_12 rfl (lv_at hl 1 rfl) ?_
      refine lv_iconst (v := 0) hx hb dX55_layer_13 (by decide) ?_
      have hq_3 := hw.1
      have hw := hw.2
      obtain ⟨f_strata_2, ef_strata_2⟩ : ∃ y : Nat → Int32, y = upd f_strata x1.toNatClampNeg 0 := ⟨_, rfl⟩
      refine k_iast X hH 9 8 rfl rfl (z_in (rfl : x1.toInt = _) hq_3) dX55_layer_14 ef_strata_2 (ws1 := (wX55 ci ad d f_said f_heads f_kinds f_folded f_lengths f_parts f_rules f_known f_rounds f_given f_strata_2 f_circle f_turns f_needs f_comes f_values f_plain f_plainCount f_pointers f_now f_fresh f_many f_sums f_lows f_highs f_layed f_worked f_large)) rfl (fun H locs hH => ?_)
      have hw := hw (zF f_strata_2) (by rw [ef_strata_2]; exact z_st (f := f_strata) (rfl : x1.toInt = _) hq_3.1 (rfl : (0 : Int32).toInt = 0))
      have hq_5 := hw.1
      have hw := hw.2
      obtain ⟨x1_4, ex1_4⟩ : ∃ y : Int32, y = x1 + 1 := ⟨_, rfl⟩
      have hw := hw x1_4.toInt (by rw [ex1_4]; exact (z_x (z_add (z_m (rfl : x1.toInt = _)) (z_m (rfl : (1 : Int32).toInt = 1))) hq_5))
      refine lv_iinc (v := x1_4) (lv' := [(1, .int x1_4), (0, .ref (ad 0))]) hx hb dX55_layer_15 hl (k := 1) rfl (by rw [ex1_4]; rfl) (by decide) rfl (fun ls hl => ?_)
      refine lv_goto (tgt := 2) hx hb dX55_layer_18 (by decide) ?_
      exact ih x1_4 f_strata_2 hw _ _ ls hH (lv_sub hl [1, 0] rfl)
set_option maxHeartbeats 4000000 in
theorem atX55_layer_42 {p : Program} {l : Launch} {e : Env} {s : State} {m : MethodId} {args : Array Value} {below : List Frame} {meth : Method} {c : Code} {dC : Nat → ClassId} {dI : Nat → Nat → Nat} {cl : List vw_C} {ci : Nat} (hc : cl[ci]? = some (RX55, TX55, 28)) {ad : Nat → Nat} {d : Nat → ClassId} {A : Nat → Prop} {post : (Int → Int) → Prop} {f_said : Nat → Int32} {f_heads : Nat → Int32} {f_kinds : Nat → Int32} {f_folded : Nat → Int32} {f_lengths : Nat → Int32} {f_parts : Nat → Int32} {f_rules : Int32} {f_known : Int32} {f_rounds : Nat → Int32} {f_given : Nat → Int32} {f_circle : Int32} {f_turns : Int32} {f_needs : Nat → Int32} {f_comes : Nat → Int32} {f_values : Nat → Int32} {f_plain : Nat → Int32} {f_plainCount : Int32} {f_pointers : Nat → Int32} {f_now : Int32} {f_fresh : Nat → Int32} {f_many : Nat → Int32} {f_sums : Nat → Int32} {f_lows : Nat → Int32} {f_highs : Nat → Int32} {f_layed : Int32} {f_worked : Int64} {f_large : Int32} (X : kX p s m args meth c cX55_layer 4 RX55 none (dC, dI) cl (tX55 d)) {K111 : Int → (Int → Int) → Prop}   (hk111 : ∀ (x1 : Int32) (f_strata : Nat → Int32), K111 x1.toInt (zF f_strata) → ∀ (H : Heap) (locs : List Loc) (ls : Array Slot), kH (dC, dI) cl A s.heap H locs (wX55 ci ad d f_said f_heads f_kinds f_folded f_lengths f_parts f_rules f_known f_rounds f_given f_strata f_circle f_turns f_needs f_comes f_values f_plain f_plainCount f_pointers f_now f_fresh f_many f_sums f_lows f_highs f_layed f_worked f_large) → lv_has ls 4 [(0, .ref (ad 0)), (1, .int x1)] → W p l e ({ frames := 0, cells := 0, slots := 0, locals := 0 } : Room) s m args below meth c H locs 0 0 (MQ below (va_Qv (fun (u : (Nat → Int32)) => post (zF (u))) (kB (dC, dI) cl (tX55 d) A (fun u : (Nat → Int32) => (wX55 ci ad d f_said f_heads f_kinds f_folded f_lengths f_parts f_rules f_known f_rounds f_given (u) f_circle f_turns f_needs f_comes f_values f_plain f_plainCount f_pointers f_now f_fresh f_many f_sums f_lows f_highs f_layed f_worked f_large))) A) args s 0 0 A) (F0 m 111 ls [])) :
    ∀ (nn : Nat) (x1 : Int32) (x2 : Int32) (f_strata : Nat → Int32), wX55_layer_42 K111 (zF f_needs) nn x1.toInt x2.toInt (zF f_strata) → ∀ (H : Heap) (locs : List Loc) (ls : Array Slot), kH (dC, dI) cl A s.heap H locs (wX55 ci ad d f_said f_heads f_kinds f_folded f_lengths f_parts f_rules f_known f_rounds f_given f_strata f_circle f_turns f_needs f_comes f_values f_plain f_plainCount f_pointers f_now f_fresh f_many f_sums f_lows f_highs f_layed f_worked f_large) → lv_has ls 4 [(0, .ref (ad 0)), (1, .int x1), (2, .int x2)] → W p l e ({ frames := 0, cells := 0, slots := 0, locals := 0 } : Room) s m args below meth c H locs 0 0 (MQ below (va_Qv (fun (u : (Nat → Int32)) => post (zF (u))) (kB (dC, dI) cl (tX55 d) A (fun u : (Nat → Int32) => (wX55 ci ad d f_said f_heads f_kinds f_folded f_lengths f_parts f_rules f_known f_rounds f_given (u) f_circle f_turns f_needs f_comes f_values f_plain f_plainCount f_pointers f_now f_fresh f_many f_sums f_lows f_highs f_layed f_worked f_large))) A) args s 0 0 A) (F0 m 42 ls []) := by
  have hx := X.1.1
  have hb := X.1.2.1
  intro nn
  induction nn with
  | zero =>
    intro x1 x2 f_strata hw
    exact False.elim hw
  | succ n ih =>
    intro x1 x2 f_strata hw H locs ls hH hl
    rw [wX55_layer_42] at hw
    refine lv_iload_n hx hb dX55_layer_42 rfl (lv_at hl 2 rfl) ?_
    refine lv_sipush (v := 256) hx hb dX55_layer_43 (by decide) ?_
    refine lv_icmp_ge (tgt := 111) hx hb dX55_layer_46 (by decide) (fun c_9 => ?_) (fun c_9 => ?_)
    · have hw := hw.1 (z_le (rfl : (256 : Int32).toInt = 256) (rfl : x2.toInt = _) c_9)
      exact hk111 x1 f_strata hw _ _ ls hH (lv_sub hl [0, 1] rfl)
    · have hw := hw.2 (z_nle (rfl : (256 : Int32).toInt = 256) (rfl : x2.toInt = _) c_9)
      refine lv_aload_n hx hb dX55_layer_49 rfl (lv_at hl 0 rfl) ?_
      refine k_get X hH in_X55 0 rfl hc 10 (by decide) q6586 rfl dX55_layer_50 ?_
      refine lv_iload_n hx hb dX55_layer_53 rfl (lv_at hl 2 rfl) ?_
      refine lv_bipush (v := 16) hx hb dX55_layer_54 (by decide) ?_
      have hq_10 := hw.1
      have hw := hw.2
      refine lv_irem hx hb dX55_layer_56 (by decide) ?_
      have e_11 := z_rem (rfl : x2.toInt = _) (rfl : (16 : Int32).toInt = 16) hq_10 (by decide)
      have hq_12 := hw.1
      have hw := hw.2
      refine k_iald X hH 9 8 rfl rfl (z_in e_11 hq_12) dX55_layer_57 ?_
      have e_13 := z_ld (f := f_strata) e_11 hq_12.1
      refine lv_aload_n hx hb dX55_layer_58 rfl (lv_at hl 0 rfl) ?_
      refine k_get X hH in_X55 0 rfl hc 13 (by decide) q6589 rfl dX55_layer_59 ?_
      refine lv_iload_n hx hb dX55_layer_62 rfl (lv_at hl 2 rfl) ?_
      have hq_14 := hw.1
      have hw := hw.2
      refine k_iald X hH 10 9 rfl rfl (z_in (rfl : x2.toInt = _) hq_14) dX55_layer_63 ?_
      have e_15 := z_ld (f := f_needs) (rfl : x2.toInt = _) hq_14.1
      refine lv_iadd hx hb dX55_layer_64 ?_
      have e_16 := z_add (z_m e_13) (z_m e_15)
      refine lv_iconst (v := 1) hx hb dX55_layer_65 (by decide) ?_
      refine lv_isub hx hb dX55_layer_66 ?_
      have e_17 := z_sub e_16 (z_m (rfl : (1 : Int32).toInt = 1))
      have hq_18 := hw.1
      have hw := hw.2
      have e_19 := z_x e_17 hq_18
      refine lv_topi (fun x3_20 ex3_20 => ?_)
      have hw := hw x3_20.toInt (by rw [ex3_20]; exact e_19)
      refine lv_istore_n (lv' := [(3, .int x3_20), (0, .ref (ad 0)), (1, .int x1), (2, .int x2)]) hx hb dX55_layer_67 rfl hl (by decide) rfl (fun ls hl => ?_)
      refine lv_aload_n hx hb dX55_layer_68 rfl (lv_at hl 1 rfl) ?_
      refine k_get X hH in_X55 0 rfl hc 13 (by decide) q6589 rfl dX55_layer_69 ?_
      refine lv_iload_n hx hb dX55_layer_72 rfl (lv_at hl 3 rfl) ?_
      refine k_iald X hH 10 9 rfl rfl (z_in (rfl : x2.toInt = _) hq_14) dX55_layer_73 ?_
      have e_21 := z_ld (f := f_needs) (rfl : x2.toInt = _) hq_14.1
      refine lv_if_eq (tgt := 105) hx hb dX55_layer_74 (by decide) (fun c_22 => ?_) (fun c_22 => ?_)
      · have hw := hw.1 (z_eq e_21 (rfl : (0 : Int32).toInt = 0) c_22)
        have hq_24 := hw.1
        have hw := hw.2
        obtain ⟨x2_23, ex2_23⟩ : ∃ y : Int32, y = x2 + 1 := ⟨_, rfl⟩
        have hw := hw x2_23.toInt (by rw [ex2_23]; exact (z_x (z_add (z_m (rfl : x2.toInt = _)) (z_m (rfl : (1 : Int32).toInt = 1))) hq_24))
        refine lv_iinc (v := x2_23) (lv' := [(2, .int x2_23), (3, .int x3_20), (0, .ref (ad 0)), (1, .int x1)]) hx hb dX55_layer_105 hl (k := 3) rfl (by rw [ex2_23]; rfl) (by decide) rfl (fun ls hl => ?_)
        refine lv_goto (tgt := 42) hx hb dX55_layer_108 (by decide) ?_
        exact ih x1 x2_23 f_strata hw _ _ ls hH (lv_sub hl [2, 3, 0] rfl)
      · have hw := hw.2 (z_neq e_21 (rfl : (0 : Int32).toInt = 0) c_22)
        refine lv_aload_n hx hb dX55_layer_77 rfl (lv_at hl 1 rfl) ?_
        refine k_get X hH in_X55 0 rfl hc 10 (by decide) q6586 rfl dX55_layer_78 ?_
        refine lv_iload_n hx hb dX55_layer_81 rfl (lv_at hl 3 rfl) ?_
        refine lv_bipush (v := 16) hx hb dX55_layer_82 (by decide) ?_
        refine lv_idiv hx hb dX55_layer_84 (by decide) ?_
        have e_25 := z_div (rfl : x2.toInt = _) (rfl : (16 : Int32).toInt = 16) hq_10 (by decide)
        have hq_26 := hw.1
        have hw := hw.2
        refine k_iald X hH 9 8 rfl rfl (z_in e_25 hq_26) dX55_layer_85 ?_
        have e_27 := z_ld (f := f_strata) e_25 hq_26.1
        refine lv_iload_n hx hb dX55_layer_86 rfl (lv_at hl 0 rfl) ?_
        refine lv_icmp_lt (tgt := 93) hx hb dX55_layer_87 (by decide) (fun c_28 => ?_) (fun c_28 => ?_)
        · have hw := hw.1 (z_lt e_27 (rfl : x3_20.toInt = _) c_28)
          refine lv_aload_n hx hb dX55_layer_93 rfl (lv_at hl 1 rfl) ?_
          refine k_get X hH in_X55 0 rfl hc 10 (by decide) q6586 rfl dX55_layer_94 ?_
          refine lv_iload_n hx hb dX55_layer_97 rfl (lv_at hl 3 rfl) ?_
          refine lv_bipush (v := 16) hx hb dX55_layer_98 (by decide) ?_
          refine lv_idiv hx hb dX55_layer_100 (by decide) ?_
          have e_29 := z_div (rfl : x2.toInt = _) (rfl : (16 : Int32).toInt = 16) hq_10 (by decide)
          refine lv_iload_n hx hb dX55_layer_101 rfl (lv_at hl 0 rfl) ?_
          obtain ⟨f_strata_30, ef_strata_30⟩ : ∃ y : Nat → Int32, y = upd f_strata (x2 / 16).toNatClampNeg x3_20 := ⟨_, rfl⟩
          refine k_iast X hH 9 8 rfl rfl (z_in e_29 hq_26) dX55_layer_102 ef_strata_30 (ws1 := (wX55 ci ad d f_said f_heads f_kinds f_folded f_lengths f_parts f_rules f_known f_rounds f_given f_strata_30 f_circle f_turns f_needs f_comes f_values f_plain f_plainCount f_pointers f_now f_fresh f_many f_sums f_lows f_highs f_layed f_worked f_large)) rfl (fun H locs hH => ?_)
          have hw := hw (zF f_strata_30) (by rw [ef_strata_30]; exact z_st (f := f_strata) e_29 hq_26.1 (rfl : x3_20.toInt = _))
          refine lv_iconst (v := 1) hx hb dX55_layer_103 (by decide) ?_
          refine lv_istore_n (lv' := [(1, .int 1), (3, .int x3_20), (0, .ref (ad 0)), (2, .int x2)]) hx hb dX55_layer_104 rfl hl (by decide) rfl (fun ls hl => ?_)
          have hq_32 := hw.1
          have hw := hw.2
          obtain ⟨x2_31, ex2_31⟩ : ∃ y : Int32, y = x2 + 1 := ⟨_, rfl⟩
          have hw := hw x2_31.toInt (by rw [ex2_31]; exact (z_x (z_add (z_m (rfl : x2.toInt = _)) (z_m (rfl : (1 : Int32).toInt = 1))) hq_32))
          refine lv_iinc (v := x2_31) (lv' := [(2, .int x2_31), (1, .int 1), (3, .int x3_20), (0, .ref (ad 0))]) hx hb dX55_layer_105 hl (k := 3) rfl (by rw [ex2_31]; rfl) (by decide) rfl (fun ls hl => ?_)
          refine lv_goto (tgt := 42) hx hb dX55_layer_108 (by decide) ?_
          exact ih 1 x2_31 f_strata_30 hw _ _ ls hH (lv_sub hl [3, 1, 0] rfl)
        · have hw := hw.2 (z_nlt e_27 (rfl : x3_20.toInt = _) c_28)
          refine lv_goto (tgt := 105) hx hb dX55_layer_90 (by decide) ?_
          have hq_34 := hw.1
          have hw := hw.2
          obtain ⟨x2_33, ex2_33⟩ : ∃ y : Int32, y = x2 + 1 := ⟨_, rfl⟩
          have hw := hw x2_33.toInt (by rw [ex2_33]; exact (z_x (z_add (z_m (rfl : x2.toInt = _)) (z_m (rfl : (1 : Int32).toInt = 1))) hq_34))
          refine lv_iinc (v := x2_33) (lv' := [(2, .int x2_33), (3, .int x3_20), (0, .ref (ad 0)), (1, .int x1)]) hx hb dX55_layer_105 hl (k := 3) rfl (by rw [ex2_33]; rfl) (by decide) rfl (fun ls hl => ?_)
          refine lv_goto (tgt := 42) hx hb dX55_layer_108 (by decide) ?_
          exact ih x1 x2_33 f_strata hw _ _ ls hH (lv_sub hl [2, 3, 0] rfl)
set_option maxHeartbeats 4000000 in
theorem atX55_layer_34 {p : Program} {l : Launch} {e : Env} {s : State} {m : MethodId} {args : Array Value} {below : List Frame} {meth : Method} {c : Code} {dC : Nat → ClassId} {dI : Nat → Nat → Nat} {cl : List vw_C} {ci : Nat} (hc : cl[ci]? = some (RX55, TX55, 28)) {ad : Nat → Nat} {d : Nat → ClassId} {A : Nat → Prop} {post : (Int → Int) → Prop} {f_said : Nat → Int32} {f_heads : Nat → Int32} {f_kinds : Nat → Int32} {f_folded : Nat → Int32} {f_lengths : Nat → Int32} {f_parts : Nat → Int32} {f_rules : Int32} {f_known : Int32} {f_rounds : Nat → Int32} {f_given : Nat → Int32} {f_circle : Int32} {f_turns : Int32} {f_needs : Nat → Int32} {f_comes : Nat → Int32} {f_values : Nat → Int32} {f_plain : Nat → Int32} {f_plainCount : Int32} {f_pointers : Nat → Int32} {f_now : Int32} {f_fresh : Nat → Int32} {f_many : Nat → Int32} {f_sums : Nat → Int32} {f_lows : Nat → Int32} {f_highs : Nat → Int32} {f_layed : Int32} {f_worked : Int64} {f_large : Int32} (X : kX p s m args meth c cX55_layer 4 RX55 none (dC, dI) cl (tX55 d)) {K114 : (Int → Int) → Prop}   (hk114 : ∀ (f_strata : Nat → Int32), K114 (zF f_strata) → ∀ (H : Heap) (locs : List Loc) (ls : Array Slot), kH (dC, dI) cl A s.heap H locs (wX55 ci ad d f_said f_heads f_kinds f_folded f_lengths f_parts f_rules f_known f_rounds f_given f_strata f_circle f_turns f_needs f_comes f_values f_plain f_plainCount f_pointers f_now f_fresh f_many f_sums f_lows f_highs f_layed f_worked f_large) → lv_has ls 4 [] → W p l e ({ frames := 0, cells := 0, slots := 0, locals := 0 } : Room) s m args below meth c H locs 0 0 (MQ below (va_Qv (fun (u : (Nat → Int32)) => post (zF (u))) (kB (dC, dI) cl (tX55 d) A (fun u : (Nat → Int32) => (wX55 ci ad d f_said f_heads f_kinds f_folded f_lengths f_parts f_rules f_known f_rounds f_given (u) f_circle f_turns f_needs f_comes f_values f_plain f_plainCount f_pointers f_now f_fresh f_many f_sums f_lows f_highs f_layed f_worked f_large))) A) args s 0 0 A) (F0 m 114 ls [])) :
    ∀ (nn : Nat) (x1 : Int32) (f_strata : Nat → Int32), wX55_layer_34 K114 (zF f_needs) nn x1.toInt (zF f_strata) → ∀ (H : Heap) (locs : List Loc) (ls : Array Slot), kH (dC, dI) cl A s.heap H locs (wX55 ci ad d f_said f_heads f_kinds f_folded f_lengths f_parts f_rules f_known f_rounds f_given f_strata f_circle f_turns f_needs f_comes f_values f_plain f_plainCount f_pointers f_now f_fresh f_many f_sums f_lows f_highs f_layed f_worked f_large) → lv_has ls 4 [(0, .ref (ad 0)), (1, .int x1)] → W p l e ({ frames := 0, cells := 0, slots := 0, locals := 0 } : Room) s m args below meth c H locs 0 0 (MQ below (va_Qv (fun (u : (Nat → Int32)) => post (zF (u))) (kB (dC, dI) cl (tX55 d) A (fun u : (Nat → Int32) => (wX55 ci ad d f_said f_heads f_kinds f_folded f_lengths f_parts f_rules f_known f_rounds f_given (u) f_circle f_turns f_needs f_comes f_values f_plain f_plainCount f_pointers f_now f_fresh f_many f_sums f_lows f_highs f_layed f_worked f_large))) A) args s 0 0 A) (F0 m 34 ls []) := by
  have hx := X.1.1
  have hb := X.1.2.1
  intro nn
  induction nn with
  | zero =>
    intro x1 f_strata hw
    exact False.elim hw
  | succ n ih =>
    intro x1 f_strata hw H locs ls hH hl
    rw [wX55_layer_34] at hw
    refine lv_iload_n hx hb dX55_layer_34 rfl (lv_at hl 1 rfl) ?_
    refine lv_if_eq (tgt := 114) hx hb dX55_layer_35 (by decide) (fun c_8 => ?_) (fun c_8 => ?_)
    · have hw := hw.1 (z_eq (rfl : x1.toInt = _) (rfl : (0 : Int32).toInt = 0) c_8)
      exact hk114 f_strata hw _ _ ls hH (lv_sub hl [] rfl)
    · have hw := hw.2 (z_neq (rfl : x1.toInt = _) (rfl : (0 : Int32).toInt = 0) c_8)
      refine lv_iconst (v := 0) hx hb dX55_layer_38 (by decide) ?_
      refine lv_istore_n (lv' := [(1, .int 0), (0, .ref (ad 0))]) hx hb dX55_layer_39 rfl hl (by decide) rfl (fun ls hl => ?_)
      refine lv_iconst (v := 0) hx hb dX55_layer_40 (by decide) ?_
      refine lv_istore_n (lv' := [(2, .int 0), (1, .int 0), (0, .ref (ad 0))]) hx hb dX55_layer_41 rfl hl (by decide) rfl (fun ls hl => ?_)
      obtain ⟨fu, hw⟩ := hw
      refine atX55_layer_42 hc X ?_ fu 0 0 f_strata hw _ _ ls hH (lv_sub hl [2, 1, 0] rfl)
      · intro x1_35 f_strata_36 hw H locs ls hH hl
        refine lv_goto (tgt := 34) hx hb dX55_layer_111 (by decide) ?_
        exact ih x1_35 f_strata_36 hw _ _ ls hH (lv_sub hl [0, 1] rfl)
set_option maxHeartbeats 4000000 in
theorem walkX55_layer {l : Launch} {dC : Nat → ClassId} {dI : Nat → Nat → Nat} {cl : List vw_C} {ci : Nat} (hc : cl[ci]? = some (RX55, TX55, 28)) {ad : Nat → Nat} {d : Nat → ClassId} {sz : Nat} {f_said : Nat → Int32} {f_heads : Nat → Int32} {f_kinds : Nat → Int32} {f_folded : Nat → Int32} {f_lengths : Nat → Int32} {f_parts : Nat → Int32} {f_rules : Int32} {f_known : Int32} {f_rounds : Nat → Int32} {f_given : Nat → Int32} {f_strata : Nat → Int32} {f_circle : Int32} {f_turns : Int32} {f_needs : Nat → Int32} {f_comes : Nat → Int32} {f_values : Nat → Int32} {f_plain : Nat → Int32} {f_plainCount : Int32} {f_pointers : Nat → Int32} {f_now : Int32} {f_fresh : Nat → Int32} {f_many : Nat → Int32} {f_sums : Nat → Int32} {f_lows : Nat → Int32} {f_highs : Nat → Int32} {f_layed : Int32} {f_worked : Int64} {f_large : Int32}  {post : (Int → Int) → Prop} (hw : wpX55_layer post (zF f_strata) f_circle.toInt (zF f_needs) ) :
    Met l yX55_layer (ws_ yX55_layer cX55_layer 4 none) ({ frames := 0, cells := 0, slots := 0, locals := 0 } : Room) (kPc (dC, dI) cl (tX55 d) [.ref (ad 0)] sz (wX55 ci ad d f_said f_heads f_kinds f_folded f_lengths f_parts f_rules f_known f_rounds f_given f_strata f_circle f_turns f_needs f_comes f_values f_plain f_plainCount f_pointers f_now f_fresh f_many f_sums f_lows f_highs f_layed f_worked f_large)) (va_Qv (fun (u : (Nat → Int32)) => post (zF (u))) (kB (dC, dI) cl (tX55 d) (va_A (wX55 ci ad d f_said f_heads f_kinds f_folded f_lengths f_parts f_rules f_known f_rounds f_given f_strata f_circle f_turns f_needs f_comes f_values f_plain f_plainCount f_pointers f_now f_fresh f_many f_sums f_lows f_highs f_layed f_worked f_large) sz) (fun u : (Nat → Int32) => (wX55 ci ad d f_said f_heads f_kinds f_folded f_lengths f_parts f_rules f_known f_rounds f_given (u) f_circle f_turns f_needs f_comes f_values f_plain f_plainCount f_pointers f_now f_fresh f_many f_sums f_lows f_highs f_layed f_worked f_large))) (va_A (wX55 ci ad d f_said f_heads f_kinds f_folded f_lengths f_parts f_rules f_known f_rounds f_given f_strata f_circle f_turns f_needs f_comes f_values f_plain f_plainCount f_pointers f_now f_fresh f_many f_sums f_lows f_highs f_layed f_worked f_large) sz)) 0 0 (va_A (wX55 ci ad d f_said f_heads f_kinds f_folded f_lengths f_parts f_rules f_known f_rounds f_given f_strata f_circle f_turns f_needs f_comes f_values f_plain f_plainCount f_pointers f_now f_fresh f_many f_sums f_lows f_highs f_layed f_worked f_large) sz) := by
  refine k_enter (by decide) (Nat.le_of_ble_eq_true rfl) ?_
  intro p e s m below meth c ls X hsz hH hl
  subst hsz
  generalize va_A (wX55 ci ad d f_said f_heads f_kinds f_folded f_lengths f_parts f_rules f_known f_rounds f_given f_strata f_circle f_turns f_needs f_comes f_values f_plain f_plainCount f_pointers f_now f_fresh f_many f_sums f_lows f_highs f_layed f_worked f_large) s.heap.size = A at hH ⊢
  have hx := X.1.1
  have hb := X.1.2.1
  have hl : lv_has ls 4 [(0, .ref (ad 0))] := hl
  unfold wpX55_layer at hw
  refine lv_iconst (v := 0) hx hb dX55_layer_0 (by decide) ?_
  refine lv_istore_n (lv' := [(1, .int 0), (0, .ref (ad 0))]) hx hb dX55_layer_1 rfl hl (by decide) rfl (fun ls hl => ?_)
  obtain ⟨fu, hw⟩ := hw
  refine atX55_layer_2 hc X ?_ fu 0 f_strata hw _ _ ls hH (lv_sub hl [1, 0] rfl)
  · intro f_strata_6 hw H locs ls hH hl
    refine lv_aload_n hx hb dX55_layer_21 rfl (lv_at hl 0 rfl) ?_
    refine k_get X hH in_X55 0 rfl hc 11 (by decide) q6587 rfl dX55_layer_22 ?_
    refine lv_if_ge (tgt := 32) hx hb dX55_layer_25 (by decide) (fun c_7 => ?_) (fun c_7 => ?_)
    · have hw := hw.1 (z_le (rfl : (0 : Int32).toInt = 0) (rfl : f_circle.toInt = _) c_7)
      refine lv_iconst (v := 0) hx hb dX55_layer_32 (by decide) ?_
      refine lv_istore_n (lv' := [(1, .int 0), (0, .ref (ad 0))]) hx hb dX55_layer_33 rfl hl (by decide) rfl (fun ls hl => ?_)
      obtain ⟨fu, hw⟩ := hw
      refine atX55_layer_34 hc X ?_ fu 0 f_strata_6 hw _ _ ls hH (lv_sub hl [1, 0] rfl)
      · intro f_strata_37 hw H locs ls hH hl
        exact k_vret X hH (f_strata_37) hw rfl dX55_layer_114
    · have hw := hw.2 (z_nle (rfl : (0 : Int32).toInt = 0) (rfl : f_circle.toInt = _) c_7)
      refine lv_iconst (v := 1) hx hb dX55_layer_28 (by decide) ?_
      refine lv_goto (tgt := 33) hx hb dX55_layer_29 (by decide) ?_
      refine lv_istore_n (lv' := [(1, .int 1), (0, .ref (ad 0))]) hx hb dX55_layer_33 rfl hl (by decide) rfl (fun ls hl => ?_)
      obtain ⟨fu, hw⟩ := hw
      refine atX55_layer_34 hc X ?_ fu 1 f_strata_6 hw _ _ ls hH (lv_sub hl [1, 0] rfl)
      · intro f_strata_38 hw H locs ls hH hl
        exact k_vret X hH (f_strata_38) hw rfl dX55_layer_114
set_option maxHeartbeats 4000000 in
theorem atX55_factsOf_9 {p : Program} {l : Launch} {e : Env} {s : State} {m : MethodId} {args : Array Value} {below : List Frame} {meth : Method} {c : Code} {dC : Nat → ClassId} {dI : Nat → Nat → Nat} {cl : List vw_C} {ci : Nat} (hc : cl[ci]? = some (RX55, TX55, 28)) {ad : Nat → Nat} {d : Nat → ClassId} {A : Nat → Prop} {post : Int → Prop} {f_said : Nat → Int32} {f_heads : Nat → Int32} {f_kinds : Nat → Int32} {f_folded : Nat → Int32} {f_lengths : Nat → Int32} {f_parts : Nat → Int32} {f_rules : Int32} {f_known : Int32} {f_rounds : Nat → Int32} {f_given : Nat → Int32} {f_strata : Nat → Int32} {f_circle : Int32} {f_turns : Int32} {f_needs : Nat → Int32} {f_comes : Nat → Int32} {f_values : Nat → Int32} {f_plain : Nat → Int32} {f_plainCount : Int32} {f_pointers : Nat → Int32} {f_now : Int32} {f_fresh : Nat → Int32} {f_many : Nat → Int32} {f_sums : Nat → Int32} {f_lows : Nat → Int32} {f_highs : Nat → Int32} {f_layed : Int32} {f_worked : Int64} {f_large : Int32} (X : kX p s m args meth c cX55_factsOf 5 RX55 (some .long) (dC, dI) cl (tX55 d)) {K47 : Int → Prop} {x1 : Int32}  (hk47 : ∀ (x2 : Int64), K47 x2.toInt → ∀ (H : Heap) (locs : List Loc) (ls : Array Slot), kH (dC, dI) cl A s.heap H locs (wX55 ci ad d f_said f_heads f_kinds f_folded f_lengths f_parts f_rules f_known f_rounds f_given f_strata f_circle f_turns f_needs f_comes f_values f_plain f_plainCount f_pointers f_now f_fresh f_many f_sums f_lows f_highs f_layed f_worked f_large) → lv_has ls 5 [(2, .long x2)] → W p l e ({ frames := 0, cells := 0, slots := 0, locals := 0 } : Room) s m args below meth c H locs 0 0 (MQ below (va_Ql (fun (r : Int64) (_ : Unit) => post r.toInt) (kB (dC, dI) cl (tX55 d) A (fun _ : Unit => (wX55 ci ad d f_said f_heads f_kinds f_folded f_lengths f_parts f_rules f_known f_rounds f_given f_strata f_circle f_turns f_needs f_comes f_values f_plain f_plainCount f_pointers f_now f_fresh f_many f_sums f_lows f_highs f_layed f_worked f_large))) A) args s 0 0 A) (F0 m 47 ls [])) :
    ∀ (nn : Nat) (x2 : Int64) (x4 : Int32), wX55_factsOf_9 K47 x1.toInt (zF f_rounds) nn x2.toInt x4.toInt → ∀ (H : Heap) (locs : List Loc) (ls : Array Slot), kH (dC, dI) cl A s.heap H locs (wX55 ci ad d f_said f_heads f_kinds f_folded f_lengths f_parts f_rules f_known f_rounds f_given f_strata f_circle f_turns f_needs f_comes f_values f_plain f_plainCount f_pointers f_now f_fresh f_many f_sums f_lows f_highs f_layed f_worked f_large) → lv_has ls 5 [(0, .ref (ad 0)), (1, .int x1), (2, .long x2), (4, .int x4)] → W p l e ({ frames := 0, cells := 0, slots := 0, locals := 0 } : Room) s m args below meth c H locs 0 0 (MQ below (va_Ql (fun (r : Int64) (_ : Unit) => post r.toInt) (kB (dC, dI) cl (tX55 d) A (fun _ : Unit => (wX55 ci ad d f_said f_heads f_kinds f_folded f_lengths f_parts f_rules f_known f_rounds f_given f_strata f_circle f_turns f_needs f_comes f_values f_plain f_plainCount f_pointers f_now f_fresh f_many f_sums f_lows f_highs f_layed f_worked f_large))) A) args s 0 0 A) (F0 m 9 ls []) := by
  have hx := X.1.1
  have hb := X.1.2.1
  intro nn
  induction nn with
  | zero =>
    intro x2 x4 hw
    exact False.elim hw
  | succ n ih =>
    intro x2 x4 hw H locs ls hH hl
    rw [wX55_factsOf_9] at hw
    refine lv_iload hx hb dX55_factsOf_9 (lv_at hl 3 rfl) ?_
    refine lv_sipush (v := 1024) hx hb dX55_factsOf_11 (by decide) ?_
    refine lv_iload_n hx hb dX55_factsOf_14 rfl (lv_at hl 1 rfl) ?_
    refine lv_imul hx hb dX55_factsOf_15 ?_
    have e_5 := z_mul (z_m (rfl : (1024 : Int32).toInt = 1024)) (z_m (rfl : x1.toInt = _))
    refine lv_sipush (v := 1024) hx hb dX55_factsOf_16 (by decide) ?_
    refine lv_iadd hx hb dX55_factsOf_19 ?_
    have e_6 := z_add e_5 (z_m (rfl : (1024 : Int32).toInt = 1024))
    have hq_8 := hw.1
    have hw := hw.2
    have e_9 := z_x e_6 hq_8
    refine lv_icmp_ge (tgt := 47) hx hb dX55_factsOf_20 (by decide) (fun c_7 => ?_) (fun c_7 => ?_)
    · have hw := hw.1 (z_le e_9 (rfl : x4.toInt = _) c_7)
      exact hk47 x2 hw _ _ ls hH (lv_sub hl [2] rfl)
    · have hw := hw.2 (z_nle e_9 (rfl : x4.toInt = _) c_7)
      refine lv_lload_n hx hb dX55_factsOf_23 rfl (lv_at hl 2 rfl) ?_
      refine lv_aload_n hx hb dX55_factsOf_24 rfl (lv_at hl 0 rfl) ?_
      refine k_get X hH in_X55 0 rfl hc 8 (by decide) q6584 rfl dX55_factsOf_25 ?_
      refine lv_iload hx hb dX55_factsOf_28 (lv_at hl 3 rfl) ?_
      have hq_10 := hw.1
      have hw := hw.2
      refine k_iald X hH 7 6 rfl rfl (z_in (rfl : x4.toInt = _) hq_10) dX55_factsOf_30 ?_
      have e_11 := z_ld (f := f_rounds) (rfl : x4.toInt = _) hq_10.1
      refine lv_if_lt (tgt := 38) hx hb dX55_factsOf_31 (by decide) (fun c_12 => ?_) (fun c_12 => ?_)
      · have hw := hw.1 (z_lt e_11 (rfl : (0 : Int32).toInt = 0) c_12)
        refine lv_lconst (v := 0) hx hb dX55_factsOf_38 (by decide) ?_
        refine lv_ladd hx hb dX55_factsOf_39 ?_
        have e_13 := zL_add (zL_m (rfl : x2.toInt = _)) (zL_m (rfl : (0 : Int64).toInt = 0))
        have hq_14 := hw.1
        have hw := hw.2
        have e_15 := zL_x e_13 hq_14
        refine lv_topl (fun x2_16 ex2_16 => ?_)
        have hw := hw x2_16.toInt (by rw [ex2_16]; exact e_15)
        refine lv_lstore_n (lv' := [(2, .long x2_16), (0, .ref (ad 0)), (1, .int x1), (4, .int x4)]) hx hb dX55_factsOf_40 rfl hl (by decide) rfl (fun ls hl => ?_)
        have hq_18 := hw.1
        have hw := hw.2
        obtain ⟨x4_17, ex4_17⟩ : ∃ y : Int32, y = x4 + 1 := ⟨_, rfl⟩
        have hw := hw x4_17.toInt (by rw [ex4_17]; exact (z_x (z_add (z_m (rfl : x4.toInt = _)) (z_m (rfl : (1 : Int32).toInt = 1))) hq_18))
        refine lv_iinc (v := x4_17) (lv' := [(4, .int x4_17), (2, .long x2_16), (0, .ref (ad 0)), (1, .int x1)]) hx hb dX55_factsOf_41 hl (k := 3) rfl (by rw [ex4_17]; rfl) (by decide) rfl (fun ls hl => ?_)
        refine lv_goto (tgt := 9) hx hb dX55_factsOf_44 (by decide) ?_
        exact ih x2_16 x4_17 hw _ _ ls hH (lv_sub hl [2, 3, 1, 0] rfl)
      · have hw := hw.2 (z_nlt e_11 (rfl : (0 : Int32).toInt = 0) c_12)
        refine lv_lconst (v := 1) hx hb dX55_factsOf_34 (by decide) ?_
        refine lv_goto (tgt := 39) hx hb dX55_factsOf_35 (by decide) ?_
        refine lv_ladd hx hb dX55_factsOf_39 ?_
        have e_19 := zL_add (zL_m (rfl : x2.toInt = _)) (zL_m (rfl : (1 : Int64).toInt = 1))
        have hq_20 := hw.1
        have hw := hw.2
        have e_21 := zL_x e_19 hq_20
        refine lv_topl (fun x2_22 ex2_22 => ?_)
        have hw := hw x2_22.toInt (by rw [ex2_22]; exact e_21)
        refine lv_lstore_n (lv' := [(2, .long x2_22), (0, .ref (ad 0)), (1, .int x1), (4, .int x4)]) hx hb dX55_factsOf_40 rfl hl (by decide) rfl (fun ls hl => ?_)
        have hq_24 := hw.1
        have hw := hw.2
        obtain ⟨x4_23, ex4_23⟩ : ∃ y : Int32, y = x4 + 1 := ⟨_, rfl⟩
        have hw := hw x4_23.toInt (by rw [ex4_23]; exact (z_x (z_add (z_m (rfl : x4.toInt = _)) (z_m (rfl : (1 : Int32).toInt = 1))) hq_24))
        refine lv_iinc (v := x4_23) (lv' := [(4, .int x4_23), (2, .long x2_22), (0, .ref (ad 0)), (1, .int x1)]) hx hb dX55_factsOf_41 hl (k := 3) rfl (by rw [ex4_23]; rfl) (by decide) rfl (fun ls hl => ?_)
        refine lv_goto (tgt := 9) hx hb dX55_factsOf_44 (by decide) ?_
        exact ih x2_22 x4_23 hw _ _ ls hH (lv_sub hl [2, 3, 1, 0] rfl)
set_option maxHeartbeats 4000000 in
theorem walkX55_factsOf {l : Launch} {dC : Nat → ClassId} {dI : Nat → Nat → Nat} {cl : List vw_C} {ci : Nat} (hc : cl[ci]? = some (RX55, TX55, 28)) {ad : Nat → Nat} {d : Nat → ClassId} {sz : Nat} {f_said : Nat → Int32} {f_heads : Nat → Int32} {f_kinds : Nat → Int32} {f_folded : Nat → Int32} {f_lengths : Nat → Int32} {f_parts : Nat → Int32} {f_rules : Int32} {f_known : Int32} {f_rounds : Nat → Int32} {f_given : Nat → Int32} {f_strata : Nat → Int32} {f_circle : Int32} {f_turns : Int32} {f_needs : Nat → Int32} {f_comes : Nat → Int32} {f_values : Nat → Int32} {f_plain : Nat → Int32} {f_plainCount : Int32} {f_pointers : Nat → Int32} {f_now : Int32} {f_fresh : Nat → Int32} {f_many : Nat → Int32} {f_sums : Nat → Int32} {f_lows : Nat → Int32} {f_highs : Nat → Int32} {f_layed : Int32} {f_worked : Int64} {f_large : Int32} {x1 : Int32} {post : Int → Prop} (hw : wpX55_factsOf post (zF f_rounds) x1.toInt) :
    Met l yX55_factsOf (ws_ yX55_factsOf cX55_factsOf 5 (some .long)) ({ frames := 0, cells := 0, slots := 0, locals := 0 } : Room) (kPc (dC, dI) cl (tX55 d) [.ref (ad 0), .int x1] sz (wX55 ci ad d f_said f_heads f_kinds f_folded f_lengths f_parts f_rules f_known f_rounds f_given f_strata f_circle f_turns f_needs f_comes f_values f_plain f_plainCount f_pointers f_now f_fresh f_many f_sums f_lows f_highs f_layed f_worked f_large)) (va_Ql (fun (r : Int64) (_ : Unit) => post r.toInt) (kB (dC, dI) cl (tX55 d) (va_A (wX55 ci ad d f_said f_heads f_kinds f_folded f_lengths f_parts f_rules f_known f_rounds f_given f_strata f_circle f_turns f_needs f_comes f_values f_plain f_plainCount f_pointers f_now f_fresh f_many f_sums f_lows f_highs f_layed f_worked f_large) sz) (fun _ : Unit => (wX55 ci ad d f_said f_heads f_kinds f_folded f_lengths f_parts f_rules f_known f_rounds f_given f_strata f_circle f_turns f_needs f_comes f_values f_plain f_plainCount f_pointers f_now f_fresh f_many f_sums f_lows f_highs f_layed f_worked f_large))) (va_A (wX55 ci ad d f_said f_heads f_kinds f_folded f_lengths f_parts f_rules f_known f_rounds f_given f_strata f_circle f_turns f_needs f_comes f_values f_plain f_plainCount f_pointers f_now f_fresh f_many f_sums f_lows f_highs f_layed f_worked f_large) sz)) 0 0 (va_A (wX55 ci ad d f_said f_heads f_kinds f_folded f_lengths f_parts f_rules f_known f_rounds f_given f_strata f_circle f_turns f_needs f_comes f_values f_plain f_plainCount f_pointers f_now f_fresh f_many f_sums f_lows f_highs f_layed f_worked f_large) sz) := by
  refine k_enter (by decide) (Nat.le_of_ble_eq_true rfl) ?_
  intro p e s m below meth c ls X hsz hH hl
  subst hsz
  generalize va_A (wX55 ci ad d f_said f_heads f_kinds f_folded f_lengths f_parts f_rules f_known f_rounds f_given f_strata f_circle f_turns f_needs f_comes f_values f_plain f_plainCount f_pointers f_now f_fresh f_many f_sums f_lows f_highs f_layed f_worked f_large) s.heap.size = A at hH ⊢
  have hx := X.1.1
  have hb := X.1.2.1
  have hl : lv_has ls 5 [(0, .ref (ad 0)), (1, .int x1)] := hl
  unfold wpX55_factsOf at hw
  refine lv_lconst (v := 0) hx hb dX55_factsOf_0 (by decide) ?_
  refine lv_lstore_n (lv' := [(2, .long 0), (0, .ref (ad 0)), (1, .int x1)]) hx hb dX55_factsOf_1 rfl hl (by decide) rfl (fun ls hl => ?_)
  refine lv_sipush (v := 1024) hx hb dX55_factsOf_2 (by decide) ?_
  refine lv_iload_n hx hb dX55_factsOf_5 rfl (lv_at hl 2 rfl) ?_
  refine lv_imul hx hb dX55_factsOf_6 ?_
  have e_1 := z_mul (z_m (rfl : (1024 : Int32).toInt = 1024)) (z_m (rfl : x1.toInt = _))
  have hq_2 := hw.1
  have hw := hw.2
  have e_3 := z_x e_1 hq_2
  refine lv_topi (fun x4_4 ex4_4 => ?_)
  have hw := hw x4_4.toInt (by rw [ex4_4]; exact e_3)
  refine lv_istore (lv' := [(4, .int x4_4), (2, .long 0), (0, .ref (ad 0)), (1, .int x1)]) hx hb dX55_factsOf_7 hl (by decide) rfl (fun ls hl => ?_)
  obtain ⟨fu, hw⟩ := hw
  refine atX55_factsOf_9 hc X ?_ fu 0 x4_4 hw _ _ ls hH (lv_sub hl [2, 3, 1, 0] rfl)
  · intro x2_25 hw H locs ls hH hl
    refine lv_lload_n hx hb dX55_factsOf_47 rfl (lv_at hl 0 rfl) ?_
    exact k_lret (v := x2_25) X hH () hw rfl dX55_factsOf_48
set_option maxHeartbeats 4000000 in
theorem atX55_addWork_47 {p : Program} {l : Launch} {e : Env} {s : State} {m : MethodId} {args : Array Value} {below : List Frame} {meth : Method} {c : Code} {dC : Nat → ClassId} {dI : Nat → Nat → Nat} {cl : List vw_C} {ci : Nat} (hc : cl[ci]? = some (RX55, TX55, 28)) {ad : Nat → Nat} {d : Nat → ClassId} {A : Nat → Prop} {post : Int → Int → Prop} {f_said : Nat → Int32} {f_heads : Nat → Int32} {f_kinds : Nat → Int32} {f_folded : Nat → Int32} {f_lengths : Nat → Int32} {f_parts : Nat → Int32} {f_rules : Int32} {f_known : Int32} {f_rounds : Nat → Int32} {f_given : Nat → Int32} {f_strata : Nat → Int32} {f_circle : Int32} {f_turns : Int32} {f_needs : Nat → Int32} {f_comes : Nat → Int32} {f_values : Nat → Int32} {f_plain : Nat → Int32} {f_plainCount : Int32} {f_pointers : Nat → Int32} {f_now : Int32} {f_fresh : Nat → Int32} {f_many : Nat → Int32} {f_sums : Nat → Int32} {f_lows : Nat → Int32} {f_highs : Nat → Int32} {f_layed : Int32} (X : kX p s m args meth c cX55_addWork 7 RX55 none (dC, dI) cl (tX55 d)) {K101 : Int → Prop} {x1 : Int32} {x2 : Int32} {f_worked : Int64} {f_large : Int32} (hk101 : ∀ (x3 : Int64), K101 x3.toInt → ∀ (H : Heap) (locs : List Loc) (ls : Array Slot), kH (dC, dI) cl A s.heap H locs (wX55 ci ad d f_said f_heads f_kinds f_folded f_lengths f_parts f_rules f_known f_rounds f_given f_strata f_circle f_turns f_needs f_comes f_values f_plain f_plainCount f_pointers f_now f_fresh f_many f_sums f_lows f_highs f_layed f_worked f_large) → lv_has ls 7 [(0, .ref (ad 0)), (1, .int x1), (2, .int x2), (3, .long x3)] → W p l e ({ frames := 2, cells := 0, slots := 0, locals := 49 } : Room) s m args below meth c H locs 0 0 (MQ below (va_Qv (fun (u : Int64 × Int32) => post (u.1).toInt (u.2).toInt) (kB (dC, dI) cl (tX55 d) A (fun u : Int64 × Int32 => (wX55 ci ad d f_said f_heads f_kinds f_folded f_lengths f_parts f_rules f_known f_rounds f_given f_strata f_circle f_turns f_needs f_comes f_values f_plain f_plainCount f_pointers f_now f_fresh f_many f_sums f_lows f_highs f_layed (u.1) (u.2)))) A) args s 0 0 A) (F0 m 101 ls [])) :
    ∀ (nn : Nat) (x3 : Int64) (x5 : Int32), wX55_addWork_47 K101 x2.toInt (zF f_lengths) (zF f_parts) (zF f_rounds) nn x3.toInt x5.toInt → ∀ (H : Heap) (locs : List Loc) (ls : Array Slot), kH (dC, dI) cl A s.heap H locs (wX55 ci ad d f_said f_heads f_kinds f_folded f_lengths f_parts f_rules f_known f_rounds f_given f_strata f_circle f_turns f_needs f_comes f_values f_plain f_plainCount f_pointers f_now f_fresh f_many f_sums f_lows f_highs f_layed f_worked f_large) → lv_has ls 7 [(0, .ref (ad 0)), (1, .int x1), (2, .int x2), (3, .long x3), (5, .int x5)] → W p l e ({ frames := 2, cells := 0, slots := 0, locals := 49 } : Room) s m args below meth c H locs 0 0 (MQ below (va_Qv (fun (u : Int64 × Int32) => post (u.1).toInt (u.2).toInt) (kB (dC, dI) cl (tX55 d) A (fun u : Int64 × Int32 => (wX55 ci ad d f_said f_heads f_kinds f_folded f_lengths f_parts f_rules f_known f_rounds f_given f_strata f_circle f_turns f_needs f_comes f_values f_plain f_plainCount f_pointers f_now f_fresh f_many f_sums f_lows f_highs f_layed (u.1) (u.2)))) A) args s 0 0 A) (F0 m 47 ls []) := by
  have hx := X.1.1
  have hb := X.1.2.1
  intro nn
  induction nn with
  | zero =>
    intro x3 x5 hw
    exact False.elim hw
  | succ n ih =>
    intro x3 x5 hw H locs ls hH hl
    rw [wX55_addWork_47] at hw
    refine lv_iload hx hb dX55_addWork_47 (lv_at hl 4 rfl) ?_
    refine lv_aload_n hx hb dX55_addWork_49 rfl (lv_at hl 0 rfl) ?_
    refine k_get X hH in_X55 0 rfl hc 4 (by decide) q6580 rfl dX55_addWork_50 ?_
    refine lv_iload_n hx hb dX55_addWork_53 rfl (lv_at hl 2 rfl) ?_
    have hq_7 := hw.1
    have hw := hw.2
    refine k_iald X hH 5 4 rfl rfl (z_in (rfl : x2.toInt = _) hq_7) dX55_addWork_54 ?_
    have e_8 := z_ld (f := f_lengths) (rfl : x2.toInt = _) hq_7.1
    refine lv_icmp_ge (tgt := 101) hx hb dX55_addWork_55 (by decide) (fun c_9 => ?_) (fun c_9 => ?_)
    · have hw := hw.1 (z_le e_8 (rfl : x5.toInt = _) c_9)
      exact hk101 x3 hw _ _ ls hH (lv_sub hl [0, 1, 2, 3] rfl)
    · have hw := hw.2 (z_nle e_8 (rfl : x5.toInt = _) c_9)
      refine lv_bipush (v := 20) hx hb dX55_addWork_58 (by decide) ?_
      refine lv_iload_n hx hb dX55_addWork_60 rfl (lv_at hl 2 rfl) ?_
      refine lv_imul hx hb dX55_addWork_61 ?_
      have e_10 := z_mul (z_m (rfl : (20 : Int32).toInt = 20)) (z_m (rfl : x2.toInt = _))
      refine lv_iconst (v := 4) hx hb dX55_addWork_62 (by decide) ?_
      refine lv_iload hx hb dX55_addWork_63 (lv_at hl 4 rfl) ?_
      refine lv_imul hx hb dX55_addWork_65 ?_
      have e_11 := z_mul (z_m (rfl : (4 : Int32).toInt = 4)) (z_m (rfl : x5.toInt = _))
      refine lv_iadd hx hb dX55_addWork_66 ?_
      have e_12 := z_add e_10 e_11
      have hq_13 := hw.1
      have hw := hw.2
      have e_14 := z_x e_12 hq_13
      refine lv_topi (fun x6_15 ex6_15 => ?_)
      have hw := hw x6_15.toInt (by rw [ex6_15]; exact e_14)
      refine lv_istore (lv' := [(6, .int x6_15), (0, .ref (ad 0)), (1, .int x1), (2, .int x2), (3, .long x3), (5, .int x5)]) hx hb dX55_addWork_67 hl (by decide) rfl (fun ls hl => ?_)
      refine lv_aload_n hx hb dX55_addWork_69 rfl (lv_at hl 1 rfl) ?_
      refine k_get X hH in_X55 0 rfl hc 5 (by decide) q6581 rfl dX55_addWork_70 ?_
      refine lv_iload hx hb dX55_addWork_73 (lv_at hl 0 rfl) ?_
      have hq_16 := hw.1
      have hw := hw.2
      refine k_iald X hH 6 5 rfl rfl (z_in (rfl : x6_15.toInt = _) hq_16) dX55_addWork_75 ?_
      have e_17 := z_ld (f := f_parts) (rfl : x6_15.toInt = _) hq_16.1
      refine lv_if_ne (tgt := 95) hx hb dX55_addWork_76 (by decide) (fun c_18 => ?_) (fun c_18 => ?_)
      · have hw := hw.2 (z_ne e_17 (rfl : (0 : Int32).toInt = 0) c_18)
        have hq_20 := hw.1
        have hw := hw.2
        obtain ⟨x5_19, ex5_19⟩ : ∃ y : Int32, y = x5 + 1 := ⟨_, rfl⟩
        have hw := hw x5_19.toInt (by rw [ex5_19]; exact (z_x (z_add (z_m (rfl : x5.toInt = _)) (z_m (rfl : (1 : Int32).toInt = 1))) hq_20))
        refine lv_iinc (v := x5_19) (lv' := [(5, .int x5_19), (6, .int x6_15), (0, .ref (ad 0)), (1, .int x1), (2, .int x2), (3, .long x3)]) hx hb dX55_addWork_95 hl (k := 5) rfl (by rw [ex5_19]; rfl) (by decide) rfl (fun ls hl => ?_)
        refine lv_goto (tgt := 47) hx hb dX55_addWork_98 (by decide) ?_
        exact ih x3 x5_19 hw _ _ ls hH (lv_sub hl [2, 3, 4, 5, 0] rfl)
      · have hw := hw.1 (z_eq e_17 (rfl : (0 : Int32).toInt = 0) c_18)
        refine lv_lload_n hx hb dX55_addWork_79 rfl (lv_at hl 4 rfl) ?_
        refine lv_aload_n hx hb dX55_addWork_80 rfl (lv_at hl 1 rfl) ?_
        refine lv_aload_n hx hb dX55_addWork_81 rfl (lv_at hl 1 rfl) ?_
        refine k_get X hH in_X55 0 rfl hc 5 (by decide) q6581 rfl dX55_addWork_82 ?_
        refine lv_iload hx hb dX55_addWork_85 (lv_at hl 0 rfl) ?_
        refine lv_iconst (v := 1) hx hb dX55_addWork_87 (by decide) ?_
        refine lv_iadd hx hb dX55_addWork_88 ?_
        have e_21 := z_add (z_m (rfl : x6_15.toInt = _)) (z_m (rfl : (1 : Int32).toInt = 1))
        have hq_22 := hw.1
        have hw := hw.2
        have e_23 := z_xi e_21 hq_22 (by decide)
        refine k_iald X hH 6 5 rfl rfl (z_in e_23 hq_22) dX55_addWork_89 ?_
        have e_24 := z_ld (f := f_parts) e_23 hq_22.1
        refine k_l0 hH (k_runV (As := [.int (f_parts (x6_15 + 1).toNatClampNeg)]) (rest := [.long x3]) X hH.1 hH.2.1 X.2.2.2 (walkX55_factsOf hc (x1 := (f_parts (x6_15 + 1).toNatClampNeg)) (f_said := f_said) (f_heads := f_heads) (f_kinds := f_kinds) (f_folded := f_folded) (f_lengths := f_lengths) (f_parts := f_parts) (f_rules := f_rules) (f_known := f_known) (f_rounds := f_rounds) (f_given := f_given) (f_strata := f_strata) (f_circle := f_circle) (f_turns := f_turns) (f_needs := f_needs) (f_comes := f_comes) (f_values := f_values) (f_plain := f_plain) (f_plainCount := f_plainCount) (f_pointers := f_pointers) (f_now := f_now) (f_fresh := f_fresh) (f_many := f_many) (f_sums := f_sums) (f_lows := f_lows) (f_highs := f_highs) (f_layed := f_layed) (f_worked := f_worked) (f_large := f_large) (by rw [show (f_parts (x6_15 + 1).toNatClampNeg : Int32).toInt = _ from e_24]; exact hw)) (cwV 1 X.1.2.2.2.2 gX55_167 rfl rfl rfl hX55_factsOf ⟨Nat.le_of_ble_eq_true rfl, Nat.le_of_ble_eq_true rfl⟩) hc (q0 := 0) rfl rfl hl.1 rfl (Nat.le_of_ble_eq_true rfl) dX55_addWork_90 ⟨Nat.le_refl 0, Nat.le_refl 0⟩) (fun r_25 _ H locs hw hH => ?_)
        have hH : kH (dC, dI) cl A s.heap H locs (wX55 ci ad d f_said f_heads f_kinds f_folded f_lengths f_parts f_rules f_known f_rounds f_given f_strata f_circle f_turns f_needs f_comes f_values f_plain f_plainCount f_pointers f_now f_fresh f_many f_sums f_lows f_highs f_layed f_worked f_large) := hH
        refine lv_lmul hx hb dX55_addWork_93 ?_
        have e_26 := zL_mul (zL_m (rfl : x3.toInt = _)) (zL_m (rfl : r_25.toInt = _))
        have hq_27 := hw.1
        have hw := hw.2
        have e_28 := zL_x e_26 hq_27
        refine lv_topl (fun x3_29 ex3_29 => ?_)
        have hw := hw x3_29.toInt (by rw [ex3_29]; exact e_28)
        refine lv_lstore_n (lv' := [(3, .long x3_29), (6, .int x6_15), (0, .ref (ad 0)), (1, .int x1), (2, .int x2), (5, .int x5)]) hx hb dX55_addWork_94 rfl hl (by decide) rfl (fun ls hl => ?_)
        have hq_31 := hw.1
        have hw := hw.2
        obtain ⟨x5_30, ex5_30⟩ : ∃ y : Int32, y = x5 + 1 := ⟨_, rfl⟩
        have hw := hw x5_30.toInt (by rw [ex5_30]; exact (z_x (z_add (z_m (rfl : x5.toInt = _)) (z_m (rfl : (1 : Int32).toInt = 1))) hq_31))
        refine lv_iinc (v := x5_30) (lv' := [(5, .int x5_30), (3, .long x3_29), (6, .int x6_15), (0, .ref (ad 0)), (1, .int x1), (2, .int x2)]) hx hb dX55_addWork_95 hl (k := 5) rfl (by rw [ex5_30]; rfl) (by decide) rfl (fun ls hl => ?_)
        refine lv_goto (tgt := 47) hx hb dX55_addWork_98 (by decide) ?_
        exact ih x3_29 x5_30 hw _ _ ls hH (lv_sub hl [3, 4, 5, 1, 0] rfl)
set_option maxHeartbeats 4000000 in
theorem atX55_addWork_2 {p : Program} {l : Launch} {e : Env} {s : State} {m : MethodId} {args : Array Value} {below : List Frame} {meth : Method} {c : Code} {dC : Nat → ClassId} {dI : Nat → Nat → Nat} {cl : List vw_C} {ci : Nat} (hc : cl[ci]? = some (RX55, TX55, 28)) {ad : Nat → Nat} {d : Nat → ClassId} {A : Nat → Prop} {post : Int → Int → Prop} {f_said : Nat → Int32} {f_heads : Nat → Int32} {f_kinds : Nat → Int32} {f_folded : Nat → Int32} {f_lengths : Nat → Int32} {f_parts : Nat → Int32} {f_rules : Int32} {f_known : Int32} {f_rounds : Nat → Int32} {f_given : Nat → Int32} {f_strata : Nat → Int32} {f_circle : Int32} {f_turns : Int32} {f_needs : Nat → Int32} {f_comes : Nat → Int32} {f_values : Nat → Int32} {f_plain : Nat → Int32} {f_plainCount : Int32} {f_pointers : Nat → Int32} {f_now : Int32} {f_fresh : Nat → Int32} {f_many : Nat → Int32} {f_sums : Nat → Int32} {f_lows : Nat → Int32} {f_highs : Nat → Int32} {f_layed : Int32} (X : kX p s m args meth c cX55_addWork 7 RX55 none (dC, dI) cl (tX55 d)) {K117 : Int → Prop} {x1 : Int32} {f_large : Int32} (hk117 : ∀ (f_worked : Int64), K117 f_worked.toInt → ∀ (H : Heap) (locs : List Loc) (ls : Array Slot), kH (dC, dI) cl A s.heap H locs (wX55 ci ad d f_said f_heads f_kinds f_folded f_lengths f_parts f_rules f_known f_rounds f_given f_strata f_circle f_turns f_needs f_comes f_values f_plain f_plainCount f_pointers f_now f_fresh f_many f_sums f_lows f_highs f_layed f_worked f_large) → lv_has ls 7 [(0, .ref (ad 0))] → W p l e ({ frames := 2, cells := 0, slots := 0, locals := 49 } : Room) s m args below meth c H locs 0 0 (MQ below (va_Qv (fun (u : Int64 × Int32) => post (u.1).toInt (u.2).toInt) (kB (dC, dI) cl (tX55 d) A (fun u : Int64 × Int32 => (wX55 ci ad d f_said f_heads f_kinds f_folded f_lengths f_parts f_rules f_known f_rounds f_given f_strata f_circle f_turns f_needs f_comes f_values f_plain f_plainCount f_pointers f_now f_fresh f_many f_sums f_lows f_highs f_layed (u.1) (u.2)))) A) args s 0 0 A) (F0 m 117 ls [])) :
    ∀ (nn : Nat) (x2 : Int32) (f_worked : Int64), wX55_addWork_2 K117 x1.toInt (zF f_heads) (zF f_kinds) (zF f_folded) (zF f_lengths) (zF f_parts) f_rules.toInt (zF f_rounds) (zF f_strata) nn x2.toInt f_worked.toInt → ∀ (H : Heap) (locs : List Loc) (ls : Array Slot), kH (dC, dI) cl A s.heap H locs (wX55 ci ad d f_said f_heads f_kinds f_folded f_lengths f_parts f_rules f_known f_rounds f_given f_strata f_circle f_turns f_needs f_comes f_values f_plain f_plainCount f_pointers f_now f_fresh f_many f_sums f_lows f_highs f_layed f_worked f_large) → lv_has ls 7 [(0, .ref (ad 0)), (1, .int x1), (2, .int x2)] → W p l e ({ frames := 2, cells := 0, slots := 0, locals := 49 } : Room) s m args below meth c H locs 0 0 (MQ below (va_Qv (fun (u : Int64 × Int32) => post (u.1).toInt (u.2).toInt) (kB (dC, dI) cl (tX55 d) A (fun u : Int64 × Int32 => (wX55 ci ad d f_said f_heads f_kinds f_folded f_lengths f_parts f_rules f_known f_rounds f_given f_strata f_circle f_turns f_needs f_comes f_values f_plain f_plainCount f_pointers f_now f_fresh f_many f_sums f_lows f_highs f_layed (u.1) (u.2)))) A) args s 0 0 A) (F0 m 2 ls []) := by
  have hx := X.1.1
  have hb := X.1.2.1
  intro nn
  induction nn with
  | zero =>
    intro x2 f_worked hw
    exact False.elim hw
  | succ n ih =>
    intro x2 f_worked hw H locs ls hH hl
    rw [wX55_addWork_2] at hw
    refine lv_iload_n hx hb dX55_addWork_2 rfl (lv_at hl 2 rfl) ?_
    refine lv_aload_n hx hb dX55_addWork_3 rfl (lv_at hl 0 rfl) ?_
    refine k_get X hH in_X55 0 rfl hc 6 (by decide) q6582 rfl dX55_addWork_4 ?_
    refine lv_icmp_ge (tgt := 117) hx hb dX55_addWork_7 (by decide) (fun c_1 => ?_) (fun c_1 => ?_)
    · have hw := hw.1 (z_le (rfl : f_rules.toInt = _) (rfl : x2.toInt = _) c_1)
      exact hk117 f_worked hw _ _ ls hH (lv_sub hl [0] rfl)
    · have hw := hw.2 (z_nle (rfl : f_rules.toInt = _) (rfl : x2.toInt = _) c_1)
      refine lv_aload_n hx hb dX55_addWork_10 rfl (lv_at hl 0 rfl) ?_
      refine lv_iload_n hx hb dX55_addWork_11 rfl (lv_at hl 2 rfl) ?_
      refine k_i0 hH (k_runV (As := [.int x2]) (rest := []) X hH.1 hH.2.1 X.2.2.2 (walkX55_isSafe hc (x1 := x2) (f_said := f_said) (f_heads := f_heads) (f_kinds := f_kinds) (f_folded := f_folded) (f_lengths := f_lengths) (f_parts := f_parts) (f_rules := f_rules) (f_known := f_known) (f_rounds := f_rounds) (f_given := f_given) (f_strata := f_strata) (f_circle := f_circle) (f_turns := f_turns) (f_needs := f_needs) (f_comes := f_comes) (f_values := f_values) (f_plain := f_plain) (f_plainCount := f_plainCount) (f_pointers := f_pointers) (f_now := f_now) (f_fresh := f_fresh) (f_many := f_many) (f_sums := f_sums) (f_lows := f_lows) (f_highs := f_highs) (f_layed := f_layed) (f_worked := f_worked) (f_large := f_large) hw) (cwV 1 X.1.2.2.2.2 gX55_105 rfl rfl rfl hX55_isSafe ⟨Nat.le_of_ble_eq_true rfl, Nat.le_of_ble_eq_true rfl⟩) hc (q0 := 0) rfl rfl hl.1 rfl (Nat.le_of_ble_eq_true rfl) dX55_addWork_12 ⟨Nat.le_refl 0, Nat.le_refl 0⟩) (fun r_2 _ H locs hw hH => ?_)
      have hH : kH (dC, dI) cl A s.heap H locs (wX55 ci ad d f_said f_heads f_kinds f_folded f_lengths f_parts f_rules f_known f_rounds f_given f_strata f_circle f_turns f_needs f_comes f_values f_plain f_plainCount f_pointers f_now f_fresh f_many f_sums f_lows f_highs f_layed f_worked f_large) := hH
      refine lv_if_eq (tgt := 111) hx hb dX55_addWork_15 (by decide) (fun c_3 => ?_) (fun c_3 => ?_)
      · have hw := hw.1 (z_eq (rfl : r_2.toInt = _) (rfl : (0 : Int32).toInt = 0) c_3)
        have hq_5 := hw.1
        have hw := hw.2
        obtain ⟨x2_4, ex2_4⟩ : ∃ y : Int32, y = x2 + 1 := ⟨_, rfl⟩
        have hw := hw x2_4.toInt (by rw [ex2_4]; exact (z_x (z_add (z_m (rfl : x2.toInt = _)) (z_m (rfl : (1 : Int32).toInt = 1))) hq_5))
        refine lv_iinc (v := x2_4) (lv' := [(2, .int x2_4), (0, .ref (ad 0)), (1, .int x1)]) hx hb dX55_addWork_111 hl (k := 2) rfl (by rw [ex2_4]; rfl) (by decide) rfl (fun ls hl => ?_)
        refine lv_goto (tgt := 2) hx hb dX55_addWork_114 (by decide) ?_
        exact ih x2_4 f_worked hw _ _ ls hH (lv_sub hl [1, 2, 0] rfl)
      · have hw := hw.2 (z_neq (rfl : r_2.toInt = _) (rfl : (0 : Int32).toInt = 0) c_3)
        refine lv_iload_n hx hb dX55_addWork_18 rfl (lv_at hl 1 rfl) ?_
        refine lv_if_lt (tgt := 42) hx hb dX55_addWork_19 (by decide) (fun c_6 => ?_) (fun c_6 => ?_)
        · have hw := hw.1 (z_lt (rfl : x1.toInt = _) (rfl : (0 : Int32).toInt = 0) c_6)
          refine lv_lconst (v := 1) hx hb dX55_addWork_42 (by decide) ?_
          refine lv_lstore_n (lv' := [(3, .long 1), (0, .ref (ad 0)), (1, .int x1), (2, .int x2)]) hx hb dX55_addWork_43 rfl hl (by decide) rfl (fun ls hl => ?_)
          refine lv_iconst (v := 0) hx hb dX55_addWork_44 (by decide) ?_
          refine lv_istore (lv' := [(5, .int 0), (3, .long 1), (0, .ref (ad 0)), (1, .int x1), (2, .int x2)]) hx hb dX55_addWork_45 hl (by decide) rfl (fun ls hl => ?_)
          obtain ⟨fu, hw⟩ := hw
          refine atX55_addWork_47 hc X ?_ fu 1 0 hw _ _ ls hH (lv_sub hl [2, 3, 4, 1, 0] rfl)
          · intro x3_32 hw H locs ls hH hl
            refine lv_aload_n hx hb dX55_addWork_101 rfl (lv_at hl 0 rfl) ?_
            refine lv_aload_n hx hb dX55_addWork_102 rfl (lv_at hl 0 rfl) ?_
            refine k_get X hH in_X55 0 rfl hc 26 (by decide) q6602 rfl dX55_addWork_103 ?_
            refine lv_lload_n hx hb dX55_addWork_106 rfl (lv_at hl 3 rfl) ?_
            refine lv_ladd hx hb dX55_addWork_107 ?_
            have e_33 := zL_add (zL_m (rfl : f_worked.toInt = _)) (zL_m (rfl : x3_32.toInt = _))
            have hq_34 := hw.1
            have hw := hw.2
            have e_35 := zL_x e_33 hq_34
            refine lv_topl (fun f_worked_36 ef_worked_36 => ?_)
            have hw := hw f_worked_36.toInt (by rw [ef_worked_36]; exact e_35)
            refine k_put X hH in_X55 tyX55_ok nmX55 0 rfl hc 26 (by decide) q6602 rfl (ty := .long) rfl rfl rfl (Nat.le_of_ble_eq_true rfl) dX55_addWork_108 (ws1 := (wX55 ci ad d f_said f_heads f_kinds f_folded f_lengths f_parts f_rules f_known f_rounds f_given f_strata f_circle f_turns f_needs f_comes f_values f_plain f_plainCount f_pointers f_now f_fresh f_many f_sums f_lows f_highs f_layed f_worked_36 f_large)) rfl (fun H locs hH => ?_)
            have hq_38 := hw.1
            have hw := hw.2
            obtain ⟨x2_37, ex2_37⟩ : ∃ y : Int32, y = x2 + 1 := ⟨_, rfl⟩
            have hw := hw x2_37.toInt (by rw [ex2_37]; exact (z_x (z_add (z_m (rfl : x2.toInt = _)) (z_m (rfl : (1 : Int32).toInt = 1))) hq_38))
            refine lv_iinc (v := x2_37) (lv' := [(2, .int x2_37), (0, .ref (ad 0)), (1, .int x1), (3, .long x3_32)]) hx hb dX55_addWork_111 hl (k := 2) rfl (by rw [ex2_37]; rfl) (by decide) rfl (fun ls hl => ?_)
            refine lv_goto (tgt := 2) hx hb dX55_addWork_114 (by decide) ?_
            exact ih x2_37 f_worked_36 hw _ _ ls hH (lv_sub hl [1, 2, 0] rfl)
        · have hw := hw.2 (z_nlt (rfl : x1.toInt = _) (rfl : (0 : Int32).toInt = 0) c_6)
          refine lv_aload_n hx hb dX55_addWork_22 rfl (lv_at hl 0 rfl) ?_
          refine k_get X hH in_X55 0 rfl hc 10 (by decide) q6586 rfl dX55_addWork_23 ?_
          refine lv_aload_n hx hb dX55_addWork_26 rfl (lv_at hl 0 rfl) ?_
          refine k_get X hH in_X55 0 rfl hc 1 (by decide) q6577 rfl dX55_addWork_27 ?_
          refine lv_iconst (v := 3) hx hb dX55_addWork_30 (by decide) ?_
          refine lv_iload_n hx hb dX55_addWork_31 rfl (lv_at hl 2 rfl) ?_
          refine lv_imul hx hb dX55_addWork_32 ?_
          have e_39 := z_mul (z_m (rfl : (3 : Int32).toInt = 3)) (z_m (rfl : x2.toInt = _))
          have hq_40 := hw.1
          have hw := hw.2
          have e_41 := z_xi e_39 hq_40 (by decide)
          refine k_iald X hH 2 1 rfl rfl (z_in e_41 hq_40) dX55_addWork_33 ?_
          have e_42 := z_ld (f := f_heads) e_41 hq_40.1
          have hq_43 := hw.1
          have hw := hw.2
          refine k_iald X hH 9 8 rfl rfl (z_in e_42 hq_43) dX55_addWork_34 ?_
          have e_44 := z_ld (f := f_strata) e_42 hq_43.1
          refine lv_iload_n hx hb dX55_addWork_35 rfl (lv_at hl 1 rfl) ?_
          refine lv_icmp_eq (tgt := 42) hx hb dX55_addWork_36 (by decide) (fun c_45 => ?_) (fun c_45 => ?_)
          · have hw := hw.1 (z_eq e_44 (rfl : x1.toInt = _) c_45)
            refine lv_lconst (v := 1) hx hb dX55_addWork_42 (by decide) ?_
            refine lv_lstore_n (lv' := [(3, .long 1), (0, .ref (ad 0)), (1, .int x1), (2, .int x2)]) hx hb dX55_addWork_43 rfl hl (by decide) rfl (fun ls hl => ?_)
            refine lv_iconst (v := 0) hx hb dX55_addWork_44 (by decide) ?_
            refine lv_istore (lv' := [(5, .int 0), (3, .long 1), (0, .ref (ad 0)), (1, .int x1), (2, .int x2)]) hx hb dX55_addWork_45 hl (by decide) rfl (fun ls hl => ?_)
            obtain ⟨fu, hw⟩ := hw
            refine atX55_addWork_47 hc X ?_ fu 1 0 hw _ _ ls hH (lv_sub hl [2, 3, 4, 1, 0] rfl)
            · intro x3_46 hw H locs ls hH hl
              refine lv_aload_n hx hb dX55_addWork_101 rfl (lv_at hl 0 rfl) ?_
              refine lv_aload_n hx hb dX55_addWork_102 rfl (lv_at hl 0 rfl) ?_
              refine k_get X hH in_X55 0 rfl hc 26 (by decide) q6602 rfl dX55_addWork_103 ?_
              refine lv_lload_n hx hb dX55_addWork_106 rfl (lv_at hl 3 rfl) ?_
              refine lv_ladd hx hb dX55_addWork_107 ?_
              have e_47 := zL_add (zL_m (rfl : f_worked.toInt = _)) (zL_m (rfl : x3_46.toInt = _))
              have hq_48 := hw.1
              have hw := hw.2
              have e_49 := zL_x e_47 hq_48
              refine lv_topl (fun f_worked_50 ef_worked_50 => ?_)
              have hw := hw f_worked_50.toInt (by rw [ef_worked_50]; exact e_49)
              refine k_put X hH in_X55 tyX55_ok nmX55 0 rfl hc 26 (by decide) q6602 rfl (ty := .long) rfl rfl rfl (Nat.le_of_ble_eq_true rfl) dX55_addWork_108 (ws1 := (wX55 ci ad d f_said f_heads f_kinds f_folded f_lengths f_parts f_rules f_known f_rounds f_given f_strata f_circle f_turns f_needs f_comes f_values f_plain f_plainCount f_pointers f_now f_fresh f_many f_sums f_lows f_highs f_layed f_worked_50 f_large)) rfl (fun H locs hH => ?_)
              have hq_52 := hw.1
              have hw := hw.2
              obtain ⟨x2_51, ex2_51⟩ : ∃ y : Int32, y = x2 + 1 := ⟨_, rfl⟩
              have hw := hw x2_51.toInt (by rw [ex2_51]; exact (z_x (z_add (z_m (rfl : x2.toInt = _)) (z_m (rfl : (1 : Int32).toInt = 1))) hq_52))
              refine lv_iinc (v := x2_51) (lv' := [(2, .int x2_51), (0, .ref (ad 0)), (1, .int x1), (3, .long x3_46)]) hx hb dX55_addWork_111 hl (k := 2) rfl (by rw [ex2_51]; rfl) (by decide) rfl (fun ls hl => ?_)
              refine lv_goto (tgt := 2) hx hb dX55_addWork_114 (by decide) ?_
              exact ih x2_51 f_worked_50 hw _ _ ls hH (lv_sub hl [1, 2, 0] rfl)
          · have hw := hw.2 (z_neq e_44 (rfl : x1.toInt = _) c_45)
            refine lv_goto (tgt := 111) hx hb dX55_addWork_39 (by decide) ?_
            have hq_54 := hw.1
            have hw := hw.2
            obtain ⟨x2_53, ex2_53⟩ : ∃ y : Int32, y = x2 + 1 := ⟨_, rfl⟩
            have hw := hw x2_53.toInt (by rw [ex2_53]; exact (z_x (z_add (z_m (rfl : x2.toInt = _)) (z_m (rfl : (1 : Int32).toInt = 1))) hq_54))
            refine lv_iinc (v := x2_53) (lv' := [(2, .int x2_53), (0, .ref (ad 0)), (1, .int x1)]) hx hb dX55_addWork_111 hl (k := 2) rfl (by rw [ex2_53]; rfl) (by decide) rfl (fun ls hl => ?_)
            refine lv_goto (tgt := 2) hx hb dX55_addWork_114 (by decide) ?_
            exact ih x2_53 f_worked hw _ _ ls hH (lv_sub hl [1, 2, 0] rfl)
set_option maxHeartbeats 4000000 in
theorem walkX55_addWork {l : Launch} {dC : Nat → ClassId} {dI : Nat → Nat → Nat} {cl : List vw_C} {ci : Nat} (hc : cl[ci]? = some (RX55, TX55, 28)) {ad : Nat → Nat} {d : Nat → ClassId} {sz : Nat} {f_said : Nat → Int32} {f_heads : Nat → Int32} {f_kinds : Nat → Int32} {f_folded : Nat → Int32} {f_lengths : Nat → Int32} {f_parts : Nat → Int32} {f_rules : Int32} {f_known : Int32} {f_rounds : Nat → Int32} {f_given : Nat → Int32} {f_strata : Nat → Int32} {f_circle : Int32} {f_turns : Int32} {f_needs : Nat → Int32} {f_comes : Nat → Int32} {f_values : Nat → Int32} {f_plain : Nat → Int32} {f_plainCount : Int32} {f_pointers : Nat → Int32} {f_now : Int32} {f_fresh : Nat → Int32} {f_many : Nat → Int32} {f_sums : Nat → Int32} {f_lows : Nat → Int32} {f_highs : Nat → Int32} {f_layed : Int32} {f_worked : Int64} {f_large : Int32} {x1 : Int32} {post : Int → Int → Prop} (hw : wpX55_addWork post (zF f_heads) (zF f_kinds) (zF f_folded) (zF f_lengths) (zF f_parts) f_rules.toInt (zF f_rounds) (zF f_strata) f_worked.toInt x1.toInt) :
    Met l yX55_addWork (ws_ yX55_addWork cX55_addWork 7 none) ({ frames := 2, cells := 0, slots := 0, locals := 49 } : Room) (kPc (dC, dI) cl (tX55 d) [.ref (ad 0), .int x1] sz (wX55 ci ad d f_said f_heads f_kinds f_folded f_lengths f_parts f_rules f_known f_rounds f_given f_strata f_circle f_turns f_needs f_comes f_values f_plain f_plainCount f_pointers f_now f_fresh f_many f_sums f_lows f_highs f_layed f_worked f_large)) (va_Qv (fun (u : Int64 × Int32) => post (u.1).toInt (u.2).toInt) (kB (dC, dI) cl (tX55 d) (va_A (wX55 ci ad d f_said f_heads f_kinds f_folded f_lengths f_parts f_rules f_known f_rounds f_given f_strata f_circle f_turns f_needs f_comes f_values f_plain f_plainCount f_pointers f_now f_fresh f_many f_sums f_lows f_highs f_layed f_worked f_large) sz) (fun u : Int64 × Int32 => (wX55 ci ad d f_said f_heads f_kinds f_folded f_lengths f_parts f_rules f_known f_rounds f_given f_strata f_circle f_turns f_needs f_comes f_values f_plain f_plainCount f_pointers f_now f_fresh f_many f_sums f_lows f_highs f_layed (u.1) (u.2)))) (va_A (wX55 ci ad d f_said f_heads f_kinds f_folded f_lengths f_parts f_rules f_known f_rounds f_given f_strata f_circle f_turns f_needs f_comes f_values f_plain f_plainCount f_pointers f_now f_fresh f_many f_sums f_lows f_highs f_layed f_worked f_large) sz)) 0 0 (va_A (wX55 ci ad d f_said f_heads f_kinds f_folded f_lengths f_parts f_rules f_known f_rounds f_given f_strata f_circle f_turns f_needs f_comes f_values f_plain f_plainCount f_pointers f_now f_fresh f_many f_sums f_lows f_highs f_layed f_worked f_large) sz) := by
  refine k_enter (by decide) (Nat.le_of_ble_eq_true rfl) ?_
  intro p e s m below meth c ls X hsz hH hl
  subst hsz
  generalize va_A (wX55 ci ad d f_said f_heads f_kinds f_folded f_lengths f_parts f_rules f_known f_rounds f_given f_strata f_circle f_turns f_needs f_comes f_values f_plain f_plainCount f_pointers f_now f_fresh f_many f_sums f_lows f_highs f_layed f_worked f_large) s.heap.size = A at hH ⊢
  have hx := X.1.1
  have hb := X.1.2.1
  have hl : lv_has ls 7 [(0, .ref (ad 0)), (1, .int x1)] := hl
  unfold wpX55_addWork at hw
  refine lv_iconst (v := 0) hx hb dX55_addWork_0 (by decide) ?_
  refine lv_istore_n (lv' := [(2, .int 0), (0, .ref (ad 0)), (1, .int x1)]) hx hb dX55_addWork_1 rfl hl (by decide) rfl (fun ls hl => ?_)
  obtain ⟨fu, hw⟩ := hw
  refine atX55_addWork_2 hc X ?_ fu 0 f_worked hw _ _ ls hH (lv_sub hl [1, 2, 0] rfl)
  · intro f_worked_55 hw H locs ls hH hl
    refine lv_aload_n hx hb dX55_addWork_117 rfl (lv_at hl 0 rfl) ?_
    refine lv_aload_n hx hb dX55_addWork_118 rfl (lv_at hl 0 rfl) ?_
    refine k_get X hH in_X55 0 rfl hc 26 (by decide) q6602 rfl dX55_addWork_119 ?_
    refine lv_ldc2 (v := 200000) hx hb X.1.2.2.2.1 (X.1.2.2.2.2 _ q7916) dX55_addWork_122 ?_
    refine W.lcmp hx hb dX55_addWork_125 ?_
    refine lv_if_le (tgt := 133) hx hb dX55_addWork_126 (by decide) (fun c_56 => ?_) (fun c_56 => ?_)
    · have hw := hw.1 (zL_le (rfl : f_worked_55.toInt = _) (rfl : (200000 : Int64).toInt = 200000) (k_lc_le.mp c_56))
      refine lv_iconst (v := 0) hx hb dX55_addWork_133 (by decide) ?_
      refine k_put X hH in_X55 tyX55_ok nmX55 0 rfl hc 27 (by decide) q6603 rfl (ty := .boolean) rfl rfl rfl (Nat.le_of_ble_eq_true rfl) dX55_addWork_134 (ws1 := (wX55 ci ad d f_said f_heads f_kinds f_folded f_lengths f_parts f_rules f_known f_rounds f_given f_strata f_circle f_turns f_needs f_comes f_values f_plain f_plainCount f_pointers f_now f_fresh f_many f_sums f_lows f_highs f_layed f_worked_55 0)) rfl (fun H locs hH => ?_)
      exact k_vret X hH (f_worked_55, 0) hw rfl dX55_addWork_137
    · have hw := hw.2 (zL_nle (rfl : f_worked_55.toInt = _) (rfl : (200000 : Int64).toInt = 200000) (fun z => c_56 (k_lc_le.mpr z)))
      refine lv_iconst (v := 1) hx hb dX55_addWork_129 (by decide) ?_
      refine lv_goto (tgt := 134) hx hb dX55_addWork_130 (by decide) ?_
      refine k_put X hH in_X55 tyX55_ok nmX55 0 rfl hc 27 (by decide) q6603 rfl (ty := .boolean) rfl rfl rfl (Nat.le_of_ble_eq_true rfl) dX55_addWork_134 (ws1 := (wX55 ci ad d f_said f_heads f_kinds f_folded f_lengths f_parts f_rules f_known f_rounds f_given f_strata f_circle f_turns f_needs f_comes f_values f_plain f_plainCount f_pointers f_now f_fresh f_many f_sums f_lows f_highs f_layed f_worked_55 1)) rfl (fun H locs hH => ?_)
      exact k_vret X hH (f_worked_55, 1) hw rfl dX55_addWork_137
set_option maxHeartbeats 4000000 in
theorem atX55_begin_7 {p : Program} {l : Launch} {e : Env} {s : State} {m : MethodId} {args : Array Value} {below : List Frame} {meth : Method} {c : Code} {dC : Nat → ClassId} {dI : Nat → Nat → Nat} {cl : List vw_C} {ci : Nat} (hc : cl[ci]? = some (RX55, TX55, 28)) {ad : Nat → Nat} {d : Nat → ClassId} {A : Nat → Prop} {post : (Int → Int) → Int → (Int → Int) → Prop} {f_said : Nat → Int32} {f_heads : Nat → Int32} {f_kinds : Nat → Int32} {f_folded : Nat → Int32} {f_lengths : Nat → Int32} {f_parts : Nat → Int32} {f_rules : Int32} {f_known : Int32} {f_rounds : Nat → Int32} {f_given : Nat → Int32} {f_strata : Nat → Int32} {f_circle : Int32} {f_turns : Int32} {f_needs : Nat → Int32} {f_comes : Nat → Int32} {f_values : Nat → Int32} {f_now : Int32} {f_fresh : Nat → Int32} {f_many : Nat → Int32} {f_sums : Nat → Int32} {f_lows : Nat → Int32} {f_highs : Nat → Int32} {f_layed : Int32} {f_worked : Int64} {f_large : Int32} (X : kX p s m args meth c cX55_begin 3 RX55 none (dC, dI) cl (tX55 d)) {K62 : (Int → Int) → Int → Prop} {x1 : Int32} {f_pointers : Nat → Int32} (hk62 : ∀ (f_plain : Nat → Int32) (f_plainCount : Int32), K62 (zF f_plain) f_plainCount.toInt → ∀ (H : Heap) (locs : List Loc) (ls : Array Slot), kH (dC, dI) cl A s.heap H locs (wX55 ci ad d f_said f_heads f_kinds f_folded f_lengths f_parts f_rules f_known f_rounds f_given f_strata f_circle f_turns f_needs f_comes f_values f_plain f_plainCount f_pointers f_now f_fresh f_many f_sums f_lows f_highs f_layed f_worked f_large) → lv_has ls 3 [(0, .ref (ad 0)), (1, .int x1)] → W p l e ({ frames := 0, cells := 0, slots := 0, locals := 0 } : Room) s m args below meth c H locs 0 0 (MQ below (va_Qv (fun (u : (Nat → Int32) × Int32 × (Nat → Int32)) => post (zF (u.1)) (u.2.1).toInt (zF (u.2.2))) (kB (dC, dI) cl (tX55 d) A (fun u : (Nat → Int32) × Int32 × (Nat → Int32) => (wX55 ci ad d f_said f_heads f_kinds f_folded f_lengths f_parts f_rules f_known f_rounds f_given f_strata f_circle f_turns f_needs f_comes f_values (u.1) (u.2.1) (u.2.2) f_now f_fresh f_many f_sums f_lows f_highs f_layed f_worked f_large))) A) args s 0 0 A) (F0 m 62 ls [])) :
    ∀ (nn : Nat) (x2 : Int32) (f_plain : Nat → Int32) (f_plainCount : Int32), wX55_begin_7 K62 x1.toInt (zF f_lengths) (zF f_parts) nn x2.toInt (zF f_plain) f_plainCount.toInt → ∀ (H : Heap) (locs : List Loc) (ls : Array Slot), kH (dC, dI) cl A s.heap H locs (wX55 ci ad d f_said f_heads f_kinds f_folded f_lengths f_parts f_rules f_known f_rounds f_given f_strata f_circle f_turns f_needs f_comes f_values f_plain f_plainCount f_pointers f_now f_fresh f_many f_sums f_lows f_highs f_layed f_worked f_large) → lv_has ls 3 [(0, .ref (ad 0)), (1, .int x1), (2, .int x2)] → W p l e ({ frames := 0, cells := 0, slots := 0, locals := 0 } : Room) s m args below meth c H locs 0 0 (MQ below (va_Qv (fun (u : (Nat → Int32) × Int32 × (Nat → Int32)) => post (zF (u.1)) (u.2.1).toInt (zF (u.2.2))) (kB (dC, dI) cl (tX55 d) A (fun u : (Nat → Int32) × Int32 × (Nat → Int32) => (wX55 ci ad d f_said f_heads f_kinds f_folded f_lengths f_parts f_rules f_known f_rounds f_given f_strata f_circle f_turns f_needs f_comes f_values (u.1) (u.2.1) (u.2.2) f_now f_fresh f_many f_sums f_lows f_highs f_layed f_worked f_large))) A) args s 0 0 A) (F0 m 7 ls []) := by
  have hx := X.1.1
  have hb := X.1.2.1
  intro nn
  induction nn with
  | zero =>
    intro x2 f_plain f_plainCount hw
    exact False.elim hw
  | succ n ih =>
    intro x2 f_plain f_plainCount hw H locs ls hH hl
    rw [wX55_begin_7] at hw
    refine lv_iload_n hx hb dX55_begin_7 rfl (lv_at hl 2 rfl) ?_
    refine lv_aload_n hx hb dX55_begin_8 rfl (lv_at hl 0 rfl) ?_
    refine k_get X hH in_X55 0 rfl hc 4 (by decide) q6580 rfl dX55_begin_9 ?_
    refine lv_iload_n hx hb dX55_begin_12 rfl (lv_at hl 1 rfl) ?_
    have hq_1 := hw.1
    have hw := hw.2
    refine k_iald X hH 5 4 rfl rfl (z_in (rfl : x1.toInt = _) hq_1) dX55_begin_13 ?_
    have e_2 := z_ld (f := f_lengths) (rfl : x1.toInt = _) hq_1.1
    refine lv_icmp_ge (tgt := 62) hx hb dX55_begin_14 (by decide) (fun c_3 => ?_) (fun c_3 => ?_)
    · have hw := hw.1 (z_le e_2 (rfl : x2.toInt = _) c_3)
      exact hk62 f_plain f_plainCount hw _ _ ls hH (lv_sub hl [0, 1] rfl)
    · have hw := hw.2 (z_nle e_2 (rfl : x2.toInt = _) c_3)
      refine lv_aload_n hx hb dX55_begin_17 rfl (lv_at hl 0 rfl) ?_
      refine k_get X hH in_X55 0 rfl hc 5 (by decide) q6581 rfl dX55_begin_18 ?_
      refine lv_bipush (v := 20) hx hb dX55_begin_21 (by decide) ?_
      refine lv_iload_n hx hb dX55_begin_23 rfl (lv_at hl 1 rfl) ?_
      refine lv_imul hx hb dX55_begin_24 ?_
      have e_4 := z_mul (z_m (rfl : (20 : Int32).toInt = 20)) (z_m (rfl : x1.toInt = _))
      refine lv_iconst (v := 4) hx hb dX55_begin_25 (by decide) ?_
      refine lv_iload_n hx hb dX55_begin_26 rfl (lv_at hl 2 rfl) ?_
      refine lv_imul hx hb dX55_begin_27 ?_
      have e_5 := z_mul (z_m (rfl : (4 : Int32).toInt = 4)) (z_m (rfl : x2.toInt = _))
      refine lv_iadd hx hb dX55_begin_28 ?_
      have e_6 := z_add e_4 e_5
      have hq_7 := hw.1
      have hw := hw.2
      have e_8 := z_xi e_6 hq_7 (by decide)
      refine k_iald X hH 6 5 rfl rfl (z_in e_8 hq_7) dX55_begin_29 ?_
      have e_9 := z_ld (f := f_parts) e_8 hq_7.1
      refine lv_if_eq (tgt := 36) hx hb dX55_begin_30 (by decide) (fun c_10 => ?_) (fun c_10 => ?_)
      · have hw := hw.1 (z_eq e_9 (rfl : (0 : Int32).toInt = 0) c_10)
        refine lv_aload_n hx hb dX55_begin_36 rfl (lv_at hl 0 rfl) ?_
        refine k_get X hH in_X55 0 rfl hc 16 (by decide) q6592 rfl dX55_begin_37 ?_
        refine lv_aload_n hx hb dX55_begin_40 rfl (lv_at hl 0 rfl) ?_
        refine k_get X hH in_X55 0 rfl hc 17 (by decide) q6593 rfl dX55_begin_41 ?_
        refine lv_iload_n hx hb dX55_begin_44 rfl (lv_at hl 2 rfl) ?_
        have hq_12 := hw.1
        have hw := hw.2
        obtain ⟨f_plain_11, ef_plain_11⟩ : ∃ y : Nat → Int32, y = upd f_plain f_plainCount.toNatClampNeg x2 := ⟨_, rfl⟩
        refine k_iast X hH 13 12 rfl rfl (z_in (rfl : f_plainCount.toInt = _) hq_12) dX55_begin_45 ef_plain_11 (ws1 := (wX55 ci ad d f_said f_heads f_kinds f_folded f_lengths f_parts f_rules f_known f_rounds f_given f_strata f_circle f_turns f_needs f_comes f_values f_plain_11 f_plainCount f_pointers f_now f_fresh f_many f_sums f_lows f_highs f_layed f_worked f_large)) rfl (fun H locs hH => ?_)
        have hw := hw (zF f_plain_11) (by rw [ef_plain_11]; exact z_st (f := f_plain) (rfl : f_plainCount.toInt = _) hq_12.1 (rfl : x2.toInt = _))
        refine lv_aload_n hx hb dX55_begin_46 rfl (lv_at hl 0 rfl) ?_
        refine lv_dup hx hb dX55_begin_47 rfl ?_
        refine k_get X hH in_X55 0 rfl hc 17 (by decide) q6593 rfl dX55_begin_48 ?_
        refine lv_iconst (v := 1) hx hb dX55_begin_51 (by decide) ?_
        refine lv_iadd hx hb dX55_begin_52 ?_
        have e_13 := z_add (z_m (rfl : f_plainCount.toInt = _)) (z_m (rfl : (1 : Int32).toInt = 1))
        have hq_14 := hw.1
        have hw := hw.2
        have e_15 := z_x e_13 hq_14
        refine lv_topi (fun f_plainCount_16 ef_plainCount_16 => ?_)
        have hw := hw f_plainCount_16.toInt (by rw [ef_plainCount_16]; exact e_15)
        refine k_put X hH in_X55 tyX55_ok nmX55 0 rfl hc 17 (by decide) q6593 rfl (ty := .int) rfl rfl rfl (Nat.le_of_ble_eq_true rfl) dX55_begin_53 (ws1 := (wX55 ci ad d f_said f_heads f_kinds f_folded f_lengths f_parts f_rules f_known f_rounds f_given f_strata f_circle f_turns f_needs f_comes f_values f_plain_11 f_plainCount_16 f_pointers f_now f_fresh f_many f_sums f_lows f_highs f_layed f_worked f_large)) rfl (fun H locs hH => ?_)
        have hq_18 := hw.1
        have hw := hw.2
        obtain ⟨x2_17, ex2_17⟩ : ∃ y : Int32, y = x2 + 1 := ⟨_, rfl⟩
        have hw := hw x2_17.toInt (by rw [ex2_17]; exact (z_x (z_add (z_m (rfl : x2.toInt = _)) (z_m (rfl : (1 : Int32).toInt = 1))) hq_18))
        refine lv_iinc (v := x2_17) (lv' := [(2, .int x2_17), (0, .ref (ad 0)), (1, .int x1)]) hx hb dX55_begin_56 hl (k := 2) rfl (by rw [ex2_17]; rfl) (by decide) rfl (fun ls hl => ?_)
        refine lv_goto (tgt := 7) hx hb dX55_begin_59 (by decide) ?_
        exact ih x2_17 f_plain_11 f_plainCount_16 hw _ _ ls hH (lv_sub hl [1, 2, 0] rfl)
      · have hw := hw.2 (z_neq e_9 (rfl : (0 : Int32).toInt = 0) c_10)
        refine lv_goto (tgt := 56) hx hb dX55_begin_33 (by decide) ?_
        have hq_20 := hw.1
        have hw := hw.2
        obtain ⟨x2_19, ex2_19⟩ : ∃ y : Int32, y = x2 + 1 := ⟨_, rfl⟩
        have hw := hw x2_19.toInt (by rw [ex2_19]; exact (z_x (z_add (z_m (rfl : x2.toInt = _)) (z_m (rfl : (1 : Int32).toInt = 1))) hq_20))
        refine lv_iinc (v := x2_19) (lv' := [(2, .int x2_19), (0, .ref (ad 0)), (1, .int x1)]) hx hb dX55_begin_56 hl (k := 2) rfl (by rw [ex2_19]; rfl) (by decide) rfl (fun ls hl => ?_)
        refine lv_goto (tgt := 7) hx hb dX55_begin_59 (by decide) ?_
        exact ih x2_19 f_plain f_plainCount hw _ _ ls hH (lv_sub hl [1, 2, 0] rfl)
set_option maxHeartbeats 4000000 in
theorem walkX55_begin {l : Launch} {dC : Nat → ClassId} {dI : Nat → Nat → Nat} {cl : List vw_C} {ci : Nat} (hc : cl[ci]? = some (RX55, TX55, 28)) {ad : Nat → Nat} {d : Nat → ClassId} {sz : Nat} {f_said : Nat → Int32} {f_heads : Nat → Int32} {f_kinds : Nat → Int32} {f_folded : Nat → Int32} {f_lengths : Nat → Int32} {f_parts : Nat → Int32} {f_rules : Int32} {f_known : Int32} {f_rounds : Nat → Int32} {f_given : Nat → Int32} {f_strata : Nat → Int32} {f_circle : Int32} {f_turns : Int32} {f_needs : Nat → Int32} {f_comes : Nat → Int32} {f_values : Nat → Int32} {f_plain : Nat → Int32} {f_plainCount : Int32} {f_pointers : Nat → Int32} {f_now : Int32} {f_fresh : Nat → Int32} {f_many : Nat → Int32} {f_sums : Nat → Int32} {f_lows : Nat → Int32} {f_highs : Nat → Int32} {f_layed : Int32} {f_worked : Int64} {f_large : Int32} {x1 : Int32} {post : (Int → Int) → Int → (Int → Int) → Prop} (hw : wpX55_begin post (zF f_lengths) (zF f_parts) (zF f_plain) (zF f_pointers) x1.toInt) :
    Met l yX55_begin (ws_ yX55_begin cX55_begin 3 none) ({ frames := 0, cells := 0, slots := 0, locals := 0 } : Room) (kPc (dC, dI) cl (tX55 d) [.ref (ad 0), .int x1] sz (wX55 ci ad d f_said f_heads f_kinds f_folded f_lengths f_parts f_rules f_known f_rounds f_given f_strata f_circle f_turns f_needs f_comes f_values f_plain f_plainCount f_pointers f_now f_fresh f_many f_sums f_lows f_highs f_layed f_worked f_large)) (va_Qv (fun (u : (Nat → Int32) × Int32 × (Nat → Int32)) => post (zF (u.1)) (u.2.1).toInt (zF (u.2.2))) (kB (dC, dI) cl (tX55 d) (va_A (wX55 ci ad d f_said f_heads f_kinds f_folded f_lengths f_parts f_rules f_known f_rounds f_given f_strata f_circle f_turns f_needs f_comes f_values f_plain f_plainCount f_pointers f_now f_fresh f_many f_sums f_lows f_highs f_layed f_worked f_large) sz) (fun u : (Nat → Int32) × Int32 × (Nat → Int32) => (wX55 ci ad d f_said f_heads f_kinds f_folded f_lengths f_parts f_rules f_known f_rounds f_given f_strata f_circle f_turns f_needs f_comes f_values (u.1) (u.2.1) (u.2.2) f_now f_fresh f_many f_sums f_lows f_highs f_layed f_worked f_large))) (va_A (wX55 ci ad d f_said f_heads f_kinds f_folded f_lengths f_parts f_rules f_known f_rounds f_given f_strata f_circle f_turns f_needs f_comes f_values f_plain f_plainCount f_pointers f_now f_fresh f_many f_sums f_lows f_highs f_layed f_worked f_large) sz)) 0 0 (va_A (wX55 ci ad d f_said f_heads f_kinds f_folded f_lengths f_parts f_rules f_known f_rounds f_given f_strata f_circle f_turns f_needs f_comes f_values f_plain f_plainCount f_pointers f_now f_fresh f_many f_sums f_lows f_highs f_layed f_worked f_large) sz) := by
  refine k_enter (by decide) (Nat.le_of_ble_eq_true rfl) ?_
  intro p e s m below meth c ls X hsz hH hl
  subst hsz
  generalize va_A (wX55 ci ad d f_said f_heads f_kinds f_folded f_lengths f_parts f_rules f_known f_rounds f_given f_strata f_circle f_turns f_needs f_comes f_values f_plain f_plainCount f_pointers f_now f_fresh f_many f_sums f_lows f_highs f_layed f_worked f_large) s.heap.size = A at hH ⊢
  have hx := X.1.1
  have hb := X.1.2.1
  have hl : lv_has ls 3 [(0, .ref (ad 0)), (1, .int x1)] := hl
  unfold wpX55_begin at hw
  refine lv_aload_n hx hb dX55_begin_0 rfl (lv_at hl 0 rfl) ?_
  refine lv_iconst (v := 0) hx hb dX55_begin_1 (by decide) ?_
  refine k_put X hH in_X55 tyX55_ok nmX55 0 rfl hc 17 (by decide) q6593 rfl (ty := .int) rfl rfl rfl (Nat.le_of_ble_eq_true rfl) dX55_begin_2 (ws1 := (wX55 ci ad d f_said f_heads f_kinds f_folded f_lengths f_parts f_rules f_known f_rounds f_given f_strata f_circle f_turns f_needs f_comes f_values f_plain 0 f_pointers f_now f_fresh f_many f_sums f_lows f_highs f_layed f_worked f_large)) rfl (fun H locs hH => ?_)
  refine lv_iconst (v := 0) hx hb dX55_begin_5 (by decide) ?_
  refine lv_istore_n (lv' := [(2, .int 0), (0, .ref (ad 0)), (1, .int x1)]) hx hb dX55_begin_6 rfl hl (by decide) rfl (fun ls hl => ?_)
  obtain ⟨fu, hw⟩ := hw
  refine atX55_begin_7 hc X ?_ fu 0 f_plain 0 hw _ _ ls hH (lv_sub hl [1, 2, 0] rfl)
  · intro f_plain_21 f_plainCount_22 hw H locs ls hH hl
    refine lv_aload_n hx hb dX55_begin_62 rfl (lv_at hl 0 rfl) ?_
    refine k_get X hH in_X55 0 rfl hc 17 (by decide) q6593 rfl dX55_begin_63 ?_
    refine lv_if_le (tgt := 101) hx hb dX55_begin_66 (by decide) (fun c_23 => ?_) (fun c_23 => ?_)
    · have hw := hw.1 (z_le (rfl : f_plainCount_22.toInt = _) (rfl : (0 : Int32).toInt = 0) c_23)
      exact k_vret X hH (f_plain_21, f_plainCount_22, f_pointers) hw rfl dX55_begin_101
    · have hw := hw.2 (z_nle (rfl : f_plainCount_22.toInt = _) (rfl : (0 : Int32).toInt = 0) c_23)
      refine lv_aload_n hx hb dX55_begin_69 rfl (lv_at hl 0 rfl) ?_
      refine k_get X hH in_X55 0 rfl hc 18 (by decide) q6594 rfl dX55_begin_70 ?_
      refine lv_iconst (v := 0) hx hb dX55_begin_73 (by decide) ?_
      refine lv_sipush (v := 1024) hx hb dX55_begin_74 (by decide) ?_
      refine lv_aload_n hx hb dX55_begin_77 rfl (lv_at hl 0 rfl) ?_
      refine k_get X hH in_X55 0 rfl hc 5 (by decide) q6581 rfl dX55_begin_78 ?_
      refine lv_bipush (v := 20) hx hb dX55_begin_81 (by decide) ?_
      refine lv_iload_n hx hb dX55_begin_83 rfl (lv_at hl 1 rfl) ?_
      refine lv_imul hx hb dX55_begin_84 ?_
      have e_24 := z_mul (z_m (rfl : (20 : Int32).toInt = 20)) (z_m (rfl : x1.toInt = _))
      refine lv_iconst (v := 4) hx hb dX55_begin_85 (by decide) ?_
      refine lv_aload_n hx hb dX55_begin_86 rfl (lv_at hl 0 rfl) ?_
      refine k_get X hH in_X55 0 rfl hc 16 (by decide) q6592 rfl dX55_begin_87 ?_
      refine lv_iconst (v := 0) hx hb dX55_begin_90 (by decide) ?_
      refine k_iald X hH 13 12 rfl rfl (by unfold vp_in; decide) dX55_begin_91 ?_
      have e_25 := z_ld (f := f_plain_21) (rfl : (0 : Int32).toInt = 0) (by decide)
      refine lv_imul hx hb dX55_begin_92 ?_
      have e_26 := z_mul (z_m (rfl : (4 : Int32).toInt = 4)) (z_m e_25)
      refine lv_iadd hx hb dX55_begin_93 ?_
      have e_27 := z_add e_24 e_26
      refine lv_iconst (v := 1) hx hb dX55_begin_94 (by decide) ?_
      refine lv_iadd hx hb dX55_begin_95 ?_
      have e_28 := z_add e_27 (z_m (rfl : (1 : Int32).toInt = 1))
      have hq_29 := hw.1
      have hw := hw.2
      have e_30 := z_xi e_28 hq_29 (by decide)
      refine k_iald X hH 6 5 rfl rfl (z_in e_30 hq_29) dX55_begin_96 ?_
      have e_31 := z_ld (f := f_parts) e_30 hq_29.1
      refine lv_imul hx hb dX55_begin_97 ?_
      have e_32 := z_mul (z_m (rfl : (1024 : Int32).toInt = 1024)) (z_m e_31)
      refine lv_iconst (v := 1) hx hb dX55_begin_98 (by decide) ?_
      refine lv_isub hx hb dX55_begin_99 ?_
      have e_33 := z_sub e_32 (z_m (rfl : (1 : Int32).toInt = 1))
      have hq_34 := hw.1
      have hw := hw.2
      have e_35 := z_x e_33 hq_34
      refine lv_topi (fun v_36 ev_36 => ?_)
      have hw := hw v_36.toInt (by rw [ev_36]; exact e_35)
      obtain ⟨f_pointers_37, ef_pointers_37⟩ : ∃ y : Nat → Int32, y = upd f_pointers (0 : Int32).toNatClampNeg v_36 := ⟨_, rfl⟩
      refine k_iast X hH 14 13 rfl rfl (by unfold vp_in; decide) dX55_begin_100 ef_pointers_37 (ws1 := (wX55 ci ad d f_said f_heads f_kinds f_folded f_lengths f_parts f_rules f_known f_rounds f_given f_strata f_circle f_turns f_needs f_comes f_values f_plain_21 f_plainCount_22 f_pointers_37 f_now f_fresh f_many f_sums f_lows f_highs f_layed f_worked f_large)) rfl (fun H locs hH => ?_)
      have hw := hw (zF f_pointers_37) (by rw [ef_pointers_37]; exact z_st (f := f_pointers) (rfl : (0 : Int32).toInt = 0) (by decide) (rfl : v_36.toInt = _))
      exact k_vret X hH (f_plain_21, f_plainCount_22, f_pointers_37) hw rfl dX55_begin_101
set_option maxHeartbeats 4000000 in
theorem atX55_tell_2 {p : Program} {l : Launch} {e : Env} {s : State} {m : MethodId} {args : Array Value} {below : List Frame} {meth : Method} {c : Code} {dC : Nat → ClassId} {dI : Nat → Nat → Nat} {cl : List vw_C} {ci : Nat} (hc : cl[ci]? = some (RX55, TX55, 28)) {ad : Nat → Nat} {d : Nat → ClassId} {A : Nat → Prop} {post : Int → (Int → Int) → Prop} {f_said : Nat → Int32} {f_heads : Nat → Int32} {f_kinds : Nat → Int32} {f_folded : Nat → Int32} {f_lengths : Nat → Int32} {f_parts : Nat → Int32} {f_rules : Int32} {f_known : Int32} {f_rounds : Nat → Int32} {f_given : Nat → Int32} {f_strata : Nat → Int32} {f_circle : Int32} {f_turns : Int32} {f_needs : Nat → Int32} {f_comes : Nat → Int32} {f_plain : Nat → Int32} {f_plainCount : Int32} {f_pointers : Nat → Int32} {f_now : Int32} {f_fresh : Nat → Int32} {f_many : Nat → Int32} {f_sums : Nat → Int32} {f_lows : Nat → Int32} {f_highs : Nat → Int32} {f_layed : Int32} {f_worked : Int64} {f_large : Int32} (X : kX p s m args meth c cX55_tell 9 RX55 (some .boolean) (dC, dI) cl (tX55 d)) {K21 : (Int → Int) → Prop} {x1 : Int32} {x2 : Int32}  (hk21 : ∀ (f_values : Nat → Int32), K21 (zF f_values) → ∀ (H : Heap) (locs : List Loc) (ls : Array Slot), kH (dC, dI) cl A s.heap H locs (wX55 ci ad d f_said f_heads f_kinds f_folded f_lengths f_parts f_rules f_known f_rounds f_given f_strata f_circle f_turns f_needs f_comes f_values f_plain f_plainCount f_pointers f_now f_fresh f_many f_sums f_lows f_highs f_layed f_worked f_large) → lv_has ls 9 [(0, .ref (ad 0)), (1, .int x1), (2, .int x2)] → W p l e ({ frames := 0, cells := 0, slots := 0, locals := 0 } : Room) s m args below meth c H locs 0 0 (MQ below (va_Qi (fun (r : Int32) (u : (Nat → Int32)) => post r.toInt (zF (u))) (kB (dC, dI) cl (tX55 d) A (fun u : (Nat → Int32) => (wX55 ci ad d f_said f_heads f_kinds f_folded f_lengths f_parts f_rules f_known f_rounds f_given f_strata f_circle f_turns f_needs f_comes (u) f_plain f_plainCount f_pointers f_now f_fresh f_many f_sums f_lows f_highs f_layed f_worked f_large))) A) args s 0 0 A) (F0 m 21 ls [])) :
    ∀ (nn : Nat) (x3 : Int32) (f_values : Nat → Int32), wX55_tell_2 K21 nn x3.toInt (zF f_values) → ∀ (H : Heap) (locs : List Loc) (ls : Array Slot), kH (dC, dI) cl A s.heap H locs (wX55 ci ad d f_said f_heads f_kinds f_folded f_lengths f_parts f_rules f_known f_rounds f_given f_strata f_circle f_turns f_needs f_comes f_values f_plain f_plainCount f_pointers f_now f_fresh f_many f_sums f_lows f_highs f_layed f_worked f_large) → lv_has ls 9 [(0, .ref (ad 0)), (1, .int x1), (2, .int x2), (3, .int x3)] → W p l e ({ frames := 0, cells := 0, slots := 0, locals := 0 } : Room) s m args below meth c H locs 0 0 (MQ below (va_Qi (fun (r : Int32) (u : (Nat → Int32)) => post r.toInt (zF (u))) (kB (dC, dI) cl (tX55 d) A (fun u : (Nat → Int32) => (wX55 ci ad d f_said f_heads f_kinds f_folded f_lengths f_parts f_rules f_known f_rounds f_given f_strata f_circle f_turns f_needs f_comes (u) f_plain f_plainCount f_pointers f_now f_fresh f_many f_sums f_lows f_highs f_layed f_worked f_large))) A) args s 0 0 A) (F0 m 2 ls []) := by
  have hx := X.1.1
  have hb := X.1.2.1
  intro nn
  induction nn with
  | zero =>
    intro x3 f_values hw
    exact False.elim hw
  | succ n ih =>
    intro x3 f_values hw H locs ls hH hl
    rw [wX55_tell_2] at hw
    refine lv_iload_n hx hb dX55_tell_2 rfl (lv_at hl 3 rfl) ?_
    refine lv_bipush (v := 6) hx hb dX55_tell_3 (by decide) ?_
    refine lv_icmp_ge (tgt := 21) hx hb dX55_tell_5 (by decide) (fun c_1 => ?_) (fun c_1 => ?_)
    · have hw := hw.1 (z_le (rfl : (6 : Int32).toInt = 6) (rfl : x3.toInt = _) c_1)
      exact hk21 f_values hw _ _ ls hH (lv_sub hl [0, 1, 2] rfl)
    · have hw := hw.2 (z_nle (rfl : (6 : Int32).toInt = 6) (rfl : x3.toInt = _) c_1)
      refine lv_aload_n hx hb dX55_tell_8 rfl (lv_at hl 0 rfl) ?_
      refine k_get X hH in_X55 0 rfl hc 15 (by decide) q6591 rfl dX55_tell_9 ?_
      refine lv_iload_n hx hb dX55_tell_12 rfl (lv_at hl 3 rfl) ?_
      refine lv_iconst (v := (-1)) hx hb dX55_tell_13 (by decide) ?_
      have hq_3 := hw.1
      have hw := hw.2
      obtain ⟨f_values_2, ef_values_2⟩ : ∃ y : Nat → Int32, y = upd f_values x3.toNatClampNeg (-1) := ⟨_, rfl⟩
      refine k_iast X hH 12 11 rfl rfl (z_in (rfl : x3.toInt = _) hq_3) dX55_tell_14 ef_values_2 (ws1 := (wX55 ci ad d f_said f_heads f_kinds f_folded f_lengths f_parts f_rules f_known f_rounds f_given f_strata f_circle f_turns f_needs f_comes f_values_2 f_plain f_plainCount f_pointers f_now f_fresh f_many f_sums f_lows f_highs f_layed f_worked f_large)) rfl (fun H locs hH => ?_)
      have hw := hw (zF f_values_2) (by rw [ef_values_2]; exact z_st (f := f_values) (rfl : x3.toInt = _) hq_3.1 (rfl : ((-1) : Int32).toInt = (-1)))
      have hq_5 := hw.1
      have hw := hw.2
      obtain ⟨x3_4, ex3_4⟩ : ∃ y : Int32, y = x3 + 1 := ⟨_, rfl⟩
      have hw := hw x3_4.toInt (by rw [ex3_4]; exact (z_x (z_add (z_m (rfl : x3.toInt = _)) (z_m (rfl : (1 : Int32).toInt = 1))) hq_5))
      refine lv_iinc (v := x3_4) (lv' := [(3, .int x3_4), (0, .ref (ad 0)), (1, .int x1), (2, .int x2)]) hx hb dX55_tell_15 hl (k := 3) rfl (by rw [ex3_4]; rfl) (by decide) rfl (fun ls hl => ?_)
      refine lv_goto (tgt := 2) hx hb dX55_tell_18 (by decide) ?_
      exact ih x3_4 f_values_2 hw _ _ ls hH (lv_sub hl [1, 2, 3, 0] rfl)
set_option maxHeartbeats 4000000 in
theorem atX55_tell_141 {p : Program} {l : Launch} {e : Env} {s : State} {m : MethodId} {args : Array Value} {below : List Frame} {meth : Method} {c : Code} {dC : Nat → ClassId} {dI : Nat → Nat → Nat} {cl : List vw_C} {ci : Nat} (hc : cl[ci]? = some (RX55, TX55, 28)) {ad : Nat → Nat} {d : Nat → ClassId} {A : Nat → Prop} {post : Int → (Int → Int) → Prop} {f_said : Nat → Int32} {f_heads : Nat → Int32} {f_kinds : Nat → Int32} {f_folded : Nat → Int32} {f_lengths : Nat → Int32} {f_parts : Nat → Int32} {f_rules : Int32} {f_known : Int32} {f_rounds : Nat → Int32} {f_given : Nat → Int32} {f_strata : Nat → Int32} {f_circle : Int32} {f_turns : Int32} {f_needs : Nat → Int32} {f_comes : Nat → Int32} {f_plain : Nat → Int32} {f_plainCount : Int32} {f_pointers : Nat → Int32} {f_now : Int32} {f_fresh : Nat → Int32} {f_many : Nat → Int32} {f_sums : Nat → Int32} {f_lows : Nat → Int32} {f_highs : Nat → Int32} {f_layed : Int32} {f_worked : Int64} {f_large : Int32} (X : kX p s m args meth c cX55_tell 9 RX55 (some .boolean) (dC, dI) cl (tX55 d)) {K54 : Int → (Int → Int) → Prop} {x1 : Int32} {x2 : Int32} {x3 : Int32} {x4 : Int32} {x5 : Int32}  (hk54 : ∀ (x6 : Int32) (f_values : Nat → Int32), K54 x6.toInt (zF f_values) → ∀ (H : Heap) (locs : List Loc) (ls : Array Slot), kH (dC, dI) cl A s.heap H locs (wX55 ci ad d f_said f_heads f_kinds f_folded f_lengths f_parts f_rules f_known f_rounds f_given f_strata f_circle f_turns f_needs f_comes f_values f_plain f_plainCount f_pointers f_now f_fresh f_many f_sums f_lows f_highs f_layed f_worked f_large) → lv_has ls 9 [(0, .ref (ad 0)), (1, .int x1), (2, .int x2), (3, .int x3), (4, .int x4), (5, .int x5), (6, .int x6)] → W p l e ({ frames := 0, cells := 0, slots := 0, locals := 0 } : Room) s m args below meth c H locs 0 0 (MQ below (va_Qi (fun (r : Int32) (u : (Nat → Int32)) => post r.toInt (zF (u))) (kB (dC, dI) cl (tX55 d) A (fun u : (Nat → Int32) => (wX55 ci ad d f_said f_heads f_kinds f_folded f_lengths f_parts f_rules f_known f_rounds f_given f_strata f_circle f_turns f_needs f_comes (u) f_plain f_plainCount f_pointers f_now f_fresh f_many f_sums f_lows f_highs f_layed f_worked f_large))) A) args s 0 0 A) (F0 m 54 ls [])) :
    ∀ (x6 : Int32) (x7 : Int32) (x8 : Int32) (f_values : Nat → Int32), wX55_tell_141 K54 x6.toInt x7.toInt x8.toInt (zF f_values) → ∀ (H : Heap) (locs : List Loc) (ls : Array Slot), kH (dC, dI) cl A s.heap H locs (wX55 ci ad d f_said f_heads f_kinds f_folded f_lengths f_parts f_rules f_known f_rounds f_given f_strata f_circle f_turns f_needs f_comes f_values f_plain f_plainCount f_pointers f_now f_fresh f_many f_sums f_lows f_highs f_layed f_worked f_large) → lv_has ls 9 [(0, .ref (ad 0)), (1, .int x1), (2, .int x2), (3, .int x3), (4, .int x4), (5, .int x5), (6, .int x6), (7, .int x7), (8, .int x8)] → W p l e ({ frames := 0, cells := 0, slots := 0, locals := 0 } : Room) s m args below meth c H locs 0 0 (MQ below (va_Qi (fun (r : Int32) (u : (Nat → Int32)) => post r.toInt (zF (u))) (kB (dC, dI) cl (tX55 d) A (fun u : (Nat → Int32) => (wX55 ci ad d f_said f_heads f_kinds f_folded f_lengths f_parts f_rules f_known f_rounds f_given f_strata f_circle f_turns f_needs f_comes (u) f_plain f_plainCount f_pointers f_now f_fresh f_many f_sums f_lows f_highs f_layed f_worked f_large))) A) args s 0 0 A) (F0 m 141 ls []) := by
  have hx := X.1.1
  have hb := X.1.2.1
  intro x6 x7 x8 f_values hw H locs ls hH hl
  unfold wX55_tell_141 at hw
  refine lv_iload hx hb dX55_tell_141 (lv_at hl 7 rfl) ?_
  refine lv_if_ge (tgt := 157) hx hb dX55_tell_143 (by decide) (fun c_34 => ?_) (fun c_34 => ?_)
  · have hw := hw.1 (z_le (rfl : (0 : Int32).toInt = 0) (rfl : x7.toInt = _) c_34)
    have hq_36 := hw.1
    have hw := hw.2
    obtain ⟨x6_35, ex6_35⟩ : ∃ y : Int32, y = x6 + 1 := ⟨_, rfl⟩
    have hw := hw x6_35.toInt (by rw [ex6_35]; exact (z_x (z_add (z_m (rfl : x6.toInt = _)) (z_m (rfl : (1 : Int32).toInt = 1))) hq_36))
    refine lv_iinc (v := x6_35) (lv' := [(6, .int x6_35), (0, .ref (ad 0)), (1, .int x1), (2, .int x2), (3, .int x3), (4, .int x4), (5, .int x5), (7, .int x7), (8, .int x8)]) hx hb dX55_tell_157 hl (k := 6) rfl (by rw [ex6_35]; rfl) (by decide) rfl (fun ls hl => ?_)
    refine lv_goto (tgt := 54) hx hb dX55_tell_160 (by decide) ?_
    exact hk54 x6_35 f_values hw _ _ ls hH (lv_sub hl [1, 2, 3, 4, 5, 6, 0] rfl)
  · have hw := hw.2 (z_nle (rfl : (0 : Int32).toInt = 0) (rfl : x7.toInt = _) c_34)
    refine lv_aload_n hx hb dX55_tell_146 rfl (lv_at hl 0 rfl) ?_
    refine k_get X hH in_X55 0 rfl hc 15 (by decide) q6591 rfl dX55_tell_147 ?_
    refine lv_iconst (v := (-1)) hx hb dX55_tell_150 (by decide) ?_
    refine lv_iload hx hb dX55_tell_151 (lv_at hl 7 rfl) ?_
    refine lv_isub hx hb dX55_tell_153 ?_
    have e_37 := z_sub (z_m (rfl : ((-1) : Int32).toInt = (-1))) (z_m (rfl : x7.toInt = _))
    refine lv_iload hx hb dX55_tell_154 (lv_at hl 8 rfl) ?_
    have hq_39 := hw.1
    have hw := hw.2
    have e_40 := z_xi e_37 hq_39 (by decide)
    obtain ⟨f_values_38, ef_values_38⟩ : ∃ y : Nat → Int32, y = upd f_values ((-1) - x7).toNatClampNeg x8 := ⟨_, rfl⟩
    refine k_iast X hH 12 11 rfl rfl (z_in e_40 hq_39) dX55_tell_156 ef_values_38 (ws1 := (wX55 ci ad d f_said f_heads f_kinds f_folded f_lengths f_parts f_rules f_known f_rounds f_given f_strata f_circle f_turns f_needs f_comes f_values_38 f_plain f_plainCount f_pointers f_now f_fresh f_many f_sums f_lows f_highs f_layed f_worked f_large)) rfl (fun H locs hH => ?_)
    have hw := hw (zF f_values_38) (by rw [ef_values_38]; exact z_st (f := f_values) e_40 hq_39.1 (rfl : x8.toInt = _))
    have hq_42 := hw.1
    have hw := hw.2
    obtain ⟨x6_41, ex6_41⟩ : ∃ y : Int32, y = x6 + 1 := ⟨_, rfl⟩
    have hw := hw x6_41.toInt (by rw [ex6_41]; exact (z_x (z_add (z_m (rfl : x6.toInt = _)) (z_m (rfl : (1 : Int32).toInt = 1))) hq_42))
    refine lv_iinc (v := x6_41) (lv' := [(6, .int x6_41), (0, .ref (ad 0)), (1, .int x1), (2, .int x2), (3, .int x3), (4, .int x4), (5, .int x5), (7, .int x7), (8, .int x8)]) hx hb dX55_tell_157 hl (k := 6) rfl (by rw [ex6_41]; rfl) (by decide) rfl (fun ls hl => ?_)
    refine lv_goto (tgt := 54) hx hb dX55_tell_160 (by decide) ?_
    exact hk54 x6_41 f_values_38 hw _ _ ls hH (lv_sub hl [1, 2, 3, 4, 5, 6, 0] rfl)
set_option maxHeartbeats 4000000 in
theorem atX55_tell_95 {p : Program} {l : Launch} {e : Env} {s : State} {m : MethodId} {args : Array Value} {below : List Frame} {meth : Method} {c : Code} {dC : Nat → ClassId} {dI : Nat → Nat → Nat} {cl : List vw_C} {ci : Nat} (hc : cl[ci]? = some (RX55, TX55, 28)) {ad : Nat → Nat} {d : Nat → ClassId} {A : Nat → Prop} {post : Int → (Int → Int) → Prop} {f_said : Nat → Int32} {f_heads : Nat → Int32} {f_kinds : Nat → Int32} {f_folded : Nat → Int32} {f_lengths : Nat → Int32} {f_parts : Nat → Int32} {f_rules : Int32} {f_known : Int32} {f_rounds : Nat → Int32} {f_given : Nat → Int32} {f_strata : Nat → Int32} {f_circle : Int32} {f_turns : Int32} {f_needs : Nat → Int32} {f_comes : Nat → Int32} {f_plain : Nat → Int32} {f_plainCount : Int32} {f_pointers : Nat → Int32} {f_now : Int32} {f_fresh : Nat → Int32} {f_many : Nat → Int32} {f_sums : Nat → Int32} {f_lows : Nat → Int32} {f_highs : Nat → Int32} {f_layed : Int32} {f_worked : Int64} {f_large : Int32} (X : kX p s m args meth c cX55_tell 9 RX55 (some .boolean) (dC, dI) cl (tX55 d)) {K54 : Int → (Int → Int) → Prop} {K109 : (Int → Int) → Prop} {K139 : (Int → Int) → Prop} {x1 : Int32} {x2 : Int32} {x3 : Int32} {x4 : Int32} {x5 : Int32}  (hk54 : ∀ (x6 : Int32) (f_values : Nat → Int32), K54 x6.toInt (zF f_values) → ∀ (H : Heap) (locs : List Loc) (ls : Array Slot), kH (dC, dI) cl A s.heap H locs (wX55 ci ad d f_said f_heads f_kinds f_folded f_lengths f_parts f_rules f_known f_rounds f_given f_strata f_circle f_turns f_needs f_comes f_values f_plain f_plainCount f_pointers f_now f_fresh f_many f_sums f_lows f_highs f_layed f_worked f_large) → lv_has ls 9 [(0, .ref (ad 0)), (1, .int x1), (2, .int x2), (3, .int x3), (4, .int x4), (5, .int x5), (6, .int x6)] → W p l e ({ frames := 0, cells := 0, slots := 0, locals := 0 } : Room) s m args below meth c H locs 0 0 (MQ below (va_Qi (fun (r : Int32) (u : (Nat → Int32)) => post r.toInt (zF (u))) (kB (dC, dI) cl (tX55 d) A (fun u : (Nat → Int32) => (wX55 ci ad d f_said f_heads f_kinds f_folded f_lengths f_parts f_rules f_known f_rounds f_given f_strata f_circle f_turns f_needs f_comes (u) f_plain f_plainCount f_pointers f_now f_fresh f_many f_sums f_lows f_highs f_layed f_worked f_large))) A) args s 0 0 A) (F0 m 54 ls [])) (hk109 : ∀ (f_values : Nat → Int32), K109 (zF f_values) → ∀ (H : Heap) (locs : List Loc) (ls : Array Slot), kH (dC, dI) cl A s.heap H locs (wX55 ci ad d f_said f_heads f_kinds f_folded f_lengths f_parts f_rules f_known f_rounds f_given f_strata f_circle f_turns f_needs f_comes f_values f_plain f_plainCount f_pointers f_now f_fresh f_many f_sums f_lows f_highs f_layed f_worked f_large) → lv_has ls 9 [] → W p l e ({ frames := 0, cells := 0, slots := 0, locals := 0 } : Room) s m args below meth c H locs 0 0 (MQ below (va_Qi (fun (r : Int32) (u : (Nat → Int32)) => post r.toInt (zF (u))) (kB (dC, dI) cl (tX55 d) A (fun u : (Nat → Int32) => (wX55 ci ad d f_said f_heads f_kinds f_folded f_lengths f_parts f_rules f_known f_rounds f_given f_strata f_circle f_turns f_needs f_comes (u) f_plain f_plainCount f_pointers f_now f_fresh f_many f_sums f_lows f_highs f_layed f_worked f_large))) A) args s 0 0 A) (F0 m 109 ls [])) (hk139 : ∀ (f_values : Nat → Int32), K139 (zF f_values) → ∀ (H : Heap) (locs : List Loc) (ls : Array Slot), kH (dC, dI) cl A s.heap H locs (wX55 ci ad d f_said f_heads f_kinds f_folded f_lengths f_parts f_rules f_known f_rounds f_given f_strata f_circle f_turns f_needs f_comes f_values f_plain f_plainCount f_pointers f_now f_fresh f_many f_sums f_lows f_highs f_layed f_worked f_large) → lv_has ls 9 [] → W p l e ({ frames := 0, cells := 0, slots := 0, locals := 0 } : Room) s m args below meth c H locs 0 0 (MQ below (va_Qi (fun (r : Int32) (u : (Nat → Int32)) => post r.toInt (zF (u))) (kB (dC, dI) cl (tX55 d) A (fun u : (Nat → Int32) => (wX55 ci ad d f_said f_heads f_kinds f_folded f_lengths f_parts f_rules f_known f_rounds f_given f_strata f_circle f_turns f_needs f_comes (u) f_plain f_plainCount f_pointers f_now f_fresh f_many f_sums f_lows f_highs f_layed f_worked f_large))) A) args s 0 0 A) (F0 m 139 ls [])) :
    ∀ (x6 : Int32) (x7 : Int32) (y0 : Int32) (f_values : Nat → Int32), wX55_tell_95 K54 K109 K139 x6.toInt x7.toInt y0.toInt (zF f_values) → ∀ (H : Heap) (locs : List Loc) (ls : Array Slot), kH (dC, dI) cl A s.heap H locs (wX55 ci ad d f_said f_heads f_kinds f_folded f_lengths f_parts f_rules f_known f_rounds f_given f_strata f_circle f_turns f_needs f_comes f_values f_plain f_plainCount f_pointers f_now f_fresh f_many f_sums f_lows f_highs f_layed f_worked f_large) → lv_has ls 9 [(0, .ref (ad 0)), (1, .int x1), (2, .int x2), (3, .int x3), (4, .int x4), (5, .int x5), (6, .int x6), (7, .int x7)] → W p l e ({ frames := 0, cells := 0, slots := 0, locals := 0 } : Room) s m args below meth c H locs 0 0 (MQ below (va_Qi (fun (r : Int32) (u : (Nat → Int32)) => post r.toInt (zF (u))) (kB (dC, dI) cl (tX55 d) A (fun u : (Nat → Int32) => (wX55 ci ad d f_said f_heads f_kinds f_folded f_lengths f_parts f_rules f_known f_rounds f_given f_strata f_circle f_turns f_needs f_comes (u) f_plain f_plainCount f_pointers f_now f_fresh f_many f_sums f_lows f_highs f_layed f_worked f_large))) A) args s 0 0 A) (F0 m 95 ls [.int y0]) := by
  have hx := X.1.1
  have hb := X.1.2.1
  intro x6 x7 y0 f_values hw H locs ls hH hl
  unfold wX55_tell_95 at hw
  refine lv_istore (lv' := [(8, .int y0), (0, .ref (ad 0)), (1, .int x1), (2, .int x2), (3, .int x3), (4, .int x4), (5, .int x5), (6, .int x6), (7, .int x7)]) hx hb dX55_tell_95 hl (by decide) rfl (fun ls hl => ?_)
  refine lv_iload hx hb dX55_tell_97 (lv_at hl 8 rfl) ?_
  refine lv_if_lt (tgt := 112) hx hb dX55_tell_99 (by decide) (fun c_28 => ?_) (fun c_28 => ?_)
  · have hw := hw.1 (z_lt (rfl : x7.toInt = _) (rfl : (0 : Int32).toInt = 0) c_28)
    refine lv_aload_n hx hb dX55_tell_112 rfl (lv_at hl 1 rfl) ?_
    refine k_get X hH in_X55 0 rfl hc 15 (by decide) q6591 rfl dX55_tell_113 ?_
    refine lv_iconst (v := (-1)) hx hb dX55_tell_116 (by decide) ?_
    refine lv_iload hx hb dX55_tell_117 (lv_at hl 8 rfl) ?_
    refine lv_isub hx hb dX55_tell_119 ?_
    have e_29 := z_sub (z_m (rfl : ((-1) : Int32).toInt = (-1))) (z_m (rfl : x7.toInt = _))
    have hq_30 := hw.1
    have hw := hw.2
    have e_31 := z_xi e_29 hq_30 (by decide)
    refine k_iald X hH 12 11 rfl rfl (z_in e_31 hq_30) dX55_tell_120 ?_
    have e_32 := z_ld (f := f_values) e_31 hq_30.1
    refine lv_iconst (v := (-1)) hx hb dX55_tell_121 (by decide) ?_
    refine lv_icmp_eq (tgt := 141) hx hb dX55_tell_122 (by decide) (fun c_33 => ?_) (fun c_33 => ?_)
    · have hw := hw.1 (z_eq e_32 (rfl : ((-1) : Int32).toInt = (-1)) c_33)
      exact atX55_tell_141 hc X hk54 x6 x7 y0 f_values hw _ _ ls hH (lv_sub hl [1, 2, 3, 4, 5, 6, 7, 8, 0] rfl)
    · have hw := hw.2 (z_neq e_32 (rfl : ((-1) : Int32).toInt = (-1)) c_33)
      refine lv_aload_n hx hb dX55_tell_125 rfl (lv_at hl 1 rfl) ?_
      refine k_get X hH in_X55 0 rfl hc 15 (by decide) q6591 rfl dX55_tell_126 ?_
      refine lv_iconst (v := (-1)) hx hb dX55_tell_129 (by decide) ?_
      refine lv_iload hx hb dX55_tell_130 (lv_at hl 8 rfl) ?_
      refine lv_isub hx hb dX55_tell_132 ?_
      have e_43 := z_sub (z_m (rfl : ((-1) : Int32).toInt = (-1))) (z_m (rfl : x7.toInt = _))
      have e_44 := z_xi e_43 hq_30 (by decide)
      refine k_iald X hH 12 11 rfl rfl (z_in e_44 hq_30) dX55_tell_133 ?_
      have e_45 := z_ld (f := f_values) e_44 hq_30.1
      refine lv_iload hx hb dX55_tell_134 (lv_at hl 0 rfl) ?_
      refine lv_icmp_eq (tgt := 141) hx hb dX55_tell_136 (by decide) (fun c_46 => ?_) (fun c_46 => ?_)
      · have hw := hw.1 (z_eq e_45 (rfl : y0.toInt = _) c_46)
        exact atX55_tell_141 hc X hk54 x6 x7 y0 f_values hw _ _ ls hH (lv_sub hl [1, 2, 3, 4, 5, 6, 7, 8, 0] rfl)
      · have hw := hw.2 (z_neq e_45 (rfl : y0.toInt = _) c_46)
        exact hk139 f_values hw _ _ ls hH (lv_sub hl [] rfl)
  · have hw := hw.2 (z_nlt (rfl : x7.toInt = _) (rfl : (0 : Int32).toInt = 0) c_28)
    refine lv_iload hx hb dX55_tell_102 (lv_at hl 8 rfl) ?_
    refine lv_iload hx hb dX55_tell_104 (lv_at hl 0 rfl) ?_
    refine lv_icmp_eq (tgt := 141) hx hb dX55_tell_106 (by decide) (fun c_47 => ?_) (fun c_47 => ?_)
    · have hw := hw.1 (z_eq (rfl : x7.toInt = _) (rfl : y0.toInt = _) c_47)
      exact atX55_tell_141 hc X hk54 x6 x7 y0 f_values hw _ _ ls hH (lv_sub hl [1, 2, 3, 4, 5, 6, 7, 8, 0] rfl)
    · have hw := hw.2 (z_neq (rfl : x7.toInt = _) (rfl : y0.toInt = _) c_47)
      exact hk109 f_values hw _ _ ls hH (lv_sub hl [] rfl)
set_option maxHeartbeats 4000000 in
theorem atX55_tell_54 {p : Program} {l : Launch} {e : Env} {s : State} {m : MethodId} {args : Array Value} {below : List Frame} {meth : Method} {c : Code} {dC : Nat → ClassId} {dI : Nat → Nat → Nat} {cl : List vw_C} {ci : Nat} (hc : cl[ci]? = some (RX55, TX55, 28)) {ad : Nat → Nat} {d : Nat → ClassId} {A : Nat → Prop} {post : Int → (Int → Int) → Prop} {f_said : Nat → Int32} {f_heads : Nat → Int32} {f_kinds : Nat → Int32} {f_folded : Nat → Int32} {f_lengths : Nat → Int32} {f_parts : Nat → Int32} {f_rules : Int32} {f_known : Int32} {f_rounds : Nat → Int32} {f_given : Nat → Int32} {f_strata : Nat → Int32} {f_circle : Int32} {f_turns : Int32} {f_needs : Nat → Int32} {f_comes : Nat → Int32} {f_plain : Nat → Int32} {f_plainCount : Int32} {f_pointers : Nat → Int32} {f_now : Int32} {f_fresh : Nat → Int32} {f_many : Nat → Int32} {f_sums : Nat → Int32} {f_lows : Nat → Int32} {f_highs : Nat → Int32} {f_layed : Int32} {f_worked : Int64} {f_large : Int32} (X : kX p s m args meth c cX55_tell 9 RX55 (some .boolean) (dC, dI) cl (tX55 d)) {K109 : (Int → Int) → Prop} {K139 : (Int → Int) → Prop} {K163 : (Int → Int) → Prop} {x1 : Int32} {x2 : Int32} {x3 : Int32} {x4 : Int32} {x5 : Int32}  (hk109 : ∀ (f_values : Nat → Int32), K109 (zF f_values) → ∀ (H : Heap) (locs : List Loc) (ls : Array Slot), kH (dC, dI) cl A s.heap H locs (wX55 ci ad d f_said f_heads f_kinds f_folded f_lengths f_parts f_rules f_known f_rounds f_given f_strata f_circle f_turns f_needs f_comes f_values f_plain f_plainCount f_pointers f_now f_fresh f_many f_sums f_lows f_highs f_layed f_worked f_large) → lv_has ls 9 [] → W p l e ({ frames := 0, cells := 0, slots := 0, locals := 0 } : Room) s m args below meth c H locs 0 0 (MQ below (va_Qi (fun (r : Int32) (u : (Nat → Int32)) => post r.toInt (zF (u))) (kB (dC, dI) cl (tX55 d) A (fun u : (Nat → Int32) => (wX55 ci ad d f_said f_heads f_kinds f_folded f_lengths f_parts f_rules f_known f_rounds f_given f_strata f_circle f_turns f_needs f_comes (u) f_plain f_plainCount f_pointers f_now f_fresh f_many f_sums f_lows f_highs f_layed f_worked f_large))) A) args s 0 0 A) (F0 m 109 ls [])) (hk139 : ∀ (f_values : Nat → Int32), K139 (zF f_values) → ∀ (H : Heap) (locs : List Loc) (ls : Array Slot), kH (dC, dI) cl A s.heap H locs (wX55 ci ad d f_said f_heads f_kinds f_folded f_lengths f_parts f_rules f_known f_rounds f_given f_strata f_circle f_turns f_needs f_comes f_values f_plain f_plainCount f_pointers f_now f_fresh f_many f_sums f_lows f_highs f_layed f_worked f_large) → lv_has ls 9 [] → W p l e ({ frames := 0, cells := 0, slots := 0, locals := 0 } : Room) s m args below meth c H locs 0 0 (MQ below (va_Qi (fun (r : Int32) (u : (Nat → Int32)) => post r.toInt (zF (u))) (kB (dC, dI) cl (tX55 d) A (fun u : (Nat → Int32) => (wX55 ci ad d f_said f_heads f_kinds f_folded f_lengths f_parts f_rules f_known f_rounds f_given f_strata f_circle f_turns f_needs f_comes (u) f_plain f_plainCount f_pointers f_now f_fresh f_many f_sums f_lows f_highs f_layed f_worked f_large))) A) args s 0 0 A) (F0 m 139 ls [])) (hk163 : ∀ (f_values : Nat → Int32), K163 (zF f_values) → ∀ (H : Heap) (locs : List Loc) (ls : Array Slot), kH (dC, dI) cl A s.heap H locs (wX55 ci ad d f_said f_heads f_kinds f_folded f_lengths f_parts f_rules f_known f_rounds f_given f_strata f_circle f_turns f_needs f_comes f_values f_plain f_plainCount f_pointers f_now f_fresh f_many f_sums f_lows f_highs f_layed f_worked f_large) → lv_has ls 9 [(0, .ref (ad 0)), (1, .int x1), (2, .int x2), (3, .int x3)] → W p l e ({ frames := 0, cells := 0, slots := 0, locals := 0 } : Room) s m args below meth c H locs 0 0 (MQ below (va_Qi (fun (r : Int32) (u : (Nat → Int32)) => post r.toInt (zF (u))) (kB (dC, dI) cl (tX55 d) A (fun u : (Nat → Int32) => (wX55 ci ad d f_said f_heads f_kinds f_folded f_lengths f_parts f_rules f_known f_rounds f_given f_strata f_circle f_turns f_needs f_comes (u) f_plain f_plainCount f_pointers f_now f_fresh f_many f_sums f_lows f_highs f_layed f_worked f_large))) A) args s 0 0 A) (F0 m 163 ls [])) :
    ∀ (nn : Nat) (x6 : Int32) (f_values : Nat → Int32), wX55_tell_54 K109 K139 K163 x4.toInt x5.toInt (zF f_parts) nn x6.toInt (zF f_values) → ∀ (H : Heap) (locs : List Loc) (ls : Array Slot), kH (dC, dI) cl A s.heap H locs (wX55 ci ad d f_said f_heads f_kinds f_folded f_lengths f_parts f_rules f_known f_rounds f_given f_strata f_circle f_turns f_needs f_comes f_values f_plain f_plainCount f_pointers f_now f_fresh f_many f_sums f_lows f_highs f_layed f_worked f_large) → lv_has ls 9 [(0, .ref (ad 0)), (1, .int x1), (2, .int x2), (3, .int x3), (4, .int x4), (5, .int x5), (6, .int x6)] → W p l e ({ frames := 0, cells := 0, slots := 0, locals := 0 } : Room) s m args below meth c H locs 0 0 (MQ below (va_Qi (fun (r : Int32) (u : (Nat → Int32)) => post r.toInt (zF (u))) (kB (dC, dI) cl (tX55 d) A (fun u : (Nat → Int32) => (wX55 ci ad d f_said f_heads f_kinds f_folded f_lengths f_parts f_rules f_known f_rounds f_given f_strata f_circle f_turns f_needs f_comes (u) f_plain f_plainCount f_pointers f_now f_fresh f_many f_sums f_lows f_highs f_layed f_worked f_large))) A) args s 0 0 A) (F0 m 54 ls []) := by
  have hx := X.1.1
  have hb := X.1.2.1
  intro nn
  induction nn with
  | zero =>
    intro x6 f_values hw
    exact False.elim hw
  | succ n ih =>
    intro x6 f_values hw H locs ls hH hl
    rw [wX55_tell_54] at hw
    refine lv_iload hx hb dX55_tell_54 (lv_at hl 6 rfl) ?_
    refine lv_iconst (v := 2) hx hb dX55_tell_56 (by decide) ?_
    refine lv_icmp_ge (tgt := 163) hx hb dX55_tell_57 (by decide) (fun c_18 => ?_) (fun c_18 => ?_)
    · have hw := hw.1 (z_le (rfl : (2 : Int32).toInt = 2) (rfl : x6.toInt = _) c_18)
      exact hk163 f_values hw _ _ ls hH (lv_sub hl [0, 1, 2, 3] rfl)
    · have hw := hw.2 (z_nle (rfl : (2 : Int32).toInt = 2) (rfl : x6.toInt = _) c_18)
      refine lv_aload_n hx hb dX55_tell_60 rfl (lv_at hl 0 rfl) ?_
      refine k_get X hH in_X55 0 rfl hc 5 (by decide) q6581 rfl dX55_tell_61 ?_
      refine lv_iload hx hb dX55_tell_64 (lv_at hl 4 rfl) ?_
      refine lv_iconst (v := 2) hx hb dX55_tell_66 (by decide) ?_
      refine lv_iadd hx hb dX55_tell_67 ?_
      have e_19 := z_add (z_m (rfl : x4.toInt = _)) (z_m (rfl : (2 : Int32).toInt = 2))
      refine lv_iload hx hb dX55_tell_68 (lv_at hl 6 rfl) ?_
      refine lv_iadd hx hb dX55_tell_70 ?_
      have e_20 := z_add e_19 (z_m (rfl : x6.toInt = _))
      have hq_21 := hw.1
      have hw := hw.2
      have e_22 := z_xi e_20 hq_21 (by decide)
      refine k_iald X hH 6 5 rfl rfl (z_in e_22 hq_21) dX55_tell_71 ?_
      have e_23 := z_ld (f := f_parts) e_22 hq_21.1
      refine lv_topi (fun x7_24 ex7_24 => ?_)
      have hw := hw x7_24.toInt (by rw [ex7_24]; exact e_23)
      refine lv_istore (lv' := [(7, .int x7_24), (0, .ref (ad 0)), (1, .int x1), (2, .int x2), (3, .int x3), (4, .int x4), (5, .int x5), (6, .int x6)]) hx hb dX55_tell_72 hl (by decide) rfl (fun ls hl => ?_)
      refine lv_iload hx hb dX55_tell_74 (lv_at hl 7 rfl) ?_
      refine lv_if_ne (tgt := 90) hx hb dX55_tell_76 (by decide) (fun c_25 => ?_) (fun c_25 => ?_)
      · have hw := hw.2 (z_ne (rfl : x6.toInt = _) (rfl : (0 : Int32).toInt = 0) c_25)
        refine lv_iload hx hb dX55_tell_90 (lv_at hl 6 rfl) ?_
        refine lv_bipush (v := 32) hx hb dX55_tell_92 (by decide) ?_
        have hq_26 := hw.1
        have hw := hw.2
        refine lv_irem hx hb dX55_tell_94 (by decide) ?_
        have e_27 := z_rem (rfl : x5.toInt = _) (rfl : (32 : Int32).toInt = 32) hq_26 (by decide)
        exact atX55_tell_95 hc X (fun x6 f_values hw H locs ls hH hl => ih x6 f_values hw _ _ ls hH (lv_sub hl [0, 1, 2, 3, 4, 5, 6] rfl)) hk109 hk139 x6 x7_24 (x5 - x5 / 32 * 32) f_values (by rw [show (x5 - x5 / 32 * 32 : Int32).toInt = _ from e_27]; exact hw) _ _ ls hH (lv_sub hl [1, 2, 3, 4, 5, 6, 7, 0] rfl)
      · have hw := hw.1 (z_eq (rfl : x6.toInt = _) (rfl : (0 : Int32).toInt = 0) c_25)
        refine lv_iload hx hb dX55_tell_79 (lv_at hl 6 rfl) ?_
        refine lv_bipush (v := 32) hx hb dX55_tell_81 (by decide) ?_
        have hq_48 := hw.1
        have hw := hw.2
        refine lv_idiv hx hb dX55_tell_83 (by decide) ?_
        have e_49 := z_div (rfl : x5.toInt = _) (rfl : (32 : Int32).toInt = 32) hq_48 (by decide)
        refine lv_bipush (v := 32) hx hb dX55_tell_84 (by decide) ?_
        have hq_50 := hw.1
        have hw := hw.2
        refine lv_irem hx hb dX55_tell_86 (by decide) ?_
        have e_51 := z_rem e_49 (rfl : (32 : Int32).toInt = 32) hq_50 (by decide)
        refine lv_goto (tgt := 95) hx hb dX55_tell_87 (by decide) ?_
        exact atX55_tell_95 hc X (fun x6 f_values hw H locs ls hH hl => ih x6 f_values hw _ _ ls hH (lv_sub hl [0, 1, 2, 3, 4, 5, 6] rfl)) hk109 hk139 x6 x7_24 ((x5 / 32) - (x5 / 32) / 32 * 32) f_values (by rw [show ((x5 / 32) - (x5 / 32) / 32 * 32 : Int32).toInt = _ from e_51]; exact hw) _ _ ls hH (lv_sub hl [1, 2, 3, 4, 5, 6, 7, 0] rfl)
set_option maxHeartbeats 4000000 in
theorem atX55_tell_23 {p : Program} {l : Launch} {e : Env} {s : State} {m : MethodId} {args : Array Value} {below : List Frame} {meth : Method} {c : Code} {dC : Nat → ClassId} {dI : Nat → Nat → Nat} {cl : List vw_C} {ci : Nat} (hc : cl[ci]? = some (RX55, TX55, 28)) {ad : Nat → Nat} {d : Nat → ClassId} {A : Nat → Prop} {post : Int → (Int → Int) → Prop} {f_said : Nat → Int32} {f_heads : Nat → Int32} {f_kinds : Nat → Int32} {f_folded : Nat → Int32} {f_lengths : Nat → Int32} {f_parts : Nat → Int32} {f_rules : Int32} {f_known : Int32} {f_rounds : Nat → Int32} {f_given : Nat → Int32} {f_strata : Nat → Int32} {f_circle : Int32} {f_turns : Int32} {f_needs : Nat → Int32} {f_comes : Nat → Int32} {f_plain : Nat → Int32} {f_plainCount : Int32} {f_pointers : Nat → Int32} {f_now : Int32} {f_fresh : Nat → Int32} {f_many : Nat → Int32} {f_sums : Nat → Int32} {f_lows : Nat → Int32} {f_highs : Nat → Int32} {f_layed : Int32} {f_worked : Int64} {f_large : Int32} (X : kX p s m args meth c cX55_tell 9 RX55 (some .boolean) (dC, dI) cl (tX55 d)) {K109 : (Int → Int) → Prop} {K139 : (Int → Int) → Prop} {K169 : (Int → Int) → Prop} {x1 : Int32} {x2 : Int32}  (hk109 : ∀ (f_values : Nat → Int32), K109 (zF f_values) → ∀ (H : Heap) (locs : List Loc) (ls : Array Slot), kH (dC, dI) cl A s.heap H locs (wX55 ci ad d f_said f_heads f_kinds f_folded f_lengths f_parts f_rules f_known f_rounds f_given f_strata f_circle f_turns f_needs f_comes f_values f_plain f_plainCount f_pointers f_now f_fresh f_many f_sums f_lows f_highs f_layed f_worked f_large) → lv_has ls 9 [] → W p l e ({ frames := 0, cells := 0, slots := 0, locals := 0 } : Room) s m args below meth c H locs 0 0 (MQ below (va_Qi (fun (r : Int32) (u : (Nat → Int32)) => post r.toInt (zF (u))) (kB (dC, dI) cl (tX55 d) A (fun u : (Nat → Int32) => (wX55 ci ad d f_said f_heads f_kinds f_folded f_lengths f_parts f_rules f_known f_rounds f_given f_strata f_circle f_turns f_needs f_comes (u) f_plain f_plainCount f_pointers f_now f_fresh f_many f_sums f_lows f_highs f_layed f_worked f_large))) A) args s 0 0 A) (F0 m 109 ls [])) (hk139 : ∀ (f_values : Nat → Int32), K139 (zF f_values) → ∀ (H : Heap) (locs : List Loc) (ls : Array Slot), kH (dC, dI) cl A s.heap H locs (wX55 ci ad d f_said f_heads f_kinds f_folded f_lengths f_parts f_rules f_known f_rounds f_given f_strata f_circle f_turns f_needs f_comes f_values f_plain f_plainCount f_pointers f_now f_fresh f_many f_sums f_lows f_highs f_layed f_worked f_large) → lv_has ls 9 [] → W p l e ({ frames := 0, cells := 0, slots := 0, locals := 0 } : Room) s m args below meth c H locs 0 0 (MQ below (va_Qi (fun (r : Int32) (u : (Nat → Int32)) => post r.toInt (zF (u))) (kB (dC, dI) cl (tX55 d) A (fun u : (Nat → Int32) => (wX55 ci ad d f_said f_heads f_kinds f_folded f_lengths f_parts f_rules f_known f_rounds f_given f_strata f_circle f_turns f_needs f_comes (u) f_plain f_plainCount f_pointers f_now f_fresh f_many f_sums f_lows f_highs f_layed f_worked f_large))) A) args s 0 0 A) (F0 m 139 ls [])) (hk169 : ∀ (f_values : Nat → Int32), K169 (zF f_values) → ∀ (H : Heap) (locs : List Loc) (ls : Array Slot), kH (dC, dI) cl A s.heap H locs (wX55 ci ad d f_said f_heads f_kinds f_folded f_lengths f_parts f_rules f_known f_rounds f_given f_strata f_circle f_turns f_needs f_comes f_values f_plain f_plainCount f_pointers f_now f_fresh f_many f_sums f_lows f_highs f_layed f_worked f_large) → lv_has ls 9 [] → W p l e ({ frames := 0, cells := 0, slots := 0, locals := 0 } : Room) s m args below meth c H locs 0 0 (MQ below (va_Qi (fun (r : Int32) (u : (Nat → Int32)) => post r.toInt (zF (u))) (kB (dC, dI) cl (tX55 d) A (fun u : (Nat → Int32) => (wX55 ci ad d f_said f_heads f_kinds f_folded f_lengths f_parts f_rules f_known f_rounds f_given f_strata f_circle f_turns f_needs f_comes (u) f_plain f_plainCount f_pointers f_now f_fresh f_many f_sums f_lows f_highs f_layed f_worked f_large))) A) args s 0 0 A) (F0 m 169 ls [])) :
    ∀ (nn : Nat) (x3 : Int32) (f_values : Nat → Int32), wX55_tell_23 K109 K139 K169 x1.toInt x2.toInt (zF f_parts) (zF f_plain) (zF f_pointers) nn x3.toInt (zF f_values) → ∀ (H : Heap) (locs : List Loc) (ls : Array Slot), kH (dC, dI) cl A s.heap H locs (wX55 ci ad d f_said f_heads f_kinds f_folded f_lengths f_parts f_rules f_known f_rounds f_given f_strata f_circle f_turns f_needs f_comes f_values f_plain f_plainCount f_pointers f_now f_fresh f_many f_sums f_lows f_highs f_layed f_worked f_large) → lv_has ls 9 [(0, .ref (ad 0)), (1, .int x1), (2, .int x2), (3, .int x3)] → W p l e ({ frames := 0, cells := 0, slots := 0, locals := 0 } : Room) s m args below meth c H locs 0 0 (MQ below (va_Qi (fun (r : Int32) (u : (Nat → Int32)) => post r.toInt (zF (u))) (kB (dC, dI) cl (tX55 d) A (fun u : (Nat → Int32) => (wX55 ci ad d f_said f_heads f_kinds f_folded f_lengths f_parts f_rules f_known f_rounds f_given f_strata f_circle f_turns f_needs f_comes (u) f_plain f_plainCount f_pointers f_now f_fresh f_many f_sums f_lows f_highs f_layed f_worked f_large))) A) args s 0 0 A) (F0 m 23 ls []) := by
  have hx := X.1.1
  have hb := X.1.2.1
  intro nn
  induction nn with
  | zero =>
    intro x3 f_values hw
    exact False.elim hw
  | succ n ih =>
    intro x3 f_values hw H locs ls hH hl
    rw [wX55_tell_23] at hw
    refine lv_iload_n hx hb dX55_tell_23 rfl (lv_at hl 3 rfl) ?_
    refine lv_iload_n hx hb dX55_tell_24 rfl (lv_at hl 2 rfl) ?_
    refine lv_icmp_ge (tgt := 169) hx hb dX55_tell_25 (by decide) (fun c_7 => ?_) (fun c_7 => ?_)
    · have hw := hw.1 (z_le (rfl : x2.toInt = _) (rfl : x3.toInt = _) c_7)
      exact hk169 f_values hw _ _ ls hH (lv_sub hl [] rfl)
    · have hw := hw.2 (z_nle (rfl : x2.toInt = _) (rfl : x3.toInt = _) c_7)
      refine lv_bipush (v := 20) hx hb dX55_tell_28 (by decide) ?_
      refine lv_iload_n hx hb dX55_tell_30 rfl (lv_at hl 1 rfl) ?_
      refine lv_imul hx hb dX55_tell_31 ?_
      have e_8 := z_mul (z_m (rfl : (20 : Int32).toInt = 20)) (z_m (rfl : x1.toInt = _))
      refine lv_iconst (v := 4) hx hb dX55_tell_32 (by decide) ?_
      refine lv_aload_n hx hb dX55_tell_33 rfl (lv_at hl 0 rfl) ?_
      refine k_get X hH in_X55 0 rfl hc 16 (by decide) q6592 rfl dX55_tell_34 ?_
      refine lv_iload_n hx hb dX55_tell_37 rfl (lv_at hl 3 rfl) ?_
      have hq_9 := hw.1
      have hw := hw.2
      refine k_iald X hH 13 12 rfl rfl (z_in (rfl : x3.toInt = _) hq_9) dX55_tell_38 ?_
      have e_10 := z_ld (f := f_plain) (rfl : x3.toInt = _) hq_9.1
      refine lv_imul hx hb dX55_tell_39 ?_
      have e_11 := z_mul (z_m (rfl : (4 : Int32).toInt = 4)) (z_m e_10)
      refine lv_iadd hx hb dX55_tell_40 ?_
      have e_12 := z_add e_8 e_11
      have hq_13 := hw.1
      have hw := hw.2
      have e_14 := z_x e_12 hq_13
      refine lv_topi (fun x4_15 ex4_15 => ?_)
      have hw := hw x4_15.toInt (by rw [ex4_15]; exact e_14)
      refine lv_istore (lv' := [(4, .int x4_15), (0, .ref (ad 0)), (1, .int x1), (2, .int x2), (3, .int x3)]) hx hb dX55_tell_41 hl (by decide) rfl (fun ls hl => ?_)
      refine lv_aload_n hx hb dX55_tell_43 rfl (lv_at hl 1 rfl) ?_
      refine k_get X hH in_X55 0 rfl hc 18 (by decide) q6594 rfl dX55_tell_44 ?_
      refine lv_iload_n hx hb dX55_tell_47 rfl (lv_at hl 4 rfl) ?_
      refine k_iald X hH 14 13 rfl rfl (z_in (rfl : x3.toInt = _) hq_9) dX55_tell_48 ?_
      have e_16 := z_ld (f := f_pointers) (rfl : x3.toInt = _) hq_9.1
      refine lv_topi (fun x5_17 ex5_17 => ?_)
      have hw := hw x5_17.toInt (by rw [ex5_17]; exact e_16)
      refine lv_istore (lv' := [(5, .int x5_17), (4, .int x4_15), (0, .ref (ad 0)), (1, .int x1), (2, .int x2), (3, .int x3)]) hx hb dX55_tell_49 hl (by decide) rfl (fun ls hl => ?_)
      refine lv_iconst (v := 0) hx hb dX55_tell_51 (by decide) ?_
      refine lv_istore (lv' := [(6, .int 0), (5, .int x5_17), (4, .int x4_15), (0, .ref (ad 0)), (1, .int x1), (2, .int x2), (3, .int x3)]) hx hb dX55_tell_52 hl (by decide) rfl (fun ls hl => ?_)
      obtain ⟨fu, hw⟩ := hw
      refine atX55_tell_54 hc X ?_ ?_ ?_ fu 0 f_values hw _ _ ls hH (lv_sub hl [3, 4, 5, 6, 2, 1, 0] rfl)
      · intro f_values_52 hw H locs ls hH hl
        exact hk109 f_values_52 hw _ _ ls hH (lv_sub hl [] rfl)
      · intro f_values_53 hw H locs ls hH hl
        exact hk139 f_values_53 hw _ _ ls hH (lv_sub hl [] rfl)
      · intro f_values_54 hw H locs ls hH hl
        have hq_56 := hw.1
        have hw := hw.2
        obtain ⟨x3_55, ex3_55⟩ : ∃ y : Int32, y = x3 + 1 := ⟨_, rfl⟩
        have hw := hw x3_55.toInt (by rw [ex3_55]; exact (z_x (z_add (z_m (rfl : x3.toInt = _)) (z_m (rfl : (1 : Int32).toInt = 1))) hq_56))
        refine lv_iinc (v := x3_55) (lv' := [(3, .int x3_55), (0, .ref (ad 0)), (1, .int x1), (2, .int x2)]) hx hb dX55_tell_163 hl (k := 3) rfl (by rw [ex3_55]; rfl) (by decide) rfl (fun ls hl => ?_)
        refine lv_goto (tgt := 23) hx hb dX55_tell_166 (by decide) ?_
        exact ih x3_55 f_values_54 hw _ _ ls hH (lv_sub hl [1, 2, 3, 0] rfl)
set_option maxHeartbeats 4000000 in
theorem walkX55_tell {l : Launch} {dC : Nat → ClassId} {dI : Nat → Nat → Nat} {cl : List vw_C} {ci : Nat} (hc : cl[ci]? = some (RX55, TX55, 28)) {ad : Nat → Nat} {d : Nat → ClassId} {sz : Nat} {f_said : Nat → Int32} {f_heads : Nat → Int32} {f_kinds : Nat → Int32} {f_folded : Nat → Int32} {f_lengths : Nat → Int32} {f_parts : Nat → Int32} {f_rules : Int32} {f_known : Int32} {f_rounds : Nat → Int32} {f_given : Nat → Int32} {f_strata : Nat → Int32} {f_circle : Int32} {f_turns : Int32} {f_needs : Nat → Int32} {f_comes : Nat → Int32} {f_values : Nat → Int32} {f_plain : Nat → Int32} {f_plainCount : Int32} {f_pointers : Nat → Int32} {f_now : Int32} {f_fresh : Nat → Int32} {f_many : Nat → Int32} {f_sums : Nat → Int32} {f_lows : Nat → Int32} {f_highs : Nat → Int32} {f_layed : Int32} {f_worked : Int64} {f_large : Int32} {x1 : Int32} {x2 : Int32} {post : Int → (Int → Int) → Prop} (hw : wpX55_tell post (zF f_parts) (zF f_values) (zF f_plain) (zF f_pointers) x1.toInt x2.toInt) :
    Met l yX55_tell (ws_ yX55_tell cX55_tell 9 (some .boolean)) ({ frames := 0, cells := 0, slots := 0, locals := 0 } : Room) (kPc (dC, dI) cl (tX55 d) [.ref (ad 0), .int x1, .int x2] sz (wX55 ci ad d f_said f_heads f_kinds f_folded f_lengths f_parts f_rules f_known f_rounds f_given f_strata f_circle f_turns f_needs f_comes f_values f_plain f_plainCount f_pointers f_now f_fresh f_many f_sums f_lows f_highs f_layed f_worked f_large)) (va_Qi (fun (r : Int32) (u : (Nat → Int32)) => post r.toInt (zF (u))) (kB (dC, dI) cl (tX55 d) (va_A (wX55 ci ad d f_said f_heads f_kinds f_folded f_lengths f_parts f_rules f_known f_rounds f_given f_strata f_circle f_turns f_needs f_comes f_values f_plain f_plainCount f_pointers f_now f_fresh f_many f_sums f_lows f_highs f_layed f_worked f_large) sz) (fun u : (Nat → Int32) => (wX55 ci ad d f_said f_heads f_kinds f_folded f_lengths f_parts f_rules f_known f_rounds f_given f_strata f_circle f_turns f_needs f_comes (u) f_plain f_plainCount f_pointers f_now f_fresh f_many f_sums f_lows f_highs f_layed f_worked f_large))) (va_A (wX55 ci ad d f_said f_heads f_kinds f_folded f_lengths f_parts f_rules f_known f_rounds f_given f_strata f_circle f_turns f_needs f_comes f_values f_plain f_plainCount f_pointers f_now f_fresh f_many f_sums f_lows f_highs f_layed f_worked f_large) sz)) 0 0 (va_A (wX55 ci ad d f_said f_heads f_kinds f_folded f_lengths f_parts f_rules f_known f_rounds f_given f_strata f_circle f_turns f_needs f_comes f_values f_plain f_plainCount f_pointers f_now f_fresh f_many f_sums f_lows f_highs f_layed f_worked f_large) sz) := by
  refine k_enter (by decide) (Nat.le_of_ble_eq_true rfl) ?_
  intro p e s m below meth c ls X hsz hH hl
  subst hsz
  generalize va_A (wX55 ci ad d f_said f_heads f_kinds f_folded f_lengths f_parts f_rules f_known f_rounds f_given f_strata f_circle f_turns f_needs f_comes f_values f_plain f_plainCount f_pointers f_now f_fresh f_many f_sums f_lows f_highs f_layed f_worked f_large) s.heap.size = A at hH ⊢
  have hx := X.1.1
  have hb := X.1.2.1
  have hl : lv_has ls 9 [(0, .ref (ad 0)), (1, .int x1), (2, .int x2)] := hl
  unfold wpX55_tell at hw
  refine lv_iconst (v := 0) hx hb dX55_tell_0 (by decide) ?_
  refine lv_istore_n (lv' := [(3, .int 0), (0, .ref (ad 0)), (1, .int x1), (2, .int x2)]) hx hb dX55_tell_1 rfl hl (by decide) rfl (fun ls hl => ?_)
  obtain ⟨fu, hw⟩ := hw
  refine atX55_tell_2 hc X ?_ fu 0 f_values hw _ _ ls hH (lv_sub hl [1, 2, 3, 0] rfl)
  · intro f_values_6 hw H locs ls hH hl
    refine lv_iconst (v := 0) hx hb dX55_tell_21 (by decide) ?_
    refine lv_istore_n (lv' := [(3, .int 0), (0, .ref (ad 0)), (1, .int x1), (2, .int x2)]) hx hb dX55_tell_22 rfl hl (by decide) rfl (fun ls hl => ?_)
    obtain ⟨fu, hw⟩ := hw
    refine atX55_tell_23 hc X ?_ ?_ ?_ fu 0 f_values_6 hw _ _ ls hH (lv_sub hl [1, 2, 3, 0] rfl)
    · intro f_values_57 hw H locs ls hH hl
      refine lv_goto (tgt := 139) hx hb dX55_tell_109 (by decide) ?_
      refine lv_iconst (v := 0) hx hb dX55_tell_139 (by decide) ?_
      exact k_iret (v := 0) X hH (f_values_57) hw rfl rfl dX55_tell_140
    · intro f_values_58 hw H locs ls hH hl
      refine lv_iconst (v := 0) hx hb dX55_tell_139 (by decide) ?_
      exact k_iret (v := 0) X hH (f_values_58) hw rfl rfl dX55_tell_140
    · intro f_values_59 hw H locs ls hH hl
      refine lv_iconst (v := 1) hx hb dX55_tell_169 (by decide) ?_
      exact k_iret (v := 1) X hH (f_values_59) hw rfl rfl dX55_tell_170
set_option maxHeartbeats 4000000 in
theorem walkX55_valueOf {l : Launch} {dC : Nat → ClassId} {dI : Nat → Nat → Nat} {cl : List vw_C} {ci : Nat} (hc : cl[ci]? = some (RX55, TX55, 28)) {ad : Nat → Nat} {d : Nat → ClassId} {sz : Nat} {f_said : Nat → Int32} {f_heads : Nat → Int32} {f_kinds : Nat → Int32} {f_folded : Nat → Int32} {f_lengths : Nat → Int32} {f_parts : Nat → Int32} {f_rules : Int32} {f_known : Int32} {f_rounds : Nat → Int32} {f_given : Nat → Int32} {f_strata : Nat → Int32} {f_circle : Int32} {f_turns : Int32} {f_needs : Nat → Int32} {f_comes : Nat → Int32} {f_values : Nat → Int32} {f_plain : Nat → Int32} {f_plainCount : Int32} {f_pointers : Nat → Int32} {f_now : Int32} {f_fresh : Nat → Int32} {f_many : Nat → Int32} {f_sums : Nat → Int32} {f_lows : Nat → Int32} {f_highs : Nat → Int32} {f_layed : Int32} {f_worked : Int64} {f_large : Int32} {x1 : Int32} {post : Int → Prop} (hw : wpX55_valueOf post (zF f_values) x1.toInt) :
    Met l yX55_valueOf (ws_ yX55_valueOf cX55_valueOf 2 (some .int)) ({ frames := 0, cells := 0, slots := 0, locals := 0 } : Room) (kPc (dC, dI) cl (tX55 d) [.ref (ad 0), .int x1] sz (wX55 ci ad d f_said f_heads f_kinds f_folded f_lengths f_parts f_rules f_known f_rounds f_given f_strata f_circle f_turns f_needs f_comes f_values f_plain f_plainCount f_pointers f_now f_fresh f_many f_sums f_lows f_highs f_layed f_worked f_large)) (va_Qi (fun (r : Int32) (_ : Unit) => post r.toInt) (kB (dC, dI) cl (tX55 d) (va_A (wX55 ci ad d f_said f_heads f_kinds f_folded f_lengths f_parts f_rules f_known f_rounds f_given f_strata f_circle f_turns f_needs f_comes f_values f_plain f_plainCount f_pointers f_now f_fresh f_many f_sums f_lows f_highs f_layed f_worked f_large) sz) (fun _ : Unit => (wX55 ci ad d f_said f_heads f_kinds f_folded f_lengths f_parts f_rules f_known f_rounds f_given f_strata f_circle f_turns f_needs f_comes f_values f_plain f_plainCount f_pointers f_now f_fresh f_many f_sums f_lows f_highs f_layed f_worked f_large))) (va_A (wX55 ci ad d f_said f_heads f_kinds f_folded f_lengths f_parts f_rules f_known f_rounds f_given f_strata f_circle f_turns f_needs f_comes f_values f_plain f_plainCount f_pointers f_now f_fresh f_many f_sums f_lows f_highs f_layed f_worked f_large) sz)) 0 0 (va_A (wX55 ci ad d f_said f_heads f_kinds f_folded f_lengths f_parts f_rules f_known f_rounds f_given f_strata f_circle f_turns f_needs f_comes f_values f_plain f_plainCount f_pointers f_now f_fresh f_many f_sums f_lows f_highs f_layed f_worked f_large) sz) := by
  refine k_enter (by decide) (Nat.le_of_ble_eq_true rfl) ?_
  intro p e s m below meth c ls X hsz hH hl
  subst hsz
  generalize va_A (wX55 ci ad d f_said f_heads f_kinds f_folded f_lengths f_parts f_rules f_known f_rounds f_given f_strata f_circle f_turns f_needs f_comes f_values f_plain f_plainCount f_pointers f_now f_fresh f_many f_sums f_lows f_highs f_layed f_worked f_large) s.heap.size = A at hH ⊢
  have hx := X.1.1
  have hb := X.1.2.1
  have hl : lv_has ls 2 [(0, .ref (ad 0)), (1, .int x1)] := hl
  unfold wpX55_valueOf at hw
  refine lv_iload_n hx hb dX55_valueOf_0 rfl (lv_at hl 1 rfl) ?_
  refine lv_if_lt (tgt := 8) hx hb dX55_valueOf_1 (by decide) (fun c_1 => ?_) (fun c_1 => ?_)
  · have hw := hw.1 (z_lt (rfl : x1.toInt = _) (rfl : (0 : Int32).toInt = 0) c_1)
    refine lv_aload_n hx hb dX55_valueOf_8 rfl (lv_at hl 0 rfl) ?_
    refine k_get X hH in_X55 0 rfl hc 15 (by decide) q6591 rfl dX55_valueOf_9 ?_
    refine lv_iconst (v := (-1)) hx hb dX55_valueOf_12 (by decide) ?_
    refine lv_iload_n hx hb dX55_valueOf_13 rfl (lv_at hl 1 rfl) ?_
    refine lv_isub hx hb dX55_valueOf_14 ?_
    have e_2 := z_sub (z_m (rfl : ((-1) : Int32).toInt = (-1))) (z_m (rfl : x1.toInt = _))
    have hq_3 := hw.1
    have hw := hw.2
    have e_4 := z_xi e_2 hq_3 (by decide)
    refine k_iald X hH 12 11 rfl rfl (z_in e_4 hq_3) dX55_valueOf_15 ?_
    have e_5 := z_ld (f := f_values) e_4 hq_3.1
    exact k_iret (v := f_values ((-1) - x1).toNatClampNeg) X hH () (by rw [show (f_values ((-1) - x1).toNatClampNeg : Int32).toInt = _ from e_5]; exact hw) rfl rfl dX55_valueOf_16
  · have hw := hw.2 (z_nlt (rfl : x1.toInt = _) (rfl : (0 : Int32).toInt = 0) c_1)
    refine lv_iload_n hx hb dX55_valueOf_4 rfl (lv_at hl 1 rfl) ?_
    refine lv_goto (tgt := 16) hx hb dX55_valueOf_5 (by decide) ?_
    exact k_iret (v := x1) X hH () hw rfl rfl dX55_valueOf_16
set_option maxHeartbeats 4000000 in
theorem walkX55_isOld {l : Launch} {dC : Nat → ClassId} {dI : Nat → Nat → Nat} {cl : List vw_C} {ci : Nat} (hc : cl[ci]? = some (RX55, TX55, 28)) {ad : Nat → Nat} {d : Nat → ClassId} {sz : Nat} {f_said : Nat → Int32} {f_heads : Nat → Int32} {f_kinds : Nat → Int32} {f_folded : Nat → Int32} {f_lengths : Nat → Int32} {f_parts : Nat → Int32} {f_rules : Int32} {f_known : Int32} {f_rounds : Nat → Int32} {f_given : Nat → Int32} {f_strata : Nat → Int32} {f_circle : Int32} {f_turns : Int32} {f_needs : Nat → Int32} {f_comes : Nat → Int32} {f_values : Nat → Int32} {f_plain : Nat → Int32} {f_plainCount : Int32} {f_pointers : Nat → Int32} {f_now : Int32} {f_fresh : Nat → Int32} {f_many : Nat → Int32} {f_sums : Nat → Int32} {f_lows : Nat → Int32} {f_highs : Nat → Int32} {f_layed : Int32} {f_worked : Int64} {f_large : Int32} {x1 : Int32} {post : Int → Prop} (hw : wpX55_isOld post (zF f_rounds) f_now.toInt (zF f_fresh) x1.toInt) :
    Met l yX55_isOld (ws_ yX55_isOld cX55_isOld 2 (some .boolean)) ({ frames := 0, cells := 0, slots := 0, locals := 0 } : Room) (kPc (dC, dI) cl (tX55 d) [.ref (ad 0), .int x1] sz (wX55 ci ad d f_said f_heads f_kinds f_folded f_lengths f_parts f_rules f_known f_rounds f_given f_strata f_circle f_turns f_needs f_comes f_values f_plain f_plainCount f_pointers f_now f_fresh f_many f_sums f_lows f_highs f_layed f_worked f_large)) (va_Qi (fun (r : Int32) (_ : Unit) => post r.toInt) (kB (dC, dI) cl (tX55 d) (va_A (wX55 ci ad d f_said f_heads f_kinds f_folded f_lengths f_parts f_rules f_known f_rounds f_given f_strata f_circle f_turns f_needs f_comes f_values f_plain f_plainCount f_pointers f_now f_fresh f_many f_sums f_lows f_highs f_layed f_worked f_large) sz) (fun _ : Unit => (wX55 ci ad d f_said f_heads f_kinds f_folded f_lengths f_parts f_rules f_known f_rounds f_given f_strata f_circle f_turns f_needs f_comes f_values f_plain f_plainCount f_pointers f_now f_fresh f_many f_sums f_lows f_highs f_layed f_worked f_large))) (va_A (wX55 ci ad d f_said f_heads f_kinds f_folded f_lengths f_parts f_rules f_known f_rounds f_given f_strata f_circle f_turns f_needs f_comes f_values f_plain f_plainCount f_pointers f_now f_fresh f_many f_sums f_lows f_highs f_layed f_worked f_large) sz)) 0 0 (va_A (wX55 ci ad d f_said f_heads f_kinds f_folded f_lengths f_parts f_rules f_known f_rounds f_given f_strata f_circle f_turns f_needs f_comes f_values f_plain f_plainCount f_pointers f_now f_fresh f_many f_sums f_lows f_highs f_layed f_worked f_large) sz) := by
  refine k_enter (by decide) (Nat.le_of_ble_eq_true rfl) ?_
  intro p e s m below meth c ls X hsz hH hl
  subst hsz
  generalize va_A (wX55 ci ad d f_said f_heads f_kinds f_folded f_lengths f_parts f_rules f_known f_rounds f_given f_strata f_circle f_turns f_needs f_comes f_values f_plain f_plainCount f_pointers f_now f_fresh f_many f_sums f_lows f_highs f_layed f_worked f_large) s.heap.size = A at hH ⊢
  have hx := X.1.1
  have hb := X.1.2.1
  have hl : lv_has ls 2 [(0, .ref (ad 0)), (1, .int x1)] := hl
  unfold wpX55_isOld at hw
  refine lv_aload_n hx hb dX55_isOld_0 rfl (lv_at hl 0 rfl) ?_
  refine k_get X hH in_X55 0 rfl hc 8 (by decide) q6584 rfl dX55_isOld_1 ?_
  refine lv_iload_n hx hb dX55_isOld_4 rfl (lv_at hl 1 rfl) ?_
  have hq_1 := hw.1
  have hw := hw.2
  refine k_iald X hH 7 6 rfl rfl (z_in (rfl : x1.toInt = _) hq_1) dX55_isOld_5 ?_
  have e_2 := z_ld (f := f_rounds) (rfl : x1.toInt = _) hq_1.1
  refine lv_if_lt (tgt := 33) hx hb dX55_isOld_6 (by decide) (fun c_3 => ?_) (fun c_3 => ?_)
  · have hw := hw.1 (z_lt e_2 (rfl : (0 : Int32).toInt = 0) c_3)
    refine lv_iconst (v := 0) hx hb dX55_isOld_33 (by decide) ?_
    exact k_iret (v := 0) X hH () hw rfl rfl dX55_isOld_34
  · have hw := hw.2 (z_nlt e_2 (rfl : (0 : Int32).toInt = 0) c_3)
    refine lv_aload_n hx hb dX55_isOld_9 rfl (lv_at hl 0 rfl) ?_
    refine k_get X hH in_X55 0 rfl hc 19 (by decide) q6595 rfl dX55_isOld_10 ?_
    refine lv_if_lt (tgt := 29) hx hb dX55_isOld_13 (by decide) (fun c_4 => ?_) (fun c_4 => ?_)
    · have hw := hw.1 (z_lt (rfl : f_now.toInt = _) (rfl : (0 : Int32).toInt = 0) c_4)
      refine lv_iconst (v := 1) hx hb dX55_isOld_29 (by decide) ?_
      refine lv_goto (tgt := 34) hx hb dX55_isOld_30 (by decide) ?_
      exact k_iret (v := 1) X hH () hw rfl rfl dX55_isOld_34
    · have hw := hw.2 (z_nlt (rfl : f_now.toInt = _) (rfl : (0 : Int32).toInt = 0) c_4)
      refine lv_aload_n hx hb dX55_isOld_16 rfl (lv_at hl 0 rfl) ?_
      refine k_get X hH in_X55 0 rfl hc 20 (by decide) q6596 rfl dX55_isOld_17 ?_
      refine lv_iload_n hx hb dX55_isOld_20 rfl (lv_at hl 1 rfl) ?_
      refine k_iald X hH 15 14 rfl rfl (z_in (rfl : x1.toInt = _) hq_1) dX55_isOld_21 ?_
      have e_5 := z_ld (f := f_fresh) (rfl : x1.toInt = _) hq_1.1
      refine lv_aload_n hx hb dX55_isOld_22 rfl (lv_at hl 0 rfl) ?_
      refine k_get X hH in_X55 0 rfl hc 19 (by decide) q6595 rfl dX55_isOld_23 ?_
      refine lv_icmp_eq (tgt := 33) hx hb dX55_isOld_26 (by decide) (fun c_6 => ?_) (fun c_6 => ?_)
      · have hw := hw.1 (z_eq e_5 (rfl : f_now.toInt = _) c_6)
        refine lv_iconst (v := 0) hx hb dX55_isOld_33 (by decide) ?_
        exact k_iret (v := 0) X hH () hw rfl rfl dX55_isOld_34
      · have hw := hw.2 (z_neq e_5 (rfl : f_now.toInt = _) c_6)
        refine lv_iconst (v := 1) hx hb dX55_isOld_29 (by decide) ?_
        refine lv_goto (tgt := 34) hx hb dX55_isOld_30 (by decide) ?_
        exact k_iret (v := 1) X hH () hw rfl rfl dX55_isOld_34
set_option maxHeartbeats 4000000 in
theorem atX55_passes_98 {p : Program} {l : Launch} {e : Env} {s : State} {m : MethodId} {args : Array Value} {below : List Frame} {meth : Method} {c : Code} {dC : Nat → ClassId} {dI : Nat → Nat → Nat} {cl : List vw_C} {ci : Nat} (hc : cl[ci]? = some (RX55, TX55, 28)) {ad : Nat → Nat} {d : Nat → ClassId} {A : Nat → Prop} {post : Int → Prop} {f_said : Nat → Int32} {f_heads : Nat → Int32} {f_kinds : Nat → Int32} {f_folded : Nat → Int32} {f_lengths : Nat → Int32} {f_parts : Nat → Int32} {f_rules : Int32} {f_known : Int32} {f_rounds : Nat → Int32} {f_given : Nat → Int32} {f_strata : Nat → Int32} {f_circle : Int32} {f_turns : Int32} {f_needs : Nat → Int32} {f_comes : Nat → Int32} {f_values : Nat → Int32} {f_plain : Nat → Int32} {f_plainCount : Int32} {f_pointers : Nat → Int32} {f_now : Int32} {f_fresh : Nat → Int32} {f_many : Nat → Int32} {f_sums : Nat → Int32} {f_lows : Nat → Int32} {f_highs : Nat → Int32} {f_layed : Int32} {f_worked : Int64} {f_large : Int32} (X : kX p s m args meth c cX55_passes 7 RX55 (some .boolean) (dC, dI) cl (tX55 d)) {K4 : Int → Int → Prop} {x1 : Int32}  (hk4 : ∀ (x2 : Int32) (x3 : Int32), K4 x2.toInt x3.toInt → ∀ (H : Heap) (locs : List Loc) (ls : Array Slot), kH (dC, dI) cl A s.heap H locs (wX55 ci ad d f_said f_heads f_kinds f_folded f_lengths f_parts f_rules f_known f_rounds f_given f_strata f_circle f_turns f_needs f_comes f_values f_plain f_plainCount f_pointers f_now f_fresh f_many f_sums f_lows f_highs f_layed f_worked f_large) → lv_has ls 7 [(0, .ref (ad 0)), (1, .int x1), (2, .int x2), (3, .int x3)] → W p l e ({ frames := 1, cells := 0, slots := 0, locals := 22 } : Room) s m args below meth c H locs 0 0 (MQ below (va_Qi (fun (r : Int32) (_ : Unit) => post r.toInt) (kB (dC, dI) cl (tX55 d) A (fun _ : Unit => (wX55 ci ad d f_said f_heads f_kinds f_folded f_lengths f_parts f_rules f_known f_rounds f_given f_strata f_circle f_turns f_needs f_comes f_values f_plain f_plainCount f_pointers f_now f_fresh f_many f_sums f_lows f_highs f_layed f_worked f_large))) A) args s 0 0 A) (F0 m 4 ls [])) :
    ∀ (x2 : Int32) (x3 : Int32) (x4 : Int32) (x5 : Int32) (x6 : Int32), wX55_passes_98 K4 x2.toInt x3.toInt x4.toInt x5.toInt x6.toInt (zF f_parts) → ∀ (H : Heap) (locs : List Loc) (ls : Array Slot), kH (dC, dI) cl A s.heap H locs (wX55 ci ad d f_said f_heads f_kinds f_folded f_lengths f_parts f_rules f_known f_rounds f_given f_strata f_circle f_turns f_needs f_comes f_values f_plain f_plainCount f_pointers f_now f_fresh f_many f_sums f_lows f_highs f_layed f_worked f_large) → lv_has ls 7 [(0, .ref (ad 0)), (1, .int x1), (2, .int x2), (3, .int x3), (4, .int x4), (5, .int x5), (6, .int x6)] → W p l e ({ frames := 1, cells := 0, slots := 0, locals := 22 } : Room) s m args below meth c H locs 0 0 (MQ below (va_Qi (fun (r : Int32) (_ : Unit) => post r.toInt) (kB (dC, dI) cl (tX55 d) A (fun _ : Unit => (wX55 ci ad d f_said f_heads f_kinds f_folded f_lengths f_parts f_rules f_known f_rounds f_given f_strata f_circle f_turns f_needs f_comes f_values f_plain f_plainCount f_pointers f_now f_fresh f_many f_sums f_lows f_highs f_layed f_worked f_large))) A) args s 0 0 A) (F0 m 98 ls []) := by
  have hx := X.1.1
  have hb := X.1.2.1
  intro x2 x3 x4 x5 x6 hw H locs ls hH hl
  unfold wX55_passes_98 at hw
  refine lv_aload_n hx hb dX55_passes_98 rfl (lv_at hl 0 rfl) ?_
  refine k_get X hH in_X55 0 rfl hc 5 (by decide) q6581 rfl dX55_passes_99 ?_
  refine lv_iload hx hb dX55_passes_102 (lv_at hl 4 rfl) ?_
  have hq_24 := hw.1
  have hw := hw.2
  refine k_iald X hH 6 5 rfl rfl (z_in (rfl : x4.toInt = _) hq_24) dX55_passes_104 ?_
  have e_25 := z_ld (f := f_parts) (rfl : x4.toInt = _) hq_24.1
  refine lv_iconst (v := 2) hx hb dX55_passes_105 (by decide) ?_
  refine lv_icmp_ne (tgt := 179) hx hb dX55_passes_106 (by decide) (fun c_26 => ?_) (fun c_26 => ?_)
  · have hw := hw.2 (z_ne e_25 (rfl : (2 : Int32).toInt = 2) c_26)
    have hq_28 := hw.1
    have hw := hw.2
    obtain ⟨x3_27, ex3_27⟩ : ∃ y : Int32, y = x3 + 1 := ⟨_, rfl⟩
    have hw := hw x3_27.toInt (by rw [ex3_27]; exact (z_x (z_add (z_m (rfl : x3.toInt = _)) (z_m (rfl : (1 : Int32).toInt = 1))) hq_28))
    refine lv_iinc (v := x3_27) (lv' := [(3, .int x3_27), (0, .ref (ad 0)), (1, .int x1), (2, .int x2), (4, .int x4), (5, .int x5), (6, .int x6)]) hx hb dX55_passes_179 hl (k := 3) rfl (by rw [ex3_27]; rfl) (by decide) rfl (fun ls hl => ?_)
    refine lv_goto (tgt := 4) hx hb dX55_passes_182 (by decide) ?_
    exact hk4 x2 x3_27 hw _ _ ls hH (lv_sub hl [1, 2, 3, 0] rfl)
  · have hw := hw.1 (z_eq e_25 (rfl : (2 : Int32).toInt = 2) c_26)
    refine lv_aload_n hx hb dX55_passes_109 rfl (lv_at hl 0 rfl) ?_
    refine k_get X hH in_X55 0 rfl hc 5 (by decide) q6581 rfl dX55_passes_110 ?_
    refine lv_iload hx hb dX55_passes_113 (lv_at hl 4 rfl) ?_
    refine lv_iconst (v := 1) hx hb dX55_passes_115 (by decide) ?_
    refine lv_iadd hx hb dX55_passes_116 ?_
    have e_29 := z_add (z_m (rfl : x4.toInt = _)) (z_m (rfl : (1 : Int32).toInt = 1))
    have hq_30 := hw.1
    have hw := hw.2
    have e_31 := z_xi e_29 hq_30 (by decide)
    refine k_iald X hH 6 5 rfl rfl (z_in e_31 hq_30) dX55_passes_117 ?_
    have e_32 := z_ld (f := f_parts) e_31 hq_30.1
    refine lv_if_ne (tgt := 136) hx hb dX55_passes_118 (by decide) (fun c_33 => ?_) (fun c_33 => ?_)
    · have hw := hw.2 (z_ne e_32 (rfl : (0 : Int32).toInt = 0) c_33)
      refine lv_aload_n hx hb dX55_passes_136 rfl (lv_at hl 0 rfl) ?_
      refine k_get X hH in_X55 0 rfl hc 5 (by decide) q6581 rfl dX55_passes_137 ?_
      refine lv_iload hx hb dX55_passes_140 (lv_at hl 4 rfl) ?_
      refine lv_iconst (v := 1) hx hb dX55_passes_142 (by decide) ?_
      refine lv_iadd hx hb dX55_passes_143 ?_
      have e_34 := z_add (z_m (rfl : x4.toInt = _)) (z_m (rfl : (1 : Int32).toInt = 1))
      have e_35 := z_xi e_34 hq_30 (by decide)
      refine k_iald X hH 6 5 rfl rfl (z_in e_35 hq_30) dX55_passes_144 ?_
      have e_36 := z_ld (f := f_parts) e_35 hq_30.1
      refine lv_iconst (v := 1) hx hb dX55_passes_145 (by decide) ?_
      refine lv_icmp_ne (tgt := 164) hx hb dX55_passes_146 (by decide) (fun c_37 => ?_) (fun c_37 => ?_)
      · have hw := hw.2 (z_ne e_36 (rfl : (1 : Int32).toInt = 1) c_37)
        refine lv_iload hx hb dX55_passes_164 (lv_at hl 6 rfl) ?_
        refine lv_iload hx hb dX55_passes_166 (lv_at hl 5 rfl) ?_
        refine lv_iconst (v := 1) hx hb dX55_passes_168 (by decide) ?_
        refine lv_iadd hx hb dX55_passes_169 ?_
        have e_38 := z_add (z_m (rfl : x5.toInt = _)) (z_m (rfl : (1 : Int32).toInt = 1))
        have hq_40 := hw.1
        have hw := hw.2
        have e_41 := z_x e_38 hq_40
        refine lv_icmp_ne (tgt := 177) hx hb dX55_passes_170 (by decide) (fun c_39 => ?_) (fun c_39 => ?_)
        · have hw := hw.2 (z_ne (rfl : x6.toInt = _) e_41 c_39)
          refine lv_iconst (v := 0) hx hb dX55_passes_177 (by decide) ?_
          refine lv_istore_n (lv' := [(2, .int 0), (0, .ref (ad 0)), (1, .int x1), (3, .int x3), (4, .int x4), (5, .int x5), (6, .int x6)]) hx hb dX55_passes_178 rfl hl (by decide) rfl (fun ls hl => ?_)
          have hq_43 := hw.1
          have hw := hw.2
          obtain ⟨x3_42, ex3_42⟩ : ∃ y : Int32, y = x3 + 1 := ⟨_, rfl⟩
          have hw := hw x3_42.toInt (by rw [ex3_42]; exact (z_x (z_add (z_m (rfl : x3.toInt = _)) (z_m (rfl : (1 : Int32).toInt = 1))) hq_43))
          refine lv_iinc (v := x3_42) (lv' := [(3, .int x3_42), (2, .int 0), (0, .ref (ad 0)), (1, .int x1), (4, .int x4), (5, .int x5), (6, .int x6)]) hx hb dX55_passes_179 hl (k := 3) rfl (by rw [ex3_42]; rfl) (by decide) rfl (fun ls hl => ?_)
          refine lv_goto (tgt := 4) hx hb dX55_passes_182 (by decide) ?_
          exact hk4 0 x3_42 hw _ _ ls hH (lv_sub hl [2, 3, 1, 0] rfl)
        · have hw := hw.1 (z_eq (rfl : x6.toInt = _) e_41 c_39)
          refine lv_iconst (v := 1) hx hb dX55_passes_173 (by decide) ?_
          refine lv_goto (tgt := 178) hx hb dX55_passes_174 (by decide) ?_
          refine lv_istore_n (lv' := [(2, .int 1), (0, .ref (ad 0)), (1, .int x1), (3, .int x3), (4, .int x4), (5, .int x5), (6, .int x6)]) hx hb dX55_passes_178 rfl hl (by decide) rfl (fun ls hl => ?_)
          have hq_45 := hw.1
          have hw := hw.2
          obtain ⟨x3_44, ex3_44⟩ : ∃ y : Int32, y = x3 + 1 := ⟨_, rfl⟩
          have hw := hw x3_44.toInt (by rw [ex3_44]; exact (z_x (z_add (z_m (rfl : x3.toInt = _)) (z_m (rfl : (1 : Int32).toInt = 1))) hq_45))
          refine lv_iinc (v := x3_44) (lv' := [(3, .int x3_44), (2, .int 1), (0, .ref (ad 0)), (1, .int x1), (4, .int x4), (5, .int x5), (6, .int x6)]) hx hb dX55_passes_179 hl (k := 3) rfl (by rw [ex3_44]; rfl) (by decide) rfl (fun ls hl => ?_)
          refine lv_goto (tgt := 4) hx hb dX55_passes_182 (by decide) ?_
          exact hk4 1 x3_44 hw _ _ ls hH (lv_sub hl [2, 3, 1, 0] rfl)
      · have hw := hw.1 (z_eq e_36 (rfl : (1 : Int32).toInt = 1) c_37)
        refine lv_iload hx hb dX55_passes_149 (lv_at hl 5 rfl) ?_
        refine lv_iload hx hb dX55_passes_151 (lv_at hl 6 rfl) ?_
        refine lv_icmp_eq (tgt := 160) hx hb dX55_passes_153 (by decide) (fun c_46 => ?_) (fun c_46 => ?_)
        · have hw := hw.1 (z_eq (rfl : x5.toInt = _) (rfl : x6.toInt = _) c_46)
          refine lv_iconst (v := 0) hx hb dX55_passes_160 (by decide) ?_
          refine lv_goto (tgt := 178) hx hb dX55_passes_161 (by decide) ?_
          refine lv_istore_n (lv' := [(2, .int 0), (0, .ref (ad 0)), (1, .int x1), (3, .int x3), (4, .int x4), (5, .int x5), (6, .int x6)]) hx hb dX55_passes_178 rfl hl (by decide) rfl (fun ls hl => ?_)
          have hq_48 := hw.1
          have hw := hw.2
          obtain ⟨x3_47, ex3_47⟩ : ∃ y : Int32, y = x3 + 1 := ⟨_, rfl⟩
          have hw := hw x3_47.toInt (by rw [ex3_47]; exact (z_x (z_add (z_m (rfl : x3.toInt = _)) (z_m (rfl : (1 : Int32).toInt = 1))) hq_48))
          refine lv_iinc (v := x3_47) (lv' := [(3, .int x3_47), (2, .int 0), (0, .ref (ad 0)), (1, .int x1), (4, .int x4), (5, .int x5), (6, .int x6)]) hx hb dX55_passes_179 hl (k := 3) rfl (by rw [ex3_47]; rfl) (by decide) rfl (fun ls hl => ?_)
          refine lv_goto (tgt := 4) hx hb dX55_passes_182 (by decide) ?_
          exact hk4 0 x3_47 hw _ _ ls hH (lv_sub hl [2, 3, 1, 0] rfl)
        · have hw := hw.2 (z_neq (rfl : x5.toInt = _) (rfl : x6.toInt = _) c_46)
          refine lv_iconst (v := 1) hx hb dX55_passes_156 (by decide) ?_
          refine lv_goto (tgt := 178) hx hb dX55_passes_157 (by decide) ?_
          refine lv_istore_n (lv' := [(2, .int 1), (0, .ref (ad 0)), (1, .int x1), (3, .int x3), (4, .int x4), (5, .int x5), (6, .int x6)]) hx hb dX55_passes_178 rfl hl (by decide) rfl (fun ls hl => ?_)
          have hq_50 := hw.1
          have hw := hw.2
          obtain ⟨x3_49, ex3_49⟩ : ∃ y : Int32, y = x3 + 1 := ⟨_, rfl⟩
          have hw := hw x3_49.toInt (by rw [ex3_49]; exact (z_x (z_add (z_m (rfl : x3.toInt = _)) (z_m (rfl : (1 : Int32).toInt = 1))) hq_50))
          refine lv_iinc (v := x3_49) (lv' := [(3, .int x3_49), (2, .int 1), (0, .ref (ad 0)), (1, .int x1), (4, .int x4), (5, .int x5), (6, .int x6)]) hx hb dX55_passes_179 hl (k := 3) rfl (by rw [ex3_49]; rfl) (by decide) rfl (fun ls hl => ?_)
          refine lv_goto (tgt := 4) hx hb dX55_passes_182 (by decide) ?_
          exact hk4 1 x3_49 hw _ _ ls hH (lv_sub hl [2, 3, 1, 0] rfl)
    · have hw := hw.1 (z_eq e_32 (rfl : (0 : Int32).toInt = 0) c_33)
      refine lv_iload hx hb dX55_passes_121 (lv_at hl 5 rfl) ?_
      refine lv_iload hx hb dX55_passes_123 (lv_at hl 6 rfl) ?_
      refine lv_icmp_ge (tgt := 132) hx hb dX55_passes_125 (by decide) (fun c_51 => ?_) (fun c_51 => ?_)
      · have hw := hw.1 (z_le (rfl : x6.toInt = _) (rfl : x5.toInt = _) c_51)
        refine lv_iconst (v := 0) hx hb dX55_passes_132 (by decide) ?_
        refine lv_goto (tgt := 178) hx hb dX55_passes_133 (by decide) ?_
        refine lv_istore_n (lv' := [(2, .int 0), (0, .ref (ad 0)), (1, .int x1), (3, .int x3), (4, .int x4), (5, .int x5), (6, .int x6)]) hx hb dX55_passes_178 rfl hl (by decide) rfl (fun ls hl => ?_)
        have hq_53 := hw.1
        have hw := hw.2
        obtain ⟨x3_52, ex3_52⟩ : ∃ y : Int32, y = x3 + 1 := ⟨_, rfl⟩
        have hw := hw x3_52.toInt (by rw [ex3_52]; exact (z_x (z_add (z_m (rfl : x3.toInt = _)) (z_m (rfl : (1 : Int32).toInt = 1))) hq_53))
        refine lv_iinc (v := x3_52) (lv' := [(3, .int x3_52), (2, .int 0), (0, .ref (ad 0)), (1, .int x1), (4, .int x4), (5, .int x5), (6, .int x6)]) hx hb dX55_passes_179 hl (k := 3) rfl (by rw [ex3_52]; rfl) (by decide) rfl (fun ls hl => ?_)
        refine lv_goto (tgt := 4) hx hb dX55_passes_182 (by decide) ?_
        exact hk4 0 x3_52 hw _ _ ls hH (lv_sub hl [2, 3, 1, 0] rfl)
      · have hw := hw.2 (z_nle (rfl : x6.toInt = _) (rfl : x5.toInt = _) c_51)
        refine lv_iconst (v := 1) hx hb dX55_passes_128 (by decide) ?_
        refine lv_goto (tgt := 178) hx hb dX55_passes_129 (by decide) ?_
        refine lv_istore_n (lv' := [(2, .int 1), (0, .ref (ad 0)), (1, .int x1), (3, .int x3), (4, .int x4), (5, .int x5), (6, .int x6)]) hx hb dX55_passes_178 rfl hl (by decide) rfl (fun ls hl => ?_)
        have hq_55 := hw.1
        have hw := hw.2
        obtain ⟨x3_54, ex3_54⟩ : ∃ y : Int32, y = x3 + 1 := ⟨_, rfl⟩
        have hw := hw x3_54.toInt (by rw [ex3_54]; exact (z_x (z_add (z_m (rfl : x3.toInt = _)) (z_m (rfl : (1 : Int32).toInt = 1))) hq_55))
        refine lv_iinc (v := x3_54) (lv' := [(3, .int x3_54), (2, .int 1), (0, .ref (ad 0)), (1, .int x1), (4, .int x4), (5, .int x5), (6, .int x6)]) hx hb dX55_passes_179 hl (k := 3) rfl (by rw [ex3_54]; rfl) (by decide) rfl (fun ls hl => ?_)
        refine lv_goto (tgt := 4) hx hb dX55_passes_182 (by decide) ?_
        exact hk4 1 x3_54 hw _ _ ls hH (lv_sub hl [2, 3, 1, 0] rfl)
set_option maxHeartbeats 4000000 in
theorem atX55_passes_4 {p : Program} {l : Launch} {e : Env} {s : State} {m : MethodId} {args : Array Value} {below : List Frame} {meth : Method} {c : Code} {dC : Nat → ClassId} {dI : Nat → Nat → Nat} {cl : List vw_C} {ci : Nat} (hc : cl[ci]? = some (RX55, TX55, 28)) {ad : Nat → Nat} {d : Nat → ClassId} {A : Nat → Prop} {post : Int → Prop} {f_said : Nat → Int32} {f_heads : Nat → Int32} {f_kinds : Nat → Int32} {f_folded : Nat → Int32} {f_lengths : Nat → Int32} {f_parts : Nat → Int32} {f_rules : Int32} {f_known : Int32} {f_rounds : Nat → Int32} {f_given : Nat → Int32} {f_strata : Nat → Int32} {f_circle : Int32} {f_turns : Int32} {f_needs : Nat → Int32} {f_comes : Nat → Int32} {f_values : Nat → Int32} {f_plain : Nat → Int32} {f_plainCount : Int32} {f_pointers : Nat → Int32} {f_now : Int32} {f_fresh : Nat → Int32} {f_many : Nat → Int32} {f_sums : Nat → Int32} {f_lows : Nat → Int32} {f_highs : Nat → Int32} {f_layed : Int32} {f_worked : Int64} {f_large : Int32} (X : kX p s m args meth c cX55_passes 7 RX55 (some .boolean) (dC, dI) cl (tX55 d)) {K185 : Int → Prop} {x1 : Int32}  (hk185 : ∀ (x2 : Int32), K185 x2.toInt → ∀ (H : Heap) (locs : List Loc) (ls : Array Slot), kH (dC, dI) cl A s.heap H locs (wX55 ci ad d f_said f_heads f_kinds f_folded f_lengths f_parts f_rules f_known f_rounds f_given f_strata f_circle f_turns f_needs f_comes f_values f_plain f_plainCount f_pointers f_now f_fresh f_many f_sums f_lows f_highs f_layed f_worked f_large) → lv_has ls 7 [(2, .int x2)] → W p l e ({ frames := 1, cells := 0, slots := 0, locals := 22 } : Room) s m args below meth c H locs 0 0 (MQ below (va_Qi (fun (r : Int32) (_ : Unit) => post r.toInt) (kB (dC, dI) cl (tX55 d) A (fun _ : Unit => (wX55 ci ad d f_said f_heads f_kinds f_folded f_lengths f_parts f_rules f_known f_rounds f_given f_strata f_circle f_turns f_needs f_comes f_values f_plain f_plainCount f_pointers f_now f_fresh f_many f_sums f_lows f_highs f_layed f_worked f_large))) A) args s 0 0 A) (F0 m 185 ls [])) :
    ∀ (nn : Nat) (x2 : Int32) (x3 : Int32), wX55_passes_4 K185 x1.toInt (zF f_lengths) (zF f_parts) (zF f_rounds) (zF f_values) f_now.toInt (zF f_fresh) nn x2.toInt x3.toInt → ∀ (H : Heap) (locs : List Loc) (ls : Array Slot), kH (dC, dI) cl A s.heap H locs (wX55 ci ad d f_said f_heads f_kinds f_folded f_lengths f_parts f_rules f_known f_rounds f_given f_strata f_circle f_turns f_needs f_comes f_values f_plain f_plainCount f_pointers f_now f_fresh f_many f_sums f_lows f_highs f_layed f_worked f_large) → lv_has ls 7 [(0, .ref (ad 0)), (1, .int x1), (2, .int x2), (3, .int x3)] → W p l e ({ frames := 1, cells := 0, slots := 0, locals := 22 } : Room) s m args below meth c H locs 0 0 (MQ below (va_Qi (fun (r : Int32) (_ : Unit) => post r.toInt) (kB (dC, dI) cl (tX55 d) A (fun _ : Unit => (wX55 ci ad d f_said f_heads f_kinds f_folded f_lengths f_parts f_rules f_known f_rounds f_given f_strata f_circle f_turns f_needs f_comes f_values f_plain f_plainCount f_pointers f_now f_fresh f_many f_sums f_lows f_highs f_layed f_worked f_large))) A) args s 0 0 A) (F0 m 4 ls []) := by
  have hx := X.1.1
  have hb := X.1.2.1
  intro nn
  induction nn with
  | zero =>
    intro x2 x3 hw
    exact False.elim hw
  | succ n ih =>
    intro x2 x3 hw H locs ls hH hl
    rw [wX55_passes_4] at hw
    refine lv_iload_n hx hb dX55_passes_4 rfl (lv_at hl 3 rfl) ?_
    refine lv_aload_n hx hb dX55_passes_5 rfl (lv_at hl 0 rfl) ?_
    refine k_get X hH in_X55 0 rfl hc 4 (by decide) q6580 rfl dX55_passes_6 ?_
    refine lv_iload_n hx hb dX55_passes_9 rfl (lv_at hl 1 rfl) ?_
    have hq_1 := hw.1
    have hw := hw.2
    refine k_iald X hH 5 4 rfl rfl (z_in (rfl : x1.toInt = _) hq_1) dX55_passes_10 ?_
    have e_2 := z_ld (f := f_lengths) (rfl : x1.toInt = _) hq_1.1
    refine lv_icmp_ge (tgt := 185) hx hb dX55_passes_11 (by decide) (fun c_3 => ?_) (fun c_3 => ?_)
    · have hw := hw.1 (z_le e_2 (rfl : x3.toInt = _) c_3)
      exact hk185 x2 hw _ _ ls hH (lv_sub hl [2] rfl)
    · have hw := hw.2 (z_nle e_2 (rfl : x3.toInt = _) c_3)
      refine lv_iload_n hx hb dX55_passes_14 rfl (lv_at hl 2 rfl) ?_
      refine lv_if_eq (tgt := 185) hx hb dX55_passes_15 (by decide) (fun c_4 => ?_) (fun c_4 => ?_)
      · have hw := hw.1 (z_eq (rfl : x2.toInt = _) (rfl : (0 : Int32).toInt = 0) c_4)
        exact hk185 x2 hw _ _ ls hH (lv_sub hl [2] rfl)
      · have hw := hw.2 (z_neq (rfl : x2.toInt = _) (rfl : (0 : Int32).toInt = 0) c_4)
        refine lv_bipush (v := 20) hx hb dX55_passes_18 (by decide) ?_
        refine lv_iload_n hx hb dX55_passes_20 rfl (lv_at hl 1 rfl) ?_
        refine lv_imul hx hb dX55_passes_21 ?_
        have e_5 := z_mul (z_m (rfl : (20 : Int32).toInt = 20)) (z_m (rfl : x1.toInt = _))
        refine lv_iconst (v := 4) hx hb dX55_passes_22 (by decide) ?_
        refine lv_iload_n hx hb dX55_passes_23 rfl (lv_at hl 3 rfl) ?_
        refine lv_imul hx hb dX55_passes_24 ?_
        have e_6 := z_mul (z_m (rfl : (4 : Int32).toInt = 4)) (z_m (rfl : x3.toInt = _))
        refine lv_iadd hx hb dX55_passes_25 ?_
        have e_7 := z_add e_5 e_6
        have hq_8 := hw.1
        have hw := hw.2
        have e_9 := z_x e_7 hq_8
        refine lv_topi (fun x4_10 ex4_10 => ?_)
        have hw := hw x4_10.toInt (by rw [ex4_10]; exact e_9)
        refine lv_istore (lv' := [(4, .int x4_10), (0, .ref (ad 0)), (1, .int x1), (2, .int x2), (3, .int x3)]) hx hb dX55_passes_26 hl (by decide) rfl (fun ls hl => ?_)
        refine lv_aload_n hx hb dX55_passes_28 rfl (lv_at hl 1 rfl) ?_
        refine lv_aload_n hx hb dX55_passes_29 rfl (lv_at hl 1 rfl) ?_
        refine k_get X hH in_X55 0 rfl hc 5 (by decide) q6581 rfl dX55_passes_30 ?_
        refine lv_iload hx hb dX55_passes_33 (lv_at hl 0 rfl) ?_
        refine lv_iconst (v := 2) hx hb dX55_passes_35 (by decide) ?_
        refine lv_iadd hx hb dX55_passes_36 ?_
        have e_11 := z_add (z_m (rfl : x4_10.toInt = _)) (z_m (rfl : (2 : Int32).toInt = 2))
        have hq_12 := hw.1
        have hw := hw.2
        have e_13 := z_xi e_11 hq_12 (by decide)
        refine k_iald X hH 6 5 rfl rfl (z_in e_13 hq_12) dX55_passes_37 ?_
        have e_14 := z_ld (f := f_parts) e_13 hq_12.1
        refine k_i0 hH (k_runV (As := [.int (f_parts (x4_10 + 2).toNatClampNeg)]) (rest := []) X hH.1 hH.2.1 X.2.2.2 (walkX55_valueOf hc (x1 := (f_parts (x4_10 + 2).toNatClampNeg)) (f_said := f_said) (f_heads := f_heads) (f_kinds := f_kinds) (f_folded := f_folded) (f_lengths := f_lengths) (f_parts := f_parts) (f_rules := f_rules) (f_known := f_known) (f_rounds := f_rounds) (f_given := f_given) (f_strata := f_strata) (f_circle := f_circle) (f_turns := f_turns) (f_needs := f_needs) (f_comes := f_comes) (f_values := f_values) (f_plain := f_plain) (f_plainCount := f_plainCount) (f_pointers := f_pointers) (f_now := f_now) (f_fresh := f_fresh) (f_many := f_many) (f_sums := f_sums) (f_lows := f_lows) (f_highs := f_highs) (f_layed := f_layed) (f_worked := f_worked) (f_large := f_large) (by rw [show (f_parts (x4_10 + 2).toNatClampNeg : Int32).toInt = _ from e_14]; exact hw)) (cwV 1 X.1.2.2.2.2 gX55_126 rfl rfl rfl hX55_valueOf ⟨Nat.le_of_ble_eq_true rfl, Nat.le_of_ble_eq_true rfl⟩) hc (q0 := 0) rfl rfl hl.1 rfl (Nat.le_of_ble_eq_true rfl) dX55_passes_38 ⟨Nat.le_refl 0, Nat.le_refl 0⟩) (fun r_15 _ H locs hw hH => ?_)
        have hH : kH (dC, dI) cl A s.heap H locs (wX55 ci ad d f_said f_heads f_kinds f_folded f_lengths f_parts f_rules f_known f_rounds f_given f_strata f_circle f_turns f_needs f_comes f_values f_plain f_plainCount f_pointers f_now f_fresh f_many f_sums f_lows f_highs f_layed f_worked f_large) := hH
        refine lv_istore (lv' := [(5, .int r_15), (4, .int x4_10), (0, .ref (ad 0)), (1, .int x1), (2, .int x2), (3, .int x3)]) hx hb dX55_passes_41 hl (by decide) rfl (fun ls hl => ?_)
        refine lv_aload_n hx hb dX55_passes_43 rfl (lv_at hl 2 rfl) ?_
        refine lv_aload_n hx hb dX55_passes_44 rfl (lv_at hl 2 rfl) ?_
        refine k_get X hH in_X55 0 rfl hc 5 (by decide) q6581 rfl dX55_passes_45 ?_
        refine lv_iload hx hb dX55_passes_48 (lv_at hl 1 rfl) ?_
        refine lv_iconst (v := 3) hx hb dX55_passes_50 (by decide) ?_
        refine lv_iadd hx hb dX55_passes_51 ?_
        have e_16 := z_add (z_m (rfl : x4_10.toInt = _)) (z_m (rfl : (3 : Int32).toInt = 3))
        have hq_17 := hw.1
        have hw := hw.2
        have e_18 := z_xi e_16 hq_17 (by decide)
        refine k_iald X hH 6 5 rfl rfl (z_in e_18 hq_17) dX55_passes_52 ?_
        have e_19 := z_ld (f := f_parts) e_18 hq_17.1
        refine k_i0 hH (k_runV (As := [.int (f_parts (x4_10 + 3).toNatClampNeg)]) (rest := []) X hH.1 hH.2.1 X.2.2.2 (walkX55_valueOf hc (x1 := (f_parts (x4_10 + 3).toNatClampNeg)) (f_said := f_said) (f_heads := f_heads) (f_kinds := f_kinds) (f_folded := f_folded) (f_lengths := f_lengths) (f_parts := f_parts) (f_rules := f_rules) (f_known := f_known) (f_rounds := f_rounds) (f_given := f_given) (f_strata := f_strata) (f_circle := f_circle) (f_turns := f_turns) (f_needs := f_needs) (f_comes := f_comes) (f_values := f_values) (f_plain := f_plain) (f_plainCount := f_plainCount) (f_pointers := f_pointers) (f_now := f_now) (f_fresh := f_fresh) (f_many := f_many) (f_sums := f_sums) (f_lows := f_lows) (f_highs := f_highs) (f_layed := f_layed) (f_worked := f_worked) (f_large := f_large) (by rw [show (f_parts (x4_10 + 3).toNatClampNeg : Int32).toInt = _ from e_19]; exact hw)) (cwV 1 X.1.2.2.2.2 gX55_126 rfl rfl rfl hX55_valueOf ⟨Nat.le_of_ble_eq_true rfl, Nat.le_of_ble_eq_true rfl⟩) hc (q0 := 0) rfl rfl hl.1 rfl (Nat.le_of_ble_eq_true rfl) dX55_passes_53 ⟨Nat.le_refl 0, Nat.le_refl 0⟩) (fun r_20 _ H locs hw hH => ?_)
        have hH : kH (dC, dI) cl A s.heap H locs (wX55 ci ad d f_said f_heads f_kinds f_folded f_lengths f_parts f_rules f_known f_rounds f_given f_strata f_circle f_turns f_needs f_comes f_values f_plain f_plainCount f_pointers f_now f_fresh f_many f_sums f_lows f_highs f_layed f_worked f_large) := hH
        refine lv_istore (lv' := [(6, .int r_20), (5, .int r_15), (4, .int x4_10), (0, .ref (ad 0)), (1, .int x1), (2, .int x2), (3, .int x3)]) hx hb dX55_passes_56 hl (by decide) rfl (fun ls hl => ?_)
        refine lv_aload_n hx hb dX55_passes_58 rfl (lv_at hl 3 rfl) ?_
        refine k_get X hH in_X55 0 rfl hc 5 (by decide) q6581 rfl dX55_passes_59 ?_
        refine lv_iload hx hb dX55_passes_62 (lv_at hl 2 rfl) ?_
        have hq_21 := hw.1
        have hw := hw.2
        refine k_iald X hH 6 5 rfl rfl (z_in (rfl : x4_10.toInt = _) hq_21) dX55_passes_64 ?_
        have e_22 := z_ld (f := f_parts) (rfl : x4_10.toInt = _) hq_21.1
        refine lv_iconst (v := 1) hx hb dX55_passes_65 (by decide) ?_
        refine lv_icmp_ne (tgt := 98) hx hb dX55_passes_66 (by decide) (fun c_23 => ?_) (fun c_23 => ?_)
        · have hw := hw.2 (z_ne e_22 (rfl : (1 : Int32).toInt = 1) c_23)
          exact atX55_passes_98 hc X (fun x2 x3 hw H locs ls hH hl => ih x2 x3 hw _ _ ls hH (lv_sub hl [0, 1, 2, 3] rfl)) x2 x3 x4_10 r_15 r_20 hw _ _ ls hH (lv_sub hl [3, 4, 5, 6, 2, 1, 0] rfl)
        · have hw := hw.1 (z_eq e_22 (rfl : (1 : Int32).toInt = 1) c_23)
          refine lv_aload_n hx hb dX55_passes_69 rfl (lv_at hl 3 rfl) ?_
          refine lv_aload_n hx hb dX55_passes_70 rfl (lv_at hl 3 rfl) ?_
          refine k_get X hH in_X55 0 rfl hc 5 (by decide) q6581 rfl dX55_passes_71 ?_
          refine lv_iload hx hb dX55_passes_74 (lv_at hl 2 rfl) ?_
          refine lv_iconst (v := 1) hx hb dX55_passes_76 (by decide) ?_
          refine lv_iadd hx hb dX55_passes_77 ?_
          have e_56 := z_add (z_m (rfl : x4_10.toInt = _)) (z_m (rfl : (1 : Int32).toInt = 1))
          have hq_57 := hw.1
          have hw := hw.2
          have e_58 := z_xi e_56 hq_57 (by decide)
          refine k_iald X hH 6 5 rfl rfl (z_in e_58 hq_57) dX55_passes_78 ?_
          have e_59 := z_ld (f := f_parts) e_58 hq_57.1
          refine lv_iload hx hb dX55_passes_79 (lv_at hl 1 rfl) ?_
          refine lv_iload hx hb dX55_passes_81 (lv_at hl 0 rfl) ?_
          refine k_i0 hH (k_runS (As := [.int (f_parts (x4_10 + 1).toNatClampNeg), .int r_15, .int r_20]) (rest := [.ref (ad 0)]) X hH.1 hH.2.1 X.2.2.2 (walkX55_code hc (x0 := (f_parts (x4_10 + 1).toNatClampNeg)) (x1 := r_15) (x2 := r_20) (f_said := f_said) (f_heads := f_heads) (f_kinds := f_kinds) (f_folded := f_folded) (f_lengths := f_lengths) (f_parts := f_parts) (f_rules := f_rules) (f_known := f_known) (f_rounds := f_rounds) (f_given := f_given) (f_strata := f_strata) (f_circle := f_circle) (f_turns := f_turns) (f_needs := f_needs) (f_comes := f_comes) (f_values := f_values) (f_plain := f_plain) (f_plainCount := f_plainCount) (f_pointers := f_pointers) (f_now := f_now) (f_fresh := f_fresh) (f_many := f_many) (f_sums := f_sums) (f_lows := f_lows) (f_highs := f_highs) (f_layed := f_layed) (f_worked := f_worked) (f_large := f_large) (by rw [show (f_parts (x4_10 + 1).toNatClampNeg : Int32).toInt = _ from e_59]; exact hw)) (va_cwS 3 X.1.2.2.2.2 gX55_79 rfl rfl rfl hX55_code ⟨Nat.le_of_ble_eq_true rfl, Nat.le_of_ble_eq_true rfl⟩) rfl hl.1 rfl (Nat.le_of_ble_eq_true rfl) dX55_passes_83 ⟨Nat.le_refl 0, Nat.le_refl 0⟩) (fun r_60 _ H locs hw hH => ?_)
          have hH : kH (dC, dI) cl A s.heap H locs (wX55 ci ad d f_said f_heads f_kinds f_folded f_lengths f_parts f_rules f_known f_rounds f_given f_strata f_circle f_turns f_needs f_comes f_values f_plain f_plainCount f_pointers f_now f_fresh f_many f_sums f_lows f_highs f_layed f_worked f_large) := hH
          refine k_i0 hH (k_runV (As := [.int r_60]) (rest := []) X hH.1 hH.2.1 X.2.2.2 (walkX55_isOld hc (x1 := r_60) (f_said := f_said) (f_heads := f_heads) (f_kinds := f_kinds) (f_folded := f_folded) (f_lengths := f_lengths) (f_parts := f_parts) (f_rules := f_rules) (f_known := f_known) (f_rounds := f_rounds) (f_given := f_given) (f_strata := f_strata) (f_circle := f_circle) (f_turns := f_turns) (f_needs := f_needs) (f_comes := f_comes) (f_values := f_values) (f_plain := f_plain) (f_plainCount := f_plainCount) (f_pointers := f_pointers) (f_now := f_now) (f_fresh := f_fresh) (f_many := f_many) (f_sums := f_sums) (f_lows := f_lows) (f_highs := f_highs) (f_layed := f_layed) (f_worked := f_worked) (f_large := f_large) hw) (cwV 1 X.1.2.2.2.2 gX55_123 rfl rfl rfl hX55_isOld ⟨Nat.le_of_ble_eq_true rfl, Nat.le_of_ble_eq_true rfl⟩) hc (q0 := 0) rfl rfl hl.1 rfl (Nat.le_of_ble_eq_true rfl) dX55_passes_86 ⟨Nat.le_refl 0, Nat.le_refl 0⟩) (fun r_61 _ H locs hw hH => ?_)
          have hH : kH (dC, dI) cl A s.heap H locs (wX55 ci ad d f_said f_heads f_kinds f_folded f_lengths f_parts f_rules f_known f_rounds f_given f_strata f_circle f_turns f_needs f_comes f_values f_plain f_plainCount f_pointers f_now f_fresh f_many f_sums f_lows f_highs f_layed f_worked f_large) := hH
          refine lv_if_ne (tgt := 96) hx hb dX55_passes_89 (by decide) (fun c_62 => ?_) (fun c_62 => ?_)
          · have hw := hw.2 (z_ne (rfl : r_61.toInt = _) (rfl : (0 : Int32).toInt = 0) c_62)
            refine lv_iconst (v := 0) hx hb dX55_passes_96 (by decide) ?_
            refine lv_istore_n (lv' := [(2, .int 0), (6, .int r_20), (5, .int r_15), (4, .int x4_10), (0, .ref (ad 0)), (1, .int x1), (3, .int x3)]) hx hb dX55_passes_97 rfl hl (by decide) rfl (fun ls hl => ?_)
            exact atX55_passes_98 hc X (fun x2 x3 hw H locs ls hH hl => ih x2 x3 hw _ _ ls hH (lv_sub hl [0, 1, 2, 3] rfl)) 0 x3 x4_10 r_15 r_20 hw _ _ ls hH (lv_sub hl [4, 5, 0, 6, 3, 2, 1] rfl)
          · have hw := hw.1 (z_eq (rfl : r_61.toInt = _) (rfl : (0 : Int32).toInt = 0) c_62)
            refine lv_iconst (v := 1) hx hb dX55_passes_92 (by decide) ?_
            refine lv_goto (tgt := 97) hx hb dX55_passes_93 (by decide) ?_
            refine lv_istore_n (lv' := [(2, .int 1), (6, .int r_20), (5, .int r_15), (4, .int x4_10), (0, .ref (ad 0)), (1, .int x1), (3, .int x3)]) hx hb dX55_passes_97 rfl hl (by decide) rfl (fun ls hl => ?_)
            exact atX55_passes_98 hc X (fun x2 x3 hw H locs ls hH hl => ih x2 x3 hw _ _ ls hH (lv_sub hl [0, 1, 2, 3] rfl)) 1 x3 x4_10 r_15 r_20 hw _ _ ls hH (lv_sub hl [4, 5, 0, 6, 3, 2, 1] rfl)
set_option maxHeartbeats 4000000 in
theorem walkX55_passes {l : Launch} {dC : Nat → ClassId} {dI : Nat → Nat → Nat} {cl : List vw_C} {ci : Nat} (hc : cl[ci]? = some (RX55, TX55, 28)) {ad : Nat → Nat} {d : Nat → ClassId} {sz : Nat} {f_said : Nat → Int32} {f_heads : Nat → Int32} {f_kinds : Nat → Int32} {f_folded : Nat → Int32} {f_lengths : Nat → Int32} {f_parts : Nat → Int32} {f_rules : Int32} {f_known : Int32} {f_rounds : Nat → Int32} {f_given : Nat → Int32} {f_strata : Nat → Int32} {f_circle : Int32} {f_turns : Int32} {f_needs : Nat → Int32} {f_comes : Nat → Int32} {f_values : Nat → Int32} {f_plain : Nat → Int32} {f_plainCount : Int32} {f_pointers : Nat → Int32} {f_now : Int32} {f_fresh : Nat → Int32} {f_many : Nat → Int32} {f_sums : Nat → Int32} {f_lows : Nat → Int32} {f_highs : Nat → Int32} {f_layed : Int32} {f_worked : Int64} {f_large : Int32} {x1 : Int32} {post : Int → Prop} (hw : wpX55_passes post (zF f_lengths) (zF f_parts) (zF f_rounds) (zF f_values) f_now.toInt (zF f_fresh) x1.toInt) :
    Met l yX55_passes (ws_ yX55_passes cX55_passes 7 (some .boolean)) ({ frames := 1, cells := 0, slots := 0, locals := 22 } : Room) (kPc (dC, dI) cl (tX55 d) [.ref (ad 0), .int x1] sz (wX55 ci ad d f_said f_heads f_kinds f_folded f_lengths f_parts f_rules f_known f_rounds f_given f_strata f_circle f_turns f_needs f_comes f_values f_plain f_plainCount f_pointers f_now f_fresh f_many f_sums f_lows f_highs f_layed f_worked f_large)) (va_Qi (fun (r : Int32) (_ : Unit) => post r.toInt) (kB (dC, dI) cl (tX55 d) (va_A (wX55 ci ad d f_said f_heads f_kinds f_folded f_lengths f_parts f_rules f_known f_rounds f_given f_strata f_circle f_turns f_needs f_comes f_values f_plain f_plainCount f_pointers f_now f_fresh f_many f_sums f_lows f_highs f_layed f_worked f_large) sz) (fun _ : Unit => (wX55 ci ad d f_said f_heads f_kinds f_folded f_lengths f_parts f_rules f_known f_rounds f_given f_strata f_circle f_turns f_needs f_comes f_values f_plain f_plainCount f_pointers f_now f_fresh f_many f_sums f_lows f_highs f_layed f_worked f_large))) (va_A (wX55 ci ad d f_said f_heads f_kinds f_folded f_lengths f_parts f_rules f_known f_rounds f_given f_strata f_circle f_turns f_needs f_comes f_values f_plain f_plainCount f_pointers f_now f_fresh f_many f_sums f_lows f_highs f_layed f_worked f_large) sz)) 0 0 (va_A (wX55 ci ad d f_said f_heads f_kinds f_folded f_lengths f_parts f_rules f_known f_rounds f_given f_strata f_circle f_turns f_needs f_comes f_values f_plain f_plainCount f_pointers f_now f_fresh f_many f_sums f_lows f_highs f_layed f_worked f_large) sz) := by
  refine k_enter (by decide) (Nat.le_of_ble_eq_true rfl) ?_
  intro p e s m below meth c ls X hsz hH hl
  subst hsz
  generalize va_A (wX55 ci ad d f_said f_heads f_kinds f_folded f_lengths f_parts f_rules f_known f_rounds f_given f_strata f_circle f_turns f_needs f_comes f_values f_plain f_plainCount f_pointers f_now f_fresh f_many f_sums f_lows f_highs f_layed f_worked f_large) s.heap.size = A at hH ⊢
  have hx := X.1.1
  have hb := X.1.2.1
  have hl : lv_has ls 7 [(0, .ref (ad 0)), (1, .int x1)] := hl
  unfold wpX55_passes at hw
  refine lv_iconst (v := 1) hx hb dX55_passes_0 (by decide) ?_
  refine lv_istore_n (lv' := [(2, .int 1), (0, .ref (ad 0)), (1, .int x1)]) hx hb dX55_passes_1 rfl hl (by decide) rfl (fun ls hl => ?_)
  refine lv_iconst (v := 0) hx hb dX55_passes_2 (by decide) ?_
  refine lv_istore_n (lv' := [(3, .int 0), (2, .int 1), (0, .ref (ad 0)), (1, .int x1)]) hx hb dX55_passes_3 rfl hl (by decide) rfl (fun ls hl => ?_)
  obtain ⟨fu, hw⟩ := hw
  refine atX55_passes_4 hc X ?_ fu 1 0 hw _ _ ls hH (lv_sub hl [2, 3, 1, 0] rfl)
  · intro x2_63 hw H locs ls hH hl
    refine lv_iload_n hx hb dX55_passes_185 rfl (lv_at hl 0 rfl) ?_
    have hq_64 := hw.1
    have hw := hw.2
    exact k_iret (v := x2_63) X hH () hw rfl (k_zn (z_boolE (rfl : x2_63.toInt = _) hq_64)) dX55_passes_186
set_option maxHeartbeats 4000000 in
theorem atX55_next_93 {p : Program} {l : Launch} {e : Env} {s : State} {m : MethodId} {args : Array Value} {below : List Frame} {meth : Method} {c : Code} {dC : Nat → ClassId} {dI : Nat → Nat → Nat} {cl : List vw_C} {ci : Nat} (hc : cl[ci]? = some (RX55, TX55, 28)) {ad : Nat → Nat} {d : Nat → ClassId} {A : Nat → Prop} {post : Int → (Int → Int) → (Int → Int) → Prop} {f_said : Nat → Int32} {f_heads : Nat → Int32} {f_kinds : Nat → Int32} {f_folded : Nat → Int32} {f_lengths : Nat → Int32} {f_parts : Nat → Int32} {f_rules : Int32} {f_known : Int32} {f_rounds : Nat → Int32} {f_given : Nat → Int32} {f_strata : Nat → Int32} {f_circle : Int32} {f_turns : Int32} {f_needs : Nat → Int32} {f_comes : Nat → Int32} {f_plain : Nat → Int32} {f_plainCount : Int32} {f_now : Int32} {f_fresh : Nat → Int32} {f_many : Nat → Int32} {f_sums : Nat → Int32} {f_lows : Nat → Int32} {f_highs : Nat → Int32} {f_layed : Int32} {f_worked : Int64} {f_large : Int32} (X : kX p s m args meth c cX55_next 6 RX55 (some .boolean) (dC, dI) cl (tX55 d)) {K142 : Int → (Int → Int) → (Int → Int) → Prop} {x1 : Int32} {x3 : Int32} {x4 : Int32}  (hk142 : ∀ (x5 : Int32) (f_values : Nat → Int32) (f_pointers : Nat → Int32), K142 x5.toInt (zF f_values) (zF f_pointers) → ∀ (H : Heap) (locs : List Loc) (ls : Array Slot), kH (dC, dI) cl A s.heap H locs (wX55 ci ad d f_said f_heads f_kinds f_folded f_lengths f_parts f_rules f_known f_rounds f_given f_strata f_circle f_turns f_needs f_comes f_values f_plain f_plainCount f_pointers f_now f_fresh f_many f_sums f_lows f_highs f_layed f_worked f_large) → lv_has ls 6 [(0, .ref (ad 0)), (1, .int x1), (3, .int x3), (4, .int x4), (5, .int x5)] → W p l e ({ frames := 2, cells := 0, slots := 0, locals := 48 } : Room) s m args below meth c H locs 0 0 (MQ below (va_Qi (fun (r : Int32) (u : (Nat → Int32) × (Nat → Int32)) => post r.toInt (zF (u.1)) (zF (u.2))) (kB (dC, dI) cl (tX55 d) A (fun u : (Nat → Int32) × (Nat → Int32) => (wX55 ci ad d f_said f_heads f_kinds f_folded f_lengths f_parts f_rules f_known f_rounds f_given f_strata f_circle f_turns f_needs f_comes (u.1) f_plain f_plainCount (u.2) f_now f_fresh f_many f_sums f_lows f_highs f_layed f_worked f_large))) A) args s 0 0 A) (F0 m 142 ls [])) :
    ∀ (nn : Nat) (x5 : Int32) (f_values : Nat → Int32) (f_pointers : Nat → Int32), wX55_next_93 K142 x1.toInt x3.toInt x4.toInt (zF f_parts) (zF f_rounds) (zF f_plain) f_now.toInt (zF f_fresh) nn x5.toInt (zF f_values) (zF f_pointers) → ∀ (H : Heap) (locs : List Loc) (ls : Array Slot), kH (dC, dI) cl A s.heap H locs (wX55 ci ad d f_said f_heads f_kinds f_folded f_lengths f_parts f_rules f_known f_rounds f_given f_strata f_circle f_turns f_needs f_comes f_values f_plain f_plainCount f_pointers f_now f_fresh f_many f_sums f_lows f_highs f_layed f_worked f_large) → lv_has ls 6 [(0, .ref (ad 0)), (1, .int x1), (3, .int x3), (4, .int x4), (5, .int x5)] → W p l e ({ frames := 2, cells := 0, slots := 0, locals := 48 } : Room) s m args below meth c H locs 0 0 (MQ below (va_Qi (fun (r : Int32) (u : (Nat → Int32) × (Nat → Int32)) => post r.toInt (zF (u.1)) (zF (u.2))) (kB (dC, dI) cl (tX55 d) A (fun u : (Nat → Int32) × (Nat → Int32) => (wX55 ci ad d f_said f_heads f_kinds f_folded f_lengths f_parts f_rules f_known f_rounds f_given f_strata f_circle f_turns f_needs f_comes (u.1) f_plain f_plainCount (u.2) f_now f_fresh f_many f_sums f_lows f_highs f_layed f_worked f_large))) A) args s 0 0 A) (F0 m 93 ls []) := by
  have hx := X.1.1
  have hb := X.1.2.1
  intro nn
  induction nn with
  | zero =>
    intro x5 f_values f_pointers hw
    exact False.elim hw
  | succ n ih =>
    intro x5 f_values f_pointers hw H locs ls hH hl
    rw [wX55_next_93] at hw
    refine lv_iload hx hb dX55_next_93 (lv_at hl 4 rfl) ?_
    refine lv_sipush (v := 1024) hx hb dX55_next_95 (by decide) ?_
    refine lv_iload hx hb dX55_next_98 (lv_at hl 3 rfl) ?_
    refine lv_imul hx hb dX55_next_100 ?_
    have e_24 := z_mul (z_m (rfl : (1024 : Int32).toInt = 1024)) (z_m (rfl : x4.toInt = _))
    refine lv_sipush (v := 1024) hx hb dX55_next_101 (by decide) ?_
    refine lv_iadd hx hb dX55_next_104 ?_
    have e_25 := z_add e_24 (z_m (rfl : (1024 : Int32).toInt = 1024))
    have hq_27 := hw.1
    have hw := hw.2
    have e_28 := z_x e_25 hq_27
    refine lv_icmp_ge (tgt := 142) hx hb dX55_next_105 (by decide) (fun c_26 => ?_) (fun c_26 => ?_)
    · have hw := hw.1 (z_le e_28 (rfl : x5.toInt = _) c_26)
      exact hk142 x5 f_values f_pointers hw _ _ ls hH (lv_sub hl [0, 1, 2, 3, 4] rfl)
    · have hw := hw.2 (z_nle e_28 (rfl : x5.toInt = _) c_26)
      refine lv_aload_n hx hb dX55_next_108 rfl (lv_at hl 0 rfl) ?_
      refine lv_iload hx hb dX55_next_109 (lv_at hl 4 rfl) ?_
      refine k_i0 hH (k_runV (As := [.int x5]) (rest := []) X hH.1 hH.2.1 X.2.2.2 (walkX55_isOld hc (x1 := x5) (f_said := f_said) (f_heads := f_heads) (f_kinds := f_kinds) (f_folded := f_folded) (f_lengths := f_lengths) (f_parts := f_parts) (f_rules := f_rules) (f_known := f_known) (f_rounds := f_rounds) (f_given := f_given) (f_strata := f_strata) (f_circle := f_circle) (f_turns := f_turns) (f_needs := f_needs) (f_comes := f_comes) (f_values := f_values) (f_plain := f_plain) (f_plainCount := f_plainCount) (f_pointers := f_pointers) (f_now := f_now) (f_fresh := f_fresh) (f_many := f_many) (f_sums := f_sums) (f_lows := f_lows) (f_highs := f_highs) (f_layed := f_layed) (f_worked := f_worked) (f_large := f_large) hw) (cwV 1 X.1.2.2.2.2 gX55_123 rfl rfl rfl hX55_isOld ⟨Nat.le_of_ble_eq_true rfl, Nat.le_of_ble_eq_true rfl⟩) hc (q0 := 0) rfl rfl hl.1 rfl (Nat.le_of_ble_eq_true rfl) dX55_next_111 ⟨Nat.le_refl 0, Nat.le_refl 0⟩) (fun r_29 _ H locs hw hH => ?_)
      have hH : kH (dC, dI) cl A s.heap H locs (wX55 ci ad d f_said f_heads f_kinds f_folded f_lengths f_parts f_rules f_known f_rounds f_given f_strata f_circle f_turns f_needs f_comes f_values f_plain f_plainCount f_pointers f_now f_fresh f_many f_sums f_lows f_highs f_layed f_worked f_large) := hH
      refine lv_if_eq (tgt := 128) hx hb dX55_next_114 (by decide) (fun c_30 => ?_) (fun c_30 => ?_)
      · have hw := hw.1 (z_eq (rfl : r_29.toInt = _) (rfl : (0 : Int32).toInt = 0) c_30)
        have hq_32 := hw.1
        have hw := hw.2
        obtain ⟨x5_31, ex5_31⟩ : ∃ y : Int32, y = x5 + 1 := ⟨_, rfl⟩
        have hw := hw x5_31.toInt (by rw [ex5_31]; exact (z_x (z_add (z_m (rfl : x5.toInt = _)) (z_m (rfl : (1 : Int32).toInt = 1))) hq_32))
        refine lv_iinc (v := x5_31) (lv' := [(5, .int x5_31), (0, .ref (ad 0)), (1, .int x1), (3, .int x3), (4, .int x4)]) hx hb dX55_next_128 hl (k := 4) rfl (by rw [ex5_31]; rfl) (by decide) rfl (fun ls hl => ?_)
        refine lv_aload_n hx hb dX55_next_131 rfl (lv_at hl 1 rfl) ?_
        refine k_get X hH in_X55 0 rfl hc 18 (by decide) q6594 rfl dX55_next_132 ?_
        refine lv_iload_n hx hb dX55_next_135 rfl (lv_at hl 3 rfl) ?_
        refine lv_iload hx hb dX55_next_136 (lv_at hl 0 rfl) ?_
        have hq_34 := hw.1
        have hw := hw.2
        obtain ⟨f_pointers_33, ef_pointers_33⟩ : ∃ y : Nat → Int32, y = upd f_pointers x3.toNatClampNeg x5_31 := ⟨_, rfl⟩
        refine k_iast X hH 14 13 rfl rfl (z_in (rfl : x3.toInt = _) hq_34) dX55_next_138 ef_pointers_33 (ws1 := (wX55 ci ad d f_said f_heads f_kinds f_folded f_lengths f_parts f_rules f_known f_rounds f_given f_strata f_circle f_turns f_needs f_comes f_values f_plain f_plainCount f_pointers_33 f_now f_fresh f_many f_sums f_lows f_highs f_layed f_worked f_large)) rfl (fun H locs hH => ?_)
        have hw := hw (zF f_pointers_33) (by rw [ef_pointers_33]; exact z_st (f := f_pointers) (rfl : x3.toInt = _) hq_34.1 (rfl : x5_31.toInt = _))
        refine lv_goto (tgt := 93) hx hb dX55_next_139 (by decide) ?_
        exact ih x5_31 f_values f_pointers_33 hw _ _ ls hH (lv_sub hl [1, 2, 3, 4, 0] rfl)
      · have hw := hw.2 (z_neq (rfl : r_29.toInt = _) (rfl : (0 : Int32).toInt = 0) c_30)
        refine lv_aload_n hx hb dX55_next_117 rfl (lv_at hl 0 rfl) ?_
        refine lv_iload_n hx hb dX55_next_118 rfl (lv_at hl 1 rfl) ?_
        refine lv_iload_n hx hb dX55_next_119 rfl (lv_at hl 2 rfl) ?_
        refine lv_iconst (v := 1) hx hb dX55_next_120 (by decide) ?_
        refine lv_iadd hx hb dX55_next_121 ?_
        have e_35 := z_add (z_m (rfl : x3.toInt = _)) (z_m (rfl : (1 : Int32).toInt = 1))
        have hq_36 := hw.1
        have hw := hw.2
        have e_37 := z_x e_35 hq_36
        refine k_i0 hH (k_runV (As := [.int x1, .int (x3 + 1)]) (rest := []) X hH.1 hH.2.1 X.2.2.2 (walkX55_tell hc (x1 := x1) (x2 := (x3 + 1)) (f_said := f_said) (f_heads := f_heads) (f_kinds := f_kinds) (f_folded := f_folded) (f_lengths := f_lengths) (f_parts := f_parts) (f_rules := f_rules) (f_known := f_known) (f_rounds := f_rounds) (f_given := f_given) (f_strata := f_strata) (f_circle := f_circle) (f_turns := f_turns) (f_needs := f_needs) (f_comes := f_comes) (f_values := f_values) (f_plain := f_plain) (f_plainCount := f_plainCount) (f_pointers := f_pointers) (f_now := f_now) (f_fresh := f_fresh) (f_many := f_many) (f_sums := f_sums) (f_lows := f_lows) (f_highs := f_highs) (f_layed := f_layed) (f_worked := f_worked) (f_large := f_large) (by rw [show (x3 + 1 : Int32).toInt = _ from e_37]; exact hw)) (cwV 2 X.1.2.2.2.2 gX55_117 rfl rfl rfl hX55_tell ⟨Nat.le_of_ble_eq_true rfl, Nat.le_of_ble_eq_true rfl⟩) hc (q0 := 0) rfl rfl hl.1 rfl (Nat.le_of_ble_eq_true rfl) dX55_next_122 ⟨Nat.le_refl 0, Nat.le_refl 0⟩) (fun r_38 u H locs hw hH => ?_)
        obtain ⟨f_values_39, eu⟩ : ∃ z, z = u := ⟨_, rfl⟩
        subst eu
        have hH : kH (dC, dI) cl A s.heap H locs (wX55 ci ad d f_said f_heads f_kinds f_folded f_lengths f_parts f_rules f_known f_rounds f_given f_strata f_circle f_turns f_needs f_comes f_values_39 f_plain f_plainCount f_pointers f_now f_fresh f_many f_sums f_lows f_highs f_layed f_worked f_large) := hH
        refine lv_if_ne (tgt := 142) hx hb dX55_next_125 (by decide) (fun c_40 => ?_) (fun c_40 => ?_)
        · have hw := hw.2 (z_ne (rfl : r_38.toInt = _) (rfl : (0 : Int32).toInt = 0) c_40)
          exact hk142 x5 f_values_39 f_pointers hw _ _ ls hH (lv_sub hl [0, 1, 2, 3, 4] rfl)
        · have hw := hw.1 (z_eq (rfl : r_38.toInt = _) (rfl : (0 : Int32).toInt = 0) c_40)
          have hq_42 := hw.1
          have hw := hw.2
          obtain ⟨x5_41, ex5_41⟩ : ∃ y : Int32, y = x5 + 1 := ⟨_, rfl⟩
          have hw := hw x5_41.toInt (by rw [ex5_41]; exact (z_x (z_add (z_m (rfl : x5.toInt = _)) (z_m (rfl : (1 : Int32).toInt = 1))) hq_42))
          refine lv_iinc (v := x5_41) (lv' := [(5, .int x5_41), (0, .ref (ad 0)), (1, .int x1), (3, .int x3), (4, .int x4)]) hx hb dX55_next_128 hl (k := 4) rfl (by rw [ex5_41]; rfl) (by decide) rfl (fun ls hl => ?_)
          refine lv_aload_n hx hb dX55_next_131 rfl (lv_at hl 1 rfl) ?_
          refine k_get X hH in_X55 0 rfl hc 18 (by decide) q6594 rfl dX55_next_132 ?_
          refine lv_iload_n hx hb dX55_next_135 rfl (lv_at hl 3 rfl) ?_
          refine lv_iload hx hb dX55_next_136 (lv_at hl 0 rfl) ?_
          have hq_44 := hw.1
          have hw := hw.2
          obtain ⟨f_pointers_43, ef_pointers_43⟩ : ∃ y : Nat → Int32, y = upd f_pointers x3.toNatClampNeg x5_41 := ⟨_, rfl⟩
          refine k_iast X hH 14 13 rfl rfl (z_in (rfl : x3.toInt = _) hq_44) dX55_next_138 ef_pointers_43 (ws1 := (wX55 ci ad d f_said f_heads f_kinds f_folded f_lengths f_parts f_rules f_known f_rounds f_given f_strata f_circle f_turns f_needs f_comes f_values_39 f_plain f_plainCount f_pointers_43 f_now f_fresh f_many f_sums f_lows f_highs f_layed f_worked f_large)) rfl (fun H locs hH => ?_)
          have hw := hw (zF f_pointers_43) (by rw [ef_pointers_43]; exact z_st (f := f_pointers) (rfl : x3.toInt = _) hq_44.1 (rfl : x5_41.toInt = _))
          refine lv_goto (tgt := 93) hx hb dX55_next_139 (by decide) ?_
          exact ih x5_41 f_values_39 f_pointers_43 hw _ _ ls hH (lv_sub hl [1, 2, 3, 4, 0] rfl)
set_option maxHeartbeats 4000000 in
theorem atX55_next_142 {p : Program} {l : Launch} {e : Env} {s : State} {m : MethodId} {args : Array Value} {below : List Frame} {meth : Method} {c : Code} {dC : Nat → ClassId} {dI : Nat → Nat → Nat} {cl : List vw_C} {ci : Nat} (hc : cl[ci]? = some (RX55, TX55, 28)) {ad : Nat → Nat} {d : Nat → ClassId} {A : Nat → Prop} {post : Int → (Int → Int) → (Int → Int) → Prop} {f_said : Nat → Int32} {f_heads : Nat → Int32} {f_kinds : Nat → Int32} {f_folded : Nat → Int32} {f_lengths : Nat → Int32} {f_parts : Nat → Int32} {f_rules : Int32} {f_known : Int32} {f_rounds : Nat → Int32} {f_given : Nat → Int32} {f_strata : Nat → Int32} {f_circle : Int32} {f_turns : Int32} {f_needs : Nat → Int32} {f_comes : Nat → Int32} {f_plain : Nat → Int32} {f_plainCount : Int32} {f_now : Int32} {f_fresh : Nat → Int32} {f_many : Nat → Int32} {f_sums : Nat → Int32} {f_lows : Nat → Int32} {f_highs : Nat → Int32} {f_layed : Int32} {f_worked : Int64} {f_large : Int32} (X : kX p s m args meth c cX55_next 6 RX55 (some .boolean) (dC, dI) cl (tX55 d)) {K49 : Int → (Int → Int) → (Int → Int) → Prop} {K181 : (Int → Int) → (Int → Int) → Prop} {x1 : Int32}  (hk49 : ∀ (x3 : Int32) (f_values : Nat → Int32) (f_pointers : Nat → Int32), K49 x3.toInt (zF f_values) (zF f_pointers) → ∀ (H : Heap) (locs : List Loc) (ls : Array Slot), kH (dC, dI) cl A s.heap H locs (wX55 ci ad d f_said f_heads f_kinds f_folded f_lengths f_parts f_rules f_known f_rounds f_given f_strata f_circle f_turns f_needs f_comes f_values f_plain f_plainCount f_pointers f_now f_fresh f_many f_sums f_lows f_highs f_layed f_worked f_large) → lv_has ls 6 [(0, .ref (ad 0)), (1, .int x1), (3, .int x3)] → W p l e ({ frames := 2, cells := 0, slots := 0, locals := 48 } : Room) s m args below meth c H locs 0 0 (MQ below (va_Qi (fun (r : Int32) (u : (Nat → Int32) × (Nat → Int32)) => post r.toInt (zF (u.1)) (zF (u.2))) (kB (dC, dI) cl (tX55 d) A (fun u : (Nat → Int32) × (Nat → Int32) => (wX55 ci ad d f_said f_heads f_kinds f_folded f_lengths f_parts f_rules f_known f_rounds f_given f_strata f_circle f_turns f_needs f_comes (u.1) f_plain f_plainCount (u.2) f_now f_fresh f_many f_sums f_lows f_highs f_layed f_worked f_large))) A) args s 0 0 A) (F0 m 49 ls [])) (hk181 : ∀ (f_values : Nat → Int32) (f_pointers : Nat → Int32), K181 (zF f_values) (zF f_pointers) → ∀ (H : Heap) (locs : List Loc) (ls : Array Slot), kH (dC, dI) cl A s.heap H locs (wX55 ci ad d f_said f_heads f_kinds f_folded f_lengths f_parts f_rules f_known f_rounds f_given f_strata f_circle f_turns f_needs f_comes f_values f_plain f_plainCount f_pointers f_now f_fresh f_many f_sums f_lows f_highs f_layed f_worked f_large) → lv_has ls 6 [] → W p l e ({ frames := 2, cells := 0, slots := 0, locals := 48 } : Room) s m args below meth c H locs 0 0 (MQ below (va_Qi (fun (r : Int32) (u : (Nat → Int32) × (Nat → Int32)) => post r.toInt (zF (u.1)) (zF (u.2))) (kB (dC, dI) cl (tX55 d) A (fun u : (Nat → Int32) × (Nat → Int32) => (wX55 ci ad d f_said f_heads f_kinds f_folded f_lengths f_parts f_rules f_known f_rounds f_given f_strata f_circle f_turns f_needs f_comes (u.1) f_plain f_plainCount (u.2) f_now f_fresh f_many f_sums f_lows f_highs f_layed f_worked f_large))) A) args s 0 0 A) (F0 m 181 ls [])) :
    ∀ (x3 : Int32) (x4 : Int32) (x5 : Int32) (f_values : Nat → Int32) (f_pointers : Nat → Int32), wX55_next_142 K49 K181 x1.toInt x3.toInt x4.toInt x5.toInt (zF f_lengths) (zF f_parts) (zF f_rounds) (zF f_values) (zF f_plain) f_plainCount.toInt (zF f_pointers) f_now.toInt (zF f_fresh) → ∀ (H : Heap) (locs : List Loc) (ls : Array Slot), kH (dC, dI) cl A s.heap H locs (wX55 ci ad d f_said f_heads f_kinds f_folded f_lengths f_parts f_rules f_known f_rounds f_given f_strata f_circle f_turns f_needs f_comes f_values f_plain f_plainCount f_pointers f_now f_fresh f_many f_sums f_lows f_highs f_layed f_worked f_large) → lv_has ls 6 [(0, .ref (ad 0)), (1, .int x1), (3, .int x3), (4, .int x4), (5, .int x5)] → W p l e ({ frames := 2, cells := 0, slots := 0, locals := 48 } : Room) s m args below meth c H locs 0 0 (MQ below (va_Qi (fun (r : Int32) (u : (Nat → Int32) × (Nat → Int32)) => post r.toInt (zF (u.1)) (zF (u.2))) (kB (dC, dI) cl (tX55 d) A (fun u : (Nat → Int32) × (Nat → Int32) => (wX55 ci ad d f_said f_heads f_kinds f_folded f_lengths f_parts f_rules f_known f_rounds f_given f_strata f_circle f_turns f_needs f_comes (u.1) f_plain f_plainCount (u.2) f_now f_fresh f_many f_sums f_lows f_highs f_layed f_worked f_large))) A) args s 0 0 A) (F0 m 142 ls []) := by
  have hx := X.1.1
  have hb := X.1.2.1
  intro x3 x4 x5 f_values f_pointers hw H locs ls hH hl
  unfold wX55_next_142 at hw
  refine lv_iload hx hb dX55_next_142 (lv_at hl 4 rfl) ?_
  refine lv_sipush (v := 1024) hx hb dX55_next_144 (by decide) ?_
  refine lv_iload hx hb dX55_next_147 (lv_at hl 3 rfl) ?_
  refine lv_imul hx hb dX55_next_149 ?_
  have e_48 := z_mul (z_m (rfl : (1024 : Int32).toInt = 1024)) (z_m (rfl : x4.toInt = _))
  refine lv_sipush (v := 1024) hx hb dX55_next_150 (by decide) ?_
  refine lv_iadd hx hb dX55_next_153 ?_
  have e_49 := z_add e_48 (z_m (rfl : (1024 : Int32).toInt = 1024))
  have hq_51 := hw.1
  have hw := hw.2
  have e_52 := z_x e_49 hq_51
  refine lv_icmp_ne (tgt := 163) hx hb dX55_next_154 (by decide) (fun c_50 => ?_) (fun c_50 => ?_)
  · have hw := hw.2 (z_ne (rfl : x5.toInt = _) e_52 c_50)
    refine lv_iload_n hx hb dX55_next_163 rfl (lv_at hl 2 rfl) ?_
    refine lv_aload_n hx hb dX55_next_164 rfl (lv_at hl 0 rfl) ?_
    refine k_get X hH in_X55 0 rfl hc 17 (by decide) q6593 rfl dX55_next_165 ?_
    refine lv_iconst (v := 1) hx hb dX55_next_168 (by decide) ?_
    refine lv_isub hx hb dX55_next_169 ?_
    have e_53 := z_sub (z_m (rfl : f_plainCount.toInt = _)) (z_m (rfl : (1 : Int32).toInt = 1))
    have hq_55 := hw.1
    have hw := hw.2
    have e_56 := z_x e_53 hq_55
    refine lv_icmp_ne (tgt := 183) hx hb dX55_next_170 (by decide) (fun c_54 => ?_) (fun c_54 => ?_)
    · have hw := hw.2 (z_ne (rfl : x3.toInt = _) e_56 c_54)
      have hq_58 := hw.1
      have hw := hw.2
      obtain ⟨x3_57, ex3_57⟩ : ∃ y : Int32, y = x3 + 1 := ⟨_, rfl⟩
      have hw := hw x3_57.toInt (by rw [ex3_57]; exact (z_x (z_add (z_m (rfl : x3.toInt = _)) (z_m (rfl : (1 : Int32).toInt = 1))) hq_58))
      refine lv_iinc (v := x3_57) (lv' := [(3, .int x3_57), (0, .ref (ad 0)), (1, .int x1), (4, .int x4), (5, .int x5)]) hx hb dX55_next_183 hl (k := 2) rfl (by rw [ex3_57]; rfl) (by decide) rfl (fun ls hl => ?_)
      refine lv_aload_n hx hb dX55_next_186 rfl (lv_at hl 1 rfl) ?_
      refine k_get X hH in_X55 0 rfl hc 18 (by decide) q6594 rfl dX55_next_187 ?_
      refine lv_iload_n hx hb dX55_next_190 rfl (lv_at hl 0 rfl) ?_
      refine lv_sipush (v := 1024) hx hb dX55_next_191 (by decide) ?_
      refine lv_aload_n hx hb dX55_next_194 rfl (lv_at hl 1 rfl) ?_
      refine k_get X hH in_X55 0 rfl hc 5 (by decide) q6581 rfl dX55_next_195 ?_
      refine lv_bipush (v := 20) hx hb dX55_next_198 (by decide) ?_
      refine lv_iload_n hx hb dX55_next_200 rfl (lv_at hl 2 rfl) ?_
      refine lv_imul hx hb dX55_next_201 ?_
      have e_59 := z_mul (z_m (rfl : (20 : Int32).toInt = 20)) (z_m (rfl : x1.toInt = _))
      refine lv_iconst (v := 4) hx hb dX55_next_202 (by decide) ?_
      refine lv_aload_n hx hb dX55_next_203 rfl (lv_at hl 1 rfl) ?_
      refine k_get X hH in_X55 0 rfl hc 16 (by decide) q6592 rfl dX55_next_204 ?_
      refine lv_iload_n hx hb dX55_next_207 rfl (lv_at hl 0 rfl) ?_
      have hq_60 := hw.1
      have hw := hw.2
      refine k_iald X hH 13 12 rfl rfl (z_in (rfl : x3_57.toInt = _) hq_60) dX55_next_208 ?_
      have e_61 := z_ld (f := f_plain) (rfl : x3_57.toInt = _) hq_60.1
      refine lv_imul hx hb dX55_next_209 ?_
      have e_62 := z_mul (z_m (rfl : (4 : Int32).toInt = 4)) (z_m e_61)
      refine lv_iadd hx hb dX55_next_210 ?_
      have e_63 := z_add e_59 e_62
      refine lv_iconst (v := 1) hx hb dX55_next_211 (by decide) ?_
      refine lv_iadd hx hb dX55_next_212 ?_
      have e_64 := z_add e_63 (z_m (rfl : (1 : Int32).toInt = 1))
      have hq_65 := hw.1
      have hw := hw.2
      have e_66 := z_xi e_64 hq_65 (by decide)
      refine k_iald X hH 6 5 rfl rfl (z_in e_66 hq_65) dX55_next_213 ?_
      have e_67 := z_ld (f := f_parts) e_66 hq_65.1
      refine lv_imul hx hb dX55_next_214 ?_
      have e_68 := z_mul (z_m (rfl : (1024 : Int32).toInt = 1024)) (z_m e_67)
      refine lv_iconst (v := 1) hx hb dX55_next_215 (by decide) ?_
      refine lv_isub hx hb dX55_next_216 ?_
      have e_69 := z_sub e_68 (z_m (rfl : (1 : Int32).toInt = 1))
      have hq_70 := hw.1
      have hw := hw.2
      have e_71 := z_x e_69 hq_70
      refine lv_topi (fun v_72 ev_72 => ?_)
      have hw := hw v_72.toInt (by rw [ev_72]; exact e_71)
      obtain ⟨f_pointers_73, ef_pointers_73⟩ : ∃ y : Nat → Int32, y = upd f_pointers x3_57.toNatClampNeg v_72 := ⟨_, rfl⟩
      refine k_iast X hH 14 13 rfl rfl (z_in (rfl : x3_57.toInt = _) hq_60) dX55_next_217 ef_pointers_73 (ws1 := (wX55 ci ad d f_said f_heads f_kinds f_folded f_lengths f_parts f_rules f_known f_rounds f_given f_strata f_circle f_turns f_needs f_comes f_values f_plain f_plainCount f_pointers_73 f_now f_fresh f_many f_sums f_lows f_highs f_layed f_worked f_large)) rfl (fun H locs hH => ?_)
      have hw := hw (zF f_pointers_73) (by rw [ef_pointers_73]; exact z_st (f := f_pointers) (rfl : x3_57.toInt = _) hq_60.1 (rfl : v_72.toInt = _))
      refine lv_goto (tgt := 49) hx hb dX55_next_218 (by decide) ?_
      exact hk49 x3_57 f_values f_pointers_73 hw _ _ ls hH (lv_sub hl [1, 2, 0] rfl)
    · have hw := hw.1 (z_eq (rfl : x3.toInt = _) e_56 c_54)
      refine lv_aload_n hx hb dX55_next_173 rfl (lv_at hl 0 rfl) ?_
      refine lv_iload_n hx hb dX55_next_174 rfl (lv_at hl 1 rfl) ?_
      refine k_i0 hH (k_runV (As := [.int x1]) (rest := []) X hH.1 hH.2.1 X.2.2.2 (walkX55_passes hc (x1 := x1) (f_said := f_said) (f_heads := f_heads) (f_kinds := f_kinds) (f_folded := f_folded) (f_lengths := f_lengths) (f_parts := f_parts) (f_rules := f_rules) (f_known := f_known) (f_rounds := f_rounds) (f_given := f_given) (f_strata := f_strata) (f_circle := f_circle) (f_turns := f_turns) (f_needs := f_needs) (f_comes := f_comes) (f_values := f_values) (f_plain := f_plain) (f_plainCount := f_plainCount) (f_pointers := f_pointers) (f_now := f_now) (f_fresh := f_fresh) (f_many := f_many) (f_sums := f_sums) (f_lows := f_lows) (f_highs := f_highs) (f_layed := f_layed) (f_worked := f_worked) (f_large := f_large) hw) (cwV 1 X.1.2.2.2.2 gX55_120 rfl rfl rfl hX55_passes ⟨Nat.le_of_ble_eq_true rfl, Nat.le_of_ble_eq_true rfl⟩) hc (q0 := 0) rfl rfl hl.1 rfl (Nat.le_of_ble_eq_true rfl) dX55_next_175 ⟨Nat.le_refl 0, Nat.le_refl 0⟩) (fun r_74 _ H locs hw hH => ?_)
      have hH : kH (dC, dI) cl A s.heap H locs (wX55 ci ad d f_said f_heads f_kinds f_folded f_lengths f_parts f_rules f_known f_rounds f_given f_strata f_circle f_turns f_needs f_comes f_values f_plain f_plainCount f_pointers f_now f_fresh f_many f_sums f_lows f_highs f_layed f_worked f_large) := hH
      refine lv_if_eq (tgt := 218) hx hb dX55_next_178 (by decide) (fun c_75 => ?_) (fun c_75 => ?_)
      · have hw := hw.1 (z_eq (rfl : r_74.toInt = _) (rfl : (0 : Int32).toInt = 0) c_75)
        refine lv_goto (tgt := 49) hx hb dX55_next_218 (by decide) ?_
        exact hk49 x3 f_values f_pointers hw _ _ ls hH (lv_sub hl [0, 1, 2] rfl)
      · have hw := hw.2 (z_neq (rfl : r_74.toInt = _) (rfl : (0 : Int32).toInt = 0) c_75)
        exact hk181 f_values f_pointers hw _ _ ls hH (lv_sub hl [] rfl)
  · have hw := hw.1 (z_eq (rfl : x5.toInt = _) e_52 c_50)
    have hq_77 := hw.1
    have hw := hw.2
    obtain ⟨x3_76, ex3_76⟩ : ∃ y : Int32, y = x3 + (-1) := ⟨_, rfl⟩
    have hw := hw x3_76.toInt (by rw [ex3_76]; exact (z_x (z_add (z_m (rfl : x3.toInt = _)) (z_m (rfl : ((-1) : Int32).toInt = (-1)))) hq_77))
    refine lv_iinc (v := x3_76) (lv' := [(3, .int x3_76), (0, .ref (ad 0)), (1, .int x1), (4, .int x4), (5, .int x5)]) hx hb dX55_next_157 hl (k := 2) rfl (by rw [ex3_76]; rfl) (by decide) rfl (fun ls hl => ?_)
    refine lv_goto (tgt := 218) hx hb dX55_next_160 (by decide) ?_
    refine lv_goto (tgt := 49) hx hb dX55_next_218 (by decide) ?_
    exact hk49 x3_76 f_values f_pointers hw _ _ ls hH (lv_sub hl [1, 2, 0] rfl)
set_option maxHeartbeats 4000000 in
theorem atX55_next_49 {p : Program} {l : Launch} {e : Env} {s : State} {m : MethodId} {args : Array Value} {below : List Frame} {meth : Method} {c : Code} {dC : Nat → ClassId} {dI : Nat → Nat → Nat} {cl : List vw_C} {ci : Nat} (hc : cl[ci]? = some (RX55, TX55, 28)) {ad : Nat → Nat} {d : Nat → ClassId} {A : Nat → Prop} {post : Int → (Int → Int) → (Int → Int) → Prop} {f_said : Nat → Int32} {f_heads : Nat → Int32} {f_kinds : Nat → Int32} {f_folded : Nat → Int32} {f_lengths : Nat → Int32} {f_parts : Nat → Int32} {f_rules : Int32} {f_known : Int32} {f_rounds : Nat → Int32} {f_given : Nat → Int32} {f_strata : Nat → Int32} {f_circle : Int32} {f_turns : Int32} {f_needs : Nat → Int32} {f_comes : Nat → Int32} {f_plain : Nat → Int32} {f_plainCount : Int32} {f_now : Int32} {f_fresh : Nat → Int32} {f_many : Nat → Int32} {f_sums : Nat → Int32} {f_lows : Nat → Int32} {f_highs : Nat → Int32} {f_layed : Int32} {f_worked : Int64} {f_large : Int32} (X : kX p s m args meth c cX55_next 6 RX55 (some .boolean) (dC, dI) cl (tX55 d)) {K181 : (Int → Int) → (Int → Int) → Prop} {K221 : (Int → Int) → (Int → Int) → Prop} {x1 : Int32}  (hk181 : ∀ (f_values : Nat → Int32) (f_pointers : Nat → Int32), K181 (zF f_values) (zF f_pointers) → ∀ (H : Heap) (locs : List Loc) (ls : Array Slot), kH (dC, dI) cl A s.heap H locs (wX55 ci ad d f_said f_heads f_kinds f_folded f_lengths f_parts f_rules f_known f_rounds f_given f_strata f_circle f_turns f_needs f_comes f_values f_plain f_plainCount f_pointers f_now f_fresh f_many f_sums f_lows f_highs f_layed f_worked f_large) → lv_has ls 6 [] → W p l e ({ frames := 2, cells := 0, slots := 0, locals := 48 } : Room) s m args below meth c H locs 0 0 (MQ below (va_Qi (fun (r : Int32) (u : (Nat → Int32) × (Nat → Int32)) => post r.toInt (zF (u.1)) (zF (u.2))) (kB (dC, dI) cl (tX55 d) A (fun u : (Nat → Int32) × (Nat → Int32) => (wX55 ci ad d f_said f_heads f_kinds f_folded f_lengths f_parts f_rules f_known f_rounds f_given f_strata f_circle f_turns f_needs f_comes (u.1) f_plain f_plainCount (u.2) f_now f_fresh f_many f_sums f_lows f_highs f_layed f_worked f_large))) A) args s 0 0 A) (F0 m 181 ls [])) (hk221 : ∀ (f_values : Nat → Int32) (f_pointers : Nat → Int32), K221 (zF f_values) (zF f_pointers) → ∀ (H : Heap) (locs : List Loc) (ls : Array Slot), kH (dC, dI) cl A s.heap H locs (wX55 ci ad d f_said f_heads f_kinds f_folded f_lengths f_parts f_rules f_known f_rounds f_given f_strata f_circle f_turns f_needs f_comes f_values f_plain f_plainCount f_pointers f_now f_fresh f_many f_sums f_lows f_highs f_layed f_worked f_large) → lv_has ls 6 [] → W p l e ({ frames := 2, cells := 0, slots := 0, locals := 48 } : Room) s m args below meth c H locs 0 0 (MQ below (va_Qi (fun (r : Int32) (u : (Nat → Int32) × (Nat → Int32)) => post r.toInt (zF (u.1)) (zF (u.2))) (kB (dC, dI) cl (tX55 d) A (fun u : (Nat → Int32) × (Nat → Int32) => (wX55 ci ad d f_said f_heads f_kinds f_folded f_lengths f_parts f_rules f_known f_rounds f_given f_strata f_circle f_turns f_needs f_comes (u.1) f_plain f_plainCount (u.2) f_now f_fresh f_many f_sums f_lows f_highs f_layed f_worked f_large))) A) args s 0 0 A) (F0 m 221 ls [])) :
    ∀ (nn : Nat) (x3 : Int32) (f_values : Nat → Int32) (f_pointers : Nat → Int32), wX55_next_49 K181 K221 x1.toInt (zF f_lengths) (zF f_parts) (zF f_rounds) (zF f_plain) f_plainCount.toInt f_now.toInt (zF f_fresh) nn x3.toInt (zF f_values) (zF f_pointers) → ∀ (H : Heap) (locs : List Loc) (ls : Array Slot), kH (dC, dI) cl A s.heap H locs (wX55 ci ad d f_said f_heads f_kinds f_folded f_lengths f_parts f_rules f_known f_rounds f_given f_strata f_circle f_turns f_needs f_comes f_values f_plain f_plainCount f_pointers f_now f_fresh f_many f_sums f_lows f_highs f_layed f_worked f_large) → lv_has ls 6 [(0, .ref (ad 0)), (1, .int x1), (3, .int x3)] → W p l e ({ frames := 2, cells := 0, slots := 0, locals := 48 } : Room) s m args below meth c H locs 0 0 (MQ below (va_Qi (fun (r : Int32) (u : (Nat → Int32) × (Nat → Int32)) => post r.toInt (zF (u.1)) (zF (u.2))) (kB (dC, dI) cl (tX55 d) A (fun u : (Nat → Int32) × (Nat → Int32) => (wX55 ci ad d f_said f_heads f_kinds f_folded f_lengths f_parts f_rules f_known f_rounds f_given f_strata f_circle f_turns f_needs f_comes (u.1) f_plain f_plainCount (u.2) f_now f_fresh f_many f_sums f_lows f_highs f_layed f_worked f_large))) A) args s 0 0 A) (F0 m 49 ls []) := by
  have hx := X.1.1
  have hb := X.1.2.1
  intro nn
  induction nn with
  | zero =>
    intro x3 f_values f_pointers hw
    exact False.elim hw
  | succ n ih =>
    intro x3 f_values f_pointers hw H locs ls hH hl
    rw [wX55_next_49] at hw
    refine lv_iload_n hx hb dX55_next_49 rfl (lv_at hl 2 rfl) ?_
    refine lv_if_lt (tgt := 221) hx hb dX55_next_50 (by decide) (fun c_7 => ?_) (fun c_7 => ?_)
    · have hw := hw.1 (z_lt (rfl : x3.toInt = _) (rfl : (0 : Int32).toInt = 0) c_7)
      exact hk221 f_values f_pointers hw _ _ ls hH (lv_sub hl [] rfl)
    · have hw := hw.2 (z_nlt (rfl : x3.toInt = _) (rfl : (0 : Int32).toInt = 0) c_7)
      refine lv_aload_n hx hb dX55_next_53 rfl (lv_at hl 0 rfl) ?_
      refine k_get X hH in_X55 0 rfl hc 5 (by decide) q6581 rfl dX55_next_54 ?_
      refine lv_bipush (v := 20) hx hb dX55_next_57 (by decide) ?_
      refine lv_iload_n hx hb dX55_next_59 rfl (lv_at hl 1 rfl) ?_
      refine lv_imul hx hb dX55_next_60 ?_
      have e_8 := z_mul (z_m (rfl : (20 : Int32).toInt = 20)) (z_m (rfl : x1.toInt = _))
      refine lv_iconst (v := 4) hx hb dX55_next_61 (by decide) ?_
      refine lv_aload_n hx hb dX55_next_62 rfl (lv_at hl 0 rfl) ?_
      refine k_get X hH in_X55 0 rfl hc 16 (by decide) q6592 rfl dX55_next_63 ?_
      refine lv_iload_n hx hb dX55_next_66 rfl (lv_at hl 2 rfl) ?_
      have hq_9 := hw.1
      have hw := hw.2
      refine k_iald X hH 13 12 rfl rfl (z_in (rfl : x3.toInt = _) hq_9) dX55_next_67 ?_
      have e_10 := z_ld (f := f_plain) (rfl : x3.toInt = _) hq_9.1
      refine lv_imul hx hb dX55_next_68 ?_
      have e_11 := z_mul (z_m (rfl : (4 : Int32).toInt = 4)) (z_m e_10)
      refine lv_iadd hx hb dX55_next_69 ?_
      have e_12 := z_add e_8 e_11
      refine lv_iconst (v := 1) hx hb dX55_next_70 (by decide) ?_
      refine lv_iadd hx hb dX55_next_71 ?_
      have e_13 := z_add e_12 (z_m (rfl : (1 : Int32).toInt = 1))
      have hq_14 := hw.1
      have hw := hw.2
      have e_15 := z_xi e_13 hq_14 (by decide)
      refine k_iald X hH 6 5 rfl rfl (z_in e_15 hq_14) dX55_next_72 ?_
      have e_16 := z_ld (f := f_parts) e_15 hq_14.1
      refine lv_topi (fun x4_17 ex4_17 => ?_)
      have hw := hw x4_17.toInt (by rw [ex4_17]; exact e_16)
      refine lv_istore (lv' := [(4, .int x4_17), (0, .ref (ad 0)), (1, .int x1), (3, .int x3)]) hx hb dX55_next_73 hl (by decide) rfl (fun ls hl => ?_)
      refine lv_aload_n hx hb dX55_next_75 rfl (lv_at hl 1 rfl) ?_
      refine k_get X hH in_X55 0 rfl hc 18 (by decide) q6594 rfl dX55_next_76 ?_
      refine lv_iload_n hx hb dX55_next_79 rfl (lv_at hl 3 rfl) ?_
      refine k_iald X hH 14 13 rfl rfl (z_in (rfl : x3.toInt = _) hq_9) dX55_next_80 ?_
      have e_18 := z_ld (f := f_pointers) (rfl : x3.toInt = _) hq_9.1
      refine lv_iconst (v := 1) hx hb dX55_next_81 (by decide) ?_
      refine lv_iadd hx hb dX55_next_82 ?_
      have e_19 := z_add (z_m e_18) (z_m (rfl : (1 : Int32).toInt = 1))
      have hq_20 := hw.1
      have hw := hw.2
      have e_21 := z_x e_19 hq_20
      refine lv_topi (fun x5_22 ex5_22 => ?_)
      have hw := hw x5_22.toInt (by rw [ex5_22]; exact e_21)
      refine lv_istore (lv' := [(5, .int x5_22), (4, .int x4_17), (0, .ref (ad 0)), (1, .int x1), (3, .int x3)]) hx hb dX55_next_83 hl (by decide) rfl (fun ls hl => ?_)
      refine lv_aload_n hx hb dX55_next_85 rfl (lv_at hl 2 rfl) ?_
      refine k_get X hH in_X55 0 rfl hc 18 (by decide) q6594 rfl dX55_next_86 ?_
      refine lv_iload_n hx hb dX55_next_89 rfl (lv_at hl 4 rfl) ?_
      refine lv_iload hx hb dX55_next_90 (lv_at hl 0 rfl) ?_
      obtain ⟨f_pointers_23, ef_pointers_23⟩ : ∃ y : Nat → Int32, y = upd f_pointers x3.toNatClampNeg x5_22 := ⟨_, rfl⟩
      refine k_iast X hH 14 13 rfl rfl (z_in (rfl : x3.toInt = _) hq_9) dX55_next_92 ef_pointers_23 (ws1 := (wX55 ci ad d f_said f_heads f_kinds f_folded f_lengths f_parts f_rules f_known f_rounds f_given f_strata f_circle f_turns f_needs f_comes f_values f_plain f_plainCount f_pointers_23 f_now f_fresh f_many f_sums f_lows f_highs f_layed f_worked f_large)) rfl (fun H locs hH => ?_)
      have hw := hw (zF f_pointers_23) (by rw [ef_pointers_23]; exact z_st (f := f_pointers) (rfl : x3.toInt = _) hq_9.1 (rfl : x5_22.toInt = _))
      obtain ⟨fu, hw⟩ := hw
      refine atX55_next_93 hc X ?_ fu x5_22 f_values f_pointers_23 hw _ _ ls hH (lv_sub hl [2, 3, 4, 1, 0] rfl)
      · intro x5_45 f_values_46 f_pointers_47 hw H locs ls hH hl
        exact atX55_next_142 hc X (fun x3 f_values f_pointers hw H locs ls hH hl => ih x3 f_values f_pointers hw _ _ ls hH (lv_sub hl [0, 1, 2] rfl)) hk181 x3 x4_17 x5_45 f_values_46 f_pointers_47 hw _ _ ls hH (lv_sub hl [0, 1, 2, 3, 4] rfl)
set_option maxHeartbeats 4000000 in
theorem walkX55_next {l : Launch} {dC : Nat → ClassId} {dI : Nat → Nat → Nat} {cl : List vw_C} {ci : Nat} (hc : cl[ci]? = some (RX55, TX55, 28)) {ad : Nat → Nat} {d : Nat → ClassId} {sz : Nat} {f_said : Nat → Int32} {f_heads : Nat → Int32} {f_kinds : Nat → Int32} {f_folded : Nat → Int32} {f_lengths : Nat → Int32} {f_parts : Nat → Int32} {f_rules : Int32} {f_known : Int32} {f_rounds : Nat → Int32} {f_given : Nat → Int32} {f_strata : Nat → Int32} {f_circle : Int32} {f_turns : Int32} {f_needs : Nat → Int32} {f_comes : Nat → Int32} {f_values : Nat → Int32} {f_plain : Nat → Int32} {f_plainCount : Int32} {f_pointers : Nat → Int32} {f_now : Int32} {f_fresh : Nat → Int32} {f_many : Nat → Int32} {f_sums : Nat → Int32} {f_lows : Nat → Int32} {f_highs : Nat → Int32} {f_layed : Int32} {f_worked : Int64} {f_large : Int32} {x1 : Int32} {x2 : Int32} {post : Int → (Int → Int) → (Int → Int) → Prop} (hw : wpX55_next post (zF f_lengths) (zF f_parts) (zF f_rounds) (zF f_values) (zF f_plain) f_plainCount.toInt (zF f_pointers) f_now.toInt (zF f_fresh) x1.toInt x2.toInt) :
    Met l yX55_next (ws_ yX55_next cX55_next 6 (some .boolean)) ({ frames := 2, cells := 0, slots := 0, locals := 48 } : Room) (kPc (dC, dI) cl (tX55 d) [.ref (ad 0), .int x1, .int x2] sz (wX55 ci ad d f_said f_heads f_kinds f_folded f_lengths f_parts f_rules f_known f_rounds f_given f_strata f_circle f_turns f_needs f_comes f_values f_plain f_plainCount f_pointers f_now f_fresh f_many f_sums f_lows f_highs f_layed f_worked f_large)) (va_Qi (fun (r : Int32) (u : (Nat → Int32) × (Nat → Int32)) => post r.toInt (zF (u.1)) (zF (u.2))) (kB (dC, dI) cl (tX55 d) (va_A (wX55 ci ad d f_said f_heads f_kinds f_folded f_lengths f_parts f_rules f_known f_rounds f_given f_strata f_circle f_turns f_needs f_comes f_values f_plain f_plainCount f_pointers f_now f_fresh f_many f_sums f_lows f_highs f_layed f_worked f_large) sz) (fun u : (Nat → Int32) × (Nat → Int32) => (wX55 ci ad d f_said f_heads f_kinds f_folded f_lengths f_parts f_rules f_known f_rounds f_given f_strata f_circle f_turns f_needs f_comes (u.1) f_plain f_plainCount (u.2) f_now f_fresh f_many f_sums f_lows f_highs f_layed f_worked f_large))) (va_A (wX55 ci ad d f_said f_heads f_kinds f_folded f_lengths f_parts f_rules f_known f_rounds f_given f_strata f_circle f_turns f_needs f_comes f_values f_plain f_plainCount f_pointers f_now f_fresh f_many f_sums f_lows f_highs f_layed f_worked f_large) sz)) 0 0 (va_A (wX55 ci ad d f_said f_heads f_kinds f_folded f_lengths f_parts f_rules f_known f_rounds f_given f_strata f_circle f_turns f_needs f_comes f_values f_plain f_plainCount f_pointers f_now f_fresh f_many f_sums f_lows f_highs f_layed f_worked f_large) sz) := by
  refine k_enter (by decide) (Nat.le_of_ble_eq_true rfl) ?_
  intro p e s m below meth c ls X hsz hH hl
  subst hsz
  generalize va_A (wX55 ci ad d f_said f_heads f_kinds f_folded f_lengths f_parts f_rules f_known f_rounds f_given f_strata f_circle f_turns f_needs f_comes f_values f_plain f_plainCount f_pointers f_now f_fresh f_many f_sums f_lows f_highs f_layed f_worked f_large) s.heap.size = A at hH ⊢
  have hx := X.1.1
  have hb := X.1.2.1
  have hl : lv_has ls 6 [(0, .ref (ad 0)), (1, .int x1), (2, .int x2)] := hl
  unfold wpX55_next at hw
  refine lv_aload_n hx hb dX55_next_0 rfl (lv_at hl 0 rfl) ?_
  refine k_get X hH in_X55 0 rfl hc 17 (by decide) q6593 rfl dX55_next_1 ?_
  refine lv_if_ne (tgt := 34) hx hb dX55_next_4 (by decide) (fun c_1 => ?_) (fun c_1 => ?_)
  · have hw := hw.2 (z_ne (rfl : f_plainCount.toInt = _) (rfl : (0 : Int32).toInt = 0) c_1)
    refine lv_iload_n hx hb dX55_next_34 rfl (lv_at hl 2 rfl) ?_
    refine lv_if_eq (tgt := 42) hx hb dX55_next_35 (by decide) (fun c_2 => ?_) (fun c_2 => ?_)
    · have hw := hw.1 (z_eq (rfl : x2.toInt = _) (rfl : (0 : Int32).toInt = 0) c_2)
      refine lv_aload_n hx hb dX55_next_42 rfl (lv_at hl 0 rfl) ?_
      refine k_get X hH in_X55 0 rfl hc 17 (by decide) q6593 rfl dX55_next_43 ?_
      refine lv_iconst (v := 1) hx hb dX55_next_46 (by decide) ?_
      refine lv_isub hx hb dX55_next_47 ?_
      have e_3 := z_sub (z_m (rfl : f_plainCount.toInt = _)) (z_m (rfl : (1 : Int32).toInt = 1))
      have hq_4 := hw.1
      have hw := hw.2
      have e_5 := z_x e_3 hq_4
      refine lv_topi (fun x3_6 ex3_6 => ?_)
      have hw := hw x3_6.toInt (by rw [ex3_6]; exact e_5)
      refine lv_istore_n (lv' := [(3, .int x3_6), (0, .ref (ad 0)), (1, .int x1), (2, .int x2)]) hx hb dX55_next_48 rfl hl (by decide) rfl (fun ls hl => ?_)
      obtain ⟨fu, hw⟩ := hw
      refine atX55_next_49 hc X ?_ ?_ fu x3_6 f_values f_pointers hw _ _ ls hH (lv_sub hl [1, 2, 0] rfl)
      · intro f_values_78 f_pointers_79 hw H locs ls hH hl
        refine lv_iconst (v := 1) hx hb dX55_next_181 (by decide) ?_
        exact k_iret (v := 1) X hH (f_values_78, f_pointers_79) hw rfl rfl dX55_next_182
      · intro f_values_80 f_pointers_81 hw H locs ls hH hl
        refine lv_iconst (v := 0) hx hb dX55_next_221 (by decide) ?_
        exact k_iret (v := 0) X hH (f_values_80, f_pointers_81) hw rfl rfl dX55_next_222
    · have hw := hw.2 (z_neq (rfl : x2.toInt = _) (rfl : (0 : Int32).toInt = 0) c_2)
      refine lv_iconst (v := 0) hx hb dX55_next_38 (by decide) ?_
      refine lv_goto (tgt := 48) hx hb dX55_next_39 (by decide) ?_
      refine lv_istore_n (lv' := [(3, .int 0), (0, .ref (ad 0)), (1, .int x1), (2, .int x2)]) hx hb dX55_next_48 rfl hl (by decide) rfl (fun ls hl => ?_)
      obtain ⟨fu, hw⟩ := hw
      refine atX55_next_49 hc X ?_ ?_ fu 0 f_values f_pointers hw _ _ ls hH (lv_sub hl [1, 2, 0] rfl)
      · intro f_values_82 f_pointers_83 hw H locs ls hH hl
        refine lv_iconst (v := 1) hx hb dX55_next_181 (by decide) ?_
        exact k_iret (v := 1) X hH (f_values_82, f_pointers_83) hw rfl rfl dX55_next_182
      · intro f_values_84 f_pointers_85 hw H locs ls hH hl
        refine lv_iconst (v := 0) hx hb dX55_next_221 (by decide) ?_
        exact k_iret (v := 0) X hH (f_values_84, f_pointers_85) hw rfl rfl dX55_next_222
  · have hw := hw.1 (z_eq (rfl : f_plainCount.toInt = _) (rfl : (0 : Int32).toInt = 0) c_1)
    refine lv_iload_n hx hb dX55_next_7 rfl (lv_at hl 2 rfl) ?_
    refine lv_if_eq (tgt := 32) hx hb dX55_next_8 (by decide) (fun c_86 => ?_) (fun c_86 => ?_)
    · have hw := hw.1 (z_eq (rfl : x2.toInt = _) (rfl : (0 : Int32).toInt = 0) c_86)
      refine lv_iconst (v := 0) hx hb dX55_next_32 (by decide) ?_
      exact k_iret (v := 0) X hH (f_values, f_pointers) hw rfl rfl dX55_next_33
    · have hw := hw.2 (z_neq (rfl : x2.toInt = _) (rfl : (0 : Int32).toInt = 0) c_86)
      refine lv_aload_n hx hb dX55_next_11 rfl (lv_at hl 0 rfl) ?_
      refine lv_iload_n hx hb dX55_next_12 rfl (lv_at hl 1 rfl) ?_
      refine lv_iconst (v := 0) hx hb dX55_next_13 (by decide) ?_
      refine k_i0 hH (k_runV (As := [.int x1, .int 0]) (rest := []) X hH.1 hH.2.1 X.2.2.2 (walkX55_tell hc (x1 := x1) (x2 := 0) (f_said := f_said) (f_heads := f_heads) (f_kinds := f_kinds) (f_folded := f_folded) (f_lengths := f_lengths) (f_parts := f_parts) (f_rules := f_rules) (f_known := f_known) (f_rounds := f_rounds) (f_given := f_given) (f_strata := f_strata) (f_circle := f_circle) (f_turns := f_turns) (f_needs := f_needs) (f_comes := f_comes) (f_values := f_values) (f_plain := f_plain) (f_plainCount := f_plainCount) (f_pointers := f_pointers) (f_now := f_now) (f_fresh := f_fresh) (f_many := f_many) (f_sums := f_sums) (f_lows := f_lows) (f_highs := f_highs) (f_layed := f_layed) (f_worked := f_worked) (f_large := f_large) hw) (cwV 2 X.1.2.2.2.2 gX55_117 rfl rfl rfl hX55_tell ⟨Nat.le_of_ble_eq_true rfl, Nat.le_of_ble_eq_true rfl⟩) hc (q0 := 0) rfl rfl hl.1 rfl (Nat.le_of_ble_eq_true rfl) dX55_next_14 ⟨Nat.le_refl 0, Nat.le_refl 0⟩) (fun r_87 u H locs hw hH => ?_)
      obtain ⟨f_values_88, eu⟩ : ∃ z, z = u := ⟨_, rfl⟩
      subst eu
      have hH : kH (dC, dI) cl A s.heap H locs (wX55 ci ad d f_said f_heads f_kinds f_folded f_lengths f_parts f_rules f_known f_rounds f_given f_strata f_circle f_turns f_needs f_comes f_values_88 f_plain f_plainCount f_pointers f_now f_fresh f_many f_sums f_lows f_highs f_layed f_worked f_large) := hH
      refine lv_if_eq (tgt := 32) hx hb dX55_next_17 (by decide) (fun c_89 => ?_) (fun c_89 => ?_)
      · have hw := hw.1 (z_eq (rfl : r_87.toInt = _) (rfl : (0 : Int32).toInt = 0) c_89)
        refine lv_iconst (v := 0) hx hb dX55_next_32 (by decide) ?_
        exact k_iret (v := 0) X hH (f_values_88, f_pointers) hw rfl rfl dX55_next_33
      · have hw := hw.2 (z_neq (rfl : r_87.toInt = _) (rfl : (0 : Int32).toInt = 0) c_89)
        refine lv_aload_n hx hb dX55_next_20 rfl (lv_at hl 0 rfl) ?_
        refine lv_iload_n hx hb dX55_next_21 rfl (lv_at hl 1 rfl) ?_
        refine k_i0 hH (k_runV (As := [.int x1]) (rest := []) X hH.1 hH.2.1 X.2.2.2 (walkX55_passes hc (x1 := x1) (f_said := f_said) (f_heads := f_heads) (f_kinds := f_kinds) (f_folded := f_folded) (f_lengths := f_lengths) (f_parts := f_parts) (f_rules := f_rules) (f_known := f_known) (f_rounds := f_rounds) (f_given := f_given) (f_strata := f_strata) (f_circle := f_circle) (f_turns := f_turns) (f_needs := f_needs) (f_comes := f_comes) (f_values := f_values_88) (f_plain := f_plain) (f_plainCount := f_plainCount) (f_pointers := f_pointers) (f_now := f_now) (f_fresh := f_fresh) (f_many := f_many) (f_sums := f_sums) (f_lows := f_lows) (f_highs := f_highs) (f_layed := f_layed) (f_worked := f_worked) (f_large := f_large) hw) (cwV 1 X.1.2.2.2.2 gX55_120 rfl rfl rfl hX55_passes ⟨Nat.le_of_ble_eq_true rfl, Nat.le_of_ble_eq_true rfl⟩) hc (q0 := 0) rfl rfl hl.1 rfl (Nat.le_of_ble_eq_true rfl) dX55_next_22 ⟨Nat.le_refl 0, Nat.le_refl 0⟩) (fun r_90 _ H locs hw hH => ?_)
        have hH : kH (dC, dI) cl A s.heap H locs (wX55 ci ad d f_said f_heads f_kinds f_folded f_lengths f_parts f_rules f_known f_rounds f_given f_strata f_circle f_turns f_needs f_comes f_values_88 f_plain f_plainCount f_pointers f_now f_fresh f_many f_sums f_lows f_highs f_layed f_worked f_large) := hH
        refine lv_if_eq (tgt := 32) hx hb dX55_next_25 (by decide) (fun c_91 => ?_) (fun c_91 => ?_)
        · have hw := hw.1 (z_eq (rfl : r_90.toInt = _) (rfl : (0 : Int32).toInt = 0) c_91)
          refine lv_iconst (v := 0) hx hb dX55_next_32 (by decide) ?_
          exact k_iret (v := 0) X hH (f_values_88, f_pointers) hw rfl rfl dX55_next_33
        · have hw := hw.2 (z_neq (rfl : r_90.toInt = _) (rfl : (0 : Int32).toInt = 0) c_91)
          refine lv_iconst (v := 1) hx hb dX55_next_28 (by decide) ?_
          refine lv_goto (tgt := 33) hx hb dX55_next_29 (by decide) ?_
          exact k_iret (v := 1) X hH (f_values_88, f_pointers) hw rfl rfl dX55_next_33
set_option maxHeartbeats 4000000 in
theorem walkX55_give {l : Launch} {dC : Nat → ClassId} {dI : Nat → Nat → Nat} {cl : List vw_C} {ci : Nat} (hc : cl[ci]? = some (RX55, TX55, 28)) {ad : Nat → Nat} {d : Nat → ClassId} {sz : Nat} {f_said : Nat → Int32} {f_heads : Nat → Int32} {f_kinds : Nat → Int32} {f_folded : Nat → Int32} {f_lengths : Nat → Int32} {f_parts : Nat → Int32} {f_rules : Int32} {f_known : Int32} {f_rounds : Nat → Int32} {f_given : Nat → Int32} {f_strata : Nat → Int32} {f_circle : Int32} {f_turns : Int32} {f_needs : Nat → Int32} {f_comes : Nat → Int32} {f_values : Nat → Int32} {f_plain : Nat → Int32} {f_plainCount : Int32} {f_pointers : Nat → Int32} {f_now : Int32} {f_fresh : Nat → Int32} {f_many : Nat → Int32} {f_sums : Nat → Int32} {f_lows : Nat → Int32} {f_highs : Nat → Int32} {f_layed : Int32} {f_worked : Int64} {f_large : Int32} {x1 : Int32} {x2 : Int32} {post : (Int → Int) → (Int → Int) → (Int → Int) → Int → Prop} (hw : wpX55_give post (zF f_rounds) (zF f_given) f_now.toInt (zF f_fresh) f_layed.toInt x1.toInt x2.toInt) :
    Met l yX55_give (ws_ yX55_give cX55_give 3 none) ({ frames := 0, cells := 0, slots := 0, locals := 0 } : Room) (kPc (dC, dI) cl (tX55 d) [.ref (ad 0), .int x1, .int x2] sz (wX55 ci ad d f_said f_heads f_kinds f_folded f_lengths f_parts f_rules f_known f_rounds f_given f_strata f_circle f_turns f_needs f_comes f_values f_plain f_plainCount f_pointers f_now f_fresh f_many f_sums f_lows f_highs f_layed f_worked f_large)) (va_Qv (fun (u : (Nat → Int32) × (Nat → Int32) × (Nat → Int32) × Int32) => post (zF (u.1)) (zF (u.2.1)) (zF (u.2.2.1)) (u.2.2.2).toInt) (kB (dC, dI) cl (tX55 d) (va_A (wX55 ci ad d f_said f_heads f_kinds f_folded f_lengths f_parts f_rules f_known f_rounds f_given f_strata f_circle f_turns f_needs f_comes f_values f_plain f_plainCount f_pointers f_now f_fresh f_many f_sums f_lows f_highs f_layed f_worked f_large) sz) (fun u : (Nat → Int32) × (Nat → Int32) × (Nat → Int32) × Int32 => (wX55 ci ad d f_said f_heads f_kinds f_folded f_lengths f_parts f_rules f_known (u.1) (u.2.1) f_strata f_circle f_turns f_needs f_comes f_values f_plain f_plainCount f_pointers f_now (u.2.2.1) f_many f_sums f_lows f_highs (u.2.2.2) f_worked f_large))) (va_A (wX55 ci ad d f_said f_heads f_kinds f_folded f_lengths f_parts f_rules f_known f_rounds f_given f_strata f_circle f_turns f_needs f_comes f_values f_plain f_plainCount f_pointers f_now f_fresh f_many f_sums f_lows f_highs f_layed f_worked f_large) sz)) 0 0 (va_A (wX55 ci ad d f_said f_heads f_kinds f_folded f_lengths f_parts f_rules f_known f_rounds f_given f_strata f_circle f_turns f_needs f_comes f_values f_plain f_plainCount f_pointers f_now f_fresh f_many f_sums f_lows f_highs f_layed f_worked f_large) sz) := by
  refine k_enter (by decide) (Nat.le_of_ble_eq_true rfl) ?_
  intro p e s m below meth c ls X hsz hH hl
  subst hsz
  generalize va_A (wX55 ci ad d f_said f_heads f_kinds f_folded f_lengths f_parts f_rules f_known f_rounds f_given f_strata f_circle f_turns f_needs f_comes f_values f_plain f_plainCount f_pointers f_now f_fresh f_many f_sums f_lows f_highs f_layed f_worked f_large) s.heap.size = A at hH ⊢
  have hx := X.1.1
  have hb := X.1.2.1
  have hl : lv_has ls 3 [(0, .ref (ad 0)), (1, .int x1), (2, .int x2)] := hl
  unfold wpX55_give at hw
  refine lv_iload_n hx hb dX55_give_0 rfl (lv_at hl 2 rfl) ?_
  refine lv_if_ge (tgt := 17) hx hb dX55_give_1 (by decide) (fun c_1 => ?_) (fun c_1 => ?_)
  · have hw := hw.1 (z_le (rfl : (0 : Int32).toInt = 0) (rfl : x2.toInt = _) c_1)
    refine lv_aload_n hx hb dX55_give_17 rfl (lv_at hl 0 rfl) ?_
    refine k_get X hH in_X55 0 rfl hc 8 (by decide) q6584 rfl dX55_give_18 ?_
    refine lv_iload_n hx hb dX55_give_21 rfl (lv_at hl 1 rfl) ?_
    have hq_2 := hw.1
    have hw := hw.2
    refine k_iald X hH 7 6 rfl rfl (z_in (rfl : x1.toInt = _) hq_2) dX55_give_22 ?_
    have e_3 := z_ld (f := f_rounds) (rfl : x1.toInt = _) hq_2.1
    refine lv_if_ge (tgt := 53) hx hb dX55_give_23 (by decide) (fun c_4 => ?_) (fun c_4 => ?_)
    · have hw := hw.1 (z_le (rfl : (0 : Int32).toInt = 0) e_3 c_4)
      exact k_vret X hH (f_rounds, f_given, f_fresh, f_layed) hw rfl dX55_give_53
    · have hw := hw.2 (z_nle (rfl : (0 : Int32).toInt = 0) e_3 c_4)
      refine lv_aload_n hx hb dX55_give_26 rfl (lv_at hl 0 rfl) ?_
      refine k_get X hH in_X55 0 rfl hc 8 (by decide) q6584 rfl dX55_give_27 ?_
      refine lv_iload_n hx hb dX55_give_30 rfl (lv_at hl 1 rfl) ?_
      refine lv_iload_n hx hb dX55_give_31 rfl (lv_at hl 2 rfl) ?_
      obtain ⟨f_rounds_5, ef_rounds_5⟩ : ∃ y : Nat → Int32, y = upd f_rounds x1.toNatClampNeg x2 := ⟨_, rfl⟩
      refine k_iast X hH 7 6 rfl rfl (z_in (rfl : x1.toInt = _) hq_2) dX55_give_32 ef_rounds_5 (ws1 := (wX55 ci ad d f_said f_heads f_kinds f_folded f_lengths f_parts f_rules f_known f_rounds_5 f_given f_strata f_circle f_turns f_needs f_comes f_values f_plain f_plainCount f_pointers f_now f_fresh f_many f_sums f_lows f_highs f_layed f_worked f_large)) rfl (fun H locs hH => ?_)
      have hw := hw (zF f_rounds_5) (by rw [ef_rounds_5]; exact z_st (f := f_rounds) (rfl : x1.toInt = _) hq_2.1 (rfl : x2.toInt = _))
      refine lv_aload_n hx hb dX55_give_33 rfl (lv_at hl 0 rfl) ?_
      refine k_get X hH in_X55 0 rfl hc 20 (by decide) q6596 rfl dX55_give_34 ?_
      refine lv_iload_n hx hb dX55_give_37 rfl (lv_at hl 1 rfl) ?_
      refine lv_aload_n hx hb dX55_give_38 rfl (lv_at hl 0 rfl) ?_
      refine k_get X hH in_X55 0 rfl hc 19 (by decide) q6595 rfl dX55_give_39 ?_
      obtain ⟨f_fresh_6, ef_fresh_6⟩ : ∃ y : Nat → Int32, y = upd f_fresh x1.toNatClampNeg f_now := ⟨_, rfl⟩
      refine k_iast X hH 15 14 rfl rfl (z_in (rfl : x1.toInt = _) hq_2) dX55_give_42 ef_fresh_6 (ws1 := (wX55 ci ad d f_said f_heads f_kinds f_folded f_lengths f_parts f_rules f_known f_rounds_5 f_given f_strata f_circle f_turns f_needs f_comes f_values f_plain f_plainCount f_pointers f_now f_fresh_6 f_many f_sums f_lows f_highs f_layed f_worked f_large)) rfl (fun H locs hH => ?_)
      have hw := hw (zF f_fresh_6) (by rw [ef_fresh_6]; exact z_st (f := f_fresh) (rfl : x1.toInt = _) hq_2.1 (rfl : f_now.toInt = _))
      refine lv_aload_n hx hb dX55_give_43 rfl (lv_at hl 0 rfl) ?_
      refine lv_dup hx hb dX55_give_44 rfl ?_
      refine k_get X hH in_X55 0 rfl hc 25 (by decide) q6601 rfl dX55_give_45 ?_
      refine lv_iconst (v := 1) hx hb dX55_give_48 (by decide) ?_
      refine lv_iadd hx hb dX55_give_49 ?_
      have e_7 := z_add (z_m (rfl : f_layed.toInt = _)) (z_m (rfl : (1 : Int32).toInt = 1))
      have hq_8 := hw.1
      have hw := hw.2
      have e_9 := z_x e_7 hq_8
      refine lv_topi (fun f_layed_10 ef_layed_10 => ?_)
      have hw := hw f_layed_10.toInt (by rw [ef_layed_10]; exact e_9)
      refine k_put X hH in_X55 tyX55_ok nmX55 0 rfl hc 25 (by decide) q6601 rfl (ty := .int) rfl rfl rfl (Nat.le_of_ble_eq_true rfl) dX55_give_50 (ws1 := (wX55 ci ad d f_said f_heads f_kinds f_folded f_lengths f_parts f_rules f_known f_rounds_5 f_given f_strata f_circle f_turns f_needs f_comes f_values f_plain f_plainCount f_pointers f_now f_fresh_6 f_many f_sums f_lows f_highs f_layed_10 f_worked f_large)) rfl (fun H locs hH => ?_)
      exact k_vret X hH (f_rounds_5, f_given, f_fresh_6, f_layed_10) hw rfl dX55_give_53
  · have hw := hw.2 (z_nle (rfl : (0 : Int32).toInt = 0) (rfl : x2.toInt = _) c_1)
    refine lv_aload_n hx hb dX55_give_4 rfl (lv_at hl 0 rfl) ?_
    refine k_get X hH in_X55 0 rfl hc 9 (by decide) q6585 rfl dX55_give_5 ?_
    refine lv_iload_n hx hb dX55_give_8 rfl (lv_at hl 1 rfl) ?_
    refine lv_dup2_11 hx hb dX55_give_9 rfl rfl ?_
    have hq_11 := hw.1
    have hw := hw.2
    refine k_iald X hH 8 7 rfl rfl (z_in (rfl : x1.toInt = _) hq_11) dX55_give_10 ?_
    have e_12 := z_ld (f := f_given) (rfl : x1.toInt = _) hq_11.1
    refine lv_iconst (v := 1) hx hb dX55_give_11 (by decide) ?_
    refine lv_iadd hx hb dX55_give_12 ?_
    have e_13 := z_add (z_m e_12) (z_m (rfl : (1 : Int32).toInt = 1))
    have hq_14 := hw.1
    have hw := hw.2
    have e_15 := z_x e_13 hq_14
    refine lv_topi (fun v_16 ev_16 => ?_)
    have hw := hw v_16.toInt (by rw [ev_16]; exact e_15)
    obtain ⟨f_given_17, ef_given_17⟩ : ∃ y : Nat → Int32, y = upd f_given x1.toNatClampNeg v_16 := ⟨_, rfl⟩
    refine k_iast X hH 8 7 rfl rfl (z_in (rfl : x1.toInt = _) hq_11) dX55_give_13 ef_given_17 (ws1 := (wX55 ci ad d f_said f_heads f_kinds f_folded f_lengths f_parts f_rules f_known f_rounds f_given_17 f_strata f_circle f_turns f_needs f_comes f_values f_plain f_plainCount f_pointers f_now f_fresh f_many f_sums f_lows f_highs f_layed f_worked f_large)) rfl (fun H locs hH => ?_)
    have hw := hw (zF f_given_17) (by rw [ef_given_17]; exact z_st (f := f_given) (rfl : x1.toInt = _) hq_11.1 (rfl : v_16.toInt = _))
    refine lv_goto (tgt := 53) hx hb dX55_give_14 (by decide) ?_
    exact k_vret X hH (f_rounds, f_given_17, f_fresh, f_layed) hw rfl dX55_give_53
set_option maxHeartbeats 4000000 in
theorem atX55_spread_28 {p : Program} {l : Launch} {e : Env} {s : State} {m : MethodId} {args : Array Value} {below : List Frame} {meth : Method} {c : Code} {dC : Nat → ClassId} {dI : Nat → Nat → Nat} {cl : List vw_C} {ci : Nat} (hc : cl[ci]? = some (RX55, TX55, 28)) {ad : Nat → Nat} {d : Nat → ClassId} {A : Nat → Prop} {post : (Int → Int) → (Int → Int) → (Int → Int) → (Int → Int) → Int → (Int → Int) → (Int → Int) → (Int → Int) → (Int → Int) → (Int → Int) → (Int → Int) → Int → Prop} {f_said : Nat → Int32} {f_heads : Nat → Int32} {f_kinds : Nat → Int32} {f_folded : Nat → Int32} {f_lengths : Nat → Int32} {f_parts : Nat → Int32} {f_rules : Int32} {f_known : Int32} {f_strata : Nat → Int32} {f_circle : Int32} {f_turns : Int32} {f_needs : Nat → Int32} {f_comes : Nat → Int32} {f_now : Int32} {f_worked : Int64} {f_large : Int32} (X : kX p s m args meth c cX55_spread 8 RX55 none (dC, dI) cl (tX55 d)) {K62 : (Int → Int) → (Int → Int) → Prop} {x1 : Int32} {x2 : Int32} {x3 : Int32} {x4 : Int32} {f_rounds : Nat → Int32} {f_given : Nat → Int32} {f_values : Nat → Int32} {f_plain : Nat → Int32} {f_plainCount : Int32} {f_pointers : Nat → Int32} {f_fresh : Nat → Int32} {f_lows : Nat → Int32} {f_highs : Nat → Int32} {f_layed : Int32} (hk62 : ∀ (f_many : Nat → Int32) (f_sums : Nat → Int32), K62 (zF f_many) (zF f_sums) → ∀ (H : Heap) (locs : List Loc) (ls : Array Slot), kH (dC, dI) cl A s.heap H locs (wX55 ci ad d f_said f_heads f_kinds f_folded f_lengths f_parts f_rules f_known f_rounds f_given f_strata f_circle f_turns f_needs f_comes f_values f_plain f_plainCount f_pointers f_now f_fresh f_many f_sums f_lows f_highs f_layed f_worked f_large) → lv_has ls 8 [(0, .ref (ad 0)), (1, .int x1), (2, .int x2), (3, .int x3), (4, .int x4)] → W p l e ({ frames := 3, cells := 0, slots := 0, locals := 73 } : Room) s m args below meth c H locs 0 0 (MQ below (va_Qv (fun (u : (Nat → Int32) × (Nat → Int32) × (Nat → Int32) × (Nat → Int32) × Int32 × (Nat → Int32) × (Nat → Int32) × (Nat → Int32) × (Nat → Int32) × (Nat → Int32) × (Nat → Int32) × Int32) => post (zF (u.1)) (zF (u.2.1)) (zF (u.2.2.1)) (zF (u.2.2.2.1)) (u.2.2.2.2.1).toInt (zF (u.2.2.2.2.2.1)) (zF (u.2.2.2.2.2.2.1)) (zF (u.2.2.2.2.2.2.2.1)) (zF (u.2.2.2.2.2.2.2.2.1)) (zF (u.2.2.2.2.2.2.2.2.2.1)) (zF (u.2.2.2.2.2.2.2.2.2.2.1)) (u.2.2.2.2.2.2.2.2.2.2.2).toInt) (kB (dC, dI) cl (tX55 d) A (fun u : (Nat → Int32) × (Nat → Int32) × (Nat → Int32) × (Nat → Int32) × Int32 × (Nat → Int32) × (Nat → Int32) × (Nat → Int32) × (Nat → Int32) × (Nat → Int32) × (Nat → Int32) × Int32 => (wX55 ci ad d f_said f_heads f_kinds f_folded f_lengths f_parts f_rules f_known (u.1) (u.2.1) f_strata f_circle f_turns f_needs f_comes (u.2.2.1) (u.2.2.2.1) (u.2.2.2.2.1) (u.2.2.2.2.2.1) f_now (u.2.2.2.2.2.2.1) (u.2.2.2.2.2.2.2.1) (u.2.2.2.2.2.2.2.2.1) (u.2.2.2.2.2.2.2.2.2.1) (u.2.2.2.2.2.2.2.2.2.2.1) (u.2.2.2.2.2.2.2.2.2.2.2) f_worked f_large))) A) args s 0 0 A) (F0 m 62 ls [])) :
    ∀ (nn : Nat) (x5 : Int32) (f_many : Nat → Int32) (f_sums : Nat → Int32), wX55_spread_28 K62 x4.toInt nn x5.toInt (zF f_many) (zF f_sums) → ∀ (H : Heap) (locs : List Loc) (ls : Array Slot), kH (dC, dI) cl A s.heap H locs (wX55 ci ad d f_said f_heads f_kinds f_folded f_lengths f_parts f_rules f_known f_rounds f_given f_strata f_circle f_turns f_needs f_comes f_values f_plain f_plainCount f_pointers f_now f_fresh f_many f_sums f_lows f_highs f_layed f_worked f_large) → lv_has ls 8 [(0, .ref (ad 0)), (1, .int x1), (2, .int x2), (3, .int x3), (4, .int x4), (5, .int x5)] → W p l e ({ frames := 3, cells := 0, slots := 0, locals := 73 } : Room) s m args below meth c H locs 0 0 (MQ below (va_Qv (fun (u : (Nat → Int32) × (Nat → Int32) × (Nat → Int32) × (Nat → Int32) × Int32 × (Nat → Int32) × (Nat → Int32) × (Nat → Int32) × (Nat → Int32) × (Nat → Int32) × (Nat → Int32) × Int32) => post (zF (u.1)) (zF (u.2.1)) (zF (u.2.2.1)) (zF (u.2.2.2.1)) (u.2.2.2.2.1).toInt (zF (u.2.2.2.2.2.1)) (zF (u.2.2.2.2.2.2.1)) (zF (u.2.2.2.2.2.2.2.1)) (zF (u.2.2.2.2.2.2.2.2.1)) (zF (u.2.2.2.2.2.2.2.2.2.1)) (zF (u.2.2.2.2.2.2.2.2.2.2.1)) (u.2.2.2.2.2.2.2.2.2.2.2).toInt) (kB (dC, dI) cl (tX55 d) A (fun u : (Nat → Int32) × (Nat → Int32) × (Nat → Int32) × (Nat → Int32) × Int32 × (Nat → Int32) × (Nat → Int32) × (Nat → Int32) × (Nat → Int32) × (Nat → Int32) × (Nat → Int32) × Int32 => (wX55 ci ad d f_said f_heads f_kinds f_folded f_lengths f_parts f_rules f_known (u.1) (u.2.1) f_strata f_circle f_turns f_needs f_comes (u.2.2.1) (u.2.2.2.1) (u.2.2.2.2.1) (u.2.2.2.2.2.1) f_now (u.2.2.2.2.2.2.1) (u.2.2.2.2.2.2.2.1) (u.2.2.2.2.2.2.2.2.1) (u.2.2.2.2.2.2.2.2.2.1) (u.2.2.2.2.2.2.2.2.2.2.1) (u.2.2.2.2.2.2.2.2.2.2.2) f_worked f_large))) A) args s 0 0 A) (F0 m 28 ls []) := by
  have hx := X.1.1
  have hb := X.1.2.1
  intro nn
  induction nn with
  | zero =>
    intro x5 f_many f_sums hw
    exact False.elim hw
  | succ n ih =>
    intro x5 f_many f_sums hw H locs ls hH hl
    rw [wX55_spread_28] at hw
    refine lv_iload hx hb dX55_spread_28 (lv_at hl 5 rfl) ?_
    refine lv_bipush (v := 32) hx hb dX55_spread_30 (by decide) ?_
    refine lv_icmp_ge (tgt := 62) hx hb dX55_spread_32 (by decide) (fun c_9 => ?_) (fun c_9 => ?_)
    · have hw := hw.1 (z_le (rfl : (32 : Int32).toInt = 32) (rfl : x5.toInt = _) c_9)
      exact hk62 f_many f_sums hw _ _ ls hH (lv_sub hl [0, 1, 2, 3, 4] rfl)
    · have hw := hw.2 (z_nle (rfl : (32 : Int32).toInt = 32) (rfl : x5.toInt = _) c_9)
      refine lv_iload hx hb dX55_spread_35 (lv_at hl 4 rfl) ?_
      refine lv_if_eq (tgt := 62) hx hb dX55_spread_37 (by decide) (fun c_10 => ?_) (fun c_10 => ?_)
      · have hw := hw.1 (z_eq (rfl : x4.toInt = _) (rfl : (0 : Int32).toInt = 0) c_10)
        exact hk62 f_many f_sums hw _ _ ls hH (lv_sub hl [0, 1, 2, 3, 4] rfl)
      · have hw := hw.2 (z_neq (rfl : x4.toInt = _) (rfl : (0 : Int32).toInt = 0) c_10)
        refine lv_aload_n hx hb dX55_spread_40 rfl (lv_at hl 0 rfl) ?_
        refine k_get X hH in_X55 0 rfl hc 21 (by decide) q6597 rfl dX55_spread_41 ?_
        refine lv_iload hx hb dX55_spread_44 (lv_at hl 5 rfl) ?_
        refine lv_iconst (v := 0) hx hb dX55_spread_46 (by decide) ?_
        have hq_12 := hw.1
        have hw := hw.2
        obtain ⟨f_many_11, ef_many_11⟩ : ∃ y : Nat → Int32, y = upd f_many x5.toNatClampNeg 0 := ⟨_, rfl⟩
        refine k_iast X hH 16 15 rfl rfl (z_in (rfl : x5.toInt = _) hq_12) dX55_spread_47 ef_many_11 (ws1 := (wX55 ci ad d f_said f_heads f_kinds f_folded f_lengths f_parts f_rules f_known f_rounds f_given f_strata f_circle f_turns f_needs f_comes f_values f_plain f_plainCount f_pointers f_now f_fresh f_many_11 f_sums f_lows f_highs f_layed f_worked f_large)) rfl (fun H locs hH => ?_)
        have hw := hw (zF f_many_11) (by rw [ef_many_11]; exact z_st (f := f_many) (rfl : x5.toInt = _) hq_12.1 (rfl : (0 : Int32).toInt = 0))
        refine lv_aload_n hx hb dX55_spread_48 rfl (lv_at hl 0 rfl) ?_
        refine k_get X hH in_X55 0 rfl hc 22 (by decide) q6598 rfl dX55_spread_49 ?_
        refine lv_iload hx hb dX55_spread_52 (lv_at hl 5 rfl) ?_
        refine lv_iconst (v := 0) hx hb dX55_spread_54 (by decide) ?_
        obtain ⟨f_sums_13, ef_sums_13⟩ : ∃ y : Nat → Int32, y = upd f_sums x5.toNatClampNeg 0 := ⟨_, rfl⟩
        refine k_iast X hH 17 16 rfl rfl (z_in (rfl : x5.toInt = _) hq_12) dX55_spread_55 ef_sums_13 (ws1 := (wX55 ci ad d f_said f_heads f_kinds f_folded f_lengths f_parts f_rules f_known f_rounds f_given f_strata f_circle f_turns f_needs f_comes f_values f_plain f_plainCount f_pointers f_now f_fresh f_many_11 f_sums_13 f_lows f_highs f_layed f_worked f_large)) rfl (fun H locs hH => ?_)
        have hw := hw (zF f_sums_13) (by rw [ef_sums_13]; exact z_st (f := f_sums) (rfl : x5.toInt = _) hq_12.1 (rfl : (0 : Int32).toInt = 0))
        have hq_15 := hw.1
        have hw := hw.2
        obtain ⟨x5_14, ex5_14⟩ : ∃ y : Int32, y = x5 + 1 := ⟨_, rfl⟩
        have hw := hw x5_14.toInt (by rw [ex5_14]; exact (z_x (z_add (z_m (rfl : x5.toInt = _)) (z_m (rfl : (1 : Int32).toInt = 1))) hq_15))
        refine lv_iinc (v := x5_14) (lv' := [(5, .int x5_14), (0, .ref (ad 0)), (1, .int x1), (2, .int x2), (3, .int x3), (4, .int x4)]) hx hb dX55_spread_56 hl (k := 5) rfl (by rw [ex5_14]; rfl) (by decide) rfl (fun ls hl => ?_)
        refine lv_goto (tgt := 28) hx hb dX55_spread_59 (by decide) ?_
        exact ih x5_14 f_many_11 f_sums_13 hw _ _ ls hH (lv_sub hl [1, 2, 3, 4, 5, 0] rfl)
set_option maxHeartbeats 4000000 in
theorem atX55_spread_257 {p : Program} {l : Launch} {e : Env} {s : State} {m : MethodId} {args : Array Value} {below : List Frame} {meth : Method} {c : Code} {dC : Nat → ClassId} {dI : Nat → Nat → Nat} {cl : List vw_C} {ci : Nat} (hc : cl[ci]? = some (RX55, TX55, 28)) {ad : Nat → Nat} {d : Nat → ClassId} {A : Nat → Prop} {post : (Int → Int) → (Int → Int) → (Int → Int) → (Int → Int) → Int → (Int → Int) → (Int → Int) → (Int → Int) → (Int → Int) → (Int → Int) → (Int → Int) → Int → Prop} {f_said : Nat → Int32} {f_heads : Nat → Int32} {f_kinds : Nat → Int32} {f_folded : Nat → Int32} {f_lengths : Nat → Int32} {f_parts : Nat → Int32} {f_rules : Int32} {f_known : Int32} {f_strata : Nat → Int32} {f_circle : Int32} {f_turns : Int32} {f_needs : Nat → Int32} {f_comes : Nat → Int32} {f_now : Int32} {f_worked : Int64} {f_large : Int32} (X : kX p s m args meth c cX55_spread 8 RX55 none (dC, dI) cl (tX55 d)) {K75 : Int → (Int → Int) → (Int → Int) → (Int → Int) → (Int → Int) → (Int → Int) → (Int → Int) → (Int → Int) → (Int → Int) → (Int → Int) → Int → Prop} {x1 : Int32} {x2 : Int32} {x3 : Int32} {x4 : Int32} {f_plain : Nat → Int32} {f_plainCount : Int32} (hk75 : ∀ (x5 : Int32) (f_rounds : Nat → Int32) (f_given : Nat → Int32) (f_values : Nat → Int32) (f_pointers : Nat → Int32) (f_fresh : Nat → Int32) (f_many : Nat → Int32) (f_sums : Nat → Int32) (f_lows : Nat → Int32) (f_highs : Nat → Int32) (f_layed : Int32), K75 x5.toInt (zF f_rounds) (zF f_given) (zF f_values) (zF f_pointers) (zF f_fresh) (zF f_many) (zF f_sums) (zF f_lows) (zF f_highs) f_layed.toInt → ∀ (H : Heap) (locs : List Loc) (ls : Array Slot), kH (dC, dI) cl A s.heap H locs (wX55 ci ad d f_said f_heads f_kinds f_folded f_lengths f_parts f_rules f_known f_rounds f_given f_strata f_circle f_turns f_needs f_comes f_values f_plain f_plainCount f_pointers f_now f_fresh f_many f_sums f_lows f_highs f_layed f_worked f_large) → lv_has ls 8 [(0, .ref (ad 0)), (1, .int x1), (2, .int x2), (3, .int x3), (4, .int x4), (5, .int x5)] → W p l e ({ frames := 3, cells := 0, slots := 0, locals := 73 } : Room) s m args below meth c H locs 0 0 (MQ below (va_Qv (fun (u : (Nat → Int32) × (Nat → Int32) × (Nat → Int32) × (Nat → Int32) × Int32 × (Nat → Int32) × (Nat → Int32) × (Nat → Int32) × (Nat → Int32) × (Nat → Int32) × (Nat → Int32) × Int32) => post (zF (u.1)) (zF (u.2.1)) (zF (u.2.2.1)) (zF (u.2.2.2.1)) (u.2.2.2.2.1).toInt (zF (u.2.2.2.2.2.1)) (zF (u.2.2.2.2.2.2.1)) (zF (u.2.2.2.2.2.2.2.1)) (zF (u.2.2.2.2.2.2.2.2.1)) (zF (u.2.2.2.2.2.2.2.2.2.1)) (zF (u.2.2.2.2.2.2.2.2.2.2.1)) (u.2.2.2.2.2.2.2.2.2.2.2).toInt) (kB (dC, dI) cl (tX55 d) A (fun u : (Nat → Int32) × (Nat → Int32) × (Nat → Int32) × (Nat → Int32) × Int32 × (Nat → Int32) × (Nat → Int32) × (Nat → Int32) × (Nat → Int32) × (Nat → Int32) × (Nat → Int32) × Int32 => (wX55 ci ad d f_said f_heads f_kinds f_folded f_lengths f_parts f_rules f_known (u.1) (u.2.1) f_strata f_circle f_turns f_needs f_comes (u.2.2.1) (u.2.2.2.1) (u.2.2.2.2.1) (u.2.2.2.2.2.1) f_now (u.2.2.2.2.2.2.1) (u.2.2.2.2.2.2.2.1) (u.2.2.2.2.2.2.2.2.1) (u.2.2.2.2.2.2.2.2.2.1) (u.2.2.2.2.2.2.2.2.2.2.1) (u.2.2.2.2.2.2.2.2.2.2.2) f_worked f_large))) A) args s 0 0 A) (F0 m 75 ls [])) :
    ∀ (f_rounds : Nat → Int32) (f_given : Nat → Int32) (f_values : Nat → Int32) (f_pointers : Nat → Int32) (f_fresh : Nat → Int32) (f_many : Nat → Int32) (f_sums : Nat → Int32) (f_lows : Nat → Int32) (f_highs : Nat → Int32) (f_layed : Int32), wX55_spread_257 K75 x1.toInt (zF f_lengths) (zF f_parts) (zF f_rounds) (zF f_given) (zF f_values) (zF f_plain) f_plainCount.toInt (zF f_pointers) f_now.toInt (zF f_fresh) (zF f_many) (zF f_sums) (zF f_lows) (zF f_highs) f_layed.toInt → ∀ (H : Heap) (locs : List Loc) (ls : Array Slot), kH (dC, dI) cl A s.heap H locs (wX55 ci ad d f_said f_heads f_kinds f_folded f_lengths f_parts f_rules f_known f_rounds f_given f_strata f_circle f_turns f_needs f_comes f_values f_plain f_plainCount f_pointers f_now f_fresh f_many f_sums f_lows f_highs f_layed f_worked f_large) → lv_has ls 8 [(0, .ref (ad 0)), (1, .int x1), (2, .int x2), (3, .int x3), (4, .int x4)] → W p l e ({ frames := 3, cells := 0, slots := 0, locals := 73 } : Room) s m args below meth c H locs 0 0 (MQ below (va_Qv (fun (u : (Nat → Int32) × (Nat → Int32) × (Nat → Int32) × (Nat → Int32) × Int32 × (Nat → Int32) × (Nat → Int32) × (Nat → Int32) × (Nat → Int32) × (Nat → Int32) × (Nat → Int32) × Int32) => post (zF (u.1)) (zF (u.2.1)) (zF (u.2.2.1)) (zF (u.2.2.2.1)) (u.2.2.2.2.1).toInt (zF (u.2.2.2.2.2.1)) (zF (u.2.2.2.2.2.2.1)) (zF (u.2.2.2.2.2.2.2.1)) (zF (u.2.2.2.2.2.2.2.2.1)) (zF (u.2.2.2.2.2.2.2.2.2.1)) (zF (u.2.2.2.2.2.2.2.2.2.2.1)) (u.2.2.2.2.2.2.2.2.2.2.2).toInt) (kB (dC, dI) cl (tX55 d) A (fun u : (Nat → Int32) × (Nat → Int32) × (Nat → Int32) × (Nat → Int32) × Int32 × (Nat → Int32) × (Nat → Int32) × (Nat → Int32) × (Nat → Int32) × (Nat → Int32) × (Nat → Int32) × Int32 => (wX55 ci ad d f_said f_heads f_kinds f_folded f_lengths f_parts f_rules f_known (u.1) (u.2.1) f_strata f_circle f_turns f_needs f_comes (u.2.2.1) (u.2.2.2.1) (u.2.2.2.2.1) (u.2.2.2.2.2.1) f_now (u.2.2.2.2.2.2.1) (u.2.2.2.2.2.2.2.1) (u.2.2.2.2.2.2.2.2.1) (u.2.2.2.2.2.2.2.2.2.1) (u.2.2.2.2.2.2.2.2.2.2.1) (u.2.2.2.2.2.2.2.2.2.2.2) f_worked f_large))) A) args s 0 0 A) (F0 m 257 ls []) := by
  have hx := X.1.1
  have hb := X.1.2.1
  intro f_rounds f_given f_values f_pointers f_fresh f_many f_sums f_lows f_highs f_layed hw H locs ls hH hl
  unfold wX55_spread_257 at hw
  refine lv_aload_n hx hb dX55_spread_257 rfl (lv_at hl 0 rfl) ?_
  refine k_get X hH in_X55 0 rfl hc 17 (by decide) q6593 rfl dX55_spread_258 ?_
  refine lv_if_le (tgt := 277) hx hb dX55_spread_261 (by decide) (fun c_64 => ?_) (fun c_64 => ?_)
  · have hw := hw.1 (z_le (rfl : f_plainCount.toInt = _) (rfl : (0 : Int32).toInt = 0) c_64)
    refine lv_iconst (v := 0) hx hb dX55_spread_277 (by decide) ?_
    refine lv_istore (lv' := [(5, .int 0), (0, .ref (ad 0)), (1, .int x1), (2, .int x2), (3, .int x3), (4, .int x4)]) hx hb dX55_spread_278 hl (by decide) rfl (fun ls hl => ?_)
    refine lv_goto (tgt := 75) hx hb dX55_spread_280 (by decide) ?_
    exact hk75 0 f_rounds f_given f_values f_pointers f_fresh f_many f_sums f_lows f_highs f_layed hw _ _ ls hH (lv_sub hl [1, 2, 3, 4, 5, 0] rfl)
  · have hw := hw.2 (z_nle (rfl : f_plainCount.toInt = _) (rfl : (0 : Int32).toInt = 0) c_64)
    refine lv_aload_n hx hb dX55_spread_264 rfl (lv_at hl 0 rfl) ?_
    refine lv_iload_n hx hb dX55_spread_265 rfl (lv_at hl 1 rfl) ?_
    refine lv_iconst (v := 0) hx hb dX55_spread_266 (by decide) ?_
    refine k_i0 hH (k_runV (As := [.int x1, .int 0]) (rest := []) X hH.1 hH.2.1 X.2.2.2 (walkX55_next hc (x1 := x1) (x2 := 0) (f_said := f_said) (f_heads := f_heads) (f_kinds := f_kinds) (f_folded := f_folded) (f_lengths := f_lengths) (f_parts := f_parts) (f_rules := f_rules) (f_known := f_known) (f_rounds := f_rounds) (f_given := f_given) (f_strata := f_strata) (f_circle := f_circle) (f_turns := f_turns) (f_needs := f_needs) (f_comes := f_comes) (f_values := f_values) (f_plain := f_plain) (f_plainCount := f_plainCount) (f_pointers := f_pointers) (f_now := f_now) (f_fresh := f_fresh) (f_many := f_many) (f_sums := f_sums) (f_lows := f_lows) (f_highs := f_highs) (f_layed := f_layed) (f_worked := f_worked) (f_large := f_large) hw) (cwV 2 X.1.2.2.2.2 gX55_137 rfl rfl rfl hX55_next ⟨Nat.le_of_ble_eq_true rfl, Nat.le_of_ble_eq_true rfl⟩) hc (q0 := 0) rfl rfl hl.1 rfl (Nat.le_of_ble_eq_true rfl) dX55_spread_267 ⟨Nat.le_refl 0, Nat.le_refl 0⟩) (fun r_65 u H locs hw hH => ?_)
    obtain ⟨f_values_66, f_pointers_67⟩ := u
    have hH : kH (dC, dI) cl A s.heap H locs (wX55 ci ad d f_said f_heads f_kinds f_folded f_lengths f_parts f_rules f_known f_rounds f_given f_strata f_circle f_turns f_needs f_comes f_values_66 f_plain f_plainCount f_pointers_67 f_now f_fresh f_many f_sums f_lows f_highs f_layed f_worked f_large) := hH
    refine lv_if_eq (tgt := 277) hx hb dX55_spread_270 (by decide) (fun c_68 => ?_) (fun c_68 => ?_)
    · have hw := hw.1 (z_eq (rfl : r_65.toInt = _) (rfl : (0 : Int32).toInt = 0) c_68)
      refine lv_iconst (v := 0) hx hb dX55_spread_277 (by decide) ?_
      refine lv_istore (lv' := [(5, .int 0), (0, .ref (ad 0)), (1, .int x1), (2, .int x2), (3, .int x3), (4, .int x4)]) hx hb dX55_spread_278 hl (by decide) rfl (fun ls hl => ?_)
      refine lv_goto (tgt := 75) hx hb dX55_spread_280 (by decide) ?_
      exact hk75 0 f_rounds f_given f_values_66 f_pointers_67 f_fresh f_many f_sums f_lows f_highs f_layed hw _ _ ls hH (lv_sub hl [1, 2, 3, 4, 5, 0] rfl)
    · have hw := hw.2 (z_neq (rfl : r_65.toInt = _) (rfl : (0 : Int32).toInt = 0) c_68)
      refine lv_iconst (v := 1) hx hb dX55_spread_273 (by decide) ?_
      refine lv_goto (tgt := 278) hx hb dX55_spread_274 (by decide) ?_
      refine lv_istore (lv' := [(5, .int 1), (0, .ref (ad 0)), (1, .int x1), (2, .int x2), (3, .int x3), (4, .int x4)]) hx hb dX55_spread_278 hl (by decide) rfl (fun ls hl => ?_)
      refine lv_goto (tgt := 75) hx hb dX55_spread_280 (by decide) ?_
      exact hk75 1 f_rounds f_given f_values_66 f_pointers_67 f_fresh f_many f_sums f_lows f_highs f_layed hw _ _ ls hH (lv_sub hl [1, 2, 3, 4, 5, 0] rfl)
set_option maxHeartbeats 4000000 in
theorem atX55_spread_225 {p : Program} {l : Launch} {e : Env} {s : State} {m : MethodId} {args : Array Value} {below : List Frame} {meth : Method} {c : Code} {dC : Nat → ClassId} {dI : Nat → Nat → Nat} {cl : List vw_C} {ci : Nat} (hc : cl[ci]? = some (RX55, TX55, 28)) {ad : Nat → Nat} {d : Nat → ClassId} {A : Nat → Prop} {post : (Int → Int) → (Int → Int) → (Int → Int) → (Int → Int) → Int → (Int → Int) → (Int → Int) → (Int → Int) → (Int → Int) → (Int → Int) → (Int → Int) → Int → Prop} {f_said : Nat → Int32} {f_heads : Nat → Int32} {f_kinds : Nat → Int32} {f_folded : Nat → Int32} {f_lengths : Nat → Int32} {f_parts : Nat → Int32} {f_rules : Int32} {f_known : Int32} {f_strata : Nat → Int32} {f_circle : Int32} {f_turns : Int32} {f_needs : Nat → Int32} {f_comes : Nat → Int32} {f_now : Int32} {f_worked : Int64} {f_large : Int32} (X : kX p s m args meth c cX55_spread 8 RX55 none (dC, dI) cl (tX55 d)) {K75 : Int → (Int → Int) → (Int → Int) → (Int → Int) → (Int → Int) → (Int → Int) → (Int → Int) → (Int → Int) → (Int → Int) → (Int → Int) → Int → Prop} {x1 : Int32} {x2 : Int32} {x3 : Int32} {x4 : Int32} {f_plain : Nat → Int32} {f_plainCount : Int32} (hk75 : ∀ (x5 : Int32) (f_rounds : Nat → Int32) (f_given : Nat → Int32) (f_values : Nat → Int32) (f_pointers : Nat → Int32) (f_fresh : Nat → Int32) (f_many : Nat → Int32) (f_sums : Nat → Int32) (f_lows : Nat → Int32) (f_highs : Nat → Int32) (f_layed : Int32), K75 x5.toInt (zF f_rounds) (zF f_given) (zF f_values) (zF f_pointers) (zF f_fresh) (zF f_many) (zF f_sums) (zF f_lows) (zF f_highs) f_layed.toInt → ∀ (H : Heap) (locs : List Loc) (ls : Array Slot), kH (dC, dI) cl A s.heap H locs (wX55 ci ad d f_said f_heads f_kinds f_folded f_lengths f_parts f_rules f_known f_rounds f_given f_strata f_circle f_turns f_needs f_comes f_values f_plain f_plainCount f_pointers f_now f_fresh f_many f_sums f_lows f_highs f_layed f_worked f_large) → lv_has ls 8 [(0, .ref (ad 0)), (1, .int x1), (2, .int x2), (3, .int x3), (4, .int x4), (5, .int x5)] → W p l e ({ frames := 3, cells := 0, slots := 0, locals := 73 } : Room) s m args below meth c H locs 0 0 (MQ below (va_Qv (fun (u : (Nat → Int32) × (Nat → Int32) × (Nat → Int32) × (Nat → Int32) × Int32 × (Nat → Int32) × (Nat → Int32) × (Nat → Int32) × (Nat → Int32) × (Nat → Int32) × (Nat → Int32) × Int32) => post (zF (u.1)) (zF (u.2.1)) (zF (u.2.2.1)) (zF (u.2.2.2.1)) (u.2.2.2.2.1).toInt (zF (u.2.2.2.2.2.1)) (zF (u.2.2.2.2.2.2.1)) (zF (u.2.2.2.2.2.2.2.1)) (zF (u.2.2.2.2.2.2.2.2.1)) (zF (u.2.2.2.2.2.2.2.2.2.1)) (zF (u.2.2.2.2.2.2.2.2.2.2.1)) (u.2.2.2.2.2.2.2.2.2.2.2).toInt) (kB (dC, dI) cl (tX55 d) A (fun u : (Nat → Int32) × (Nat → Int32) × (Nat → Int32) × (Nat → Int32) × Int32 × (Nat → Int32) × (Nat → Int32) × (Nat → Int32) × (Nat → Int32) × (Nat → Int32) × (Nat → Int32) × Int32 => (wX55 ci ad d f_said f_heads f_kinds f_folded f_lengths f_parts f_rules f_known (u.1) (u.2.1) f_strata f_circle f_turns f_needs f_comes (u.2.2.1) (u.2.2.2.1) (u.2.2.2.2.1) (u.2.2.2.2.2.1) f_now (u.2.2.2.2.2.2.1) (u.2.2.2.2.2.2.2.1) (u.2.2.2.2.2.2.2.2.1) (u.2.2.2.2.2.2.2.2.2.1) (u.2.2.2.2.2.2.2.2.2.2.1) (u.2.2.2.2.2.2.2.2.2.2.2) f_worked f_large))) A) args s 0 0 A) (F0 m 75 ls [])) :
    ∀ (x6 : Int32) (x7 : Int32) (y1 : Int32) (y2 : Int32) (f_rounds : Nat → Int32) (f_given : Nat → Int32) (f_values : Nat → Int32) (f_pointers : Nat → Int32) (f_fresh : Nat → Int32) (f_many : Nat → Int32) (f_sums : Nat → Int32) (f_lows : Nat → Int32) (f_highs : Nat → Int32) (f_layed : Int32), wX55_spread_225 K75 x1.toInt x6.toInt x7.toInt y1.toInt y2.toInt (zF f_lengths) (zF f_parts) (zF f_rounds) (zF f_given) (zF f_values) (zF f_plain) f_plainCount.toInt (zF f_pointers) f_now.toInt (zF f_fresh) (zF f_many) (zF f_sums) (zF f_lows) (zF f_highs) f_layed.toInt → ∀ (H : Heap) (locs : List Loc) (ls : Array Slot), kH (dC, dI) cl A s.heap H locs (wX55 ci ad d f_said f_heads f_kinds f_folded f_lengths f_parts f_rules f_known f_rounds f_given f_strata f_circle f_turns f_needs f_comes f_values f_plain f_plainCount f_pointers f_now f_fresh f_many f_sums f_lows f_highs f_layed f_worked f_large) → lv_has ls 8 [(0, .ref (ad 0)), (1, .int x1), (2, .int x2), (3, .int x3), (4, .int x4), (6, .int x6), (7, .int x7)] → W p l e ({ frames := 3, cells := 0, slots := 0, locals := 73 } : Room) s m args below meth c H locs 0 0 (MQ below (va_Qv (fun (u : (Nat → Int32) × (Nat → Int32) × (Nat → Int32) × (Nat → Int32) × Int32 × (Nat → Int32) × (Nat → Int32) × (Nat → Int32) × (Nat → Int32) × (Nat → Int32) × (Nat → Int32) × Int32) => post (zF (u.1)) (zF (u.2.1)) (zF (u.2.2.1)) (zF (u.2.2.2.1)) (u.2.2.2.2.1).toInt (zF (u.2.2.2.2.2.1)) (zF (u.2.2.2.2.2.2.1)) (zF (u.2.2.2.2.2.2.2.1)) (zF (u.2.2.2.2.2.2.2.2.1)) (zF (u.2.2.2.2.2.2.2.2.2.1)) (zF (u.2.2.2.2.2.2.2.2.2.2.1)) (u.2.2.2.2.2.2.2.2.2.2.2).toInt) (kB (dC, dI) cl (tX55 d) A (fun u : (Nat → Int32) × (Nat → Int32) × (Nat → Int32) × (Nat → Int32) × Int32 × (Nat → Int32) × (Nat → Int32) × (Nat → Int32) × (Nat → Int32) × (Nat → Int32) × (Nat → Int32) × Int32 => (wX55 ci ad d f_said f_heads f_kinds f_folded f_lengths f_parts f_rules f_known (u.1) (u.2.1) f_strata f_circle f_turns f_needs f_comes (u.2.2.1) (u.2.2.2.1) (u.2.2.2.2.1) (u.2.2.2.2.2.1) f_now (u.2.2.2.2.2.2.1) (u.2.2.2.2.2.2.2.1) (u.2.2.2.2.2.2.2.2.1) (u.2.2.2.2.2.2.2.2.2.1) (u.2.2.2.2.2.2.2.2.2.2.1) (u.2.2.2.2.2.2.2.2.2.2.2) f_worked f_large))) A) args s 0 0 A) (F0 m 225 ls [.int y2, .int y1, .ref (ad 19)]) := by
  have hx := X.1.1
  have hb := X.1.2.1
  intro x6 x7 y1 y2 f_rounds f_given f_values f_pointers f_fresh f_many f_sums f_lows f_highs f_layed hw H locs ls hH hl
  unfold wX55_spread_225 at hw
  have hq_48 := hw.1
  have hw := hw.2
  obtain ⟨f_highs_47, ef_highs_47⟩ : ∃ y : Nat → Int32, y = upd f_highs y1.toNatClampNeg y2 := ⟨_, rfl⟩
  refine k_iast X hH 19 18 rfl rfl (z_in (rfl : y1.toInt = _) hq_48) dX55_spread_225 ef_highs_47 (ws1 := (wX55 ci ad d f_said f_heads f_kinds f_folded f_lengths f_parts f_rules f_known f_rounds f_given f_strata f_circle f_turns f_needs f_comes f_values f_plain f_plainCount f_pointers f_now f_fresh f_many f_sums f_lows f_highs_47 f_layed f_worked f_large)) rfl (fun H locs hH => ?_)
  have hw := hw (zF f_highs_47) (by rw [ef_highs_47]; exact z_st (f := f_highs) (rfl : y1.toInt = _) hq_48.1 (rfl : y2.toInt = _))
  refine lv_aload_n hx hb dX55_spread_226 rfl (lv_at hl 0 rfl) ?_
  refine k_get X hH in_X55 0 rfl hc 21 (by decide) q6597 rfl dX55_spread_227 ?_
  refine lv_iload hx hb dX55_spread_230 (lv_at hl 5 rfl) ?_
  refine lv_dup2_11 hx hb dX55_spread_232 rfl rfl ?_
  have hq_49 := hw.1
  have hw := hw.2
  refine k_iald X hH 16 15 rfl rfl (z_in (rfl : x6.toInt = _) hq_49) dX55_spread_233 ?_
  have e_50 := z_ld (f := f_many) (rfl : x6.toInt = _) hq_49.1
  refine lv_iconst (v := 1) hx hb dX55_spread_234 (by decide) ?_
  refine lv_iadd hx hb dX55_spread_235 ?_
  have e_51 := z_add (z_m e_50) (z_m (rfl : (1 : Int32).toInt = 1))
  have hq_52 := hw.1
  have hw := hw.2
  have e_53 := z_x e_51 hq_52
  refine lv_topi (fun v_54 ev_54 => ?_)
  have hw := hw v_54.toInt (by rw [ev_54]; exact e_53)
  obtain ⟨f_many_55, ef_many_55⟩ : ∃ y : Nat → Int32, y = upd f_many x6.toNatClampNeg v_54 := ⟨_, rfl⟩
  refine k_iast X hH 16 15 rfl rfl (z_in (rfl : x6.toInt = _) hq_49) dX55_spread_236 ef_many_55 (ws1 := (wX55 ci ad d f_said f_heads f_kinds f_folded f_lengths f_parts f_rules f_known f_rounds f_given f_strata f_circle f_turns f_needs f_comes f_values f_plain f_plainCount f_pointers f_now f_fresh f_many_55 f_sums f_lows f_highs_47 f_layed f_worked f_large)) rfl (fun H locs hH => ?_)
  have hw := hw (zF f_many_55) (by rw [ef_many_55]; exact z_st (f := f_many) (rfl : x6.toInt = _) hq_49.1 (rfl : v_54.toInt = _))
  refine lv_aload_n hx hb dX55_spread_237 rfl (lv_at hl 0 rfl) ?_
  refine k_get X hH in_X55 0 rfl hc 22 (by decide) q6598 rfl dX55_spread_238 ?_
  refine lv_iload hx hb dX55_spread_241 (lv_at hl 5 rfl) ?_
  refine lv_aload_n hx hb dX55_spread_243 rfl (lv_at hl 0 rfl) ?_
  refine k_get X hH in_X55 0 rfl hc 22 (by decide) q6598 rfl dX55_spread_244 ?_
  refine lv_iload hx hb dX55_spread_247 (lv_at hl 5 rfl) ?_
  refine k_iald X hH 17 16 rfl rfl (z_in (rfl : x6.toInt = _) hq_49) dX55_spread_249 ?_
  have e_56 := z_ld (f := f_sums) (rfl : x6.toInt = _) hq_49.1
  refine lv_iload hx hb dX55_spread_250 (lv_at hl 6 rfl) ?_
  refine lv_iadd hx hb dX55_spread_252 ?_
  have e_57 := z_add (z_m e_56) (z_m (rfl : x7.toInt = _))
  refine lv_bipush (v := 32) hx hb dX55_spread_253 (by decide) ?_
  have hq_58 := hw.1
  have hw := hw.2
  have e_59 := z_x e_57 hq_58
  have hq_60 := hw.1
  have hw := hw.2
  refine lv_irem hx hb dX55_spread_255 (by decide) ?_
  have e_61 := z_rem e_59 (rfl : (32 : Int32).toInt = 32) hq_60 (by decide)
  refine lv_topi (fun v_62 ev_62 => ?_)
  have hw := hw v_62.toInt (by rw [ev_62]; exact e_61)
  obtain ⟨f_sums_63, ef_sums_63⟩ : ∃ y : Nat → Int32, y = upd f_sums x6.toNatClampNeg v_62 := ⟨_, rfl⟩
  refine k_iast X hH 17 16 rfl rfl (z_in (rfl : x6.toInt = _) hq_49) dX55_spread_256 ef_sums_63 (ws1 := (wX55 ci ad d f_said f_heads f_kinds f_folded f_lengths f_parts f_rules f_known f_rounds f_given f_strata f_circle f_turns f_needs f_comes f_values f_plain f_plainCount f_pointers f_now f_fresh f_many_55 f_sums_63 f_lows f_highs_47 f_layed f_worked f_large)) rfl (fun H locs hH => ?_)
  have hw := hw (zF f_sums_63) (by rw [ef_sums_63]; exact z_st (f := f_sums) (rfl : x6.toInt = _) hq_49.1 (rfl : v_62.toInt = _))
  exact atX55_spread_257 hc X hk75 f_rounds f_given f_values f_pointers f_fresh f_many_55 f_sums_63 f_lows f_highs_47 f_layed hw _ _ ls hH (lv_sub hl [0, 1, 2, 3, 4] rfl)
set_option maxHeartbeats 4000000 in
theorem atX55_spread_184 {p : Program} {l : Launch} {e : Env} {s : State} {m : MethodId} {args : Array Value} {below : List Frame} {meth : Method} {c : Code} {dC : Nat → ClassId} {dI : Nat → Nat → Nat} {cl : List vw_C} {ci : Nat} (hc : cl[ci]? = some (RX55, TX55, 28)) {ad : Nat → Nat} {d : Nat → ClassId} {A : Nat → Prop} {post : (Int → Int) → (Int → Int) → (Int → Int) → (Int → Int) → Int → (Int → Int) → (Int → Int) → (Int → Int) → (Int → Int) → (Int → Int) → (Int → Int) → Int → Prop} {f_said : Nat → Int32} {f_heads : Nat → Int32} {f_kinds : Nat → Int32} {f_folded : Nat → Int32} {f_lengths : Nat → Int32} {f_parts : Nat → Int32} {f_rules : Int32} {f_known : Int32} {f_strata : Nat → Int32} {f_circle : Int32} {f_turns : Int32} {f_needs : Nat → Int32} {f_comes : Nat → Int32} {f_now : Int32} {f_worked : Int64} {f_large : Int32} (X : kX p s m args meth c cX55_spread 8 RX55 none (dC, dI) cl (tX55 d)) {K75 : Int → (Int → Int) → (Int → Int) → (Int → Int) → (Int → Int) → (Int → Int) → (Int → Int) → (Int → Int) → (Int → Int) → (Int → Int) → Int → Prop} {x1 : Int32} {x2 : Int32} {x3 : Int32} {x4 : Int32} {f_plain : Nat → Int32} {f_plainCount : Int32} (hk75 : ∀ (x5 : Int32) (f_rounds : Nat → Int32) (f_given : Nat → Int32) (f_values : Nat → Int32) (f_pointers : Nat → Int32) (f_fresh : Nat → Int32) (f_many : Nat → Int32) (f_sums : Nat → Int32) (f_lows : Nat → Int32) (f_highs : Nat → Int32) (f_layed : Int32), K75 x5.toInt (zF f_rounds) (zF f_given) (zF f_values) (zF f_pointers) (zF f_fresh) (zF f_many) (zF f_sums) (zF f_lows) (zF f_highs) f_layed.toInt → ∀ (H : Heap) (locs : List Loc) (ls : Array Slot), kH (dC, dI) cl A s.heap H locs (wX55 ci ad d f_said f_heads f_kinds f_folded f_lengths f_parts f_rules f_known f_rounds f_given f_strata f_circle f_turns f_needs f_comes f_values f_plain f_plainCount f_pointers f_now f_fresh f_many f_sums f_lows f_highs f_layed f_worked f_large) → lv_has ls 8 [(0, .ref (ad 0)), (1, .int x1), (2, .int x2), (3, .int x3), (4, .int x4), (5, .int x5)] → W p l e ({ frames := 3, cells := 0, slots := 0, locals := 73 } : Room) s m args below meth c H locs 0 0 (MQ below (va_Qv (fun (u : (Nat → Int32) × (Nat → Int32) × (Nat → Int32) × (Nat → Int32) × Int32 × (Nat → Int32) × (Nat → Int32) × (Nat → Int32) × (Nat → Int32) × (Nat → Int32) × (Nat → Int32) × Int32) => post (zF (u.1)) (zF (u.2.1)) (zF (u.2.2.1)) (zF (u.2.2.2.1)) (u.2.2.2.2.1).toInt (zF (u.2.2.2.2.2.1)) (zF (u.2.2.2.2.2.2.1)) (zF (u.2.2.2.2.2.2.2.1)) (zF (u.2.2.2.2.2.2.2.2.1)) (zF (u.2.2.2.2.2.2.2.2.2.1)) (zF (u.2.2.2.2.2.2.2.2.2.2.1)) (u.2.2.2.2.2.2.2.2.2.2.2).toInt) (kB (dC, dI) cl (tX55 d) A (fun u : (Nat → Int32) × (Nat → Int32) × (Nat → Int32) × (Nat → Int32) × Int32 × (Nat → Int32) × (Nat → Int32) × (Nat → Int32) × (Nat → Int32) × (Nat → Int32) × (Nat → Int32) × Int32 => (wX55 ci ad d f_said f_heads f_kinds f_folded f_lengths f_parts f_rules f_known (u.1) (u.2.1) f_strata f_circle f_turns f_needs f_comes (u.2.2.1) (u.2.2.2.1) (u.2.2.2.2.1) (u.2.2.2.2.2.1) f_now (u.2.2.2.2.2.2.1) (u.2.2.2.2.2.2.2.1) (u.2.2.2.2.2.2.2.2.1) (u.2.2.2.2.2.2.2.2.2.1) (u.2.2.2.2.2.2.2.2.2.2.1) (u.2.2.2.2.2.2.2.2.2.2.2) f_worked f_large))) A) args s 0 0 A) (F0 m 75 ls [])) :
    ∀ (x6 : Int32) (x7 : Int32) (y1 : Int32) (y2 : Int32) (f_rounds : Nat → Int32) (f_given : Nat → Int32) (f_values : Nat → Int32) (f_pointers : Nat → Int32) (f_fresh : Nat → Int32) (f_many : Nat → Int32) (f_sums : Nat → Int32) (f_lows : Nat → Int32) (f_highs : Nat → Int32) (f_layed : Int32), wX55_spread_184 K75 x1.toInt x6.toInt x7.toInt y1.toInt y2.toInt (zF f_lengths) (zF f_parts) (zF f_rounds) (zF f_given) (zF f_values) (zF f_plain) f_plainCount.toInt (zF f_pointers) f_now.toInt (zF f_fresh) (zF f_many) (zF f_sums) (zF f_lows) (zF f_highs) f_layed.toInt → ∀ (H : Heap) (locs : List Loc) (ls : Array Slot), kH (dC, dI) cl A s.heap H locs (wX55 ci ad d f_said f_heads f_kinds f_folded f_lengths f_parts f_rules f_known f_rounds f_given f_strata f_circle f_turns f_needs f_comes f_values f_plain f_plainCount f_pointers f_now f_fresh f_many f_sums f_lows f_highs f_layed f_worked f_large) → lv_has ls 8 [(0, .ref (ad 0)), (1, .int x1), (2, .int x2), (3, .int x3), (4, .int x4), (6, .int x6), (7, .int x7)] → W p l e ({ frames := 3, cells := 0, slots := 0, locals := 73 } : Room) s m args below meth c H locs 0 0 (MQ below (va_Qv (fun (u : (Nat → Int32) × (Nat → Int32) × (Nat → Int32) × (Nat → Int32) × Int32 × (Nat → Int32) × (Nat → Int32) × (Nat → Int32) × (Nat → Int32) × (Nat → Int32) × (Nat → Int32) × Int32) => post (zF (u.1)) (zF (u.2.1)) (zF (u.2.2.1)) (zF (u.2.2.2.1)) (u.2.2.2.2.1).toInt (zF (u.2.2.2.2.2.1)) (zF (u.2.2.2.2.2.2.1)) (zF (u.2.2.2.2.2.2.2.1)) (zF (u.2.2.2.2.2.2.2.2.1)) (zF (u.2.2.2.2.2.2.2.2.2.1)) (zF (u.2.2.2.2.2.2.2.2.2.2.1)) (u.2.2.2.2.2.2.2.2.2.2.2).toInt) (kB (dC, dI) cl (tX55 d) A (fun u : (Nat → Int32) × (Nat → Int32) × (Nat → Int32) × (Nat → Int32) × Int32 × (Nat → Int32) × (Nat → Int32) × (Nat → Int32) × (Nat → Int32) × (Nat → Int32) × (Nat → Int32) × Int32 => (wX55 ci ad d f_said f_heads f_kinds f_folded f_lengths f_parts f_rules f_known (u.1) (u.2.1) f_strata f_circle f_turns f_needs f_comes (u.2.2.1) (u.2.2.2.1) (u.2.2.2.2.1) (u.2.2.2.2.2.1) f_now (u.2.2.2.2.2.2.1) (u.2.2.2.2.2.2.2.1) (u.2.2.2.2.2.2.2.2.1) (u.2.2.2.2.2.2.2.2.2.1) (u.2.2.2.2.2.2.2.2.2.2.1) (u.2.2.2.2.2.2.2.2.2.2.2) f_worked f_large))) A) args s 0 0 A) (F0 m 184 ls [.int y2, .int y1, .ref (ad 18)]) := by
  have hx := X.1.1
  have hb := X.1.2.1
  intro x6 x7 y1 y2 f_rounds f_given f_values f_pointers f_fresh f_many f_sums f_lows f_highs f_layed hw H locs ls hH hl
  unfold wX55_spread_184 at hw
  have hq_43 := hw.1
  have hw := hw.2
  obtain ⟨f_lows_42, ef_lows_42⟩ : ∃ y : Nat → Int32, y = upd f_lows y1.toNatClampNeg y2 := ⟨_, rfl⟩
  refine k_iast X hH 18 17 rfl rfl (z_in (rfl : y1.toInt = _) hq_43) dX55_spread_184 ef_lows_42 (ws1 := (wX55 ci ad d f_said f_heads f_kinds f_folded f_lengths f_parts f_rules f_known f_rounds f_given f_strata f_circle f_turns f_needs f_comes f_values f_plain f_plainCount f_pointers f_now f_fresh f_many f_sums f_lows_42 f_highs f_layed f_worked f_large)) rfl (fun H locs hH => ?_)
  have hw := hw (zF f_lows_42) (by rw [ef_lows_42]; exact z_st (f := f_lows) (rfl : y1.toInt = _) hq_43.1 (rfl : y2.toInt = _))
  refine lv_aload_n hx hb dX55_spread_185 rfl (lv_at hl 0 rfl) ?_
  refine k_get X hH in_X55 0 rfl hc 24 (by decide) q6600 rfl dX55_spread_186 ?_
  refine lv_iload hx hb dX55_spread_189 (lv_at hl 5 rfl) ?_
  refine lv_aload_n hx hb dX55_spread_191 rfl (lv_at hl 0 rfl) ?_
  refine k_get X hH in_X55 0 rfl hc 21 (by decide) q6597 rfl dX55_spread_192 ?_
  refine lv_iload hx hb dX55_spread_195 (lv_at hl 5 rfl) ?_
  have hq_44 := hw.1
  have hw := hw.2
  refine k_iald X hH 16 15 rfl rfl (z_in (rfl : x6.toInt = _) hq_44) dX55_spread_197 ?_
  have e_45 := z_ld (f := f_many) (rfl : x6.toInt = _) hq_44.1
  refine lv_if_eq (tgt := 213) hx hb dX55_spread_198 (by decide) (fun c_46 => ?_) (fun c_46 => ?_)
  · have hw := hw.1 (z_eq e_45 (rfl : (0 : Int32).toInt = 0) c_46)
    refine lv_iload hx hb dX55_spread_213 (lv_at hl 6 rfl) ?_
    refine lv_goto (tgt := 225) hx hb dX55_spread_215 (by decide) ?_
    exact atX55_spread_225 hc X hk75 x6 x7 x6 x7 f_rounds f_given f_values f_pointers f_fresh f_many f_sums f_lows_42 f_highs f_layed hw _ _ ls hH (lv_sub hl [0, 1, 2, 3, 4, 5, 6] rfl)
  · have hw := hw.2 (z_neq e_45 (rfl : (0 : Int32).toInt = 0) c_46)
    refine lv_iload hx hb dX55_spread_201 (lv_at hl 6 rfl) ?_
    refine lv_aload_n hx hb dX55_spread_203 rfl (lv_at hl 0 rfl) ?_
    refine k_get X hH in_X55 0 rfl hc 24 (by decide) q6600 rfl dX55_spread_204 ?_
    refine lv_iload hx hb dX55_spread_207 (lv_at hl 5 rfl) ?_
    refine k_iald X hH 19 18 rfl rfl (z_in (rfl : x6.toInt = _) hq_44) dX55_spread_209 ?_
    have e_69 := z_ld (f := f_highs) (rfl : x6.toInt = _) hq_44.1
    refine lv_icmp_le (tgt := 218) hx hb dX55_spread_210 (by decide) (fun c_70 => ?_) (fun c_70 => ?_)
    · have hw := hw.1 (z_le (rfl : x7.toInt = _) e_69 c_70)
      refine lv_aload_n hx hb dX55_spread_218 rfl (lv_at hl 0 rfl) ?_
      refine k_get X hH in_X55 0 rfl hc 24 (by decide) q6600 rfl dX55_spread_219 ?_
      refine lv_iload hx hb dX55_spread_222 (lv_at hl 5 rfl) ?_
      refine k_iald X hH 19 18 rfl rfl (z_in (rfl : x6.toInt = _) hq_44) dX55_spread_224 ?_
      have e_71 := z_ld (f := f_highs) (rfl : x6.toInt = _) hq_44.1
      exact atX55_spread_225 hc X hk75 x6 x7 x6 (f_highs x6.toNatClampNeg) f_rounds f_given f_values f_pointers f_fresh f_many f_sums f_lows_42 f_highs f_layed (by rw [show (f_highs x6.toNatClampNeg : Int32).toInt = _ from e_71]; exact hw) _ _ ls hH (lv_sub hl [0, 1, 2, 3, 4, 5, 6] rfl)
    · have hw := hw.2 (z_nle (rfl : x7.toInt = _) e_69 c_70)
      refine lv_iload hx hb dX55_spread_213 (lv_at hl 6 rfl) ?_
      refine lv_goto (tgt := 225) hx hb dX55_spread_215 (by decide) ?_
      exact atX55_spread_225 hc X hk75 x6 x7 x6 x7 f_rounds f_given f_values f_pointers f_fresh f_many f_sums f_lows_42 f_highs f_layed hw _ _ ls hH (lv_sub hl [0, 1, 2, 3, 4, 5, 6] rfl)
set_option maxHeartbeats 4000000 in
theorem atX55_spread_75 {p : Program} {l : Launch} {e : Env} {s : State} {m : MethodId} {args : Array Value} {below : List Frame} {meth : Method} {c : Code} {dC : Nat → ClassId} {dI : Nat → Nat → Nat} {cl : List vw_C} {ci : Nat} (hc : cl[ci]? = some (RX55, TX55, 28)) {ad : Nat → Nat} {d : Nat → ClassId} {A : Nat → Prop} {post : (Int → Int) → (Int → Int) → (Int → Int) → (Int → Int) → Int → (Int → Int) → (Int → Int) → (Int → Int) → (Int → Int) → (Int → Int) → (Int → Int) → Int → Prop} {f_said : Nat → Int32} {f_heads : Nat → Int32} {f_kinds : Nat → Int32} {f_folded : Nat → Int32} {f_lengths : Nat → Int32} {f_parts : Nat → Int32} {f_rules : Int32} {f_known : Int32} {f_strata : Nat → Int32} {f_circle : Int32} {f_turns : Int32} {f_needs : Nat → Int32} {f_comes : Nat → Int32} {f_now : Int32} {f_worked : Int64} {f_large : Int32} (X : kX p s m args meth c cX55_spread 8 RX55 none (dC, dI) cl (tX55 d)) {K283 : (Int → Int) → (Int → Int) → (Int → Int) → (Int → Int) → (Int → Int) → (Int → Int) → (Int → Int) → (Int → Int) → (Int → Int) → Int → Prop} {x1 : Int32} {x2 : Int32} {x3 : Int32} {x4 : Int32} {f_plain : Nat → Int32} {f_plainCount : Int32} (hk283 : ∀ (f_rounds : Nat → Int32) (f_given : Nat → Int32) (f_values : Nat → Int32) (f_pointers : Nat → Int32) (f_fresh : Nat → Int32) (f_many : Nat → Int32) (f_sums : Nat → Int32) (f_lows : Nat → Int32) (f_highs : Nat → Int32) (f_layed : Int32), K283 (zF f_rounds) (zF f_given) (zF f_values) (zF f_pointers) (zF f_fresh) (zF f_many) (zF f_sums) (zF f_lows) (zF f_highs) f_layed.toInt → ∀ (H : Heap) (locs : List Loc) (ls : Array Slot), kH (dC, dI) cl A s.heap H locs (wX55 ci ad d f_said f_heads f_kinds f_folded f_lengths f_parts f_rules f_known f_rounds f_given f_strata f_circle f_turns f_needs f_comes f_values f_plain f_plainCount f_pointers f_now f_fresh f_many f_sums f_lows f_highs f_layed f_worked f_large) → lv_has ls 8 [(0, .ref (ad 0)), (1, .int x1), (2, .int x2), (3, .int x3), (4, .int x4)] → W p l e ({ frames := 3, cells := 0, slots := 0, locals := 73 } : Room) s m args below meth c H locs 0 0 (MQ below (va_Qv (fun (u : (Nat → Int32) × (Nat → Int32) × (Nat → Int32) × (Nat → Int32) × Int32 × (Nat → Int32) × (Nat → Int32) × (Nat → Int32) × (Nat → Int32) × (Nat → Int32) × (Nat → Int32) × Int32) => post (zF (u.1)) (zF (u.2.1)) (zF (u.2.2.1)) (zF (u.2.2.2.1)) (u.2.2.2.2.1).toInt (zF (u.2.2.2.2.2.1)) (zF (u.2.2.2.2.2.2.1)) (zF (u.2.2.2.2.2.2.2.1)) (zF (u.2.2.2.2.2.2.2.2.1)) (zF (u.2.2.2.2.2.2.2.2.2.1)) (zF (u.2.2.2.2.2.2.2.2.2.2.1)) (u.2.2.2.2.2.2.2.2.2.2.2).toInt) (kB (dC, dI) cl (tX55 d) A (fun u : (Nat → Int32) × (Nat → Int32) × (Nat → Int32) × (Nat → Int32) × Int32 × (Nat → Int32) × (Nat → Int32) × (Nat → Int32) × (Nat → Int32) × (Nat → Int32) × (Nat → Int32) × Int32 => (wX55 ci ad d f_said f_heads f_kinds f_folded f_lengths f_parts f_rules f_known (u.1) (u.2.1) f_strata f_circle f_turns f_needs f_comes (u.2.2.1) (u.2.2.2.1) (u.2.2.2.2.1) (u.2.2.2.2.2.1) f_now (u.2.2.2.2.2.2.1) (u.2.2.2.2.2.2.2.1) (u.2.2.2.2.2.2.2.2.1) (u.2.2.2.2.2.2.2.2.2.1) (u.2.2.2.2.2.2.2.2.2.2.1) (u.2.2.2.2.2.2.2.2.2.2.2) f_worked f_large))) A) args s 0 0 A) (F0 m 283 ls [])) :
    ∀ (nn : Nat) (x5 : Int32) (f_rounds : Nat → Int32) (f_given : Nat → Int32) (f_values : Nat → Int32) (f_pointers : Nat → Int32) (f_fresh : Nat → Int32) (f_many : Nat → Int32) (f_sums : Nat → Int32) (f_lows : Nat → Int32) (f_highs : Nat → Int32) (f_layed : Int32), wX55_spread_75 K283 x1.toInt x2.toInt x3.toInt x4.toInt (zF f_heads) (zF f_folded) (zF f_lengths) (zF f_parts) (zF f_plain) f_plainCount.toInt f_now.toInt nn x5.toInt (zF f_rounds) (zF f_given) (zF f_values) (zF f_pointers) (zF f_fresh) (zF f_many) (zF f_sums) (zF f_lows) (zF f_highs) f_layed.toInt → ∀ (H : Heap) (locs : List Loc) (ls : Array Slot), kH (dC, dI) cl A s.heap H locs (wX55 ci ad d f_said f_heads f_kinds f_folded f_lengths f_parts f_rules f_known f_rounds f_given f_strata f_circle f_turns f_needs f_comes f_values f_plain f_plainCount f_pointers f_now f_fresh f_many f_sums f_lows f_highs f_layed f_worked f_large) → lv_has ls 8 [(0, .ref (ad 0)), (1, .int x1), (2, .int x2), (3, .int x3), (4, .int x4), (5, .int x5)] → W p l e ({ frames := 3, cells := 0, slots := 0, locals := 73 } : Room) s m args below meth c H locs 0 0 (MQ below (va_Qv (fun (u : (Nat → Int32) × (Nat → Int32) × (Nat → Int32) × (Nat → Int32) × Int32 × (Nat → Int32) × (Nat → Int32) × (Nat → Int32) × (Nat → Int32) × (Nat → Int32) × (Nat → Int32) × Int32) => post (zF (u.1)) (zF (u.2.1)) (zF (u.2.2.1)) (zF (u.2.2.2.1)) (u.2.2.2.2.1).toInt (zF (u.2.2.2.2.2.1)) (zF (u.2.2.2.2.2.2.1)) (zF (u.2.2.2.2.2.2.2.1)) (zF (u.2.2.2.2.2.2.2.2.1)) (zF (u.2.2.2.2.2.2.2.2.2.1)) (zF (u.2.2.2.2.2.2.2.2.2.2.1)) (u.2.2.2.2.2.2.2.2.2.2.2).toInt) (kB (dC, dI) cl (tX55 d) A (fun u : (Nat → Int32) × (Nat → Int32) × (Nat → Int32) × (Nat → Int32) × Int32 × (Nat → Int32) × (Nat → Int32) × (Nat → Int32) × (Nat → Int32) × (Nat → Int32) × (Nat → Int32) × Int32 => (wX55 ci ad d f_said f_heads f_kinds f_folded f_lengths f_parts f_rules f_known (u.1) (u.2.1) f_strata f_circle f_turns f_needs f_comes (u.2.2.1) (u.2.2.2.1) (u.2.2.2.2.1) (u.2.2.2.2.2.1) f_now (u.2.2.2.2.2.2.1) (u.2.2.2.2.2.2.2.1) (u.2.2.2.2.2.2.2.2.1) (u.2.2.2.2.2.2.2.2.2.1) (u.2.2.2.2.2.2.2.2.2.2.1) (u.2.2.2.2.2.2.2.2.2.2.2) f_worked f_large))) A) args s 0 0 A) (F0 m 75 ls []) := by
  have hx := X.1.1
  have hb := X.1.2.1
  intro nn
  induction nn with
  | zero =>
    intro x5 f_rounds f_given f_values f_pointers f_fresh f_many f_sums f_lows f_highs f_layed hw
    exact False.elim hw
  | succ n ih =>
    intro x5 f_rounds f_given f_values f_pointers f_fresh f_many f_sums f_lows f_highs f_layed hw H locs ls hH hl
    rw [wX55_spread_75] at hw
    refine lv_iload hx hb dX55_spread_75 (lv_at hl 5 rfl) ?_
    refine lv_if_eq (tgt := 283) hx hb dX55_spread_77 (by decide) (fun c_24 => ?_) (fun c_24 => ?_)
    · have hw := hw.1 (z_eq (rfl : x5.toInt = _) (rfl : (0 : Int32).toInt = 0) c_24)
      exact hk283 f_rounds f_given f_values f_pointers f_fresh f_many f_sums f_lows f_highs f_layed hw _ _ ls hH (lv_sub hl [0, 1, 2, 3, 4] rfl)
    · have hw := hw.2 (z_neq (rfl : x5.toInt = _) (rfl : (0 : Int32).toInt = 0) c_24)
      refine lv_aload_n hx hb dX55_spread_80 rfl (lv_at hl 0 rfl) ?_
      refine lv_aload_n hx hb dX55_spread_81 rfl (lv_at hl 0 rfl) ?_
      refine k_get X hH in_X55 0 rfl hc 1 (by decide) q6577 rfl dX55_spread_82 ?_
      refine lv_iconst (v := 3) hx hb dX55_spread_85 (by decide) ?_
      refine lv_iload_n hx hb dX55_spread_86 rfl (lv_at hl 1 rfl) ?_
      refine lv_imul hx hb dX55_spread_87 ?_
      have e_25 := z_mul (z_m (rfl : (3 : Int32).toInt = 3)) (z_m (rfl : x1.toInt = _))
      refine lv_iconst (v := 1) hx hb dX55_spread_88 (by decide) ?_
      refine lv_iadd hx hb dX55_spread_89 ?_
      have e_26 := z_add e_25 (z_m (rfl : (1 : Int32).toInt = 1))
      have hq_27 := hw.1
      have hw := hw.2
      have e_28 := z_xi e_26 hq_27 (by decide)
      refine k_iald X hH 2 1 rfl rfl (z_in e_28 hq_27) dX55_spread_90 ?_
      have e_29 := z_ld (f := f_heads) e_28 hq_27.1
      refine k_i0 hH (k_runV (As := [.int (f_heads ((3 * x1) + 1).toNatClampNeg)]) (rest := []) X hH.1 hH.2.1 X.2.2.2 (walkX55_valueOf hc (x1 := (f_heads ((3 * x1) + 1).toNatClampNeg)) (f_said := f_said) (f_heads := f_heads) (f_kinds := f_kinds) (f_folded := f_folded) (f_lengths := f_lengths) (f_parts := f_parts) (f_rules := f_rules) (f_known := f_known) (f_rounds := f_rounds) (f_given := f_given) (f_strata := f_strata) (f_circle := f_circle) (f_turns := f_turns) (f_needs := f_needs) (f_comes := f_comes) (f_values := f_values) (f_plain := f_plain) (f_plainCount := f_plainCount) (f_pointers := f_pointers) (f_now := f_now) (f_fresh := f_fresh) (f_many := f_many) (f_sums := f_sums) (f_lows := f_lows) (f_highs := f_highs) (f_layed := f_layed) (f_worked := f_worked) (f_large := f_large) (by rw [show (f_heads ((3 * x1) + 1).toNatClampNeg : Int32).toInt = _ from e_29]; exact hw)) (cwV 1 X.1.2.2.2.2 gX55_126 rfl rfl rfl hX55_valueOf ⟨Nat.le_of_ble_eq_true rfl, Nat.le_of_ble_eq_true rfl⟩) hc (q0 := 0) rfl rfl hl.1 rfl (Nat.le_of_ble_eq_true rfl) dX55_spread_91 ⟨Nat.le_refl 0, Nat.le_refl 0⟩) (fun r_30 _ H locs hw hH => ?_)
      have hH : kH (dC, dI) cl A s.heap H locs (wX55 ci ad d f_said f_heads f_kinds f_folded f_lengths f_parts f_rules f_known f_rounds f_given f_strata f_circle f_turns f_needs f_comes f_values f_plain f_plainCount f_pointers f_now f_fresh f_many f_sums f_lows f_highs f_layed f_worked f_large) := hH
      refine lv_istore (lv' := [(6, .int r_30), (0, .ref (ad 0)), (1, .int x1), (2, .int x2), (3, .int x3), (4, .int x4), (5, .int x5)]) hx hb dX55_spread_94 hl (by decide) rfl (fun ls hl => ?_)
      refine lv_iload hx hb dX55_spread_96 (lv_at hl 5 rfl) ?_
      refine lv_if_ne (tgt := 129) hx hb dX55_spread_98 (by decide) (fun c_31 => ?_) (fun c_31 => ?_)
      · have hw := hw.2 (z_ne (rfl : x4.toInt = _) (rfl : (0 : Int32).toInt = 0) c_31)
        refine lv_aload_n hx hb dX55_spread_129 rfl (lv_at hl 1 rfl) ?_
        refine k_get X hH in_X55 0 rfl hc 15 (by decide) q6591 rfl dX55_spread_130 ?_
        refine lv_iconst (v := (-1)) hx hb dX55_spread_133 (by decide) ?_
        refine lv_aload_n hx hb dX55_spread_134 rfl (lv_at hl 1 rfl) ?_
        refine k_get X hH in_X55 0 rfl hc 3 (by decide) q6579 rfl dX55_spread_135 ?_
        refine lv_iload_n hx hb dX55_spread_138 rfl (lv_at hl 2 rfl) ?_
        have hq_32 := hw.1
        have hw := hw.2
        refine k_iald X hH 4 3 rfl rfl (z_in (rfl : x1.toInt = _) hq_32) dX55_spread_139 ?_
        have e_33 := z_ld (f := f_folded) (rfl : x1.toInt = _) hq_32.1
        refine lv_isub hx hb dX55_spread_140 ?_
        have e_34 := z_sub (z_m (rfl : ((-1) : Int32).toInt = (-1))) (z_m e_33)
        have hq_35 := hw.1
        have hw := hw.2
        have e_36 := z_xi e_34 hq_35 (by decide)
        refine k_iald X hH 12 11 rfl rfl (z_in e_36 hq_35) dX55_spread_141 ?_
        have e_37 := z_ld (f := f_values) e_36 hq_35.1
        refine lv_topi (fun x7_38 ex7_38 => ?_)
        have hw := hw x7_38.toInt (by rw [ex7_38]; exact e_37)
        refine lv_istore (lv' := [(7, .int x7_38), (6, .int r_30), (0, .ref (ad 0)), (1, .int x1), (2, .int x2), (3, .int x3), (4, .int x4), (5, .int x5)]) hx hb dX55_spread_142 hl (by decide) rfl (fun ls hl => ?_)
        refine lv_aload_n hx hb dX55_spread_144 rfl (lv_at hl 2 rfl) ?_
        refine k_get X hH in_X55 0 rfl hc 23 (by decide) q6599 rfl dX55_spread_145 ?_
        refine lv_iload hx hb dX55_spread_148 (lv_at hl 1 rfl) ?_
        refine lv_aload_n hx hb dX55_spread_150 rfl (lv_at hl 2 rfl) ?_
        refine k_get X hH in_X55 0 rfl hc 21 (by decide) q6597 rfl dX55_spread_151 ?_
        refine lv_iload hx hb dX55_spread_154 (lv_at hl 1 rfl) ?_
        have hq_39 := hw.1
        have hw := hw.2
        refine k_iald X hH 16 15 rfl rfl (z_in (rfl : r_30.toInt = _) hq_39) dX55_spread_156 ?_
        have e_40 := z_ld (f := f_many) (rfl : r_30.toInt = _) hq_39.1
        refine lv_if_eq (tgt := 172) hx hb dX55_spread_157 (by decide) (fun c_41 => ?_) (fun c_41 => ?_)
        · have hw := hw.1 (z_eq e_40 (rfl : (0 : Int32).toInt = 0) c_41)
          refine lv_iload hx hb dX55_spread_172 (lv_at hl 0 rfl) ?_
          refine lv_goto (tgt := 184) hx hb dX55_spread_174 (by decide) ?_
          exact atX55_spread_184 hc X (fun x5 f_rounds f_given f_values f_pointers f_fresh f_many f_sums f_lows f_highs f_layed hw H locs ls hH hl => ih x5 f_rounds f_given f_values f_pointers f_fresh f_many f_sums f_lows f_highs f_layed hw _ _ ls hH (lv_sub hl [0, 1, 2, 3, 4, 5] rfl)) r_30 x7_38 r_30 x7_38 f_rounds f_given f_values f_pointers f_fresh f_many f_sums f_lows f_highs f_layed hw _ _ ls hH (lv_sub hl [2, 3, 4, 5, 6, 1, 0] rfl)
        · have hw := hw.2 (z_neq e_40 (rfl : (0 : Int32).toInt = 0) c_41)
          refine lv_iload hx hb dX55_spread_160 (lv_at hl 0 rfl) ?_
          refine lv_aload_n hx hb dX55_spread_162 rfl (lv_at hl 2 rfl) ?_
          refine k_get X hH in_X55 0 rfl hc 23 (by decide) q6599 rfl dX55_spread_163 ?_
          refine lv_iload hx hb dX55_spread_166 (lv_at hl 1 rfl) ?_
          refine k_iald X hH 18 17 rfl rfl (z_in (rfl : r_30.toInt = _) hq_39) dX55_spread_168 ?_
          have e_72 := z_ld (f := f_lows) (rfl : r_30.toInt = _) hq_39.1
          refine lv_icmp_ge (tgt := 177) hx hb dX55_spread_169 (by decide) (fun c_73 => ?_) (fun c_73 => ?_)
          · have hw := hw.1 (z_le e_72 (rfl : x7_38.toInt = _) c_73)
            refine lv_aload_n hx hb dX55_spread_177 rfl (lv_at hl 2 rfl) ?_
            refine k_get X hH in_X55 0 rfl hc 23 (by decide) q6599 rfl dX55_spread_178 ?_
            refine lv_iload hx hb dX55_spread_181 (lv_at hl 1 rfl) ?_
            refine k_iald X hH 18 17 rfl rfl (z_in (rfl : r_30.toInt = _) hq_39) dX55_spread_183 ?_
            have e_74 := z_ld (f := f_lows) (rfl : r_30.toInt = _) hq_39.1
            exact atX55_spread_184 hc X (fun x5 f_rounds f_given f_values f_pointers f_fresh f_many f_sums f_lows f_highs f_layed hw H locs ls hH hl => ih x5 f_rounds f_given f_values f_pointers f_fresh f_many f_sums f_lows f_highs f_layed hw _ _ ls hH (lv_sub hl [0, 1, 2, 3, 4, 5] rfl)) r_30 x7_38 r_30 (f_lows r_30.toNatClampNeg) f_rounds f_given f_values f_pointers f_fresh f_many f_sums f_lows f_highs f_layed (by rw [show (f_lows r_30.toNatClampNeg : Int32).toInt = _ from e_74]; exact hw) _ _ ls hH (lv_sub hl [2, 3, 4, 5, 6, 1, 0] rfl)
          · have hw := hw.2 (z_nle e_72 (rfl : x7_38.toInt = _) c_73)
            refine lv_iload hx hb dX55_spread_172 (lv_at hl 0 rfl) ?_
            refine lv_goto (tgt := 184) hx hb dX55_spread_174 (by decide) ?_
            exact atX55_spread_184 hc X (fun x5 f_rounds f_given f_values f_pointers f_fresh f_many f_sums f_lows f_highs f_layed hw H locs ls hH hl => ih x5 f_rounds f_given f_values f_pointers f_fresh f_many f_sums f_lows f_highs f_layed hw _ _ ls hH (lv_sub hl [0, 1, 2, 3, 4, 5] rfl)) r_30 x7_38 r_30 x7_38 f_rounds f_given f_values f_pointers f_fresh f_many f_sums f_lows f_highs f_layed hw _ _ ls hH (lv_sub hl [2, 3, 4, 5, 6, 1, 0] rfl)
      · have hw := hw.1 (z_eq (rfl : x4.toInt = _) (rfl : (0 : Int32).toInt = 0) c_31)
        refine lv_aload_n hx hb dX55_spread_101 rfl (lv_at hl 1 rfl) ?_
        refine lv_iload_n hx hb dX55_spread_102 rfl (lv_at hl 4 rfl) ?_
        refine lv_iload hx hb dX55_spread_103 (lv_at hl 0 rfl) ?_
        refine lv_aload_n hx hb dX55_spread_105 rfl (lv_at hl 1 rfl) ?_
        refine lv_aload_n hx hb dX55_spread_106 rfl (lv_at hl 1 rfl) ?_
        refine k_get X hH in_X55 0 rfl hc 1 (by decide) q6577 rfl dX55_spread_107 ?_
        refine lv_iconst (v := 3) hx hb dX55_spread_110 (by decide) ?_
        refine lv_iload_n hx hb dX55_spread_111 rfl (lv_at hl 2 rfl) ?_
        refine lv_imul hx hb dX55_spread_112 ?_
        have e_75 := z_mul (z_m (rfl : (3 : Int32).toInt = 3)) (z_m (rfl : x1.toInt = _))
        refine lv_iconst (v := 2) hx hb dX55_spread_113 (by decide) ?_
        refine lv_iadd hx hb dX55_spread_114 ?_
        have e_76 := z_add e_75 (z_m (rfl : (2 : Int32).toInt = 2))
        have hq_77 := hw.1
        have hw := hw.2
        have e_78 := z_xi e_76 hq_77 (by decide)
        refine k_iald X hH 2 1 rfl rfl (z_in e_78 hq_77) dX55_spread_115 ?_
        have e_79 := z_ld (f := f_heads) e_78 hq_77.1
        refine k_i0 hH (k_runV (As := [.int (f_heads ((3 * x1) + 2).toNatClampNeg)]) (rest := [.int r_30, .int x3, .ref (ad 0)]) X hH.1 hH.2.1 X.2.2.2 (walkX55_valueOf hc (x1 := (f_heads ((3 * x1) + 2).toNatClampNeg)) (f_said := f_said) (f_heads := f_heads) (f_kinds := f_kinds) (f_folded := f_folded) (f_lengths := f_lengths) (f_parts := f_parts) (f_rules := f_rules) (f_known := f_known) (f_rounds := f_rounds) (f_given := f_given) (f_strata := f_strata) (f_circle := f_circle) (f_turns := f_turns) (f_needs := f_needs) (f_comes := f_comes) (f_values := f_values) (f_plain := f_plain) (f_plainCount := f_plainCount) (f_pointers := f_pointers) (f_now := f_now) (f_fresh := f_fresh) (f_many := f_many) (f_sums := f_sums) (f_lows := f_lows) (f_highs := f_highs) (f_layed := f_layed) (f_worked := f_worked) (f_large := f_large) (by rw [show (f_heads ((3 * x1) + 2).toNatClampNeg : Int32).toInt = _ from e_79]; exact hw)) (cwV 1 X.1.2.2.2.2 gX55_126 rfl rfl rfl hX55_valueOf ⟨Nat.le_of_ble_eq_true rfl, Nat.le_of_ble_eq_true rfl⟩) hc (q0 := 0) rfl rfl hl.1 rfl (Nat.le_of_ble_eq_true rfl) dX55_spread_116 ⟨Nat.le_refl 0, Nat.le_refl 0⟩) (fun r_80 _ H locs hw hH => ?_)
        have hH : kH (dC, dI) cl A s.heap H locs (wX55 ci ad d f_said f_heads f_kinds f_folded f_lengths f_parts f_rules f_known f_rounds f_given f_strata f_circle f_turns f_needs f_comes f_values f_plain f_plainCount f_pointers f_now f_fresh f_many f_sums f_lows f_highs f_layed f_worked f_large) := hH
        refine k_i0 hH (k_runS (As := [.int x3, .int r_30, .int r_80]) (rest := [.ref (ad 0)]) X hH.1 hH.2.1 X.2.2.2 (walkX55_code hc (x0 := x3) (x1 := r_30) (x2 := r_80) (f_said := f_said) (f_heads := f_heads) (f_kinds := f_kinds) (f_folded := f_folded) (f_lengths := f_lengths) (f_parts := f_parts) (f_rules := f_rules) (f_known := f_known) (f_rounds := f_rounds) (f_given := f_given) (f_strata := f_strata) (f_circle := f_circle) (f_turns := f_turns) (f_needs := f_needs) (f_comes := f_comes) (f_values := f_values) (f_plain := f_plain) (f_plainCount := f_plainCount) (f_pointers := f_pointers) (f_now := f_now) (f_fresh := f_fresh) (f_many := f_many) (f_sums := f_sums) (f_lows := f_lows) (f_highs := f_highs) (f_layed := f_layed) (f_worked := f_worked) (f_large := f_large) hw) (va_cwS 3 X.1.2.2.2.2 gX55_79 rfl rfl rfl hX55_code ⟨Nat.le_of_ble_eq_true rfl, Nat.le_of_ble_eq_true rfl⟩) rfl hl.1 rfl (Nat.le_of_ble_eq_true rfl) dX55_spread_119 ⟨Nat.le_refl 0, Nat.le_refl 0⟩) (fun r_81 _ H locs hw hH => ?_)
        have hH : kH (dC, dI) cl A s.heap H locs (wX55 ci ad d f_said f_heads f_kinds f_folded f_lengths f_parts f_rules f_known f_rounds f_given f_strata f_circle f_turns f_needs f_comes f_values f_plain f_plainCount f_pointers f_now f_fresh f_many f_sums f_lows f_highs f_layed f_worked f_large) := hH
        refine lv_iload_n hx hb dX55_spread_122 rfl (lv_at hl 3 rfl) ?_
        refine k_v0 hH (k_runV (As := [.int r_81, .int x2]) (rest := []) X hH.1 hH.2.1 X.2.2.2 (walkX55_give hc (x1 := r_81) (x2 := x2) (f_said := f_said) (f_heads := f_heads) (f_kinds := f_kinds) (f_folded := f_folded) (f_lengths := f_lengths) (f_parts := f_parts) (f_rules := f_rules) (f_known := f_known) (f_rounds := f_rounds) (f_given := f_given) (f_strata := f_strata) (f_circle := f_circle) (f_turns := f_turns) (f_needs := f_needs) (f_comes := f_comes) (f_values := f_values) (f_plain := f_plain) (f_plainCount := f_plainCount) (f_pointers := f_pointers) (f_now := f_now) (f_fresh := f_fresh) (f_many := f_many) (f_sums := f_sums) (f_lows := f_lows) (f_highs := f_highs) (f_layed := f_layed) (f_worked := f_worked) (f_large := f_large) hw) (cwV 2 X.1.2.2.2.2 gX55_141 rfl rfl rfl hX55_give ⟨Nat.le_of_ble_eq_true rfl, Nat.le_of_ble_eq_true rfl⟩) hc (q0 := 0) rfl rfl hl.1 rfl (Nat.le_of_ble_eq_true rfl) dX55_spread_123 ⟨Nat.le_refl 0, Nat.le_refl 0⟩) (fun u H locs hw hH => ?_)
        obtain ⟨f_rounds_82, f_given_83, f_fresh_84, f_layed_85⟩ := u
        have hH : kH (dC, dI) cl A s.heap H locs (wX55 ci ad d f_said f_heads f_kinds f_folded f_lengths f_parts f_rules f_known f_rounds_82 f_given_83 f_strata f_circle f_turns f_needs f_comes f_values f_plain f_plainCount f_pointers f_now f_fresh_84 f_many f_sums f_lows f_highs f_layed_85 f_worked f_large) := hH
        refine lv_goto (tgt := 257) hx hb dX55_spread_126 (by decide) ?_
        exact atX55_spread_257 hc X (fun x5 f_rounds f_given f_values f_pointers f_fresh f_many f_sums f_lows f_highs f_layed hw H locs ls hH hl => ih x5 f_rounds f_given f_values f_pointers f_fresh f_many f_sums f_lows f_highs f_layed hw _ _ ls hH (lv_sub hl [0, 1, 2, 3, 4, 5] rfl)) f_rounds_82 f_given_83 f_values f_pointers f_fresh_84 f_many f_sums f_lows f_highs f_layed_85 hw _ _ ls hH (lv_sub hl [1, 2, 3, 4, 5] rfl)
set_option maxHeartbeats 4000000 in
theorem atX55_spread_286 {p : Program} {l : Launch} {e : Env} {s : State} {m : MethodId} {args : Array Value} {below : List Frame} {meth : Method} {c : Code} {dC : Nat → ClassId} {dI : Nat → Nat → Nat} {cl : List vw_C} {ci : Nat} (hc : cl[ci]? = some (RX55, TX55, 28)) {ad : Nat → Nat} {d : Nat → ClassId} {A : Nat → Prop} {post : (Int → Int) → (Int → Int) → (Int → Int) → (Int → Int) → Int → (Int → Int) → (Int → Int) → (Int → Int) → (Int → Int) → (Int → Int) → (Int → Int) → Int → Prop} {f_said : Nat → Int32} {f_heads : Nat → Int32} {f_kinds : Nat → Int32} {f_folded : Nat → Int32} {f_lengths : Nat → Int32} {f_parts : Nat → Int32} {f_rules : Int32} {f_known : Int32} {f_strata : Nat → Int32} {f_circle : Int32} {f_turns : Int32} {f_needs : Nat → Int32} {f_comes : Nat → Int32} {f_now : Int32} {f_worked : Int64} {f_large : Int32} (X : kX p s m args meth c cX55_spread 8 RX55 none (dC, dI) cl (tX55 d)) {K401 : (Int → Int) → (Int → Int) → (Int → Int) → Int → Prop} {x1 : Int32} {x2 : Int32} {x3 : Int32} {x4 : Int32} {f_values : Nat → Int32} {f_plain : Nat → Int32} {f_plainCount : Int32} {f_pointers : Nat → Int32} {f_many : Nat → Int32} {f_sums : Nat → Int32} {f_lows : Nat → Int32} {f_highs : Nat → Int32} (hk401 : ∀ (f_rounds : Nat → Int32) (f_given : Nat → Int32) (f_fresh : Nat → Int32) (f_layed : Int32), K401 (zF f_rounds) (zF f_given) (zF f_fresh) f_layed.toInt → ∀ (H : Heap) (locs : List Loc) (ls : Array Slot), kH (dC, dI) cl A s.heap H locs (wX55 ci ad d f_said f_heads f_kinds f_folded f_lengths f_parts f_rules f_known f_rounds f_given f_strata f_circle f_turns f_needs f_comes f_values f_plain f_plainCount f_pointers f_now f_fresh f_many f_sums f_lows f_highs f_layed f_worked f_large) → lv_has ls 8 [] → W p l e ({ frames := 3, cells := 0, slots := 0, locals := 73 } : Room) s m args below meth c H locs 0 0 (MQ below (va_Qv (fun (u : (Nat → Int32) × (Nat → Int32) × (Nat → Int32) × (Nat → Int32) × Int32 × (Nat → Int32) × (Nat → Int32) × (Nat → Int32) × (Nat → Int32) × (Nat → Int32) × (Nat → Int32) × Int32) => post (zF (u.1)) (zF (u.2.1)) (zF (u.2.2.1)) (zF (u.2.2.2.1)) (u.2.2.2.2.1).toInt (zF (u.2.2.2.2.2.1)) (zF (u.2.2.2.2.2.2.1)) (zF (u.2.2.2.2.2.2.2.1)) (zF (u.2.2.2.2.2.2.2.2.1)) (zF (u.2.2.2.2.2.2.2.2.2.1)) (zF (u.2.2.2.2.2.2.2.2.2.2.1)) (u.2.2.2.2.2.2.2.2.2.2.2).toInt) (kB (dC, dI) cl (tX55 d) A (fun u : (Nat → Int32) × (Nat → Int32) × (Nat → Int32) × (Nat → Int32) × Int32 × (Nat → Int32) × (Nat → Int32) × (Nat → Int32) × (Nat → Int32) × (Nat → Int32) × (Nat → Int32) × Int32 => (wX55 ci ad d f_said f_heads f_kinds f_folded f_lengths f_parts f_rules f_known (u.1) (u.2.1) f_strata f_circle f_turns f_needs f_comes (u.2.2.1) (u.2.2.2.1) (u.2.2.2.2.1) (u.2.2.2.2.2.1) f_now (u.2.2.2.2.2.2.1) (u.2.2.2.2.2.2.2.1) (u.2.2.2.2.2.2.2.2.1) (u.2.2.2.2.2.2.2.2.2.1) (u.2.2.2.2.2.2.2.2.2.2.1) (u.2.2.2.2.2.2.2.2.2.2.2) f_worked f_large))) A) args s 0 0 A) (F0 m 401 ls [])) :
    ∀ (nn : Nat) (x6 : Int32) (f_rounds : Nat → Int32) (f_given : Nat → Int32) (f_fresh : Nat → Int32) (f_layed : Int32), wX55_spread_286 K401 x1.toInt x2.toInt x3.toInt x4.toInt (zF f_kinds) f_now.toInt (zF f_many) (zF f_sums) (zF f_lows) (zF f_highs) nn x6.toInt (zF f_rounds) (zF f_given) (zF f_fresh) f_layed.toInt → ∀ (H : Heap) (locs : List Loc) (ls : Array Slot), kH (dC, dI) cl A s.heap H locs (wX55 ci ad d f_said f_heads f_kinds f_folded f_lengths f_parts f_rules f_known f_rounds f_given f_strata f_circle f_turns f_needs f_comes f_values f_plain f_plainCount f_pointers f_now f_fresh f_many f_sums f_lows f_highs f_layed f_worked f_large) → lv_has ls 8 [(0, .ref (ad 0)), (1, .int x1), (2, .int x2), (3, .int x3), (4, .int x4), (6, .int x6)] → W p l e ({ frames := 3, cells := 0, slots := 0, locals := 73 } : Room) s m args below meth c H locs 0 0 (MQ below (va_Qv (fun (u : (Nat → Int32) × (Nat → Int32) × (Nat → Int32) × (Nat → Int32) × Int32 × (Nat → Int32) × (Nat → Int32) × (Nat → Int32) × (Nat → Int32) × (Nat → Int32) × (Nat → Int32) × Int32) => post (zF (u.1)) (zF (u.2.1)) (zF (u.2.2.1)) (zF (u.2.2.2.1)) (u.2.2.2.2.1).toInt (zF (u.2.2.2.2.2.1)) (zF (u.2.2.2.2.2.2.1)) (zF (u.2.2.2.2.2.2.2.1)) (zF (u.2.2.2.2.2.2.2.2.1)) (zF (u.2.2.2.2.2.2.2.2.2.1)) (zF (u.2.2.2.2.2.2.2.2.2.2.1)) (u.2.2.2.2.2.2.2.2.2.2.2).toInt) (kB (dC, dI) cl (tX55 d) A (fun u : (Nat → Int32) × (Nat → Int32) × (Nat → Int32) × (Nat → Int32) × Int32 × (Nat → Int32) × (Nat → Int32) × (Nat → Int32) × (Nat → Int32) × (Nat → Int32) × (Nat → Int32) × Int32 => (wX55 ci ad d f_said f_heads f_kinds f_folded f_lengths f_parts f_rules f_known (u.1) (u.2.1) f_strata f_circle f_turns f_needs f_comes (u.2.2.1) (u.2.2.2.1) (u.2.2.2.2.1) (u.2.2.2.2.2.1) f_now (u.2.2.2.2.2.2.1) (u.2.2.2.2.2.2.2.1) (u.2.2.2.2.2.2.2.2.1) (u.2.2.2.2.2.2.2.2.2.1) (u.2.2.2.2.2.2.2.2.2.2.1) (u.2.2.2.2.2.2.2.2.2.2.2) f_worked f_large))) A) args s 0 0 A) (F0 m 286 ls []) := by
  have hx := X.1.1
  have hb := X.1.2.1
  intro nn
  induction nn with
  | zero =>
    intro x6 f_rounds f_given f_fresh f_layed hw
    exact False.elim hw
  | succ n ih =>
    intro x6 f_rounds f_given f_fresh f_layed hw H locs ls hH hl
    rw [wX55_spread_286] at hw
    refine lv_iload hx hb dX55_spread_286 (lv_at hl 5 rfl) ?_
    refine lv_bipush (v := 32) hx hb dX55_spread_288 (by decide) ?_
    refine lv_icmp_ge (tgt := 401) hx hb dX55_spread_290 (by decide) (fun c_96 => ?_) (fun c_96 => ?_)
    · have hw := hw.1 (z_le (rfl : (32 : Int32).toInt = 32) (rfl : x6.toInt = _) c_96)
      exact hk401 f_rounds f_given f_fresh f_layed hw _ _ ls hH (lv_sub hl [] rfl)
    · have hw := hw.2 (z_nle (rfl : (32 : Int32).toInt = 32) (rfl : x6.toInt = _) c_96)
      refine lv_iload hx hb dX55_spread_293 (lv_at hl 4 rfl) ?_
      refine lv_if_eq (tgt := 401) hx hb dX55_spread_295 (by decide) (fun c_97 => ?_) (fun c_97 => ?_)
      · have hw := hw.1 (z_eq (rfl : x4.toInt = _) (rfl : (0 : Int32).toInt = 0) c_97)
        exact hk401 f_rounds f_given f_fresh f_layed hw _ _ ls hH (lv_sub hl [] rfl)
      · have hw := hw.2 (z_neq (rfl : x4.toInt = _) (rfl : (0 : Int32).toInt = 0) c_97)
        refine lv_aload_n hx hb dX55_spread_298 rfl (lv_at hl 0 rfl) ?_
        refine k_get X hH in_X55 0 rfl hc 21 (by decide) q6597 rfl dX55_spread_299 ?_
        refine lv_iload hx hb dX55_spread_302 (lv_at hl 5 rfl) ?_
        have hq_98 := hw.1
        have hw := hw.2
        refine k_iald X hH 16 15 rfl rfl (z_in (rfl : x6.toInt = _) hq_98) dX55_spread_304 ?_
        have e_99 := z_ld (f := f_many) (rfl : x6.toInt = _) hq_98.1
        refine lv_if_ne (tgt := 311) hx hb dX55_spread_305 (by decide) (fun c_100 => ?_) (fun c_100 => ?_)
        · have hw := hw.2 (z_ne e_99 (rfl : (0 : Int32).toInt = 0) c_100)
          refine lv_aload_n hx hb dX55_spread_311 rfl (lv_at hl 0 rfl) ?_
          refine k_get X hH in_X55 0 rfl hc 2 (by decide) q6578 rfl dX55_spread_312 ?_
          refine lv_iload_n hx hb dX55_spread_315 rfl (lv_at hl 1 rfl) ?_
          have hq_101 := hw.1
          have hw := hw.2
          refine k_iald X hH 3 2 rfl rfl (z_in (rfl : x1.toInt = _) hq_101) dX55_spread_316 ?_
          have e_102 := z_ld (f := f_kinds) (rfl : x1.toInt = _) hq_101.1
          refine lv_if_ne (tgt := 333) hx hb dX55_spread_317 (by decide) (fun c_103 => ?_) (fun c_103 => ?_)
          · have hw := hw.2 (z_ne e_102 (rfl : (0 : Int32).toInt = 0) c_103)
            refine lv_aload_n hx hb dX55_spread_333 rfl (lv_at hl 0 rfl) ?_
            refine k_get X hH in_X55 0 rfl hc 2 (by decide) q6578 rfl dX55_spread_334 ?_
            refine lv_iload_n hx hb dX55_spread_337 rfl (lv_at hl 1 rfl) ?_
            refine k_iald X hH 3 2 rfl rfl (z_in (rfl : x1.toInt = _) hq_101) dX55_spread_338 ?_
            have e_104 := z_ld (f := f_kinds) (rfl : x1.toInt = _) hq_101.1
            refine lv_iconst (v := 1) hx hb dX55_spread_339 (by decide) ?_
            refine lv_icmp_ne (tgt := 353) hx hb dX55_spread_340 (by decide) (fun c_105 => ?_) (fun c_105 => ?_)
            · have hw := hw.2 (z_ne e_104 (rfl : (1 : Int32).toInt = 1) c_105)
              refine lv_aload_n hx hb dX55_spread_353 rfl (lv_at hl 0 rfl) ?_
              refine k_get X hH in_X55 0 rfl hc 2 (by decide) q6578 rfl dX55_spread_354 ?_
              refine lv_iload_n hx hb dX55_spread_357 rfl (lv_at hl 1 rfl) ?_
              refine k_iald X hH 3 2 rfl rfl (z_in (rfl : x1.toInt = _) hq_101) dX55_spread_358 ?_
              have e_106 := z_ld (f := f_kinds) (rfl : x1.toInt = _) hq_101.1
              refine lv_iconst (v := 2) hx hb dX55_spread_359 (by decide) ?_
              refine lv_icmp_ne (tgt := 373) hx hb dX55_spread_360 (by decide) (fun c_107 => ?_) (fun c_107 => ?_)
              · have hw := hw.2 (z_ne e_106 (rfl : (2 : Int32).toInt = 2) c_107)
                refine lv_aload_n hx hb dX55_spread_373 rfl (lv_at hl 0 rfl) ?_
                refine k_get X hH in_X55 0 rfl hc 24 (by decide) q6600 rfl dX55_spread_374 ?_
                refine lv_iload hx hb dX55_spread_377 (lv_at hl 5 rfl) ?_
                refine k_iald X hH 19 18 rfl rfl (z_in (rfl : x6.toInt = _) hq_98) dX55_spread_379 ?_
                have e_108 := z_ld (f := f_highs) (rfl : x6.toInt = _) hq_98.1
                refine lv_topi (fun x7_109 ex7_109 => ?_)
                have hw := hw x7_109.toInt (by rw [ex7_109]; exact e_108)
                refine lv_istore (lv' := [(7, .int x7_109), (0, .ref (ad 0)), (1, .int x1), (2, .int x2), (3, .int x3), (4, .int x4), (6, .int x6)]) hx hb dX55_spread_380 hl (by decide) rfl (fun ls hl => ?_)
                refine lv_aload_n hx hb dX55_spread_382 rfl (lv_at hl 1 rfl) ?_
                refine lv_iload_n hx hb dX55_spread_383 rfl (lv_at hl 4 rfl) ?_
                refine lv_iload hx hb dX55_spread_384 (lv_at hl 6 rfl) ?_
                refine lv_iload hx hb dX55_spread_386 (lv_at hl 0 rfl) ?_
                refine k_i0 hH (k_runS (As := [.int x3, .int x6, .int x7_109]) (rest := [.ref (ad 0)]) X hH.1 hH.2.1 X.2.2.2 (walkX55_code hc (x0 := x3) (x1 := x6) (x2 := x7_109) (f_said := f_said) (f_heads := f_heads) (f_kinds := f_kinds) (f_folded := f_folded) (f_lengths := f_lengths) (f_parts := f_parts) (f_rules := f_rules) (f_known := f_known) (f_rounds := f_rounds) (f_given := f_given) (f_strata := f_strata) (f_circle := f_circle) (f_turns := f_turns) (f_needs := f_needs) (f_comes := f_comes) (f_values := f_values) (f_plain := f_plain) (f_plainCount := f_plainCount) (f_pointers := f_pointers) (f_now := f_now) (f_fresh := f_fresh) (f_many := f_many) (f_sums := f_sums) (f_lows := f_lows) (f_highs := f_highs) (f_layed := f_layed) (f_worked := f_worked) (f_large := f_large) hw) (va_cwS 3 X.1.2.2.2.2 gX55_79 rfl rfl rfl hX55_code ⟨Nat.le_of_ble_eq_true rfl, Nat.le_of_ble_eq_true rfl⟩) rfl hl.1 rfl (Nat.le_of_ble_eq_true rfl) dX55_spread_388 ⟨Nat.le_refl 0, Nat.le_refl 0⟩) (fun r_110 _ H locs hw hH => ?_)
                have hH : kH (dC, dI) cl A s.heap H locs (wX55 ci ad d f_said f_heads f_kinds f_folded f_lengths f_parts f_rules f_known f_rounds f_given f_strata f_circle f_turns f_needs f_comes f_values f_plain f_plainCount f_pointers f_now f_fresh f_many f_sums f_lows f_highs f_layed f_worked f_large) := hH
                refine lv_iload_n hx hb dX55_spread_391 rfl (lv_at hl 3 rfl) ?_
                refine k_v0 hH (k_runV (As := [.int r_110, .int x2]) (rest := []) X hH.1 hH.2.1 X.2.2.2 (walkX55_give hc (x1 := r_110) (x2 := x2) (f_said := f_said) (f_heads := f_heads) (f_kinds := f_kinds) (f_folded := f_folded) (f_lengths := f_lengths) (f_parts := f_parts) (f_rules := f_rules) (f_known := f_known) (f_rounds := f_rounds) (f_given := f_given) (f_strata := f_strata) (f_circle := f_circle) (f_turns := f_turns) (f_needs := f_needs) (f_comes := f_comes) (f_values := f_values) (f_plain := f_plain) (f_plainCount := f_plainCount) (f_pointers := f_pointers) (f_now := f_now) (f_fresh := f_fresh) (f_many := f_many) (f_sums := f_sums) (f_lows := f_lows) (f_highs := f_highs) (f_layed := f_layed) (f_worked := f_worked) (f_large := f_large) hw) (cwV 2 X.1.2.2.2.2 gX55_141 rfl rfl rfl hX55_give ⟨Nat.le_of_ble_eq_true rfl, Nat.le_of_ble_eq_true rfl⟩) hc (q0 := 0) rfl rfl hl.1 rfl (Nat.le_of_ble_eq_true rfl) dX55_spread_392 ⟨Nat.le_refl 0, Nat.le_refl 0⟩) (fun u H locs hw hH => ?_)
                obtain ⟨f_rounds_111, f_given_112, f_fresh_113, f_layed_114⟩ := u
                have hH : kH (dC, dI) cl A s.heap H locs (wX55 ci ad d f_said f_heads f_kinds f_folded f_lengths f_parts f_rules f_known f_rounds_111 f_given_112 f_strata f_circle f_turns f_needs f_comes f_values f_plain f_plainCount f_pointers f_now f_fresh_113 f_many f_sums f_lows f_highs f_layed_114 f_worked f_large) := hH
                have hq_116 := hw.1
                have hw := hw.2
                obtain ⟨x6_115, ex6_115⟩ : ∃ y : Int32, y = x6 + 1 := ⟨_, rfl⟩
                have hw := hw x6_115.toInt (by rw [ex6_115]; exact (z_x (z_add (z_m (rfl : x6.toInt = _)) (z_m (rfl : (1 : Int32).toInt = 1))) hq_116))
                refine lv_iinc (v := x6_115) (lv' := [(6, .int x6_115), (7, .int x7_109), (0, .ref (ad 0)), (1, .int x1), (2, .int x2), (3, .int x3), (4, .int x4)]) hx hb dX55_spread_395 hl (k := 6) rfl (by rw [ex6_115]; rfl) (by decide) rfl (fun ls hl => ?_)
                refine lv_goto (tgt := 286) hx hb dX55_spread_398 (by decide) ?_
                exact ih x6_115 f_rounds_111 f_given_112 f_fresh_113 f_layed_114 hw _ _ ls hH (lv_sub hl [2, 3, 4, 5, 6, 0] rfl)
              · have hw := hw.1 (z_eq e_106 (rfl : (2 : Int32).toInt = 2) c_107)
                refine lv_aload_n hx hb dX55_spread_363 rfl (lv_at hl 0 rfl) ?_
                refine k_get X hH in_X55 0 rfl hc 23 (by decide) q6599 rfl dX55_spread_364 ?_
                refine lv_iload hx hb dX55_spread_367 (lv_at hl 5 rfl) ?_
                refine k_iald X hH 18 17 rfl rfl (z_in (rfl : x6.toInt = _) hq_98) dX55_spread_369 ?_
                have e_117 := z_ld (f := f_lows) (rfl : x6.toInt = _) hq_98.1
                refine lv_goto (tgt := 380) hx hb dX55_spread_370 (by decide) ?_
                refine lv_topi (fun x7_118 ex7_118 => ?_)
                have hw := hw x7_118.toInt (by rw [ex7_118]; exact e_117)
                refine lv_istore (lv' := [(7, .int x7_118), (0, .ref (ad 0)), (1, .int x1), (2, .int x2), (3, .int x3), (4, .int x4), (6, .int x6)]) hx hb dX55_spread_380 hl (by decide) rfl (fun ls hl => ?_)
                refine lv_aload_n hx hb dX55_spread_382 rfl (lv_at hl 1 rfl) ?_
                refine lv_iload_n hx hb dX55_spread_383 rfl (lv_at hl 4 rfl) ?_
                refine lv_iload hx hb dX55_spread_384 (lv_at hl 6 rfl) ?_
                refine lv_iload hx hb dX55_spread_386 (lv_at hl 0 rfl) ?_
                refine k_i0 hH (k_runS (As := [.int x3, .int x6, .int x7_118]) (rest := [.ref (ad 0)]) X hH.1 hH.2.1 X.2.2.2 (walkX55_code hc (x0 := x3) (x1 := x6) (x2 := x7_118) (f_said := f_said) (f_heads := f_heads) (f_kinds := f_kinds) (f_folded := f_folded) (f_lengths := f_lengths) (f_parts := f_parts) (f_rules := f_rules) (f_known := f_known) (f_rounds := f_rounds) (f_given := f_given) (f_strata := f_strata) (f_circle := f_circle) (f_turns := f_turns) (f_needs := f_needs) (f_comes := f_comes) (f_values := f_values) (f_plain := f_plain) (f_plainCount := f_plainCount) (f_pointers := f_pointers) (f_now := f_now) (f_fresh := f_fresh) (f_many := f_many) (f_sums := f_sums) (f_lows := f_lows) (f_highs := f_highs) (f_layed := f_layed) (f_worked := f_worked) (f_large := f_large) hw) (va_cwS 3 X.1.2.2.2.2 gX55_79 rfl rfl rfl hX55_code ⟨Nat.le_of_ble_eq_true rfl, Nat.le_of_ble_eq_true rfl⟩) rfl hl.1 rfl (Nat.le_of_ble_eq_true rfl) dX55_spread_388 ⟨Nat.le_refl 0, Nat.le_refl 0⟩) (fun r_119 _ H locs hw hH => ?_)
                have hH : kH (dC, dI) cl A s.heap H locs (wX55 ci ad d f_said f_heads f_kinds f_folded f_lengths f_parts f_rules f_known f_rounds f_given f_strata f_circle f_turns f_needs f_comes f_values f_plain f_plainCount f_pointers f_now f_fresh f_many f_sums f_lows f_highs f_layed f_worked f_large) := hH
                refine lv_iload_n hx hb dX55_spread_391 rfl (lv_at hl 3 rfl) ?_
                refine k_v0 hH (k_runV (As := [.int r_119, .int x2]) (rest := []) X hH.1 hH.2.1 X.2.2.2 (walkX55_give hc (x1 := r_119) (x2 := x2) (f_said := f_said) (f_heads := f_heads) (f_kinds := f_kinds) (f_folded := f_folded) (f_lengths := f_lengths) (f_parts := f_parts) (f_rules := f_rules) (f_known := f_known) (f_rounds := f_rounds) (f_given := f_given) (f_strata := f_strata) (f_circle := f_circle) (f_turns := f_turns) (f_needs := f_needs) (f_comes := f_comes) (f_values := f_values) (f_plain := f_plain) (f_plainCount := f_plainCount) (f_pointers := f_pointers) (f_now := f_now) (f_fresh := f_fresh) (f_many := f_many) (f_sums := f_sums) (f_lows := f_lows) (f_highs := f_highs) (f_layed := f_layed) (f_worked := f_worked) (f_large := f_large) hw) (cwV 2 X.1.2.2.2.2 gX55_141 rfl rfl rfl hX55_give ⟨Nat.le_of_ble_eq_true rfl, Nat.le_of_ble_eq_true rfl⟩) hc (q0 := 0) rfl rfl hl.1 rfl (Nat.le_of_ble_eq_true rfl) dX55_spread_392 ⟨Nat.le_refl 0, Nat.le_refl 0⟩) (fun u H locs hw hH => ?_)
                obtain ⟨f_rounds_120, f_given_121, f_fresh_122, f_layed_123⟩ := u
                have hH : kH (dC, dI) cl A s.heap H locs (wX55 ci ad d f_said f_heads f_kinds f_folded f_lengths f_parts f_rules f_known f_rounds_120 f_given_121 f_strata f_circle f_turns f_needs f_comes f_values f_plain f_plainCount f_pointers f_now f_fresh_122 f_many f_sums f_lows f_highs f_layed_123 f_worked f_large) := hH
                have hq_125 := hw.1
                have hw := hw.2
                obtain ⟨x6_124, ex6_124⟩ : ∃ y : Int32, y = x6 + 1 := ⟨_, rfl⟩
                have hw := hw x6_124.toInt (by rw [ex6_124]; exact (z_x (z_add (z_m (rfl : x6.toInt = _)) (z_m (rfl : (1 : Int32).toInt = 1))) hq_125))
                refine lv_iinc (v := x6_124) (lv' := [(6, .int x6_124), (7, .int x7_118), (0, .ref (ad 0)), (1, .int x1), (2, .int x2), (3, .int x3), (4, .int x4)]) hx hb dX55_spread_395 hl (k := 6) rfl (by rw [ex6_124]; rfl) (by decide) rfl (fun ls hl => ?_)
                refine lv_goto (tgt := 286) hx hb dX55_spread_398 (by decide) ?_
                exact ih x6_124 f_rounds_120 f_given_121 f_fresh_122 f_layed_123 hw _ _ ls hH (lv_sub hl [2, 3, 4, 5, 6, 0] rfl)
            · have hw := hw.1 (z_eq e_104 (rfl : (1 : Int32).toInt = 1) c_105)
              refine lv_aload_n hx hb dX55_spread_343 rfl (lv_at hl 0 rfl) ?_
              refine k_get X hH in_X55 0 rfl hc 22 (by decide) q6598 rfl dX55_spread_344 ?_
              refine lv_iload hx hb dX55_spread_347 (lv_at hl 5 rfl) ?_
              refine k_iald X hH 17 16 rfl rfl (z_in (rfl : x6.toInt = _) hq_98) dX55_spread_349 ?_
              have e_126 := z_ld (f := f_sums) (rfl : x6.toInt = _) hq_98.1
              refine lv_goto (tgt := 380) hx hb dX55_spread_350 (by decide) ?_
              refine lv_topi (fun x7_127 ex7_127 => ?_)
              have hw := hw x7_127.toInt (by rw [ex7_127]; exact e_126)
              refine lv_istore (lv' := [(7, .int x7_127), (0, .ref (ad 0)), (1, .int x1), (2, .int x2), (3, .int x3), (4, .int x4), (6, .int x6)]) hx hb dX55_spread_380 hl (by decide) rfl (fun ls hl => ?_)
              refine lv_aload_n hx hb dX55_spread_382 rfl (lv_at hl 1 rfl) ?_
              refine lv_iload_n hx hb dX55_spread_383 rfl (lv_at hl 4 rfl) ?_
              refine lv_iload hx hb dX55_spread_384 (lv_at hl 6 rfl) ?_
              refine lv_iload hx hb dX55_spread_386 (lv_at hl 0 rfl) ?_
              refine k_i0 hH (k_runS (As := [.int x3, .int x6, .int x7_127]) (rest := [.ref (ad 0)]) X hH.1 hH.2.1 X.2.2.2 (walkX55_code hc (x0 := x3) (x1 := x6) (x2 := x7_127) (f_said := f_said) (f_heads := f_heads) (f_kinds := f_kinds) (f_folded := f_folded) (f_lengths := f_lengths) (f_parts := f_parts) (f_rules := f_rules) (f_known := f_known) (f_rounds := f_rounds) (f_given := f_given) (f_strata := f_strata) (f_circle := f_circle) (f_turns := f_turns) (f_needs := f_needs) (f_comes := f_comes) (f_values := f_values) (f_plain := f_plain) (f_plainCount := f_plainCount) (f_pointers := f_pointers) (f_now := f_now) (f_fresh := f_fresh) (f_many := f_many) (f_sums := f_sums) (f_lows := f_lows) (f_highs := f_highs) (f_layed := f_layed) (f_worked := f_worked) (f_large := f_large) hw) (va_cwS 3 X.1.2.2.2.2 gX55_79 rfl rfl rfl hX55_code ⟨Nat.le_of_ble_eq_true rfl, Nat.le_of_ble_eq_true rfl⟩) rfl hl.1 rfl (Nat.le_of_ble_eq_true rfl) dX55_spread_388 ⟨Nat.le_refl 0, Nat.le_refl 0⟩) (fun r_128 _ H locs hw hH => ?_)
              have hH : kH (dC, dI) cl A s.heap H locs (wX55 ci ad d f_said f_heads f_kinds f_folded f_lengths f_parts f_rules f_known f_rounds f_given f_strata f_circle f_turns f_needs f_comes f_values f_plain f_plainCount f_pointers f_now f_fresh f_many f_sums f_lows f_highs f_layed f_worked f_large) := hH
              refine lv_iload_n hx hb dX55_spread_391 rfl (lv_at hl 3 rfl) ?_
              refine k_v0 hH (k_runV (As := [.int r_128, .int x2]) (rest := []) X hH.1 hH.2.1 X.2.2.2 (walkX55_give hc (x1 := r_128) (x2 := x2) (f_said := f_said) (f_heads := f_heads) (f_kinds := f_kinds) (f_folded := f_folded) (f_lengths := f_lengths) (f_parts := f_parts) (f_rules := f_rules) (f_known := f_known) (f_rounds := f_rounds) (f_given := f_given) (f_strata := f_strata) (f_circle := f_circle) (f_turns := f_turns) (f_needs := f_needs) (f_comes := f_comes) (f_values := f_values) (f_plain := f_plain) (f_plainCount := f_plainCount) (f_pointers := f_pointers) (f_now := f_now) (f_fresh := f_fresh) (f_many := f_many) (f_sums := f_sums) (f_lows := f_lows) (f_highs := f_highs) (f_layed := f_layed) (f_worked := f_worked) (f_large := f_large) hw) (cwV 2 X.1.2.2.2.2 gX55_141 rfl rfl rfl hX55_give ⟨Nat.le_of_ble_eq_true rfl, Nat.le_of_ble_eq_true rfl⟩) hc (q0 := 0) rfl rfl hl.1 rfl (Nat.le_of_ble_eq_true rfl) dX55_spread_392 ⟨Nat.le_refl 0, Nat.le_refl 0⟩) (fun u H locs hw hH => ?_)
              obtain ⟨f_rounds_129, f_given_130, f_fresh_131, f_layed_132⟩ := u
              have hH : kH (dC, dI) cl A s.heap H locs (wX55 ci ad d f_said f_heads f_kinds f_folded f_lengths f_parts f_rules f_known f_rounds_129 f_given_130 f_strata f_circle f_turns f_needs f_comes f_values f_plain f_plainCount f_pointers f_now f_fresh_131 f_many f_sums f_lows f_highs f_layed_132 f_worked f_large) := hH
              have hq_134 := hw.1
              have hw := hw.2
              obtain ⟨x6_133, ex6_133⟩ : ∃ y : Int32, y = x6 + 1 := ⟨_, rfl⟩
              have hw := hw x6_133.toInt (by rw [ex6_133]; exact (z_x (z_add (z_m (rfl : x6.toInt = _)) (z_m (rfl : (1 : Int32).toInt = 1))) hq_134))
              refine lv_iinc (v := x6_133) (lv' := [(6, .int x6_133), (7, .int x7_127), (0, .ref (ad 0)), (1, .int x1), (2, .int x2), (3, .int x3), (4, .int x4)]) hx hb dX55_spread_395 hl (k := 6) rfl (by rw [ex6_133]; rfl) (by decide) rfl (fun ls hl => ?_)
              refine lv_goto (tgt := 286) hx hb dX55_spread_398 (by decide) ?_
              exact ih x6_133 f_rounds_129 f_given_130 f_fresh_131 f_layed_132 hw _ _ ls hH (lv_sub hl [2, 3, 4, 5, 6, 0] rfl)
          · have hw := hw.1 (z_eq e_102 (rfl : (0 : Int32).toInt = 0) c_103)
            refine lv_aload_n hx hb dX55_spread_320 rfl (lv_at hl 0 rfl) ?_
            refine k_get X hH in_X55 0 rfl hc 21 (by decide) q6597 rfl dX55_spread_321 ?_
            refine lv_iload hx hb dX55_spread_324 (lv_at hl 5 rfl) ?_
            refine k_iald X hH 16 15 rfl rfl (z_in (rfl : x6.toInt = _) hq_98) dX55_spread_326 ?_
            have e_135 := z_ld (f := f_many) (rfl : x6.toInt = _) hq_98.1
            refine lv_bipush (v := 32) hx hb dX55_spread_327 (by decide) ?_
            have hq_136 := hw.1
            have hw := hw.2
            refine lv_irem hx hb dX55_spread_329 (by decide) ?_
            have e_137 := z_rem e_135 (rfl : (32 : Int32).toInt = 32) hq_136 (by decide)
            refine lv_goto (tgt := 380) hx hb dX55_spread_330 (by decide) ?_
            refine lv_topi (fun x7_138 ex7_138 => ?_)
            have hw := hw x7_138.toInt (by rw [ex7_138]; exact e_137)
            refine lv_istore (lv' := [(7, .int x7_138), (0, .ref (ad 0)), (1, .int x1), (2, .int x2), (3, .int x3), (4, .int x4), (6, .int x6)]) hx hb dX55_spread_380 hl (by decide) rfl (fun ls hl => ?_)
            refine lv_aload_n hx hb dX55_spread_382 rfl (lv_at hl 1 rfl) ?_
            refine lv_iload_n hx hb dX55_spread_383 rfl (lv_at hl 4 rfl) ?_
            refine lv_iload hx hb dX55_spread_384 (lv_at hl 6 rfl) ?_
            refine lv_iload hx hb dX55_spread_386 (lv_at hl 0 rfl) ?_
            refine k_i0 hH (k_runS (As := [.int x3, .int x6, .int x7_138]) (rest := [.ref (ad 0)]) X hH.1 hH.2.1 X.2.2.2 (walkX55_code hc (x0 := x3) (x1 := x6) (x2 := x7_138) (f_said := f_said) (f_heads := f_heads) (f_kinds := f_kinds) (f_folded := f_folded) (f_lengths := f_lengths) (f_parts := f_parts) (f_rules := f_rules) (f_known := f_known) (f_rounds := f_rounds) (f_given := f_given) (f_strata := f_strata) (f_circle := f_circle) (f_turns := f_turns) (f_needs := f_needs) (f_comes := f_comes) (f_values := f_values) (f_plain := f_plain) (f_plainCount := f_plainCount) (f_pointers := f_pointers) (f_now := f_now) (f_fresh := f_fresh) (f_many := f_many) (f_sums := f_sums) (f_lows := f_lows) (f_highs := f_highs) (f_layed := f_layed) (f_worked := f_worked) (f_large := f_large) hw) (va_cwS 3 X.1.2.2.2.2 gX55_79 rfl rfl rfl hX55_code ⟨Nat.le_of_ble_eq_true rfl, Nat.le_of_ble_eq_true rfl⟩) rfl hl.1 rfl (Nat.le_of_ble_eq_true rfl) dX55_spread_388 ⟨Nat.le_refl 0, Nat.le_refl 0⟩) (fun r_139 _ H locs hw hH => ?_)
            have hH : kH (dC, dI) cl A s.heap H locs (wX55 ci ad d f_said f_heads f_kinds f_folded f_lengths f_parts f_rules f_known f_rounds f_given f_strata f_circle f_turns f_needs f_comes f_values f_plain f_plainCount f_pointers f_now f_fresh f_many f_sums f_lows f_highs f_layed f_worked f_large) := hH
            refine lv_iload_n hx hb dX55_spread_391 rfl (lv_at hl 3 rfl) ?_
            refine k_v0 hH (k_runV (As := [.int r_139, .int x2]) (rest := []) X hH.1 hH.2.1 X.2.2.2 (walkX55_give hc (x1 := r_139) (x2 := x2) (f_said := f_said) (f_heads := f_heads) (f_kinds := f_kinds) (f_folded := f_folded) (f_lengths := f_lengths) (f_parts := f_parts) (f_rules := f_rules) (f_known := f_known) (f_rounds := f_rounds) (f_given := f_given) (f_strata := f_strata) (f_circle := f_circle) (f_turns := f_turns) (f_needs := f_needs) (f_comes := f_comes) (f_values := f_values) (f_plain := f_plain) (f_plainCount := f_plainCount) (f_pointers := f_pointers) (f_now := f_now) (f_fresh := f_fresh) (f_many := f_many) (f_sums := f_sums) (f_lows := f_lows) (f_highs := f_highs) (f_layed := f_layed) (f_worked := f_worked) (f_large := f_large) hw) (cwV 2 X.1.2.2.2.2 gX55_141 rfl rfl rfl hX55_give ⟨Nat.le_of_ble_eq_true rfl, Nat.le_of_ble_eq_true rfl⟩) hc (q0 := 0) rfl rfl hl.1 rfl (Nat.le_of_ble_eq_true rfl) dX55_spread_392 ⟨Nat.le_refl 0, Nat.le_refl 0⟩) (fun u H locs hw hH => ?_)
            obtain ⟨f_rounds_140, f_given_141, f_fresh_142, f_layed_143⟩ := u
            have hH : kH (dC, dI) cl A s.heap H locs (wX55 ci ad d f_said f_heads f_kinds f_folded f_lengths f_parts f_rules f_known f_rounds_140 f_given_141 f_strata f_circle f_turns f_needs f_comes f_values f_plain f_plainCount f_pointers f_now f_fresh_142 f_many f_sums f_lows f_highs f_layed_143 f_worked f_large) := hH
            have hq_145 := hw.1
            have hw := hw.2
            obtain ⟨x6_144, ex6_144⟩ : ∃ y : Int32, y = x6 + 1 := ⟨_, rfl⟩
            have hw := hw x6_144.toInt (by rw [ex6_144]; exact (z_x (z_add (z_m (rfl : x6.toInt = _)) (z_m (rfl : (1 : Int32).toInt = 1))) hq_145))
            refine lv_iinc (v := x6_144) (lv' := [(6, .int x6_144), (7, .int x7_138), (0, .ref (ad 0)), (1, .int x1), (2, .int x2), (3, .int x3), (4, .int x4)]) hx hb dX55_spread_395 hl (k := 6) rfl (by rw [ex6_144]; rfl) (by decide) rfl (fun ls hl => ?_)
            refine lv_goto (tgt := 286) hx hb dX55_spread_398 (by decide) ?_
            exact ih x6_144 f_rounds_140 f_given_141 f_fresh_142 f_layed_143 hw _ _ ls hH (lv_sub hl [2, 3, 4, 5, 6, 0] rfl)
        · have hw := hw.1 (z_eq e_99 (rfl : (0 : Int32).toInt = 0) c_100)
          refine lv_goto (tgt := 395) hx hb dX55_spread_308 (by decide) ?_
          have hq_147 := hw.1
          have hw := hw.2
          obtain ⟨x6_146, ex6_146⟩ : ∃ y : Int32, y = x6 + 1 := ⟨_, rfl⟩
          have hw := hw x6_146.toInt (by rw [ex6_146]; exact (z_x (z_add (z_m (rfl : x6.toInt = _)) (z_m (rfl : (1 : Int32).toInt = 1))) hq_147))
          refine lv_iinc (v := x6_146) (lv' := [(6, .int x6_146), (0, .ref (ad 0)), (1, .int x1), (2, .int x2), (3, .int x3), (4, .int x4)]) hx hb dX55_spread_395 hl (k := 5) rfl (by rw [ex6_146]; rfl) (by decide) rfl (fun ls hl => ?_)
          refine lv_goto (tgt := 286) hx hb dX55_spread_398 (by decide) ?_
          exact ih x6_146 f_rounds f_given f_fresh f_layed hw _ _ ls hH (lv_sub hl [1, 2, 3, 4, 5, 0] rfl)
set_option maxHeartbeats 4000000 in
theorem walkX55_spread {l : Launch} {dC : Nat → ClassId} {dI : Nat → Nat → Nat} {cl : List vw_C} {ci : Nat} (hc : cl[ci]? = some (RX55, TX55, 28)) {ad : Nat → Nat} {d : Nat → ClassId} {sz : Nat} {f_said : Nat → Int32} {f_heads : Nat → Int32} {f_kinds : Nat → Int32} {f_folded : Nat → Int32} {f_lengths : Nat → Int32} {f_parts : Nat → Int32} {f_rules : Int32} {f_known : Int32} {f_rounds : Nat → Int32} {f_given : Nat → Int32} {f_strata : Nat → Int32} {f_circle : Int32} {f_turns : Int32} {f_needs : Nat → Int32} {f_comes : Nat → Int32} {f_values : Nat → Int32} {f_plain : Nat → Int32} {f_plainCount : Int32} {f_pointers : Nat → Int32} {f_now : Int32} {f_fresh : Nat → Int32} {f_many : Nat → Int32} {f_sums : Nat → Int32} {f_lows : Nat → Int32} {f_highs : Nat → Int32} {f_layed : Int32} {f_worked : Int64} {f_large : Int32} {x1 : Int32} {x2 : Int32} {post : (Int → Int) → (Int → Int) → (Int → Int) → (Int → Int) → Int → (Int → Int) → (Int → Int) → (Int → Int) → (Int → Int) → (Int → Int) → (Int → Int) → Int → Prop} (hw : wpX55_spread post (zF f_heads) (zF f_kinds) (zF f_folded) (zF f_lengths) (zF f_parts) (zF f_rounds) (zF f_given) (zF f_values) (zF f_plain) (zF f_pointers) f_now.toInt (zF f_fresh) (zF f_many) (zF f_sums) (zF f_lows) (zF f_highs) f_layed.toInt x1.toInt x2.toInt) :
    Met l yX55_spread (ws_ yX55_spread cX55_spread 8 none) ({ frames := 3, cells := 0, slots := 0, locals := 73 } : Room) (kPc (dC, dI) cl (tX55 d) [.ref (ad 0), .int x1, .int x2] sz (wX55 ci ad d f_said f_heads f_kinds f_folded f_lengths f_parts f_rules f_known f_rounds f_given f_strata f_circle f_turns f_needs f_comes f_values f_plain f_plainCount f_pointers f_now f_fresh f_many f_sums f_lows f_highs f_layed f_worked f_large)) (va_Qv (fun (u : (Nat → Int32) × (Nat → Int32) × (Nat → Int32) × (Nat → Int32) × Int32 × (Nat → Int32) × (Nat → Int32) × (Nat → Int32) × (Nat → Int32) × (Nat → Int32) × (Nat → Int32) × Int32) => post (zF (u.1)) (zF (u.2.1)) (zF (u.2.2.1)) (zF (u.2.2.2.1)) (u.2.2.2.2.1).toInt (zF (u.2.2.2.2.2.1)) (zF (u.2.2.2.2.2.2.1)) (zF (u.2.2.2.2.2.2.2.1)) (zF (u.2.2.2.2.2.2.2.2.1)) (zF (u.2.2.2.2.2.2.2.2.2.1)) (zF (u.2.2.2.2.2.2.2.2.2.2.1)) (u.2.2.2.2.2.2.2.2.2.2.2).toInt) (kB (dC, dI) cl (tX55 d) (va_A (wX55 ci ad d f_said f_heads f_kinds f_folded f_lengths f_parts f_rules f_known f_rounds f_given f_strata f_circle f_turns f_needs f_comes f_values f_plain f_plainCount f_pointers f_now f_fresh f_many f_sums f_lows f_highs f_layed f_worked f_large) sz) (fun u : (Nat → Int32) × (Nat → Int32) × (Nat → Int32) × (Nat → Int32) × Int32 × (Nat → Int32) × (Nat → Int32) × (Nat → Int32) × (Nat → Int32) × (Nat → Int32) × (Nat → Int32) × Int32 => (wX55 ci ad d f_said f_heads f_kinds f_folded f_lengths f_parts f_rules f_known (u.1) (u.2.1) f_strata f_circle f_turns f_needs f_comes (u.2.2.1) (u.2.2.2.1) (u.2.2.2.2.1) (u.2.2.2.2.2.1) f_now (u.2.2.2.2.2.2.1) (u.2.2.2.2.2.2.2.1) (u.2.2.2.2.2.2.2.2.1) (u.2.2.2.2.2.2.2.2.2.1) (u.2.2.2.2.2.2.2.2.2.2.1) (u.2.2.2.2.2.2.2.2.2.2.2) f_worked f_large))) (va_A (wX55 ci ad d f_said f_heads f_kinds f_folded f_lengths f_parts f_rules f_known f_rounds f_given f_strata f_circle f_turns f_needs f_comes f_values f_plain f_plainCount f_pointers f_now f_fresh f_many f_sums f_lows f_highs f_layed f_worked f_large) sz)) 0 0 (va_A (wX55 ci ad d f_said f_heads f_kinds f_folded f_lengths f_parts f_rules f_known f_rounds f_given f_strata f_circle f_turns f_needs f_comes f_values f_plain f_plainCount f_pointers f_now f_fresh f_many f_sums f_lows f_highs f_layed f_worked f_large) sz) := by
  refine k_enter (by decide) (Nat.le_of_ble_eq_true rfl) ?_
  intro p e s m below meth c ls X hsz hH hl
  subst hsz
  generalize va_A (wX55 ci ad d f_said f_heads f_kinds f_folded f_lengths f_parts f_rules f_known f_rounds f_given f_strata f_circle f_turns f_needs f_comes f_values f_plain f_plainCount f_pointers f_now f_fresh f_many f_sums f_lows f_highs f_layed f_worked f_large) s.heap.size = A at hH ⊢
  have hx := X.1.1
  have hb := X.1.2.1
  have hl : lv_has ls 8 [(0, .ref (ad 0)), (1, .int x1), (2, .int x2)] := hl
  unfold wpX55_spread at hw
  refine lv_aload_n hx hb dX55_spread_0 rfl (lv_at hl 0 rfl) ?_
  refine k_get X hH in_X55 0 rfl hc 1 (by decide) q6577 rfl dX55_spread_1 ?_
  refine lv_iconst (v := 3) hx hb dX55_spread_4 (by decide) ?_
  refine lv_iload_n hx hb dX55_spread_5 rfl (lv_at hl 1 rfl) ?_
  refine lv_imul hx hb dX55_spread_6 ?_
  have e_1 := z_mul (z_m (rfl : (3 : Int32).toInt = 3)) (z_m (rfl : x1.toInt = _))
  have hq_2 := hw.1
  have hw := hw.2
  have e_3 := z_xi e_1 hq_2 (by decide)
  refine k_iald X hH 2 1 rfl rfl (z_in e_3 hq_2) dX55_spread_7 ?_
  have e_4 := z_ld (f := f_heads) e_3 hq_2.1
  refine lv_topi (fun x3_5 ex3_5 => ?_)
  have hw := hw x3_5.toInt (by rw [ex3_5]; exact e_4)
  refine lv_istore_n (lv' := [(3, .int x3_5), (0, .ref (ad 0)), (1, .int x1), (2, .int x2)]) hx hb dX55_spread_8 rfl hl (by decide) rfl (fun ls hl => ?_)
  refine lv_aload_n hx hb dX55_spread_9 rfl (lv_at hl 1 rfl) ?_
  refine k_get X hH in_X55 0 rfl hc 2 (by decide) q6578 rfl dX55_spread_10 ?_
  refine lv_iload_n hx hb dX55_spread_13 rfl (lv_at hl 2 rfl) ?_
  have hq_6 := hw.1
  have hw := hw.2
  refine k_iald X hH 3 2 rfl rfl (z_in (rfl : x1.toInt = _) hq_6) dX55_spread_14 ?_
  have e_7 := z_ld (f := f_kinds) (rfl : x1.toInt = _) hq_6.1
  refine lv_if_lt (tgt := 22) hx hb dX55_spread_15 (by decide) (fun c_8 => ?_) (fun c_8 => ?_)
  · have hw := hw.1 (z_lt e_7 (rfl : (0 : Int32).toInt = 0) c_8)
    refine lv_iconst (v := 0) hx hb dX55_spread_22 (by decide) ?_
    refine lv_istore (lv' := [(4, .int 0), (3, .int x3_5), (0, .ref (ad 0)), (1, .int x1), (2, .int x2)]) hx hb dX55_spread_23 hl (by decide) rfl (fun ls hl => ?_)
    refine lv_iconst (v := 0) hx hb dX55_spread_25 (by decide) ?_
    refine lv_istore (lv' := [(5, .int 0), (4, .int 0), (3, .int x3_5), (0, .ref (ad 0)), (1, .int x1), (2, .int x2)]) hx hb dX55_spread_26 hl (by decide) rfl (fun ls hl => ?_)
    obtain ⟨fu, hw⟩ := hw
    refine atX55_spread_28 hc X ?_ fu 0 f_many f_sums hw _ _ ls hH (lv_sub hl [3, 4, 5, 2, 1, 0] rfl)
    · intro f_many_16 f_sums_17 hw H locs ls hH hl
      refine lv_aload_n hx hb dX55_spread_62 rfl (lv_at hl 0 rfl) ?_
      refine lv_iload_n hx hb dX55_spread_63 rfl (lv_at hl 1 rfl) ?_
      refine k_v0 hH (k_runV (As := [.int x1]) (rest := []) X hH.1 hH.2.1 X.2.2.2 (walkX55_begin hc (x1 := x1) (f_said := f_said) (f_heads := f_heads) (f_kinds := f_kinds) (f_folded := f_folded) (f_lengths := f_lengths) (f_parts := f_parts) (f_rules := f_rules) (f_known := f_known) (f_rounds := f_rounds) (f_given := f_given) (f_strata := f_strata) (f_circle := f_circle) (f_turns := f_turns) (f_needs := f_needs) (f_comes := f_comes) (f_values := f_values) (f_plain := f_plain) (f_plainCount := f_plainCount) (f_pointers := f_pointers) (f_now := f_now) (f_fresh := f_fresh) (f_many := f_many_16) (f_sums := f_sums_17) (f_lows := f_lows) (f_highs := f_highs) (f_layed := f_layed) (f_worked := f_worked) (f_large := f_large) hw) (cwV 1 X.1.2.2.2.2 gX55_133 rfl rfl rfl hX55_begin ⟨Nat.le_of_ble_eq_true rfl, Nat.le_of_ble_eq_true rfl⟩) hc (q0 := 0) rfl rfl hl.1 rfl (Nat.le_of_ble_eq_true rfl) dX55_spread_64 ⟨Nat.le_refl 0, Nat.le_refl 0⟩) (fun u H locs hw hH => ?_)
      obtain ⟨f_plain_18, f_plainCount_19, f_pointers_20⟩ := u
      have hH : kH (dC, dI) cl A s.heap H locs (wX55 ci ad d f_said f_heads f_kinds f_folded f_lengths f_parts f_rules f_known f_rounds f_given f_strata f_circle f_turns f_needs f_comes f_values f_plain_18 f_plainCount_19 f_pointers_20 f_now f_fresh f_many_16 f_sums_17 f_lows f_highs f_layed f_worked f_large) := hH
      refine lv_aload_n hx hb dX55_spread_67 rfl (lv_at hl 0 rfl) ?_
      refine lv_iload_n hx hb dX55_spread_68 rfl (lv_at hl 1 rfl) ?_
      refine lv_iconst (v := 1) hx hb dX55_spread_69 (by decide) ?_
      refine k_i0 hH (k_runV (As := [.int x1, .int 1]) (rest := []) X hH.1 hH.2.1 X.2.2.2 (walkX55_next hc (x1 := x1) (x2 := 1) (f_said := f_said) (f_heads := f_heads) (f_kinds := f_kinds) (f_folded := f_folded) (f_lengths := f_lengths) (f_parts := f_parts) (f_rules := f_rules) (f_known := f_known) (f_rounds := f_rounds) (f_given := f_given) (f_strata := f_strata) (f_circle := f_circle) (f_turns := f_turns) (f_needs := f_needs) (f_comes := f_comes) (f_values := f_values) (f_plain := f_plain_18) (f_plainCount := f_plainCount_19) (f_pointers := f_pointers_20) (f_now := f_now) (f_fresh := f_fresh) (f_many := f_many_16) (f_sums := f_sums_17) (f_lows := f_lows) (f_highs := f_highs) (f_layed := f_layed) (f_worked := f_worked) (f_large := f_large) hw) (cwV 2 X.1.2.2.2.2 gX55_137 rfl rfl rfl hX55_next ⟨Nat.le_of_ble_eq_true rfl, Nat.le_of_ble_eq_true rfl⟩) hc (q0 := 0) rfl rfl hl.1 rfl (Nat.le_of_ble_eq_true rfl) dX55_spread_70 ⟨Nat.le_refl 0, Nat.le_refl 0⟩) (fun r_21 u H locs hw hH => ?_)
      obtain ⟨f_values_22, f_pointers_23⟩ := u
      have hH : kH (dC, dI) cl A s.heap H locs (wX55 ci ad d f_said f_heads f_kinds f_folded f_lengths f_parts f_rules f_known f_rounds f_given f_strata f_circle f_turns f_needs f_comes f_values_22 f_plain_18 f_plainCount_19 f_pointers_23 f_now f_fresh f_many_16 f_sums_17 f_lows f_highs f_layed f_worked f_large) := hH
      refine lv_istore (lv' := [(5, .int r_21), (0, .ref (ad 0)), (1, .int x1), (2, .int x2), (3, .int x3_5), (4, .int 0)]) hx hb dX55_spread_73 hl (by decide) rfl (fun ls hl => ?_)
      obtain ⟨fu, hw⟩ := hw
      refine atX55_spread_75 hc X ?_ fu r_21 f_rounds f_given f_values_22 f_pointers_23 f_fresh f_many_16 f_sums_17 f_lows f_highs f_layed hw _ _ ls hH (lv_sub hl [1, 2, 3, 4, 5, 0] rfl)
      · intro f_rounds_86 f_given_87 f_values_88 f_pointers_89 f_fresh_90 f_many_91 f_sums_92 f_lows_93 f_highs_94 f_layed_95 hw H locs ls hH hl
        refine lv_iconst (v := 0) hx hb dX55_spread_283 (by decide) ?_
        refine lv_istore (lv' := [(6, .int 0), (0, .ref (ad 0)), (1, .int x1), (2, .int x2), (3, .int x3_5), (4, .int 0)]) hx hb dX55_spread_284 hl (by decide) rfl (fun ls hl => ?_)
        obtain ⟨fu, hw⟩ := hw
        refine atX55_spread_286 hc X ?_ fu 0 f_rounds_86 f_given_87 f_fresh_90 f_layed_95 hw _ _ ls hH (lv_sub hl [1, 2, 3, 4, 5, 0] rfl)
        · intro f_rounds_148 f_given_149 f_fresh_150 f_layed_151 hw H locs ls hH hl
          exact k_vret X hH (f_rounds_148, f_given_149, f_values_88, f_plain_18, f_plainCount_19, f_pointers_89, f_fresh_150, f_many_91, f_sums_92, f_lows_93, f_highs_94, f_layed_151) hw rfl dX55_spread_401
  · have hw := hw.2 (z_nlt e_7 (rfl : (0 : Int32).toInt = 0) c_8)
    refine lv_iconst (v := 1) hx hb dX55_spread_18 (by decide) ?_
    refine lv_goto (tgt := 23) hx hb dX55_spread_19 (by decide) ?_
    refine lv_istore (lv' := [(4, .int 1), (3, .int x3_5), (0, .ref (ad 0)), (1, .int x1), (2, .int x2)]) hx hb dX55_spread_23 hl (by decide) rfl (fun ls hl => ?_)
    refine lv_iconst (v := 0) hx hb dX55_spread_25 (by decide) ?_
    refine lv_istore (lv' := [(5, .int 0), (4, .int 1), (3, .int x3_5), (0, .ref (ad 0)), (1, .int x1), (2, .int x2)]) hx hb dX55_spread_26 hl (by decide) rfl (fun ls hl => ?_)
    obtain ⟨fu, hw⟩ := hw
    refine atX55_spread_28 hc X ?_ fu 0 f_many f_sums hw _ _ ls hH (lv_sub hl [3, 4, 5, 2, 1, 0] rfl)
    · intro f_many_152 f_sums_153 hw H locs ls hH hl
      refine lv_aload_n hx hb dX55_spread_62 rfl (lv_at hl 0 rfl) ?_
      refine lv_iload_n hx hb dX55_spread_63 rfl (lv_at hl 1 rfl) ?_
      refine k_v0 hH (k_runV (As := [.int x1]) (rest := []) X hH.1 hH.2.1 X.2.2.2 (walkX55_begin hc (x1 := x1) (f_said := f_said) (f_heads := f_heads) (f_kinds := f_kinds) (f_folded := f_folded) (f_lengths := f_lengths) (f_parts := f_parts) (f_rules := f_rules) (f_known := f_known) (f_rounds := f_rounds) (f_given := f_given) (f_strata := f_strata) (f_circle := f_circle) (f_turns := f_turns) (f_needs := f_needs) (f_comes := f_comes) (f_values := f_values) (f_plain := f_plain) (f_plainCount := f_plainCount) (f_pointers := f_pointers) (f_now := f_now) (f_fresh := f_fresh) (f_many := f_many_152) (f_sums := f_sums_153) (f_lows := f_lows) (f_highs := f_highs) (f_layed := f_layed) (f_worked := f_worked) (f_large := f_large) hw) (cwV 1 X.1.2.2.2.2 gX55_133 rfl rfl rfl hX55_begin ⟨Nat.le_of_ble_eq_true rfl, Nat.le_of_ble_eq_true rfl⟩) hc (q0 := 0) rfl rfl hl.1 rfl (Nat.le_of_ble_eq_true rfl) dX55_spread_64 ⟨Nat.le_refl 0, Nat.le_refl 0⟩) (fun u H locs hw hH => ?_)
      obtain ⟨f_plain_154, f_plainCount_155, f_pointers_156⟩ := u
      have hH : kH (dC, dI) cl A s.heap H locs (wX55 ci ad d f_said f_heads f_kinds f_folded f_lengths f_parts f_rules f_known f_rounds f_given f_strata f_circle f_turns f_needs f_comes f_values f_plain_154 f_plainCount_155 f_pointers_156 f_now f_fresh f_many_152 f_sums_153 f_lows f_highs f_layed f_worked f_large) := hH
      refine lv_aload_n hx hb dX55_spread_67 rfl (lv_at hl 0 rfl) ?_
      refine lv_iload_n hx hb dX55_spread_68 rfl (lv_at hl 1 rfl) ?_
      refine lv_iconst (v := 1) hx hb dX55_spread_69 (by decide) ?_
      refine k_i0 hH (k_runV (As := [.int x1, .int 1]) (rest := []) X hH.1 hH.2.1 X.2.2.2 (walkX55_next hc (x1 := x1) (x2 := 1) (f_said := f_said) (f_heads := f_heads) (f_kinds := f_kinds) (f_folded := f_folded) (f_lengths := f_lengths) (f_parts := f_parts) (f_rules := f_rules) (f_known := f_known) (f_rounds := f_rounds) (f_given := f_given) (f_strata := f_strata) (f_circle := f_circle) (f_turns := f_turns) (f_needs := f_needs) (f_comes := f_comes) (f_values := f_values) (f_plain := f_plain_154) (f_plainCount := f_plainCount_155) (f_pointers := f_pointers_156) (f_now := f_now) (f_fresh := f_fresh) (f_many := f_many_152) (f_sums := f_sums_153) (f_lows := f_lows) (f_highs := f_highs) (f_layed := f_layed) (f_worked := f_worked) (f_large := f_large) hw) (cwV 2 X.1.2.2.2.2 gX55_137 rfl rfl rfl hX55_next ⟨Nat.le_of_ble_eq_true rfl, Nat.le_of_ble_eq_true rfl⟩) hc (q0 := 0) rfl rfl hl.1 rfl (Nat.le_of_ble_eq_true rfl) dX55_spread_70 ⟨Nat.le_refl 0, Nat.le_refl 0⟩) (fun r_157 u H locs hw hH => ?_)
      obtain ⟨f_values_158, f_pointers_159⟩ := u
      have hH : kH (dC, dI) cl A s.heap H locs (wX55 ci ad d f_said f_heads f_kinds f_folded f_lengths f_parts f_rules f_known f_rounds f_given f_strata f_circle f_turns f_needs f_comes f_values_158 f_plain_154 f_plainCount_155 f_pointers_159 f_now f_fresh f_many_152 f_sums_153 f_lows f_highs f_layed f_worked f_large) := hH
      refine lv_istore (lv' := [(5, .int r_157), (0, .ref (ad 0)), (1, .int x1), (2, .int x2), (3, .int x3_5), (4, .int 1)]) hx hb dX55_spread_73 hl (by decide) rfl (fun ls hl => ?_)
      obtain ⟨fu, hw⟩ := hw
      refine atX55_spread_75 hc X ?_ fu r_157 f_rounds f_given f_values_158 f_pointers_159 f_fresh f_many_152 f_sums_153 f_lows f_highs f_layed hw _ _ ls hH (lv_sub hl [1, 2, 3, 4, 5, 0] rfl)
      · intro f_rounds_160 f_given_161 f_values_162 f_pointers_163 f_fresh_164 f_many_165 f_sums_166 f_lows_167 f_highs_168 f_layed_169 hw H locs ls hH hl
        refine lv_iconst (v := 0) hx hb dX55_spread_283 (by decide) ?_
        refine lv_istore (lv' := [(6, .int 0), (0, .ref (ad 0)), (1, .int x1), (2, .int x2), (3, .int x3_5), (4, .int 1)]) hx hb dX55_spread_284 hl (by decide) rfl (fun ls hl => ?_)
        obtain ⟨fu, hw⟩ := hw
        refine atX55_spread_286 hc X ?_ fu 0 f_rounds_160 f_given_161 f_fresh_164 f_layed_169 hw _ _ ls hH (lv_sub hl [1, 2, 3, 4, 5, 0] rfl)
        · intro f_rounds_170 f_given_171 f_fresh_172 f_layed_173 hw H locs ls hH hl
          exact k_vret X hH (f_rounds_170, f_given_171, f_values_162, f_plain_154, f_plainCount_155, f_pointers_163, f_fresh_172, f_many_165, f_sums_166, f_lows_167, f_highs_168, f_layed_173) hw rfl dX55_spread_401
set_option maxHeartbeats 4000000 in
theorem atX55_work_23 {p : Program} {l : Launch} {e : Env} {s : State} {m : MethodId} {args : Array Value} {below : List Frame} {meth : Method} {c : Code} {dC : Nat → ClassId} {dI : Nat → Nat → Nat} {cl : List vw_C} {ci : Nat} (hc : cl[ci]? = some (RX55, TX55, 28)) {ad : Nat → Nat} {d : Nat → ClassId} {A : Nat → Prop} {post : Int → (Int → Int) → (Int → Int) → (Int → Int) → Int → Int → (Int → Int) → (Int → Int) → (Int → Int) → (Int → Int) → Int → (Int → Int) → Int → (Int → Int) → (Int → Int) → (Int → Int) → (Int → Int) → (Int → Int) → Int → Int → Int → Prop} {f_said : Nat → Int32} {f_heads : Nat → Int32} {f_kinds : Nat → Int32} {f_folded : Nat → Int32} {f_lengths : Nat → Int32} {f_parts : Nat → Int32} {f_rules : Int32} (X : kX p s m args meth c cX55_work 4 RX55 none (dC, dI) cl (tX55 d)) {K70 : (Int → Int) → (Int → Int) → (Int → Int) → Prop}  {f_known : Int32} {f_strata : Nat → Int32} {f_circle : Int32} {f_turns : Int32} {f_needs : Nat → Int32} {f_comes : Nat → Int32} {f_values : Nat → Int32} {f_plain : Nat → Int32} {f_plainCount : Int32} {f_pointers : Nat → Int32} {f_now : Int32} {f_many : Nat → Int32} {f_sums : Nat → Int32} {f_lows : Nat → Int32} {f_highs : Nat → Int32} {f_layed : Int32} {f_worked : Int64} {f_large : Int32} (hk70 : ∀ (f_rounds : Nat → Int32) (f_given : Nat → Int32) (f_fresh : Nat → Int32), K70 (zF f_rounds) (zF f_given) (zF f_fresh) → ∀ (H : Heap) (locs : List Loc) (ls : Array Slot), kH (dC, dI) cl A s.heap H locs (wX55 ci ad d f_said f_heads f_kinds f_folded f_lengths f_parts f_rules f_known f_rounds f_given f_strata f_circle f_turns f_needs f_comes f_values f_plain f_plainCount f_pointers f_now f_fresh f_many f_sums f_lows f_highs f_layed f_worked f_large) → lv_has ls 4 [(0, .ref (ad 0))] → W p l e ({ frames := 4, cells := 0, slots := 0, locals := 100 } : Room) s m args below meth c H locs 0 0 (MQ below (va_Qv (fun (u : Int32 × (Nat → Int32) × (Nat → Int32) × (Nat → Int32) × Int32 × Int32 × (Nat → Int32) × (Nat → Int32) × (Nat → Int32) × (Nat → Int32) × Int32 × (Nat → Int32) × Int32 × (Nat → Int32) × (Nat → Int32) × (Nat → Int32) × (Nat → Int32) × (Nat → Int32) × Int32 × Int64 × Int32) => post (u.1).toInt (zF (u.2.1)) (zF (u.2.2.1)) (zF (u.2.2.2.1)) (u.2.2.2.2.1).toInt (u.2.2.2.2.2.1).toInt (zF (u.2.2.2.2.2.2.1)) (zF (u.2.2.2.2.2.2.2.1)) (zF (u.2.2.2.2.2.2.2.2.1)) (zF (u.2.2.2.2.2.2.2.2.2.1)) (u.2.2.2.2.2.2.2.2.2.2.1).toInt (zF (u.2.2.2.2.2.2.2.2.2.2.2.1)) (u.2.2.2.2.2.2.2.2.2.2.2.2.1).toInt (zF (u.2.2.2.2.2.2.2.2.2.2.2.2.2.1)) (zF (u.2.2.2.2.2.2.2.2.2.2.2.2.2.2.1)) (zF (u.2.2.2.2.2.2.2.2.2.2.2.2.2.2.2.1)) (zF (u.2.2.2.2.2.2.2.2.2.2.2.2.2.2.2.2.1)) (zF (u.2.2.2.2.2.2.2.2.2.2.2.2.2.2.2.2.2.1)) (u.2.2.2.2.2.2.2.2.2.2.2.2.2.2.2.2.2.2.1).toInt (u.2.2.2.2.2.2.2.2.2.2.2.2.2.2.2.2.2.2.2.1).toInt (u.2.2.2.2.2.2.2.2.2.2.2.2.2.2.2.2.2.2.2.2).toInt) (kB (dC, dI) cl (tX55 d) A (fun u : Int32 × (Nat → Int32) × (Nat → Int32) × (Nat → Int32) × Int32 × Int32 × (Nat → Int32) × (Nat → Int32) × (Nat → Int32) × (Nat → Int32) × Int32 × (Nat → Int32) × Int32 × (Nat → Int32) × (Nat → Int32) × (Nat → Int32) × (Nat → Int32) × (Nat → Int32) × Int32 × Int64 × Int32 => (wX55 ci ad d f_said f_heads f_kinds f_folded f_lengths f_parts f_rules (u.1) (u.2.1) (u.2.2.1) (u.2.2.2.1) (u.2.2.2.2.1) (u.2.2.2.2.2.1) (u.2.2.2.2.2.2.1) (u.2.2.2.2.2.2.2.1) (u.2.2.2.2.2.2.2.2.1) (u.2.2.2.2.2.2.2.2.2.1) (u.2.2.2.2.2.2.2.2.2.2.1) (u.2.2.2.2.2.2.2.2.2.2.2.1) (u.2.2.2.2.2.2.2.2.2.2.2.2.1) (u.2.2.2.2.2.2.2.2.2.2.2.2.2.1) (u.2.2.2.2.2.2.2.2.2.2.2.2.2.2.1) (u.2.2.2.2.2.2.2.2.2.2.2.2.2.2.2.1) (u.2.2.2.2.2.2.2.2.2.2.2.2.2.2.2.2.1) (u.2.2.2.2.2.2.2.2.2.2.2.2.2.2.2.2.2.1) (u.2.2.2.2.2.2.2.2.2.2.2.2.2.2.2.2.2.2.1) (u.2.2.2.2.2.2.2.2.2.2.2.2.2.2.2.2.2.2.2.1) (u.2.2.2.2.2.2.2.2.2.2.2.2.2.2.2.2.2.2.2.2)))) A) args s 0 0 A) (F0 m 70 ls [])) :
    ∀ (nn : Nat) (x1 : Int32) (f_rounds : Nat → Int32) (f_given : Nat → Int32) (f_fresh : Nat → Int32), wX55_work_23 K70 (zF f_said) nn x1.toInt (zF f_rounds) (zF f_given) (zF f_fresh) → ∀ (H : Heap) (locs : List Loc) (ls : Array Slot), kH (dC, dI) cl A s.heap H locs (wX55 ci ad d f_said f_heads f_kinds f_folded f_lengths f_parts f_rules f_known f_rounds f_given f_strata f_circle f_turns f_needs f_comes f_values f_plain f_plainCount f_pointers f_now f_fresh f_many f_sums f_lows f_highs f_layed f_worked f_large) → lv_has ls 4 [(0, .ref (ad 0)), (1, .int x1)] → W p l e ({ frames := 4, cells := 0, slots := 0, locals := 100 } : Room) s m args below meth c H locs 0 0 (MQ below (va_Qv (fun (u : Int32 × (Nat → Int32) × (Nat → Int32) × (Nat → Int32) × Int32 × Int32 × (Nat → Int32) × (Nat → Int32) × (Nat → Int32) × (Nat → Int32) × Int32 × (Nat → Int32) × Int32 × (Nat → Int32) × (Nat → Int32) × (Nat → Int32) × (Nat → Int32) × (Nat → Int32) × Int32 × Int64 × Int32) => post (u.1).toInt (zF (u.2.1)) (zF (u.2.2.1)) (zF (u.2.2.2.1)) (u.2.2.2.2.1).toInt (u.2.2.2.2.2.1).toInt (zF (u.2.2.2.2.2.2.1)) (zF (u.2.2.2.2.2.2.2.1)) (zF (u.2.2.2.2.2.2.2.2.1)) (zF (u.2.2.2.2.2.2.2.2.2.1)) (u.2.2.2.2.2.2.2.2.2.2.1).toInt (zF (u.2.2.2.2.2.2.2.2.2.2.2.1)) (u.2.2.2.2.2.2.2.2.2.2.2.2.1).toInt (zF (u.2.2.2.2.2.2.2.2.2.2.2.2.2.1)) (zF (u.2.2.2.2.2.2.2.2.2.2.2.2.2.2.1)) (zF (u.2.2.2.2.2.2.2.2.2.2.2.2.2.2.2.1)) (zF (u.2.2.2.2.2.2.2.2.2.2.2.2.2.2.2.2.1)) (zF (u.2.2.2.2.2.2.2.2.2.2.2.2.2.2.2.2.2.1)) (u.2.2.2.2.2.2.2.2.2.2.2.2.2.2.2.2.2.2.1).toInt (u.2.2.2.2.2.2.2.2.2.2.2.2.2.2.2.2.2.2.2.1).toInt (u.2.2.2.2.2.2.2.2.2.2.2.2.2.2.2.2.2.2.2.2).toInt) (kB (dC, dI) cl (tX55 d) A (fun u : Int32 × (Nat → Int32) × (Nat → Int32) × (Nat → Int32) × Int32 × Int32 × (Nat → Int32) × (Nat → Int32) × (Nat → Int32) × (Nat → Int32) × Int32 × (Nat → Int32) × Int32 × (Nat → Int32) × (Nat → Int32) × (Nat → Int32) × (Nat → Int32) × (Nat → Int32) × Int32 × Int64 × Int32 => (wX55 ci ad d f_said f_heads f_kinds f_folded f_lengths f_parts f_rules (u.1) (u.2.1) (u.2.2.1) (u.2.2.2.1) (u.2.2.2.2.1) (u.2.2.2.2.2.1) (u.2.2.2.2.2.2.1) (u.2.2.2.2.2.2.2.1) (u.2.2.2.2.2.2.2.2.1) (u.2.2.2.2.2.2.2.2.2.1) (u.2.2.2.2.2.2.2.2.2.2.1) (u.2.2.2.2.2.2.2.2.2.2.2.1) (u.2.2.2.2.2.2.2.2.2.2.2.2.1) (u.2.2.2.2.2.2.2.2.2.2.2.2.2.1) (u.2.2.2.2.2.2.2.2.2.2.2.2.2.2.1) (u.2.2.2.2.2.2.2.2.2.2.2.2.2.2.2.1) (u.2.2.2.2.2.2.2.2.2.2.2.2.2.2.2.2.1) (u.2.2.2.2.2.2.2.2.2.2.2.2.2.2.2.2.2.1) (u.2.2.2.2.2.2.2.2.2.2.2.2.2.2.2.2.2.2.1) (u.2.2.2.2.2.2.2.2.2.2.2.2.2.2.2.2.2.2.2.1) (u.2.2.2.2.2.2.2.2.2.2.2.2.2.2.2.2.2.2.2.2)))) A) args s 0 0 A) (F0 m 23 ls []) := by
  have hx := X.1.1
  have hb := X.1.2.1
  intro nn
  induction nn with
  | zero =>
    intro x1 f_rounds f_given f_fresh hw
    exact False.elim hw
  | succ n ih =>
    intro x1 f_rounds f_given f_fresh hw H locs ls hH hl
    rw [wX55_work_23] at hw
    refine lv_iload_n hx hb dX55_work_23 rfl (lv_at hl 1 rfl) ?_
    refine lv_sipush (v := 16384) hx hb dX55_work_24 (by decide) ?_
    refine lv_icmp_ge (tgt := 70) hx hb dX55_work_27 (by decide) (fun c_6 => ?_) (fun c_6 => ?_)
    · have hw := hw.1 (z_le (rfl : (16384 : Int32).toInt = 16384) (rfl : x1.toInt = _) c_6)
      exact hk70 f_rounds f_given f_fresh hw _ _ ls hH (lv_sub hl [0] rfl)
    · have hw := hw.2 (z_nle (rfl : (16384 : Int32).toInt = 16384) (rfl : x1.toInt = _) c_6)
      refine lv_aload_n hx hb dX55_work_30 rfl (lv_at hl 0 rfl) ?_
      refine k_get X hH in_X55 0 rfl hc 8 (by decide) q6584 rfl dX55_work_31 ?_
      refine lv_iload_n hx hb dX55_work_34 rfl (lv_at hl 1 rfl) ?_
      refine lv_aload_n hx hb dX55_work_35 rfl (lv_at hl 0 rfl) ?_
      refine k_get X hH in_X55 0 rfl hc 0 (by decide) q6576 rfl dX55_work_36 ?_
      refine lv_iload_n hx hb dX55_work_39 rfl (lv_at hl 1 rfl) ?_
      have hq_7 := hw.1
      have hw := hw.2
      refine k_zald X hH 1 0 rfl rfl (z_in (rfl : x1.toInt = _) hq_7) dX55_work_40 ?_
      have e_8 := z_ld (f := f_said) (rfl : x1.toInt = _) hq_7.1
      refine lv_if_eq (tgt := 48) hx hb dX55_work_41 (by decide) (fun c_9 => ?_) (fun c_9 => ?_)
      · have hw := hw.1 (z_eq e_8 (rfl : (0 : Int32).toInt = 0) c_9)
        refine lv_iconst (v := (-1)) hx hb dX55_work_48 (by decide) ?_
        obtain ⟨f_rounds_10, ef_rounds_10⟩ : ∃ y : Nat → Int32, y = upd f_rounds x1.toNatClampNeg (-1) := ⟨_, rfl⟩
        refine k_iast X hH 7 6 rfl rfl (z_in (rfl : x1.toInt = _) hq_7) dX55_work_49 ef_rounds_10 (ws1 := (wX55 ci ad d f_said f_heads f_kinds f_folded f_lengths f_parts f_rules f_known f_rounds_10 f_given f_strata f_circle f_turns f_needs f_comes f_values f_plain f_plainCount f_pointers f_now f_fresh f_many f_sums f_lows f_highs f_layed f_worked f_large)) rfl (fun H locs hH => ?_)
        have hw := hw (zF f_rounds_10) (by rw [ef_rounds_10]; exact z_st (f := f_rounds) (rfl : x1.toInt = _) hq_7.1 (rfl : ((-1) : Int32).toInt = (-1)))
        refine lv_aload_n hx hb dX55_work_50 rfl (lv_at hl 0 rfl) ?_
        refine k_get X hH in_X55 0 rfl hc 9 (by decide) q6585 rfl dX55_work_51 ?_
        refine lv_iload_n hx hb dX55_work_54 rfl (lv_at hl 1 rfl) ?_
        refine lv_iconst (v := 0) hx hb dX55_work_55 (by decide) ?_
        obtain ⟨f_given_11, ef_given_11⟩ : ∃ y : Nat → Int32, y = upd f_given x1.toNatClampNeg 0 := ⟨_, rfl⟩
        refine k_iast X hH 8 7 rfl rfl (z_in (rfl : x1.toInt = _) hq_7) dX55_work_56 ef_given_11 (ws1 := (wX55 ci ad d f_said f_heads f_kinds f_folded f_lengths f_parts f_rules f_known f_rounds_10 f_given_11 f_strata f_circle f_turns f_needs f_comes f_values f_plain f_plainCount f_pointers f_now f_fresh f_many f_sums f_lows f_highs f_layed f_worked f_large)) rfl (fun H locs hH => ?_)
        have hw := hw (zF f_given_11) (by rw [ef_given_11]; exact z_st (f := f_given) (rfl : x1.toInt = _) hq_7.1 (rfl : (0 : Int32).toInt = 0))
        refine lv_aload_n hx hb dX55_work_57 rfl (lv_at hl 0 rfl) ?_
        refine k_get X hH in_X55 0 rfl hc 20 (by decide) q6596 rfl dX55_work_58 ?_
        refine lv_iload_n hx hb dX55_work_61 rfl (lv_at hl 1 rfl) ?_
        refine lv_iconst (v := 0) hx hb dX55_work_62 (by decide) ?_
        obtain ⟨f_fresh_12, ef_fresh_12⟩ : ∃ y : Nat → Int32, y = upd f_fresh x1.toNatClampNeg 0 := ⟨_, rfl⟩
        refine k_iast X hH 15 14 rfl rfl (z_in (rfl : x1.toInt = _) hq_7) dX55_work_63 ef_fresh_12 (ws1 := (wX55 ci ad d f_said f_heads f_kinds f_folded f_lengths f_parts f_rules f_known f_rounds_10 f_given_11 f_strata f_circle f_turns f_needs f_comes f_values f_plain f_plainCount f_pointers f_now f_fresh_12 f_many f_sums f_lows f_highs f_layed f_worked f_large)) rfl (fun H locs hH => ?_)
        have hw := hw (zF f_fresh_12) (by rw [ef_fresh_12]; exact z_st (f := f_fresh) (rfl : x1.toInt = _) hq_7.1 (rfl : (0 : Int32).toInt = 0))
        have hq_14 := hw.1
        have hw := hw.2
        obtain ⟨x1_13, ex1_13⟩ : ∃ y : Int32, y = x1 + 1 := ⟨_, rfl⟩
        have hw := hw x1_13.toInt (by rw [ex1_13]; exact (z_x (z_add (z_m (rfl : x1.toInt = _)) (z_m (rfl : (1 : Int32).toInt = 1))) hq_14))
        refine lv_iinc (v := x1_13) (lv' := [(1, .int x1_13), (0, .ref (ad 0))]) hx hb dX55_work_64 hl (k := 1) rfl (by rw [ex1_13]; rfl) (by decide) rfl (fun ls hl => ?_)
        refine lv_goto (tgt := 23) hx hb dX55_work_67 (by decide) ?_
        exact ih x1_13 f_rounds_10 f_given_11 f_fresh_12 hw _ _ ls hH (lv_sub hl [1, 0] rfl)
      · have hw := hw.2 (z_neq e_8 (rfl : (0 : Int32).toInt = 0) c_9)
        refine lv_iconst (v := 0) hx hb dX55_work_44 (by decide) ?_
        refine lv_goto (tgt := 49) hx hb dX55_work_45 (by decide) ?_
        obtain ⟨f_rounds_15, ef_rounds_15⟩ : ∃ y : Nat → Int32, y = upd f_rounds x1.toNatClampNeg 0 := ⟨_, rfl⟩
        refine k_iast X hH 7 6 rfl rfl (z_in (rfl : x1.toInt = _) hq_7) dX55_work_49 ef_rounds_15 (ws1 := (wX55 ci ad d f_said f_heads f_kinds f_folded f_lengths f_parts f_rules f_known f_rounds_15 f_given f_strata f_circle f_turns f_needs f_comes f_values f_plain f_plainCount f_pointers f_now f_fresh f_many f_sums f_lows f_highs f_layed f_worked f_large)) rfl (fun H locs hH => ?_)
        have hw := hw (zF f_rounds_15) (by rw [ef_rounds_15]; exact z_st (f := f_rounds) (rfl : x1.toInt = _) hq_7.1 (rfl : (0 : Int32).toInt = 0))
        refine lv_aload_n hx hb dX55_work_50 rfl (lv_at hl 0 rfl) ?_
        refine k_get X hH in_X55 0 rfl hc 9 (by decide) q6585 rfl dX55_work_51 ?_
        refine lv_iload_n hx hb dX55_work_54 rfl (lv_at hl 1 rfl) ?_
        refine lv_iconst (v := 0) hx hb dX55_work_55 (by decide) ?_
        obtain ⟨f_given_16, ef_given_16⟩ : ∃ y : Nat → Int32, y = upd f_given x1.toNatClampNeg 0 := ⟨_, rfl⟩
        refine k_iast X hH 8 7 rfl rfl (z_in (rfl : x1.toInt = _) hq_7) dX55_work_56 ef_given_16 (ws1 := (wX55 ci ad d f_said f_heads f_kinds f_folded f_lengths f_parts f_rules f_known f_rounds_15 f_given_16 f_strata f_circle f_turns f_needs f_comes f_values f_plain f_plainCount f_pointers f_now f_fresh f_many f_sums f_lows f_highs f_layed f_worked f_large)) rfl (fun H locs hH => ?_)
        have hw := hw (zF f_given_16) (by rw [ef_given_16]; exact z_st (f := f_given) (rfl : x1.toInt = _) hq_7.1 (rfl : (0 : Int32).toInt = 0))
        refine lv_aload_n hx hb dX55_work_57 rfl (lv_at hl 0 rfl) ?_
        refine k_get X hH in_X55 0 rfl hc 20 (by decide) q6596 rfl dX55_work_58 ?_
        refine lv_iload_n hx hb dX55_work_61 rfl (lv_at hl 1 rfl) ?_
        refine lv_iconst (v := 0) hx hb dX55_work_62 (by decide) ?_
        obtain ⟨f_fresh_17, ef_fresh_17⟩ : ∃ y : Nat → Int32, y = upd f_fresh x1.toNatClampNeg 0 := ⟨_, rfl⟩
        refine k_iast X hH 15 14 rfl rfl (z_in (rfl : x1.toInt = _) hq_7) dX55_work_63 ef_fresh_17 (ws1 := (wX55 ci ad d f_said f_heads f_kinds f_folded f_lengths f_parts f_rules f_known f_rounds_15 f_given_16 f_strata f_circle f_turns f_needs f_comes f_values f_plain f_plainCount f_pointers f_now f_fresh_17 f_many f_sums f_lows f_highs f_layed f_worked f_large)) rfl (fun H locs hH => ?_)
        have hw := hw (zF f_fresh_17) (by rw [ef_fresh_17]; exact z_st (f := f_fresh) (rfl : x1.toInt = _) hq_7.1 (rfl : (0 : Int32).toInt = 0))
        have hq_19 := hw.1
        have hw := hw.2
        obtain ⟨x1_18, ex1_18⟩ : ∃ y : Int32, y = x1 + 1 := ⟨_, rfl⟩
        have hw := hw x1_18.toInt (by rw [ex1_18]; exact (z_x (z_add (z_m (rfl : x1.toInt = _)) (z_m (rfl : (1 : Int32).toInt = 1))) hq_19))
        refine lv_iinc (v := x1_18) (lv' := [(1, .int x1_18), (0, .ref (ad 0))]) hx hb dX55_work_64 hl (k := 1) rfl (by rw [ex1_18]; rfl) (by decide) rfl (fun ls hl => ?_)
        refine lv_goto (tgt := 23) hx hb dX55_work_67 (by decide) ?_
        exact ih x1_18 f_rounds_15 f_given_16 f_fresh_17 hw _ _ ls hH (lv_sub hl [1, 0] rfl)
set_option maxHeartbeats 4000000 in
theorem atX55_work_145 {p : Program} {l : Launch} {e : Env} {s : State} {m : MethodId} {args : Array Value} {below : List Frame} {meth : Method} {c : Code} {dC : Nat → ClassId} {dI : Nat → Nat → Nat} {cl : List vw_C} {ci : Nat} (hc : cl[ci]? = some (RX55, TX55, 28)) {ad : Nat → Nat} {d : Nat → ClassId} {A : Nat → Prop} {post : Int → (Int → Int) → (Int → Int) → (Int → Int) → Int → Int → (Int → Int) → (Int → Int) → (Int → Int) → (Int → Int) → Int → (Int → Int) → Int → (Int → Int) → (Int → Int) → (Int → Int) → (Int → Int) → (Int → Int) → Int → Int → Int → Prop} {f_said : Nat → Int32} {f_heads : Nat → Int32} {f_kinds : Nat → Int32} {f_folded : Nat → Int32} {f_lengths : Nat → Int32} {f_parts : Nat → Int32} {f_rules : Int32} (X : kX p s m args meth c cX55_work 4 RX55 none (dC, dI) cl (tX55 d)) {K197 : (Int → Int) → (Int → Int) → (Int → Int) → (Int → Int) → Int → (Int → Int) → (Int → Int) → (Int → Int) → (Int → Int) → (Int → Int) → (Int → Int) → Int → Prop} {x1 : Int32} {x2 : Int32} {f_known : Int32} {f_strata : Nat → Int32} {f_circle : Int32} {f_turns : Int32} {f_needs : Nat → Int32} {f_comes : Nat → Int32} {f_now : Int32} {f_worked : Int64} {f_large : Int32} (hk197 : ∀ (f_rounds : Nat → Int32) (f_given : Nat → Int32) (f_values : Nat → Int32) (f_plain : Nat → Int32) (f_plainCount : Int32) (f_pointers : Nat → Int32) (f_fresh : Nat → Int32) (f_many : Nat → Int32) (f_sums : Nat → Int32) (f_lows : Nat → Int32) (f_highs : Nat → Int32) (f_layed : Int32), K197 (zF f_rounds) (zF f_given) (zF f_values) (zF f_plain) f_plainCount.toInt (zF f_pointers) (zF f_fresh) (zF f_many) (zF f_sums) (zF f_lows) (zF f_highs) f_layed.toInt → ∀ (H : Heap) (locs : List Loc) (ls : Array Slot), kH (dC, dI) cl A s.heap H locs (wX55 ci ad d f_said f_heads f_kinds f_folded f_lengths f_parts f_rules f_known f_rounds f_given f_strata f_circle f_turns f_needs f_comes f_values f_plain f_plainCount f_pointers f_now f_fresh f_many f_sums f_lows f_highs f_layed f_worked f_large) → lv_has ls 4 [(0, .ref (ad 0)), (1, .int x1), (2, .int x2)] → W p l e ({ frames := 4, cells := 0, slots := 0, locals := 100 } : Room) s m args below meth c H locs 0 0 (MQ below (va_Qv (fun (u : Int32 × (Nat → Int32) × (Nat → Int32) × (Nat → Int32) × Int32 × Int32 × (Nat → Int32) × (Nat → Int32) × (Nat → Int32) × (Nat → Int32) × Int32 × (Nat → Int32) × Int32 × (Nat → Int32) × (Nat → Int32) × (Nat → Int32) × (Nat → Int32) × (Nat → Int32) × Int32 × Int64 × Int32) => post (u.1).toInt (zF (u.2.1)) (zF (u.2.2.1)) (zF (u.2.2.2.1)) (u.2.2.2.2.1).toInt (u.2.2.2.2.2.1).toInt (zF (u.2.2.2.2.2.2.1)) (zF (u.2.2.2.2.2.2.2.1)) (zF (u.2.2.2.2.2.2.2.2.1)) (zF (u.2.2.2.2.2.2.2.2.2.1)) (u.2.2.2.2.2.2.2.2.2.2.1).toInt (zF (u.2.2.2.2.2.2.2.2.2.2.2.1)) (u.2.2.2.2.2.2.2.2.2.2.2.2.1).toInt (zF (u.2.2.2.2.2.2.2.2.2.2.2.2.2.1)) (zF (u.2.2.2.2.2.2.2.2.2.2.2.2.2.2.1)) (zF (u.2.2.2.2.2.2.2.2.2.2.2.2.2.2.2.1)) (zF (u.2.2.2.2.2.2.2.2.2.2.2.2.2.2.2.2.1)) (zF (u.2.2.2.2.2.2.2.2.2.2.2.2.2.2.2.2.2.1)) (u.2.2.2.2.2.2.2.2.2.2.2.2.2.2.2.2.2.2.1).toInt (u.2.2.2.2.2.2.2.2.2.2.2.2.2.2.2.2.2.2.2.1).toInt (u.2.2.2.2.2.2.2.2.2.2.2.2.2.2.2.2.2.2.2.2).toInt) (kB (dC, dI) cl (tX55 d) A (fun u : Int32 × (Nat → Int32) × (Nat → Int32) × (Nat → Int32) × Int32 × Int32 × (Nat → Int32) × (Nat → Int32) × (Nat → Int32) × (Nat → Int32) × Int32 × (Nat → Int32) × Int32 × (Nat → Int32) × (Nat → Int32) × (Nat → Int32) × (Nat → Int32) × (Nat → Int32) × Int32 × Int64 × Int32 => (wX55 ci ad d f_said f_heads f_kinds f_folded f_lengths f_parts f_rules (u.1) (u.2.1) (u.2.2.1) (u.2.2.2.1) (u.2.2.2.2.1) (u.2.2.2.2.2.1) (u.2.2.2.2.2.2.1) (u.2.2.2.2.2.2.2.1) (u.2.2.2.2.2.2.2.2.1) (u.2.2.2.2.2.2.2.2.2.1) (u.2.2.2.2.2.2.2.2.2.2.1) (u.2.2.2.2.2.2.2.2.2.2.2.1) (u.2.2.2.2.2.2.2.2.2.2.2.2.1) (u.2.2.2.2.2.2.2.2.2.2.2.2.2.1) (u.2.2.2.2.2.2.2.2.2.2.2.2.2.2.1) (u.2.2.2.2.2.2.2.2.2.2.2.2.2.2.2.1) (u.2.2.2.2.2.2.2.2.2.2.2.2.2.2.2.2.1) (u.2.2.2.2.2.2.2.2.2.2.2.2.2.2.2.2.2.1) (u.2.2.2.2.2.2.2.2.2.2.2.2.2.2.2.2.2.2.1) (u.2.2.2.2.2.2.2.2.2.2.2.2.2.2.2.2.2.2.2.1) (u.2.2.2.2.2.2.2.2.2.2.2.2.2.2.2.2.2.2.2.2)))) A) args s 0 0 A) (F0 m 197 ls [])) :
    ∀ (nn : Nat) (x3 : Int32) (f_rounds : Nat → Int32) (f_given : Nat → Int32) (f_values : Nat → Int32) (f_plain : Nat → Int32) (f_plainCount : Int32) (f_pointers : Nat → Int32) (f_fresh : Nat → Int32) (f_many : Nat → Int32) (f_sums : Nat → Int32) (f_lows : Nat → Int32) (f_highs : Nat → Int32) (f_layed : Int32), wX55_work_145 K197 x1.toInt x2.toInt (zF f_heads) (zF f_kinds) (zF f_folded) (zF f_lengths) (zF f_parts) f_rules.toInt (zF f_strata) f_now.toInt f_large.toInt nn x3.toInt (zF f_rounds) (zF f_given) (zF f_values) (zF f_plain) f_plainCount.toInt (zF f_pointers) (zF f_fresh) (zF f_many) (zF f_sums) (zF f_lows) (zF f_highs) f_layed.toInt → ∀ (H : Heap) (locs : List Loc) (ls : Array Slot), kH (dC, dI) cl A s.heap H locs (wX55 ci ad d f_said f_heads f_kinds f_folded f_lengths f_parts f_rules f_known f_rounds f_given f_strata f_circle f_turns f_needs f_comes f_values f_plain f_plainCount f_pointers f_now f_fresh f_many f_sums f_lows f_highs f_layed f_worked f_large) → lv_has ls 4 [(0, .ref (ad 0)), (1, .int x1), (2, .int x2), (3, .int x3)] → W p l e ({ frames := 4, cells := 0, slots := 0, locals := 100 } : Room) s m args below meth c H locs 0 0 (MQ below (va_Qv (fun (u : Int32 × (Nat → Int32) × (Nat → Int32) × (Nat → Int32) × Int32 × Int32 × (Nat → Int32) × (Nat → Int32) × (Nat → Int32) × (Nat → Int32) × Int32 × (Nat → Int32) × Int32 × (Nat → Int32) × (Nat → Int32) × (Nat → Int32) × (Nat → Int32) × (Nat → Int32) × Int32 × Int64 × Int32) => post (u.1).toInt (zF (u.2.1)) (zF (u.2.2.1)) (zF (u.2.2.2.1)) (u.2.2.2.2.1).toInt (u.2.2.2.2.2.1).toInt (zF (u.2.2.2.2.2.2.1)) (zF (u.2.2.2.2.2.2.2.1)) (zF (u.2.2.2.2.2.2.2.2.1)) (zF (u.2.2.2.2.2.2.2.2.2.1)) (u.2.2.2.2.2.2.2.2.2.2.1).toInt (zF (u.2.2.2.2.2.2.2.2.2.2.2.1)) (u.2.2.2.2.2.2.2.2.2.2.2.2.1).toInt (zF (u.2.2.2.2.2.2.2.2.2.2.2.2.2.1)) (zF (u.2.2.2.2.2.2.2.2.2.2.2.2.2.2.1)) (zF (u.2.2.2.2.2.2.2.2.2.2.2.2.2.2.2.1)) (zF (u.2.2.2.2.2.2.2.2.2.2.2.2.2.2.2.2.1)) (zF (u.2.2.2.2.2.2.2.2.2.2.2.2.2.2.2.2.2.1)) (u.2.2.2.2.2.2.2.2.2.2.2.2.2.2.2.2.2.2.1).toInt (u.2.2.2.2.2.2.2.2.2.2.2.2.2.2.2.2.2.2.2.1).toInt (u.2.2.2.2.2.2.2.2.2.2.2.2.2.2.2.2.2.2.2.2).toInt) (kB (dC, dI) cl (tX55 d) A (fun u : Int32 × (Nat → Int32) × (Nat → Int32) × (Nat → Int32) × Int32 × Int32 × (Nat → Int32) × (Nat → Int32) × (Nat → Int32) × (Nat → Int32) × Int32 × (Nat → Int32) × Int32 × (Nat → Int32) × (Nat → Int32) × (Nat → Int32) × (Nat → Int32) × (Nat → Int32) × Int32 × Int64 × Int32 => (wX55 ci ad d f_said f_heads f_kinds f_folded f_lengths f_parts f_rules (u.1) (u.2.1) (u.2.2.1) (u.2.2.2.1) (u.2.2.2.2.1) (u.2.2.2.2.2.1) (u.2.2.2.2.2.2.1) (u.2.2.2.2.2.2.2.1) (u.2.2.2.2.2.2.2.2.1) (u.2.2.2.2.2.2.2.2.2.1) (u.2.2.2.2.2.2.2.2.2.2.1) (u.2.2.2.2.2.2.2.2.2.2.2.1) (u.2.2.2.2.2.2.2.2.2.2.2.2.1) (u.2.2.2.2.2.2.2.2.2.2.2.2.2.1) (u.2.2.2.2.2.2.2.2.2.2.2.2.2.2.1) (u.2.2.2.2.2.2.2.2.2.2.2.2.2.2.2.1) (u.2.2.2.2.2.2.2.2.2.2.2.2.2.2.2.2.1) (u.2.2.2.2.2.2.2.2.2.2.2.2.2.2.2.2.2.1) (u.2.2.2.2.2.2.2.2.2.2.2.2.2.2.2.2.2.2.1) (u.2.2.2.2.2.2.2.2.2.2.2.2.2.2.2.2.2.2.2.1) (u.2.2.2.2.2.2.2.2.2.2.2.2.2.2.2.2.2.2.2.2)))) A) args s 0 0 A) (F0 m 145 ls []) := by
  have hx := X.1.1
  have hb := X.1.2.1
  intro nn
  induction nn with
  | zero =>
    intro x3 f_rounds f_given f_values f_plain f_plainCount f_pointers f_fresh f_many f_sums f_lows f_highs f_layed hw
    exact False.elim hw
  | succ n ih =>
    intro x3 f_rounds f_given f_values f_plain f_plainCount f_pointers f_fresh f_many f_sums f_lows f_highs f_layed hw H locs ls hH hl
    rw [wX55_work_145] at hw
    refine lv_iload_n hx hb dX55_work_145 rfl (lv_at hl 3 rfl) ?_
    refine lv_aload_n hx hb dX55_work_146 rfl (lv_at hl 0 rfl) ?_
    refine k_get X hH in_X55 0 rfl hc 6 (by decide) q6582 rfl dX55_work_147 ?_
    refine lv_icmp_ge (tgt := 197) hx hb dX55_work_150 (by decide) (fun c_34 => ?_) (fun c_34 => ?_)
    · have hw := hw.1 (z_le (rfl : f_rules.toInt = _) (rfl : x3.toInt = _) c_34)
      exact hk197 f_rounds f_given f_values f_plain f_plainCount f_pointers f_fresh f_many f_sums f_lows f_highs f_layed hw _ _ ls hH (lv_sub hl [0, 1, 2] rfl)
    · have hw := hw.2 (z_nle (rfl : f_rules.toInt = _) (rfl : x3.toInt = _) c_34)
      refine lv_aload_n hx hb dX55_work_153 rfl (lv_at hl 0 rfl) ?_
      refine k_get X hH in_X55 0 rfl hc 27 (by decide) q6603 rfl dX55_work_154 ?_
      refine lv_if_ne (tgt := 197) hx hb dX55_work_157 (by decide) (fun c_35 => ?_) (fun c_35 => ?_)
      · have hw := hw.2 (z_ne (rfl : f_large.toInt = _) (rfl : (0 : Int32).toInt = 0) c_35)
        exact hk197 f_rounds f_given f_values f_plain f_plainCount f_pointers f_fresh f_many f_sums f_lows f_highs f_layed hw _ _ ls hH (lv_sub hl [0, 1, 2] rfl)
      · have hw := hw.1 (z_eq (rfl : f_large.toInt = _) (rfl : (0 : Int32).toInt = 0) c_35)
        refine lv_aload_n hx hb dX55_work_160 rfl (lv_at hl 0 rfl) ?_
        refine lv_iload_n hx hb dX55_work_161 rfl (lv_at hl 3 rfl) ?_
        refine k_i0 hH (k_runV (As := [.int x3]) (rest := []) X hH.1 hH.2.1 X.2.2.2 (walkX55_isSafe hc (x1 := x3) (f_said := f_said) (f_heads := f_heads) (f_kinds := f_kinds) (f_folded := f_folded) (f_lengths := f_lengths) (f_parts := f_parts) (f_rules := f_rules) (f_known := f_known) (f_rounds := f_rounds) (f_given := f_given) (f_strata := f_strata) (f_circle := f_circle) (f_turns := f_turns) (f_needs := f_needs) (f_comes := f_comes) (f_values := f_values) (f_plain := f_plain) (f_plainCount := f_plainCount) (f_pointers := f_pointers) (f_now := f_now) (f_fresh := f_fresh) (f_many := f_many) (f_sums := f_sums) (f_lows := f_lows) (f_highs := f_highs) (f_layed := f_layed) (f_worked := f_worked) (f_large := f_large) hw) (cwV 1 X.1.2.2.2.2 gX55_105 rfl rfl rfl hX55_isSafe ⟨Nat.le_of_ble_eq_true rfl, Nat.le_of_ble_eq_true rfl⟩) hc (q0 := 0) rfl rfl hl.1 rfl (Nat.le_of_ble_eq_true rfl) dX55_work_162 ⟨Nat.le_refl 0, Nat.le_refl 0⟩) (fun r_36 _ H locs hw hH => ?_)
        have hH : kH (dC, dI) cl A s.heap H locs (wX55 ci ad d f_said f_heads f_kinds f_folded f_lengths f_parts f_rules f_known f_rounds f_given f_strata f_circle f_turns f_needs f_comes f_values f_plain f_plainCount f_pointers f_now f_fresh f_many f_sums f_lows f_highs f_layed f_worked f_large) := hH
        refine lv_if_eq (tgt := 191) hx hb dX55_work_165 (by decide) (fun c_37 => ?_) (fun c_37 => ?_)
        · have hw := hw.1 (z_eq (rfl : r_36.toInt = _) (rfl : (0 : Int32).toInt = 0) c_37)
          have hq_39 := hw.1
          have hw := hw.2
          obtain ⟨x3_38, ex3_38⟩ : ∃ y : Int32, y = x3 + 1 := ⟨_, rfl⟩
          have hw := hw x3_38.toInt (by rw [ex3_38]; exact (z_x (z_add (z_m (rfl : x3.toInt = _)) (z_m (rfl : (1 : Int32).toInt = 1))) hq_39))
          refine lv_iinc (v := x3_38) (lv' := [(3, .int x3_38), (0, .ref (ad 0)), (1, .int x1), (2, .int x2)]) hx hb dX55_work_191 hl (k := 3) rfl (by rw [ex3_38]; rfl) (by decide) rfl (fun ls hl => ?_)
          refine lv_goto (tgt := 145) hx hb dX55_work_194 (by decide) ?_
          exact ih x3_38 f_rounds f_given f_values f_plain f_plainCount f_pointers f_fresh f_many f_sums f_lows f_highs f_layed hw _ _ ls hH (lv_sub hl [1, 2, 3, 0] rfl)
        · have hw := hw.2 (z_neq (rfl : r_36.toInt = _) (rfl : (0 : Int32).toInt = 0) c_37)
          refine lv_aload_n hx hb dX55_work_168 rfl (lv_at hl 0 rfl) ?_
          refine k_get X hH in_X55 0 rfl hc 10 (by decide) q6586 rfl dX55_work_169 ?_
          refine lv_aload_n hx hb dX55_work_172 rfl (lv_at hl 0 rfl) ?_
          refine k_get X hH in_X55 0 rfl hc 1 (by decide) q6577 rfl dX55_work_173 ?_
          refine lv_iconst (v := 3) hx hb dX55_work_176 (by decide) ?_
          refine lv_iload_n hx hb dX55_work_177 rfl (lv_at hl 3 rfl) ?_
          refine lv_imul hx hb dX55_work_178 ?_
          have e_40 := z_mul (z_m (rfl : (3 : Int32).toInt = 3)) (z_m (rfl : x3.toInt = _))
          have hq_41 := hw.1
          have hw := hw.2
          have e_42 := z_xi e_40 hq_41 (by decide)
          refine k_iald X hH 2 1 rfl rfl (z_in e_42 hq_41) dX55_work_179 ?_
          have e_43 := z_ld (f := f_heads) e_42 hq_41.1
          have hq_44 := hw.1
          have hw := hw.2
          refine k_iald X hH 9 8 rfl rfl (z_in e_43 hq_44) dX55_work_180 ?_
          have e_45 := z_ld (f := f_strata) e_43 hq_44.1
          refine lv_iload_n hx hb dX55_work_181 rfl (lv_at hl 1 rfl) ?_
          refine lv_icmp_ne (tgt := 191) hx hb dX55_work_182 (by decide) (fun c_46 => ?_) (fun c_46 => ?_)
          · have hw := hw.2 (z_ne e_45 (rfl : x1.toInt = _) c_46)
            have hq_48 := hw.1
            have hw := hw.2
            obtain ⟨x3_47, ex3_47⟩ : ∃ y : Int32, y = x3 + 1 := ⟨_, rfl⟩
            have hw := hw x3_47.toInt (by rw [ex3_47]; exact (z_x (z_add (z_m (rfl : x3.toInt = _)) (z_m (rfl : (1 : Int32).toInt = 1))) hq_48))
            refine lv_iinc (v := x3_47) (lv' := [(3, .int x3_47), (0, .ref (ad 0)), (1, .int x1), (2, .int x2)]) hx hb dX55_work_191 hl (k := 3) rfl (by rw [ex3_47]; rfl) (by decide) rfl (fun ls hl => ?_)
            refine lv_goto (tgt := 145) hx hb dX55_work_194 (by decide) ?_
            exact ih x3_47 f_rounds f_given f_values f_plain f_plainCount f_pointers f_fresh f_many f_sums f_lows f_highs f_layed hw _ _ ls hH (lv_sub hl [1, 2, 3, 0] rfl)
          · have hw := hw.1 (z_eq e_45 (rfl : x1.toInt = _) c_46)
            refine lv_aload_n hx hb dX55_work_185 rfl (lv_at hl 0 rfl) ?_
            refine lv_iload_n hx hb dX55_work_186 rfl (lv_at hl 3 rfl) ?_
            refine lv_iload_n hx hb dX55_work_187 rfl (lv_at hl 2 rfl) ?_
            refine k_v0 hH (k_runV (As := [.int x3, .int x2]) (rest := []) X hH.1 hH.2.1 X.2.2.2 (walkX55_spread hc (x1 := x3) (x2 := x2) (f_said := f_said) (f_heads := f_heads) (f_kinds := f_kinds) (f_folded := f_folded) (f_lengths := f_lengths) (f_parts := f_parts) (f_rules := f_rules) (f_known := f_known) (f_rounds := f_rounds) (f_given := f_given) (f_strata := f_strata) (f_circle := f_circle) (f_turns := f_turns) (f_needs := f_needs) (f_comes := f_comes) (f_values := f_values) (f_plain := f_plain) (f_plainCount := f_plainCount) (f_pointers := f_pointers) (f_now := f_now) (f_fresh := f_fresh) (f_many := f_many) (f_sums := f_sums) (f_lows := f_lows) (f_highs := f_highs) (f_layed := f_layed) (f_worked := f_worked) (f_large := f_large) hw) (cwV 2 X.1.2.2.2.2 gX55_164 rfl rfl rfl hX55_spread ⟨Nat.le_of_ble_eq_true rfl, Nat.le_of_ble_eq_true rfl⟩) hc (q0 := 0) rfl rfl hl.1 rfl (Nat.le_of_ble_eq_true rfl) dX55_work_188 ⟨Nat.le_refl 0, Nat.le_refl 0⟩) (fun u H locs hw hH => ?_)
            obtain ⟨f_rounds_49, f_given_50, f_values_51, f_plain_52, f_plainCount_53, f_pointers_54, f_fresh_55, f_many_56, f_sums_57, f_lows_58, f_highs_59, f_layed_60⟩ := u
            have hH : kH (dC, dI) cl A s.heap H locs (wX55 ci ad d f_said f_heads f_kinds f_folded f_lengths f_parts f_rules f_known f_rounds_49 f_given_50 f_strata f_circle f_turns f_needs f_comes f_values_51 f_plain_52 f_plainCount_53 f_pointers_54 f_now f_fresh_55 f_many_56 f_sums_57 f_lows_58 f_highs_59 f_layed_60 f_worked f_large) := hH
            have hq_62 := hw.1
            have hw := hw.2
            obtain ⟨x3_61, ex3_61⟩ : ∃ y : Int32, y = x3 + 1 := ⟨_, rfl⟩
            have hw := hw x3_61.toInt (by rw [ex3_61]; exact (z_x (z_add (z_m (rfl : x3.toInt = _)) (z_m (rfl : (1 : Int32).toInt = 1))) hq_62))
            refine lv_iinc (v := x3_61) (lv' := [(3, .int x3_61), (0, .ref (ad 0)), (1, .int x1), (2, .int x2)]) hx hb dX55_work_191 hl (k := 3) rfl (by rw [ex3_61]; rfl) (by decide) rfl (fun ls hl => ?_)
            refine lv_goto (tgt := 145) hx hb dX55_work_194 (by decide) ?_
            exact ih x3_61 f_rounds_49 f_given_50 f_values_51 f_plain_52 f_plainCount_53 f_pointers_54 f_fresh_55 f_many_56 f_sums_57 f_lows_58 f_highs_59 f_layed_60 hw _ _ ls hH (lv_sub hl [1, 2, 3, 0] rfl)
set_option maxHeartbeats 4000000 in
theorem atX55_work_197 {p : Program} {l : Launch} {e : Env} {s : State} {m : MethodId} {args : Array Value} {below : List Frame} {meth : Method} {c : Code} {dC : Nat → ClassId} {dI : Nat → Nat → Nat} {cl : List vw_C} {ci : Nat} (hc : cl[ci]? = some (RX55, TX55, 28)) {ad : Nat → Nat} {d : Nat → ClassId} {A : Nat → Prop} {post : Int → (Int → Int) → (Int → Int) → (Int → Int) → Int → Int → (Int → Int) → (Int → Int) → (Int → Int) → (Int → Int) → Int → (Int → Int) → Int → (Int → Int) → (Int → Int) → (Int → Int) → (Int → Int) → (Int → Int) → Int → Int → Int → Prop} {f_said : Nat → Int32} {f_heads : Nat → Int32} {f_kinds : Nat → Int32} {f_folded : Nat → Int32} {f_lengths : Nat → Int32} {f_parts : Nat → Int32} {f_rules : Int32} (X : kX p s m args meth c cX55_work 4 RX55 none (dC, dI) cl (tX55 d)) {K109 : Int → (Int → Int) → (Int → Int) → Int → (Int → Int) → (Int → Int) → Int → (Int → Int) → Int → (Int → Int) → (Int → Int) → (Int → Int) → (Int → Int) → (Int → Int) → Int → Int → Int → Prop} {x1 : Int32} {f_known : Int32} {f_strata : Nat → Int32} {f_circle : Int32} {f_needs : Nat → Int32} {f_comes : Nat → Int32} (hk109 : ∀ (x2 : Int32) (f_rounds : Nat → Int32) (f_given : Nat → Int32) (f_turns : Int32) (f_values : Nat → Int32) (f_plain : Nat → Int32) (f_plainCount : Int32) (f_pointers : Nat → Int32) (f_now : Int32) (f_fresh : Nat → Int32) (f_many : Nat → Int32) (f_sums : Nat → Int32) (f_lows : Nat → Int32) (f_highs : Nat → Int32) (f_layed : Int32) (f_worked : Int64) (f_large : Int32), K109 x2.toInt (zF f_rounds) (zF f_given) f_turns.toInt (zF f_values) (zF f_plain) f_plainCount.toInt (zF f_pointers) f_now.toInt (zF f_fresh) (zF f_many) (zF f_sums) (zF f_lows) (zF f_highs) f_layed.toInt f_worked.toInt f_large.toInt → ∀ (H : Heap) (locs : List Loc) (ls : Array Slot), kH (dC, dI) cl A s.heap H locs (wX55 ci ad d f_said f_heads f_kinds f_folded f_lengths f_parts f_rules f_known f_rounds f_given f_strata f_circle f_turns f_needs f_comes f_values f_plain f_plainCount f_pointers f_now f_fresh f_many f_sums f_lows f_highs f_layed f_worked f_large) → lv_has ls 4 [(0, .ref (ad 0)), (1, .int x1), (2, .int x2)] → W p l e ({ frames := 4, cells := 0, slots := 0, locals := 100 } : Room) s m args below meth c H locs 0 0 (MQ below (va_Qv (fun (u : Int32 × (Nat → Int32) × (Nat → Int32) × (Nat → Int32) × Int32 × Int32 × (Nat → Int32) × (Nat → Int32) × (Nat → Int32) × (Nat → Int32) × Int32 × (Nat → Int32) × Int32 × (Nat → Int32) × (Nat → Int32) × (Nat → Int32) × (Nat → Int32) × (Nat → Int32) × Int32 × Int64 × Int32) => post (u.1).toInt (zF (u.2.1)) (zF (u.2.2.1)) (zF (u.2.2.2.1)) (u.2.2.2.2.1).toInt (u.2.2.2.2.2.1).toInt (zF (u.2.2.2.2.2.2.1)) (zF (u.2.2.2.2.2.2.2.1)) (zF (u.2.2.2.2.2.2.2.2.1)) (zF (u.2.2.2.2.2.2.2.2.2.1)) (u.2.2.2.2.2.2.2.2.2.2.1).toInt (zF (u.2.2.2.2.2.2.2.2.2.2.2.1)) (u.2.2.2.2.2.2.2.2.2.2.2.2.1).toInt (zF (u.2.2.2.2.2.2.2.2.2.2.2.2.2.1)) (zF (u.2.2.2.2.2.2.2.2.2.2.2.2.2.2.1)) (zF (u.2.2.2.2.2.2.2.2.2.2.2.2.2.2.2.1)) (zF (u.2.2.2.2.2.2.2.2.2.2.2.2.2.2.2.2.1)) (zF (u.2.2.2.2.2.2.2.2.2.2.2.2.2.2.2.2.2.1)) (u.2.2.2.2.2.2.2.2.2.2.2.2.2.2.2.2.2.2.1).toInt (u.2.2.2.2.2.2.2.2.2.2.2.2.2.2.2.2.2.2.2.1).toInt (u.2.2.2.2.2.2.2.2.2.2.2.2.2.2.2.2.2.2.2.2).toInt) (kB (dC, dI) cl (tX55 d) A (fun u : Int32 × (Nat → Int32) × (Nat → Int32) × (Nat → Int32) × Int32 × Int32 × (Nat → Int32) × (Nat → Int32) × (Nat → Int32) × (Nat → Int32) × Int32 × (Nat → Int32) × Int32 × (Nat → Int32) × (Nat → Int32) × (Nat → Int32) × (Nat → Int32) × (Nat → Int32) × Int32 × Int64 × Int32 => (wX55 ci ad d f_said f_heads f_kinds f_folded f_lengths f_parts f_rules (u.1) (u.2.1) (u.2.2.1) (u.2.2.2.1) (u.2.2.2.2.1) (u.2.2.2.2.2.1) (u.2.2.2.2.2.2.1) (u.2.2.2.2.2.2.2.1) (u.2.2.2.2.2.2.2.2.1) (u.2.2.2.2.2.2.2.2.2.1) (u.2.2.2.2.2.2.2.2.2.2.1) (u.2.2.2.2.2.2.2.2.2.2.2.1) (u.2.2.2.2.2.2.2.2.2.2.2.2.1) (u.2.2.2.2.2.2.2.2.2.2.2.2.2.1) (u.2.2.2.2.2.2.2.2.2.2.2.2.2.2.1) (u.2.2.2.2.2.2.2.2.2.2.2.2.2.2.2.1) (u.2.2.2.2.2.2.2.2.2.2.2.2.2.2.2.2.1) (u.2.2.2.2.2.2.2.2.2.2.2.2.2.2.2.2.2.1) (u.2.2.2.2.2.2.2.2.2.2.2.2.2.2.2.2.2.2.1) (u.2.2.2.2.2.2.2.2.2.2.2.2.2.2.2.2.2.2.2.1) (u.2.2.2.2.2.2.2.2.2.2.2.2.2.2.2.2.2.2.2.2)))) A) args s 0 0 A) (F0 m 109 ls [])) :
    ∀ (x2 : Int32) (f_rounds : Nat → Int32) (f_given : Nat → Int32) (f_turns : Int32) (f_values : Nat → Int32) (f_plain : Nat → Int32) (f_plainCount : Int32) (f_pointers : Nat → Int32) (f_now : Int32) (f_fresh : Nat → Int32) (f_many : Nat → Int32) (f_sums : Nat → Int32) (f_lows : Nat → Int32) (f_highs : Nat → Int32) (f_layed : Int32) (f_worked : Int64) (f_large : Int32), wX55_work_197 K109 x2.toInt (zF f_rounds) (zF f_given) f_turns.toInt (zF f_values) (zF f_plain) f_plainCount.toInt (zF f_pointers) f_now.toInt (zF f_fresh) (zF f_many) (zF f_sums) (zF f_lows) (zF f_highs) f_layed.toInt f_worked.toInt f_large.toInt → ∀ (H : Heap) (locs : List Loc) (ls : Array Slot), kH (dC, dI) cl A s.heap H locs (wX55 ci ad d f_said f_heads f_kinds f_folded f_lengths f_parts f_rules f_known f_rounds f_given f_strata f_circle f_turns f_needs f_comes f_values f_plain f_plainCount f_pointers f_now f_fresh f_many f_sums f_lows f_highs f_layed f_worked f_large) → lv_has ls 4 [(0, .ref (ad 0)), (1, .int x1), (2, .int x2)] → W p l e ({ frames := 4, cells := 0, slots := 0, locals := 100 } : Room) s m args below meth c H locs 0 0 (MQ below (va_Qv (fun (u : Int32 × (Nat → Int32) × (Nat → Int32) × (Nat → Int32) × Int32 × Int32 × (Nat → Int32) × (Nat → Int32) × (Nat → Int32) × (Nat → Int32) × Int32 × (Nat → Int32) × Int32 × (Nat → Int32) × (Nat → Int32) × (Nat → Int32) × (Nat → Int32) × (Nat → Int32) × Int32 × Int64 × Int32) => post (u.1).toInt (zF (u.2.1)) (zF (u.2.2.1)) (zF (u.2.2.2.1)) (u.2.2.2.2.1).toInt (u.2.2.2.2.2.1).toInt (zF (u.2.2.2.2.2.2.1)) (zF (u.2.2.2.2.2.2.2.1)) (zF (u.2.2.2.2.2.2.2.2.1)) (zF (u.2.2.2.2.2.2.2.2.2.1)) (u.2.2.2.2.2.2.2.2.2.2.1).toInt (zF (u.2.2.2.2.2.2.2.2.2.2.2.1)) (u.2.2.2.2.2.2.2.2.2.2.2.2.1).toInt (zF (u.2.2.2.2.2.2.2.2.2.2.2.2.2.1)) (zF (u.2.2.2.2.2.2.2.2.2.2.2.2.2.2.1)) (zF (u.2.2.2.2.2.2.2.2.2.2.2.2.2.2.2.1)) (zF (u.2.2.2.2.2.2.2.2.2.2.2.2.2.2.2.2.1)) (zF (u.2.2.2.2.2.2.2.2.2.2.2.2.2.2.2.2.2.1)) (u.2.2.2.2.2.2.2.2.2.2.2.2.2.2.2.2.2.2.1).toInt (u.2.2.2.2.2.2.2.2.2.2.2.2.2.2.2.2.2.2.2.1).toInt (u.2.2.2.2.2.2.2.2.2.2.2.2.2.2.2.2.2.2.2.2).toInt) (kB (dC, dI) cl (tX55 d) A (fun u : Int32 × (Nat → Int32) × (Nat → Int32) × (Nat → Int32) × Int32 × Int32 × (Nat → Int32) × (Nat → Int32) × (Nat → Int32) × (Nat → Int32) × Int32 × (Nat → Int32) × Int32 × (Nat → Int32) × (Nat → Int32) × (Nat → Int32) × (Nat → Int32) × (Nat → Int32) × Int32 × Int64 × Int32 => (wX55 ci ad d f_said f_heads f_kinds f_folded f_lengths f_parts f_rules (u.1) (u.2.1) (u.2.2.1) (u.2.2.2.1) (u.2.2.2.2.1) (u.2.2.2.2.2.1) (u.2.2.2.2.2.2.1) (u.2.2.2.2.2.2.2.1) (u.2.2.2.2.2.2.2.2.1) (u.2.2.2.2.2.2.2.2.2.1) (u.2.2.2.2.2.2.2.2.2.2.1) (u.2.2.2.2.2.2.2.2.2.2.2.1) (u.2.2.2.2.2.2.2.2.2.2.2.2.1) (u.2.2.2.2.2.2.2.2.2.2.2.2.2.1) (u.2.2.2.2.2.2.2.2.2.2.2.2.2.2.1) (u.2.2.2.2.2.2.2.2.2.2.2.2.2.2.2.1) (u.2.2.2.2.2.2.2.2.2.2.2.2.2.2.2.2.1) (u.2.2.2.2.2.2.2.2.2.2.2.2.2.2.2.2.2.1) (u.2.2.2.2.2.2.2.2.2.2.2.2.2.2.2.2.2.2.1) (u.2.2.2.2.2.2.2.2.2.2.2.2.2.2.2.2.2.2.2.1) (u.2.2.2.2.2.2.2.2.2.2.2.2.2.2.2.2.2.2.2.2)))) A) args s 0 0 A) (F0 m 197 ls []) := by
  have hx := X.1.1
  have hb := X.1.2.1
  intro x2 f_rounds f_given f_turns f_values f_plain f_plainCount f_pointers f_now f_fresh f_many f_sums f_lows f_highs f_layed f_worked f_large hw H locs ls hH hl
  unfold wX55_work_197 at hw
  refine lv_aload_n hx hb dX55_work_197 rfl (lv_at hl 0 rfl) ?_
  refine k_get X hH in_X55 0 rfl hc 25 (by decide) q6601 rfl dX55_work_198 ?_
  refine lv_if_le (tgt := 214) hx hb dX55_work_201 (by decide) (fun c_75 => ?_) (fun c_75 => ?_)
  · have hw := hw.1 (z_le (rfl : f_layed.toInt = _) (rfl : (0 : Int32).toInt = 0) c_75)
    have hq_77 := hw.1
    have hw := hw.2
    obtain ⟨x2_76, ex2_76⟩ : ∃ y : Int32, y = x2 + 1 := ⟨_, rfl⟩
    have hw := hw x2_76.toInt (by rw [ex2_76]; exact (z_x (z_add (z_m (rfl : x2.toInt = _)) (z_m (rfl : (1 : Int32).toInt = 1))) hq_77))
    refine lv_iinc (v := x2_76) (lv' := [(2, .int x2_76), (0, .ref (ad 0)), (1, .int x1)]) hx hb dX55_work_214 hl (k := 2) rfl (by rw [ex2_76]; rfl) (by decide) rfl (fun ls hl => ?_)
    refine lv_goto (tgt := 109) hx hb dX55_work_217 (by decide) ?_
    exact hk109 x2_76 f_rounds f_given f_turns f_values f_plain f_plainCount f_pointers f_now f_fresh f_many f_sums f_lows f_highs f_layed f_worked f_large hw _ _ ls hH (lv_sub hl [1, 2, 0] rfl)
  · have hw := hw.2 (z_nle (rfl : f_layed.toInt = _) (rfl : (0 : Int32).toInt = 0) c_75)
    refine lv_aload_n hx hb dX55_work_204 rfl (lv_at hl 0 rfl) ?_
    refine lv_dup hx hb dX55_work_205 rfl ?_
    refine k_get X hH in_X55 0 rfl hc 12 (by decide) q6588 rfl dX55_work_206 ?_
    refine lv_iconst (v := 1) hx hb dX55_work_209 (by decide) ?_
    refine lv_iadd hx hb dX55_work_210 ?_
    have e_78 := z_add (z_m (rfl : f_turns.toInt = _)) (z_m (rfl : (1 : Int32).toInt = 1))
    have hq_79 := hw.1
    have hw := hw.2
    have e_80 := z_x e_78 hq_79
    refine lv_topi (fun f_turns_81 ef_turns_81 => ?_)
    have hw := hw f_turns_81.toInt (by rw [ef_turns_81]; exact e_80)
    refine k_put X hH in_X55 tyX55_ok nmX55 0 rfl hc 12 (by decide) q6588 rfl (ty := .int) rfl rfl rfl (Nat.le_of_ble_eq_true rfl) dX55_work_211 (ws1 := (wX55 ci ad d f_said f_heads f_kinds f_folded f_lengths f_parts f_rules f_known f_rounds f_given f_strata f_circle f_turns_81 f_needs f_comes f_values f_plain f_plainCount f_pointers f_now f_fresh f_many f_sums f_lows f_highs f_layed f_worked f_large)) rfl (fun H locs hH => ?_)
    have hq_83 := hw.1
    have hw := hw.2
    obtain ⟨x2_82, ex2_82⟩ : ∃ y : Int32, y = x2 + 1 := ⟨_, rfl⟩
    have hw := hw x2_82.toInt (by rw [ex2_82]; exact (z_x (z_add (z_m (rfl : x2.toInt = _)) (z_m (rfl : (1 : Int32).toInt = 1))) hq_83))
    refine lv_iinc (v := x2_82) (lv' := [(2, .int x2_82), (0, .ref (ad 0)), (1, .int x1)]) hx hb dX55_work_214 hl (k := 2) rfl (by rw [ex2_82]; rfl) (by decide) rfl (fun ls hl => ?_)
    refine lv_goto (tgt := 109) hx hb dX55_work_217 (by decide) ?_
    exact hk109 x2_82 f_rounds f_given f_turns_81 f_values f_plain f_plainCount f_pointers f_now f_fresh f_many f_sums f_lows f_highs f_layed f_worked f_large hw _ _ ls hH (lv_sub hl [1, 2, 0] rfl)
set_option maxHeartbeats 4000000 in
theorem atX55_work_109 {p : Program} {l : Launch} {e : Env} {s : State} {m : MethodId} {args : Array Value} {below : List Frame} {meth : Method} {c : Code} {dC : Nat → ClassId} {dI : Nat → Nat → Nat} {cl : List vw_C} {ci : Nat} (hc : cl[ci]? = some (RX55, TX55, 28)) {ad : Nat → Nat} {d : Nat → ClassId} {A : Nat → Prop} {post : Int → (Int → Int) → (Int → Int) → (Int → Int) → Int → Int → (Int → Int) → (Int → Int) → (Int → Int) → (Int → Int) → Int → (Int → Int) → Int → (Int → Int) → (Int → Int) → (Int → Int) → (Int → Int) → (Int → Int) → Int → Int → Int → Prop} {f_said : Nat → Int32} {f_heads : Nat → Int32} {f_kinds : Nat → Int32} {f_folded : Nat → Int32} {f_lengths : Nat → Int32} {f_parts : Nat → Int32} {f_rules : Int32} (X : kX p s m args meth c cX55_work 4 RX55 none (dC, dI) cl (tX55 d)) {K220 : (Int → Int) → (Int → Int) → Int → (Int → Int) → (Int → Int) → Int → (Int → Int) → Int → (Int → Int) → (Int → Int) → (Int → Int) → (Int → Int) → (Int → Int) → Int → Int → Int → Prop} {x1 : Int32} {f_known : Int32} {f_strata : Nat → Int32} {f_circle : Int32} {f_needs : Nat → Int32} {f_comes : Nat → Int32} (hk220 : ∀ (f_rounds : Nat → Int32) (f_given : Nat → Int32) (f_turns : Int32) (f_values : Nat → Int32) (f_plain : Nat → Int32) (f_plainCount : Int32) (f_pointers : Nat → Int32) (f_now : Int32) (f_fresh : Nat → Int32) (f_many : Nat → Int32) (f_sums : Nat → Int32) (f_lows : Nat → Int32) (f_highs : Nat → Int32) (f_layed : Int32) (f_worked : Int64) (f_large : Int32), K220 (zF f_rounds) (zF f_given) f_turns.toInt (zF f_values) (zF f_plain) f_plainCount.toInt (zF f_pointers) f_now.toInt (zF f_fresh) (zF f_many) (zF f_sums) (zF f_lows) (zF f_highs) f_layed.toInt f_worked.toInt f_large.toInt → ∀ (H : Heap) (locs : List Loc) (ls : Array Slot), kH (dC, dI) cl A s.heap H locs (wX55 ci ad d f_said f_heads f_kinds f_folded f_lengths f_parts f_rules f_known f_rounds f_given f_strata f_circle f_turns f_needs f_comes f_values f_plain f_plainCount f_pointers f_now f_fresh f_many f_sums f_lows f_highs f_layed f_worked f_large) → lv_has ls 4 [(0, .ref (ad 0)), (1, .int x1)] → W p l e ({ frames := 4, cells := 0, slots := 0, locals := 100 } : Room) s m args below meth c H locs 0 0 (MQ below (va_Qv (fun (u : Int32 × (Nat → Int32) × (Nat → Int32) × (Nat → Int32) × Int32 × Int32 × (Nat → Int32) × (Nat → Int32) × (Nat → Int32) × (Nat → Int32) × Int32 × (Nat → Int32) × Int32 × (Nat → Int32) × (Nat → Int32) × (Nat → Int32) × (Nat → Int32) × (Nat → Int32) × Int32 × Int64 × Int32) => post (u.1).toInt (zF (u.2.1)) (zF (u.2.2.1)) (zF (u.2.2.2.1)) (u.2.2.2.2.1).toInt (u.2.2.2.2.2.1).toInt (zF (u.2.2.2.2.2.2.1)) (zF (u.2.2.2.2.2.2.2.1)) (zF (u.2.2.2.2.2.2.2.2.1)) (zF (u.2.2.2.2.2.2.2.2.2.1)) (u.2.2.2.2.2.2.2.2.2.2.1).toInt (zF (u.2.2.2.2.2.2.2.2.2.2.2.1)) (u.2.2.2.2.2.2.2.2.2.2.2.2.1).toInt (zF (u.2.2.2.2.2.2.2.2.2.2.2.2.2.1)) (zF (u.2.2.2.2.2.2.2.2.2.2.2.2.2.2.1)) (zF (u.2.2.2.2.2.2.2.2.2.2.2.2.2.2.2.1)) (zF (u.2.2.2.2.2.2.2.2.2.2.2.2.2.2.2.2.1)) (zF (u.2.2.2.2.2.2.2.2.2.2.2.2.2.2.2.2.2.1)) (u.2.2.2.2.2.2.2.2.2.2.2.2.2.2.2.2.2.2.1).toInt (u.2.2.2.2.2.2.2.2.2.2.2.2.2.2.2.2.2.2.2.1).toInt (u.2.2.2.2.2.2.2.2.2.2.2.2.2.2.2.2.2.2.2.2).toInt) (kB (dC, dI) cl (tX55 d) A (fun u : Int32 × (Nat → Int32) × (Nat → Int32) × (Nat → Int32) × Int32 × Int32 × (Nat → Int32) × (Nat → Int32) × (Nat → Int32) × (Nat → Int32) × Int32 × (Nat → Int32) × Int32 × (Nat → Int32) × (Nat → Int32) × (Nat → Int32) × (Nat → Int32) × (Nat → Int32) × Int32 × Int64 × Int32 => (wX55 ci ad d f_said f_heads f_kinds f_folded f_lengths f_parts f_rules (u.1) (u.2.1) (u.2.2.1) (u.2.2.2.1) (u.2.2.2.2.1) (u.2.2.2.2.2.1) (u.2.2.2.2.2.2.1) (u.2.2.2.2.2.2.2.1) (u.2.2.2.2.2.2.2.2.1) (u.2.2.2.2.2.2.2.2.2.1) (u.2.2.2.2.2.2.2.2.2.2.1) (u.2.2.2.2.2.2.2.2.2.2.2.1) (u.2.2.2.2.2.2.2.2.2.2.2.2.1) (u.2.2.2.2.2.2.2.2.2.2.2.2.2.1) (u.2.2.2.2.2.2.2.2.2.2.2.2.2.2.1) (u.2.2.2.2.2.2.2.2.2.2.2.2.2.2.2.1) (u.2.2.2.2.2.2.2.2.2.2.2.2.2.2.2.2.1) (u.2.2.2.2.2.2.2.2.2.2.2.2.2.2.2.2.2.1) (u.2.2.2.2.2.2.2.2.2.2.2.2.2.2.2.2.2.2.1) (u.2.2.2.2.2.2.2.2.2.2.2.2.2.2.2.2.2.2.2.1) (u.2.2.2.2.2.2.2.2.2.2.2.2.2.2.2.2.2.2.2.2)))) A) args s 0 0 A) (F0 m 220 ls [])) :
    ∀ (nn : Nat) (x2 : Int32) (f_rounds : Nat → Int32) (f_given : Nat → Int32) (f_turns : Int32) (f_values : Nat → Int32) (f_plain : Nat → Int32) (f_plainCount : Int32) (f_pointers : Nat → Int32) (f_now : Int32) (f_fresh : Nat → Int32) (f_many : Nat → Int32) (f_sums : Nat → Int32) (f_lows : Nat → Int32) (f_highs : Nat → Int32) (f_layed : Int32) (f_worked : Int64) (f_large : Int32), wX55_work_109 K220 x1.toInt (zF f_heads) (zF f_kinds) (zF f_folded) (zF f_lengths) (zF f_parts) f_rules.toInt (zF f_strata) nn x2.toInt (zF f_rounds) (zF f_given) f_turns.toInt (zF f_values) (zF f_plain) f_plainCount.toInt (zF f_pointers) f_now.toInt (zF f_fresh) (zF f_many) (zF f_sums) (zF f_lows) (zF f_highs) f_layed.toInt f_worked.toInt f_large.toInt → ∀ (H : Heap) (locs : List Loc) (ls : Array Slot), kH (dC, dI) cl A s.heap H locs (wX55 ci ad d f_said f_heads f_kinds f_folded f_lengths f_parts f_rules f_known f_rounds f_given f_strata f_circle f_turns f_needs f_comes f_values f_plain f_plainCount f_pointers f_now f_fresh f_many f_sums f_lows f_highs f_layed f_worked f_large) → lv_has ls 4 [(0, .ref (ad 0)), (1, .int x1), (2, .int x2)] → W p l e ({ frames := 4, cells := 0, slots := 0, locals := 100 } : Room) s m args below meth c H locs 0 0 (MQ below (va_Qv (fun (u : Int32 × (Nat → Int32) × (Nat → Int32) × (Nat → Int32) × Int32 × Int32 × (Nat → Int32) × (Nat → Int32) × (Nat → Int32) × (Nat → Int32) × Int32 × (Nat → Int32) × Int32 × (Nat → Int32) × (Nat → Int32) × (Nat → Int32) × (Nat → Int32) × (Nat → Int32) × Int32 × Int64 × Int32) => post (u.1).toInt (zF (u.2.1)) (zF (u.2.2.1)) (zF (u.2.2.2.1)) (u.2.2.2.2.1).toInt (u.2.2.2.2.2.1).toInt (zF (u.2.2.2.2.2.2.1)) (zF (u.2.2.2.2.2.2.2.1)) (zF (u.2.2.2.2.2.2.2.2.1)) (zF (u.2.2.2.2.2.2.2.2.2.1)) (u.2.2.2.2.2.2.2.2.2.2.1).toInt (zF (u.2.2.2.2.2.2.2.2.2.2.2.1)) (u.2.2.2.2.2.2.2.2.2.2.2.2.1).toInt (zF (u.2.2.2.2.2.2.2.2.2.2.2.2.2.1)) (zF (u.2.2.2.2.2.2.2.2.2.2.2.2.2.2.1)) (zF (u.2.2.2.2.2.2.2.2.2.2.2.2.2.2.2.1)) (zF (u.2.2.2.2.2.2.2.2.2.2.2.2.2.2.2.2.1)) (zF (u.2.2.2.2.2.2.2.2.2.2.2.2.2.2.2.2.2.1)) (u.2.2.2.2.2.2.2.2.2.2.2.2.2.2.2.2.2.2.1).toInt (u.2.2.2.2.2.2.2.2.2.2.2.2.2.2.2.2.2.2.2.1).toInt (u.2.2.2.2.2.2.2.2.2.2.2.2.2.2.2.2.2.2.2.2).toInt) (kB (dC, dI) cl (tX55 d) A (fun u : Int32 × (Nat → Int32) × (Nat → Int32) × (Nat → Int32) × Int32 × Int32 × (Nat → Int32) × (Nat → Int32) × (Nat → Int32) × (Nat → Int32) × Int32 × (Nat → Int32) × Int32 × (Nat → Int32) × (Nat → Int32) × (Nat → Int32) × (Nat → Int32) × (Nat → Int32) × Int32 × Int64 × Int32 => (wX55 ci ad d f_said f_heads f_kinds f_folded f_lengths f_parts f_rules (u.1) (u.2.1) (u.2.2.1) (u.2.2.2.1) (u.2.2.2.2.1) (u.2.2.2.2.2.1) (u.2.2.2.2.2.2.1) (u.2.2.2.2.2.2.2.1) (u.2.2.2.2.2.2.2.2.1) (u.2.2.2.2.2.2.2.2.2.1) (u.2.2.2.2.2.2.2.2.2.2.1) (u.2.2.2.2.2.2.2.2.2.2.2.1) (u.2.2.2.2.2.2.2.2.2.2.2.2.1) (u.2.2.2.2.2.2.2.2.2.2.2.2.2.1) (u.2.2.2.2.2.2.2.2.2.2.2.2.2.2.1) (u.2.2.2.2.2.2.2.2.2.2.2.2.2.2.2.1) (u.2.2.2.2.2.2.2.2.2.2.2.2.2.2.2.2.1) (u.2.2.2.2.2.2.2.2.2.2.2.2.2.2.2.2.2.1) (u.2.2.2.2.2.2.2.2.2.2.2.2.2.2.2.2.2.2.1) (u.2.2.2.2.2.2.2.2.2.2.2.2.2.2.2.2.2.2.2.1) (u.2.2.2.2.2.2.2.2.2.2.2.2.2.2.2.2.2.2.2.2)))) A) args s 0 0 A) (F0 m 109 ls []) := by
  have hx := X.1.1
  have hb := X.1.2.1
  intro nn
  induction nn with
  | zero =>
    intro x2 f_rounds f_given f_turns f_values f_plain f_plainCount f_pointers f_now f_fresh f_many f_sums f_lows f_highs f_layed f_worked f_large hw
    exact False.elim hw
  | succ n ih =>
    intro x2 f_rounds f_given f_turns f_values f_plain f_plainCount f_pointers f_now f_fresh f_many f_sums f_lows f_highs f_layed f_worked f_large hw H locs ls hH hl
    rw [wX55_work_109] at hw
    refine lv_aload_n hx hb dX55_work_109 rfl (lv_at hl 0 rfl) ?_
    refine k_get X hH in_X55 0 rfl hc 25 (by decide) q6601 rfl dX55_work_110 ?_
    refine lv_if_le (tgt := 220) hx hb dX55_work_113 (by decide) (fun c_26 => ?_) (fun c_26 => ?_)
    · have hw := hw.1 (z_le (rfl : f_layed.toInt = _) (rfl : (0 : Int32).toInt = 0) c_26)
      exact hk220 f_rounds f_given f_turns f_values f_plain f_plainCount f_pointers f_now f_fresh f_many f_sums f_lows f_highs f_layed f_worked f_large hw _ _ ls hH (lv_sub hl [0, 1] rfl)
    · have hw := hw.2 (z_nle (rfl : f_layed.toInt = _) (rfl : (0 : Int32).toInt = 0) c_26)
      refine lv_aload_n hx hb dX55_work_116 rfl (lv_at hl 0 rfl) ?_
      refine k_get X hH in_X55 0 rfl hc 27 (by decide) q6603 rfl dX55_work_117 ?_
      refine lv_if_ne (tgt := 220) hx hb dX55_work_120 (by decide) (fun c_27 => ?_) (fun c_27 => ?_)
      · have hw := hw.2 (z_ne (rfl : f_large.toInt = _) (rfl : (0 : Int32).toInt = 0) c_27)
        exact hk220 f_rounds f_given f_turns f_values f_plain f_plainCount f_pointers f_now f_fresh f_many f_sums f_lows f_highs f_layed f_worked f_large hw _ _ ls hH (lv_sub hl [0, 1] rfl)
      · have hw := hw.1 (z_eq (rfl : f_large.toInt = _) (rfl : (0 : Int32).toInt = 0) c_27)
        refine lv_aload_n hx hb dX55_work_123 rfl (lv_at hl 0 rfl) ?_
        refine lv_iconst (v := 0) hx hb dX55_work_124 (by decide) ?_
        refine k_put X hH in_X55 tyX55_ok nmX55 0 rfl hc 25 (by decide) q6601 rfl (ty := .int) rfl rfl rfl (Nat.le_of_ble_eq_true rfl) dX55_work_125 (ws1 := (wX55 ci ad d f_said f_heads f_kinds f_folded f_lengths f_parts f_rules f_known f_rounds f_given f_strata f_circle f_turns f_needs f_comes f_values f_plain f_plainCount f_pointers f_now f_fresh f_many f_sums f_lows f_highs 0 f_worked f_large)) rfl (fun H locs hH => ?_)
        refine lv_aload_n hx hb dX55_work_128 rfl (lv_at hl 0 rfl) ?_
        refine lv_aload_n hx hb dX55_work_129 rfl (lv_at hl 0 rfl) ?_
        refine k_get X hH in_X55 0 rfl hc 12 (by decide) q6588 rfl dX55_work_130 ?_
        refine lv_iconst (v := 1) hx hb dX55_work_133 (by decide) ?_
        refine lv_iadd hx hb dX55_work_134 ?_
        have e_28 := z_add (z_m (rfl : f_turns.toInt = _)) (z_m (rfl : (1 : Int32).toInt = 1))
        have hq_29 := hw.1
        have hw := hw.2
        have e_30 := z_x e_28 hq_29
        refine lv_topi (fun f_now_31 ef_now_31 => ?_)
        have hw := hw f_now_31.toInt (by rw [ef_now_31]; exact e_30)
        refine k_put X hH in_X55 tyX55_ok nmX55 0 rfl hc 19 (by decide) q6595 rfl (ty := .int) rfl rfl rfl (Nat.le_of_ble_eq_true rfl) dX55_work_135 (ws1 := (wX55 ci ad d f_said f_heads f_kinds f_folded f_lengths f_parts f_rules f_known f_rounds f_given f_strata f_circle f_turns f_needs f_comes f_values f_plain f_plainCount f_pointers f_now_31 f_fresh f_many f_sums f_lows f_highs 0 f_worked f_large)) rfl (fun H locs hH => ?_)
        refine lv_aload_n hx hb dX55_work_138 rfl (lv_at hl 0 rfl) ?_
        refine lv_iload_n hx hb dX55_work_139 rfl (lv_at hl 1 rfl) ?_
        refine k_v0 hH (k_runV (As := [.int x1]) (rest := []) X hH.1 hH.2.1 X.2.2.2 (walkX55_addWork hc (x1 := x1) (f_said := f_said) (f_heads := f_heads) (f_kinds := f_kinds) (f_folded := f_folded) (f_lengths := f_lengths) (f_parts := f_parts) (f_rules := f_rules) (f_known := f_known) (f_rounds := f_rounds) (f_given := f_given) (f_strata := f_strata) (f_circle := f_circle) (f_turns := f_turns) (f_needs := f_needs) (f_comes := f_comes) (f_values := f_values) (f_plain := f_plain) (f_plainCount := f_plainCount) (f_pointers := f_pointers) (f_now := f_now_31) (f_fresh := f_fresh) (f_many := f_many) (f_sums := f_sums) (f_lows := f_lows) (f_highs := f_highs) (f_layed := 0) (f_worked := f_worked) (f_large := f_large) hw) (cwV 1 X.1.2.2.2.2 gX55_161 rfl rfl rfl hX55_addWork ⟨Nat.le_of_ble_eq_true rfl, Nat.le_of_ble_eq_true rfl⟩) hc (q0 := 0) rfl rfl hl.1 rfl (Nat.le_of_ble_eq_true rfl) dX55_work_140 ⟨Nat.le_refl 0, Nat.le_refl 0⟩) (fun u H locs hw hH => ?_)
        obtain ⟨f_worked_32, f_large_33⟩ := u
        have hH : kH (dC, dI) cl A s.heap H locs (wX55 ci ad d f_said f_heads f_kinds f_folded f_lengths f_parts f_rules f_known f_rounds f_given f_strata f_circle f_turns f_needs f_comes f_values f_plain f_plainCount f_pointers f_now_31 f_fresh f_many f_sums f_lows f_highs 0 f_worked_32 f_large_33) := hH
        refine lv_iconst (v := 0) hx hb dX55_work_143 (by decide) ?_
        refine lv_istore_n (lv' := [(3, .int 0), (0, .ref (ad 0)), (1, .int x1), (2, .int x2)]) hx hb dX55_work_144 rfl hl (by decide) rfl (fun ls hl => ?_)
        obtain ⟨fu, hw⟩ := hw
        refine atX55_work_145 hc X ?_ fu 0 f_rounds f_given f_values f_plain f_plainCount f_pointers f_fresh f_many f_sums f_lows f_highs 0 hw _ _ ls hH (lv_sub hl [1, 2, 3, 0] rfl)
        · intro f_rounds_63 f_given_64 f_values_65 f_plain_66 f_plainCount_67 f_pointers_68 f_fresh_69 f_many_70 f_sums_71 f_lows_72 f_highs_73 f_layed_74 hw H locs ls hH hl
          exact atX55_work_197 hc X (fun x2 f_rounds f_given f_turns f_values f_plain f_plainCount f_pointers f_now f_fresh f_many f_sums f_lows f_highs f_layed f_worked f_large hw H locs ls hH hl => ih x2 f_rounds f_given f_turns f_values f_plain f_plainCount f_pointers f_now f_fresh f_many f_sums f_lows f_highs f_layed f_worked f_large hw _ _ ls hH (lv_sub hl [0, 1, 2] rfl)) x2 f_rounds_63 f_given_64 f_turns f_values_65 f_plain_66 f_plainCount_67 f_pointers_68 f_now_31 f_fresh_69 f_many_70 f_sums_71 f_lows_72 f_highs_73 f_layed_74 f_worked_32 f_large_33 hw _ _ ls hH (lv_sub hl [0, 1, 2] rfl)
set_option maxHeartbeats 4000000 in
theorem atX55_work_82 {p : Program} {l : Launch} {e : Env} {s : State} {m : MethodId} {args : Array Value} {below : List Frame} {meth : Method} {c : Code} {dC : Nat → ClassId} {dI : Nat → Nat → Nat} {cl : List vw_C} {ci : Nat} (hc : cl[ci]? = some (RX55, TX55, 28)) {ad : Nat → Nat} {d : Nat → ClassId} {A : Nat → Prop} {post : Int → (Int → Int) → (Int → Int) → (Int → Int) → Int → Int → (Int → Int) → (Int → Int) → (Int → Int) → (Int → Int) → Int → (Int → Int) → Int → (Int → Int) → (Int → Int) → (Int → Int) → (Int → Int) → (Int → Int) → Int → Int → Int → Prop} {f_said : Nat → Int32} {f_heads : Nat → Int32} {f_kinds : Nat → Int32} {f_folded : Nat → Int32} {f_lengths : Nat → Int32} {f_parts : Nat → Int32} {f_rules : Int32} (X : kX p s m args meth c cX55_work 4 RX55 none (dC, dI) cl (tX55 d)) {K226 : (Int → Int) → (Int → Int) → Int → (Int → Int) → (Int → Int) → Int → (Int → Int) → Int → (Int → Int) → (Int → Int) → (Int → Int) → (Int → Int) → (Int → Int) → Int → Int → Int → Prop}  {f_known : Int32} {f_strata : Nat → Int32} {f_circle : Int32} {f_needs : Nat → Int32} {f_comes : Nat → Int32} (hk226 : ∀ (f_rounds : Nat → Int32) (f_given : Nat → Int32) (f_turns : Int32) (f_values : Nat → Int32) (f_plain : Nat → Int32) (f_plainCount : Int32) (f_pointers : Nat → Int32) (f_now : Int32) (f_fresh : Nat → Int32) (f_many : Nat → Int32) (f_sums : Nat → Int32) (f_lows : Nat → Int32) (f_highs : Nat → Int32) (f_layed : Int32) (f_worked : Int64) (f_large : Int32), K226 (zF f_rounds) (zF f_given) f_turns.toInt (zF f_values) (zF f_plain) f_plainCount.toInt (zF f_pointers) f_now.toInt (zF f_fresh) (zF f_many) (zF f_sums) (zF f_lows) (zF f_highs) f_layed.toInt f_worked.toInt f_large.toInt → ∀ (H : Heap) (locs : List Loc) (ls : Array Slot), kH (dC, dI) cl A s.heap H locs (wX55 ci ad d f_said f_heads f_kinds f_folded f_lengths f_parts f_rules f_known f_rounds f_given f_strata f_circle f_turns f_needs f_comes f_values f_plain f_plainCount f_pointers f_now f_fresh f_many f_sums f_lows f_highs f_layed f_worked f_large) → lv_has ls 4 [(0, .ref (ad 0))] → W p l e ({ frames := 4, cells := 0, slots := 0, locals := 100 } : Room) s m args below meth c H locs 0 0 (MQ below (va_Qv (fun (u : Int32 × (Nat → Int32) × (Nat → Int32) × (Nat → Int32) × Int32 × Int32 × (Nat → Int32) × (Nat → Int32) × (Nat → Int32) × (Nat → Int32) × Int32 × (Nat → Int32) × Int32 × (Nat → Int32) × (Nat → Int32) × (Nat → Int32) × (Nat → Int32) × (Nat → Int32) × Int32 × Int64 × Int32) => post (u.1).toInt (zF (u.2.1)) (zF (u.2.2.1)) (zF (u.2.2.2.1)) (u.2.2.2.2.1).toInt (u.2.2.2.2.2.1).toInt (zF (u.2.2.2.2.2.2.1)) (zF (u.2.2.2.2.2.2.2.1)) (zF (u.2.2.2.2.2.2.2.2.1)) (zF (u.2.2.2.2.2.2.2.2.2.1)) (u.2.2.2.2.2.2.2.2.2.2.1).toInt (zF (u.2.2.2.2.2.2.2.2.2.2.2.1)) (u.2.2.2.2.2.2.2.2.2.2.2.2.1).toInt (zF (u.2.2.2.2.2.2.2.2.2.2.2.2.2.1)) (zF (u.2.2.2.2.2.2.2.2.2.2.2.2.2.2.1)) (zF (u.2.2.2.2.2.2.2.2.2.2.2.2.2.2.2.1)) (zF (u.2.2.2.2.2.2.2.2.2.2.2.2.2.2.2.2.1)) (zF (u.2.2.2.2.2.2.2.2.2.2.2.2.2.2.2.2.2.1)) (u.2.2.2.2.2.2.2.2.2.2.2.2.2.2.2.2.2.2.1).toInt (u.2.2.2.2.2.2.2.2.2.2.2.2.2.2.2.2.2.2.2.1).toInt (u.2.2.2.2.2.2.2.2.2.2.2.2.2.2.2.2.2.2.2.2).toInt) (kB (dC, dI) cl (tX55 d) A (fun u : Int32 × (Nat → Int32) × (Nat → Int32) × (Nat → Int32) × Int32 × Int32 × (Nat → Int32) × (Nat → Int32) × (Nat → Int32) × (Nat → Int32) × Int32 × (Nat → Int32) × Int32 × (Nat → Int32) × (Nat → Int32) × (Nat → Int32) × (Nat → Int32) × (Nat → Int32) × Int32 × Int64 × Int32 => (wX55 ci ad d f_said f_heads f_kinds f_folded f_lengths f_parts f_rules (u.1) (u.2.1) (u.2.2.1) (u.2.2.2.1) (u.2.2.2.2.1) (u.2.2.2.2.2.1) (u.2.2.2.2.2.2.1) (u.2.2.2.2.2.2.2.1) (u.2.2.2.2.2.2.2.2.1) (u.2.2.2.2.2.2.2.2.2.1) (u.2.2.2.2.2.2.2.2.2.2.1) (u.2.2.2.2.2.2.2.2.2.2.2.1) (u.2.2.2.2.2.2.2.2.2.2.2.2.1) (u.2.2.2.2.2.2.2.2.2.2.2.2.2.1) (u.2.2.2.2.2.2.2.2.2.2.2.2.2.2.1) (u.2.2.2.2.2.2.2.2.2.2.2.2.2.2.2.1) (u.2.2.2.2.2.2.2.2.2.2.2.2.2.2.2.2.1) (u.2.2.2.2.2.2.2.2.2.2.2.2.2.2.2.2.2.1) (u.2.2.2.2.2.2.2.2.2.2.2.2.2.2.2.2.2.2.1) (u.2.2.2.2.2.2.2.2.2.2.2.2.2.2.2.2.2.2.2.1) (u.2.2.2.2.2.2.2.2.2.2.2.2.2.2.2.2.2.2.2.2)))) A) args s 0 0 A) (F0 m 226 ls [])) :
    ∀ (nn : Nat) (x1 : Int32) (f_rounds : Nat → Int32) (f_given : Nat → Int32) (f_turns : Int32) (f_values : Nat → Int32) (f_plain : Nat → Int32) (f_plainCount : Int32) (f_pointers : Nat → Int32) (f_now : Int32) (f_fresh : Nat → Int32) (f_many : Nat → Int32) (f_sums : Nat → Int32) (f_lows : Nat → Int32) (f_highs : Nat → Int32) (f_layed : Int32) (f_worked : Int64) (f_large : Int32), wX55_work_82 K226 (zF f_heads) (zF f_kinds) (zF f_folded) (zF f_lengths) (zF f_parts) f_rules.toInt (zF f_strata) f_circle.toInt nn x1.toInt (zF f_rounds) (zF f_given) f_turns.toInt (zF f_values) (zF f_plain) f_plainCount.toInt (zF f_pointers) f_now.toInt (zF f_fresh) (zF f_many) (zF f_sums) (zF f_lows) (zF f_highs) f_layed.toInt f_worked.toInt f_large.toInt → ∀ (H : Heap) (locs : List Loc) (ls : Array Slot), kH (dC, dI) cl A s.heap H locs (wX55 ci ad d f_said f_heads f_kinds f_folded f_lengths f_parts f_rules f_known f_rounds f_given f_strata f_circle f_turns f_needs f_comes f_values f_plain f_plainCount f_pointers f_now f_fresh f_many f_sums f_lows f_highs f_layed f_worked f_large) → lv_has ls 4 [(0, .ref (ad 0)), (1, .int x1)] → W p l e ({ frames := 4, cells := 0, slots := 0, locals := 100 } : Room) s m args below meth c H locs 0 0 (MQ below (va_Qv (fun (u : Int32 × (Nat → Int32) × (Nat → Int32) × (Nat → Int32) × Int32 × Int32 × (Nat → Int32) × (Nat → Int32) × (Nat → Int32) × (Nat → Int32) × Int32 × (Nat → Int32) × Int32 × (Nat → Int32) × (Nat → Int32) × (Nat → Int32) × (Nat → Int32) × (Nat → Int32) × Int32 × Int64 × Int32) => post (u.1).toInt (zF (u.2.1)) (zF (u.2.2.1)) (zF (u.2.2.2.1)) (u.2.2.2.2.1).toInt (u.2.2.2.2.2.1).toInt (zF (u.2.2.2.2.2.2.1)) (zF (u.2.2.2.2.2.2.2.1)) (zF (u.2.2.2.2.2.2.2.2.1)) (zF (u.2.2.2.2.2.2.2.2.2.1)) (u.2.2.2.2.2.2.2.2.2.2.1).toInt (zF (u.2.2.2.2.2.2.2.2.2.2.2.1)) (u.2.2.2.2.2.2.2.2.2.2.2.2.1).toInt (zF (u.2.2.2.2.2.2.2.2.2.2.2.2.2.1)) (zF (u.2.2.2.2.2.2.2.2.2.2.2.2.2.2.1)) (zF (u.2.2.2.2.2.2.2.2.2.2.2.2.2.2.2.1)) (zF (u.2.2.2.2.2.2.2.2.2.2.2.2.2.2.2.2.1)) (zF (u.2.2.2.2.2.2.2.2.2.2.2.2.2.2.2.2.2.1)) (u.2.2.2.2.2.2.2.2.2.2.2.2.2.2.2.2.2.2.1).toInt (u.2.2.2.2.2.2.2.2.2.2.2.2.2.2.2.2.2.2.2.1).toInt (u.2.2.2.2.2.2.2.2.2.2.2.2.2.2.2.2.2.2.2.2).toInt) (kB (dC, dI) cl (tX55 d) A (fun u : Int32 × (Nat → Int32) × (Nat → Int32) × (Nat → Int32) × Int32 × Int32 × (Nat → Int32) × (Nat → Int32) × (Nat → Int32) × (Nat → Int32) × Int32 × (Nat → Int32) × Int32 × (Nat → Int32) × (Nat → Int32) × (Nat → Int32) × (Nat → Int32) × (Nat → Int32) × Int32 × Int64 × Int32 => (wX55 ci ad d f_said f_heads f_kinds f_folded f_lengths f_parts f_rules (u.1) (u.2.1) (u.2.2.1) (u.2.2.2.1) (u.2.2.2.2.1) (u.2.2.2.2.2.1) (u.2.2.2.2.2.2.1) (u.2.2.2.2.2.2.2.1) (u.2.2.2.2.2.2.2.2.1) (u.2.2.2.2.2.2.2.2.2.1) (u.2.2.2.2.2.2.2.2.2.2.1) (u.2.2.2.2.2.2.2.2.2.2.2.1) (u.2.2.2.2.2.2.2.2.2.2.2.2.1) (u.2.2.2.2.2.2.2.2.2.2.2.2.2.1) (u.2.2.2.2.2.2.2.2.2.2.2.2.2.2.1) (u.2.2.2.2.2.2.2.2.2.2.2.2.2.2.2.1) (u.2.2.2.2.2.2.2.2.2.2.2.2.2.2.2.2.1) (u.2.2.2.2.2.2.2.2.2.2.2.2.2.2.2.2.2.1) (u.2.2.2.2.2.2.2.2.2.2.2.2.2.2.2.2.2.2.1) (u.2.2.2.2.2.2.2.2.2.2.2.2.2.2.2.2.2.2.2.1) (u.2.2.2.2.2.2.2.2.2.2.2.2.2.2.2.2.2.2.2.2)))) A) args s 0 0 A) (F0 m 82 ls []) := by
  have hx := X.1.1
  have hb := X.1.2.1
  intro nn
  induction nn with
  | zero =>
    intro x1 f_rounds f_given f_turns f_values f_plain f_plainCount f_pointers f_now f_fresh f_many f_sums f_lows f_highs f_layed f_worked f_large hw
    exact False.elim hw
  | succ n ih =>
    intro x1 f_rounds f_given f_turns f_values f_plain f_plainCount f_pointers f_now f_fresh f_many f_sums f_lows f_highs f_layed f_worked f_large hw H locs ls hH hl
    rw [wX55_work_82] at hw
    refine lv_iload_n hx hb dX55_work_82 rfl (lv_at hl 1 rfl) ?_
    refine lv_bipush (v := 16) hx hb dX55_work_83 (by decide) ?_
    refine lv_icmp_ge (tgt := 226) hx hb dX55_work_85 (by decide) (fun c_23 => ?_) (fun c_23 => ?_)
    · have hw := hw.1 (z_le (rfl : (16 : Int32).toInt = 16) (rfl : x1.toInt = _) c_23)
      exact hk226 f_rounds f_given f_turns f_values f_plain f_plainCount f_pointers f_now f_fresh f_many f_sums f_lows f_highs f_layed f_worked f_large hw _ _ ls hH (lv_sub hl [0] rfl)
    · have hw := hw.2 (z_nle (rfl : (16 : Int32).toInt = 16) (rfl : x1.toInt = _) c_23)
      refine lv_aload_n hx hb dX55_work_88 rfl (lv_at hl 0 rfl) ?_
      refine k_get X hH in_X55 0 rfl hc 11 (by decide) q6587 rfl dX55_work_89 ?_
      refine lv_if_ge (tgt := 226) hx hb dX55_work_92 (by decide) (fun c_24 => ?_) (fun c_24 => ?_)
      · have hw := hw.1 (z_le (rfl : (0 : Int32).toInt = 0) (rfl : f_circle.toInt = _) c_24)
        exact hk226 f_rounds f_given f_turns f_values f_plain f_plainCount f_pointers f_now f_fresh f_many f_sums f_lows f_highs f_layed f_worked f_large hw _ _ ls hH (lv_sub hl [0] rfl)
      · have hw := hw.2 (z_nle (rfl : (0 : Int32).toInt = 0) (rfl : f_circle.toInt = _) c_24)
        refine lv_aload_n hx hb dX55_work_95 rfl (lv_at hl 0 rfl) ?_
        refine k_get X hH in_X55 0 rfl hc 27 (by decide) q6603 rfl dX55_work_96 ?_
        refine lv_if_ne (tgt := 226) hx hb dX55_work_99 (by decide) (fun c_25 => ?_) (fun c_25 => ?_)
        · have hw := hw.2 (z_ne (rfl : f_large.toInt = _) (rfl : (0 : Int32).toInt = 0) c_25)
          exact hk226 f_rounds f_given f_turns f_values f_plain f_plainCount f_pointers f_now f_fresh f_many f_sums f_lows f_highs f_layed f_worked f_large hw _ _ ls hH (lv_sub hl [0] rfl)
        · have hw := hw.1 (z_eq (rfl : f_large.toInt = _) (rfl : (0 : Int32).toInt = 0) c_25)
          refine lv_iconst (v := 1) hx hb dX55_work_102 (by decide) ?_
          refine lv_istore_n (lv' := [(2, .int 1), (0, .ref (ad 0)), (1, .int x1)]) hx hb dX55_work_103 rfl hl (by decide) rfl (fun ls hl => ?_)
          refine lv_aload_n hx hb dX55_work_104 rfl (lv_at hl 1 rfl) ?_
          refine lv_iconst (v := 1) hx hb dX55_work_105 (by decide) ?_
          refine k_put X hH in_X55 tyX55_ok nmX55 0 rfl hc 25 (by decide) q6601 rfl (ty := .int) rfl rfl rfl (Nat.le_of_ble_eq_true rfl) dX55_work_106 (ws1 := (wX55 ci ad d f_said f_heads f_kinds f_folded f_lengths f_parts f_rules f_known f_rounds f_given f_strata f_circle f_turns f_needs f_comes f_values f_plain f_plainCount f_pointers f_now f_fresh f_many f_sums f_lows f_highs 1 f_worked f_large)) rfl (fun H locs hH => ?_)
          obtain ⟨fu, hw⟩ := hw
          refine atX55_work_109 hc X ?_ fu 1 f_rounds f_given f_turns f_values f_plain f_plainCount f_pointers f_now f_fresh f_many f_sums f_lows f_highs 1 f_worked f_large hw _ _ ls hH (lv_sub hl [1, 2, 0] rfl)
          · intro f_rounds_84 f_given_85 f_turns_86 f_values_87 f_plain_88 f_plainCount_89 f_pointers_90 f_now_91 f_fresh_92 f_many_93 f_sums_94 f_lows_95 f_highs_96 f_layed_97 f_worked_98 f_large_99 hw H locs ls hH hl
            have hq_101 := hw.1
            have hw := hw.2
            obtain ⟨x1_100, ex1_100⟩ : ∃ y : Int32, y = x1 + 1 := ⟨_, rfl⟩
            have hw := hw x1_100.toInt (by rw [ex1_100]; exact (z_x (z_add (z_m (rfl : x1.toInt = _)) (z_m (rfl : (1 : Int32).toInt = 1))) hq_101))
            refine lv_iinc (v := x1_100) (lv' := [(1, .int x1_100), (0, .ref (ad 0))]) hx hb dX55_work_220 hl (k := 1) rfl (by rw [ex1_100]; rfl) (by decide) rfl (fun ls hl => ?_)
            refine lv_goto (tgt := 82) hx hb dX55_work_223 (by decide) ?_
            exact ih x1_100 f_rounds_84 f_given_85 f_turns_86 f_values_87 f_plain_88 f_plainCount_89 f_pointers_90 f_now_91 f_fresh_92 f_many_93 f_sums_94 f_lows_95 f_highs_96 f_layed_97 f_worked_98 f_large_99 hw _ _ ls hH (lv_sub hl [1, 0] rfl)
set_option maxHeartbeats 4000000 in
theorem atX55_work_252 {p : Program} {l : Launch} {e : Env} {s : State} {m : MethodId} {args : Array Value} {below : List Frame} {meth : Method} {c : Code} {dC : Nat → ClassId} {dI : Nat → Nat → Nat} {cl : List vw_C} {ci : Nat} (hc : cl[ci]? = some (RX55, TX55, 28)) {ad : Nat → Nat} {d : Nat → ClassId} {A : Nat → Prop} {post : Int → (Int → Int) → (Int → Int) → (Int → Int) → Int → Int → (Int → Int) → (Int → Int) → (Int → Int) → (Int → Int) → Int → (Int → Int) → Int → (Int → Int) → (Int → Int) → (Int → Int) → (Int → Int) → (Int → Int) → Int → Int → Int → Prop} {f_said : Nat → Int32} {f_heads : Nat → Int32} {f_kinds : Nat → Int32} {f_folded : Nat → Int32} {f_lengths : Nat → Int32} {f_parts : Nat → Int32} {f_rules : Int32} (X : kX p s m args meth c cX55_work 4 RX55 none (dC, dI) cl (tX55 d)) {K294 : (Int → Int) → (Int → Int) → (Int → Int) → (Int → Int) → Int → (Int → Int) → (Int → Int) → (Int → Int) → (Int → Int) → (Int → Int) → (Int → Int) → Int → Prop}  {f_known : Int32} {f_strata : Nat → Int32} {f_circle : Int32} {f_turns : Int32} {f_needs : Nat → Int32} {f_comes : Nat → Int32} {f_now : Int32} {f_worked : Int64} {f_large : Int32} (hk294 : ∀ (f_rounds : Nat → Int32) (f_given : Nat → Int32) (f_values : Nat → Int32) (f_plain : Nat → Int32) (f_plainCount : Int32) (f_pointers : Nat → Int32) (f_fresh : Nat → Int32) (f_many : Nat → Int32) (f_sums : Nat → Int32) (f_lows : Nat → Int32) (f_highs : Nat → Int32) (f_layed : Int32), K294 (zF f_rounds) (zF f_given) (zF f_values) (zF f_plain) f_plainCount.toInt (zF f_pointers) (zF f_fresh) (zF f_many) (zF f_sums) (zF f_lows) (zF f_highs) f_layed.toInt → ∀ (H : Heap) (locs : List Loc) (ls : Array Slot), kH (dC, dI) cl A s.heap H locs (wX55 ci ad d f_said f_heads f_kinds f_folded f_lengths f_parts f_rules f_known f_rounds f_given f_strata f_circle f_turns f_needs f_comes f_values f_plain f_plainCount f_pointers f_now f_fresh f_many f_sums f_lows f_highs f_layed f_worked f_large) → lv_has ls 4 [(0, .ref (ad 0))] → W p l e ({ frames := 4, cells := 0, slots := 0, locals := 100 } : Room) s m args below meth c H locs 0 0 (MQ below (va_Qv (fun (u : Int32 × (Nat → Int32) × (Nat → Int32) × (Nat → Int32) × Int32 × Int32 × (Nat → Int32) × (Nat → Int32) × (Nat → Int32) × (Nat → Int32) × Int32 × (Nat → Int32) × Int32 × (Nat → Int32) × (Nat → Int32) × (Nat → Int32) × (Nat → Int32) × (Nat → Int32) × Int32 × Int64 × Int32) => post (u.1).toInt (zF (u.2.1)) (zF (u.2.2.1)) (zF (u.2.2.2.1)) (u.2.2.2.2.1).toInt (u.2.2.2.2.2.1).toInt (zF (u.2.2.2.2.2.2.1)) (zF (u.2.2.2.2.2.2.2.1)) (zF (u.2.2.2.2.2.2.2.2.1)) (zF (u.2.2.2.2.2.2.2.2.2.1)) (u.2.2.2.2.2.2.2.2.2.2.1).toInt (zF (u.2.2.2.2.2.2.2.2.2.2.2.1)) (u.2.2.2.2.2.2.2.2.2.2.2.2.1).toInt (zF (u.2.2.2.2.2.2.2.2.2.2.2.2.2.1)) (zF (u.2.2.2.2.2.2.2.2.2.2.2.2.2.2.1)) (zF (u.2.2.2.2.2.2.2.2.2.2.2.2.2.2.2.1)) (zF (u.2.2.2.2.2.2.2.2.2.2.2.2.2.2.2.2.1)) (zF (u.2.2.2.2.2.2.2.2.2.2.2.2.2.2.2.2.2.1)) (u.2.2.2.2.2.2.2.2.2.2.2.2.2.2.2.2.2.2.1).toInt (u.2.2.2.2.2.2.2.2.2.2.2.2.2.2.2.2.2.2.2.1).toInt (u.2.2.2.2.2.2.2.2.2.2.2.2.2.2.2.2.2.2.2.2).toInt) (kB (dC, dI) cl (tX55 d) A (fun u : Int32 × (Nat → Int32) × (Nat → Int32) × (Nat → Int32) × Int32 × Int32 × (Nat → Int32) × (Nat → Int32) × (Nat → Int32) × (Nat → Int32) × Int32 × (Nat → Int32) × Int32 × (Nat → Int32) × (Nat → Int32) × (Nat → Int32) × (Nat → Int32) × (Nat → Int32) × Int32 × Int64 × Int32 => (wX55 ci ad d f_said f_heads f_kinds f_folded f_lengths f_parts f_rules (u.1) (u.2.1) (u.2.2.1) (u.2.2.2.1) (u.2.2.2.2.1) (u.2.2.2.2.2.1) (u.2.2.2.2.2.2.1) (u.2.2.2.2.2.2.2.1) (u.2.2.2.2.2.2.2.2.1) (u.2.2.2.2.2.2.2.2.2.1) (u.2.2.2.2.2.2.2.2.2.2.1) (u.2.2.2.2.2.2.2.2.2.2.2.1) (u.2.2.2.2.2.2.2.2.2.2.2.2.1) (u.2.2.2.2.2.2.2.2.2.2.2.2.2.1) (u.2.2.2.2.2.2.2.2.2.2.2.2.2.2.1) (u.2.2.2.2.2.2.2.2.2.2.2.2.2.2.2.1) (u.2.2.2.2.2.2.2.2.2.2.2.2.2.2.2.2.1) (u.2.2.2.2.2.2.2.2.2.2.2.2.2.2.2.2.2.1) (u.2.2.2.2.2.2.2.2.2.2.2.2.2.2.2.2.2.2.1) (u.2.2.2.2.2.2.2.2.2.2.2.2.2.2.2.2.2.2.2.1) (u.2.2.2.2.2.2.2.2.2.2.2.2.2.2.2.2.2.2.2.2)))) A) args s 0 0 A) (F0 m 294 ls [])) :
    ∀ (nn : Nat) (x1 : Int32) (f_rounds : Nat → Int32) (f_given : Nat → Int32) (f_values : Nat → Int32) (f_plain : Nat → Int32) (f_plainCount : Int32) (f_pointers : Nat → Int32) (f_fresh : Nat → Int32) (f_many : Nat → Int32) (f_sums : Nat → Int32) (f_lows : Nat → Int32) (f_highs : Nat → Int32) (f_layed : Int32), wX55_work_252 K294 (zF f_heads) (zF f_kinds) (zF f_folded) (zF f_lengths) (zF f_parts) f_rules.toInt f_circle.toInt f_now.toInt f_large.toInt nn x1.toInt (zF f_rounds) (zF f_given) (zF f_values) (zF f_plain) f_plainCount.toInt (zF f_pointers) (zF f_fresh) (zF f_many) (zF f_sums) (zF f_lows) (zF f_highs) f_layed.toInt → ∀ (H : Heap) (locs : List Loc) (ls : Array Slot), kH (dC, dI) cl A s.heap H locs (wX55 ci ad d f_said f_heads f_kinds f_folded f_lengths f_parts f_rules f_known f_rounds f_given f_strata f_circle f_turns f_needs f_comes f_values f_plain f_plainCount f_pointers f_now f_fresh f_many f_sums f_lows f_highs f_layed f_worked f_large) → lv_has ls 4 [(0, .ref (ad 0)), (1, .int x1)] → W p l e ({ frames := 4, cells := 0, slots := 0, locals := 100 } : Room) s m args below meth c H locs 0 0 (MQ below (va_Qv (fun (u : Int32 × (Nat → Int32) × (Nat → Int32) × (Nat → Int32) × Int32 × Int32 × (Nat → Int32) × (Nat → Int32) × (Nat → Int32) × (Nat → Int32) × Int32 × (Nat → Int32) × Int32 × (Nat → Int32) × (Nat → Int32) × (Nat → Int32) × (Nat → Int32) × (Nat → Int32) × Int32 × Int64 × Int32) => post (u.1).toInt (zF (u.2.1)) (zF (u.2.2.1)) (zF (u.2.2.2.1)) (u.2.2.2.2.1).toInt (u.2.2.2.2.2.1).toInt (zF (u.2.2.2.2.2.2.1)) (zF (u.2.2.2.2.2.2.2.1)) (zF (u.2.2.2.2.2.2.2.2.1)) (zF (u.2.2.2.2.2.2.2.2.2.1)) (u.2.2.2.2.2.2.2.2.2.2.1).toInt (zF (u.2.2.2.2.2.2.2.2.2.2.2.1)) (u.2.2.2.2.2.2.2.2.2.2.2.2.1).toInt (zF (u.2.2.2.2.2.2.2.2.2.2.2.2.2.1)) (zF (u.2.2.2.2.2.2.2.2.2.2.2.2.2.2.1)) (zF (u.2.2.2.2.2.2.2.2.2.2.2.2.2.2.2.1)) (zF (u.2.2.2.2.2.2.2.2.2.2.2.2.2.2.2.2.1)) (zF (u.2.2.2.2.2.2.2.2.2.2.2.2.2.2.2.2.2.1)) (u.2.2.2.2.2.2.2.2.2.2.2.2.2.2.2.2.2.2.1).toInt (u.2.2.2.2.2.2.2.2.2.2.2.2.2.2.2.2.2.2.2.1).toInt (u.2.2.2.2.2.2.2.2.2.2.2.2.2.2.2.2.2.2.2.2).toInt) (kB (dC, dI) cl (tX55 d) A (fun u : Int32 × (Nat → Int32) × (Nat → Int32) × (Nat → Int32) × Int32 × Int32 × (Nat → Int32) × (Nat → Int32) × (Nat → Int32) × (Nat → Int32) × Int32 × (Nat → Int32) × Int32 × (Nat → Int32) × (Nat → Int32) × (Nat → Int32) × (Nat → Int32) × (Nat → Int32) × Int32 × Int64 × Int32 => (wX55 ci ad d f_said f_heads f_kinds f_folded f_lengths f_parts f_rules (u.1) (u.2.1) (u.2.2.1) (u.2.2.2.1) (u.2.2.2.2.1) (u.2.2.2.2.2.1) (u.2.2.2.2.2.2.1) (u.2.2.2.2.2.2.2.1) (u.2.2.2.2.2.2.2.2.1) (u.2.2.2.2.2.2.2.2.2.1) (u.2.2.2.2.2.2.2.2.2.2.1) (u.2.2.2.2.2.2.2.2.2.2.2.1) (u.2.2.2.2.2.2.2.2.2.2.2.2.1) (u.2.2.2.2.2.2.2.2.2.2.2.2.2.1) (u.2.2.2.2.2.2.2.2.2.2.2.2.2.2.1) (u.2.2.2.2.2.2.2.2.2.2.2.2.2.2.2.1) (u.2.2.2.2.2.2.2.2.2.2.2.2.2.2.2.2.1) (u.2.2.2.2.2.2.2.2.2.2.2.2.2.2.2.2.2.1) (u.2.2.2.2.2.2.2.2.2.2.2.2.2.2.2.2.2.2.1) (u.2.2.2.2.2.2.2.2.2.2.2.2.2.2.2.2.2.2.2.1) (u.2.2.2.2.2.2.2.2.2.2.2.2.2.2.2.2.2.2.2.2)))) A) args s 0 0 A) (F0 m 252 ls []) := by
  have hx := X.1.1
  have hb := X.1.2.1
  intro nn
  induction nn with
  | zero =>
    intro x1 f_rounds f_given f_values f_plain f_plainCount f_pointers f_fresh f_many f_sums f_lows f_highs f_layed hw
    exact False.elim hw
  | succ n ih =>
    intro x1 f_rounds f_given f_values f_plain f_plainCount f_pointers f_fresh f_many f_sums f_lows f_highs f_layed hw H locs ls hH hl
    rw [wX55_work_252] at hw
    refine lv_iload_n hx hb dX55_work_252 rfl (lv_at hl 1 rfl) ?_
    refine lv_aload_n hx hb dX55_work_253 rfl (lv_at hl 0 rfl) ?_
    refine k_get X hH in_X55 0 rfl hc 6 (by decide) q6582 rfl dX55_work_254 ?_
    refine lv_icmp_ge (tgt := 294) hx hb dX55_work_257 (by decide) (fun c_119 => ?_) (fun c_119 => ?_)
    · have hw := hw.1 (z_le (rfl : f_rules.toInt = _) (rfl : x1.toInt = _) c_119)
      exact hk294 f_rounds f_given f_values f_plain f_plainCount f_pointers f_fresh f_many f_sums f_lows f_highs f_layed hw _ _ ls hH (lv_sub hl [0] rfl)
    · have hw := hw.2 (z_nle (rfl : f_rules.toInt = _) (rfl : x1.toInt = _) c_119)
      refine lv_aload_n hx hb dX55_work_260 rfl (lv_at hl 0 rfl) ?_
      refine k_get X hH in_X55 0 rfl hc 11 (by decide) q6587 rfl dX55_work_261 ?_
      refine lv_if_ge (tgt := 294) hx hb dX55_work_264 (by decide) (fun c_120 => ?_) (fun c_120 => ?_)
      · have hw := hw.1 (z_le (rfl : (0 : Int32).toInt = 0) (rfl : f_circle.toInt = _) c_120)
        exact hk294 f_rounds f_given f_values f_plain f_plainCount f_pointers f_fresh f_many f_sums f_lows f_highs f_layed hw _ _ ls hH (lv_sub hl [0] rfl)
      · have hw := hw.2 (z_nle (rfl : (0 : Int32).toInt = 0) (rfl : f_circle.toInt = _) c_120)
        refine lv_aload_n hx hb dX55_work_267 rfl (lv_at hl 0 rfl) ?_
        refine k_get X hH in_X55 0 rfl hc 27 (by decide) q6603 rfl dX55_work_268 ?_
        refine lv_if_ne (tgt := 294) hx hb dX55_work_271 (by decide) (fun c_121 => ?_) (fun c_121 => ?_)
        · have hw := hw.2 (z_ne (rfl : f_large.toInt = _) (rfl : (0 : Int32).toInt = 0) c_121)
          exact hk294 f_rounds f_given f_values f_plain f_plainCount f_pointers f_fresh f_many f_sums f_lows f_highs f_layed hw _ _ ls hH (lv_sub hl [0] rfl)
        · have hw := hw.1 (z_eq (rfl : f_large.toInt = _) (rfl : (0 : Int32).toInt = 0) c_121)
          refine lv_aload_n hx hb dX55_work_274 rfl (lv_at hl 0 rfl) ?_
          refine lv_iload_n hx hb dX55_work_275 rfl (lv_at hl 1 rfl) ?_
          refine k_i0 hH (k_runV (As := [.int x1]) (rest := []) X hH.1 hH.2.1 X.2.2.2 (walkX55_isSafe hc (x1 := x1) (f_said := f_said) (f_heads := f_heads) (f_kinds := f_kinds) (f_folded := f_folded) (f_lengths := f_lengths) (f_parts := f_parts) (f_rules := f_rules) (f_known := f_known) (f_rounds := f_rounds) (f_given := f_given) (f_strata := f_strata) (f_circle := f_circle) (f_turns := f_turns) (f_needs := f_needs) (f_comes := f_comes) (f_values := f_values) (f_plain := f_plain) (f_plainCount := f_plainCount) (f_pointers := f_pointers) (f_now := f_now) (f_fresh := f_fresh) (f_many := f_many) (f_sums := f_sums) (f_lows := f_lows) (f_highs := f_highs) (f_layed := f_layed) (f_worked := f_worked) (f_large := f_large) hw) (cwV 1 X.1.2.2.2.2 gX55_105 rfl rfl rfl hX55_isSafe ⟨Nat.le_of_ble_eq_true rfl, Nat.le_of_ble_eq_true rfl⟩) hc (q0 := 0) rfl rfl hl.1 rfl (Nat.le_of_ble_eq_true rfl) dX55_work_276 ⟨Nat.le_refl 0, Nat.le_refl 0⟩) (fun r_122 _ H locs hw hH => ?_)
          have hH : kH (dC, dI) cl A s.heap H locs (wX55 ci ad d f_said f_heads f_kinds f_folded f_lengths f_parts f_rules f_known f_rounds f_given f_strata f_circle f_turns f_needs f_comes f_values f_plain f_plainCount f_pointers f_now f_fresh f_many f_sums f_lows f_highs f_layed f_worked f_large) := hH
          refine lv_if_eq (tgt := 288) hx hb dX55_work_279 (by decide) (fun c_123 => ?_) (fun c_123 => ?_)
          · have hw := hw.1 (z_eq (rfl : r_122.toInt = _) (rfl : (0 : Int32).toInt = 0) c_123)
            have hq_125 := hw.1
            have hw := hw.2
            obtain ⟨x1_124, ex1_124⟩ : ∃ y : Int32, y = x1 + 1 := ⟨_, rfl⟩
            have hw := hw x1_124.toInt (by rw [ex1_124]; exact (z_x (z_add (z_m (rfl : x1.toInt = _)) (z_m (rfl : (1 : Int32).toInt = 1))) hq_125))
            refine lv_iinc (v := x1_124) (lv' := [(1, .int x1_124), (0, .ref (ad 0))]) hx hb dX55_work_288 hl (k := 1) rfl (by rw [ex1_124]; rfl) (by decide) rfl (fun ls hl => ?_)
            refine lv_goto (tgt := 252) hx hb dX55_work_291 (by decide) ?_
            exact ih x1_124 f_rounds f_given f_values f_plain f_plainCount f_pointers f_fresh f_many f_sums f_lows f_highs f_layed hw _ _ ls hH (lv_sub hl [1, 0] rfl)
          · have hw := hw.2 (z_neq (rfl : r_122.toInt = _) (rfl : (0 : Int32).toInt = 0) c_123)
            refine lv_aload_n hx hb dX55_work_282 rfl (lv_at hl 0 rfl) ?_
            refine lv_iload_n hx hb dX55_work_283 rfl (lv_at hl 1 rfl) ?_
            refine lv_iconst (v := (-1)) hx hb dX55_work_284 (by decide) ?_
            refine k_v0 hH (k_runV (As := [.int x1, .int ((-1))]) (rest := []) X hH.1 hH.2.1 X.2.2.2 (walkX55_spread hc (x1 := x1) (x2 := (-1)) (f_said := f_said) (f_heads := f_heads) (f_kinds := f_kinds) (f_folded := f_folded) (f_lengths := f_lengths) (f_parts := f_parts) (f_rules := f_rules) (f_known := f_known) (f_rounds := f_rounds) (f_given := f_given) (f_strata := f_strata) (f_circle := f_circle) (f_turns := f_turns) (f_needs := f_needs) (f_comes := f_comes) (f_values := f_values) (f_plain := f_plain) (f_plainCount := f_plainCount) (f_pointers := f_pointers) (f_now := f_now) (f_fresh := f_fresh) (f_many := f_many) (f_sums := f_sums) (f_lows := f_lows) (f_highs := f_highs) (f_layed := f_layed) (f_worked := f_worked) (f_large := f_large) hw) (cwV 2 X.1.2.2.2.2 gX55_164 rfl rfl rfl hX55_spread ⟨Nat.le_of_ble_eq_true rfl, Nat.le_of_ble_eq_true rfl⟩) hc (q0 := 0) rfl rfl hl.1 rfl (Nat.le_of_ble_eq_true rfl) dX55_work_285 ⟨Nat.le_refl 0, Nat.le_refl 0⟩) (fun u H locs hw hH => ?_)
            obtain ⟨f_rounds_126, f_given_127, f_values_128, f_plain_129, f_plainCount_130, f_pointers_131, f_fresh_132, f_many_133, f_sums_134, f_lows_135, f_highs_136, f_layed_137⟩ := u
            have hH : kH (dC, dI) cl A s.heap H locs (wX55 ci ad d f_said f_heads f_kinds f_folded f_lengths f_parts f_rules f_known f_rounds_126 f_given_127 f_strata f_circle f_turns f_needs f_comes f_values_128 f_plain_129 f_plainCount_130 f_pointers_131 f_now f_fresh_132 f_many_133 f_sums_134 f_lows_135 f_highs_136 f_layed_137 f_worked f_large) := hH
            have hq_139 := hw.1
            have hw := hw.2
            obtain ⟨x1_138, ex1_138⟩ : ∃ y : Int32, y = x1 + 1 := ⟨_, rfl⟩
            have hw := hw x1_138.toInt (by rw [ex1_138]; exact (z_x (z_add (z_m (rfl : x1.toInt = _)) (z_m (rfl : (1 : Int32).toInt = 1))) hq_139))
            refine lv_iinc (v := x1_138) (lv' := [(1, .int x1_138), (0, .ref (ad 0))]) hx hb dX55_work_288 hl (k := 1) rfl (by rw [ex1_138]; rfl) (by decide) rfl (fun ls hl => ?_)
            refine lv_goto (tgt := 252) hx hb dX55_work_291 (by decide) ?_
            exact ih x1_138 f_rounds_126 f_given_127 f_values_128 f_plain_129 f_plainCount_130 f_pointers_131 f_fresh_132 f_many_133 f_sums_134 f_lows_135 f_highs_136 f_layed_137 hw _ _ ls hH (lv_sub hl [1, 0] rfl)
set_option maxHeartbeats 4000000 in
theorem atX55_work_296 {p : Program} {l : Launch} {e : Env} {s : State} {m : MethodId} {args : Array Value} {below : List Frame} {meth : Method} {c : Code} {dC : Nat → ClassId} {dI : Nat → Nat → Nat} {cl : List vw_C} {ci : Nat} (hc : cl[ci]? = some (RX55, TX55, 28)) {ad : Nat → Nat} {d : Nat → ClassId} {A : Nat → Prop} {post : Int → (Int → Int) → (Int → Int) → (Int → Int) → Int → Int → (Int → Int) → (Int → Int) → (Int → Int) → (Int → Int) → Int → (Int → Int) → Int → (Int → Int) → (Int → Int) → (Int → Int) → (Int → Int) → (Int → Int) → Int → Int → Int → Prop} {f_said : Nat → Int32} {f_heads : Nat → Int32} {f_kinds : Nat → Int32} {f_folded : Nat → Int32} {f_lengths : Nat → Int32} {f_parts : Nat → Int32} {f_rules : Int32} (X : kX p s m args meth c cX55_work 4 RX55 none (dC, dI) cl (tX55 d)) {K343 : (Int → Int) → (Int → Int) → Prop}  {f_known : Int32} {f_strata : Nat → Int32} {f_circle : Int32} {f_turns : Int32} {f_needs : Nat → Int32} {f_comes : Nat → Int32} {f_values : Nat → Int32} {f_plain : Nat → Int32} {f_plainCount : Int32} {f_pointers : Nat → Int32} {f_now : Int32} {f_fresh : Nat → Int32} {f_many : Nat → Int32} {f_sums : Nat → Int32} {f_lows : Nat → Int32} {f_highs : Nat → Int32} {f_layed : Int32} {f_worked : Int64} {f_large : Int32} (hk343 : ∀ (f_rounds : Nat → Int32) (f_given : Nat → Int32), K343 (zF f_rounds) (zF f_given) → ∀ (H : Heap) (locs : List Loc) (ls : Array Slot), kH (dC, dI) cl A s.heap H locs (wX55 ci ad d f_said f_heads f_kinds f_folded f_lengths f_parts f_rules f_known f_rounds f_given f_strata f_circle f_turns f_needs f_comes f_values f_plain f_plainCount f_pointers f_now f_fresh f_many f_sums f_lows f_highs f_layed f_worked f_large) → lv_has ls 4 [(0, .ref (ad 0))] → W p l e ({ frames := 4, cells := 0, slots := 0, locals := 100 } : Room) s m args below meth c H locs 0 0 (MQ below (va_Qv (fun (u : Int32 × (Nat → Int32) × (Nat → Int32) × (Nat → Int32) × Int32 × Int32 × (Nat → Int32) × (Nat → Int32) × (Nat → Int32) × (Nat → Int32) × Int32 × (Nat → Int32) × Int32 × (Nat → Int32) × (Nat → Int32) × (Nat → Int32) × (Nat → Int32) × (Nat → Int32) × Int32 × Int64 × Int32) => post (u.1).toInt (zF (u.2.1)) (zF (u.2.2.1)) (zF (u.2.2.2.1)) (u.2.2.2.2.1).toInt (u.2.2.2.2.2.1).toInt (zF (u.2.2.2.2.2.2.1)) (zF (u.2.2.2.2.2.2.2.1)) (zF (u.2.2.2.2.2.2.2.2.1)) (zF (u.2.2.2.2.2.2.2.2.2.1)) (u.2.2.2.2.2.2.2.2.2.2.1).toInt (zF (u.2.2.2.2.2.2.2.2.2.2.2.1)) (u.2.2.2.2.2.2.2.2.2.2.2.2.1).toInt (zF (u.2.2.2.2.2.2.2.2.2.2.2.2.2.1)) (zF (u.2.2.2.2.2.2.2.2.2.2.2.2.2.2.1)) (zF (u.2.2.2.2.2.2.2.2.2.2.2.2.2.2.2.1)) (zF (u.2.2.2.2.2.2.2.2.2.2.2.2.2.2.2.2.1)) (zF (u.2.2.2.2.2.2.2.2.2.2.2.2.2.2.2.2.2.1)) (u.2.2.2.2.2.2.2.2.2.2.2.2.2.2.2.2.2.2.1).toInt (u.2.2.2.2.2.2.2.2.2.2.2.2.2.2.2.2.2.2.2.1).toInt (u.2.2.2.2.2.2.2.2.2.2.2.2.2.2.2.2.2.2.2.2).toInt) (kB (dC, dI) cl (tX55 d) A (fun u : Int32 × (Nat → Int32) × (Nat → Int32) × (Nat → Int32) × Int32 × Int32 × (Nat → Int32) × (Nat → Int32) × (Nat → Int32) × (Nat → Int32) × Int32 × (Nat → Int32) × Int32 × (Nat → Int32) × (Nat → Int32) × (Nat → Int32) × (Nat → Int32) × (Nat → Int32) × Int32 × Int64 × Int32 => (wX55 ci ad d f_said f_heads f_kinds f_folded f_lengths f_parts f_rules (u.1) (u.2.1) (u.2.2.1) (u.2.2.2.1) (u.2.2.2.2.1) (u.2.2.2.2.2.1) (u.2.2.2.2.2.2.1) (u.2.2.2.2.2.2.2.1) (u.2.2.2.2.2.2.2.2.1) (u.2.2.2.2.2.2.2.2.2.1) (u.2.2.2.2.2.2.2.2.2.2.1) (u.2.2.2.2.2.2.2.2.2.2.2.1) (u.2.2.2.2.2.2.2.2.2.2.2.2.1) (u.2.2.2.2.2.2.2.2.2.2.2.2.2.1) (u.2.2.2.2.2.2.2.2.2.2.2.2.2.2.1) (u.2.2.2.2.2.2.2.2.2.2.2.2.2.2.2.1) (u.2.2.2.2.2.2.2.2.2.2.2.2.2.2.2.2.1) (u.2.2.2.2.2.2.2.2.2.2.2.2.2.2.2.2.2.1) (u.2.2.2.2.2.2.2.2.2.2.2.2.2.2.2.2.2.2.1) (u.2.2.2.2.2.2.2.2.2.2.2.2.2.2.2.2.2.2.2.1) (u.2.2.2.2.2.2.2.2.2.2.2.2.2.2.2.2.2.2.2.2)))) A) args s 0 0 A) (F0 m 343 ls [])) :
    ∀ (nn : Nat) (x1 : Int32) (f_rounds : Nat → Int32) (f_given : Nat → Int32), wX55_work_296 K343 (zF f_said) f_large.toInt nn x1.toInt (zF f_rounds) (zF f_given) → ∀ (H : Heap) (locs : List Loc) (ls : Array Slot), kH (dC, dI) cl A s.heap H locs (wX55 ci ad d f_said f_heads f_kinds f_folded f_lengths f_parts f_rules f_known f_rounds f_given f_strata f_circle f_turns f_needs f_comes f_values f_plain f_plainCount f_pointers f_now f_fresh f_many f_sums f_lows f_highs f_layed f_worked f_large) → lv_has ls 4 [(0, .ref (ad 0)), (1, .int x1)] → W p l e ({ frames := 4, cells := 0, slots := 0, locals := 100 } : Room) s m args below meth c H locs 0 0 (MQ below (va_Qv (fun (u : Int32 × (Nat → Int32) × (Nat → Int32) × (Nat → Int32) × Int32 × Int32 × (Nat → Int32) × (Nat → Int32) × (Nat → Int32) × (Nat → Int32) × Int32 × (Nat → Int32) × Int32 × (Nat → Int32) × (Nat → Int32) × (Nat → Int32) × (Nat → Int32) × (Nat → Int32) × Int32 × Int64 × Int32) => post (u.1).toInt (zF (u.2.1)) (zF (u.2.2.1)) (zF (u.2.2.2.1)) (u.2.2.2.2.1).toInt (u.2.2.2.2.2.1).toInt (zF (u.2.2.2.2.2.2.1)) (zF (u.2.2.2.2.2.2.2.1)) (zF (u.2.2.2.2.2.2.2.2.1)) (zF (u.2.2.2.2.2.2.2.2.2.1)) (u.2.2.2.2.2.2.2.2.2.2.1).toInt (zF (u.2.2.2.2.2.2.2.2.2.2.2.1)) (u.2.2.2.2.2.2.2.2.2.2.2.2.1).toInt (zF (u.2.2.2.2.2.2.2.2.2.2.2.2.2.1)) (zF (u.2.2.2.2.2.2.2.2.2.2.2.2.2.2.1)) (zF (u.2.2.2.2.2.2.2.2.2.2.2.2.2.2.2.1)) (zF (u.2.2.2.2.2.2.2.2.2.2.2.2.2.2.2.2.1)) (zF (u.2.2.2.2.2.2.2.2.2.2.2.2.2.2.2.2.2.1)) (u.2.2.2.2.2.2.2.2.2.2.2.2.2.2.2.2.2.2.1).toInt (u.2.2.2.2.2.2.2.2.2.2.2.2.2.2.2.2.2.2.2.1).toInt (u.2.2.2.2.2.2.2.2.2.2.2.2.2.2.2.2.2.2.2.2).toInt) (kB (dC, dI) cl (tX55 d) A (fun u : Int32 × (Nat → Int32) × (Nat → Int32) × (Nat → Int32) × Int32 × Int32 × (Nat → Int32) × (Nat → Int32) × (Nat → Int32) × (Nat → Int32) × Int32 × (Nat → Int32) × Int32 × (Nat → Int32) × (Nat → Int32) × (Nat → Int32) × (Nat → Int32) × (Nat → Int32) × Int32 × Int64 × Int32 => (wX55 ci ad d f_said f_heads f_kinds f_folded f_lengths f_parts f_rules (u.1) (u.2.1) (u.2.2.1) (u.2.2.2.1) (u.2.2.2.2.1) (u.2.2.2.2.2.1) (u.2.2.2.2.2.2.1) (u.2.2.2.2.2.2.2.1) (u.2.2.2.2.2.2.2.2.1) (u.2.2.2.2.2.2.2.2.2.1) (u.2.2.2.2.2.2.2.2.2.2.1) (u.2.2.2.2.2.2.2.2.2.2.2.1) (u.2.2.2.2.2.2.2.2.2.2.2.2.1) (u.2.2.2.2.2.2.2.2.2.2.2.2.2.1) (u.2.2.2.2.2.2.2.2.2.2.2.2.2.2.1) (u.2.2.2.2.2.2.2.2.2.2.2.2.2.2.2.1) (u.2.2.2.2.2.2.2.2.2.2.2.2.2.2.2.2.1) (u.2.2.2.2.2.2.2.2.2.2.2.2.2.2.2.2.2.1) (u.2.2.2.2.2.2.2.2.2.2.2.2.2.2.2.2.2.2.1) (u.2.2.2.2.2.2.2.2.2.2.2.2.2.2.2.2.2.2.2.1) (u.2.2.2.2.2.2.2.2.2.2.2.2.2.2.2.2.2.2.2.2)))) A) args s 0 0 A) (F0 m 296 ls []) := by
  have hx := X.1.1
  have hb := X.1.2.1
  intro nn
  induction nn with
  | zero =>
    intro x1 f_rounds f_given hw
    exact False.elim hw
  | succ n ih =>
    intro x1 f_rounds f_given hw H locs ls hH hl
    rw [wX55_work_296] at hw
    refine lv_iload_n hx hb dX55_work_296 rfl (lv_at hl 1 rfl) ?_
    refine lv_sipush (v := 16384) hx hb dX55_work_297 (by decide) ?_
    refine lv_icmp_ge (tgt := 343) hx hb dX55_work_300 (by decide) (fun c_152 => ?_) (fun c_152 => ?_)
    · have hw := hw.1 (z_le (rfl : (16384 : Int32).toInt = 16384) (rfl : x1.toInt = _) c_152)
      exact hk343 f_rounds f_given hw _ _ ls hH (lv_sub hl [0] rfl)
    · have hw := hw.2 (z_nle (rfl : (16384 : Int32).toInt = 16384) (rfl : x1.toInt = _) c_152)
      refine lv_aload_n hx hb dX55_work_303 rfl (lv_at hl 0 rfl) ?_
      refine k_get X hH in_X55 0 rfl hc 27 (by decide) q6603 rfl dX55_work_304 ?_
      refine lv_if_eq (tgt := 343) hx hb dX55_work_307 (by decide) (fun c_153 => ?_) (fun c_153 => ?_)
      · have hw := hw.1 (z_eq (rfl : f_large.toInt = _) (rfl : (0 : Int32).toInt = 0) c_153)
        exact hk343 f_rounds f_given hw _ _ ls hH (lv_sub hl [0] rfl)
      · have hw := hw.2 (z_neq (rfl : f_large.toInt = _) (rfl : (0 : Int32).toInt = 0) c_153)
        refine lv_aload_n hx hb dX55_work_310 rfl (lv_at hl 0 rfl) ?_
        refine k_get X hH in_X55 0 rfl hc 8 (by decide) q6584 rfl dX55_work_311 ?_
        refine lv_iload_n hx hb dX55_work_314 rfl (lv_at hl 1 rfl) ?_
        refine lv_aload_n hx hb dX55_work_315 rfl (lv_at hl 0 rfl) ?_
        refine k_get X hH in_X55 0 rfl hc 0 (by decide) q6576 rfl dX55_work_316 ?_
        refine lv_iload_n hx hb dX55_work_319 rfl (lv_at hl 1 rfl) ?_
        have hq_154 := hw.1
        have hw := hw.2
        refine k_zald X hH 1 0 rfl rfl (z_in (rfl : x1.toInt = _) hq_154) dX55_work_320 ?_
        have e_155 := z_ld (f := f_said) (rfl : x1.toInt = _) hq_154.1
        refine lv_if_eq (tgt := 328) hx hb dX55_work_321 (by decide) (fun c_156 => ?_) (fun c_156 => ?_)
        · have hw := hw.1 (z_eq e_155 (rfl : (0 : Int32).toInt = 0) c_156)
          refine lv_iconst (v := (-1)) hx hb dX55_work_328 (by decide) ?_
          obtain ⟨f_rounds_157, ef_rounds_157⟩ : ∃ y : Nat → Int32, y = upd f_rounds x1.toNatClampNeg (-1) := ⟨_, rfl⟩
          refine k_iast X hH 7 6 rfl rfl (z_in (rfl : x1.toInt = _) hq_154) dX55_work_329 ef_rounds_157 (ws1 := (wX55 ci ad d f_said f_heads f_kinds f_folded f_lengths f_parts f_rules f_known f_rounds_157 f_given f_strata f_circle f_turns f_needs f_comes f_values f_plain f_plainCount f_pointers f_now f_fresh f_many f_sums f_lows f_highs f_layed f_worked f_large)) rfl (fun H locs hH => ?_)
          have hw := hw (zF f_rounds_157) (by rw [ef_rounds_157]; exact z_st (f := f_rounds) (rfl : x1.toInt = _) hq_154.1 (rfl : ((-1) : Int32).toInt = (-1)))
          refine lv_aload_n hx hb dX55_work_330 rfl (lv_at hl 0 rfl) ?_
          refine k_get X hH in_X55 0 rfl hc 9 (by decide) q6585 rfl dX55_work_331 ?_
          refine lv_iload_n hx hb dX55_work_334 rfl (lv_at hl 1 rfl) ?_
          refine lv_iconst (v := 0) hx hb dX55_work_335 (by decide) ?_
          obtain ⟨f_given_158, ef_given_158⟩ : ∃ y : Nat → Int32, y = upd f_given x1.toNatClampNeg 0 := ⟨_, rfl⟩
          refine k_iast X hH 8 7 rfl rfl (z_in (rfl : x1.toInt = _) hq_154) dX55_work_336 ef_given_158 (ws1 := (wX55 ci ad d f_said f_heads f_kinds f_folded f_lengths f_parts f_rules f_known f_rounds_157 f_given_158 f_strata f_circle f_turns f_needs f_comes f_values f_plain f_plainCount f_pointers f_now f_fresh f_many f_sums f_lows f_highs f_layed f_worked f_large)) rfl (fun H locs hH => ?_)
          have hw := hw (zF f_given_158) (by rw [ef_given_158]; exact z_st (f := f_given) (rfl : x1.toInt = _) hq_154.1 (rfl : (0 : Int32).toInt = 0))
          have hq_160 := hw.1
          have hw := hw.2
          obtain ⟨x1_159, ex1_159⟩ : ∃ y : Int32, y = x1 + 1 := ⟨_, rfl⟩
          have hw := hw x1_159.toInt (by rw [ex1_159]; exact (z_x (z_add (z_m (rfl : x1.toInt = _)) (z_m (rfl : (1 : Int32).toInt = 1))) hq_160))
          refine lv_iinc (v := x1_159) (lv' := [(1, .int x1_159), (0, .ref (ad 0))]) hx hb dX55_work_337 hl (k := 1) rfl (by rw [ex1_159]; rfl) (by decide) rfl (fun ls hl => ?_)
          refine lv_goto (tgt := 296) hx hb dX55_work_340 (by decide) ?_
          exact ih x1_159 f_rounds_157 f_given_158 hw _ _ ls hH (lv_sub hl [1, 0] rfl)
        · have hw := hw.2 (z_neq e_155 (rfl : (0 : Int32).toInt = 0) c_156)
          refine lv_iconst (v := 0) hx hb dX55_work_324 (by decide) ?_
          refine lv_goto (tgt := 329) hx hb dX55_work_325 (by decide) ?_
          obtain ⟨f_rounds_161, ef_rounds_161⟩ : ∃ y : Nat → Int32, y = upd f_rounds x1.toNatClampNeg 0 := ⟨_, rfl⟩
          refine k_iast X hH 7 6 rfl rfl (z_in (rfl : x1.toInt = _) hq_154) dX55_work_329 ef_rounds_161 (ws1 := (wX55 ci ad d f_said f_heads f_kinds f_folded f_lengths f_parts f_rules f_known f_rounds_161 f_given f_strata f_circle f_turns f_needs f_comes f_values f_plain f_plainCount f_pointers f_now f_fresh f_many f_sums f_lows f_highs f_layed f_worked f_large)) rfl (fun H locs hH => ?_)
          have hw := hw (zF f_rounds_161) (by rw [ef_rounds_161]; exact z_st (f := f_rounds) (rfl : x1.toInt = _) hq_154.1 (rfl : (0 : Int32).toInt = 0))
          refine lv_aload_n hx hb dX55_work_330 rfl (lv_at hl 0 rfl) ?_
          refine k_get X hH in_X55 0 rfl hc 9 (by decide) q6585 rfl dX55_work_331 ?_
          refine lv_iload_n hx hb dX55_work_334 rfl (lv_at hl 1 rfl) ?_
          refine lv_iconst (v := 0) hx hb dX55_work_335 (by decide) ?_
          obtain ⟨f_given_162, ef_given_162⟩ : ∃ y : Nat → Int32, y = upd f_given x1.toNatClampNeg 0 := ⟨_, rfl⟩
          refine k_iast X hH 8 7 rfl rfl (z_in (rfl : x1.toInt = _) hq_154) dX55_work_336 ef_given_162 (ws1 := (wX55 ci ad d f_said f_heads f_kinds f_folded f_lengths f_parts f_rules f_known f_rounds_161 f_given_162 f_strata f_circle f_turns f_needs f_comes f_values f_plain f_plainCount f_pointers f_now f_fresh f_many f_sums f_lows f_highs f_layed f_worked f_large)) rfl (fun H locs hH => ?_)
          have hw := hw (zF f_given_162) (by rw [ef_given_162]; exact z_st (f := f_given) (rfl : x1.toInt = _) hq_154.1 (rfl : (0 : Int32).toInt = 0))
          have hq_164 := hw.1
          have hw := hw.2
          obtain ⟨x1_163, ex1_163⟩ : ∃ y : Int32, y = x1 + 1 := ⟨_, rfl⟩
          have hw := hw x1_163.toInt (by rw [ex1_163]; exact (z_x (z_add (z_m (rfl : x1.toInt = _)) (z_m (rfl : (1 : Int32).toInt = 1))) hq_164))
          refine lv_iinc (v := x1_163) (lv' := [(1, .int x1_163), (0, .ref (ad 0))]) hx hb dX55_work_337 hl (k := 1) rfl (by rw [ex1_163]; rfl) (by decide) rfl (fun ls hl => ?_)
          refine lv_goto (tgt := 296) hx hb dX55_work_340 (by decide) ?_
          exact ih x1_163 f_rounds_161 f_given_162 hw _ _ ls hH (lv_sub hl [1, 0] rfl)
set_option maxHeartbeats 4000000 in
theorem atX55_work_226 {p : Program} {l : Launch} {e : Env} {s : State} {m : MethodId} {args : Array Value} {below : List Frame} {meth : Method} {c : Code} {dC : Nat → ClassId} {dI : Nat → Nat → Nat} {cl : List vw_C} {ci : Nat} (hc : cl[ci]? = some (RX55, TX55, 28)) {ad : Nat → Nat} {d : Nat → ClassId} {A : Nat → Prop} {post : Int → (Int → Int) → (Int → Int) → (Int → Int) → Int → Int → (Int → Int) → (Int → Int) → (Int → Int) → (Int → Int) → Int → (Int → Int) → Int → (Int → Int) → (Int → Int) → (Int → Int) → (Int → Int) → (Int → Int) → Int → Int → Int → Prop} {f_said : Nat → Int32} {f_heads : Nat → Int32} {f_kinds : Nat → Int32} {f_folded : Nat → Int32} {f_lengths : Nat → Int32} {f_parts : Nat → Int32} {f_rules : Int32} (X : kX p s m args meth c cX55_work 4 RX55 none (dC, dI) cl (tX55 d))     :
    ∀ (f_known : Int32) (f_rounds : Nat → Int32) (f_given : Nat → Int32) (f_strata : Nat → Int32) (f_circle : Int32) (f_turns : Int32) (f_needs : Nat → Int32) (f_comes : Nat → Int32) (f_values : Nat → Int32) (f_plain : Nat → Int32) (f_plainCount : Int32) (f_pointers : Nat → Int32) (f_now : Int32) (f_fresh : Nat → Int32) (f_many : Nat → Int32) (f_sums : Nat → Int32) (f_lows : Nat → Int32) (f_highs : Nat → Int32) (f_layed : Int32) (f_worked : Int64) (f_large : Int32), wX55_work_226 post (zF f_said) (zF f_heads) (zF f_kinds) (zF f_folded) (zF f_lengths) (zF f_parts) f_rules.toInt (zF f_rounds) (zF f_given) (zF f_strata) f_circle.toInt f_turns.toInt (zF f_needs) (zF f_comes) (zF f_values) (zF f_plain) f_plainCount.toInt (zF f_pointers) (zF f_fresh) (zF f_many) (zF f_sums) (zF f_lows) (zF f_highs) f_layed.toInt f_worked.toInt f_large.toInt → ∀ (H : Heap) (locs : List Loc) (ls : Array Slot), kH (dC, dI) cl A s.heap H locs (wX55 ci ad d f_said f_heads f_kinds f_folded f_lengths f_parts f_rules f_known f_rounds f_given f_strata f_circle f_turns f_needs f_comes f_values f_plain f_plainCount f_pointers f_now f_fresh f_many f_sums f_lows f_highs f_layed f_worked f_large) → lv_has ls 4 [(0, .ref (ad 0))] → W p l e ({ frames := 4, cells := 0, slots := 0, locals := 100 } : Room) s m args below meth c H locs 0 0 (MQ below (va_Qv (fun (u : Int32 × (Nat → Int32) × (Nat → Int32) × (Nat → Int32) × Int32 × Int32 × (Nat → Int32) × (Nat → Int32) × (Nat → Int32) × (Nat → Int32) × Int32 × (Nat → Int32) × Int32 × (Nat → Int32) × (Nat → Int32) × (Nat → Int32) × (Nat → Int32) × (Nat → Int32) × Int32 × Int64 × Int32) => post (u.1).toInt (zF (u.2.1)) (zF (u.2.2.1)) (zF (u.2.2.2.1)) (u.2.2.2.2.1).toInt (u.2.2.2.2.2.1).toInt (zF (u.2.2.2.2.2.2.1)) (zF (u.2.2.2.2.2.2.2.1)) (zF (u.2.2.2.2.2.2.2.2.1)) (zF (u.2.2.2.2.2.2.2.2.2.1)) (u.2.2.2.2.2.2.2.2.2.2.1).toInt (zF (u.2.2.2.2.2.2.2.2.2.2.2.1)) (u.2.2.2.2.2.2.2.2.2.2.2.2.1).toInt (zF (u.2.2.2.2.2.2.2.2.2.2.2.2.2.1)) (zF (u.2.2.2.2.2.2.2.2.2.2.2.2.2.2.1)) (zF (u.2.2.2.2.2.2.2.2.2.2.2.2.2.2.2.1)) (zF (u.2.2.2.2.2.2.2.2.2.2.2.2.2.2.2.2.1)) (zF (u.2.2.2.2.2.2.2.2.2.2.2.2.2.2.2.2.2.1)) (u.2.2.2.2.2.2.2.2.2.2.2.2.2.2.2.2.2.2.1).toInt (u.2.2.2.2.2.2.2.2.2.2.2.2.2.2.2.2.2.2.2.1).toInt (u.2.2.2.2.2.2.2.2.2.2.2.2.2.2.2.2.2.2.2.2).toInt) (kB (dC, dI) cl (tX55 d) A (fun u : Int32 × (Nat → Int32) × (Nat → Int32) × (Nat → Int32) × Int32 × Int32 × (Nat → Int32) × (Nat → Int32) × (Nat → Int32) × (Nat → Int32) × Int32 × (Nat → Int32) × Int32 × (Nat → Int32) × (Nat → Int32) × (Nat → Int32) × (Nat → Int32) × (Nat → Int32) × Int32 × Int64 × Int32 => (wX55 ci ad d f_said f_heads f_kinds f_folded f_lengths f_parts f_rules (u.1) (u.2.1) (u.2.2.1) (u.2.2.2.1) (u.2.2.2.2.1) (u.2.2.2.2.2.1) (u.2.2.2.2.2.2.1) (u.2.2.2.2.2.2.2.1) (u.2.2.2.2.2.2.2.2.1) (u.2.2.2.2.2.2.2.2.2.1) (u.2.2.2.2.2.2.2.2.2.2.1) (u.2.2.2.2.2.2.2.2.2.2.2.1) (u.2.2.2.2.2.2.2.2.2.2.2.2.1) (u.2.2.2.2.2.2.2.2.2.2.2.2.2.1) (u.2.2.2.2.2.2.2.2.2.2.2.2.2.2.1) (u.2.2.2.2.2.2.2.2.2.2.2.2.2.2.2.1) (u.2.2.2.2.2.2.2.2.2.2.2.2.2.2.2.2.1) (u.2.2.2.2.2.2.2.2.2.2.2.2.2.2.2.2.2.1) (u.2.2.2.2.2.2.2.2.2.2.2.2.2.2.2.2.2.2.1) (u.2.2.2.2.2.2.2.2.2.2.2.2.2.2.2.2.2.2.2.1) (u.2.2.2.2.2.2.2.2.2.2.2.2.2.2.2.2.2.2.2.2)))) A) args s 0 0 A) (F0 m 226 ls []) := by
  have hx := X.1.1
  have hb := X.1.2.1
  intro f_known f_rounds f_given f_strata f_circle f_turns f_needs f_comes f_values f_plain f_plainCount f_pointers f_now f_fresh f_many f_sums f_lows f_highs f_layed f_worked f_large hw H locs ls hH hl
  unfold wX55_work_226 at hw
  refine lv_aload_n hx hb dX55_work_226 rfl (lv_at hl 0 rfl) ?_
  refine lv_iconst (v := (-1)) hx hb dX55_work_227 (by decide) ?_
  refine k_put X hH in_X55 tyX55_ok nmX55 0 rfl hc 19 (by decide) q6595 rfl (ty := .int) rfl rfl rfl (Nat.le_of_ble_eq_true rfl) dX55_work_228 (ws1 := (wX55 ci ad d f_said f_heads f_kinds f_folded f_lengths f_parts f_rules f_known f_rounds f_given f_strata f_circle f_turns f_needs f_comes f_values f_plain f_plainCount f_pointers (-1) f_fresh f_many f_sums f_lows f_highs f_layed f_worked f_large)) rfl (fun H locs hH => ?_)
  refine lv_aload_n hx hb dX55_work_231 rfl (lv_at hl 0 rfl) ?_
  refine k_get X hH in_X55 0 rfl hc 11 (by decide) q6587 rfl dX55_work_232 ?_
  refine lv_if_ge (tgt := 250) hx hb dX55_work_235 (by decide) (fun c_118 => ?_) (fun c_118 => ?_)
  · have hw := hw.1 (z_le (rfl : (0 : Int32).toInt = 0) (rfl : f_circle.toInt = _) c_118)
    refine lv_iconst (v := 0) hx hb dX55_work_250 (by decide) ?_
    refine lv_istore_n (lv' := [(1, .int 0), (0, .ref (ad 0))]) hx hb dX55_work_251 rfl hl (by decide) rfl (fun ls hl => ?_)
    obtain ⟨fu, hw⟩ := hw
    refine atX55_work_252 hc X ?_ fu 0 f_rounds f_given f_values f_plain f_plainCount f_pointers f_fresh f_many f_sums f_lows f_highs f_layed hw _ _ ls hH (lv_sub hl [1, 0] rfl)
    · intro f_rounds_140 f_given_141 f_values_142 f_plain_143 f_plainCount_144 f_pointers_145 f_fresh_146 f_many_147 f_sums_148 f_lows_149 f_highs_150 f_layed_151 hw H locs ls hH hl
      refine lv_iconst (v := 0) hx hb dX55_work_294 (by decide) ?_
      refine lv_istore_n (lv' := [(1, .int 0), (0, .ref (ad 0))]) hx hb dX55_work_295 rfl hl (by decide) rfl (fun ls hl => ?_)
      obtain ⟨fu, hw⟩ := hw
      refine atX55_work_296 hc X ?_ fu 0 f_rounds_140 f_given_141 hw _ _ ls hH (lv_sub hl [1, 0] rfl)
      · intro f_rounds_165 f_given_166 hw H locs ls hH hl
        refine lv_aload_n hx hb dX55_work_343 rfl (lv_at hl 0 rfl) ?_
        refine lv_iconst (v := 1) hx hb dX55_work_344 (by decide) ?_
        refine k_put X hH in_X55 tyX55_ok nmX55 0 rfl hc 7 (by decide) q6583 rfl (ty := .boolean) rfl rfl rfl (Nat.le_of_ble_eq_true rfl) dX55_work_345 (ws1 := (wX55 ci ad d f_said f_heads f_kinds f_folded f_lengths f_parts f_rules 1 f_rounds_165 f_given_166 f_strata f_circle f_turns f_needs f_comes f_values_142 f_plain_143 f_plainCount_144 f_pointers_145 (-1) f_fresh_146 f_many_147 f_sums_148 f_lows_149 f_highs_150 f_layed_151 f_worked f_large)) rfl (fun H locs hH => ?_)
        exact k_vret X hH (1, f_rounds_165, f_given_166, f_strata, f_circle, f_turns, f_needs, f_comes, f_values_142, f_plain_143, f_plainCount_144, f_pointers_145, (-1), f_fresh_146, f_many_147, f_sums_148, f_lows_149, f_highs_150, f_layed_151, f_worked, f_large) hw rfl dX55_work_348
  · have hw := hw.2 (z_nle (rfl : (0 : Int32).toInt = 0) (rfl : f_circle.toInt = _) c_118)
    refine lv_aload_n hx hb dX55_work_238 rfl (lv_at hl 0 rfl) ?_
    refine k_get X hH in_X55 0 rfl hc 27 (by decide) q6603 rfl dX55_work_239 ?_
    refine lv_if_ne (tgt := 250) hx hb dX55_work_242 (by decide) (fun c_167 => ?_) (fun c_167 => ?_)
    · have hw := hw.2 (z_ne (rfl : f_large.toInt = _) (rfl : (0 : Int32).toInt = 0) c_167)
      refine lv_iconst (v := 0) hx hb dX55_work_250 (by decide) ?_
      refine lv_istore_n (lv' := [(1, .int 0), (0, .ref (ad 0))]) hx hb dX55_work_251 rfl hl (by decide) rfl (fun ls hl => ?_)
      obtain ⟨fu, hw⟩ := hw
      refine atX55_work_252 hc X ?_ fu 0 f_rounds f_given f_values f_plain f_plainCount f_pointers f_fresh f_many f_sums f_lows f_highs f_layed hw _ _ ls hH (lv_sub hl [1, 0] rfl)
      · intro f_rounds_168 f_given_169 f_values_170 f_plain_171 f_plainCount_172 f_pointers_173 f_fresh_174 f_many_175 f_sums_176 f_lows_177 f_highs_178 f_layed_179 hw H locs ls hH hl
        refine lv_iconst (v := 0) hx hb dX55_work_294 (by decide) ?_
        refine lv_istore_n (lv' := [(1, .int 0), (0, .ref (ad 0))]) hx hb dX55_work_295 rfl hl (by decide) rfl (fun ls hl => ?_)
        obtain ⟨fu, hw⟩ := hw
        refine atX55_work_296 hc X ?_ fu 0 f_rounds_168 f_given_169 hw _ _ ls hH (lv_sub hl [1, 0] rfl)
        · intro f_rounds_180 f_given_181 hw H locs ls hH hl
          refine lv_aload_n hx hb dX55_work_343 rfl (lv_at hl 0 rfl) ?_
          refine lv_iconst (v := 1) hx hb dX55_work_344 (by decide) ?_
          refine k_put X hH in_X55 tyX55_ok nmX55 0 rfl hc 7 (by decide) q6583 rfl (ty := .boolean) rfl rfl rfl (Nat.le_of_ble_eq_true rfl) dX55_work_345 (ws1 := (wX55 ci ad d f_said f_heads f_kinds f_folded f_lengths f_parts f_rules 1 f_rounds_180 f_given_181 f_strata f_circle f_turns f_needs f_comes f_values_170 f_plain_171 f_plainCount_172 f_pointers_173 (-1) f_fresh_174 f_many_175 f_sums_176 f_lows_177 f_highs_178 f_layed_179 f_worked f_large)) rfl (fun H locs hH => ?_)
          exact k_vret X hH (1, f_rounds_180, f_given_181, f_strata, f_circle, f_turns, f_needs, f_comes, f_values_170, f_plain_171, f_plainCount_172, f_pointers_173, (-1), f_fresh_174, f_many_175, f_sums_176, f_lows_177, f_highs_178, f_layed_179, f_worked, f_large) hw rfl dX55_work_348
    · have hw := hw.1 (z_eq (rfl : f_large.toInt = _) (rfl : (0 : Int32).toInt = 0) c_167)
      refine lv_aload_n hx hb dX55_work_245 rfl (lv_at hl 0 rfl) ?_
      refine lv_iconst (v := (-1)) hx hb dX55_work_246 (by decide) ?_
      refine k_v0 hH (k_runV (As := [.int ((-1))]) (rest := []) X hH.1 hH.2.1 X.2.2.2 (walkX55_addWork hc (x1 := (-1)) (f_said := f_said) (f_heads := f_heads) (f_kinds := f_kinds) (f_folded := f_folded) (f_lengths := f_lengths) (f_parts := f_parts) (f_rules := f_rules) (f_known := f_known) (f_rounds := f_rounds) (f_given := f_given) (f_strata := f_strata) (f_circle := f_circle) (f_turns := f_turns) (f_needs := f_needs) (f_comes := f_comes) (f_values := f_values) (f_plain := f_plain) (f_plainCount := f_plainCount) (f_pointers := f_pointers) (f_now := (-1)) (f_fresh := f_fresh) (f_many := f_many) (f_sums := f_sums) (f_lows := f_lows) (f_highs := f_highs) (f_layed := f_layed) (f_worked := f_worked) (f_large := f_large) hw) (cwV 1 X.1.2.2.2.2 gX55_161 rfl rfl rfl hX55_addWork ⟨Nat.le_of_ble_eq_true rfl, Nat.le_of_ble_eq_true rfl⟩) hc (q0 := 0) rfl rfl hl.1 rfl (Nat.le_of_ble_eq_true rfl) dX55_work_247 ⟨Nat.le_refl 0, Nat.le_refl 0⟩) (fun u H locs hw hH => ?_)
      obtain ⟨f_worked_182, f_large_183⟩ := u
      have hH : kH (dC, dI) cl A s.heap H locs (wX55 ci ad d f_said f_heads f_kinds f_folded f_lengths f_parts f_rules f_known f_rounds f_given f_strata f_circle f_turns f_needs f_comes f_values f_plain f_plainCount f_pointers (-1) f_fresh f_many f_sums f_lows f_highs f_layed f_worked_182 f_large_183) := hH
      refine lv_iconst (v := 0) hx hb dX55_work_250 (by decide) ?_
      refine lv_istore_n (lv' := [(1, .int 0), (0, .ref (ad 0))]) hx hb dX55_work_251 rfl hl (by decide) rfl (fun ls hl => ?_)
      obtain ⟨fu, hw⟩ := hw
      refine atX55_work_252 hc X ?_ fu 0 f_rounds f_given f_values f_plain f_plainCount f_pointers f_fresh f_many f_sums f_lows f_highs f_layed hw _ _ ls hH (lv_sub hl [1, 0] rfl)
      · intro f_rounds_184 f_given_185 f_values_186 f_plain_187 f_plainCount_188 f_pointers_189 f_fresh_190 f_many_191 f_sums_192 f_lows_193 f_highs_194 f_layed_195 hw H locs ls hH hl
        refine lv_iconst (v := 0) hx hb dX55_work_294 (by decide) ?_
        refine lv_istore_n (lv' := [(1, .int 0), (0, .ref (ad 0))]) hx hb dX55_work_295 rfl hl (by decide) rfl (fun ls hl => ?_)
        obtain ⟨fu, hw⟩ := hw
        refine atX55_work_296 hc X ?_ fu 0 f_rounds_184 f_given_185 hw _ _ ls hH (lv_sub hl [1, 0] rfl)
        · intro f_rounds_196 f_given_197 hw H locs ls hH hl
          refine lv_aload_n hx hb dX55_work_343 rfl (lv_at hl 0 rfl) ?_
          refine lv_iconst (v := 1) hx hb dX55_work_344 (by decide) ?_
          refine k_put X hH in_X55 tyX55_ok nmX55 0 rfl hc 7 (by decide) q6583 rfl (ty := .boolean) rfl rfl rfl (Nat.le_of_ble_eq_true rfl) dX55_work_345 (ws1 := (wX55 ci ad d f_said f_heads f_kinds f_folded f_lengths f_parts f_rules 1 f_rounds_196 f_given_197 f_strata f_circle f_turns f_needs f_comes f_values_186 f_plain_187 f_plainCount_188 f_pointers_189 (-1) f_fresh_190 f_many_191 f_sums_192 f_lows_193 f_highs_194 f_layed_195 f_worked_182 f_large_183)) rfl (fun H locs hH => ?_)
          exact k_vret X hH (1, f_rounds_196, f_given_197, f_strata, f_circle, f_turns, f_needs, f_comes, f_values_186, f_plain_187, f_plainCount_188, f_pointers_189, (-1), f_fresh_190, f_many_191, f_sums_192, f_lows_193, f_highs_194, f_layed_195, f_worked_182, f_large_183) hw rfl dX55_work_348
set_option maxHeartbeats 4000000 in
theorem walkX55_work {l : Launch} {dC : Nat → ClassId} {dI : Nat → Nat → Nat} {cl : List vw_C} {ci : Nat} (hc : cl[ci]? = some (RX55, TX55, 28)) {ad : Nat → Nat} {d : Nat → ClassId} {sz : Nat} {f_said : Nat → Int32} {f_heads : Nat → Int32} {f_kinds : Nat → Int32} {f_folded : Nat → Int32} {f_lengths : Nat → Int32} {f_parts : Nat → Int32} {f_rules : Int32} {f_known : Int32} {f_rounds : Nat → Int32} {f_given : Nat → Int32} {f_strata : Nat → Int32} {f_circle : Int32} {f_turns : Int32} {f_needs : Nat → Int32} {f_comes : Nat → Int32} {f_values : Nat → Int32} {f_plain : Nat → Int32} {f_plainCount : Int32} {f_pointers : Nat → Int32} {f_now : Int32} {f_fresh : Nat → Int32} {f_many : Nat → Int32} {f_sums : Nat → Int32} {f_lows : Nat → Int32} {f_highs : Nat → Int32} {f_layed : Int32} {f_worked : Int64} {f_large : Int32}  {post : Int → (Int → Int) → (Int → Int) → (Int → Int) → Int → Int → (Int → Int) → (Int → Int) → (Int → Int) → (Int → Int) → Int → (Int → Int) → Int → (Int → Int) → (Int → Int) → (Int → Int) → (Int → Int) → (Int → Int) → Int → Int → Int → Prop} (hw : wpX55_work post (zF f_said) (zF f_heads) (zF f_kinds) (zF f_folded) (zF f_lengths) (zF f_parts) f_rules.toInt f_known.toInt (zF f_rounds) (zF f_given) (zF f_strata) f_circle.toInt f_turns.toInt (zF f_needs) (zF f_comes) (zF f_values) (zF f_plain) f_plainCount.toInt (zF f_pointers) f_now.toInt (zF f_fresh) (zF f_many) (zF f_sums) (zF f_lows) (zF f_highs) f_layed.toInt f_worked.toInt f_large.toInt ) :
    Met l yX55_work (ws_ yX55_work cX55_work 4 none) ({ frames := 4, cells := 0, slots := 0, locals := 100 } : Room) (kPc (dC, dI) cl (tX55 d) [.ref (ad 0)] sz (wX55 ci ad d f_said f_heads f_kinds f_folded f_lengths f_parts f_rules f_known f_rounds f_given f_strata f_circle f_turns f_needs f_comes f_values f_plain f_plainCount f_pointers f_now f_fresh f_many f_sums f_lows f_highs f_layed f_worked f_large)) (va_Qv (fun (u : Int32 × (Nat → Int32) × (Nat → Int32) × (Nat → Int32) × Int32 × Int32 × (Nat → Int32) × (Nat → Int32) × (Nat → Int32) × (Nat → Int32) × Int32 × (Nat → Int32) × Int32 × (Nat → Int32) × (Nat → Int32) × (Nat → Int32) × (Nat → Int32) × (Nat → Int32) × Int32 × Int64 × Int32) => post (u.1).toInt (zF (u.2.1)) (zF (u.2.2.1)) (zF (u.2.2.2.1)) (u.2.2.2.2.1).toInt (u.2.2.2.2.2.1).toInt (zF (u.2.2.2.2.2.2.1)) (zF (u.2.2.2.2.2.2.2.1)) (zF (u.2.2.2.2.2.2.2.2.1)) (zF (u.2.2.2.2.2.2.2.2.2.1)) (u.2.2.2.2.2.2.2.2.2.2.1).toInt (zF (u.2.2.2.2.2.2.2.2.2.2.2.1)) (u.2.2.2.2.2.2.2.2.2.2.2.2.1).toInt (zF (u.2.2.2.2.2.2.2.2.2.2.2.2.2.1)) (zF (u.2.2.2.2.2.2.2.2.2.2.2.2.2.2.1)) (zF (u.2.2.2.2.2.2.2.2.2.2.2.2.2.2.2.1)) (zF (u.2.2.2.2.2.2.2.2.2.2.2.2.2.2.2.2.1)) (zF (u.2.2.2.2.2.2.2.2.2.2.2.2.2.2.2.2.2.1)) (u.2.2.2.2.2.2.2.2.2.2.2.2.2.2.2.2.2.2.1).toInt (u.2.2.2.2.2.2.2.2.2.2.2.2.2.2.2.2.2.2.2.1).toInt (u.2.2.2.2.2.2.2.2.2.2.2.2.2.2.2.2.2.2.2.2).toInt) (kB (dC, dI) cl (tX55 d) (va_A (wX55 ci ad d f_said f_heads f_kinds f_folded f_lengths f_parts f_rules f_known f_rounds f_given f_strata f_circle f_turns f_needs f_comes f_values f_plain f_plainCount f_pointers f_now f_fresh f_many f_sums f_lows f_highs f_layed f_worked f_large) sz) (fun u : Int32 × (Nat → Int32) × (Nat → Int32) × (Nat → Int32) × Int32 × Int32 × (Nat → Int32) × (Nat → Int32) × (Nat → Int32) × (Nat → Int32) × Int32 × (Nat → Int32) × Int32 × (Nat → Int32) × (Nat → Int32) × (Nat → Int32) × (Nat → Int32) × (Nat → Int32) × Int32 × Int64 × Int32 => (wX55 ci ad d f_said f_heads f_kinds f_folded f_lengths f_parts f_rules (u.1) (u.2.1) (u.2.2.1) (u.2.2.2.1) (u.2.2.2.2.1) (u.2.2.2.2.2.1) (u.2.2.2.2.2.2.1) (u.2.2.2.2.2.2.2.1) (u.2.2.2.2.2.2.2.2.1) (u.2.2.2.2.2.2.2.2.2.1) (u.2.2.2.2.2.2.2.2.2.2.1) (u.2.2.2.2.2.2.2.2.2.2.2.1) (u.2.2.2.2.2.2.2.2.2.2.2.2.1) (u.2.2.2.2.2.2.2.2.2.2.2.2.2.1) (u.2.2.2.2.2.2.2.2.2.2.2.2.2.2.1) (u.2.2.2.2.2.2.2.2.2.2.2.2.2.2.2.1) (u.2.2.2.2.2.2.2.2.2.2.2.2.2.2.2.2.1) (u.2.2.2.2.2.2.2.2.2.2.2.2.2.2.2.2.2.1) (u.2.2.2.2.2.2.2.2.2.2.2.2.2.2.2.2.2.2.1) (u.2.2.2.2.2.2.2.2.2.2.2.2.2.2.2.2.2.2.2.1) (u.2.2.2.2.2.2.2.2.2.2.2.2.2.2.2.2.2.2.2.2)))) (va_A (wX55 ci ad d f_said f_heads f_kinds f_folded f_lengths f_parts f_rules f_known f_rounds f_given f_strata f_circle f_turns f_needs f_comes f_values f_plain f_plainCount f_pointers f_now f_fresh f_many f_sums f_lows f_highs f_layed f_worked f_large) sz)) 0 0 (va_A (wX55 ci ad d f_said f_heads f_kinds f_folded f_lengths f_parts f_rules f_known f_rounds f_given f_strata f_circle f_turns f_needs f_comes f_values f_plain f_plainCount f_pointers f_now f_fresh f_many f_sums f_lows f_highs f_layed f_worked f_large) sz) := by
  refine k_enter (by decide) (Nat.le_of_ble_eq_true rfl) ?_
  intro p e s m below meth c ls X hsz hH hl
  subst hsz
  generalize va_A (wX55 ci ad d f_said f_heads f_kinds f_folded f_lengths f_parts f_rules f_known f_rounds f_given f_strata f_circle f_turns f_needs f_comes f_values f_plain f_plainCount f_pointers f_now f_fresh f_many f_sums f_lows f_highs f_layed f_worked f_large) s.heap.size = A at hH ⊢
  have hx := X.1.1
  have hb := X.1.2.1
  have hl : lv_has ls 4 [(0, .ref (ad 0))] := hl
  unfold wpX55_work at hw
  refine lv_aload_n hx hb dX55_work_0 rfl (lv_at hl 0 rfl) ?_
  refine k_get X hH in_X55 0 rfl hc 7 (by decide) q6583 rfl dX55_work_1 ?_
  refine lv_if_eq (tgt := 8) hx hb dX55_work_4 (by decide) (fun c_1 => ?_) (fun c_1 => ?_)
  · have hw := hw.1 (z_eq (rfl : f_known.toInt = _) (rfl : (0 : Int32).toInt = 0) c_1)
    refine lv_aload_n hx hb dX55_work_8 rfl (lv_at hl 0 rfl) ?_
    refine k_v0 hH (k_runV (As := []) (rest := []) X hH.1 hH.2.1 X.2.2.2 (walkX55_need hc (f_said := f_said) (f_heads := f_heads) (f_kinds := f_kinds) (f_folded := f_folded) (f_lengths := f_lengths) (f_parts := f_parts) (f_rules := f_rules) (f_known := f_known) (f_rounds := f_rounds) (f_given := f_given) (f_strata := f_strata) (f_circle := f_circle) (f_turns := f_turns) (f_needs := f_needs) (f_comes := f_comes) (f_values := f_values) (f_plain := f_plain) (f_plainCount := f_plainCount) (f_pointers := f_pointers) (f_now := f_now) (f_fresh := f_fresh) (f_many := f_many) (f_sums := f_sums) (f_lows := f_lows) (f_highs := f_highs) (f_layed := f_layed) (f_worked := f_worked) (f_large := f_large) hw) (cwV 0 X.1.2.2.2.2 gX55_145 rfl rfl rfl hX55_need ⟨Nat.le_of_ble_eq_true rfl, Nat.le_of_ble_eq_true rfl⟩) hc (q0 := 0) rfl rfl hl.1 rfl (Nat.le_of_ble_eq_true rfl) dX55_work_9 ⟨Nat.le_refl 0, Nat.le_refl 0⟩) (fun u H locs hw hH => ?_)
    obtain ⟨f_circle_2, f_needs_3, f_comes_4⟩ := u
    have hH : kH (dC, dI) cl A s.heap H locs (wX55 ci ad d f_said f_heads f_kinds f_folded f_lengths f_parts f_rules f_known f_rounds f_given f_strata f_circle_2 f_turns f_needs_3 f_comes_4 f_values f_plain f_plainCount f_pointers f_now f_fresh f_many f_sums f_lows f_highs f_layed f_worked f_large) := hH
    refine lv_aload_n hx hb dX55_work_12 rfl (lv_at hl 0 rfl) ?_
    refine k_v0 hH (k_runV (As := []) (rest := []) X hH.1 hH.2.1 X.2.2.2 (walkX55_layer hc (f_said := f_said) (f_heads := f_heads) (f_kinds := f_kinds) (f_folded := f_folded) (f_lengths := f_lengths) (f_parts := f_parts) (f_rules := f_rules) (f_known := f_known) (f_rounds := f_rounds) (f_given := f_given) (f_strata := f_strata) (f_circle := f_circle_2) (f_turns := f_turns) (f_needs := f_needs_3) (f_comes := f_comes_4) (f_values := f_values) (f_plain := f_plain) (f_plainCount := f_plainCount) (f_pointers := f_pointers) (f_now := f_now) (f_fresh := f_fresh) (f_many := f_many) (f_sums := f_sums) (f_lows := f_lows) (f_highs := f_highs) (f_layed := f_layed) (f_worked := f_worked) (f_large := f_large) hw) (cwV 0 X.1.2.2.2.2 gX55_148 rfl rfl rfl hX55_layer ⟨Nat.le_of_ble_eq_true rfl, Nat.le_of_ble_eq_true rfl⟩) hc (q0 := 0) rfl rfl hl.1 rfl (Nat.le_of_ble_eq_true rfl) dX55_work_13 ⟨Nat.le_refl 0, Nat.le_refl 0⟩) (fun u H locs hw hH => ?_)
    obtain ⟨f_strata_5, eu⟩ : ∃ z, z = u := ⟨_, rfl⟩
    subst eu
    have hH : kH (dC, dI) cl A s.heap H locs (wX55 ci ad d f_said f_heads f_kinds f_folded f_lengths f_parts f_rules f_known f_rounds f_given f_strata_5 f_circle_2 f_turns f_needs_3 f_comes_4 f_values f_plain f_plainCount f_pointers f_now f_fresh f_many f_sums f_lows f_highs f_layed f_worked f_large) := hH
    refine lv_aload_n hx hb dX55_work_16 rfl (lv_at hl 0 rfl) ?_
    refine lv_iconst (v := 0) hx hb dX55_work_17 (by decide) ?_
    refine k_put X hH in_X55 tyX55_ok nmX55 0 rfl hc 12 (by decide) q6588 rfl (ty := .int) rfl rfl rfl (Nat.le_of_ble_eq_true rfl) dX55_work_18 (ws1 := (wX55 ci ad d f_said f_heads f_kinds f_folded f_lengths f_parts f_rules f_known f_rounds f_given f_strata_5 f_circle_2 0 f_needs_3 f_comes_4 f_values f_plain f_plainCount f_pointers f_now f_fresh f_many f_sums f_lows f_highs f_layed f_worked f_large)) rfl (fun H locs hH => ?_)
    refine lv_iconst (v := 0) hx hb dX55_work_21 (by decide) ?_
    refine lv_istore_n (lv' := [(1, .int 0), (0, .ref (ad 0))]) hx hb dX55_work_22 rfl hl (by decide) rfl (fun ls hl => ?_)
    obtain ⟨fu, hw⟩ := hw
    refine atX55_work_23 hc X ?_ fu 0 f_rounds f_given f_fresh hw _ _ ls hH (lv_sub hl [1, 0] rfl)
    · intro f_rounds_20 f_given_21 f_fresh_22 hw H locs ls hH hl
      refine lv_aload_n hx hb dX55_work_70 rfl (lv_at hl 0 rfl) ?_
      refine lv_iconst (v := 0) hx hb dX55_work_71 (by decide) ?_
      refine k_put X hH in_X55 tyX55_ok nmX55 0 rfl hc 27 (by decide) q6603 rfl (ty := .boolean) rfl rfl rfl (Nat.le_of_ble_eq_true rfl) dX55_work_72 (ws1 := (wX55 ci ad d f_said f_heads f_kinds f_folded f_lengths f_parts f_rules f_known f_rounds_20 f_given_21 f_strata_5 f_circle_2 0 f_needs_3 f_comes_4 f_values f_plain f_plainCount f_pointers f_now f_fresh_22 f_many f_sums f_lows f_highs f_layed f_worked 0)) rfl (fun H locs hH => ?_)
      refine lv_aload_n hx hb dX55_work_75 rfl (lv_at hl 0 rfl) ?_
      refine lv_lconst (v := 0) hx hb dX55_work_76 (by decide) ?_
      refine k_put X hH in_X55 tyX55_ok nmX55 0 rfl hc 26 (by decide) q6602 rfl (ty := .long) rfl rfl rfl (Nat.le_of_ble_eq_true rfl) dX55_work_77 (ws1 := (wX55 ci ad d f_said f_heads f_kinds f_folded f_lengths f_parts f_rules f_known f_rounds_20 f_given_21 f_strata_5 f_circle_2 0 f_needs_3 f_comes_4 f_values f_plain f_plainCount f_pointers f_now f_fresh_22 f_many f_sums f_lows f_highs f_layed 0 0)) rfl (fun H locs hH => ?_)
      refine lv_iconst (v := 0) hx hb dX55_work_80 (by decide) ?_
      refine lv_istore_n (lv' := [(1, .int 0), (0, .ref (ad 0))]) hx hb dX55_work_81 rfl hl (by decide) rfl (fun ls hl => ?_)
      obtain ⟨fu, hw⟩ := hw
      refine atX55_work_82 hc X ?_ fu 0 f_rounds_20 f_given_21 0 f_values f_plain f_plainCount f_pointers f_now f_fresh_22 f_many f_sums f_lows f_highs f_layed 0 0 hw _ _ ls hH (lv_sub hl [1, 0] rfl)
      · intro f_rounds_102 f_given_103 f_turns_104 f_values_105 f_plain_106 f_plainCount_107 f_pointers_108 f_now_109 f_fresh_110 f_many_111 f_sums_112 f_lows_113 f_highs_114 f_layed_115 f_worked_116 f_large_117 hw H locs ls hH hl
        exact atX55_work_226 hc X f_known f_rounds_102 f_given_103 f_strata_5 f_circle_2 f_turns_104 f_needs_3 f_comes_4 f_values_105 f_plain_106 f_plainCount_107 f_pointers_108 f_now_109 f_fresh_110 f_many_111 f_sums_112 f_lows_113 f_highs_114 f_layed_115 f_worked_116 f_large_117 hw _ _ ls hH (lv_sub hl [0] rfl)
  · have hw := hw.2 (z_neq (rfl : f_known.toInt = _) (rfl : (0 : Int32).toInt = 0) c_1)
    exact k_vret X hH (f_known, f_rounds, f_given, f_strata, f_circle, f_turns, f_needs, f_comes, f_values, f_plain, f_plainCount, f_pointers, f_now, f_fresh, f_many, f_sums, f_lows, f_highs, f_layed, f_worked, f_large) hw rfl dX55_work_7
set_option maxHeartbeats 4000000 in
theorem walkX55_holds {l : Launch} {dC : Nat → ClassId} {dI : Nat → Nat → Nat} {cl : List vw_C} {ci : Nat} (hc : cl[ci]? = some (RX55, TX55, 28)) {ad : Nat → Nat} {d : Nat → ClassId} {sz : Nat} {f_said : Nat → Int32} {f_heads : Nat → Int32} {f_kinds : Nat → Int32} {f_folded : Nat → Int32} {f_lengths : Nat → Int32} {f_parts : Nat → Int32} {f_rules : Int32} {f_known : Int32} {f_rounds : Nat → Int32} {f_given : Nat → Int32} {f_strata : Nat → Int32} {f_circle : Int32} {f_turns : Int32} {f_needs : Nat → Int32} {f_comes : Nat → Int32} {f_values : Nat → Int32} {f_plain : Nat → Int32} {f_plainCount : Int32} {f_pointers : Nat → Int32} {f_now : Int32} {f_fresh : Nat → Int32} {f_many : Nat → Int32} {f_sums : Nat → Int32} {f_lows : Nat → Int32} {f_highs : Nat → Int32} {f_layed : Int32} {f_worked : Int64} {f_large : Int32} {x1 : Int32} {x2 : Int32} {x3 : Int32} {post : Int → Int → (Int → Int) → (Int → Int) → (Int → Int) → Int → Int → (Int → Int) → (Int → Int) → (Int → Int) → (Int → Int) → Int → (Int → Int) → Int → (Int → Int) → (Int → Int) → (Int → Int) → (Int → Int) → (Int → Int) → Int → Int → Int → Prop} (hw : wpX55_holds post (zF f_said) (zF f_heads) (zF f_kinds) (zF f_folded) (zF f_lengths) (zF f_parts) f_rules.toInt f_known.toInt (zF f_rounds) (zF f_given) (zF f_strata) f_circle.toInt f_turns.toInt (zF f_needs) (zF f_comes) (zF f_values) (zF f_plain) f_plainCount.toInt (zF f_pointers) f_now.toInt (zF f_fresh) (zF f_many) (zF f_sums) (zF f_lows) (zF f_highs) f_layed.toInt f_worked.toInt f_large.toInt x1.toInt x2.toInt x3.toInt) :
    Met l yX55_holds (ws_ yX55_holds cX55_holds 5 (some .int)) ({ frames := 5, cells := 0, slots := 0, locals := 123 } : Room) (kPc (dC, dI) cl (tX55 d) [.ref (ad 0), .int x1, .int x2, .int x3] sz (wX55 ci ad d f_said f_heads f_kinds f_folded f_lengths f_parts f_rules f_known f_rounds f_given f_strata f_circle f_turns f_needs f_comes f_values f_plain f_plainCount f_pointers f_now f_fresh f_many f_sums f_lows f_highs f_layed f_worked f_large)) (va_Qi (fun (r : Int32) (u : Int32 × (Nat → Int32) × (Nat → Int32) × (Nat → Int32) × Int32 × Int32 × (Nat → Int32) × (Nat → Int32) × (Nat → Int32) × (Nat → Int32) × Int32 × (Nat → Int32) × Int32 × (Nat → Int32) × (Nat → Int32) × (Nat → Int32) × (Nat → Int32) × (Nat → Int32) × Int32 × Int64 × Int32) => post r.toInt (u.1).toInt (zF (u.2.1)) (zF (u.2.2.1)) (zF (u.2.2.2.1)) (u.2.2.2.2.1).toInt (u.2.2.2.2.2.1).toInt (zF (u.2.2.2.2.2.2.1)) (zF (u.2.2.2.2.2.2.2.1)) (zF (u.2.2.2.2.2.2.2.2.1)) (zF (u.2.2.2.2.2.2.2.2.2.1)) (u.2.2.2.2.2.2.2.2.2.2.1).toInt (zF (u.2.2.2.2.2.2.2.2.2.2.2.1)) (u.2.2.2.2.2.2.2.2.2.2.2.2.1).toInt (zF (u.2.2.2.2.2.2.2.2.2.2.2.2.2.1)) (zF (u.2.2.2.2.2.2.2.2.2.2.2.2.2.2.1)) (zF (u.2.2.2.2.2.2.2.2.2.2.2.2.2.2.2.1)) (zF (u.2.2.2.2.2.2.2.2.2.2.2.2.2.2.2.2.1)) (zF (u.2.2.2.2.2.2.2.2.2.2.2.2.2.2.2.2.2.1)) (u.2.2.2.2.2.2.2.2.2.2.2.2.2.2.2.2.2.2.1).toInt (u.2.2.2.2.2.2.2.2.2.2.2.2.2.2.2.2.2.2.2.1).toInt (u.2.2.2.2.2.2.2.2.2.2.2.2.2.2.2.2.2.2.2.2).toInt) (kB (dC, dI) cl (tX55 d) (va_A (wX55 ci ad d f_said f_heads f_kinds f_folded f_lengths f_parts f_rules f_known f_rounds f_given f_strata f_circle f_turns f_needs f_comes f_values f_plain f_plainCount f_pointers f_now f_fresh f_many f_sums f_lows f_highs f_layed f_worked f_large) sz) (fun u : Int32 × (Nat → Int32) × (Nat → Int32) × (Nat → Int32) × Int32 × Int32 × (Nat → Int32) × (Nat → Int32) × (Nat → Int32) × (Nat → Int32) × Int32 × (Nat → Int32) × Int32 × (Nat → Int32) × (Nat → Int32) × (Nat → Int32) × (Nat → Int32) × (Nat → Int32) × Int32 × Int64 × Int32 => (wX55 ci ad d f_said f_heads f_kinds f_folded f_lengths f_parts f_rules (u.1) (u.2.1) (u.2.2.1) (u.2.2.2.1) (u.2.2.2.2.1) (u.2.2.2.2.2.1) (u.2.2.2.2.2.2.1) (u.2.2.2.2.2.2.2.1) (u.2.2.2.2.2.2.2.2.1) (u.2.2.2.2.2.2.2.2.2.1) (u.2.2.2.2.2.2.2.2.2.2.1) (u.2.2.2.2.2.2.2.2.2.2.2.1) (u.2.2.2.2.2.2.2.2.2.2.2.2.1) (u.2.2.2.2.2.2.2.2.2.2.2.2.2.1) (u.2.2.2.2.2.2.2.2.2.2.2.2.2.2.1) (u.2.2.2.2.2.2.2.2.2.2.2.2.2.2.2.1) (u.2.2.2.2.2.2.2.2.2.2.2.2.2.2.2.2.1) (u.2.2.2.2.2.2.2.2.2.2.2.2.2.2.2.2.2.1) (u.2.2.2.2.2.2.2.2.2.2.2.2.2.2.2.2.2.2.1) (u.2.2.2.2.2.2.2.2.2.2.2.2.2.2.2.2.2.2.2.1) (u.2.2.2.2.2.2.2.2.2.2.2.2.2.2.2.2.2.2.2.2)))) (va_A (wX55 ci ad d f_said f_heads f_kinds f_folded f_lengths f_parts f_rules f_known f_rounds f_given f_strata f_circle f_turns f_needs f_comes f_values f_plain f_plainCount f_pointers f_now f_fresh f_many f_sums f_lows f_highs f_layed f_worked f_large) sz)) 0 0 (va_A (wX55 ci ad d f_said f_heads f_kinds f_folded f_lengths f_parts f_rules f_known f_rounds f_given f_strata f_circle f_turns f_needs f_comes f_values f_plain f_plainCount f_pointers f_now f_fresh f_many f_sums f_lows f_highs f_layed f_worked f_large) sz) := by
  refine k_enter (by decide) (Nat.le_of_ble_eq_true rfl) ?_
  intro p e s m below meth c ls X hsz hH hl
  subst hsz
  generalize va_A (wX55 ci ad d f_said f_heads f_kinds f_folded f_lengths f_parts f_rules f_known f_rounds f_given f_strata f_circle f_turns f_needs f_comes f_values f_plain f_plainCount f_pointers f_now f_fresh f_many f_sums f_lows f_highs f_layed f_worked f_large) s.heap.size = A at hH ⊢
  have hx := X.1.1
  have hb := X.1.2.1
  have hl : lv_has ls 5 [(0, .ref (ad 0)), (1, .int x1), (2, .int x2), (3, .int x3)] := hl
  unfold wpX55_holds at hw
  refine lv_iload_n hx hb dX55_holds_0 rfl (lv_at hl 1 rfl) ?_
  refine lv_iload_n hx hb dX55_holds_1 rfl (lv_at hl 2 rfl) ?_
  refine lv_iload_n hx hb dX55_holds_2 rfl (lv_at hl 3 rfl) ?_
  refine k_i0 hH (k_runS (As := [.int x1, .int x2, .int x3]) (rest := []) X hH.1 hH.2.1 X.2.2.2 (walkX55_isFact hc (x0 := x1) (x1 := x2) (x2 := x3) (f_said := f_said) (f_heads := f_heads) (f_kinds := f_kinds) (f_folded := f_folded) (f_lengths := f_lengths) (f_parts := f_parts) (f_rules := f_rules) (f_known := f_known) (f_rounds := f_rounds) (f_given := f_given) (f_strata := f_strata) (f_circle := f_circle) (f_turns := f_turns) (f_needs := f_needs) (f_comes := f_comes) (f_values := f_values) (f_plain := f_plain) (f_plainCount := f_plainCount) (f_pointers := f_pointers) (f_now := f_now) (f_fresh := f_fresh) (f_many := f_many) (f_sums := f_sums) (f_lows := f_lows) (f_highs := f_highs) (f_layed := f_layed) (f_worked := f_worked) (f_large := f_large) hw) (va_cwS 3 X.1.2.2.2.2 gX55_75 rfl rfl rfl hX55_isFact ⟨Nat.le_of_ble_eq_true rfl, Nat.le_of_ble_eq_true rfl⟩) rfl hl.1 rfl (Nat.le_of_ble_eq_true rfl) dX55_holds_3 ⟨Nat.le_refl 0, Nat.le_refl 0⟩) (fun r_1 _ H locs hw hH => ?_)
  have hH : kH (dC, dI) cl A s.heap H locs (wX55 ci ad d f_said f_heads f_kinds f_folded f_lengths f_parts f_rules f_known f_rounds f_given f_strata f_circle f_turns f_needs f_comes f_values f_plain f_plainCount f_pointers f_now f_fresh f_many f_sums f_lows f_highs f_layed f_worked f_large) := hH
  refine lv_if_ne (tgt := 11) hx hb dX55_holds_6 (by decide) (fun c_2 => ?_) (fun c_2 => ?_)
  · have hw := hw.2 (z_ne (rfl : r_1.toInt = _) (rfl : (0 : Int32).toInt = 0) c_2)
    refine lv_aload_n hx hb dX55_holds_11 rfl (lv_at hl 0 rfl) ?_
    refine k_v0 hH (k_runV (As := []) (rest := []) X hH.1 hH.2.1 X.2.2.2 (walkX55_work hc (f_said := f_said) (f_heads := f_heads) (f_kinds := f_kinds) (f_folded := f_folded) (f_lengths := f_lengths) (f_parts := f_parts) (f_rules := f_rules) (f_known := f_known) (f_rounds := f_rounds) (f_given := f_given) (f_strata := f_strata) (f_circle := f_circle) (f_turns := f_turns) (f_needs := f_needs) (f_comes := f_comes) (f_values := f_values) (f_plain := f_plain) (f_plainCount := f_plainCount) (f_pointers := f_pointers) (f_now := f_now) (f_fresh := f_fresh) (f_many := f_many) (f_sums := f_sums) (f_lows := f_lows) (f_highs := f_highs) (f_layed := f_layed) (f_worked := f_worked) (f_large := f_large) hw) (cwV 0 X.1.2.2.2.2 gX55_173 rfl rfl rfl hX55_work ⟨Nat.le_of_ble_eq_true rfl, Nat.le_of_ble_eq_true rfl⟩) hc (q0 := 0) rfl rfl hl.1 rfl (Nat.le_of_ble_eq_true rfl) dX55_holds_12 ⟨Nat.le_refl 0, Nat.le_refl 0⟩) (fun u H locs hw hH => ?_)
    obtain ⟨f_known_3, f_rounds_4, f_given_5, f_strata_6, f_circle_7, f_turns_8, f_needs_9, f_comes_10, f_values_11, f_plain_12, f_plainCount_13, f_pointers_14, f_now_15, f_fresh_16, f_many_17, f_sums_18, f_lows_19, f_highs_20, f_layed_21, f_worked_22, f_large_23⟩ := u
    have hH : kH (dC, dI) cl A s.heap H locs (wX55 ci ad d f_said f_heads f_kinds f_folded f_lengths f_parts f_rules f_known_3 f_rounds_4 f_given_5 f_strata_6 f_circle_7 f_turns_8 f_needs_9 f_comes_10 f_values_11 f_plain_12 f_plainCount_13 f_pointers_14 f_now_15 f_fresh_16 f_many_17 f_sums_18 f_lows_19 f_highs_20 f_layed_21 f_worked_22 f_large_23) := hH
    refine lv_iload_n hx hb dX55_holds_15 rfl (lv_at hl 1 rfl) ?_
    refine lv_iload_n hx hb dX55_holds_16 rfl (lv_at hl 2 rfl) ?_
    refine lv_iload_n hx hb dX55_holds_17 rfl (lv_at hl 3 rfl) ?_
    refine k_i0 hH (k_runS (As := [.int x1, .int x2, .int x3]) (rest := []) X hH.1 hH.2.1 X.2.2.2 (walkX55_code hc (x0 := x1) (x1 := x2) (x2 := x3) (f_said := f_said) (f_heads := f_heads) (f_kinds := f_kinds) (f_folded := f_folded) (f_lengths := f_lengths) (f_parts := f_parts) (f_rules := f_rules) (f_known := f_known_3) (f_rounds := f_rounds_4) (f_given := f_given_5) (f_strata := f_strata_6) (f_circle := f_circle_7) (f_turns := f_turns_8) (f_needs := f_needs_9) (f_comes := f_comes_10) (f_values := f_values_11) (f_plain := f_plain_12) (f_plainCount := f_plainCount_13) (f_pointers := f_pointers_14) (f_now := f_now_15) (f_fresh := f_fresh_16) (f_many := f_many_17) (f_sums := f_sums_18) (f_lows := f_lows_19) (f_highs := f_highs_20) (f_layed := f_layed_21) (f_worked := f_worked_22) (f_large := f_large_23) hw) (va_cwS 3 X.1.2.2.2.2 gX55_79 rfl rfl rfl hX55_code ⟨Nat.le_of_ble_eq_true rfl, Nat.le_of_ble_eq_true rfl⟩) rfl hl.1 rfl (Nat.le_of_ble_eq_true rfl) dX55_holds_18 ⟨Nat.le_refl 0, Nat.le_refl 0⟩) (fun r_24 _ H locs hw hH => ?_)
    have hH : kH (dC, dI) cl A s.heap H locs (wX55 ci ad d f_said f_heads f_kinds f_folded f_lengths f_parts f_rules f_known_3 f_rounds_4 f_given_5 f_strata_6 f_circle_7 f_turns_8 f_needs_9 f_comes_10 f_values_11 f_plain_12 f_plainCount_13 f_pointers_14 f_now_15 f_fresh_16 f_many_17 f_sums_18 f_lows_19 f_highs_20 f_layed_21 f_worked_22 f_large_23) := hH
    refine lv_istore (lv' := [(4, .int r_24), (0, .ref (ad 0)), (1, .int x1), (2, .int x2), (3, .int x3)]) hx hb dX55_holds_21 hl (by decide) rfl (fun ls hl => ?_)
    refine lv_aload_n hx hb dX55_holds_23 rfl (lv_at hl 1 rfl) ?_
    refine k_get X hH in_X55 0 rfl hc 0 (by decide) q6576 rfl dX55_holds_24 ?_
    refine lv_iload hx hb dX55_holds_27 (lv_at hl 0 rfl) ?_
    have hq_25 := hw.1
    have hw := hw.2
    refine k_zald X hH 1 0 rfl rfl (z_in (rfl : r_24.toInt = _) hq_25) dX55_holds_29 ?_
    have e_26 := z_ld (f := f_said) (rfl : r_24.toInt = _) hq_25.1
    refine lv_if_eq (tgt := 37) hx hb dX55_holds_30 (by decide) (fun c_27 => ?_) (fun c_27 => ?_)
    · have hw := hw.1 (z_eq e_26 (rfl : (0 : Int32).toInt = 0) c_27)
      refine lv_aload_n hx hb dX55_holds_37 rfl (lv_at hl 1 rfl) ?_
      refine k_get X hH in_X55 0 rfl hc 8 (by decide) q6584 rfl dX55_holds_38 ?_
      refine lv_iload hx hb dX55_holds_41 (lv_at hl 0 rfl) ?_
      refine k_iald X hH 7 6 rfl rfl (z_in (rfl : r_24.toInt = _) hq_25) dX55_holds_43 ?_
      have e_28 := z_ld (f := f_rounds_4) (rfl : r_24.toInt = _) hq_25.1
      refine lv_if_lt (tgt := 51) hx hb dX55_holds_44 (by decide) (fun c_29 => ?_) (fun c_29 => ?_)
      · have hw := hw.1 (z_lt e_28 (rfl : (0 : Int32).toInt = 0) c_29)
        refine lv_iconst (v := 0) hx hb dX55_holds_51 (by decide) ?_
        exact k_iret (v := 0) X hH (f_known_3, f_rounds_4, f_given_5, f_strata_6, f_circle_7, f_turns_8, f_needs_9, f_comes_10, f_values_11, f_plain_12, f_plainCount_13, f_pointers_14, f_now_15, f_fresh_16, f_many_17, f_sums_18, f_lows_19, f_highs_20, f_layed_21, f_worked_22, f_large_23) hw rfl rfl dX55_holds_52
      · have hw := hw.2 (z_nlt e_28 (rfl : (0 : Int32).toInt = 0) c_29)
        refine lv_iconst (v := 2) hx hb dX55_holds_47 (by decide) ?_
        refine lv_goto (tgt := 52) hx hb dX55_holds_48 (by decide) ?_
        exact k_iret (v := 2) X hH (f_known_3, f_rounds_4, f_given_5, f_strata_6, f_circle_7, f_turns_8, f_needs_9, f_comes_10, f_values_11, f_plain_12, f_plainCount_13, f_pointers_14, f_now_15, f_fresh_16, f_many_17, f_sums_18, f_lows_19, f_highs_20, f_layed_21, f_worked_22, f_large_23) hw rfl rfl dX55_holds_52
    · have hw := hw.2 (z_neq e_26 (rfl : (0 : Int32).toInt = 0) c_27)
      refine lv_iconst (v := 1) hx hb dX55_holds_33 (by decide) ?_
      refine lv_goto (tgt := 52) hx hb dX55_holds_34 (by decide) ?_
      exact k_iret (v := 1) X hH (f_known_3, f_rounds_4, f_given_5, f_strata_6, f_circle_7, f_turns_8, f_needs_9, f_comes_10, f_values_11, f_plain_12, f_plainCount_13, f_pointers_14, f_now_15, f_fresh_16, f_many_17, f_sums_18, f_lows_19, f_highs_20, f_layed_21, f_worked_22, f_large_23) hw rfl rfl dX55_holds_52
  · have hw := hw.1 (z_eq (rfl : r_1.toInt = _) (rfl : (0 : Int32).toInt = 0) c_2)
    refine lv_iconst (v := (-1)) hx hb dX55_holds_9 (by decide) ?_
    exact k_iret (v := (-1)) X hH (f_known, f_rounds, f_given, f_strata, f_circle, f_turns, f_needs, f_comes, f_values, f_plain, f_plainCount, f_pointers, f_now, f_fresh, f_many, f_sums, f_lows, f_highs, f_layed, f_worked, f_large) hw rfl rfl dX55_holds_10
set_option maxHeartbeats 4000000 in
theorem walkX55_isItem {l : Launch} {dC : Nat → ClassId} {dI : Nat → Nat → Nat} {cl : List vw_C} {ci : Nat} (hc : cl[ci]? = some (RX55, TX55, 28)) {ad : Nat → Nat} {d : Nat → ClassId} {sz : Nat} {f_said : Nat → Int32} {f_heads : Nat → Int32} {f_kinds : Nat → Int32} {f_folded : Nat → Int32} {f_lengths : Nat → Int32} {f_parts : Nat → Int32} {f_rules : Int32} {f_known : Int32} {f_rounds : Nat → Int32} {f_given : Nat → Int32} {f_strata : Nat → Int32} {f_circle : Int32} {f_turns : Int32} {f_needs : Nat → Int32} {f_comes : Nat → Int32} {f_values : Nat → Int32} {f_plain : Nat → Int32} {f_plainCount : Int32} {f_pointers : Nat → Int32} {f_now : Int32} {f_fresh : Nat → Int32} {f_many : Nat → Int32} {f_sums : Nat → Int32} {f_lows : Nat → Int32} {f_highs : Nat → Int32} {f_layed : Int32} {f_worked : Int64} {f_large : Int32} {x0 : Int32} {post : Int → Prop} (hw : wpX55_isItem post  x0.toInt) :
    Met l yX55_isItem (ws_ yX55_isItem cX55_isItem 1 (some .boolean)) ({ frames := 0, cells := 0, slots := 0, locals := 0 } : Room) (kPc (dC, dI) cl (tX55 d) [.int x0] sz (wX55 ci ad d f_said f_heads f_kinds f_folded f_lengths f_parts f_rules f_known f_rounds f_given f_strata f_circle f_turns f_needs f_comes f_values f_plain f_plainCount f_pointers f_now f_fresh f_many f_sums f_lows f_highs f_layed f_worked f_large)) (va_Qi (fun (r : Int32) (_ : Unit) => post r.toInt) (kB (dC, dI) cl (tX55 d) (va_A (wX55 ci ad d f_said f_heads f_kinds f_folded f_lengths f_parts f_rules f_known f_rounds f_given f_strata f_circle f_turns f_needs f_comes f_values f_plain f_plainCount f_pointers f_now f_fresh f_many f_sums f_lows f_highs f_layed f_worked f_large) sz) (fun _ : Unit => (wX55 ci ad d f_said f_heads f_kinds f_folded f_lengths f_parts f_rules f_known f_rounds f_given f_strata f_circle f_turns f_needs f_comes f_values f_plain f_plainCount f_pointers f_now f_fresh f_many f_sums f_lows f_highs f_layed f_worked f_large))) (va_A (wX55 ci ad d f_said f_heads f_kinds f_folded f_lengths f_parts f_rules f_known f_rounds f_given f_strata f_circle f_turns f_needs f_comes f_values f_plain f_plainCount f_pointers f_now f_fresh f_many f_sums f_lows f_highs f_layed f_worked f_large) sz)) 0 0 (va_A (wX55 ci ad d f_said f_heads f_kinds f_folded f_lengths f_parts f_rules f_known f_rounds f_given f_strata f_circle f_turns f_needs f_comes f_values f_plain f_plainCount f_pointers f_now f_fresh f_many f_sums f_lows f_highs f_layed f_worked f_large) sz) := by
  refine k_enter (by decide) (Nat.le_of_ble_eq_true rfl) ?_
  intro p e s m below meth c ls X hsz hH hl
  subst hsz
  generalize va_A (wX55 ci ad d f_said f_heads f_kinds f_folded f_lengths f_parts f_rules f_known f_rounds f_given f_strata f_circle f_turns f_needs f_comes f_values f_plain f_plainCount f_pointers f_now f_fresh f_many f_sums f_lows f_highs f_layed f_worked f_large) s.heap.size = A at hH ⊢
  have hx := X.1.1
  have hb := X.1.2.1
  have hl : lv_has ls 1 [(0, .int x0)] := hl
  unfold wpX55_isItem at hw
  refine lv_iload_n hx hb dX55_isItem_0 rfl (lv_at hl 0 rfl) ?_
  refine lv_bipush (v := (-6)) hx hb dX55_isItem_1 (by decide) ?_
  refine lv_icmp_lt (tgt := 16) hx hb dX55_isItem_3 (by decide) (fun c_1 => ?_) (fun c_1 => ?_)
  · have hw := hw.1 (z_lt (rfl : x0.toInt = _) (rfl : ((-6) : Int32).toInt = (-6)) c_1)
    refine lv_iconst (v := 0) hx hb dX55_isItem_16 (by decide) ?_
    exact k_iret (v := 0) X hH () hw rfl rfl dX55_isItem_17
  · have hw := hw.2 (z_nlt (rfl : x0.toInt = _) (rfl : ((-6) : Int32).toInt = (-6)) c_1)
    refine lv_iload_n hx hb dX55_isItem_6 rfl (lv_at hl 0 rfl) ?_
    refine lv_bipush (v := 32) hx hb dX55_isItem_7 (by decide) ?_
    refine lv_icmp_ge (tgt := 16) hx hb dX55_isItem_9 (by decide) (fun c_2 => ?_) (fun c_2 => ?_)
    · have hw := hw.1 (z_le (rfl : (32 : Int32).toInt = 32) (rfl : x0.toInt = _) c_2)
      refine lv_iconst (v := 0) hx hb dX55_isItem_16 (by decide) ?_
      exact k_iret (v := 0) X hH () hw rfl rfl dX55_isItem_17
    · have hw := hw.2 (z_nle (rfl : (32 : Int32).toInt = 32) (rfl : x0.toInt = _) c_2)
      refine lv_iconst (v := 1) hx hb dX55_isItem_12 (by decide) ?_
      refine lv_goto (tgt := 17) hx hb dX55_isItem_13 (by decide) ?_
      exact k_iret (v := 1) X hH () hw rfl rfl dX55_isItem_17
set_option maxHeartbeats 4000000 in
theorem walkX55_rule {l : Launch} {dC : Nat → ClassId} {dI : Nat → Nat → Nat} {cl : List vw_C} {ci : Nat} (hc : cl[ci]? = some (RX55, TX55, 28)) {ad : Nat → Nat} {d : Nat → ClassId} {sz : Nat} {f_said : Nat → Int32} {f_heads : Nat → Int32} {f_kinds : Nat → Int32} {f_folded : Nat → Int32} {f_lengths : Nat → Int32} {f_parts : Nat → Int32} {f_rules : Int32} {f_known : Int32} {f_rounds : Nat → Int32} {f_given : Nat → Int32} {f_strata : Nat → Int32} {f_circle : Int32} {f_turns : Int32} {f_needs : Nat → Int32} {f_comes : Nat → Int32} {f_values : Nat → Int32} {f_plain : Nat → Int32} {f_plainCount : Int32} {f_pointers : Nat → Int32} {f_now : Int32} {f_fresh : Nat → Int32} {f_many : Nat → Int32} {f_sums : Nat → Int32} {f_lows : Nat → Int32} {f_highs : Nat → Int32} {f_layed : Int32} {f_worked : Int64} {f_large : Int32} {x1 : Int32} {x2 : Int32} {x3 : Int32} {post : Int → (Int → Int) → (Int → Int) → (Int → Int) → (Int → Int) → Int → Int → Prop} (hw : wpX55_rule post (zF f_heads) (zF f_kinds) (zF f_folded) (zF f_lengths) f_rules.toInt f_known.toInt x1.toInt x2.toInt x3.toInt) :
    Met l yX55_rule (ws_ yX55_rule cX55_rule 4 (some .int)) ({ frames := 1, cells := 0, slots := 0, locals := 20 } : Room) (kPc (dC, dI) cl (tX55 d) [.ref (ad 0), .int x1, .int x2, .int x3] sz (wX55 ci ad d f_said f_heads f_kinds f_folded f_lengths f_parts f_rules f_known f_rounds f_given f_strata f_circle f_turns f_needs f_comes f_values f_plain f_plainCount f_pointers f_now f_fresh f_many f_sums f_lows f_highs f_layed f_worked f_large)) (va_Qi (fun (r : Int32) (u : (Nat → Int32) × (Nat → Int32) × (Nat → Int32) × (Nat → Int32) × Int32 × Int32) => post r.toInt (zF (u.1)) (zF (u.2.1)) (zF (u.2.2.1)) (zF (u.2.2.2.1)) (u.2.2.2.2.1).toInt (u.2.2.2.2.2).toInt) (kB (dC, dI) cl (tX55 d) (va_A (wX55 ci ad d f_said f_heads f_kinds f_folded f_lengths f_parts f_rules f_known f_rounds f_given f_strata f_circle f_turns f_needs f_comes f_values f_plain f_plainCount f_pointers f_now f_fresh f_many f_sums f_lows f_highs f_layed f_worked f_large) sz) (fun u : (Nat → Int32) × (Nat → Int32) × (Nat → Int32) × (Nat → Int32) × Int32 × Int32 => (wX55 ci ad d f_said (u.1) (u.2.1) (u.2.2.1) (u.2.2.2.1) f_parts (u.2.2.2.2.1) (u.2.2.2.2.2) f_rounds f_given f_strata f_circle f_turns f_needs f_comes f_values f_plain f_plainCount f_pointers f_now f_fresh f_many f_sums f_lows f_highs f_layed f_worked f_large))) (va_A (wX55 ci ad d f_said f_heads f_kinds f_folded f_lengths f_parts f_rules f_known f_rounds f_given f_strata f_circle f_turns f_needs f_comes f_values f_plain f_plainCount f_pointers f_now f_fresh f_many f_sums f_lows f_highs f_layed f_worked f_large) sz)) 0 0 (va_A (wX55 ci ad d f_said f_heads f_kinds f_folded f_lengths f_parts f_rules f_known f_rounds f_given f_strata f_circle f_turns f_needs f_comes f_values f_plain f_plainCount f_pointers f_now f_fresh f_many f_sums f_lows f_highs f_layed f_worked f_large) sz) := by
  refine k_enter (by decide) (Nat.le_of_ble_eq_true rfl) ?_
  intro p e s m below meth c ls X hsz hH hl
  subst hsz
  generalize va_A (wX55 ci ad d f_said f_heads f_kinds f_folded f_lengths f_parts f_rules f_known f_rounds f_given f_strata f_circle f_turns f_needs f_comes f_values f_plain f_plainCount f_pointers f_now f_fresh f_many f_sums f_lows f_highs f_layed f_worked f_large) s.heap.size = A at hH ⊢
  have hx := X.1.1
  have hb := X.1.2.1
  have hl : lv_has ls 4 [(0, .ref (ad 0)), (1, .int x1), (2, .int x2), (3, .int x3)] := hl
  unfold wpX55_rule at hw
  refine lv_iload_n hx hb dX55_rule_0 rfl (lv_at hl 1 rfl) ?_
  refine k_i0 hH (k_runS (As := [.int x1]) (rest := []) X hH.1 hH.2.1 X.2.2.2 (walkX55_isName hc (x0 := x1) (f_said := f_said) (f_heads := f_heads) (f_kinds := f_kinds) (f_folded := f_folded) (f_lengths := f_lengths) (f_parts := f_parts) (f_rules := f_rules) (f_known := f_known) (f_rounds := f_rounds) (f_given := f_given) (f_strata := f_strata) (f_circle := f_circle) (f_turns := f_turns) (f_needs := f_needs) (f_comes := f_comes) (f_values := f_values) (f_plain := f_plain) (f_plainCount := f_plainCount) (f_pointers := f_pointers) (f_now := f_now) (f_fresh := f_fresh) (f_many := f_many) (f_sums := f_sums) (f_lows := f_lows) (f_highs := f_highs) (f_layed := f_layed) (f_worked := f_worked) (f_large := f_large) hw) (va_cwS 1 X.1.2.2.2.2 gX55_68 rfl rfl rfl hX55_isName ⟨Nat.le_of_ble_eq_true rfl, Nat.le_of_ble_eq_true rfl⟩) rfl hl.1 rfl (Nat.le_of_ble_eq_true rfl) dX55_rule_1 ⟨Nat.le_refl 0, Nat.le_refl 0⟩) (fun r_1 _ H locs hw hH => ?_)
  have hH : kH (dC, dI) cl A s.heap H locs (wX55 ci ad d f_said f_heads f_kinds f_folded f_lengths f_parts f_rules f_known f_rounds f_given f_strata f_circle f_turns f_needs f_comes f_values f_plain f_plainCount f_pointers f_now f_fresh f_many f_sums f_lows f_highs f_layed f_worked f_large) := hH
  refine lv_if_eq (tgt := 21) hx hb dX55_rule_4 (by decide) (fun c_2 => ?_) (fun c_2 => ?_)
  · have hw := hw.1 (z_eq (rfl : r_1.toInt = _) (rfl : (0 : Int32).toInt = 0) c_2)
    refine lv_iconst (v := (-1)) hx hb dX55_rule_21 (by decide) ?_
    exact k_iret (v := (-1)) X hH (f_heads, f_kinds, f_folded, f_lengths, f_rules, f_known) hw rfl rfl dX55_rule_22
  · have hw := hw.2 (z_neq (rfl : r_1.toInt = _) (rfl : (0 : Int32).toInt = 0) c_2)
    refine lv_iload_n hx hb dX55_rule_7 rfl (lv_at hl 2 rfl) ?_
    refine k_i0 hH (k_runS (As := [.int x2]) (rest := []) X hH.1 hH.2.1 X.2.2.2 (walkX55_isItem hc (x0 := x2) (f_said := f_said) (f_heads := f_heads) (f_kinds := f_kinds) (f_folded := f_folded) (f_lengths := f_lengths) (f_parts := f_parts) (f_rules := f_rules) (f_known := f_known) (f_rounds := f_rounds) (f_given := f_given) (f_strata := f_strata) (f_circle := f_circle) (f_turns := f_turns) (f_needs := f_needs) (f_comes := f_comes) (f_values := f_values) (f_plain := f_plain) (f_plainCount := f_plainCount) (f_pointers := f_pointers) (f_now := f_now) (f_fresh := f_fresh) (f_many := f_many) (f_sums := f_sums) (f_lows := f_lows) (f_highs := f_highs) (f_layed := f_layed) (f_worked := f_worked) (f_large := f_large) hw) (va_cwS 1 X.1.2.2.2.2 gX55_91 rfl rfl rfl hX55_isItem ⟨Nat.le_of_ble_eq_true rfl, Nat.le_of_ble_eq_true rfl⟩) rfl hl.1 rfl (Nat.le_of_ble_eq_true rfl) dX55_rule_8 ⟨Nat.le_refl 0, Nat.le_refl 0⟩) (fun r_3 _ H locs hw hH => ?_)
    have hH : kH (dC, dI) cl A s.heap H locs (wX55 ci ad d f_said f_heads f_kinds f_folded f_lengths f_parts f_rules f_known f_rounds f_given f_strata f_circle f_turns f_needs f_comes f_values f_plain f_plainCount f_pointers f_now f_fresh f_many f_sums f_lows f_highs f_layed f_worked f_large) := hH
    refine lv_if_eq (tgt := 21) hx hb dX55_rule_11 (by decide) (fun c_4 => ?_) (fun c_4 => ?_)
    · have hw := hw.1 (z_eq (rfl : r_3.toInt = _) (rfl : (0 : Int32).toInt = 0) c_4)
      refine lv_iconst (v := (-1)) hx hb dX55_rule_21 (by decide) ?_
      exact k_iret (v := (-1)) X hH (f_heads, f_kinds, f_folded, f_lengths, f_rules, f_known) hw rfl rfl dX55_rule_22
    · have hw := hw.2 (z_neq (rfl : r_3.toInt = _) (rfl : (0 : Int32).toInt = 0) c_4)
      refine lv_iload_n hx hb dX55_rule_14 rfl (lv_at hl 3 rfl) ?_
      refine k_i0 hH (k_runS (As := [.int x3]) (rest := []) X hH.1 hH.2.1 X.2.2.2 (walkX55_isItem hc (x0 := x3) (f_said := f_said) (f_heads := f_heads) (f_kinds := f_kinds) (f_folded := f_folded) (f_lengths := f_lengths) (f_parts := f_parts) (f_rules := f_rules) (f_known := f_known) (f_rounds := f_rounds) (f_given := f_given) (f_strata := f_strata) (f_circle := f_circle) (f_turns := f_turns) (f_needs := f_needs) (f_comes := f_comes) (f_values := f_values) (f_plain := f_plain) (f_plainCount := f_plainCount) (f_pointers := f_pointers) (f_now := f_now) (f_fresh := f_fresh) (f_many := f_many) (f_sums := f_sums) (f_lows := f_lows) (f_highs := f_highs) (f_layed := f_layed) (f_worked := f_worked) (f_large := f_large) hw) (va_cwS 1 X.1.2.2.2.2 gX55_91 rfl rfl rfl hX55_isItem ⟨Nat.le_of_ble_eq_true rfl, Nat.le_of_ble_eq_true rfl⟩) rfl hl.1 rfl (Nat.le_of_ble_eq_true rfl) dX55_rule_15 ⟨Nat.le_refl 0, Nat.le_refl 0⟩) (fun r_5 _ H locs hw hH => ?_)
      have hH : kH (dC, dI) cl A s.heap H locs (wX55 ci ad d f_said f_heads f_kinds f_folded f_lengths f_parts f_rules f_known f_rounds f_given f_strata f_circle f_turns f_needs f_comes f_values f_plain f_plainCount f_pointers f_now f_fresh f_many f_sums f_lows f_highs f_layed f_worked f_large) := hH
      refine lv_if_ne (tgt := 23) hx hb dX55_rule_18 (by decide) (fun c_6 => ?_) (fun c_6 => ?_)
      · have hw := hw.2 (z_ne (rfl : r_5.toInt = _) (rfl : (0 : Int32).toInt = 0) c_6)
        refine lv_aload_n hx hb dX55_rule_23 rfl (lv_at hl 0 rfl) ?_
        refine k_get X hH in_X55 0 rfl hc 6 (by decide) q6582 rfl dX55_rule_24 ?_
        refine lv_bipush (v := 16) hx hb dX55_rule_27 (by decide) ?_
        refine lv_icmp_ne (tgt := 35) hx hb dX55_rule_29 (by decide) (fun c_7 => ?_) (fun c_7 => ?_)
        · have hw := hw.2 (z_ne (rfl : f_rules.toInt = _) (rfl : (16 : Int32).toInt = 16) c_7)
          refine lv_aload_n hx hb dX55_rule_35 rfl (lv_at hl 0 rfl) ?_
          refine k_get X hH in_X55 0 rfl hc 1 (by decide) q6577 rfl dX55_rule_36 ?_
          refine lv_iconst (v := 3) hx hb dX55_rule_39 (by decide) ?_
          refine lv_aload_n hx hb dX55_rule_40 rfl (lv_at hl 0 rfl) ?_
          refine k_get X hH in_X55 0 rfl hc 6 (by decide) q6582 rfl dX55_rule_41 ?_
          refine lv_imul hx hb dX55_rule_44 ?_
          have e_8 := z_mul (z_m (rfl : (3 : Int32).toInt = 3)) (z_m (rfl : f_rules.toInt = _))
          refine lv_iload_n hx hb dX55_rule_45 rfl (lv_at hl 1 rfl) ?_
          have hq_10 := hw.1
          have hw := hw.2
          have e_11 := z_xi e_8 hq_10 (by decide)
          obtain ⟨f_heads_9, ef_heads_9⟩ : ∃ y : Nat → Int32, y = upd f_heads (3 * f_rules).toNatClampNeg x1 := ⟨_, rfl⟩
          refine k_iast X hH 2 1 rfl rfl (z_in e_11 hq_10) dX55_rule_46 ef_heads_9 (ws1 := (wX55 ci ad d f_said f_heads_9 f_kinds f_folded f_lengths f_parts f_rules f_known f_rounds f_given f_strata f_circle f_turns f_needs f_comes f_values f_plain f_plainCount f_pointers f_now f_fresh f_many f_sums f_lows f_highs f_layed f_worked f_large)) rfl (fun H locs hH => ?_)
          have hw := hw (zF f_heads_9) (by rw [ef_heads_9]; exact z_st (f := f_heads) e_11 hq_10.1 (rfl : x1.toInt = _))
          refine lv_aload_n hx hb dX55_rule_47 rfl (lv_at hl 0 rfl) ?_
          refine k_get X hH in_X55 0 rfl hc 1 (by decide) q6577 rfl dX55_rule_48 ?_
          refine lv_iconst (v := 3) hx hb dX55_rule_51 (by decide) ?_
          refine lv_aload_n hx hb dX55_rule_52 rfl (lv_at hl 0 rfl) ?_
          refine k_get X hH in_X55 0 rfl hc 6 (by decide) q6582 rfl dX55_rule_53 ?_
          refine lv_imul hx hb dX55_rule_56 ?_
          have e_12 := z_mul (z_m (rfl : (3 : Int32).toInt = 3)) (z_m (rfl : f_rules.toInt = _))
          refine lv_iconst (v := 1) hx hb dX55_rule_57 (by decide) ?_
          refine lv_iadd hx hb dX55_rule_58 ?_
          have e_13 := z_add e_12 (z_m (rfl : (1 : Int32).toInt = 1))
          refine lv_iload_n hx hb dX55_rule_59 rfl (lv_at hl 2 rfl) ?_
          have hq_15 := hw.1
          have hw := hw.2
          have e_16 := z_xi e_13 hq_15 (by decide)
          obtain ⟨f_heads_14, ef_heads_14⟩ : ∃ y : Nat → Int32, y = upd f_heads_9 ((3 * f_rules) + 1).toNatClampNeg x2 := ⟨_, rfl⟩
          refine k_iast X hH 2 1 rfl rfl (z_in e_16 hq_15) dX55_rule_60 ef_heads_14 (ws1 := (wX55 ci ad d f_said f_heads_14 f_kinds f_folded f_lengths f_parts f_rules f_known f_rounds f_given f_strata f_circle f_turns f_needs f_comes f_values f_plain f_plainCount f_pointers f_now f_fresh f_many f_sums f_lows f_highs f_layed f_worked f_large)) rfl (fun H locs hH => ?_)
          have hw := hw (zF f_heads_14) (by rw [ef_heads_14]; exact z_st (f := f_heads_9) e_16 hq_15.1 (rfl : x2.toInt = _))
          refine lv_aload_n hx hb dX55_rule_61 rfl (lv_at hl 0 rfl) ?_
          refine k_get X hH in_X55 0 rfl hc 1 (by decide) q6577 rfl dX55_rule_62 ?_
          refine lv_iconst (v := 3) hx hb dX55_rule_65 (by decide) ?_
          refine lv_aload_n hx hb dX55_rule_66 rfl (lv_at hl 0 rfl) ?_
          refine k_get X hH in_X55 0 rfl hc 6 (by decide) q6582 rfl dX55_rule_67 ?_
          refine lv_imul hx hb dX55_rule_70 ?_
          have e_17 := z_mul (z_m (rfl : (3 : Int32).toInt = 3)) (z_m (rfl : f_rules.toInt = _))
          refine lv_iconst (v := 2) hx hb dX55_rule_71 (by decide) ?_
          refine lv_iadd hx hb dX55_rule_72 ?_
          have e_18 := z_add e_17 (z_m (rfl : (2 : Int32).toInt = 2))
          refine lv_iload_n hx hb dX55_rule_73 rfl (lv_at hl 3 rfl) ?_
          have hq_20 := hw.1
          have hw := hw.2
          have e_21 := z_xi e_18 hq_20 (by decide)
          obtain ⟨f_heads_19, ef_heads_19⟩ : ∃ y : Nat → Int32, y = upd f_heads_14 ((3 * f_rules) + 2).toNatClampNeg x3 := ⟨_, rfl⟩
          refine k_iast X hH 2 1 rfl rfl (z_in e_21 hq_20) dX55_rule_74 ef_heads_19 (ws1 := (wX55 ci ad d f_said f_heads_19 f_kinds f_folded f_lengths f_parts f_rules f_known f_rounds f_given f_strata f_circle f_turns f_needs f_comes f_values f_plain f_plainCount f_pointers f_now f_fresh f_many f_sums f_lows f_highs f_layed f_worked f_large)) rfl (fun H locs hH => ?_)
          have hw := hw (zF f_heads_19) (by rw [ef_heads_19]; exact z_st (f := f_heads_14) e_21 hq_20.1 (rfl : x3.toInt = _))
          refine lv_aload_n hx hb dX55_rule_75 rfl (lv_at hl 0 rfl) ?_
          refine k_get X hH in_X55 0 rfl hc 2 (by decide) q6578 rfl dX55_rule_76 ?_
          refine lv_aload_n hx hb dX55_rule_79 rfl (lv_at hl 0 rfl) ?_
          refine k_get X hH in_X55 0 rfl hc 6 (by decide) q6582 rfl dX55_rule_80 ?_
          refine lv_iconst (v := (-1)) hx hb dX55_rule_83 (by decide) ?_
          have hq_23 := hw.1
          have hw := hw.2
          obtain ⟨f_kinds_22, ef_kinds_22⟩ : ∃ y : Nat → Int32, y = upd f_kinds f_rules.toNatClampNeg (-1) := ⟨_, rfl⟩
          refine k_iast X hH 3 2 rfl rfl (z_in (rfl : f_rules.toInt = _) hq_23) dX55_rule_84 ef_kinds_22 (ws1 := (wX55 ci ad d f_said f_heads_19 f_kinds_22 f_folded f_lengths f_parts f_rules f_known f_rounds f_given f_strata f_circle f_turns f_needs f_comes f_values f_plain f_plainCount f_pointers f_now f_fresh f_many f_sums f_lows f_highs f_layed f_worked f_large)) rfl (fun H locs hH => ?_)
          have hw := hw (zF f_kinds_22) (by rw [ef_kinds_22]; exact z_st (f := f_kinds) (rfl : f_rules.toInt = _) hq_23.1 (rfl : ((-1) : Int32).toInt = (-1)))
          refine lv_aload_n hx hb dX55_rule_85 rfl (lv_at hl 0 rfl) ?_
          refine k_get X hH in_X55 0 rfl hc 3 (by decide) q6579 rfl dX55_rule_86 ?_
          refine lv_aload_n hx hb dX55_rule_89 rfl (lv_at hl 0 rfl) ?_
          refine k_get X hH in_X55 0 rfl hc 6 (by decide) q6582 rfl dX55_rule_90 ?_
          refine lv_iconst (v := 0) hx hb dX55_rule_93 (by decide) ?_
          obtain ⟨f_folded_24, ef_folded_24⟩ : ∃ y : Nat → Int32, y = upd f_folded f_rules.toNatClampNeg 0 := ⟨_, rfl⟩
          refine k_iast X hH 4 3 rfl rfl (z_in (rfl : f_rules.toInt = _) hq_23) dX55_rule_94 ef_folded_24 (ws1 := (wX55 ci ad d f_said f_heads_19 f_kinds_22 f_folded_24 f_lengths f_parts f_rules f_known f_rounds f_given f_strata f_circle f_turns f_needs f_comes f_values f_plain f_plainCount f_pointers f_now f_fresh f_many f_sums f_lows f_highs f_layed f_worked f_large)) rfl (fun H locs hH => ?_)
          have hw := hw (zF f_folded_24) (by rw [ef_folded_24]; exact z_st (f := f_folded) (rfl : f_rules.toInt = _) hq_23.1 (rfl : (0 : Int32).toInt = 0))
          refine lv_aload_n hx hb dX55_rule_95 rfl (lv_at hl 0 rfl) ?_
          refine k_get X hH in_X55 0 rfl hc 4 (by decide) q6580 rfl dX55_rule_96 ?_
          refine lv_aload_n hx hb dX55_rule_99 rfl (lv_at hl 0 rfl) ?_
          refine k_get X hH in_X55 0 rfl hc 6 (by decide) q6582 rfl dX55_rule_100 ?_
          refine lv_iconst (v := 0) hx hb dX55_rule_103 (by decide) ?_
          obtain ⟨f_lengths_25, ef_lengths_25⟩ : ∃ y : Nat → Int32, y = upd f_lengths f_rules.toNatClampNeg 0 := ⟨_, rfl⟩
          refine k_iast X hH 5 4 rfl rfl (z_in (rfl : f_rules.toInt = _) hq_23) dX55_rule_104 ef_lengths_25 (ws1 := (wX55 ci ad d f_said f_heads_19 f_kinds_22 f_folded_24 f_lengths_25 f_parts f_rules f_known f_rounds f_given f_strata f_circle f_turns f_needs f_comes f_values f_plain f_plainCount f_pointers f_now f_fresh f_many f_sums f_lows f_highs f_layed f_worked f_large)) rfl (fun H locs hH => ?_)
          have hw := hw (zF f_lengths_25) (by rw [ef_lengths_25]; exact z_st (f := f_lengths) (rfl : f_rules.toInt = _) hq_23.1 (rfl : (0 : Int32).toInt = 0))
          refine lv_aload_n hx hb dX55_rule_105 rfl (lv_at hl 0 rfl) ?_
          refine lv_dup hx hb dX55_rule_106 rfl ?_
          refine k_get X hH in_X55 0 rfl hc 6 (by decide) q6582 rfl dX55_rule_107 ?_
          refine lv_iconst (v := 1) hx hb dX55_rule_110 (by decide) ?_
          refine lv_iadd hx hb dX55_rule_111 ?_
          have e_26 := z_add (z_m (rfl : f_rules.toInt = _)) (z_m (rfl : (1 : Int32).toInt = 1))
          have hq_27 := hw.1
          have hw := hw.2
          have e_28 := z_x e_26 hq_27
          refine lv_topi (fun f_rules_29 ef_rules_29 => ?_)
          have hw := hw f_rules_29.toInt (by rw [ef_rules_29]; exact e_28)
          refine k_put X hH in_X55 tyX55_ok nmX55 0 rfl hc 6 (by decide) q6582 rfl (ty := .int) rfl rfl rfl (Nat.le_of_ble_eq_true rfl) dX55_rule_112 (ws1 := (wX55 ci ad d f_said f_heads_19 f_kinds_22 f_folded_24 f_lengths_25 f_parts f_rules_29 f_known f_rounds f_given f_strata f_circle f_turns f_needs f_comes f_values f_plain f_plainCount f_pointers f_now f_fresh f_many f_sums f_lows f_highs f_layed f_worked f_large)) rfl (fun H locs hH => ?_)
          refine lv_aload_n hx hb dX55_rule_115 rfl (lv_at hl 0 rfl) ?_
          refine lv_iconst (v := 0) hx hb dX55_rule_116 (by decide) ?_
          refine k_put X hH in_X55 tyX55_ok nmX55 0 rfl hc 7 (by decide) q6583 rfl (ty := .boolean) rfl rfl rfl (Nat.le_of_ble_eq_true rfl) dX55_rule_117 (ws1 := (wX55 ci ad d f_said f_heads_19 f_kinds_22 f_folded_24 f_lengths_25 f_parts f_rules_29 0 f_rounds f_given f_strata f_circle f_turns f_needs f_comes f_values f_plain f_plainCount f_pointers f_now f_fresh f_many f_sums f_lows f_highs f_layed f_worked f_large)) rfl (fun H locs hH => ?_)
          refine lv_aload_n hx hb dX55_rule_120 rfl (lv_at hl 0 rfl) ?_
          refine k_get X hH in_X55 0 rfl hc 6 (by decide) q6582 rfl dX55_rule_121 ?_
          refine lv_iconst (v := 1) hx hb dX55_rule_124 (by decide) ?_
          refine lv_isub hx hb dX55_rule_125 ?_
          have e_30 := z_sub (z_m (rfl : f_rules_29.toInt = _)) (z_m (rfl : (1 : Int32).toInt = 1))
          have hq_31 := hw.1
          have hw := hw.2
          have e_32 := z_x e_30 hq_31
          exact k_iret (v := f_rules_29 - 1) X hH (f_heads_19, f_kinds_22, f_folded_24, f_lengths_25, f_rules_29, 0) (by rw [show (f_rules_29 - 1 : Int32).toInt = _ from e_32]; exact hw) rfl rfl dX55_rule_126
        · have hw := hw.1 (z_eq (rfl : f_rules.toInt = _) (rfl : (16 : Int32).toInt = 16) c_7)
          refine lv_bipush (v := (-3)) hx hb dX55_rule_32 (by decide) ?_
          exact k_iret (v := (-3)) X hH (f_heads, f_kinds, f_folded, f_lengths, f_rules, f_known) hw rfl rfl dX55_rule_34
      · have hw := hw.1 (z_eq (rfl : r_5.toInt = _) (rfl : (0 : Int32).toInt = 0) c_6)
        refine lv_iconst (v := (-1)) hx hb dX55_rule_21 (by decide) ?_
        exact k_iret (v := (-1)) X hH (f_heads, f_kinds, f_folded, f_lengths, f_rules, f_known) hw rfl rfl dX55_rule_22
set_option maxHeartbeats 4000000 in
theorem walkX55_isRule {l : Launch} {dC : Nat → ClassId} {dI : Nat → Nat → Nat} {cl : List vw_C} {ci : Nat} (hc : cl[ci]? = some (RX55, TX55, 28)) {ad : Nat → Nat} {d : Nat → ClassId} {sz : Nat} {f_said : Nat → Int32} {f_heads : Nat → Int32} {f_kinds : Nat → Int32} {f_folded : Nat → Int32} {f_lengths : Nat → Int32} {f_parts : Nat → Int32} {f_rules : Int32} {f_known : Int32} {f_rounds : Nat → Int32} {f_given : Nat → Int32} {f_strata : Nat → Int32} {f_circle : Int32} {f_turns : Int32} {f_needs : Nat → Int32} {f_comes : Nat → Int32} {f_values : Nat → Int32} {f_plain : Nat → Int32} {f_plainCount : Int32} {f_pointers : Nat → Int32} {f_now : Int32} {f_fresh : Nat → Int32} {f_many : Nat → Int32} {f_sums : Nat → Int32} {f_lows : Nat → Int32} {f_highs : Nat → Int32} {f_layed : Int32} {f_worked : Int64} {f_large : Int32} {x1 : Int32} {post : Int → Prop} (hw : wpX55_isRule post f_rules.toInt x1.toInt) :
    Met l yX55_isRule (ws_ yX55_isRule cX55_isRule 2 (some .boolean)) ({ frames := 0, cells := 0, slots := 0, locals := 0 } : Room) (kPc (dC, dI) cl (tX55 d) [.ref (ad 0), .int x1] sz (wX55 ci ad d f_said f_heads f_kinds f_folded f_lengths f_parts f_rules f_known f_rounds f_given f_strata f_circle f_turns f_needs f_comes f_values f_plain f_plainCount f_pointers f_now f_fresh f_many f_sums f_lows f_highs f_layed f_worked f_large)) (va_Qi (fun (r : Int32) (_ : Unit) => post r.toInt) (kB (dC, dI) cl (tX55 d) (va_A (wX55 ci ad d f_said f_heads f_kinds f_folded f_lengths f_parts f_rules f_known f_rounds f_given f_strata f_circle f_turns f_needs f_comes f_values f_plain f_plainCount f_pointers f_now f_fresh f_many f_sums f_lows f_highs f_layed f_worked f_large) sz) (fun _ : Unit => (wX55 ci ad d f_said f_heads f_kinds f_folded f_lengths f_parts f_rules f_known f_rounds f_given f_strata f_circle f_turns f_needs f_comes f_values f_plain f_plainCount f_pointers f_now f_fresh f_many f_sums f_lows f_highs f_layed f_worked f_large))) (va_A (wX55 ci ad d f_said f_heads f_kinds f_folded f_lengths f_parts f_rules f_known f_rounds f_given f_strata f_circle f_turns f_needs f_comes f_values f_plain f_plainCount f_pointers f_now f_fresh f_many f_sums f_lows f_highs f_layed f_worked f_large) sz)) 0 0 (va_A (wX55 ci ad d f_said f_heads f_kinds f_folded f_lengths f_parts f_rules f_known f_rounds f_given f_strata f_circle f_turns f_needs f_comes f_values f_plain f_plainCount f_pointers f_now f_fresh f_many f_sums f_lows f_highs f_layed f_worked f_large) sz) := by
  refine k_enter (by decide) (Nat.le_of_ble_eq_true rfl) ?_
  intro p e s m below meth c ls X hsz hH hl
  subst hsz
  generalize va_A (wX55 ci ad d f_said f_heads f_kinds f_folded f_lengths f_parts f_rules f_known f_rounds f_given f_strata f_circle f_turns f_needs f_comes f_values f_plain f_plainCount f_pointers f_now f_fresh f_many f_sums f_lows f_highs f_layed f_worked f_large) s.heap.size = A at hH ⊢
  have hx := X.1.1
  have hb := X.1.2.1
  have hl : lv_has ls 2 [(0, .ref (ad 0)), (1, .int x1)] := hl
  unfold wpX55_isRule at hw
  refine lv_iload_n hx hb dX55_isRule_0 rfl (lv_at hl 1 rfl) ?_
  refine lv_if_lt (tgt := 16) hx hb dX55_isRule_1 (by decide) (fun c_1 => ?_) (fun c_1 => ?_)
  · have hw := hw.1 (z_lt (rfl : x1.toInt = _) (rfl : (0 : Int32).toInt = 0) c_1)
    refine lv_iconst (v := 0) hx hb dX55_isRule_16 (by decide) ?_
    exact k_iret (v := 0) X hH () hw rfl rfl dX55_isRule_17
  · have hw := hw.2 (z_nlt (rfl : x1.toInt = _) (rfl : (0 : Int32).toInt = 0) c_1)
    refine lv_iload_n hx hb dX55_isRule_4 rfl (lv_at hl 1 rfl) ?_
    refine lv_aload_n hx hb dX55_isRule_5 rfl (lv_at hl 0 rfl) ?_
    refine k_get X hH in_X55 0 rfl hc 6 (by decide) q6582 rfl dX55_isRule_6 ?_
    refine lv_icmp_ge (tgt := 16) hx hb dX55_isRule_9 (by decide) (fun c_2 => ?_) (fun c_2 => ?_)
    · have hw := hw.1 (z_le (rfl : f_rules.toInt = _) (rfl : x1.toInt = _) c_2)
      refine lv_iconst (v := 0) hx hb dX55_isRule_16 (by decide) ?_
      exact k_iret (v := 0) X hH () hw rfl rfl dX55_isRule_17
    · have hw := hw.2 (z_nle (rfl : f_rules.toInt = _) (rfl : x1.toInt = _) c_2)
      refine lv_iconst (v := 1) hx hb dX55_isRule_12 (by decide) ?_
      refine lv_goto (tgt := 17) hx hb dX55_isRule_13 (by decide) ?_
      exact k_iret (v := 1) X hH () hw rfl rfl dX55_isRule_17
set_option maxHeartbeats 4000000 in
theorem walkX55_part {l : Launch} {dC : Nat → ClassId} {dI : Nat → Nat → Nat} {cl : List vw_C} {ci : Nat} (hc : cl[ci]? = some (RX55, TX55, 28)) {ad : Nat → Nat} {d : Nat → ClassId} {sz : Nat} {f_said : Nat → Int32} {f_heads : Nat → Int32} {f_kinds : Nat → Int32} {f_folded : Nat → Int32} {f_lengths : Nat → Int32} {f_parts : Nat → Int32} {f_rules : Int32} {f_known : Int32} {f_rounds : Nat → Int32} {f_given : Nat → Int32} {f_strata : Nat → Int32} {f_circle : Int32} {f_turns : Int32} {f_needs : Nat → Int32} {f_comes : Nat → Int32} {f_values : Nat → Int32} {f_plain : Nat → Int32} {f_plainCount : Int32} {f_pointers : Nat → Int32} {f_now : Int32} {f_fresh : Nat → Int32} {f_many : Nat → Int32} {f_sums : Nat → Int32} {f_lows : Nat → Int32} {f_highs : Nat → Int32} {f_layed : Int32} {f_worked : Int64} {f_large : Int32} {x1 : Int32} {x2 : Int32} {x3 : Int32} {x4 : Int32} {x5 : Int32} {post : Int → (Int → Int) → (Int → Int) → Int → Prop} (hw : wpX55_part post (zF f_lengths) (zF f_parts) f_known.toInt x1.toInt x2.toInt x3.toInt x4.toInt x5.toInt) :
    Met l yX55_part (ws_ yX55_part cX55_part 7 (some .int)) ({ frames := 0, cells := 0, slots := 0, locals := 0 } : Room) (kPc (dC, dI) cl (tX55 d) [.ref (ad 0), .int x1, .int x2, .int x3, .int x4, .int x5] sz (wX55 ci ad d f_said f_heads f_kinds f_folded f_lengths f_parts f_rules f_known f_rounds f_given f_strata f_circle f_turns f_needs f_comes f_values f_plain f_plainCount f_pointers f_now f_fresh f_many f_sums f_lows f_highs f_layed f_worked f_large)) (va_Qi (fun (r : Int32) (u : (Nat → Int32) × (Nat → Int32) × Int32) => post r.toInt (zF (u.1)) (zF (u.2.1)) (u.2.2).toInt) (kB (dC, dI) cl (tX55 d) (va_A (wX55 ci ad d f_said f_heads f_kinds f_folded f_lengths f_parts f_rules f_known f_rounds f_given f_strata f_circle f_turns f_needs f_comes f_values f_plain f_plainCount f_pointers f_now f_fresh f_many f_sums f_lows f_highs f_layed f_worked f_large) sz) (fun u : (Nat → Int32) × (Nat → Int32) × Int32 => (wX55 ci ad d f_said f_heads f_kinds f_folded (u.1) (u.2.1) f_rules (u.2.2) f_rounds f_given f_strata f_circle f_turns f_needs f_comes f_values f_plain f_plainCount f_pointers f_now f_fresh f_many f_sums f_lows f_highs f_layed f_worked f_large))) (va_A (wX55 ci ad d f_said f_heads f_kinds f_folded f_lengths f_parts f_rules f_known f_rounds f_given f_strata f_circle f_turns f_needs f_comes f_values f_plain f_plainCount f_pointers f_now f_fresh f_many f_sums f_lows f_highs f_layed f_worked f_large) sz)) 0 0 (va_A (wX55 ci ad d f_said f_heads f_kinds f_folded f_lengths f_parts f_rules f_known f_rounds f_given f_strata f_circle f_turns f_needs f_comes f_values f_plain f_plainCount f_pointers f_now f_fresh f_many f_sums f_lows f_highs f_layed f_worked f_large) sz) := by
  refine k_enter (by decide) (Nat.le_of_ble_eq_true rfl) ?_
  intro p e s m below meth c ls X hsz hH hl
  subst hsz
  generalize va_A (wX55 ci ad d f_said f_heads f_kinds f_folded f_lengths f_parts f_rules f_known f_rounds f_given f_strata f_circle f_turns f_needs f_comes f_values f_plain f_plainCount f_pointers f_now f_fresh f_many f_sums f_lows f_highs f_layed f_worked f_large) s.heap.size = A at hH ⊢
  have hx := X.1.1
  have hb := X.1.2.1
  have hl : lv_has ls 7 [(0, .ref (ad 0)), (1, .int x1), (2, .int x2), (3, .int x3), (4, .int x4), (5, .int x5)] := hl
  unfold wpX55_part at hw
  refine lv_aload_n hx hb dX55_part_0 rfl (lv_at hl 0 rfl) ?_
  refine k_get X hH in_X55 0 rfl hc 4 (by decide) q6580 rfl dX55_part_1 ?_
  refine lv_iload_n hx hb dX55_part_4 rfl (lv_at hl 1 rfl) ?_
  have hq_1 := hw.1
  have hw := hw.2
  refine k_iald X hH 5 4 rfl rfl (z_in (rfl : x1.toInt = _) hq_1) dX55_part_5 ?_
  have e_2 := z_ld (f := f_lengths) (rfl : x1.toInt = _) hq_1.1
  refine lv_iconst (v := 5) hx hb dX55_part_6 (by decide) ?_
  refine lv_icmp_ne (tgt := 13) hx hb dX55_part_7 (by decide) (fun c_3 => ?_) (fun c_3 => ?_)
  · have hw := hw.2 (z_ne e_2 (rfl : (5 : Int32).toInt = 5) c_3)
    refine lv_bipush (v := 20) hx hb dX55_part_13 (by decide) ?_
    refine lv_iload_n hx hb dX55_part_15 rfl (lv_at hl 1 rfl) ?_
    refine lv_imul hx hb dX55_part_16 ?_
    have e_4 := z_mul (z_m (rfl : (20 : Int32).toInt = 20)) (z_m (rfl : x1.toInt = _))
    refine lv_iconst (v := 4) hx hb dX55_part_17 (by decide) ?_
    refine lv_aload_n hx hb dX55_part_18 rfl (lv_at hl 0 rfl) ?_
    refine k_get X hH in_X55 0 rfl hc 4 (by decide) q6580 rfl dX55_part_19 ?_
    refine lv_iload_n hx hb dX55_part_22 rfl (lv_at hl 1 rfl) ?_
    refine k_iald X hH 5 4 rfl rfl (z_in (rfl : x1.toInt = _) hq_1) dX55_part_23 ?_
    have e_5 := z_ld (f := f_lengths) (rfl : x1.toInt = _) hq_1.1
    refine lv_imul hx hb dX55_part_24 ?_
    have e_6 := z_mul (z_m (rfl : (4 : Int32).toInt = 4)) (z_m e_5)
    refine lv_iadd hx hb dX55_part_25 ?_
    have e_7 := z_add e_4 e_6
    have hq_8 := hw.1
    have hw := hw.2
    have e_9 := z_x e_7 hq_8
    refine lv_topi (fun x6_10 ex6_10 => ?_)
    have hw := hw x6_10.toInt (by rw [ex6_10]; exact e_9)
    refine lv_istore (lv' := [(6, .int x6_10), (0, .ref (ad 0)), (1, .int x1), (2, .int x2), (3, .int x3), (4, .int x4), (5, .int x5)]) hx hb dX55_part_26 hl (by decide) rfl (fun ls hl => ?_)
    refine lv_aload_n hx hb dX55_part_28 rfl (lv_at hl 1 rfl) ?_
    refine k_get X hH in_X55 0 rfl hc 5 (by decide) q6581 rfl dX55_part_29 ?_
    refine lv_iload hx hb dX55_part_32 (lv_at hl 0 rfl) ?_
    refine lv_iload_n hx hb dX55_part_34 rfl (lv_at hl 3 rfl) ?_
    have hq_12 := hw.1
    have hw := hw.2
    obtain ⟨f_parts_11, ef_parts_11⟩ : ∃ y : Nat → Int32, y = upd f_parts x6_10.toNatClampNeg x2 := ⟨_, rfl⟩
    refine k_iast X hH 6 5 rfl rfl (z_in (rfl : x6_10.toInt = _) hq_12) dX55_part_35 ef_parts_11 (ws1 := (wX55 ci ad d f_said f_heads f_kinds f_folded f_lengths f_parts_11 f_rules f_known f_rounds f_given f_strata f_circle f_turns f_needs f_comes f_values f_plain f_plainCount f_pointers f_now f_fresh f_many f_sums f_lows f_highs f_layed f_worked f_large)) rfl (fun H locs hH => ?_)
    have hw := hw (zF f_parts_11) (by rw [ef_parts_11]; exact z_st (f := f_parts) (rfl : x6_10.toInt = _) hq_12.1 (rfl : x2.toInt = _))
    refine lv_aload_n hx hb dX55_part_36 rfl (lv_at hl 1 rfl) ?_
    refine k_get X hH in_X55 0 rfl hc 5 (by decide) q6581 rfl dX55_part_37 ?_
    refine lv_iload hx hb dX55_part_40 (lv_at hl 0 rfl) ?_
    refine lv_iconst (v := 1) hx hb dX55_part_42 (by decide) ?_
    refine lv_iadd hx hb dX55_part_43 ?_
    have e_13 := z_add (z_m (rfl : x6_10.toInt = _)) (z_m (rfl : (1 : Int32).toInt = 1))
    refine lv_iload_n hx hb dX55_part_44 rfl (lv_at hl 4 rfl) ?_
    have hq_15 := hw.1
    have hw := hw.2
    have e_16 := z_xi e_13 hq_15 (by decide)
    obtain ⟨f_parts_14, ef_parts_14⟩ : ∃ y : Nat → Int32, y = upd f_parts_11 (x6_10 + 1).toNatClampNeg x3 := ⟨_, rfl⟩
    refine k_iast X hH 6 5 rfl rfl (z_in e_16 hq_15) dX55_part_45 ef_parts_14 (ws1 := (wX55 ci ad d f_said f_heads f_kinds f_folded f_lengths f_parts_14 f_rules f_known f_rounds f_given f_strata f_circle f_turns f_needs f_comes f_values f_plain f_plainCount f_pointers f_now f_fresh f_many f_sums f_lows f_highs f_layed f_worked f_large)) rfl (fun H locs hH => ?_)
    have hw := hw (zF f_parts_14) (by rw [ef_parts_14]; exact z_st (f := f_parts_11) e_16 hq_15.1 (rfl : x3.toInt = _))
    refine lv_aload_n hx hb dX55_part_46 rfl (lv_at hl 1 rfl) ?_
    refine k_get X hH in_X55 0 rfl hc 5 (by decide) q6581 rfl dX55_part_47 ?_
    refine lv_iload hx hb dX55_part_50 (lv_at hl 0 rfl) ?_
    refine lv_iconst (v := 2) hx hb dX55_part_52 (by decide) ?_
    refine lv_iadd hx hb dX55_part_53 ?_
    have e_17 := z_add (z_m (rfl : x6_10.toInt = _)) (z_m (rfl : (2 : Int32).toInt = 2))
    refine lv_iload hx hb dX55_part_54 (lv_at hl 5 rfl) ?_
    have hq_19 := hw.1
    have hw := hw.2
    have e_20 := z_xi e_17 hq_19 (by decide)
    obtain ⟨f_parts_18, ef_parts_18⟩ : ∃ y : Nat → Int32, y = upd f_parts_14 (x6_10 + 2).toNatClampNeg x4 := ⟨_, rfl⟩
    refine k_iast X hH 6 5 rfl rfl (z_in e_20 hq_19) dX55_part_56 ef_parts_18 (ws1 := (wX55 ci ad d f_said f_heads f_kinds f_folded f_lengths f_parts_18 f_rules f_known f_rounds f_given f_strata f_circle f_turns f_needs f_comes f_values f_plain f_plainCount f_pointers f_now f_fresh f_many f_sums f_lows f_highs f_layed f_worked f_large)) rfl (fun H locs hH => ?_)
    have hw := hw (zF f_parts_18) (by rw [ef_parts_18]; exact z_st (f := f_parts_14) e_20 hq_19.1 (rfl : x4.toInt = _))
    refine lv_aload_n hx hb dX55_part_57 rfl (lv_at hl 1 rfl) ?_
    refine k_get X hH in_X55 0 rfl hc 5 (by decide) q6581 rfl dX55_part_58 ?_
    refine lv_iload hx hb dX55_part_61 (lv_at hl 0 rfl) ?_
    refine lv_iconst (v := 3) hx hb dX55_part_63 (by decide) ?_
    refine lv_iadd hx hb dX55_part_64 ?_
    have e_21 := z_add (z_m (rfl : x6_10.toInt = _)) (z_m (rfl : (3 : Int32).toInt = 3))
    refine lv_iload hx hb dX55_part_65 (lv_at hl 6 rfl) ?_
    have hq_23 := hw.1
    have hw := hw.2
    have e_24 := z_xi e_21 hq_23 (by decide)
    obtain ⟨f_parts_22, ef_parts_22⟩ : ∃ y : Nat → Int32, y = upd f_parts_18 (x6_10 + 3).toNatClampNeg x5 := ⟨_, rfl⟩
    refine k_iast X hH 6 5 rfl rfl (z_in e_24 hq_23) dX55_part_67 ef_parts_22 (ws1 := (wX55 ci ad d f_said f_heads f_kinds f_folded f_lengths f_parts_22 f_rules f_known f_rounds f_given f_strata f_circle f_turns f_needs f_comes f_values f_plain f_plainCount f_pointers f_now f_fresh f_many f_sums f_lows f_highs f_layed f_worked f_large)) rfl (fun H locs hH => ?_)
    have hw := hw (zF f_parts_22) (by rw [ef_parts_22]; exact z_st (f := f_parts_18) e_24 hq_23.1 (rfl : x5.toInt = _))
    refine lv_aload_n hx hb dX55_part_68 rfl (lv_at hl 1 rfl) ?_
    refine k_get X hH in_X55 0 rfl hc 4 (by decide) q6580 rfl dX55_part_69 ?_
    refine lv_iload_n hx hb dX55_part_72 rfl (lv_at hl 2 rfl) ?_
    refine lv_dup2_11 hx hb dX55_part_73 rfl rfl ?_
    refine k_iald X hH 5 4 rfl rfl (z_in (rfl : x1.toInt = _) hq_1) dX55_part_74 ?_
    have e_25 := z_ld (f := f_lengths) (rfl : x1.toInt = _) hq_1.1
    refine lv_iconst (v := 1) hx hb dX55_part_75 (by decide) ?_
    refine lv_iadd hx hb dX55_part_76 ?_
    have e_26 := z_add (z_m e_25) (z_m (rfl : (1 : Int32).toInt = 1))
    have hq_27 := hw.1
    have hw := hw.2
    have e_28 := z_x e_26 hq_27
    refine lv_topi (fun v_29 ev_29 => ?_)
    have hw := hw v_29.toInt (by rw [ev_29]; exact e_28)
    obtain ⟨f_lengths_30, ef_lengths_30⟩ : ∃ y : Nat → Int32, y = upd f_lengths x1.toNatClampNeg v_29 := ⟨_, rfl⟩
    refine k_iast X hH 5 4 rfl rfl (z_in (rfl : x1.toInt = _) hq_1) dX55_part_77 ef_lengths_30 (ws1 := (wX55 ci ad d f_said f_heads f_kinds f_folded f_lengths_30 f_parts_22 f_rules f_known f_rounds f_given f_strata f_circle f_turns f_needs f_comes f_values f_plain f_plainCount f_pointers f_now f_fresh f_many f_sums f_lows f_highs f_layed f_worked f_large)) rfl (fun H locs hH => ?_)
    have hw := hw (zF f_lengths_30) (by rw [ef_lengths_30]; exact z_st (f := f_lengths) (rfl : x1.toInt = _) hq_1.1 (rfl : v_29.toInt = _))
    refine lv_aload_n hx hb dX55_part_78 rfl (lv_at hl 1 rfl) ?_
    refine lv_iconst (v := 0) hx hb dX55_part_79 (by decide) ?_
    refine k_put X hH in_X55 tyX55_ok nmX55 0 rfl hc 7 (by decide) q6583 rfl (ty := .boolean) rfl rfl rfl (Nat.le_of_ble_eq_true rfl) dX55_part_80 (ws1 := (wX55 ci ad d f_said f_heads f_kinds f_folded f_lengths_30 f_parts_22 f_rules 0 f_rounds f_given f_strata f_circle f_turns f_needs f_comes f_values f_plain f_plainCount f_pointers f_now f_fresh f_many f_sums f_lows f_highs f_layed f_worked f_large)) rfl (fun H locs hH => ?_)
    refine lv_aload_n hx hb dX55_part_83 rfl (lv_at hl 1 rfl) ?_
    refine k_get X hH in_X55 0 rfl hc 4 (by decide) q6580 rfl dX55_part_84 ?_
    refine lv_iload_n hx hb dX55_part_87 rfl (lv_at hl 2 rfl) ?_
    refine k_iald X hH 5 4 rfl rfl (z_in (rfl : x1.toInt = _) hq_1) dX55_part_88 ?_
    have e_31 := z_ld (f := f_lengths_30) (rfl : x1.toInt = _) hq_1.1
    exact k_iret (v := f_lengths_30 x1.toNatClampNeg) X hH (f_lengths_30, f_parts_22, 0) (by rw [show (f_lengths_30 x1.toNatClampNeg : Int32).toInt = _ from e_31]; exact hw) rfl rfl dX55_part_89
  · have hw := hw.1 (z_eq e_2 (rfl : (5 : Int32).toInt = 5) c_3)
    refine lv_bipush (v := (-3)) hx hb dX55_part_10 (by decide) ?_
    exact k_iret (v := (-3)) X hH (f_lengths, f_parts, f_known) hw rfl rfl dX55_part_12
set_option maxHeartbeats 4000000 in
theorem walkX55_body {l : Launch} {dC : Nat → ClassId} {dI : Nat → Nat → Nat} {cl : List vw_C} {ci : Nat} (hc : cl[ci]? = some (RX55, TX55, 28)) {ad : Nat → Nat} {d : Nat → ClassId} {sz : Nat} {f_said : Nat → Int32} {f_heads : Nat → Int32} {f_kinds : Nat → Int32} {f_folded : Nat → Int32} {f_lengths : Nat → Int32} {f_parts : Nat → Int32} {f_rules : Int32} {f_known : Int32} {f_rounds : Nat → Int32} {f_given : Nat → Int32} {f_strata : Nat → Int32} {f_circle : Int32} {f_turns : Int32} {f_needs : Nat → Int32} {f_comes : Nat → Int32} {f_values : Nat → Int32} {f_plain : Nat → Int32} {f_plainCount : Int32} {f_pointers : Nat → Int32} {f_now : Int32} {f_fresh : Nat → Int32} {f_many : Nat → Int32} {f_sums : Nat → Int32} {f_lows : Nat → Int32} {f_highs : Nat → Int32} {f_layed : Int32} {f_worked : Int64} {f_large : Int32} {x1 : Int32} {x2 : Int32} {x3 : Int32} {x4 : Int32} {x5 : Int32} {post : Int → (Int → Int) → (Int → Int) → Int → Prop} (hw : wpX55_body post (zF f_lengths) (zF f_parts) f_rules.toInt f_known.toInt x1.toInt x2.toInt x3.toInt x4.toInt x5.toInt) :
    Met l yX55_body (ws_ yX55_body cX55_body 6 (some .int)) ({ frames := 1, cells := 0, slots := 0, locals := 26 } : Room) (kPc (dC, dI) cl (tX55 d) [.ref (ad 0), .int x1, .int x2, .int x3, .int x4, .int x5] sz (wX55 ci ad d f_said f_heads f_kinds f_folded f_lengths f_parts f_rules f_known f_rounds f_given f_strata f_circle f_turns f_needs f_comes f_values f_plain f_plainCount f_pointers f_now f_fresh f_many f_sums f_lows f_highs f_layed f_worked f_large)) (va_Qi (fun (r : Int32) (u : (Nat → Int32) × (Nat → Int32) × Int32) => post r.toInt (zF (u.1)) (zF (u.2.1)) (u.2.2).toInt) (kB (dC, dI) cl (tX55 d) (va_A (wX55 ci ad d f_said f_heads f_kinds f_folded f_lengths f_parts f_rules f_known f_rounds f_given f_strata f_circle f_turns f_needs f_comes f_values f_plain f_plainCount f_pointers f_now f_fresh f_many f_sums f_lows f_highs f_layed f_worked f_large) sz) (fun u : (Nat → Int32) × (Nat → Int32) × Int32 => (wX55 ci ad d f_said f_heads f_kinds f_folded (u.1) (u.2.1) f_rules (u.2.2) f_rounds f_given f_strata f_circle f_turns f_needs f_comes f_values f_plain f_plainCount f_pointers f_now f_fresh f_many f_sums f_lows f_highs f_layed f_worked f_large))) (va_A (wX55 ci ad d f_said f_heads f_kinds f_folded f_lengths f_parts f_rules f_known f_rounds f_given f_strata f_circle f_turns f_needs f_comes f_values f_plain f_plainCount f_pointers f_now f_fresh f_many f_sums f_lows f_highs f_layed f_worked f_large) sz)) 0 0 (va_A (wX55 ci ad d f_said f_heads f_kinds f_folded f_lengths f_parts f_rules f_known f_rounds f_given f_strata f_circle f_turns f_needs f_comes f_values f_plain f_plainCount f_pointers f_now f_fresh f_many f_sums f_lows f_highs f_layed f_worked f_large) sz) := by
  refine k_enter (by decide) (Nat.le_of_ble_eq_true rfl) ?_
  intro p e s m below meth c ls X hsz hH hl
  subst hsz
  generalize va_A (wX55 ci ad d f_said f_heads f_kinds f_folded f_lengths f_parts f_rules f_known f_rounds f_given f_strata f_circle f_turns f_needs f_comes f_values f_plain f_plainCount f_pointers f_now f_fresh f_many f_sums f_lows f_highs f_layed f_worked f_large) s.heap.size = A at hH ⊢
  have hx := X.1.1
  have hb := X.1.2.1
  have hl : lv_has ls 6 [(0, .ref (ad 0)), (1, .int x1), (2, .int x2), (3, .int x3), (4, .int x4), (5, .int x5)] := hl
  unfold wpX55_body at hw
  refine lv_aload_n hx hb dX55_body_0 rfl (lv_at hl 0 rfl) ?_
  refine lv_iload_n hx hb dX55_body_1 rfl (lv_at hl 1 rfl) ?_
  refine k_i0 hH (k_runV (As := [.int x1]) (rest := []) X hH.1 hH.2.1 X.2.2.2 (walkX55_isRule hc (x1 := x1) (f_said := f_said) (f_heads := f_heads) (f_kinds := f_kinds) (f_folded := f_folded) (f_lengths := f_lengths) (f_parts := f_parts) (f_rules := f_rules) (f_known := f_known) (f_rounds := f_rounds) (f_given := f_given) (f_strata := f_strata) (f_circle := f_circle) (f_turns := f_turns) (f_needs := f_needs) (f_comes := f_comes) (f_values := f_values) (f_plain := f_plain) (f_plainCount := f_plainCount) (f_pointers := f_pointers) (f_now := f_now) (f_fresh := f_fresh) (f_many := f_many) (f_sums := f_sums) (f_lows := f_lows) (f_highs := f_highs) (f_layed := f_layed) (f_worked := f_worked) (f_large := f_large) hw) (cwV 1 X.1.2.2.2.2 gX55_94 rfl rfl rfl hX55_isRule ⟨Nat.le_of_ble_eq_true rfl, Nat.le_of_ble_eq_true rfl⟩) hc (q0 := 0) rfl rfl hl.1 rfl (Nat.le_of_ble_eq_true rfl) dX55_body_2 ⟨Nat.le_refl 0, Nat.le_refl 0⟩) (fun r_1 _ H locs hw hH => ?_)
  have hH : kH (dC, dI) cl A s.heap H locs (wX55 ci ad d f_said f_heads f_kinds f_folded f_lengths f_parts f_rules f_known f_rounds f_given f_strata f_circle f_turns f_needs f_comes f_values f_plain f_plainCount f_pointers f_now f_fresh f_many f_sums f_lows f_highs f_layed f_worked f_large) := hH
  refine lv_if_eq (tgt := 52) hx hb dX55_body_5 (by decide) (fun c_2 => ?_) (fun c_2 => ?_)
  · have hw := hw.1 (z_eq (rfl : r_1.toInt = _) (rfl : (0 : Int32).toInt = 0) c_2)
    refine lv_iconst (v := (-1)) hx hb dX55_body_52 (by decide) ?_
    exact k_iret (v := (-1)) X hH (f_lengths, f_parts, f_known) hw rfl rfl dX55_body_53
  · have hw := hw.2 (z_neq (rfl : r_1.toInt = _) (rfl : (0 : Int32).toInt = 0) c_2)
    refine lv_iload_n hx hb dX55_body_8 rfl (lv_at hl 2 rfl) ?_
    refine k_i0 hH (k_runS (As := [.int x2]) (rest := []) X hH.1 hH.2.1 X.2.2.2 (walkX55_isName hc (x0 := x2) (f_said := f_said) (f_heads := f_heads) (f_kinds := f_kinds) (f_folded := f_folded) (f_lengths := f_lengths) (f_parts := f_parts) (f_rules := f_rules) (f_known := f_known) (f_rounds := f_rounds) (f_given := f_given) (f_strata := f_strata) (f_circle := f_circle) (f_turns := f_turns) (f_needs := f_needs) (f_comes := f_comes) (f_values := f_values) (f_plain := f_plain) (f_plainCount := f_plainCount) (f_pointers := f_pointers) (f_now := f_now) (f_fresh := f_fresh) (f_many := f_many) (f_sums := f_sums) (f_lows := f_lows) (f_highs := f_highs) (f_layed := f_layed) (f_worked := f_worked) (f_large := f_large) hw) (va_cwS 1 X.1.2.2.2.2 gX55_68 rfl rfl rfl hX55_isName ⟨Nat.le_of_ble_eq_true rfl, Nat.le_of_ble_eq_true rfl⟩) rfl hl.1 rfl (Nat.le_of_ble_eq_true rfl) dX55_body_9 ⟨Nat.le_refl 0, Nat.le_refl 0⟩) (fun r_3 _ H locs hw hH => ?_)
    have hH : kH (dC, dI) cl A s.heap H locs (wX55 ci ad d f_said f_heads f_kinds f_folded f_lengths f_parts f_rules f_known f_rounds f_given f_strata f_circle f_turns f_needs f_comes f_values f_plain f_plainCount f_pointers f_now f_fresh f_many f_sums f_lows f_highs f_layed f_worked f_large) := hH
    refine lv_if_eq (tgt := 52) hx hb dX55_body_12 (by decide) (fun c_4 => ?_) (fun c_4 => ?_)
    · have hw := hw.1 (z_eq (rfl : r_3.toInt = _) (rfl : (0 : Int32).toInt = 0) c_4)
      refine lv_iconst (v := (-1)) hx hb dX55_body_52 (by decide) ?_
      exact k_iret (v := (-1)) X hH (f_lengths, f_parts, f_known) hw rfl rfl dX55_body_53
    · have hw := hw.2 (z_neq (rfl : r_3.toInt = _) (rfl : (0 : Int32).toInt = 0) c_4)
      refine lv_iload_n hx hb dX55_body_15 rfl (lv_at hl 3 rfl) ?_
      refine k_i0 hH (k_runS (As := [.int x3]) (rest := []) X hH.1 hH.2.1 X.2.2.2 (walkX55_isItem hc (x0 := x3) (f_said := f_said) (f_heads := f_heads) (f_kinds := f_kinds) (f_folded := f_folded) (f_lengths := f_lengths) (f_parts := f_parts) (f_rules := f_rules) (f_known := f_known) (f_rounds := f_rounds) (f_given := f_given) (f_strata := f_strata) (f_circle := f_circle) (f_turns := f_turns) (f_needs := f_needs) (f_comes := f_comes) (f_values := f_values) (f_plain := f_plain) (f_plainCount := f_plainCount) (f_pointers := f_pointers) (f_now := f_now) (f_fresh := f_fresh) (f_many := f_many) (f_sums := f_sums) (f_lows := f_lows) (f_highs := f_highs) (f_layed := f_layed) (f_worked := f_worked) (f_large := f_large) hw) (va_cwS 1 X.1.2.2.2.2 gX55_91 rfl rfl rfl hX55_isItem ⟨Nat.le_of_ble_eq_true rfl, Nat.le_of_ble_eq_true rfl⟩) rfl hl.1 rfl (Nat.le_of_ble_eq_true rfl) dX55_body_16 ⟨Nat.le_refl 0, Nat.le_refl 0⟩) (fun r_5 _ H locs hw hH => ?_)
      have hH : kH (dC, dI) cl A s.heap H locs (wX55 ci ad d f_said f_heads f_kinds f_folded f_lengths f_parts f_rules f_known f_rounds f_given f_strata f_circle f_turns f_needs f_comes f_values f_plain f_plainCount f_pointers f_now f_fresh f_many f_sums f_lows f_highs f_layed f_worked f_large) := hH
      refine lv_if_eq (tgt := 52) hx hb dX55_body_19 (by decide) (fun c_6 => ?_) (fun c_6 => ?_)
      · have hw := hw.1 (z_eq (rfl : r_5.toInt = _) (rfl : (0 : Int32).toInt = 0) c_6)
        refine lv_iconst (v := (-1)) hx hb dX55_body_52 (by decide) ?_
        exact k_iret (v := (-1)) X hH (f_lengths, f_parts, f_known) hw rfl rfl dX55_body_53
      · have hw := hw.2 (z_neq (rfl : r_5.toInt = _) (rfl : (0 : Int32).toInt = 0) c_6)
        refine lv_iload hx hb dX55_body_22 (lv_at hl 4 rfl) ?_
        refine k_i0 hH (k_runS (As := [.int x4]) (rest := []) X hH.1 hH.2.1 X.2.2.2 (walkX55_isItem hc (x0 := x4) (f_said := f_said) (f_heads := f_heads) (f_kinds := f_kinds) (f_folded := f_folded) (f_lengths := f_lengths) (f_parts := f_parts) (f_rules := f_rules) (f_known := f_known) (f_rounds := f_rounds) (f_given := f_given) (f_strata := f_strata) (f_circle := f_circle) (f_turns := f_turns) (f_needs := f_needs) (f_comes := f_comes) (f_values := f_values) (f_plain := f_plain) (f_plainCount := f_plainCount) (f_pointers := f_pointers) (f_now := f_now) (f_fresh := f_fresh) (f_many := f_many) (f_sums := f_sums) (f_lows := f_lows) (f_highs := f_highs) (f_layed := f_layed) (f_worked := f_worked) (f_large := f_large) hw) (va_cwS 1 X.1.2.2.2.2 gX55_91 rfl rfl rfl hX55_isItem ⟨Nat.le_of_ble_eq_true rfl, Nat.le_of_ble_eq_true rfl⟩) rfl hl.1 rfl (Nat.le_of_ble_eq_true rfl) dX55_body_24 ⟨Nat.le_refl 0, Nat.le_refl 0⟩) (fun r_7 _ H locs hw hH => ?_)
        have hH : kH (dC, dI) cl A s.heap H locs (wX55 ci ad d f_said f_heads f_kinds f_folded f_lengths f_parts f_rules f_known f_rounds f_given f_strata f_circle f_turns f_needs f_comes f_values f_plain f_plainCount f_pointers f_now f_fresh f_many f_sums f_lows f_highs f_layed f_worked f_large) := hH
        refine lv_if_eq (tgt := 52) hx hb dX55_body_27 (by decide) (fun c_8 => ?_) (fun c_8 => ?_)
        · have hw := hw.1 (z_eq (rfl : r_7.toInt = _) (rfl : (0 : Int32).toInt = 0) c_8)
          refine lv_iconst (v := (-1)) hx hb dX55_body_52 (by decide) ?_
          exact k_iret (v := (-1)) X hH (f_lengths, f_parts, f_known) hw rfl rfl dX55_body_53
        · have hw := hw.2 (z_neq (rfl : r_7.toInt = _) (rfl : (0 : Int32).toInt = 0) c_8)
          refine lv_aload_n hx hb dX55_body_30 rfl (lv_at hl 0 rfl) ?_
          refine lv_iload_n hx hb dX55_body_31 rfl (lv_at hl 1 rfl) ?_
          refine lv_iload hx hb dX55_body_32 (lv_at hl 5 rfl) ?_
          refine lv_if_eq (tgt := 41) hx hb dX55_body_34 (by decide) (fun c_9 => ?_) (fun c_9 => ?_)
          · have hw := hw.1 (z_eq (rfl : x5.toInt = _) (rfl : (0 : Int32).toInt = 0) c_9)
            refine lv_iconst (v := 0) hx hb dX55_body_41 (by decide) ?_
            refine lv_iload_n hx hb dX55_body_42 rfl (lv_at hl 2 rfl) ?_
            refine lv_iload_n hx hb dX55_body_43 rfl (lv_at hl 3 rfl) ?_
            refine lv_iload hx hb dX55_body_44 (lv_at hl 4 rfl) ?_
            refine k_i0 hH (k_runV (As := [.int x1, .int 0, .int x2, .int x3, .int x4]) (rest := []) X hH.1 hH.2.1 X.2.2.2 (walkX55_part hc (x1 := x1) (x2 := 0) (x3 := x2) (x4 := x3) (x5 := x4) (f_said := f_said) (f_heads := f_heads) (f_kinds := f_kinds) (f_folded := f_folded) (f_lengths := f_lengths) (f_parts := f_parts) (f_rules := f_rules) (f_known := f_known) (f_rounds := f_rounds) (f_given := f_given) (f_strata := f_strata) (f_circle := f_circle) (f_turns := f_turns) (f_needs := f_needs) (f_comes := f_comes) (f_values := f_values) (f_plain := f_plain) (f_plainCount := f_plainCount) (f_pointers := f_pointers) (f_now := f_now) (f_fresh := f_fresh) (f_many := f_many) (f_sums := f_sums) (f_lows := f_lows) (f_highs := f_highs) (f_layed := f_layed) (f_worked := f_worked) (f_large := f_large) hw) (cwV 5 X.1.2.2.2.2 gX55_97 rfl rfl rfl hX55_part ⟨Nat.le_of_ble_eq_true rfl, Nat.le_of_ble_eq_true rfl⟩) hc (q0 := 0) rfl rfl hl.1 rfl (Nat.le_of_ble_eq_true rfl) dX55_body_46 ⟨Nat.le_refl 0, Nat.le_refl 0⟩) (fun r_10 u H locs hw hH => ?_)
            obtain ⟨f_lengths_11, f_parts_12, f_known_13⟩ := u
            have hH : kH (dC, dI) cl A s.heap H locs (wX55 ci ad d f_said f_heads f_kinds f_folded f_lengths_11 f_parts_12 f_rules f_known_13 f_rounds f_given f_strata f_circle f_turns f_needs f_comes f_values f_plain f_plainCount f_pointers f_now f_fresh f_many f_sums f_lows f_highs f_layed f_worked f_large) := hH
            refine lv_goto (tgt := 53) hx hb dX55_body_49 (by decide) ?_
            exact k_iret (v := r_10) X hH (f_lengths_11, f_parts_12, f_known_13) hw rfl rfl dX55_body_53
          · have hw := hw.2 (z_neq (rfl : x5.toInt = _) (rfl : (0 : Int32).toInt = 0) c_9)
            refine lv_iconst (v := 1) hx hb dX55_body_37 (by decide) ?_
            refine lv_goto (tgt := 42) hx hb dX55_body_38 (by decide) ?_
            refine lv_iload_n hx hb dX55_body_42 rfl (lv_at hl 2 rfl) ?_
            refine lv_iload_n hx hb dX55_body_43 rfl (lv_at hl 3 rfl) ?_
            refine lv_iload hx hb dX55_body_44 (lv_at hl 4 rfl) ?_
            refine k_i0 hH (k_runV (As := [.int x1, .int 1, .int x2, .int x3, .int x4]) (rest := []) X hH.1 hH.2.1 X.2.2.2 (walkX55_part hc (x1 := x1) (x2 := 1) (x3 := x2) (x4 := x3) (x5 := x4) (f_said := f_said) (f_heads := f_heads) (f_kinds := f_kinds) (f_folded := f_folded) (f_lengths := f_lengths) (f_parts := f_parts) (f_rules := f_rules) (f_known := f_known) (f_rounds := f_rounds) (f_given := f_given) (f_strata := f_strata) (f_circle := f_circle) (f_turns := f_turns) (f_needs := f_needs) (f_comes := f_comes) (f_values := f_values) (f_plain := f_plain) (f_plainCount := f_plainCount) (f_pointers := f_pointers) (f_now := f_now) (f_fresh := f_fresh) (f_many := f_many) (f_sums := f_sums) (f_lows := f_lows) (f_highs := f_highs) (f_layed := f_layed) (f_worked := f_worked) (f_large := f_large) hw) (cwV 5 X.1.2.2.2.2 gX55_97 rfl rfl rfl hX55_part ⟨Nat.le_of_ble_eq_true rfl, Nat.le_of_ble_eq_true rfl⟩) hc (q0 := 0) rfl rfl hl.1 rfl (Nat.le_of_ble_eq_true rfl) dX55_body_46 ⟨Nat.le_refl 0, Nat.le_refl 0⟩) (fun r_14 u H locs hw hH => ?_)
            obtain ⟨f_lengths_15, f_parts_16, f_known_17⟩ := u
            have hH : kH (dC, dI) cl A s.heap H locs (wX55 ci ad d f_said f_heads f_kinds f_folded f_lengths_15 f_parts_16 f_rules f_known_17 f_rounds f_given f_strata f_circle f_turns f_needs f_comes f_values f_plain f_plainCount f_pointers f_now f_fresh f_many f_sums f_lows f_highs f_layed f_worked f_large) := hH
            refine lv_goto (tgt := 53) hx hb dX55_body_49 (by decide) ?_
            exact k_iret (v := r_14) X hH (f_lengths_15, f_parts_16, f_known_17) hw rfl rfl dX55_body_53
set_option maxHeartbeats 4000000 in
theorem walkX55_filter {l : Launch} {dC : Nat → ClassId} {dI : Nat → Nat → Nat} {cl : List vw_C} {ci : Nat} (hc : cl[ci]? = some (RX55, TX55, 28)) {ad : Nat → Nat} {d : Nat → ClassId} {sz : Nat} {f_said : Nat → Int32} {f_heads : Nat → Int32} {f_kinds : Nat → Int32} {f_folded : Nat → Int32} {f_lengths : Nat → Int32} {f_parts : Nat → Int32} {f_rules : Int32} {f_known : Int32} {f_rounds : Nat → Int32} {f_given : Nat → Int32} {f_strata : Nat → Int32} {f_circle : Int32} {f_turns : Int32} {f_needs : Nat → Int32} {f_comes : Nat → Int32} {f_values : Nat → Int32} {f_plain : Nat → Int32} {f_plainCount : Int32} {f_pointers : Nat → Int32} {f_now : Int32} {f_fresh : Nat → Int32} {f_many : Nat → Int32} {f_sums : Nat → Int32} {f_lows : Nat → Int32} {f_highs : Nat → Int32} {f_layed : Int32} {f_worked : Int64} {f_large : Int32} {x1 : Int32} {x2 : Int32} {x3 : Int32} {x4 : Int32} {post : Int → (Int → Int) → (Int → Int) → Int → Prop} (hw : wpX55_filter post (zF f_lengths) (zF f_parts) f_rules.toInt f_known.toInt x1.toInt x2.toInt x3.toInt x4.toInt) :
    Met l yX55_filter (ws_ yX55_filter cX55_filter 5 (some .int)) ({ frames := 1, cells := 0, slots := 0, locals := 26 } : Room) (kPc (dC, dI) cl (tX55 d) [.ref (ad 0), .int x1, .int x2, .int x3, .int x4] sz (wX55 ci ad d f_said f_heads f_kinds f_folded f_lengths f_parts f_rules f_known f_rounds f_given f_strata f_circle f_turns f_needs f_comes f_values f_plain f_plainCount f_pointers f_now f_fresh f_many f_sums f_lows f_highs f_layed f_worked f_large)) (va_Qi (fun (r : Int32) (u : (Nat → Int32) × (Nat → Int32) × Int32) => post r.toInt (zF (u.1)) (zF (u.2.1)) (u.2.2).toInt) (kB (dC, dI) cl (tX55 d) (va_A (wX55 ci ad d f_said f_heads f_kinds f_folded f_lengths f_parts f_rules f_known f_rounds f_given f_strata f_circle f_turns f_needs f_comes f_values f_plain f_plainCount f_pointers f_now f_fresh f_many f_sums f_lows f_highs f_layed f_worked f_large) sz) (fun u : (Nat → Int32) × (Nat → Int32) × Int32 => (wX55 ci ad d f_said f_heads f_kinds f_folded (u.1) (u.2.1) f_rules (u.2.2) f_rounds f_given f_strata f_circle f_turns f_needs f_comes f_values f_plain f_plainCount f_pointers f_now f_fresh f_many f_sums f_lows f_highs f_layed f_worked f_large))) (va_A (wX55 ci ad d f_said f_heads f_kinds f_folded f_lengths f_parts f_rules f_known f_rounds f_given f_strata f_circle f_turns f_needs f_comes f_values f_plain f_plainCount f_pointers f_now f_fresh f_many f_sums f_lows f_highs f_layed f_worked f_large) sz)) 0 0 (va_A (wX55 ci ad d f_said f_heads f_kinds f_folded f_lengths f_parts f_rules f_known f_rounds f_given f_strata f_circle f_turns f_needs f_comes f_values f_plain f_plainCount f_pointers f_now f_fresh f_many f_sums f_lows f_highs f_layed f_worked f_large) sz) := by
  refine k_enter (by decide) (Nat.le_of_ble_eq_true rfl) ?_
  intro p e s m below meth c ls X hsz hH hl
  subst hsz
  generalize va_A (wX55 ci ad d f_said f_heads f_kinds f_folded f_lengths f_parts f_rules f_known f_rounds f_given f_strata f_circle f_turns f_needs f_comes f_values f_plain f_plainCount f_pointers f_now f_fresh f_many f_sums f_lows f_highs f_layed f_worked f_large) s.heap.size = A at hH ⊢
  have hx := X.1.1
  have hb := X.1.2.1
  have hl : lv_has ls 5 [(0, .ref (ad 0)), (1, .int x1), (2, .int x2), (3, .int x3), (4, .int x4)] := hl
  unfold wpX55_filter at hw
  refine lv_aload_n hx hb dX55_filter_0 rfl (lv_at hl 0 rfl) ?_
  refine lv_iload_n hx hb dX55_filter_1 rfl (lv_at hl 1 rfl) ?_
  refine k_i0 hH (k_runV (As := [.int x1]) (rest := []) X hH.1 hH.2.1 X.2.2.2 (walkX55_isRule hc (x1 := x1) (f_said := f_said) (f_heads := f_heads) (f_kinds := f_kinds) (f_folded := f_folded) (f_lengths := f_lengths) (f_parts := f_parts) (f_rules := f_rules) (f_known := f_known) (f_rounds := f_rounds) (f_given := f_given) (f_strata := f_strata) (f_circle := f_circle) (f_turns := f_turns) (f_needs := f_needs) (f_comes := f_comes) (f_values := f_values) (f_plain := f_plain) (f_plainCount := f_plainCount) (f_pointers := f_pointers) (f_now := f_now) (f_fresh := f_fresh) (f_many := f_many) (f_sums := f_sums) (f_lows := f_lows) (f_highs := f_highs) (f_layed := f_layed) (f_worked := f_worked) (f_large := f_large) hw) (cwV 1 X.1.2.2.2.2 gX55_94 rfl rfl rfl hX55_isRule ⟨Nat.le_of_ble_eq_true rfl, Nat.le_of_ble_eq_true rfl⟩) hc (q0 := 0) rfl rfl hl.1 rfl (Nat.le_of_ble_eq_true rfl) dX55_filter_2 ⟨Nat.le_refl 0, Nat.le_refl 0⟩) (fun r_1 _ H locs hw hH => ?_)
  have hH : kH (dC, dI) cl A s.heap H locs (wX55 ci ad d f_said f_heads f_kinds f_folded f_lengths f_parts f_rules f_known f_rounds f_given f_strata f_circle f_turns f_needs f_comes f_values f_plain f_plainCount f_pointers f_now f_fresh f_many f_sums f_lows f_highs f_layed f_worked f_large) := hH
  refine lv_if_eq (tgt := 45) hx hb dX55_filter_5 (by decide) (fun c_2 => ?_) (fun c_2 => ?_)
  · have hw := hw.1 (z_eq (rfl : r_1.toInt = _) (rfl : (0 : Int32).toInt = 0) c_2)
    refine lv_iconst (v := (-1)) hx hb dX55_filter_45 (by decide) ?_
    exact k_iret (v := (-1)) X hH (f_lengths, f_parts, f_known) hw rfl rfl dX55_filter_46
  · have hw := hw.2 (z_neq (rfl : r_1.toInt = _) (rfl : (0 : Int32).toInt = 0) c_2)
    refine lv_iload_n hx hb dX55_filter_8 rfl (lv_at hl 2 rfl) ?_
    refine lv_if_lt (tgt := 45) hx hb dX55_filter_9 (by decide) (fun c_3 => ?_) (fun c_3 => ?_)
    · have hw := hw.1 (z_lt (rfl : x2.toInt = _) (rfl : (0 : Int32).toInt = 0) c_3)
      refine lv_iconst (v := (-1)) hx hb dX55_filter_45 (by decide) ?_
      exact k_iret (v := (-1)) X hH (f_lengths, f_parts, f_known) hw rfl rfl dX55_filter_46
    · have hw := hw.2 (z_nlt (rfl : x2.toInt = _) (rfl : (0 : Int32).toInt = 0) c_3)
      refine lv_iload_n hx hb dX55_filter_12 rfl (lv_at hl 2 rfl) ?_
      refine lv_iconst (v := 3) hx hb dX55_filter_13 (by decide) ?_
      refine lv_icmp_ge (tgt := 45) hx hb dX55_filter_14 (by decide) (fun c_4 => ?_) (fun c_4 => ?_)
      · have hw := hw.1 (z_le (rfl : (3 : Int32).toInt = 3) (rfl : x2.toInt = _) c_4)
        refine lv_iconst (v := (-1)) hx hb dX55_filter_45 (by decide) ?_
        exact k_iret (v := (-1)) X hH (f_lengths, f_parts, f_known) hw rfl rfl dX55_filter_46
      · have hw := hw.2 (z_nle (rfl : (3 : Int32).toInt = 3) (rfl : x2.toInt = _) c_4)
        refine lv_iload_n hx hb dX55_filter_17 rfl (lv_at hl 3 rfl) ?_
        refine k_i0 hH (k_runS (As := [.int x3]) (rest := []) X hH.1 hH.2.1 X.2.2.2 (walkX55_isItem hc (x0 := x3) (f_said := f_said) (f_heads := f_heads) (f_kinds := f_kinds) (f_folded := f_folded) (f_lengths := f_lengths) (f_parts := f_parts) (f_rules := f_rules) (f_known := f_known) (f_rounds := f_rounds) (f_given := f_given) (f_strata := f_strata) (f_circle := f_circle) (f_turns := f_turns) (f_needs := f_needs) (f_comes := f_comes) (f_values := f_values) (f_plain := f_plain) (f_plainCount := f_plainCount) (f_pointers := f_pointers) (f_now := f_now) (f_fresh := f_fresh) (f_many := f_many) (f_sums := f_sums) (f_lows := f_lows) (f_highs := f_highs) (f_layed := f_layed) (f_worked := f_worked) (f_large := f_large) hw) (va_cwS 1 X.1.2.2.2.2 gX55_91 rfl rfl rfl hX55_isItem ⟨Nat.le_of_ble_eq_true rfl, Nat.le_of_ble_eq_true rfl⟩) rfl hl.1 rfl (Nat.le_of_ble_eq_true rfl) dX55_filter_18 ⟨Nat.le_refl 0, Nat.le_refl 0⟩) (fun r_5 _ H locs hw hH => ?_)
        have hH : kH (dC, dI) cl A s.heap H locs (wX55 ci ad d f_said f_heads f_kinds f_folded f_lengths f_parts f_rules f_known f_rounds f_given f_strata f_circle f_turns f_needs f_comes f_values f_plain f_plainCount f_pointers f_now f_fresh f_many f_sums f_lows f_highs f_layed f_worked f_large) := hH
        refine lv_if_eq (tgt := 45) hx hb dX55_filter_21 (by decide) (fun c_6 => ?_) (fun c_6 => ?_)
        · have hw := hw.1 (z_eq (rfl : r_5.toInt = _) (rfl : (0 : Int32).toInt = 0) c_6)
          refine lv_iconst (v := (-1)) hx hb dX55_filter_45 (by decide) ?_
          exact k_iret (v := (-1)) X hH (f_lengths, f_parts, f_known) hw rfl rfl dX55_filter_46
        · have hw := hw.2 (z_neq (rfl : r_5.toInt = _) (rfl : (0 : Int32).toInt = 0) c_6)
          refine lv_iload hx hb dX55_filter_24 (lv_at hl 4 rfl) ?_
          refine k_i0 hH (k_runS (As := [.int x4]) (rest := []) X hH.1 hH.2.1 X.2.2.2 (walkX55_isItem hc (x0 := x4) (f_said := f_said) (f_heads := f_heads) (f_kinds := f_kinds) (f_folded := f_folded) (f_lengths := f_lengths) (f_parts := f_parts) (f_rules := f_rules) (f_known := f_known) (f_rounds := f_rounds) (f_given := f_given) (f_strata := f_strata) (f_circle := f_circle) (f_turns := f_turns) (f_needs := f_needs) (f_comes := f_comes) (f_values := f_values) (f_plain := f_plain) (f_plainCount := f_plainCount) (f_pointers := f_pointers) (f_now := f_now) (f_fresh := f_fresh) (f_many := f_many) (f_sums := f_sums) (f_lows := f_lows) (f_highs := f_highs) (f_layed := f_layed) (f_worked := f_worked) (f_large := f_large) hw) (va_cwS 1 X.1.2.2.2.2 gX55_91 rfl rfl rfl hX55_isItem ⟨Nat.le_of_ble_eq_true rfl, Nat.le_of_ble_eq_true rfl⟩) rfl hl.1 rfl (Nat.le_of_ble_eq_true rfl) dX55_filter_26 ⟨Nat.le_refl 0, Nat.le_refl 0⟩) (fun r_7 _ H locs hw hH => ?_)
          have hH : kH (dC, dI) cl A s.heap H locs (wX55 ci ad d f_said f_heads f_kinds f_folded f_lengths f_parts f_rules f_known f_rounds f_given f_strata f_circle f_turns f_needs f_comes f_values f_plain f_plainCount f_pointers f_now f_fresh f_many f_sums f_lows f_highs f_layed f_worked f_large) := hH
          refine lv_if_eq (tgt := 45) hx hb dX55_filter_29 (by decide) (fun c_8 => ?_) (fun c_8 => ?_)
          · have hw := hw.1 (z_eq (rfl : r_7.toInt = _) (rfl : (0 : Int32).toInt = 0) c_8)
            refine lv_iconst (v := (-1)) hx hb dX55_filter_45 (by decide) ?_
            exact k_iret (v := (-1)) X hH (f_lengths, f_parts, f_known) hw rfl rfl dX55_filter_46
          · have hw := hw.2 (z_neq (rfl : r_7.toInt = _) (rfl : (0 : Int32).toInt = 0) c_8)
            refine lv_aload_n hx hb dX55_filter_32 rfl (lv_at hl 0 rfl) ?_
            refine lv_iload_n hx hb dX55_filter_33 rfl (lv_at hl 1 rfl) ?_
            refine lv_iconst (v := 2) hx hb dX55_filter_34 (by decide) ?_
            refine lv_iload_n hx hb dX55_filter_35 rfl (lv_at hl 2 rfl) ?_
            refine lv_iload_n hx hb dX55_filter_36 rfl (lv_at hl 3 rfl) ?_
            refine lv_iload hx hb dX55_filter_37 (lv_at hl 4 rfl) ?_
            refine k_i0 hH (k_runV (As := [.int x1, .int 2, .int x2, .int x3, .int x4]) (rest := []) X hH.1 hH.2.1 X.2.2.2 (walkX55_part hc (x1 := x1) (x2 := 2) (x3 := x2) (x4 := x3) (x5 := x4) (f_said := f_said) (f_heads := f_heads) (f_kinds := f_kinds) (f_folded := f_folded) (f_lengths := f_lengths) (f_parts := f_parts) (f_rules := f_rules) (f_known := f_known) (f_rounds := f_rounds) (f_given := f_given) (f_strata := f_strata) (f_circle := f_circle) (f_turns := f_turns) (f_needs := f_needs) (f_comes := f_comes) (f_values := f_values) (f_plain := f_plain) (f_plainCount := f_plainCount) (f_pointers := f_pointers) (f_now := f_now) (f_fresh := f_fresh) (f_many := f_many) (f_sums := f_sums) (f_lows := f_lows) (f_highs := f_highs) (f_layed := f_layed) (f_worked := f_worked) (f_large := f_large) hw) (cwV 5 X.1.2.2.2.2 gX55_97 rfl rfl rfl hX55_part ⟨Nat.le_of_ble_eq_true rfl, Nat.le_of_ble_eq_true rfl⟩) hc (q0 := 0) rfl rfl hl.1 rfl (Nat.le_of_ble_eq_true rfl) dX55_filter_39 ⟨Nat.le_refl 0, Nat.le_refl 0⟩) (fun r_9 u H locs hw hH => ?_)
            obtain ⟨f_lengths_10, f_parts_11, f_known_12⟩ := u
            have hH : kH (dC, dI) cl A s.heap H locs (wX55 ci ad d f_said f_heads f_kinds f_folded f_lengths_10 f_parts_11 f_rules f_known_12 f_rounds f_given f_strata f_circle f_turns f_needs f_comes f_values f_plain f_plainCount f_pointers f_now f_fresh f_many f_sums f_lows f_highs f_layed f_worked f_large) := hH
            refine lv_goto (tgt := 46) hx hb dX55_filter_42 (by decide) ?_
            exact k_iret (v := r_9) X hH (f_lengths_10, f_parts_11, f_known_12) hw rfl rfl dX55_filter_46
set_option maxHeartbeats 4000000 in
theorem atX55_aggregate_35 {p : Program} {l : Launch} {e : Env} {s : State} {m : MethodId} {args : Array Value} {below : List Frame} {meth : Method} {c : Code} {dC : Nat → ClassId} {dI : Nat → Nat → Nat} {cl : List vw_C} {ci : Nat} (hc : cl[ci]? = some (RX55, TX55, 28)) {ad : Nat → Nat} {d : Nat → ClassId} {A : Nat → Prop} {post : Int → (Int → Int) → (Int → Int) → Int → Prop} {f_said : Nat → Int32} {f_heads : Nat → Int32} {f_lengths : Nat → Int32} {f_parts : Nat → Int32} {f_rules : Int32} {f_rounds : Nat → Int32} {f_given : Nat → Int32} {f_strata : Nat → Int32} {f_circle : Int32} {f_turns : Int32} {f_needs : Nat → Int32} {f_comes : Nat → Int32} {f_values : Nat → Int32} {f_plain : Nat → Int32} {f_plainCount : Int32} {f_pointers : Nat → Int32} {f_now : Int32} {f_fresh : Nat → Int32} {f_many : Nat → Int32} {f_sums : Nat → Int32} {f_lows : Nat → Int32} {f_highs : Nat → Int32} {f_layed : Int32} {f_worked : Int64} {f_large : Int32} (X : kX p s m args meth c cX55_aggregate 4 RX55 (some .int) (dC, dI) cl (tX55 d))     :
    ∀ (x1 : Int32) (x2 : Int32) (x3 : Int32) (f_kinds : Nat → Int32) (f_folded : Nat → Int32) (f_known : Int32), wX55_aggregate_35 post x1.toInt x2.toInt x3.toInt (zF f_kinds) (zF f_folded) → ∀ (H : Heap) (locs : List Loc) (ls : Array Slot), kH (dC, dI) cl A s.heap H locs (wX55 ci ad d f_said f_heads f_kinds f_folded f_lengths f_parts f_rules f_known f_rounds f_given f_strata f_circle f_turns f_needs f_comes f_values f_plain f_plainCount f_pointers f_now f_fresh f_many f_sums f_lows f_highs f_layed f_worked f_large) → lv_has ls 4 [(0, .ref (ad 0)), (1, .int x1), (2, .int x2), (3, .int x3)] → W p l e ({ frames := 1, cells := 0, slots := 0, locals := 21 } : Room) s m args below meth c H locs 0 0 (MQ below (va_Qi (fun (r : Int32) (u : (Nat → Int32) × (Nat → Int32) × Int32) => post r.toInt (zF (u.1)) (zF (u.2.1)) (u.2.2).toInt) (kB (dC, dI) cl (tX55 d) A (fun u : (Nat → Int32) × (Nat → Int32) × Int32 => (wX55 ci ad d f_said f_heads (u.1) (u.2.1) f_lengths f_parts f_rules (u.2.2) f_rounds f_given f_strata f_circle f_turns f_needs f_comes f_values f_plain f_plainCount f_pointers f_now f_fresh f_many f_sums f_lows f_highs f_layed f_worked f_large))) A) args s 0 0 A) (F0 m 35 ls []) := by
  have hx := X.1.1
  have hb := X.1.2.1
  intro x1 x2 x3 f_kinds f_folded f_known hw H locs ls hH hl
  unfold wX55_aggregate_35 at hw
  refine lv_aload_n hx hb dX55_aggregate_35 rfl (lv_at hl 0 rfl) ?_
  refine k_get X hH in_X55 0 rfl hc 2 (by decide) q6578 rfl dX55_aggregate_36 ?_
  refine lv_iload_n hx hb dX55_aggregate_39 rfl (lv_at hl 1 rfl) ?_
  refine lv_iload_n hx hb dX55_aggregate_40 rfl (lv_at hl 2 rfl) ?_
  have hq_7 := hw.1
  have hw := hw.2
  obtain ⟨f_kinds_6, ef_kinds_6⟩ : ∃ y : Nat → Int32, y = upd f_kinds x1.toNatClampNeg x2 := ⟨_, rfl⟩
  refine k_iast X hH 3 2 rfl rfl (z_in (rfl : x1.toInt = _) hq_7) dX55_aggregate_41 ef_kinds_6 (ws1 := (wX55 ci ad d f_said f_heads f_kinds_6 f_folded f_lengths f_parts f_rules f_known f_rounds f_given f_strata f_circle f_turns f_needs f_comes f_values f_plain f_plainCount f_pointers f_now f_fresh f_many f_sums f_lows f_highs f_layed f_worked f_large)) rfl (fun H locs hH => ?_)
  have hw := hw (zF f_kinds_6) (by rw [ef_kinds_6]; exact z_st (f := f_kinds) (rfl : x1.toInt = _) hq_7.1 (rfl : x2.toInt = _))
  refine lv_aload_n hx hb dX55_aggregate_42 rfl (lv_at hl 0 rfl) ?_
  refine k_get X hH in_X55 0 rfl hc 3 (by decide) q6579 rfl dX55_aggregate_43 ?_
  refine lv_iload_n hx hb dX55_aggregate_46 rfl (lv_at hl 1 rfl) ?_
  refine lv_iload_n hx hb dX55_aggregate_47 rfl (lv_at hl 3 rfl) ?_
  obtain ⟨f_folded_8, ef_folded_8⟩ : ∃ y : Nat → Int32, y = upd f_folded x1.toNatClampNeg x3 := ⟨_, rfl⟩
  refine k_iast X hH 4 3 rfl rfl (z_in (rfl : x1.toInt = _) hq_7) dX55_aggregate_48 ef_folded_8 (ws1 := (wX55 ci ad d f_said f_heads f_kinds_6 f_folded_8 f_lengths f_parts f_rules f_known f_rounds f_given f_strata f_circle f_turns f_needs f_comes f_values f_plain f_plainCount f_pointers f_now f_fresh f_many f_sums f_lows f_highs f_layed f_worked f_large)) rfl (fun H locs hH => ?_)
  have hw := hw (zF f_folded_8) (by rw [ef_folded_8]; exact z_st (f := f_folded) (rfl : x1.toInt = _) hq_7.1 (rfl : x3.toInt = _))
  refine lv_aload_n hx hb dX55_aggregate_49 rfl (lv_at hl 0 rfl) ?_
  refine lv_iconst (v := 0) hx hb dX55_aggregate_50 (by decide) ?_
  refine k_put X hH in_X55 tyX55_ok nmX55 0 rfl hc 7 (by decide) q6583 rfl (ty := .boolean) rfl rfl rfl (Nat.le_of_ble_eq_true rfl) dX55_aggregate_51 (ws1 := (wX55 ci ad d f_said f_heads f_kinds_6 f_folded_8 f_lengths f_parts f_rules 0 f_rounds f_given f_strata f_circle f_turns f_needs f_comes f_values f_plain f_plainCount f_pointers f_now f_fresh f_many f_sums f_lows f_highs f_layed f_worked f_large)) rfl (fun H locs hH => ?_)
  refine lv_iconst (v := 1) hx hb dX55_aggregate_54 (by decide) ?_
  exact k_iret (v := 1) X hH (f_kinds_6, f_folded_8, 0) hw rfl rfl dX55_aggregate_55
set_option maxHeartbeats 4000000 in
theorem walkX55_aggregate {l : Launch} {dC : Nat → ClassId} {dI : Nat → Nat → Nat} {cl : List vw_C} {ci : Nat} (hc : cl[ci]? = some (RX55, TX55, 28)) {ad : Nat → Nat} {d : Nat → ClassId} {sz : Nat} {f_said : Nat → Int32} {f_heads : Nat → Int32} {f_kinds : Nat → Int32} {f_folded : Nat → Int32} {f_lengths : Nat → Int32} {f_parts : Nat → Int32} {f_rules : Int32} {f_known : Int32} {f_rounds : Nat → Int32} {f_given : Nat → Int32} {f_strata : Nat → Int32} {f_circle : Int32} {f_turns : Int32} {f_needs : Nat → Int32} {f_comes : Nat → Int32} {f_values : Nat → Int32} {f_plain : Nat → Int32} {f_plainCount : Int32} {f_pointers : Nat → Int32} {f_now : Int32} {f_fresh : Nat → Int32} {f_many : Nat → Int32} {f_sums : Nat → Int32} {f_lows : Nat → Int32} {f_highs : Nat → Int32} {f_layed : Int32} {f_worked : Int64} {f_large : Int32} {x1 : Int32} {x2 : Int32} {x3 : Int32} {post : Int → (Int → Int) → (Int → Int) → Int → Prop} (hw : wpX55_aggregate post (zF f_kinds) (zF f_folded) f_rules.toInt f_known.toInt x1.toInt x2.toInt x3.toInt) :
    Met l yX55_aggregate (ws_ yX55_aggregate cX55_aggregate 4 (some .int)) ({ frames := 1, cells := 0, slots := 0, locals := 21 } : Room) (kPc (dC, dI) cl (tX55 d) [.ref (ad 0), .int x1, .int x2, .int x3] sz (wX55 ci ad d f_said f_heads f_kinds f_folded f_lengths f_parts f_rules f_known f_rounds f_given f_strata f_circle f_turns f_needs f_comes f_values f_plain f_plainCount f_pointers f_now f_fresh f_many f_sums f_lows f_highs f_layed f_worked f_large)) (va_Qi (fun (r : Int32) (u : (Nat → Int32) × (Nat → Int32) × Int32) => post r.toInt (zF (u.1)) (zF (u.2.1)) (u.2.2).toInt) (kB (dC, dI) cl (tX55 d) (va_A (wX55 ci ad d f_said f_heads f_kinds f_folded f_lengths f_parts f_rules f_known f_rounds f_given f_strata f_circle f_turns f_needs f_comes f_values f_plain f_plainCount f_pointers f_now f_fresh f_many f_sums f_lows f_highs f_layed f_worked f_large) sz) (fun u : (Nat → Int32) × (Nat → Int32) × Int32 => (wX55 ci ad d f_said f_heads (u.1) (u.2.1) f_lengths f_parts f_rules (u.2.2) f_rounds f_given f_strata f_circle f_turns f_needs f_comes f_values f_plain f_plainCount f_pointers f_now f_fresh f_many f_sums f_lows f_highs f_layed f_worked f_large))) (va_A (wX55 ci ad d f_said f_heads f_kinds f_folded f_lengths f_parts f_rules f_known f_rounds f_given f_strata f_circle f_turns f_needs f_comes f_values f_plain f_plainCount f_pointers f_now f_fresh f_many f_sums f_lows f_highs f_layed f_worked f_large) sz)) 0 0 (va_A (wX55 ci ad d f_said f_heads f_kinds f_folded f_lengths f_parts f_rules f_known f_rounds f_given f_strata f_circle f_turns f_needs f_comes f_values f_plain f_plainCount f_pointers f_now f_fresh f_many f_sums f_lows f_highs f_layed f_worked f_large) sz) := by
  refine k_enter (by decide) (Nat.le_of_ble_eq_true rfl) ?_
  intro p e s m below meth c ls X hsz hH hl
  subst hsz
  generalize va_A (wX55 ci ad d f_said f_heads f_kinds f_folded f_lengths f_parts f_rules f_known f_rounds f_given f_strata f_circle f_turns f_needs f_comes f_values f_plain f_plainCount f_pointers f_now f_fresh f_many f_sums f_lows f_highs f_layed f_worked f_large) s.heap.size = A at hH ⊢
  have hx := X.1.1
  have hb := X.1.2.1
  have hl : lv_has ls 4 [(0, .ref (ad 0)), (1, .int x1), (2, .int x2), (3, .int x3)] := hl
  unfold wpX55_aggregate at hw
  refine lv_aload_n hx hb dX55_aggregate_0 rfl (lv_at hl 0 rfl) ?_
  refine lv_iload_n hx hb dX55_aggregate_1 rfl (lv_at hl 1 rfl) ?_
  refine k_i0 hH (k_runV (As := [.int x1]) (rest := []) X hH.1 hH.2.1 X.2.2.2 (walkX55_isRule hc (x1 := x1) (f_said := f_said) (f_heads := f_heads) (f_kinds := f_kinds) (f_folded := f_folded) (f_lengths := f_lengths) (f_parts := f_parts) (f_rules := f_rules) (f_known := f_known) (f_rounds := f_rounds) (f_given := f_given) (f_strata := f_strata) (f_circle := f_circle) (f_turns := f_turns) (f_needs := f_needs) (f_comes := f_comes) (f_values := f_values) (f_plain := f_plain) (f_plainCount := f_plainCount) (f_pointers := f_pointers) (f_now := f_now) (f_fresh := f_fresh) (f_many := f_many) (f_sums := f_sums) (f_lows := f_lows) (f_highs := f_highs) (f_layed := f_layed) (f_worked := f_worked) (f_large := f_large) hw) (cwV 1 X.1.2.2.2.2 gX55_94 rfl rfl rfl hX55_isRule ⟨Nat.le_of_ble_eq_true rfl, Nat.le_of_ble_eq_true rfl⟩) hc (q0 := 0) rfl rfl hl.1 rfl (Nat.le_of_ble_eq_true rfl) dX55_aggregate_2 ⟨Nat.le_refl 0, Nat.le_refl 0⟩) (fun r_1 _ H locs hw hH => ?_)
  have hH : kH (dC, dI) cl A s.heap H locs (wX55 ci ad d f_said f_heads f_kinds f_folded f_lengths f_parts f_rules f_known f_rounds f_given f_strata f_circle f_turns f_needs f_comes f_values f_plain f_plainCount f_pointers f_now f_fresh f_many f_sums f_lows f_highs f_layed f_worked f_large) := hH
  refine lv_if_eq (tgt := 33) hx hb dX55_aggregate_5 (by decide) (fun c_2 => ?_) (fun c_2 => ?_)
  · have hw := hw.1 (z_eq (rfl : r_1.toInt = _) (rfl : (0 : Int32).toInt = 0) c_2)
    refine lv_iconst (v := (-1)) hx hb dX55_aggregate_33 (by decide) ?_
    exact k_iret (v := (-1)) X hH (f_kinds, f_folded, f_known) hw rfl rfl dX55_aggregate_34
  · have hw := hw.2 (z_neq (rfl : r_1.toInt = _) (rfl : (0 : Int32).toInt = 0) c_2)
    refine lv_iload_n hx hb dX55_aggregate_8 rfl (lv_at hl 2 rfl) ?_
    refine lv_iconst (v := (-1)) hx hb dX55_aggregate_9 (by decide) ?_
    refine lv_icmp_lt (tgt := 33) hx hb dX55_aggregate_10 (by decide) (fun c_3 => ?_) (fun c_3 => ?_)
    · have hw := hw.1 (z_lt (rfl : x2.toInt = _) (rfl : ((-1) : Int32).toInt = (-1)) c_3)
      refine lv_iconst (v := (-1)) hx hb dX55_aggregate_33 (by decide) ?_
      exact k_iret (v := (-1)) X hH (f_kinds, f_folded, f_known) hw rfl rfl dX55_aggregate_34
    · have hw := hw.2 (z_nlt (rfl : x2.toInt = _) (rfl : ((-1) : Int32).toInt = (-1)) c_3)
      refine lv_iload_n hx hb dX55_aggregate_13 rfl (lv_at hl 2 rfl) ?_
      refine lv_iconst (v := 3) hx hb dX55_aggregate_14 (by decide) ?_
      refine lv_icmp_gt (tgt := 33) hx hb dX55_aggregate_15 (by decide) (fun c_4 => ?_) (fun c_4 => ?_)
      · have hw := hw.1 (z_lt (rfl : (3 : Int32).toInt = 3) (rfl : x2.toInt = _) c_4)
        refine lv_iconst (v := (-1)) hx hb dX55_aggregate_33 (by decide) ?_
        exact k_iret (v := (-1)) X hH (f_kinds, f_folded, f_known) hw rfl rfl dX55_aggregate_34
      · have hw := hw.2 (z_nlt (rfl : (3 : Int32).toInt = 3) (rfl : x2.toInt = _) c_4)
        refine lv_iload_n hx hb dX55_aggregate_18 rfl (lv_at hl 2 rfl) ?_
        refine lv_if_lt (tgt := 35) hx hb dX55_aggregate_19 (by decide) (fun c_5 => ?_) (fun c_5 => ?_)
        · have hw := hw.1 (z_lt (rfl : x2.toInt = _) (rfl : (0 : Int32).toInt = 0) c_5)
          exact atX55_aggregate_35 hc X x1 x2 x3 f_kinds f_folded f_known hw _ _ ls hH (lv_sub hl [0, 1, 2, 3] rfl)
        · have hw := hw.2 (z_nlt (rfl : x2.toInt = _) (rfl : (0 : Int32).toInt = 0) c_5)
          refine lv_iload_n hx hb dX55_aggregate_22 rfl (lv_at hl 3 rfl) ?_
          refine lv_iconst (v := (-1)) hx hb dX55_aggregate_23 (by decide) ?_
          refine lv_icmp_gt (tgt := 33) hx hb dX55_aggregate_24 (by decide) (fun c_9 => ?_) (fun c_9 => ?_)
          · have hw := hw.1 (z_lt (rfl : ((-1) : Int32).toInt = (-1)) (rfl : x3.toInt = _) c_9)
            refine lv_iconst (v := (-1)) hx hb dX55_aggregate_33 (by decide) ?_
            exact k_iret (v := (-1)) X hH (f_kinds, f_folded, f_known) hw rfl rfl dX55_aggregate_34
          · have hw := hw.2 (z_nlt (rfl : ((-1) : Int32).toInt = (-1)) (rfl : x3.toInt = _) c_9)
            refine lv_iload_n hx hb dX55_aggregate_27 rfl (lv_at hl 3 rfl) ?_
            refine lv_bipush (v := (-6)) hx hb dX55_aggregate_28 (by decide) ?_
            refine lv_icmp_ge (tgt := 35) hx hb dX55_aggregate_30 (by decide) (fun c_10 => ?_) (fun c_10 => ?_)
            · have hw := hw.1 (z_le (rfl : ((-6) : Int32).toInt = (-6)) (rfl : x3.toInt = _) c_10)
              exact atX55_aggregate_35 hc X x1 x2 x3 f_kinds f_folded f_known hw _ _ ls hH (lv_sub hl [0, 1, 2, 3] rfl)
            · have hw := hw.2 (z_nle (rfl : ((-6) : Int32).toInt = (-6)) (rfl : x3.toInt = _) c_10)
              refine lv_iconst (v := (-1)) hx hb dX55_aggregate_33 (by decide) ?_
              exact k_iret (v := (-1)) X hH (f_kinds, f_folded, f_known) hw rfl rfl dX55_aggregate_34
set_option maxHeartbeats 4000000 in
theorem atX55_drop_32 {p : Program} {l : Launch} {e : Env} {s : State} {m : MethodId} {args : Array Value} {below : List Frame} {meth : Method} {c : Code} {dC : Nat → ClassId} {dI : Nat → Nat → Nat} {cl : List vw_C} {ci : Nat} (hc : cl[ci]? = some (RX55, TX55, 28)) {ad : Nat → Nat} {d : Nat → ClassId} {A : Nat → Prop} {post : Int → (Int → Int) → (Int → Int) → (Int → Int) → (Int → Int) → (Int → Int) → Int → Int → Prop} {f_said : Nat → Int32} {f_rounds : Nat → Int32} {f_given : Nat → Int32} {f_strata : Nat → Int32} {f_circle : Int32} {f_turns : Int32} {f_needs : Nat → Int32} {f_comes : Nat → Int32} {f_values : Nat → Int32} {f_plain : Nat → Int32} {f_plainCount : Int32} {f_pointers : Nat → Int32} {f_now : Int32} {f_fresh : Nat → Int32} {f_many : Nat → Int32} {f_sums : Nat → Int32} {f_lows : Nat → Int32} {f_highs : Nat → Int32} {f_layed : Int32} {f_worked : Int64} {f_large : Int32} (X : kX p s m args meth c cX55_drop 4 RX55 (some .int) (dC, dI) cl (tX55 d)) {K65 : (Int → Int) → Prop} {x2 : Int32} {f_kinds : Nat → Int32} {f_folded : Nat → Int32} {f_lengths : Nat → Int32} {f_parts : Nat → Int32} {f_rules : Int32} {f_known : Int32} (hk65 : ∀ (f_heads : Nat → Int32), K65 (zF f_heads) → ∀ (H : Heap) (locs : List Loc) (ls : Array Slot), kH (dC, dI) cl A s.heap H locs (wX55 ci ad d f_said f_heads f_kinds f_folded f_lengths f_parts f_rules f_known f_rounds f_given f_strata f_circle f_turns f_needs f_comes f_values f_plain f_plainCount f_pointers f_now f_fresh f_many f_sums f_lows f_highs f_layed f_worked f_large) → lv_has ls 4 [(0, .ref (ad 0)), (2, .int x2)] → W p l e ({ frames := 1, cells := 0, slots := 0, locals := 21 } : Room) s m args below meth c H locs 0 0 (MQ below (va_Qi (fun (r : Int32) (u : (Nat → Int32) × (Nat → Int32) × (Nat → Int32) × (Nat → Int32) × (Nat → Int32) × Int32 × Int32) => post r.toInt (zF (u.1)) (zF (u.2.1)) (zF (u.2.2.1)) (zF (u.2.2.2.1)) (zF (u.2.2.2.2.1)) (u.2.2.2.2.2.1).toInt (u.2.2.2.2.2.2).toInt) (kB (dC, dI) cl (tX55 d) A (fun u : (Nat → Int32) × (Nat → Int32) × (Nat → Int32) × (Nat → Int32) × (Nat → Int32) × Int32 × Int32 => (wX55 ci ad d f_said (u.1) (u.2.1) (u.2.2.1) (u.2.2.2.1) (u.2.2.2.2.1) (u.2.2.2.2.2.1) (u.2.2.2.2.2.2) f_rounds f_given f_strata f_circle f_turns f_needs f_comes f_values f_plain f_plainCount f_pointers f_now f_fresh f_many f_sums f_lows f_highs f_layed f_worked f_large))) A) args s 0 0 A) (F0 m 65 ls [])) :
    ∀ (nn : Nat) (x3 : Int32) (f_heads : Nat → Int32), wX55_drop_32 K65 x2.toInt nn x3.toInt (zF f_heads) → ∀ (H : Heap) (locs : List Loc) (ls : Array Slot), kH (dC, dI) cl A s.heap H locs (wX55 ci ad d f_said f_heads f_kinds f_folded f_lengths f_parts f_rules f_known f_rounds f_given f_strata f_circle f_turns f_needs f_comes f_values f_plain f_plainCount f_pointers f_now f_fresh f_many f_sums f_lows f_highs f_layed f_worked f_large) → lv_has ls 4 [(0, .ref (ad 0)), (2, .int x2), (3, .int x3)] → W p l e ({ frames := 1, cells := 0, slots := 0, locals := 21 } : Room) s m args below meth c H locs 0 0 (MQ below (va_Qi (fun (r : Int32) (u : (Nat → Int32) × (Nat → Int32) × (Nat → Int32) × (Nat → Int32) × (Nat → Int32) × Int32 × Int32) => post r.toInt (zF (u.1)) (zF (u.2.1)) (zF (u.2.2.1)) (zF (u.2.2.2.1)) (zF (u.2.2.2.2.1)) (u.2.2.2.2.2.1).toInt (u.2.2.2.2.2.2).toInt) (kB (dC, dI) cl (tX55 d) A (fun u : (Nat → Int32) × (Nat → Int32) × (Nat → Int32) × (Nat → Int32) × (Nat → Int32) × Int32 × Int32 => (wX55 ci ad d f_said (u.1) (u.2.1) (u.2.2.1) (u.2.2.2.1) (u.2.2.2.2.1) (u.2.2.2.2.2.1) (u.2.2.2.2.2.2) f_rounds f_given f_strata f_circle f_turns f_needs f_comes f_values f_plain f_plainCount f_pointers f_now f_fresh f_many f_sums f_lows f_highs f_layed f_worked f_large))) A) args s 0 0 A) (F0 m 32 ls []) := by
  have hx := X.1.1
  have hb := X.1.2.1
  intro nn
  induction nn with
  | zero =>
    intro x3 f_heads hw
    exact False.elim hw
  | succ n ih =>
    intro x3 f_heads hw H locs ls hH hl
    rw [wX55_drop_32] at hw
    refine lv_iload_n hx hb dX55_drop_32 rfl (lv_at hl 2 rfl) ?_
    refine lv_iconst (v := 3) hx hb dX55_drop_33 (by decide) ?_
    refine lv_icmp_ge (tgt := 65) hx hb dX55_drop_34 (by decide) (fun c_8 => ?_) (fun c_8 => ?_)
    · have hw := hw.1 (z_le (rfl : (3 : Int32).toInt = 3) (rfl : x3.toInt = _) c_8)
      exact hk65 f_heads hw _ _ ls hH (lv_sub hl [0, 1] rfl)
    · have hw := hw.2 (z_nle (rfl : (3 : Int32).toInt = 3) (rfl : x3.toInt = _) c_8)
      refine lv_aload_n hx hb dX55_drop_37 rfl (lv_at hl 0 rfl) ?_
      refine k_get X hH in_X55 0 rfl hc 1 (by decide) q6577 rfl dX55_drop_38 ?_
      refine lv_iconst (v := 3) hx hb dX55_drop_41 (by decide) ?_
      refine lv_iload_n hx hb dX55_drop_42 rfl (lv_at hl 1 rfl) ?_
      refine lv_imul hx hb dX55_drop_43 ?_
      have e_9 := z_mul (z_m (rfl : (3 : Int32).toInt = 3)) (z_m (rfl : x2.toInt = _))
      refine lv_iload_n hx hb dX55_drop_44 rfl (lv_at hl 2 rfl) ?_
      refine lv_iadd hx hb dX55_drop_45 ?_
      have e_10 := z_add e_9 (z_m (rfl : x3.toInt = _))
      refine lv_aload_n hx hb dX55_drop_46 rfl (lv_at hl 0 rfl) ?_
      refine k_get X hH in_X55 0 rfl hc 1 (by decide) q6577 rfl dX55_drop_47 ?_
      refine lv_iconst (v := 3) hx hb dX55_drop_50 (by decide) ?_
      refine lv_iload_n hx hb dX55_drop_51 rfl (lv_at hl 1 rfl) ?_
      refine lv_imul hx hb dX55_drop_52 ?_
      have e_11 := z_mul (z_m (rfl : (3 : Int32).toInt = 3)) (z_m (rfl : x2.toInt = _))
      refine lv_iconst (v := 3) hx hb dX55_drop_53 (by decide) ?_
      refine lv_iadd hx hb dX55_drop_54 ?_
      have e_12 := z_add e_11 (z_m (rfl : (3 : Int32).toInt = 3))
      refine lv_iload_n hx hb dX55_drop_55 rfl (lv_at hl 2 rfl) ?_
      refine lv_iadd hx hb dX55_drop_56 ?_
      have e_13 := z_add e_12 (z_m (rfl : x3.toInt = _))
      have hq_14 := hw.1
      have hw := hw.2
      have e_15 := z_xi e_13 hq_14 (by decide)
      refine k_iald X hH 2 1 rfl rfl (z_in e_15 hq_14) dX55_drop_57 ?_
      have e_16 := z_ld (f := f_heads) e_15 hq_14.1
      refine lv_topi (fun v_17 ev_17 => ?_)
      have hw := hw v_17.toInt (by rw [ev_17]; exact e_16)
      have hq_19 := hw.1
      have hw := hw.2
      have e_20 := z_xi e_10 hq_19 (by decide)
      obtain ⟨f_heads_18, ef_heads_18⟩ : ∃ y : Nat → Int32, y = upd f_heads ((3 * x2) + x3).toNatClampNeg v_17 := ⟨_, rfl⟩
      refine k_iast X hH 2 1 rfl rfl (z_in e_20 hq_19) dX55_drop_58 ef_heads_18 (ws1 := (wX55 ci ad d f_said f_heads_18 f_kinds f_folded f_lengths f_parts f_rules f_known f_rounds f_given f_strata f_circle f_turns f_needs f_comes f_values f_plain f_plainCount f_pointers f_now f_fresh f_many f_sums f_lows f_highs f_layed f_worked f_large)) rfl (fun H locs hH => ?_)
      have hw := hw (zF f_heads_18) (by rw [ef_heads_18]; exact z_st (f := f_heads) e_20 hq_19.1 (rfl : v_17.toInt = _))
      have hq_22 := hw.1
      have hw := hw.2
      obtain ⟨x3_21, ex3_21⟩ : ∃ y : Int32, y = x3 + 1 := ⟨_, rfl⟩
      have hw := hw x3_21.toInt (by rw [ex3_21]; exact (z_x (z_add (z_m (rfl : x3.toInt = _)) (z_m (rfl : (1 : Int32).toInt = 1))) hq_22))
      refine lv_iinc (v := x3_21) (lv' := [(3, .int x3_21), (0, .ref (ad 0)), (2, .int x2)]) hx hb dX55_drop_59 hl (k := 2) rfl (by rw [ex3_21]; rfl) (by decide) rfl (fun ls hl => ?_)
      refine lv_goto (tgt := 32) hx hb dX55_drop_62 (by decide) ?_
      exact ih x3_21 f_heads_18 hw _ _ ls hH (lv_sub hl [1, 2, 0] rfl)
set_option maxHeartbeats 4000000 in
theorem atX55_drop_67 {p : Program} {l : Launch} {e : Env} {s : State} {m : MethodId} {args : Array Value} {below : List Frame} {meth : Method} {c : Code} {dC : Nat → ClassId} {dI : Nat → Nat → Nat} {cl : List vw_C} {ci : Nat} (hc : cl[ci]? = some (RX55, TX55, 28)) {ad : Nat → Nat} {d : Nat → ClassId} {A : Nat → Prop} {post : Int → (Int → Int) → (Int → Int) → (Int → Int) → (Int → Int) → (Int → Int) → Int → Int → Prop} {f_said : Nat → Int32} {f_rounds : Nat → Int32} {f_given : Nat → Int32} {f_strata : Nat → Int32} {f_circle : Int32} {f_turns : Int32} {f_needs : Nat → Int32} {f_comes : Nat → Int32} {f_values : Nat → Int32} {f_plain : Nat → Int32} {f_plainCount : Int32} {f_pointers : Nat → Int32} {f_now : Int32} {f_fresh : Nat → Int32} {f_many : Nat → Int32} {f_sums : Nat → Int32} {f_lows : Nat → Int32} {f_highs : Nat → Int32} {f_layed : Int32} {f_worked : Int64} {f_large : Int32} (X : kX p s m args meth c cX55_drop 4 RX55 (some .int) (dC, dI) cl (tX55 d)) {K104 : (Int → Int) → Prop} {x2 : Int32} {f_heads : Nat → Int32} {f_kinds : Nat → Int32} {f_folded : Nat → Int32} {f_lengths : Nat → Int32} {f_rules : Int32} {f_known : Int32} (hk104 : ∀ (f_parts : Nat → Int32), K104 (zF f_parts) → ∀ (H : Heap) (locs : List Loc) (ls : Array Slot), kH (dC, dI) cl A s.heap H locs (wX55 ci ad d f_said f_heads f_kinds f_folded f_lengths f_parts f_rules f_known f_rounds f_given f_strata f_circle f_turns f_needs f_comes f_values f_plain f_plainCount f_pointers f_now f_fresh f_many f_sums f_lows f_highs f_layed f_worked f_large) → lv_has ls 4 [(0, .ref (ad 0)), (2, .int x2)] → W p l e ({ frames := 1, cells := 0, slots := 0, locals := 21 } : Room) s m args below meth c H locs 0 0 (MQ below (va_Qi (fun (r : Int32) (u : (Nat → Int32) × (Nat → Int32) × (Nat → Int32) × (Nat → Int32) × (Nat → Int32) × Int32 × Int32) => post r.toInt (zF (u.1)) (zF (u.2.1)) (zF (u.2.2.1)) (zF (u.2.2.2.1)) (zF (u.2.2.2.2.1)) (u.2.2.2.2.2.1).toInt (u.2.2.2.2.2.2).toInt) (kB (dC, dI) cl (tX55 d) A (fun u : (Nat → Int32) × (Nat → Int32) × (Nat → Int32) × (Nat → Int32) × (Nat → Int32) × Int32 × Int32 => (wX55 ci ad d f_said (u.1) (u.2.1) (u.2.2.1) (u.2.2.2.1) (u.2.2.2.2.1) (u.2.2.2.2.2.1) (u.2.2.2.2.2.2) f_rounds f_given f_strata f_circle f_turns f_needs f_comes f_values f_plain f_plainCount f_pointers f_now f_fresh f_many f_sums f_lows f_highs f_layed f_worked f_large))) A) args s 0 0 A) (F0 m 104 ls [])) :
    ∀ (nn : Nat) (x3 : Int32) (f_parts : Nat → Int32), wX55_drop_67 K104 x2.toInt nn x3.toInt (zF f_parts) → ∀ (H : Heap) (locs : List Loc) (ls : Array Slot), kH (dC, dI) cl A s.heap H locs (wX55 ci ad d f_said f_heads f_kinds f_folded f_lengths f_parts f_rules f_known f_rounds f_given f_strata f_circle f_turns f_needs f_comes f_values f_plain f_plainCount f_pointers f_now f_fresh f_many f_sums f_lows f_highs f_layed f_worked f_large) → lv_has ls 4 [(0, .ref (ad 0)), (2, .int x2), (3, .int x3)] → W p l e ({ frames := 1, cells := 0, slots := 0, locals := 21 } : Room) s m args below meth c H locs 0 0 (MQ below (va_Qi (fun (r : Int32) (u : (Nat → Int32) × (Nat → Int32) × (Nat → Int32) × (Nat → Int32) × (Nat → Int32) × Int32 × Int32) => post r.toInt (zF (u.1)) (zF (u.2.1)) (zF (u.2.2.1)) (zF (u.2.2.2.1)) (zF (u.2.2.2.2.1)) (u.2.2.2.2.2.1).toInt (u.2.2.2.2.2.2).toInt) (kB (dC, dI) cl (tX55 d) A (fun u : (Nat → Int32) × (Nat → Int32) × (Nat → Int32) × (Nat → Int32) × (Nat → Int32) × Int32 × Int32 => (wX55 ci ad d f_said (u.1) (u.2.1) (u.2.2.1) (u.2.2.2.1) (u.2.2.2.2.1) (u.2.2.2.2.2.1) (u.2.2.2.2.2.2) f_rounds f_given f_strata f_circle f_turns f_needs f_comes f_values f_plain f_plainCount f_pointers f_now f_fresh f_many f_sums f_lows f_highs f_layed f_worked f_large))) A) args s 0 0 A) (F0 m 67 ls []) := by
  have hx := X.1.1
  have hb := X.1.2.1
  intro nn
  induction nn with
  | zero =>
    intro x3 f_parts hw
    exact False.elim hw
  | succ n ih =>
    intro x3 f_parts hw H locs ls hH hl
    rw [wX55_drop_67] at hw
    refine lv_iload_n hx hb dX55_drop_67 rfl (lv_at hl 2 rfl) ?_
    refine lv_bipush (v := 20) hx hb dX55_drop_68 (by decide) ?_
    refine lv_icmp_ge (tgt := 104) hx hb dX55_drop_70 (by decide) (fun c_24 => ?_) (fun c_24 => ?_)
    · have hw := hw.1 (z_le (rfl : (20 : Int32).toInt = 20) (rfl : x3.toInt = _) c_24)
      exact hk104 f_parts hw _ _ ls hH (lv_sub hl [0, 1] rfl)
    · have hw := hw.2 (z_nle (rfl : (20 : Int32).toInt = 20) (rfl : x3.toInt = _) c_24)
      refine lv_aload_n hx hb dX55_drop_73 rfl (lv_at hl 0 rfl) ?_
      refine k_get X hH in_X55 0 rfl hc 5 (by decide) q6581 rfl dX55_drop_74 ?_
      refine lv_bipush (v := 20) hx hb dX55_drop_77 (by decide) ?_
      refine lv_iload_n hx hb dX55_drop_79 rfl (lv_at hl 1 rfl) ?_
      refine lv_imul hx hb dX55_drop_80 ?_
      have e_25 := z_mul (z_m (rfl : (20 : Int32).toInt = 20)) (z_m (rfl : x2.toInt = _))
      refine lv_iload_n hx hb dX55_drop_81 rfl (lv_at hl 2 rfl) ?_
      refine lv_iadd hx hb dX55_drop_82 ?_
      have e_26 := z_add e_25 (z_m (rfl : x3.toInt = _))
      refine lv_aload_n hx hb dX55_drop_83 rfl (lv_at hl 0 rfl) ?_
      refine k_get X hH in_X55 0 rfl hc 5 (by decide) q6581 rfl dX55_drop_84 ?_
      refine lv_bipush (v := 20) hx hb dX55_drop_87 (by decide) ?_
      refine lv_iload_n hx hb dX55_drop_89 rfl (lv_at hl 1 rfl) ?_
      refine lv_imul hx hb dX55_drop_90 ?_
      have e_27 := z_mul (z_m (rfl : (20 : Int32).toInt = 20)) (z_m (rfl : x2.toInt = _))
      refine lv_bipush (v := 20) hx hb dX55_drop_91 (by decide) ?_
      refine lv_iadd hx hb dX55_drop_93 ?_
      have e_28 := z_add e_27 (z_m (rfl : (20 : Int32).toInt = 20))
      refine lv_iload_n hx hb dX55_drop_94 rfl (lv_at hl 2 rfl) ?_
      refine lv_iadd hx hb dX55_drop_95 ?_
      have e_29 := z_add e_28 (z_m (rfl : x3.toInt = _))
      have hq_30 := hw.1
      have hw := hw.2
      have e_31 := z_xi e_29 hq_30 (by decide)
      refine k_iald X hH 6 5 rfl rfl (z_in e_31 hq_30) dX55_drop_96 ?_
      have e_32 := z_ld (f := f_parts) e_31 hq_30.1
      refine lv_topi (fun v_33 ev_33 => ?_)
      have hw := hw v_33.toInt (by rw [ev_33]; exact e_32)
      have hq_35 := hw.1
      have hw := hw.2
      have e_36 := z_xi e_26 hq_35 (by decide)
      obtain ⟨f_parts_34, ef_parts_34⟩ : ∃ y : Nat → Int32, y = upd f_parts ((20 * x2) + x3).toNatClampNeg v_33 := ⟨_, rfl⟩
      refine k_iast X hH 6 5 rfl rfl (z_in e_36 hq_35) dX55_drop_97 ef_parts_34 (ws1 := (wX55 ci ad d f_said f_heads f_kinds f_folded f_lengths f_parts_34 f_rules f_known f_rounds f_given f_strata f_circle f_turns f_needs f_comes f_values f_plain f_plainCount f_pointers f_now f_fresh f_many f_sums f_lows f_highs f_layed f_worked f_large)) rfl (fun H locs hH => ?_)
      have hw := hw (zF f_parts_34) (by rw [ef_parts_34]; exact z_st (f := f_parts) e_36 hq_35.1 (rfl : v_33.toInt = _))
      have hq_38 := hw.1
      have hw := hw.2
      obtain ⟨x3_37, ex3_37⟩ : ∃ y : Int32, y = x3 + 1 := ⟨_, rfl⟩
      have hw := hw x3_37.toInt (by rw [ex3_37]; exact (z_x (z_add (z_m (rfl : x3.toInt = _)) (z_m (rfl : (1 : Int32).toInt = 1))) hq_38))
      refine lv_iinc (v := x3_37) (lv' := [(3, .int x3_37), (0, .ref (ad 0)), (2, .int x2)]) hx hb dX55_drop_98 hl (k := 2) rfl (by rw [ex3_37]; rfl) (by decide) rfl (fun ls hl => ?_)
      refine lv_goto (tgt := 67) hx hb dX55_drop_101 (by decide) ?_
      exact ih x3_37 f_parts_34 hw _ _ ls hH (lv_sub hl [1, 2, 0] rfl)
set_option maxHeartbeats 4000000 in
theorem atX55_drop_22 {p : Program} {l : Launch} {e : Env} {s : State} {m : MethodId} {args : Array Value} {below : List Frame} {meth : Method} {c : Code} {dC : Nat → ClassId} {dI : Nat → Nat → Nat} {cl : List vw_C} {ci : Nat} (hc : cl[ci]? = some (RX55, TX55, 28)) {ad : Nat → Nat} {d : Nat → ClassId} {A : Nat → Prop} {post : Int → (Int → Int) → (Int → Int) → (Int → Int) → (Int → Int) → (Int → Int) → Int → Int → Prop} {f_said : Nat → Int32} {f_rounds : Nat → Int32} {f_given : Nat → Int32} {f_strata : Nat → Int32} {f_circle : Int32} {f_turns : Int32} {f_needs : Nat → Int32} {f_comes : Nat → Int32} {f_values : Nat → Int32} {f_plain : Nat → Int32} {f_plainCount : Int32} {f_pointers : Nat → Int32} {f_now : Int32} {f_fresh : Nat → Int32} {f_many : Nat → Int32} {f_sums : Nat → Int32} {f_lows : Nat → Int32} {f_highs : Nat → Int32} {f_layed : Int32} {f_worked : Int64} {f_large : Int32} (X : kX p s m args meth c cX55_drop 4 RX55 (some .int) (dC, dI) cl (tX55 d)) {K152 : (Int → Int) → (Int → Int) → (Int → Int) → (Int → Int) → (Int → Int) → Prop}  {f_rules : Int32} {f_known : Int32} (hk152 : ∀ (f_heads : Nat → Int32) (f_kinds : Nat → Int32) (f_folded : Nat → Int32) (f_lengths : Nat → Int32) (f_parts : Nat → Int32), K152 (zF f_heads) (zF f_kinds) (zF f_folded) (zF f_lengths) (zF f_parts) → ∀ (H : Heap) (locs : List Loc) (ls : Array Slot), kH (dC, dI) cl A s.heap H locs (wX55 ci ad d f_said f_heads f_kinds f_folded f_lengths f_parts f_rules f_known f_rounds f_given f_strata f_circle f_turns f_needs f_comes f_values f_plain f_plainCount f_pointers f_now f_fresh f_many f_sums f_lows f_highs f_layed f_worked f_large) → lv_has ls 4 [(0, .ref (ad 0))] → W p l e ({ frames := 1, cells := 0, slots := 0, locals := 21 } : Room) s m args below meth c H locs 0 0 (MQ below (va_Qi (fun (r : Int32) (u : (Nat → Int32) × (Nat → Int32) × (Nat → Int32) × (Nat → Int32) × (Nat → Int32) × Int32 × Int32) => post r.toInt (zF (u.1)) (zF (u.2.1)) (zF (u.2.2.1)) (zF (u.2.2.2.1)) (zF (u.2.2.2.2.1)) (u.2.2.2.2.2.1).toInt (u.2.2.2.2.2.2).toInt) (kB (dC, dI) cl (tX55 d) A (fun u : (Nat → Int32) × (Nat → Int32) × (Nat → Int32) × (Nat → Int32) × (Nat → Int32) × Int32 × Int32 => (wX55 ci ad d f_said (u.1) (u.2.1) (u.2.2.1) (u.2.2.2.1) (u.2.2.2.2.1) (u.2.2.2.2.2.1) (u.2.2.2.2.2.2) f_rounds f_given f_strata f_circle f_turns f_needs f_comes f_values f_plain f_plainCount f_pointers f_now f_fresh f_many f_sums f_lows f_highs f_layed f_worked f_large))) A) args s 0 0 A) (F0 m 152 ls [])) :
    ∀ (nn : Nat) (x2 : Int32) (f_heads : Nat → Int32) (f_kinds : Nat → Int32) (f_folded : Nat → Int32) (f_lengths : Nat → Int32) (f_parts : Nat → Int32), wX55_drop_22 K152 f_rules.toInt nn x2.toInt (zF f_heads) (zF f_kinds) (zF f_folded) (zF f_lengths) (zF f_parts) → ∀ (H : Heap) (locs : List Loc) (ls : Array Slot), kH (dC, dI) cl A s.heap H locs (wX55 ci ad d f_said f_heads f_kinds f_folded f_lengths f_parts f_rules f_known f_rounds f_given f_strata f_circle f_turns f_needs f_comes f_values f_plain f_plainCount f_pointers f_now f_fresh f_many f_sums f_lows f_highs f_layed f_worked f_large) → lv_has ls 4 [(0, .ref (ad 0)), (2, .int x2)] → W p l e ({ frames := 1, cells := 0, slots := 0, locals := 21 } : Room) s m args below meth c H locs 0 0 (MQ below (va_Qi (fun (r : Int32) (u : (Nat → Int32) × (Nat → Int32) × (Nat → Int32) × (Nat → Int32) × (Nat → Int32) × Int32 × Int32) => post r.toInt (zF (u.1)) (zF (u.2.1)) (zF (u.2.2.1)) (zF (u.2.2.2.1)) (zF (u.2.2.2.2.1)) (u.2.2.2.2.2.1).toInt (u.2.2.2.2.2.2).toInt) (kB (dC, dI) cl (tX55 d) A (fun u : (Nat → Int32) × (Nat → Int32) × (Nat → Int32) × (Nat → Int32) × (Nat → Int32) × Int32 × Int32 => (wX55 ci ad d f_said (u.1) (u.2.1) (u.2.2.1) (u.2.2.2.1) (u.2.2.2.2.1) (u.2.2.2.2.2.1) (u.2.2.2.2.2.2) f_rounds f_given f_strata f_circle f_turns f_needs f_comes f_values f_plain f_plainCount f_pointers f_now f_fresh f_many f_sums f_lows f_highs f_layed f_worked f_large))) A) args s 0 0 A) (F0 m 22 ls []) := by
  have hx := X.1.1
  have hb := X.1.2.1
  intro nn
  induction nn with
  | zero =>
    intro x2 f_heads f_kinds f_folded f_lengths f_parts hw
    exact False.elim hw
  | succ n ih =>
    intro x2 f_heads f_kinds f_folded f_lengths f_parts hw H locs ls hH hl
    rw [wX55_drop_22] at hw
    refine lv_iload_n hx hb dX55_drop_22 rfl (lv_at hl 1 rfl) ?_
    refine lv_aload_n hx hb dX55_drop_23 rfl (lv_at hl 0 rfl) ?_
    refine k_get X hH in_X55 0 rfl hc 6 (by decide) q6582 rfl dX55_drop_24 ?_
    refine lv_icmp_ge (tgt := 152) hx hb dX55_drop_27 (by decide) (fun c_7 => ?_) (fun c_7 => ?_)
    · have hw := hw.1 (z_le (rfl : f_rules.toInt = _) (rfl : x2.toInt = _) c_7)
      exact hk152 f_heads f_kinds f_folded f_lengths f_parts hw _ _ ls hH (lv_sub hl [0] rfl)
    · have hw := hw.2 (z_nle (rfl : f_rules.toInt = _) (rfl : x2.toInt = _) c_7)
      refine lv_iconst (v := 0) hx hb dX55_drop_30 (by decide) ?_
      refine lv_istore_n (lv' := [(3, .int 0), (0, .ref (ad 0)), (2, .int x2)]) hx hb dX55_drop_31 rfl hl (by decide) rfl (fun ls hl => ?_)
      obtain ⟨fu, hw⟩ := hw
      refine atX55_drop_32 hc X ?_ fu 0 f_heads hw _ _ ls hH (lv_sub hl [1, 2, 0] rfl)
      · intro f_heads_23 hw H locs ls hH hl
        refine lv_iconst (v := 0) hx hb dX55_drop_65 (by decide) ?_
        refine lv_istore_n (lv' := [(3, .int 0), (0, .ref (ad 0)), (2, .int x2)]) hx hb dX55_drop_66 rfl hl (by decide) rfl (fun ls hl => ?_)
        obtain ⟨fu, hw⟩ := hw
        refine atX55_drop_67 hc X ?_ fu 0 f_parts hw _ _ ls hH (lv_sub hl [1, 2, 0] rfl)
        · intro f_parts_39 hw H locs ls hH hl
          refine lv_aload_n hx hb dX55_drop_104 rfl (lv_at hl 0 rfl) ?_
          refine k_get X hH in_X55 0 rfl hc 2 (by decide) q6578 rfl dX55_drop_105 ?_
          refine lv_iload_n hx hb dX55_drop_108 rfl (lv_at hl 1 rfl) ?_
          refine lv_aload_n hx hb dX55_drop_109 rfl (lv_at hl 0 rfl) ?_
          refine k_get X hH in_X55 0 rfl hc 2 (by decide) q6578 rfl dX55_drop_110 ?_
          refine lv_iload_n hx hb dX55_drop_113 rfl (lv_at hl 1 rfl) ?_
          refine lv_iconst (v := 1) hx hb dX55_drop_114 (by decide) ?_
          refine lv_iadd hx hb dX55_drop_115 ?_
          have e_40 := z_add (z_m (rfl : x2.toInt = _)) (z_m (rfl : (1 : Int32).toInt = 1))
          have hq_41 := hw.1
          have hw := hw.2
          have e_42 := z_xi e_40 hq_41 (by decide)
          refine k_iald X hH 3 2 rfl rfl (z_in e_42 hq_41) dX55_drop_116 ?_
          have e_43 := z_ld (f := f_kinds) e_42 hq_41.1
          refine lv_topi (fun v_44 ev_44 => ?_)
          have hw := hw v_44.toInt (by rw [ev_44]; exact e_43)
          have hq_46 := hw.1
          have hw := hw.2
          obtain ⟨f_kinds_45, ef_kinds_45⟩ : ∃ y : Nat → Int32, y = upd f_kinds x2.toNatClampNeg v_44 := ⟨_, rfl⟩
          refine k_iast X hH 3 2 rfl rfl (z_in (rfl : x2.toInt = _) hq_46) dX55_drop_117 ef_kinds_45 (ws1 := (wX55 ci ad d f_said f_heads_23 f_kinds_45 f_folded f_lengths f_parts_39 f_rules f_known f_rounds f_given f_strata f_circle f_turns f_needs f_comes f_values f_plain f_plainCount f_pointers f_now f_fresh f_many f_sums f_lows f_highs f_layed f_worked f_large)) rfl (fun H locs hH => ?_)
          have hw := hw (zF f_kinds_45) (by rw [ef_kinds_45]; exact z_st (f := f_kinds) (rfl : x2.toInt = _) hq_46.1 (rfl : v_44.toInt = _))
          refine lv_aload_n hx hb dX55_drop_118 rfl (lv_at hl 0 rfl) ?_
          refine k_get X hH in_X55 0 rfl hc 3 (by decide) q6579 rfl dX55_drop_119 ?_
          refine lv_iload_n hx hb dX55_drop_122 rfl (lv_at hl 1 rfl) ?_
          refine lv_aload_n hx hb dX55_drop_123 rfl (lv_at hl 0 rfl) ?_
          refine k_get X hH in_X55 0 rfl hc 3 (by decide) q6579 rfl dX55_drop_124 ?_
          refine lv_iload_n hx hb dX55_drop_127 rfl (lv_at hl 1 rfl) ?_
          refine lv_iconst (v := 1) hx hb dX55_drop_128 (by decide) ?_
          refine lv_iadd hx hb dX55_drop_129 ?_
          have e_47 := z_add (z_m (rfl : x2.toInt = _)) (z_m (rfl : (1 : Int32).toInt = 1))
          have e_48 := z_xi e_47 hq_41 (by decide)
          refine k_iald X hH 4 3 rfl rfl (z_in e_48 hq_41) dX55_drop_130 ?_
          have e_49 := z_ld (f := f_folded) e_48 hq_41.1
          refine lv_topi (fun v_50 ev_50 => ?_)
          have hw := hw v_50.toInt (by rw [ev_50]; exact e_49)
          obtain ⟨f_folded_51, ef_folded_51⟩ : ∃ y : Nat → Int32, y = upd f_folded x2.toNatClampNeg v_50 := ⟨_, rfl⟩
          refine k_iast X hH 4 3 rfl rfl (z_in (rfl : x2.toInt = _) hq_46) dX55_drop_131 ef_folded_51 (ws1 := (wX55 ci ad d f_said f_heads_23 f_kinds_45 f_folded_51 f_lengths f_parts_39 f_rules f_known f_rounds f_given f_strata f_circle f_turns f_needs f_comes f_values f_plain f_plainCount f_pointers f_now f_fresh f_many f_sums f_lows f_highs f_layed f_worked f_large)) rfl (fun H locs hH => ?_)
          have hw := hw (zF f_folded_51) (by rw [ef_folded_51]; exact z_st (f := f_folded) (rfl : x2.toInt = _) hq_46.1 (rfl : v_50.toInt = _))
          refine lv_aload_n hx hb dX55_drop_132 rfl (lv_at hl 0 rfl) ?_
          refine k_get X hH in_X55 0 rfl hc 4 (by decide) q6580 rfl dX55_drop_133 ?_
          refine lv_iload_n hx hb dX55_drop_136 rfl (lv_at hl 1 rfl) ?_
          refine lv_aload_n hx hb dX55_drop_137 rfl (lv_at hl 0 rfl) ?_
          refine k_get X hH in_X55 0 rfl hc 4 (by decide) q6580 rfl dX55_drop_138 ?_
          refine lv_iload_n hx hb dX55_drop_141 rfl (lv_at hl 1 rfl) ?_
          refine lv_iconst (v := 1) hx hb dX55_drop_142 (by decide) ?_
          refine lv_iadd hx hb dX55_drop_143 ?_
          have e_52 := z_add (z_m (rfl : x2.toInt = _)) (z_m (rfl : (1 : Int32).toInt = 1))
          have e_53 := z_xi e_52 hq_41 (by decide)
          refine k_iald X hH 5 4 rfl rfl (z_in e_53 hq_41) dX55_drop_144 ?_
          have e_54 := z_ld (f := f_lengths) e_53 hq_41.1
          refine lv_topi (fun v_55 ev_55 => ?_)
          have hw := hw v_55.toInt (by rw [ev_55]; exact e_54)
          obtain ⟨f_lengths_56, ef_lengths_56⟩ : ∃ y : Nat → Int32, y = upd f_lengths x2.toNatClampNeg v_55 := ⟨_, rfl⟩
          refine k_iast X hH 5 4 rfl rfl (z_in (rfl : x2.toInt = _) hq_46) dX55_drop_145 ef_lengths_56 (ws1 := (wX55 ci ad d f_said f_heads_23 f_kinds_45 f_folded_51 f_lengths_56 f_parts_39 f_rules f_known f_rounds f_given f_strata f_circle f_turns f_needs f_comes f_values f_plain f_plainCount f_pointers f_now f_fresh f_many f_sums f_lows f_highs f_layed f_worked f_large)) rfl (fun H locs hH => ?_)
          have hw := hw (zF f_lengths_56) (by rw [ef_lengths_56]; exact z_st (f := f_lengths) (rfl : x2.toInt = _) hq_46.1 (rfl : v_55.toInt = _))
          have hq_58 := hw.1
          have hw := hw.2
          obtain ⟨x2_57, ex2_57⟩ : ∃ y : Int32, y = x2 + 1 := ⟨_, rfl⟩
          have hw := hw x2_57.toInt (by rw [ex2_57]; exact (z_x (z_add (z_m (rfl : x2.toInt = _)) (z_m (rfl : (1 : Int32).toInt = 1))) hq_58))
          refine lv_iinc (v := x2_57) (lv' := [(2, .int x2_57), (0, .ref (ad 0))]) hx hb dX55_drop_146 hl (k := 1) rfl (by rw [ex2_57]; rfl) (by decide) rfl (fun ls hl => ?_)
          refine lv_goto (tgt := 22) hx hb dX55_drop_149 (by decide) ?_
          exact ih x2_57 f_heads_23 f_kinds_45 f_folded_51 f_lengths_56 f_parts_39 hw _ _ ls hH (lv_sub hl [1, 0] rfl)
set_option maxHeartbeats 4000000 in
theorem walkX55_drop {l : Launch} {dC : Nat → ClassId} {dI : Nat → Nat → Nat} {cl : List vw_C} {ci : Nat} (hc : cl[ci]? = some (RX55, TX55, 28)) {ad : Nat → Nat} {d : Nat → ClassId} {sz : Nat} {f_said : Nat → Int32} {f_heads : Nat → Int32} {f_kinds : Nat → Int32} {f_folded : Nat → Int32} {f_lengths : Nat → Int32} {f_parts : Nat → Int32} {f_rules : Int32} {f_known : Int32} {f_rounds : Nat → Int32} {f_given : Nat → Int32} {f_strata : Nat → Int32} {f_circle : Int32} {f_turns : Int32} {f_needs : Nat → Int32} {f_comes : Nat → Int32} {f_values : Nat → Int32} {f_plain : Nat → Int32} {f_plainCount : Int32} {f_pointers : Nat → Int32} {f_now : Int32} {f_fresh : Nat → Int32} {f_many : Nat → Int32} {f_sums : Nat → Int32} {f_lows : Nat → Int32} {f_highs : Nat → Int32} {f_layed : Int32} {f_worked : Int64} {f_large : Int32} {x1 : Int32} {post : Int → (Int → Int) → (Int → Int) → (Int → Int) → (Int → Int) → (Int → Int) → Int → Int → Prop} (hw : wpX55_drop post (zF f_heads) (zF f_kinds) (zF f_folded) (zF f_lengths) (zF f_parts) f_rules.toInt f_known.toInt x1.toInt) :
    Met l yX55_drop (ws_ yX55_drop cX55_drop 4 (some .int)) ({ frames := 1, cells := 0, slots := 0, locals := 21 } : Room) (kPc (dC, dI) cl (tX55 d) [.ref (ad 0), .int x1] sz (wX55 ci ad d f_said f_heads f_kinds f_folded f_lengths f_parts f_rules f_known f_rounds f_given f_strata f_circle f_turns f_needs f_comes f_values f_plain f_plainCount f_pointers f_now f_fresh f_many f_sums f_lows f_highs f_layed f_worked f_large)) (va_Qi (fun (r : Int32) (u : (Nat → Int32) × (Nat → Int32) × (Nat → Int32) × (Nat → Int32) × (Nat → Int32) × Int32 × Int32) => post r.toInt (zF (u.1)) (zF (u.2.1)) (zF (u.2.2.1)) (zF (u.2.2.2.1)) (zF (u.2.2.2.2.1)) (u.2.2.2.2.2.1).toInt (u.2.2.2.2.2.2).toInt) (kB (dC, dI) cl (tX55 d) (va_A (wX55 ci ad d f_said f_heads f_kinds f_folded f_lengths f_parts f_rules f_known f_rounds f_given f_strata f_circle f_turns f_needs f_comes f_values f_plain f_plainCount f_pointers f_now f_fresh f_many f_sums f_lows f_highs f_layed f_worked f_large) sz) (fun u : (Nat → Int32) × (Nat → Int32) × (Nat → Int32) × (Nat → Int32) × (Nat → Int32) × Int32 × Int32 => (wX55 ci ad d f_said (u.1) (u.2.1) (u.2.2.1) (u.2.2.2.1) (u.2.2.2.2.1) (u.2.2.2.2.2.1) (u.2.2.2.2.2.2) f_rounds f_given f_strata f_circle f_turns f_needs f_comes f_values f_plain f_plainCount f_pointers f_now f_fresh f_many f_sums f_lows f_highs f_layed f_worked f_large))) (va_A (wX55 ci ad d f_said f_heads f_kinds f_folded f_lengths f_parts f_rules f_known f_rounds f_given f_strata f_circle f_turns f_needs f_comes f_values f_plain f_plainCount f_pointers f_now f_fresh f_many f_sums f_lows f_highs f_layed f_worked f_large) sz)) 0 0 (va_A (wX55 ci ad d f_said f_heads f_kinds f_folded f_lengths f_parts f_rules f_known f_rounds f_given f_strata f_circle f_turns f_needs f_comes f_values f_plain f_plainCount f_pointers f_now f_fresh f_many f_sums f_lows f_highs f_layed f_worked f_large) sz) := by
  refine k_enter (by decide) (Nat.le_of_ble_eq_true rfl) ?_
  intro p e s m below meth c ls X hsz hH hl
  subst hsz
  generalize va_A (wX55 ci ad d f_said f_heads f_kinds f_folded f_lengths f_parts f_rules f_known f_rounds f_given f_strata f_circle f_turns f_needs f_comes f_values f_plain f_plainCount f_pointers f_now f_fresh f_many f_sums f_lows f_highs f_layed f_worked f_large) s.heap.size = A at hH ⊢
  have hx := X.1.1
  have hb := X.1.2.1
  have hl : lv_has ls 4 [(0, .ref (ad 0)), (1, .int x1)] := hl
  unfold wpX55_drop at hw
  refine lv_aload_n hx hb dX55_drop_0 rfl (lv_at hl 0 rfl) ?_
  refine lv_iload_n hx hb dX55_drop_1 rfl (lv_at hl 1 rfl) ?_
  refine k_i0 hH (k_runV (As := [.int x1]) (rest := []) X hH.1 hH.2.1 X.2.2.2 (walkX55_isRule hc (x1 := x1) (f_said := f_said) (f_heads := f_heads) (f_kinds := f_kinds) (f_folded := f_folded) (f_lengths := f_lengths) (f_parts := f_parts) (f_rules := f_rules) (f_known := f_known) (f_rounds := f_rounds) (f_given := f_given) (f_strata := f_strata) (f_circle := f_circle) (f_turns := f_turns) (f_needs := f_needs) (f_comes := f_comes) (f_values := f_values) (f_plain := f_plain) (f_plainCount := f_plainCount) (f_pointers := f_pointers) (f_now := f_now) (f_fresh := f_fresh) (f_many := f_many) (f_sums := f_sums) (f_lows := f_lows) (f_highs := f_highs) (f_layed := f_layed) (f_worked := f_worked) (f_large := f_large) hw) (cwV 1 X.1.2.2.2.2 gX55_94 rfl rfl rfl hX55_isRule ⟨Nat.le_of_ble_eq_true rfl, Nat.le_of_ble_eq_true rfl⟩) hc (q0 := 0) rfl rfl hl.1 rfl (Nat.le_of_ble_eq_true rfl) dX55_drop_2 ⟨Nat.le_refl 0, Nat.le_refl 0⟩) (fun r_1 _ H locs hw hH => ?_)
  have hH : kH (dC, dI) cl A s.heap H locs (wX55 ci ad d f_said f_heads f_kinds f_folded f_lengths f_parts f_rules f_known f_rounds f_given f_strata f_circle f_turns f_needs f_comes f_values f_plain f_plainCount f_pointers f_now f_fresh f_many f_sums f_lows f_highs f_layed f_worked f_large) := hH
  refine lv_if_ne (tgt := 10) hx hb dX55_drop_5 (by decide) (fun c_2 => ?_) (fun c_2 => ?_)
  · have hw := hw.2 (z_ne (rfl : r_1.toInt = _) (rfl : (0 : Int32).toInt = 0) c_2)
    refine lv_aload_n hx hb dX55_drop_10 rfl (lv_at hl 0 rfl) ?_
    refine lv_dup hx hb dX55_drop_11 rfl ?_
    refine k_get X hH in_X55 0 rfl hc 6 (by decide) q6582 rfl dX55_drop_12 ?_
    refine lv_iconst (v := 1) hx hb dX55_drop_15 (by decide) ?_
    refine lv_isub hx hb dX55_drop_16 ?_
    have e_3 := z_sub (z_m (rfl : f_rules.toInt = _)) (z_m (rfl : (1 : Int32).toInt = 1))
    have hq_4 := hw.1
    have hw := hw.2
    have e_5 := z_x e_3 hq_4
    refine lv_topi (fun f_rules_6 ef_rules_6 => ?_)
    have hw := hw f_rules_6.toInt (by rw [ef_rules_6]; exact e_5)
    refine k_put X hH in_X55 tyX55_ok nmX55 0 rfl hc 6 (by decide) q6582 rfl (ty := .int) rfl rfl rfl (Nat.le_of_ble_eq_true rfl) dX55_drop_17 (ws1 := (wX55 ci ad d f_said f_heads f_kinds f_folded f_lengths f_parts f_rules_6 f_known f_rounds f_given f_strata f_circle f_turns f_needs f_comes f_values f_plain f_plainCount f_pointers f_now f_fresh f_many f_sums f_lows f_highs f_layed f_worked f_large)) rfl (fun H locs hH => ?_)
    refine lv_iload_n hx hb dX55_drop_20 rfl (lv_at hl 1 rfl) ?_
    refine lv_istore_n (lv' := [(2, .int x1), (0, .ref (ad 0)), (1, .int x1)]) hx hb dX55_drop_21 rfl hl (by decide) rfl (fun ls hl => ?_)
    obtain ⟨fu, hw⟩ := hw
    refine atX55_drop_22 hc X ?_ fu x1 f_heads f_kinds f_folded f_lengths f_parts hw _ _ ls hH (lv_sub hl [1, 0] rfl)
    · intro f_heads_59 f_kinds_60 f_folded_61 f_lengths_62 f_parts_63 hw H locs ls hH hl
      refine lv_aload_n hx hb dX55_drop_152 rfl (lv_at hl 0 rfl) ?_
      refine lv_iconst (v := 0) hx hb dX55_drop_153 (by decide) ?_
      refine k_put X hH in_X55 tyX55_ok nmX55 0 rfl hc 7 (by decide) q6583 rfl (ty := .boolean) rfl rfl rfl (Nat.le_of_ble_eq_true rfl) dX55_drop_154 (ws1 := (wX55 ci ad d f_said f_heads_59 f_kinds_60 f_folded_61 f_lengths_62 f_parts_63 f_rules_6 0 f_rounds f_given f_strata f_circle f_turns f_needs f_comes f_values f_plain f_plainCount f_pointers f_now f_fresh f_many f_sums f_lows f_highs f_layed f_worked f_large)) rfl (fun H locs hH => ?_)
      refine lv_aload_n hx hb dX55_drop_157 rfl (lv_at hl 0 rfl) ?_
      refine k_get X hH in_X55 0 rfl hc 6 (by decide) q6582 rfl dX55_drop_158 ?_
      exact k_iret (v := f_rules_6) X hH (f_heads_59, f_kinds_60, f_folded_61, f_lengths_62, f_parts_63, f_rules_6, 0) hw rfl rfl dX55_drop_161
  · have hw := hw.1 (z_eq (rfl : r_1.toInt = _) (rfl : (0 : Int32).toInt = 0) c_2)
    refine lv_iconst (v := (-1)) hx hb dX55_drop_8 (by decide) ?_
    exact k_iret (v := (-1)) X hH (f_heads, f_kinds, f_folded, f_lengths, f_parts, f_rules, f_known) hw rfl rfl dX55_drop_9
set_option maxHeartbeats 4000000 in
theorem walkX55_safe {l : Launch} {dC : Nat → ClassId} {dI : Nat → Nat → Nat} {cl : List vw_C} {ci : Nat} (hc : cl[ci]? = some (RX55, TX55, 28)) {ad : Nat → Nat} {d : Nat → ClassId} {sz : Nat} {f_said : Nat → Int32} {f_heads : Nat → Int32} {f_kinds : Nat → Int32} {f_folded : Nat → Int32} {f_lengths : Nat → Int32} {f_parts : Nat → Int32} {f_rules : Int32} {f_known : Int32} {f_rounds : Nat → Int32} {f_given : Nat → Int32} {f_strata : Nat → Int32} {f_circle : Int32} {f_turns : Int32} {f_needs : Nat → Int32} {f_comes : Nat → Int32} {f_values : Nat → Int32} {f_plain : Nat → Int32} {f_plainCount : Int32} {f_pointers : Nat → Int32} {f_now : Int32} {f_fresh : Nat → Int32} {f_many : Nat → Int32} {f_sums : Nat → Int32} {f_lows : Nat → Int32} {f_highs : Nat → Int32} {f_layed : Int32} {f_worked : Int64} {f_large : Int32} {x1 : Int32} {post : Int → Prop} (hw : wpX55_safe post (zF f_heads) (zF f_kinds) (zF f_folded) (zF f_lengths) (zF f_parts) f_rules.toInt x1.toInt) :
    Met l yX55_safe (ws_ yX55_safe cX55_safe 2 (some .int)) ({ frames := 2, cells := 0, slots := 0, locals := 49 } : Room) (kPc (dC, dI) cl (tX55 d) [.ref (ad 0), .int x1] sz (wX55 ci ad d f_said f_heads f_kinds f_folded f_lengths f_parts f_rules f_known f_rounds f_given f_strata f_circle f_turns f_needs f_comes f_values f_plain f_plainCount f_pointers f_now f_fresh f_many f_sums f_lows f_highs f_layed f_worked f_large)) (va_Qi (fun (r : Int32) (_ : Unit) => post r.toInt) (kB (dC, dI) cl (tX55 d) (va_A (wX55 ci ad d f_said f_heads f_kinds f_folded f_lengths f_parts f_rules f_known f_rounds f_given f_strata f_circle f_turns f_needs f_comes f_values f_plain f_plainCount f_pointers f_now f_fresh f_many f_sums f_lows f_highs f_layed f_worked f_large) sz) (fun _ : Unit => (wX55 ci ad d f_said f_heads f_kinds f_folded f_lengths f_parts f_rules f_known f_rounds f_given f_strata f_circle f_turns f_needs f_comes f_values f_plain f_plainCount f_pointers f_now f_fresh f_many f_sums f_lows f_highs f_layed f_worked f_large))) (va_A (wX55 ci ad d f_said f_heads f_kinds f_folded f_lengths f_parts f_rules f_known f_rounds f_given f_strata f_circle f_turns f_needs f_comes f_values f_plain f_plainCount f_pointers f_now f_fresh f_many f_sums f_lows f_highs f_layed f_worked f_large) sz)) 0 0 (va_A (wX55 ci ad d f_said f_heads f_kinds f_folded f_lengths f_parts f_rules f_known f_rounds f_given f_strata f_circle f_turns f_needs f_comes f_values f_plain f_plainCount f_pointers f_now f_fresh f_many f_sums f_lows f_highs f_layed f_worked f_large) sz) := by
  refine k_enter (by decide) (Nat.le_of_ble_eq_true rfl) ?_
  intro p e s m below meth c ls X hsz hH hl
  subst hsz
  generalize va_A (wX55 ci ad d f_said f_heads f_kinds f_folded f_lengths f_parts f_rules f_known f_rounds f_given f_strata f_circle f_turns f_needs f_comes f_values f_plain f_plainCount f_pointers f_now f_fresh f_many f_sums f_lows f_highs f_layed f_worked f_large) s.heap.size = A at hH ⊢
  have hx := X.1.1
  have hb := X.1.2.1
  have hl : lv_has ls 2 [(0, .ref (ad 0)), (1, .int x1)] := hl
  unfold wpX55_safe at hw
  refine lv_aload_n hx hb dX55_safe_0 rfl (lv_at hl 0 rfl) ?_
  refine lv_iload_n hx hb dX55_safe_1 rfl (lv_at hl 1 rfl) ?_
  refine k_i0 hH (k_runV (As := [.int x1]) (rest := []) X hH.1 hH.2.1 X.2.2.2 (walkX55_isRule hc (x1 := x1) (f_said := f_said) (f_heads := f_heads) (f_kinds := f_kinds) (f_folded := f_folded) (f_lengths := f_lengths) (f_parts := f_parts) (f_rules := f_rules) (f_known := f_known) (f_rounds := f_rounds) (f_given := f_given) (f_strata := f_strata) (f_circle := f_circle) (f_turns := f_turns) (f_needs := f_needs) (f_comes := f_comes) (f_values := f_values) (f_plain := f_plain) (f_plainCount := f_plainCount) (f_pointers := f_pointers) (f_now := f_now) (f_fresh := f_fresh) (f_many := f_many) (f_sums := f_sums) (f_lows := f_lows) (f_highs := f_highs) (f_layed := f_layed) (f_worked := f_worked) (f_large := f_large) hw) (cwV 1 X.1.2.2.2.2 gX55_94 rfl rfl rfl hX55_isRule ⟨Nat.le_of_ble_eq_true rfl, Nat.le_of_ble_eq_true rfl⟩) hc (q0 := 0) rfl rfl hl.1 rfl (Nat.le_of_ble_eq_true rfl) dX55_safe_2 ⟨Nat.le_refl 0, Nat.le_refl 0⟩) (fun r_1 _ H locs hw hH => ?_)
  have hH : kH (dC, dI) cl A s.heap H locs (wX55 ci ad d f_said f_heads f_kinds f_folded f_lengths f_parts f_rules f_known f_rounds f_given f_strata f_circle f_turns f_needs f_comes f_values f_plain f_plainCount f_pointers f_now f_fresh f_many f_sums f_lows f_highs f_layed f_worked f_large) := hH
  refine lv_if_eq (tgt := 24) hx hb dX55_safe_5 (by decide) (fun c_2 => ?_) (fun c_2 => ?_)
  · have hw := hw.1 (z_eq (rfl : r_1.toInt = _) (rfl : (0 : Int32).toInt = 0) c_2)
    refine lv_iconst (v := (-1)) hx hb dX55_safe_24 (by decide) ?_
    exact k_iret (v := (-1)) X hH () hw rfl rfl dX55_safe_25
  · have hw := hw.2 (z_neq (rfl : r_1.toInt = _) (rfl : (0 : Int32).toInt = 0) c_2)
    refine lv_aload_n hx hb dX55_safe_8 rfl (lv_at hl 0 rfl) ?_
    refine lv_iload_n hx hb dX55_safe_9 rfl (lv_at hl 1 rfl) ?_
    refine k_i0 hH (k_runV (As := [.int x1]) (rest := []) X hH.1 hH.2.1 X.2.2.2 (walkX55_isSafe hc (x1 := x1) (f_said := f_said) (f_heads := f_heads) (f_kinds := f_kinds) (f_folded := f_folded) (f_lengths := f_lengths) (f_parts := f_parts) (f_rules := f_rules) (f_known := f_known) (f_rounds := f_rounds) (f_given := f_given) (f_strata := f_strata) (f_circle := f_circle) (f_turns := f_turns) (f_needs := f_needs) (f_comes := f_comes) (f_values := f_values) (f_plain := f_plain) (f_plainCount := f_plainCount) (f_pointers := f_pointers) (f_now := f_now) (f_fresh := f_fresh) (f_many := f_many) (f_sums := f_sums) (f_lows := f_lows) (f_highs := f_highs) (f_layed := f_layed) (f_worked := f_worked) (f_large := f_large) hw) (cwV 1 X.1.2.2.2.2 gX55_105 rfl rfl rfl hX55_isSafe ⟨Nat.le_of_ble_eq_true rfl, Nat.le_of_ble_eq_true rfl⟩) hc (q0 := 0) rfl rfl hl.1 rfl (Nat.le_of_ble_eq_true rfl) dX55_safe_10 ⟨Nat.le_refl 0, Nat.le_refl 0⟩) (fun r_3 _ H locs hw hH => ?_)
    have hH : kH (dC, dI) cl A s.heap H locs (wX55 ci ad d f_said f_heads f_kinds f_folded f_lengths f_parts f_rules f_known f_rounds f_given f_strata f_circle f_turns f_needs f_comes f_values f_plain f_plainCount f_pointers f_now f_fresh f_many f_sums f_lows f_highs f_layed f_worked f_large) := hH
    refine lv_if_eq (tgt := 20) hx hb dX55_safe_13 (by decide) (fun c_4 => ?_) (fun c_4 => ?_)
    · have hw := hw.1 (z_eq (rfl : r_3.toInt = _) (rfl : (0 : Int32).toInt = 0) c_4)
      refine lv_iconst (v := 0) hx hb dX55_safe_20 (by decide) ?_
      refine lv_goto (tgt := 25) hx hb dX55_safe_21 (by decide) ?_
      exact k_iret (v := 0) X hH () hw rfl rfl dX55_safe_25
    · have hw := hw.2 (z_neq (rfl : r_3.toInt = _) (rfl : (0 : Int32).toInt = 0) c_4)
      refine lv_iconst (v := 1) hx hb dX55_safe_16 (by decide) ?_
      refine lv_goto (tgt := 25) hx hb dX55_safe_17 (by decide) ?_
      exact k_iret (v := 1) X hH () hw rfl rfl dX55_safe_25
set_option maxHeartbeats 4000000 in
theorem walkX55_run {l : Launch} {dC : Nat → ClassId} {dI : Nat → Nat → Nat} {cl : List vw_C} {ci : Nat} (hc : cl[ci]? = some (RX55, TX55, 28)) {ad : Nat → Nat} {d : Nat → ClassId} {sz : Nat} {f_said : Nat → Int32} {f_heads : Nat → Int32} {f_kinds : Nat → Int32} {f_folded : Nat → Int32} {f_lengths : Nat → Int32} {f_parts : Nat → Int32} {f_rules : Int32} {f_known : Int32} {f_rounds : Nat → Int32} {f_given : Nat → Int32} {f_strata : Nat → Int32} {f_circle : Int32} {f_turns : Int32} {f_needs : Nat → Int32} {f_comes : Nat → Int32} {f_values : Nat → Int32} {f_plain : Nat → Int32} {f_plainCount : Int32} {f_pointers : Nat → Int32} {f_now : Int32} {f_fresh : Nat → Int32} {f_many : Nat → Int32} {f_sums : Nat → Int32} {f_lows : Nat → Int32} {f_highs : Nat → Int32} {f_layed : Int32} {f_worked : Int64} {f_large : Int32}  {post : Int → Int → (Int → Int) → (Int → Int) → (Int → Int) → Int → Int → (Int → Int) → (Int → Int) → (Int → Int) → (Int → Int) → Int → (Int → Int) → Int → (Int → Int) → (Int → Int) → (Int → Int) → (Int → Int) → (Int → Int) → Int → Int → Int → Prop} (hw : wpX55_run post (zF f_said) (zF f_heads) (zF f_kinds) (zF f_folded) (zF f_lengths) (zF f_parts) f_rules.toInt f_known.toInt (zF f_rounds) (zF f_given) (zF f_strata) f_circle.toInt f_turns.toInt (zF f_needs) (zF f_comes) (zF f_values) (zF f_plain) f_plainCount.toInt (zF f_pointers) f_now.toInt (zF f_fresh) (zF f_many) (zF f_sums) (zF f_lows) (zF f_highs) f_layed.toInt f_worked.toInt f_large.toInt ) :
    Met l yX55_run (ws_ yX55_run cX55_run 1 (some .int)) ({ frames := 5, cells := 0, slots := 0, locals := 123 } : Room) (kPc (dC, dI) cl (tX55 d) [.ref (ad 0)] sz (wX55 ci ad d f_said f_heads f_kinds f_folded f_lengths f_parts f_rules f_known f_rounds f_given f_strata f_circle f_turns f_needs f_comes f_values f_plain f_plainCount f_pointers f_now f_fresh f_many f_sums f_lows f_highs f_layed f_worked f_large)) (va_Qi (fun (r : Int32) (u : Int32 × (Nat → Int32) × (Nat → Int32) × (Nat → Int32) × Int32 × Int32 × (Nat → Int32) × (Nat → Int32) × (Nat → Int32) × (Nat → Int32) × Int32 × (Nat → Int32) × Int32 × (Nat → Int32) × (Nat → Int32) × (Nat → Int32) × (Nat → Int32) × (Nat → Int32) × Int32 × Int64 × Int32) => post r.toInt (u.1).toInt (zF (u.2.1)) (zF (u.2.2.1)) (zF (u.2.2.2.1)) (u.2.2.2.2.1).toInt (u.2.2.2.2.2.1).toInt (zF (u.2.2.2.2.2.2.1)) (zF (u.2.2.2.2.2.2.2.1)) (zF (u.2.2.2.2.2.2.2.2.1)) (zF (u.2.2.2.2.2.2.2.2.2.1)) (u.2.2.2.2.2.2.2.2.2.2.1).toInt (zF (u.2.2.2.2.2.2.2.2.2.2.2.1)) (u.2.2.2.2.2.2.2.2.2.2.2.2.1).toInt (zF (u.2.2.2.2.2.2.2.2.2.2.2.2.2.1)) (zF (u.2.2.2.2.2.2.2.2.2.2.2.2.2.2.1)) (zF (u.2.2.2.2.2.2.2.2.2.2.2.2.2.2.2.1)) (zF (u.2.2.2.2.2.2.2.2.2.2.2.2.2.2.2.2.1)) (zF (u.2.2.2.2.2.2.2.2.2.2.2.2.2.2.2.2.2.1)) (u.2.2.2.2.2.2.2.2.2.2.2.2.2.2.2.2.2.2.1).toInt (u.2.2.2.2.2.2.2.2.2.2.2.2.2.2.2.2.2.2.2.1).toInt (u.2.2.2.2.2.2.2.2.2.2.2.2.2.2.2.2.2.2.2.2).toInt) (kB (dC, dI) cl (tX55 d) (va_A (wX55 ci ad d f_said f_heads f_kinds f_folded f_lengths f_parts f_rules f_known f_rounds f_given f_strata f_circle f_turns f_needs f_comes f_values f_plain f_plainCount f_pointers f_now f_fresh f_many f_sums f_lows f_highs f_layed f_worked f_large) sz) (fun u : Int32 × (Nat → Int32) × (Nat → Int32) × (Nat → Int32) × Int32 × Int32 × (Nat → Int32) × (Nat → Int32) × (Nat → Int32) × (Nat → Int32) × Int32 × (Nat → Int32) × Int32 × (Nat → Int32) × (Nat → Int32) × (Nat → Int32) × (Nat → Int32) × (Nat → Int32) × Int32 × Int64 × Int32 => (wX55 ci ad d f_said f_heads f_kinds f_folded f_lengths f_parts f_rules (u.1) (u.2.1) (u.2.2.1) (u.2.2.2.1) (u.2.2.2.2.1) (u.2.2.2.2.2.1) (u.2.2.2.2.2.2.1) (u.2.2.2.2.2.2.2.1) (u.2.2.2.2.2.2.2.2.1) (u.2.2.2.2.2.2.2.2.2.1) (u.2.2.2.2.2.2.2.2.2.2.1) (u.2.2.2.2.2.2.2.2.2.2.2.1) (u.2.2.2.2.2.2.2.2.2.2.2.2.1) (u.2.2.2.2.2.2.2.2.2.2.2.2.2.1) (u.2.2.2.2.2.2.2.2.2.2.2.2.2.2.1) (u.2.2.2.2.2.2.2.2.2.2.2.2.2.2.2.1) (u.2.2.2.2.2.2.2.2.2.2.2.2.2.2.2.2.1) (u.2.2.2.2.2.2.2.2.2.2.2.2.2.2.2.2.2.1) (u.2.2.2.2.2.2.2.2.2.2.2.2.2.2.2.2.2.2.1) (u.2.2.2.2.2.2.2.2.2.2.2.2.2.2.2.2.2.2.2.1) (u.2.2.2.2.2.2.2.2.2.2.2.2.2.2.2.2.2.2.2.2)))) (va_A (wX55 ci ad d f_said f_heads f_kinds f_folded f_lengths f_parts f_rules f_known f_rounds f_given f_strata f_circle f_turns f_needs f_comes f_values f_plain f_plainCount f_pointers f_now f_fresh f_many f_sums f_lows f_highs f_layed f_worked f_large) sz)) 0 0 (va_A (wX55 ci ad d f_said f_heads f_kinds f_folded f_lengths f_parts f_rules f_known f_rounds f_given f_strata f_circle f_turns f_needs f_comes f_values f_plain f_plainCount f_pointers f_now f_fresh f_many f_sums f_lows f_highs f_layed f_worked f_large) sz) := by
  refine k_enter (by decide) (Nat.le_of_ble_eq_true rfl) ?_
  intro p e s m below meth c ls X hsz hH hl
  subst hsz
  generalize va_A (wX55 ci ad d f_said f_heads f_kinds f_folded f_lengths f_parts f_rules f_known f_rounds f_given f_strata f_circle f_turns f_needs f_comes f_values f_plain f_plainCount f_pointers f_now f_fresh f_many f_sums f_lows f_highs f_layed f_worked f_large) s.heap.size = A at hH ⊢
  have hx := X.1.1
  have hb := X.1.2.1
  have hl : lv_has ls 1 [(0, .ref (ad 0))] := hl
  unfold wpX55_run at hw
  refine lv_aload_n hx hb dX55_run_0 rfl (lv_at hl 0 rfl) ?_
  refine k_v0 hH (k_runV (As := []) (rest := []) X hH.1 hH.2.1 X.2.2.2 (walkX55_work hc (f_said := f_said) (f_heads := f_heads) (f_kinds := f_kinds) (f_folded := f_folded) (f_lengths := f_lengths) (f_parts := f_parts) (f_rules := f_rules) (f_known := f_known) (f_rounds := f_rounds) (f_given := f_given) (f_strata := f_strata) (f_circle := f_circle) (f_turns := f_turns) (f_needs := f_needs) (f_comes := f_comes) (f_values := f_values) (f_plain := f_plain) (f_plainCount := f_plainCount) (f_pointers := f_pointers) (f_now := f_now) (f_fresh := f_fresh) (f_many := f_many) (f_sums := f_sums) (f_lows := f_lows) (f_highs := f_highs) (f_layed := f_layed) (f_worked := f_worked) (f_large := f_large) hw) (cwV 0 X.1.2.2.2.2 gX55_173 rfl rfl rfl hX55_work ⟨Nat.le_of_ble_eq_true rfl, Nat.le_of_ble_eq_true rfl⟩) hc (q0 := 0) rfl rfl hl.1 rfl (Nat.le_of_ble_eq_true rfl) dX55_run_1 ⟨Nat.le_refl 0, Nat.le_refl 0⟩) (fun u H locs hw hH => ?_)
  obtain ⟨f_known_1, f_rounds_2, f_given_3, f_strata_4, f_circle_5, f_turns_6, f_needs_7, f_comes_8, f_values_9, f_plain_10, f_plainCount_11, f_pointers_12, f_now_13, f_fresh_14, f_many_15, f_sums_16, f_lows_17, f_highs_18, f_layed_19, f_worked_20, f_large_21⟩ := u
  have hH : kH (dC, dI) cl A s.heap H locs (wX55 ci ad d f_said f_heads f_kinds f_folded f_lengths f_parts f_rules f_known_1 f_rounds_2 f_given_3 f_strata_4 f_circle_5 f_turns_6 f_needs_7 f_comes_8 f_values_9 f_plain_10 f_plainCount_11 f_pointers_12 f_now_13 f_fresh_14 f_many_15 f_sums_16 f_lows_17 f_highs_18 f_layed_19 f_worked_20 f_large_21) := hH
  refine lv_aload_n hx hb dX55_run_4 rfl (lv_at hl 0 rfl) ?_
  refine k_get X hH in_X55 0 rfl hc 11 (by decide) q6587 rfl dX55_run_5 ?_
  refine lv_if_lt (tgt := 21) hx hb dX55_run_8 (by decide) (fun c_22 => ?_) (fun c_22 => ?_)
  · have hw := hw.1 (z_lt (rfl : f_circle_5.toInt = _) (rfl : (0 : Int32).toInt = 0) c_22)
    refine lv_aload_n hx hb dX55_run_21 rfl (lv_at hl 0 rfl) ?_
    refine k_get X hH in_X55 0 rfl hc 27 (by decide) q6603 rfl dX55_run_22 ?_
    refine lv_if_eq (tgt := 33) hx hb dX55_run_25 (by decide) (fun c_23 => ?_) (fun c_23 => ?_)
    · have hw := hw.1 (z_eq (rfl : f_large_21.toInt = _) (rfl : (0 : Int32).toInt = 0) c_23)
      refine lv_aload_n hx hb dX55_run_33 rfl (lv_at hl 0 rfl) ?_
      refine k_get X hH in_X55 0 rfl hc 12 (by decide) q6588 rfl dX55_run_34 ?_
      exact k_iret (v := f_turns_6) X hH (f_known_1, f_rounds_2, f_given_3, f_strata_4, f_circle_5, f_turns_6, f_needs_7, f_comes_8, f_values_9, f_plain_10, f_plainCount_11, f_pointers_12, f_now_13, f_fresh_14, f_many_15, f_sums_16, f_lows_17, f_highs_18, f_layed_19, f_worked_20, f_large_21) hw rfl rfl dX55_run_37
    · have hw := hw.2 (z_neq (rfl : f_large_21.toInt = _) (rfl : (0 : Int32).toInt = 0) c_23)
      refine lv_bipush (v := (-4)) hx hb dX55_run_28 (by decide) ?_
      refine lv_goto (tgt := 37) hx hb dX55_run_30 (by decide) ?_
      exact k_iret (v := (-4)) X hH (f_known_1, f_rounds_2, f_given_3, f_strata_4, f_circle_5, f_turns_6, f_needs_7, f_comes_8, f_values_9, f_plain_10, f_plainCount_11, f_pointers_12, f_now_13, f_fresh_14, f_many_15, f_sums_16, f_lows_17, f_highs_18, f_layed_19, f_worked_20, f_large_21) hw rfl rfl dX55_run_37
  · have hw := hw.2 (z_nlt (rfl : f_circle_5.toInt = _) (rfl : (0 : Int32).toInt = 0) c_22)
    refine lv_bipush (v := (-10)) hx hb dX55_run_11 (by decide) ?_
    refine lv_aload_n hx hb dX55_run_13 rfl (lv_at hl 0 rfl) ?_
    refine k_get X hH in_X55 0 rfl hc 11 (by decide) q6587 rfl dX55_run_14 ?_
    refine lv_isub hx hb dX55_run_17 ?_
    have e_24 := z_sub (z_m (rfl : ((-10) : Int32).toInt = (-10))) (z_m (rfl : f_circle_5.toInt = _))
    refine lv_goto (tgt := 37) hx hb dX55_run_18 (by decide) ?_
    have hq_25 := hw.1
    have hw := hw.2
    have e_26 := z_x e_24 hq_25
    exact k_iret (v := (-10) - f_circle_5) X hH (f_known_1, f_rounds_2, f_given_3, f_strata_4, f_circle_5, f_turns_6, f_needs_7, f_comes_8, f_values_9, f_plain_10, f_plainCount_11, f_pointers_12, f_now_13, f_fresh_14, f_many_15, f_sums_16, f_lows_17, f_highs_18, f_layed_19, f_worked_20, f_large_21) (by rw [show ((-10) - f_circle_5 : Int32).toInt = _ from e_26]; exact hw) rfl rfl dX55_run_37
set_option maxHeartbeats 4000000 in
theorem walkX55_stratum {l : Launch} {dC : Nat → ClassId} {dI : Nat → Nat → Nat} {cl : List vw_C} {ci : Nat} (hc : cl[ci]? = some (RX55, TX55, 28)) {ad : Nat → Nat} {d : Nat → ClassId} {sz : Nat} {f_said : Nat → Int32} {f_heads : Nat → Int32} {f_kinds : Nat → Int32} {f_folded : Nat → Int32} {f_lengths : Nat → Int32} {f_parts : Nat → Int32} {f_rules : Int32} {f_known : Int32} {f_rounds : Nat → Int32} {f_given : Nat → Int32} {f_strata : Nat → Int32} {f_circle : Int32} {f_turns : Int32} {f_needs : Nat → Int32} {f_comes : Nat → Int32} {f_values : Nat → Int32} {f_plain : Nat → Int32} {f_plainCount : Int32} {f_pointers : Nat → Int32} {f_now : Int32} {f_fresh : Nat → Int32} {f_many : Nat → Int32} {f_sums : Nat → Int32} {f_lows : Nat → Int32} {f_highs : Nat → Int32} {f_layed : Int32} {f_worked : Int64} {f_large : Int32} {x1 : Int32} {post : Int → Int → (Int → Int) → (Int → Int) → (Int → Int) → Int → Int → (Int → Int) → (Int → Int) → (Int → Int) → (Int → Int) → Int → (Int → Int) → Int → (Int → Int) → (Int → Int) → (Int → Int) → (Int → Int) → (Int → Int) → Int → Int → Int → Prop} (hw : wpX55_stratum post (zF f_said) (zF f_heads) (zF f_kinds) (zF f_folded) (zF f_lengths) (zF f_parts) f_rules.toInt f_known.toInt (zF f_rounds) (zF f_given) (zF f_strata) f_circle.toInt f_turns.toInt (zF f_needs) (zF f_comes) (zF f_values) (zF f_plain) f_plainCount.toInt (zF f_pointers) f_now.toInt (zF f_fresh) (zF f_many) (zF f_sums) (zF f_lows) (zF f_highs) f_layed.toInt f_worked.toInt f_large.toInt x1.toInt) :
    Met l yX55_stratum (ws_ yX55_stratum cX55_stratum 2 (some .int)) ({ frames := 5, cells := 0, slots := 0, locals := 123 } : Room) (kPc (dC, dI) cl (tX55 d) [.ref (ad 0), .int x1] sz (wX55 ci ad d f_said f_heads f_kinds f_folded f_lengths f_parts f_rules f_known f_rounds f_given f_strata f_circle f_turns f_needs f_comes f_values f_plain f_plainCount f_pointers f_now f_fresh f_many f_sums f_lows f_highs f_layed f_worked f_large)) (va_Qi (fun (r : Int32) (u : Int32 × (Nat → Int32) × (Nat → Int32) × (Nat → Int32) × Int32 × Int32 × (Nat → Int32) × (Nat → Int32) × (Nat → Int32) × (Nat → Int32) × Int32 × (Nat → Int32) × Int32 × (Nat → Int32) × (Nat → Int32) × (Nat → Int32) × (Nat → Int32) × (Nat → Int32) × Int32 × Int64 × Int32) => post r.toInt (u.1).toInt (zF (u.2.1)) (zF (u.2.2.1)) (zF (u.2.2.2.1)) (u.2.2.2.2.1).toInt (u.2.2.2.2.2.1).toInt (zF (u.2.2.2.2.2.2.1)) (zF (u.2.2.2.2.2.2.2.1)) (zF (u.2.2.2.2.2.2.2.2.1)) (zF (u.2.2.2.2.2.2.2.2.2.1)) (u.2.2.2.2.2.2.2.2.2.2.1).toInt (zF (u.2.2.2.2.2.2.2.2.2.2.2.1)) (u.2.2.2.2.2.2.2.2.2.2.2.2.1).toInt (zF (u.2.2.2.2.2.2.2.2.2.2.2.2.2.1)) (zF (u.2.2.2.2.2.2.2.2.2.2.2.2.2.2.1)) (zF (u.2.2.2.2.2.2.2.2.2.2.2.2.2.2.2.1)) (zF (u.2.2.2.2.2.2.2.2.2.2.2.2.2.2.2.2.1)) (zF (u.2.2.2.2.2.2.2.2.2.2.2.2.2.2.2.2.2.1)) (u.2.2.2.2.2.2.2.2.2.2.2.2.2.2.2.2.2.2.1).toInt (u.2.2.2.2.2.2.2.2.2.2.2.2.2.2.2.2.2.2.2.1).toInt (u.2.2.2.2.2.2.2.2.2.2.2.2.2.2.2.2.2.2.2.2).toInt) (kB (dC, dI) cl (tX55 d) (va_A (wX55 ci ad d f_said f_heads f_kinds f_folded f_lengths f_parts f_rules f_known f_rounds f_given f_strata f_circle f_turns f_needs f_comes f_values f_plain f_plainCount f_pointers f_now f_fresh f_many f_sums f_lows f_highs f_layed f_worked f_large) sz) (fun u : Int32 × (Nat → Int32) × (Nat → Int32) × (Nat → Int32) × Int32 × Int32 × (Nat → Int32) × (Nat → Int32) × (Nat → Int32) × (Nat → Int32) × Int32 × (Nat → Int32) × Int32 × (Nat → Int32) × (Nat → Int32) × (Nat → Int32) × (Nat → Int32) × (Nat → Int32) × Int32 × Int64 × Int32 => (wX55 ci ad d f_said f_heads f_kinds f_folded f_lengths f_parts f_rules (u.1) (u.2.1) (u.2.2.1) (u.2.2.2.1) (u.2.2.2.2.1) (u.2.2.2.2.2.1) (u.2.2.2.2.2.2.1) (u.2.2.2.2.2.2.2.1) (u.2.2.2.2.2.2.2.2.1) (u.2.2.2.2.2.2.2.2.2.1) (u.2.2.2.2.2.2.2.2.2.2.1) (u.2.2.2.2.2.2.2.2.2.2.2.1) (u.2.2.2.2.2.2.2.2.2.2.2.2.1) (u.2.2.2.2.2.2.2.2.2.2.2.2.2.1) (u.2.2.2.2.2.2.2.2.2.2.2.2.2.2.1) (u.2.2.2.2.2.2.2.2.2.2.2.2.2.2.2.1) (u.2.2.2.2.2.2.2.2.2.2.2.2.2.2.2.2.1) (u.2.2.2.2.2.2.2.2.2.2.2.2.2.2.2.2.2.1) (u.2.2.2.2.2.2.2.2.2.2.2.2.2.2.2.2.2.2.1) (u.2.2.2.2.2.2.2.2.2.2.2.2.2.2.2.2.2.2.2.1) (u.2.2.2.2.2.2.2.2.2.2.2.2.2.2.2.2.2.2.2.2)))) (va_A (wX55 ci ad d f_said f_heads f_kinds f_folded f_lengths f_parts f_rules f_known f_rounds f_given f_strata f_circle f_turns f_needs f_comes f_values f_plain f_plainCount f_pointers f_now f_fresh f_many f_sums f_lows f_highs f_layed f_worked f_large) sz)) 0 0 (va_A (wX55 ci ad d f_said f_heads f_kinds f_folded f_lengths f_parts f_rules f_known f_rounds f_given f_strata f_circle f_turns f_needs f_comes f_values f_plain f_plainCount f_pointers f_now f_fresh f_many f_sums f_lows f_highs f_layed f_worked f_large) sz) := by
  refine k_enter (by decide) (Nat.le_of_ble_eq_true rfl) ?_
  intro p e s m below meth c ls X hsz hH hl
  subst hsz
  generalize va_A (wX55 ci ad d f_said f_heads f_kinds f_folded f_lengths f_parts f_rules f_known f_rounds f_given f_strata f_circle f_turns f_needs f_comes f_values f_plain f_plainCount f_pointers f_now f_fresh f_many f_sums f_lows f_highs f_layed f_worked f_large) s.heap.size = A at hH ⊢
  have hx := X.1.1
  have hb := X.1.2.1
  have hl : lv_has ls 2 [(0, .ref (ad 0)), (1, .int x1)] := hl
  unfold wpX55_stratum at hw
  refine lv_iload_n hx hb dX55_stratum_0 rfl (lv_at hl 1 rfl) ?_
  refine k_i0 hH (k_runS (As := [.int x1]) (rest := []) X hH.1 hH.2.1 X.2.2.2 (walkX55_isName hc (x0 := x1) (f_said := f_said) (f_heads := f_heads) (f_kinds := f_kinds) (f_folded := f_folded) (f_lengths := f_lengths) (f_parts := f_parts) (f_rules := f_rules) (f_known := f_known) (f_rounds := f_rounds) (f_given := f_given) (f_strata := f_strata) (f_circle := f_circle) (f_turns := f_turns) (f_needs := f_needs) (f_comes := f_comes) (f_values := f_values) (f_plain := f_plain) (f_plainCount := f_plainCount) (f_pointers := f_pointers) (f_now := f_now) (f_fresh := f_fresh) (f_many := f_many) (f_sums := f_sums) (f_lows := f_lows) (f_highs := f_highs) (f_layed := f_layed) (f_worked := f_worked) (f_large := f_large) hw) (va_cwS 1 X.1.2.2.2.2 gX55_68 rfl rfl rfl hX55_isName ⟨Nat.le_of_ble_eq_true rfl, Nat.le_of_ble_eq_true rfl⟩) rfl hl.1 rfl (Nat.le_of_ble_eq_true rfl) dX55_stratum_1 ⟨Nat.le_refl 0, Nat.le_refl 0⟩) (fun r_1 _ H locs hw hH => ?_)
  have hH : kH (dC, dI) cl A s.heap H locs (wX55 ci ad d f_said f_heads f_kinds f_folded f_lengths f_parts f_rules f_known f_rounds f_given f_strata f_circle f_turns f_needs f_comes f_values f_plain f_plainCount f_pointers f_now f_fresh f_many f_sums f_lows f_highs f_layed f_worked f_large) := hH
  refine lv_if_ne (tgt := 9) hx hb dX55_stratum_4 (by decide) (fun c_2 => ?_) (fun c_2 => ?_)
  · have hw := hw.2 (z_ne (rfl : r_1.toInt = _) (rfl : (0 : Int32).toInt = 0) c_2)
    refine lv_aload_n hx hb dX55_stratum_9 rfl (lv_at hl 0 rfl) ?_
    refine k_v0 hH (k_runV (As := []) (rest := []) X hH.1 hH.2.1 X.2.2.2 (walkX55_work hc (f_said := f_said) (f_heads := f_heads) (f_kinds := f_kinds) (f_folded := f_folded) (f_lengths := f_lengths) (f_parts := f_parts) (f_rules := f_rules) (f_known := f_known) (f_rounds := f_rounds) (f_given := f_given) (f_strata := f_strata) (f_circle := f_circle) (f_turns := f_turns) (f_needs := f_needs) (f_comes := f_comes) (f_values := f_values) (f_plain := f_plain) (f_plainCount := f_plainCount) (f_pointers := f_pointers) (f_now := f_now) (f_fresh := f_fresh) (f_many := f_many) (f_sums := f_sums) (f_lows := f_lows) (f_highs := f_highs) (f_layed := f_layed) (f_worked := f_worked) (f_large := f_large) hw) (cwV 0 X.1.2.2.2.2 gX55_173 rfl rfl rfl hX55_work ⟨Nat.le_of_ble_eq_true rfl, Nat.le_of_ble_eq_true rfl⟩) hc (q0 := 0) rfl rfl hl.1 rfl (Nat.le_of_ble_eq_true rfl) dX55_stratum_10 ⟨Nat.le_refl 0, Nat.le_refl 0⟩) (fun u H locs hw hH => ?_)
    obtain ⟨f_known_3, f_rounds_4, f_given_5, f_strata_6, f_circle_7, f_turns_8, f_needs_9, f_comes_10, f_values_11, f_plain_12, f_plainCount_13, f_pointers_14, f_now_15, f_fresh_16, f_many_17, f_sums_18, f_lows_19, f_highs_20, f_layed_21, f_worked_22, f_large_23⟩ := u
    have hH : kH (dC, dI) cl A s.heap H locs (wX55 ci ad d f_said f_heads f_kinds f_folded f_lengths f_parts f_rules f_known_3 f_rounds_4 f_given_5 f_strata_6 f_circle_7 f_turns_8 f_needs_9 f_comes_10 f_values_11 f_plain_12 f_plainCount_13 f_pointers_14 f_now_15 f_fresh_16 f_many_17 f_sums_18 f_lows_19 f_highs_20 f_layed_21 f_worked_22 f_large_23) := hH
    refine lv_aload_n hx hb dX55_stratum_13 rfl (lv_at hl 0 rfl) ?_
    refine k_get X hH in_X55 0 rfl hc 11 (by decide) q6587 rfl dX55_stratum_14 ?_
    refine lv_if_lt (tgt := 25) hx hb dX55_stratum_17 (by decide) (fun c_24 => ?_) (fun c_24 => ?_)
    · have hw := hw.1 (z_lt (rfl : f_circle_7.toInt = _) (rfl : (0 : Int32).toInt = 0) c_24)
      refine lv_aload_n hx hb dX55_stratum_25 rfl (lv_at hl 0 rfl) ?_
      refine k_get X hH in_X55 0 rfl hc 10 (by decide) q6586 rfl dX55_stratum_26 ?_
      refine lv_iload_n hx hb dX55_stratum_29 rfl (lv_at hl 1 rfl) ?_
      have hq_25 := hw.1
      have hw := hw.2
      refine k_iald X hH 9 8 rfl rfl (z_in (rfl : x1.toInt = _) hq_25) dX55_stratum_30 ?_
      have e_26 := z_ld (f := f_strata_6) (rfl : x1.toInt = _) hq_25.1
      exact k_iret (v := f_strata_6 x1.toNatClampNeg) X hH (f_known_3, f_rounds_4, f_given_5, f_strata_6, f_circle_7, f_turns_8, f_needs_9, f_comes_10, f_values_11, f_plain_12, f_plainCount_13, f_pointers_14, f_now_15, f_fresh_16, f_many_17, f_sums_18, f_lows_19, f_highs_20, f_layed_21, f_worked_22, f_large_23) (by rw [show (f_strata_6 x1.toNatClampNeg : Int32).toInt = _ from e_26]; exact hw) rfl rfl dX55_stratum_31
    · have hw := hw.2 (z_nlt (rfl : f_circle_7.toInt = _) (rfl : (0 : Int32).toInt = 0) c_24)
      refine lv_bipush (v := (-2)) hx hb dX55_stratum_20 (by decide) ?_
      refine lv_goto (tgt := 31) hx hb dX55_stratum_22 (by decide) ?_
      exact k_iret (v := (-2)) X hH (f_known_3, f_rounds_4, f_given_5, f_strata_6, f_circle_7, f_turns_8, f_needs_9, f_comes_10, f_values_11, f_plain_12, f_plainCount_13, f_pointers_14, f_now_15, f_fresh_16, f_many_17, f_sums_18, f_lows_19, f_highs_20, f_layed_21, f_worked_22, f_large_23) hw rfl rfl dX55_stratum_31
  · have hw := hw.1 (z_eq (rfl : r_1.toInt = _) (rfl : (0 : Int32).toInt = 0) c_2)
    refine lv_iconst (v := (-1)) hx hb dX55_stratum_7 (by decide) ?_
    exact k_iret (v := (-1)) X hH (f_known, f_rounds, f_given, f_strata, f_circle, f_turns, f_needs, f_comes, f_values, f_plain, f_plainCount, f_pointers, f_now, f_fresh, f_many, f_sums, f_lows, f_highs, f_layed, f_worked, f_large) hw rfl rfl dX55_stratum_8
set_option maxHeartbeats 4000000 in
theorem walkX55_round {l : Launch} {dC : Nat → ClassId} {dI : Nat → Nat → Nat} {cl : List vw_C} {ci : Nat} (hc : cl[ci]? = some (RX55, TX55, 28)) {ad : Nat → Nat} {d : Nat → ClassId} {sz : Nat} {f_said : Nat → Int32} {f_heads : Nat → Int32} {f_kinds : Nat → Int32} {f_folded : Nat → Int32} {f_lengths : Nat → Int32} {f_parts : Nat → Int32} {f_rules : Int32} {f_known : Int32} {f_rounds : Nat → Int32} {f_given : Nat → Int32} {f_strata : Nat → Int32} {f_circle : Int32} {f_turns : Int32} {f_needs : Nat → Int32} {f_comes : Nat → Int32} {f_values : Nat → Int32} {f_plain : Nat → Int32} {f_plainCount : Int32} {f_pointers : Nat → Int32} {f_now : Int32} {f_fresh : Nat → Int32} {f_many : Nat → Int32} {f_sums : Nat → Int32} {f_lows : Nat → Int32} {f_highs : Nat → Int32} {f_layed : Int32} {f_worked : Int64} {f_large : Int32} {x1 : Int32} {x2 : Int32} {x3 : Int32} {post : Int → Int → (Int → Int) → (Int → Int) → (Int → Int) → Int → Int → (Int → Int) → (Int → Int) → (Int → Int) → (Int → Int) → Int → (Int → Int) → Int → (Int → Int) → (Int → Int) → (Int → Int) → (Int → Int) → (Int → Int) → Int → Int → Int → Prop} (hw : wpX55_round post (zF f_said) (zF f_heads) (zF f_kinds) (zF f_folded) (zF f_lengths) (zF f_parts) f_rules.toInt f_known.toInt (zF f_rounds) (zF f_given) (zF f_strata) f_circle.toInt f_turns.toInt (zF f_needs) (zF f_comes) (zF f_values) (zF f_plain) f_plainCount.toInt (zF f_pointers) f_now.toInt (zF f_fresh) (zF f_many) (zF f_sums) (zF f_lows) (zF f_highs) f_layed.toInt f_worked.toInt f_large.toInt x1.toInt x2.toInt x3.toInt) :
    Met l yX55_round (ws_ yX55_round cX55_round 5 (some .int)) ({ frames := 5, cells := 0, slots := 0, locals := 123 } : Room) (kPc (dC, dI) cl (tX55 d) [.ref (ad 0), .int x1, .int x2, .int x3] sz (wX55 ci ad d f_said f_heads f_kinds f_folded f_lengths f_parts f_rules f_known f_rounds f_given f_strata f_circle f_turns f_needs f_comes f_values f_plain f_plainCount f_pointers f_now f_fresh f_many f_sums f_lows f_highs f_layed f_worked f_large)) (va_Qi (fun (r : Int32) (u : Int32 × (Nat → Int32) × (Nat → Int32) × (Nat → Int32) × Int32 × Int32 × (Nat → Int32) × (Nat → Int32) × (Nat → Int32) × (Nat → Int32) × Int32 × (Nat → Int32) × Int32 × (Nat → Int32) × (Nat → Int32) × (Nat → Int32) × (Nat → Int32) × (Nat → Int32) × Int32 × Int64 × Int32) => post r.toInt (u.1).toInt (zF (u.2.1)) (zF (u.2.2.1)) (zF (u.2.2.2.1)) (u.2.2.2.2.1).toInt (u.2.2.2.2.2.1).toInt (zF (u.2.2.2.2.2.2.1)) (zF (u.2.2.2.2.2.2.2.1)) (zF (u.2.2.2.2.2.2.2.2.1)) (zF (u.2.2.2.2.2.2.2.2.2.1)) (u.2.2.2.2.2.2.2.2.2.2.1).toInt (zF (u.2.2.2.2.2.2.2.2.2.2.2.1)) (u.2.2.2.2.2.2.2.2.2.2.2.2.1).toInt (zF (u.2.2.2.2.2.2.2.2.2.2.2.2.2.1)) (zF (u.2.2.2.2.2.2.2.2.2.2.2.2.2.2.1)) (zF (u.2.2.2.2.2.2.2.2.2.2.2.2.2.2.2.1)) (zF (u.2.2.2.2.2.2.2.2.2.2.2.2.2.2.2.2.1)) (zF (u.2.2.2.2.2.2.2.2.2.2.2.2.2.2.2.2.2.1)) (u.2.2.2.2.2.2.2.2.2.2.2.2.2.2.2.2.2.2.1).toInt (u.2.2.2.2.2.2.2.2.2.2.2.2.2.2.2.2.2.2.2.1).toInt (u.2.2.2.2.2.2.2.2.2.2.2.2.2.2.2.2.2.2.2.2).toInt) (kB (dC, dI) cl (tX55 d) (va_A (wX55 ci ad d f_said f_heads f_kinds f_folded f_lengths f_parts f_rules f_known f_rounds f_given f_strata f_circle f_turns f_needs f_comes f_values f_plain f_plainCount f_pointers f_now f_fresh f_many f_sums f_lows f_highs f_layed f_worked f_large) sz) (fun u : Int32 × (Nat → Int32) × (Nat → Int32) × (Nat → Int32) × Int32 × Int32 × (Nat → Int32) × (Nat → Int32) × (Nat → Int32) × (Nat → Int32) × Int32 × (Nat → Int32) × Int32 × (Nat → Int32) × (Nat → Int32) × (Nat → Int32) × (Nat → Int32) × (Nat → Int32) × Int32 × Int64 × Int32 => (wX55 ci ad d f_said f_heads f_kinds f_folded f_lengths f_parts f_rules (u.1) (u.2.1) (u.2.2.1) (u.2.2.2.1) (u.2.2.2.2.1) (u.2.2.2.2.2.1) (u.2.2.2.2.2.2.1) (u.2.2.2.2.2.2.2.1) (u.2.2.2.2.2.2.2.2.1) (u.2.2.2.2.2.2.2.2.2.1) (u.2.2.2.2.2.2.2.2.2.2.1) (u.2.2.2.2.2.2.2.2.2.2.2.1) (u.2.2.2.2.2.2.2.2.2.2.2.2.1) (u.2.2.2.2.2.2.2.2.2.2.2.2.2.1) (u.2.2.2.2.2.2.2.2.2.2.2.2.2.2.1) (u.2.2.2.2.2.2.2.2.2.2.2.2.2.2.2.1) (u.2.2.2.2.2.2.2.2.2.2.2.2.2.2.2.2.1) (u.2.2.2.2.2.2.2.2.2.2.2.2.2.2.2.2.2.1) (u.2.2.2.2.2.2.2.2.2.2.2.2.2.2.2.2.2.2.1) (u.2.2.2.2.2.2.2.2.2.2.2.2.2.2.2.2.2.2.2.1) (u.2.2.2.2.2.2.2.2.2.2.2.2.2.2.2.2.2.2.2.2)))) (va_A (wX55 ci ad d f_said f_heads f_kinds f_folded f_lengths f_parts f_rules f_known f_rounds f_given f_strata f_circle f_turns f_needs f_comes f_values f_plain f_plainCount f_pointers f_now f_fresh f_many f_sums f_lows f_highs f_layed f_worked f_large) sz)) 0 0 (va_A (wX55 ci ad d f_said f_heads f_kinds f_folded f_lengths f_parts f_rules f_known f_rounds f_given f_strata f_circle f_turns f_needs f_comes f_values f_plain f_plainCount f_pointers f_now f_fresh f_many f_sums f_lows f_highs f_layed f_worked f_large) sz) := by
  refine k_enter (by decide) (Nat.le_of_ble_eq_true rfl) ?_
  intro p e s m below meth c ls X hsz hH hl
  subst hsz
  generalize va_A (wX55 ci ad d f_said f_heads f_kinds f_folded f_lengths f_parts f_rules f_known f_rounds f_given f_strata f_circle f_turns f_needs f_comes f_values f_plain f_plainCount f_pointers f_now f_fresh f_many f_sums f_lows f_highs f_layed f_worked f_large) s.heap.size = A at hH ⊢
  have hx := X.1.1
  have hb := X.1.2.1
  have hl : lv_has ls 5 [(0, .ref (ad 0)), (1, .int x1), (2, .int x2), (3, .int x3)] := hl
  unfold wpX55_round at hw
  refine lv_iload_n hx hb dX55_round_0 rfl (lv_at hl 1 rfl) ?_
  refine lv_iload_n hx hb dX55_round_1 rfl (lv_at hl 2 rfl) ?_
  refine lv_iload_n hx hb dX55_round_2 rfl (lv_at hl 3 rfl) ?_
  refine k_i0 hH (k_runS (As := [.int x1, .int x2, .int x3]) (rest := []) X hH.1 hH.2.1 X.2.2.2 (walkX55_isFact hc (x0 := x1) (x1 := x2) (x2 := x3) (f_said := f_said) (f_heads := f_heads) (f_kinds := f_kinds) (f_folded := f_folded) (f_lengths := f_lengths) (f_parts := f_parts) (f_rules := f_rules) (f_known := f_known) (f_rounds := f_rounds) (f_given := f_given) (f_strata := f_strata) (f_circle := f_circle) (f_turns := f_turns) (f_needs := f_needs) (f_comes := f_comes) (f_values := f_values) (f_plain := f_plain) (f_plainCount := f_plainCount) (f_pointers := f_pointers) (f_now := f_now) (f_fresh := f_fresh) (f_many := f_many) (f_sums := f_sums) (f_lows := f_lows) (f_highs := f_highs) (f_layed := f_layed) (f_worked := f_worked) (f_large := f_large) hw) (va_cwS 3 X.1.2.2.2.2 gX55_75 rfl rfl rfl hX55_isFact ⟨Nat.le_of_ble_eq_true rfl, Nat.le_of_ble_eq_true rfl⟩) rfl hl.1 rfl (Nat.le_of_ble_eq_true rfl) dX55_round_3 ⟨Nat.le_refl 0, Nat.le_refl 0⟩) (fun r_1 _ H locs hw hH => ?_)
  have hH : kH (dC, dI) cl A s.heap H locs (wX55 ci ad d f_said f_heads f_kinds f_folded f_lengths f_parts f_rules f_known f_rounds f_given f_strata f_circle f_turns f_needs f_comes f_values f_plain f_plainCount f_pointers f_now f_fresh f_many f_sums f_lows f_highs f_layed f_worked f_large) := hH
  refine lv_if_ne (tgt := 11) hx hb dX55_round_6 (by decide) (fun c_2 => ?_) (fun c_2 => ?_)
  · have hw := hw.2 (z_ne (rfl : r_1.toInt = _) (rfl : (0 : Int32).toInt = 0) c_2)
    refine lv_aload_n hx hb dX55_round_11 rfl (lv_at hl 0 rfl) ?_
    refine k_v0 hH (k_runV (As := []) (rest := []) X hH.1 hH.2.1 X.2.2.2 (walkX55_work hc (f_said := f_said) (f_heads := f_heads) (f_kinds := f_kinds) (f_folded := f_folded) (f_lengths := f_lengths) (f_parts := f_parts) (f_rules := f_rules) (f_known := f_known) (f_rounds := f_rounds) (f_given := f_given) (f_strata := f_strata) (f_circle := f_circle) (f_turns := f_turns) (f_needs := f_needs) (f_comes := f_comes) (f_values := f_values) (f_plain := f_plain) (f_plainCount := f_plainCount) (f_pointers := f_pointers) (f_now := f_now) (f_fresh := f_fresh) (f_many := f_many) (f_sums := f_sums) (f_lows := f_lows) (f_highs := f_highs) (f_layed := f_layed) (f_worked := f_worked) (f_large := f_large) hw) (cwV 0 X.1.2.2.2.2 gX55_173 rfl rfl rfl hX55_work ⟨Nat.le_of_ble_eq_true rfl, Nat.le_of_ble_eq_true rfl⟩) hc (q0 := 0) rfl rfl hl.1 rfl (Nat.le_of_ble_eq_true rfl) dX55_round_12 ⟨Nat.le_refl 0, Nat.le_refl 0⟩) (fun u H locs hw hH => ?_)
    obtain ⟨f_known_3, f_rounds_4, f_given_5, f_strata_6, f_circle_7, f_turns_8, f_needs_9, f_comes_10, f_values_11, f_plain_12, f_plainCount_13, f_pointers_14, f_now_15, f_fresh_16, f_many_17, f_sums_18, f_lows_19, f_highs_20, f_layed_21, f_worked_22, f_large_23⟩ := u
    have hH : kH (dC, dI) cl A s.heap H locs (wX55 ci ad d f_said f_heads f_kinds f_folded f_lengths f_parts f_rules f_known_3 f_rounds_4 f_given_5 f_strata_6 f_circle_7 f_turns_8 f_needs_9 f_comes_10 f_values_11 f_plain_12 f_plainCount_13 f_pointers_14 f_now_15 f_fresh_16 f_many_17 f_sums_18 f_lows_19 f_highs_20 f_layed_21 f_worked_22 f_large_23) := hH
    refine lv_iload_n hx hb dX55_round_15 rfl (lv_at hl 1 rfl) ?_
    refine lv_iload_n hx hb dX55_round_16 rfl (lv_at hl 2 rfl) ?_
    refine lv_iload_n hx hb dX55_round_17 rfl (lv_at hl 3 rfl) ?_
    refine k_i0 hH (k_runS (As := [.int x1, .int x2, .int x3]) (rest := []) X hH.1 hH.2.1 X.2.2.2 (walkX55_code hc (x0 := x1) (x1 := x2) (x2 := x3) (f_said := f_said) (f_heads := f_heads) (f_kinds := f_kinds) (f_folded := f_folded) (f_lengths := f_lengths) (f_parts := f_parts) (f_rules := f_rules) (f_known := f_known_3) (f_rounds := f_rounds_4) (f_given := f_given_5) (f_strata := f_strata_6) (f_circle := f_circle_7) (f_turns := f_turns_8) (f_needs := f_needs_9) (f_comes := f_comes_10) (f_values := f_values_11) (f_plain := f_plain_12) (f_plainCount := f_plainCount_13) (f_pointers := f_pointers_14) (f_now := f_now_15) (f_fresh := f_fresh_16) (f_many := f_many_17) (f_sums := f_sums_18) (f_lows := f_lows_19) (f_highs := f_highs_20) (f_layed := f_layed_21) (f_worked := f_worked_22) (f_large := f_large_23) hw) (va_cwS 3 X.1.2.2.2.2 gX55_79 rfl rfl rfl hX55_code ⟨Nat.le_of_ble_eq_true rfl, Nat.le_of_ble_eq_true rfl⟩) rfl hl.1 rfl (Nat.le_of_ble_eq_true rfl) dX55_round_18 ⟨Nat.le_refl 0, Nat.le_refl 0⟩) (fun r_24 _ H locs hw hH => ?_)
    have hH : kH (dC, dI) cl A s.heap H locs (wX55 ci ad d f_said f_heads f_kinds f_folded f_lengths f_parts f_rules f_known_3 f_rounds_4 f_given_5 f_strata_6 f_circle_7 f_turns_8 f_needs_9 f_comes_10 f_values_11 f_plain_12 f_plainCount_13 f_pointers_14 f_now_15 f_fresh_16 f_many_17 f_sums_18 f_lows_19 f_highs_20 f_layed_21 f_worked_22 f_large_23) := hH
    refine lv_istore (lv' := [(4, .int r_24), (0, .ref (ad 0)), (1, .int x1), (2, .int x2), (3, .int x3)]) hx hb dX55_round_21 hl (by decide) rfl (fun ls hl => ?_)
    refine lv_aload_n hx hb dX55_round_23 rfl (lv_at hl 1 rfl) ?_
    refine k_get X hH in_X55 0 rfl hc 8 (by decide) q6584 rfl dX55_round_24 ?_
    refine lv_iload hx hb dX55_round_27 (lv_at hl 0 rfl) ?_
    have hq_25 := hw.1
    have hw := hw.2
    refine k_iald X hH 7 6 rfl rfl (z_in (rfl : r_24.toInt = _) hq_25) dX55_round_29 ?_
    have e_26 := z_ld (f := f_rounds_4) (rfl : r_24.toInt = _) hq_25.1
    refine lv_if_lt (tgt := 43) hx hb dX55_round_30 (by decide) (fun c_27 => ?_) (fun c_27 => ?_)
    · have hw := hw.1 (z_lt e_26 (rfl : (0 : Int32).toInt = 0) c_27)
      refine lv_bipush (v := (-2)) hx hb dX55_round_43 (by decide) ?_
      exact k_iret (v := (-2)) X hH (f_known_3, f_rounds_4, f_given_5, f_strata_6, f_circle_7, f_turns_8, f_needs_9, f_comes_10, f_values_11, f_plain_12, f_plainCount_13, f_pointers_14, f_now_15, f_fresh_16, f_many_17, f_sums_18, f_lows_19, f_highs_20, f_layed_21, f_worked_22, f_large_23) hw rfl rfl dX55_round_45
    · have hw := hw.2 (z_nlt e_26 (rfl : (0 : Int32).toInt = 0) c_27)
      refine lv_aload_n hx hb dX55_round_33 rfl (lv_at hl 1 rfl) ?_
      refine k_get X hH in_X55 0 rfl hc 8 (by decide) q6584 rfl dX55_round_34 ?_
      refine lv_iload hx hb dX55_round_37 (lv_at hl 0 rfl) ?_
      refine k_iald X hH 7 6 rfl rfl (z_in (rfl : r_24.toInt = _) hq_25) dX55_round_39 ?_
      have e_28 := z_ld (f := f_rounds_4) (rfl : r_24.toInt = _) hq_25.1
      refine lv_goto (tgt := 45) hx hb dX55_round_40 (by decide) ?_
      exact k_iret (v := f_rounds_4 r_24.toNatClampNeg) X hH (f_known_3, f_rounds_4, f_given_5, f_strata_6, f_circle_7, f_turns_8, f_needs_9, f_comes_10, f_values_11, f_plain_12, f_plainCount_13, f_pointers_14, f_now_15, f_fresh_16, f_many_17, f_sums_18, f_lows_19, f_highs_20, f_layed_21, f_worked_22, f_large_23) (by rw [show (f_rounds_4 r_24.toNatClampNeg : Int32).toInt = _ from e_28]; exact hw) rfl rfl dX55_round_45
  · have hw := hw.1 (z_eq (rfl : r_1.toInt = _) (rfl : (0 : Int32).toInt = 0) c_2)
    refine lv_iconst (v := (-1)) hx hb dX55_round_9 (by decide) ?_
    exact k_iret (v := (-1)) X hH (f_known, f_rounds, f_given, f_strata, f_circle, f_turns, f_needs, f_comes, f_values, f_plain, f_plainCount, f_pointers, f_now, f_fresh, f_many, f_sums, f_lows, f_highs, f_layed, f_worked, f_large) hw rfl rfl dX55_round_10
set_option maxHeartbeats 4000000 in
theorem walkX55_counts {l : Launch} {dC : Nat → ClassId} {dI : Nat → Nat → Nat} {cl : List vw_C} {ci : Nat} (hc : cl[ci]? = some (RX55, TX55, 28)) {ad : Nat → Nat} {d : Nat → ClassId} {sz : Nat} {f_said : Nat → Int32} {f_heads : Nat → Int32} {f_kinds : Nat → Int32} {f_folded : Nat → Int32} {f_lengths : Nat → Int32} {f_parts : Nat → Int32} {f_rules : Int32} {f_known : Int32} {f_rounds : Nat → Int32} {f_given : Nat → Int32} {f_strata : Nat → Int32} {f_circle : Int32} {f_turns : Int32} {f_needs : Nat → Int32} {f_comes : Nat → Int32} {f_values : Nat → Int32} {f_plain : Nat → Int32} {f_plainCount : Int32} {f_pointers : Nat → Int32} {f_now : Int32} {f_fresh : Nat → Int32} {f_many : Nat → Int32} {f_sums : Nat → Int32} {f_lows : Nat → Int32} {f_highs : Nat → Int32} {f_layed : Int32} {f_worked : Int64} {f_large : Int32} {x1 : Int32} {x2 : Int32} {x3 : Int32} {post : Int → Int → (Int → Int) → (Int → Int) → (Int → Int) → Int → Int → (Int → Int) → (Int → Int) → (Int → Int) → (Int → Int) → Int → (Int → Int) → Int → (Int → Int) → (Int → Int) → (Int → Int) → (Int → Int) → (Int → Int) → Int → Int → Int → Prop} (hw : wpX55_counts post (zF f_said) (zF f_heads) (zF f_kinds) (zF f_folded) (zF f_lengths) (zF f_parts) f_rules.toInt f_known.toInt (zF f_rounds) (zF f_given) (zF f_strata) f_circle.toInt f_turns.toInt (zF f_needs) (zF f_comes) (zF f_values) (zF f_plain) f_plainCount.toInt (zF f_pointers) f_now.toInt (zF f_fresh) (zF f_many) (zF f_sums) (zF f_lows) (zF f_highs) f_layed.toInt f_worked.toInt f_large.toInt x1.toInt x2.toInt x3.toInt) :
    Met l yX55_counts (ws_ yX55_counts cX55_counts 4 (some .int)) ({ frames := 5, cells := 0, slots := 0, locals := 123 } : Room) (kPc (dC, dI) cl (tX55 d) [.ref (ad 0), .int x1, .int x2, .int x3] sz (wX55 ci ad d f_said f_heads f_kinds f_folded f_lengths f_parts f_rules f_known f_rounds f_given f_strata f_circle f_turns f_needs f_comes f_values f_plain f_plainCount f_pointers f_now f_fresh f_many f_sums f_lows f_highs f_layed f_worked f_large)) (va_Qi (fun (r : Int32) (u : Int32 × (Nat → Int32) × (Nat → Int32) × (Nat → Int32) × Int32 × Int32 × (Nat → Int32) × (Nat → Int32) × (Nat → Int32) × (Nat → Int32) × Int32 × (Nat → Int32) × Int32 × (Nat → Int32) × (Nat → Int32) × (Nat → Int32) × (Nat → Int32) × (Nat → Int32) × Int32 × Int64 × Int32) => post r.toInt (u.1).toInt (zF (u.2.1)) (zF (u.2.2.1)) (zF (u.2.2.2.1)) (u.2.2.2.2.1).toInt (u.2.2.2.2.2.1).toInt (zF (u.2.2.2.2.2.2.1)) (zF (u.2.2.2.2.2.2.2.1)) (zF (u.2.2.2.2.2.2.2.2.1)) (zF (u.2.2.2.2.2.2.2.2.2.1)) (u.2.2.2.2.2.2.2.2.2.2.1).toInt (zF (u.2.2.2.2.2.2.2.2.2.2.2.1)) (u.2.2.2.2.2.2.2.2.2.2.2.2.1).toInt (zF (u.2.2.2.2.2.2.2.2.2.2.2.2.2.1)) (zF (u.2.2.2.2.2.2.2.2.2.2.2.2.2.2.1)) (zF (u.2.2.2.2.2.2.2.2.2.2.2.2.2.2.2.1)) (zF (u.2.2.2.2.2.2.2.2.2.2.2.2.2.2.2.2.1)) (zF (u.2.2.2.2.2.2.2.2.2.2.2.2.2.2.2.2.2.1)) (u.2.2.2.2.2.2.2.2.2.2.2.2.2.2.2.2.2.2.1).toInt (u.2.2.2.2.2.2.2.2.2.2.2.2.2.2.2.2.2.2.2.1).toInt (u.2.2.2.2.2.2.2.2.2.2.2.2.2.2.2.2.2.2.2.2).toInt) (kB (dC, dI) cl (tX55 d) (va_A (wX55 ci ad d f_said f_heads f_kinds f_folded f_lengths f_parts f_rules f_known f_rounds f_given f_strata f_circle f_turns f_needs f_comes f_values f_plain f_plainCount f_pointers f_now f_fresh f_many f_sums f_lows f_highs f_layed f_worked f_large) sz) (fun u : Int32 × (Nat → Int32) × (Nat → Int32) × (Nat → Int32) × Int32 × Int32 × (Nat → Int32) × (Nat → Int32) × (Nat → Int32) × (Nat → Int32) × Int32 × (Nat → Int32) × Int32 × (Nat → Int32) × (Nat → Int32) × (Nat → Int32) × (Nat → Int32) × (Nat → Int32) × Int32 × Int64 × Int32 => (wX55 ci ad d f_said f_heads f_kinds f_folded f_lengths f_parts f_rules (u.1) (u.2.1) (u.2.2.1) (u.2.2.2.1) (u.2.2.2.2.1) (u.2.2.2.2.2.1) (u.2.2.2.2.2.2.1) (u.2.2.2.2.2.2.2.1) (u.2.2.2.2.2.2.2.2.1) (u.2.2.2.2.2.2.2.2.2.1) (u.2.2.2.2.2.2.2.2.2.2.1) (u.2.2.2.2.2.2.2.2.2.2.2.1) (u.2.2.2.2.2.2.2.2.2.2.2.2.1) (u.2.2.2.2.2.2.2.2.2.2.2.2.2.1) (u.2.2.2.2.2.2.2.2.2.2.2.2.2.2.1) (u.2.2.2.2.2.2.2.2.2.2.2.2.2.2.2.1) (u.2.2.2.2.2.2.2.2.2.2.2.2.2.2.2.2.1) (u.2.2.2.2.2.2.2.2.2.2.2.2.2.2.2.2.2.1) (u.2.2.2.2.2.2.2.2.2.2.2.2.2.2.2.2.2.2.1) (u.2.2.2.2.2.2.2.2.2.2.2.2.2.2.2.2.2.2.2.1) (u.2.2.2.2.2.2.2.2.2.2.2.2.2.2.2.2.2.2.2.2)))) (va_A (wX55 ci ad d f_said f_heads f_kinds f_folded f_lengths f_parts f_rules f_known f_rounds f_given f_strata f_circle f_turns f_needs f_comes f_values f_plain f_plainCount f_pointers f_now f_fresh f_many f_sums f_lows f_highs f_layed f_worked f_large) sz)) 0 0 (va_A (wX55 ci ad d f_said f_heads f_kinds f_folded f_lengths f_parts f_rules f_known f_rounds f_given f_strata f_circle f_turns f_needs f_comes f_values f_plain f_plainCount f_pointers f_now f_fresh f_many f_sums f_lows f_highs f_layed f_worked f_large) sz) := by
  refine k_enter (by decide) (Nat.le_of_ble_eq_true rfl) ?_
  intro p e s m below meth c ls X hsz hH hl
  subst hsz
  generalize va_A (wX55 ci ad d f_said f_heads f_kinds f_folded f_lengths f_parts f_rules f_known f_rounds f_given f_strata f_circle f_turns f_needs f_comes f_values f_plain f_plainCount f_pointers f_now f_fresh f_many f_sums f_lows f_highs f_layed f_worked f_large) s.heap.size = A at hH ⊢
  have hx := X.1.1
  have hb := X.1.2.1
  have hl : lv_has ls 4 [(0, .ref (ad 0)), (1, .int x1), (2, .int x2), (3, .int x3)] := hl
  unfold wpX55_counts at hw
  refine lv_iload_n hx hb dX55_counts_0 rfl (lv_at hl 1 rfl) ?_
  refine lv_iload_n hx hb dX55_counts_1 rfl (lv_at hl 2 rfl) ?_
  refine lv_iload_n hx hb dX55_counts_2 rfl (lv_at hl 3 rfl) ?_
  refine k_i0 hH (k_runS (As := [.int x1, .int x2, .int x3]) (rest := []) X hH.1 hH.2.1 X.2.2.2 (walkX55_isFact hc (x0 := x1) (x1 := x2) (x2 := x3) (f_said := f_said) (f_heads := f_heads) (f_kinds := f_kinds) (f_folded := f_folded) (f_lengths := f_lengths) (f_parts := f_parts) (f_rules := f_rules) (f_known := f_known) (f_rounds := f_rounds) (f_given := f_given) (f_strata := f_strata) (f_circle := f_circle) (f_turns := f_turns) (f_needs := f_needs) (f_comes := f_comes) (f_values := f_values) (f_plain := f_plain) (f_plainCount := f_plainCount) (f_pointers := f_pointers) (f_now := f_now) (f_fresh := f_fresh) (f_many := f_many) (f_sums := f_sums) (f_lows := f_lows) (f_highs := f_highs) (f_layed := f_layed) (f_worked := f_worked) (f_large := f_large) hw) (va_cwS 3 X.1.2.2.2.2 gX55_75 rfl rfl rfl hX55_isFact ⟨Nat.le_of_ble_eq_true rfl, Nat.le_of_ble_eq_true rfl⟩) rfl hl.1 rfl (Nat.le_of_ble_eq_true rfl) dX55_counts_3 ⟨Nat.le_refl 0, Nat.le_refl 0⟩) (fun r_1 _ H locs hw hH => ?_)
  have hH : kH (dC, dI) cl A s.heap H locs (wX55 ci ad d f_said f_heads f_kinds f_folded f_lengths f_parts f_rules f_known f_rounds f_given f_strata f_circle f_turns f_needs f_comes f_values f_plain f_plainCount f_pointers f_now f_fresh f_many f_sums f_lows f_highs f_layed f_worked f_large) := hH
  refine lv_if_ne (tgt := 11) hx hb dX55_counts_6 (by decide) (fun c_2 => ?_) (fun c_2 => ?_)
  · have hw := hw.2 (z_ne (rfl : r_1.toInt = _) (rfl : (0 : Int32).toInt = 0) c_2)
    refine lv_aload_n hx hb dX55_counts_11 rfl (lv_at hl 0 rfl) ?_
    refine k_v0 hH (k_runV (As := []) (rest := []) X hH.1 hH.2.1 X.2.2.2 (walkX55_work hc (f_said := f_said) (f_heads := f_heads) (f_kinds := f_kinds) (f_folded := f_folded) (f_lengths := f_lengths) (f_parts := f_parts) (f_rules := f_rules) (f_known := f_known) (f_rounds := f_rounds) (f_given := f_given) (f_strata := f_strata) (f_circle := f_circle) (f_turns := f_turns) (f_needs := f_needs) (f_comes := f_comes) (f_values := f_values) (f_plain := f_plain) (f_plainCount := f_plainCount) (f_pointers := f_pointers) (f_now := f_now) (f_fresh := f_fresh) (f_many := f_many) (f_sums := f_sums) (f_lows := f_lows) (f_highs := f_highs) (f_layed := f_layed) (f_worked := f_worked) (f_large := f_large) hw) (cwV 0 X.1.2.2.2.2 gX55_173 rfl rfl rfl hX55_work ⟨Nat.le_of_ble_eq_true rfl, Nat.le_of_ble_eq_true rfl⟩) hc (q0 := 0) rfl rfl hl.1 rfl (Nat.le_of_ble_eq_true rfl) dX55_counts_12 ⟨Nat.le_refl 0, Nat.le_refl 0⟩) (fun u H locs hw hH => ?_)
    obtain ⟨f_known_3, f_rounds_4, f_given_5, f_strata_6, f_circle_7, f_turns_8, f_needs_9, f_comes_10, f_values_11, f_plain_12, f_plainCount_13, f_pointers_14, f_now_15, f_fresh_16, f_many_17, f_sums_18, f_lows_19, f_highs_20, f_layed_21, f_worked_22, f_large_23⟩ := u
    have hH : kH (dC, dI) cl A s.heap H locs (wX55 ci ad d f_said f_heads f_kinds f_folded f_lengths f_parts f_rules f_known_3 f_rounds_4 f_given_5 f_strata_6 f_circle_7 f_turns_8 f_needs_9 f_comes_10 f_values_11 f_plain_12 f_plainCount_13 f_pointers_14 f_now_15 f_fresh_16 f_many_17 f_sums_18 f_lows_19 f_highs_20 f_layed_21 f_worked_22 f_large_23) := hH
    refine lv_aload_n hx hb dX55_counts_15 rfl (lv_at hl 0 rfl) ?_
    refine k_get X hH in_X55 0 rfl hc 9 (by decide) q6585 rfl dX55_counts_16 ?_
    refine lv_iload_n hx hb dX55_counts_19 rfl (lv_at hl 1 rfl) ?_
    refine lv_iload_n hx hb dX55_counts_20 rfl (lv_at hl 2 rfl) ?_
    refine lv_iload_n hx hb dX55_counts_21 rfl (lv_at hl 3 rfl) ?_
    refine k_i0 hH (k_runS (As := [.int x1, .int x2, .int x3]) (rest := [.ref (ad 8)]) X hH.1 hH.2.1 X.2.2.2 (walkX55_code hc (x0 := x1) (x1 := x2) (x2 := x3) (f_said := f_said) (f_heads := f_heads) (f_kinds := f_kinds) (f_folded := f_folded) (f_lengths := f_lengths) (f_parts := f_parts) (f_rules := f_rules) (f_known := f_known_3) (f_rounds := f_rounds_4) (f_given := f_given_5) (f_strata := f_strata_6) (f_circle := f_circle_7) (f_turns := f_turns_8) (f_needs := f_needs_9) (f_comes := f_comes_10) (f_values := f_values_11) (f_plain := f_plain_12) (f_plainCount := f_plainCount_13) (f_pointers := f_pointers_14) (f_now := f_now_15) (f_fresh := f_fresh_16) (f_many := f_many_17) (f_sums := f_sums_18) (f_lows := f_lows_19) (f_highs := f_highs_20) (f_layed := f_layed_21) (f_worked := f_worked_22) (f_large := f_large_23) hw) (va_cwS 3 X.1.2.2.2.2 gX55_79 rfl rfl rfl hX55_code ⟨Nat.le_of_ble_eq_true rfl, Nat.le_of_ble_eq_true rfl⟩) rfl hl.1 rfl (Nat.le_of_ble_eq_true rfl) dX55_counts_22 ⟨Nat.le_refl 0, Nat.le_refl 0⟩) (fun r_24 _ H locs hw hH => ?_)
    have hH : kH (dC, dI) cl A s.heap H locs (wX55 ci ad d f_said f_heads f_kinds f_folded f_lengths f_parts f_rules f_known_3 f_rounds_4 f_given_5 f_strata_6 f_circle_7 f_turns_8 f_needs_9 f_comes_10 f_values_11 f_plain_12 f_plainCount_13 f_pointers_14 f_now_15 f_fresh_16 f_many_17 f_sums_18 f_lows_19 f_highs_20 f_layed_21 f_worked_22 f_large_23) := hH
    have hq_25 := hw.1
    have hw := hw.2
    refine k_iald X hH 8 7 rfl rfl (z_in (rfl : r_24.toInt = _) hq_25) dX55_counts_25 ?_
    have e_26 := z_ld (f := f_given_5) (rfl : r_24.toInt = _) hq_25.1
    exact k_iret (v := f_given_5 r_24.toNatClampNeg) X hH (f_known_3, f_rounds_4, f_given_5, f_strata_6, f_circle_7, f_turns_8, f_needs_9, f_comes_10, f_values_11, f_plain_12, f_plainCount_13, f_pointers_14, f_now_15, f_fresh_16, f_many_17, f_sums_18, f_lows_19, f_highs_20, f_layed_21, f_worked_22, f_large_23) (by rw [show (f_given_5 r_24.toNatClampNeg : Int32).toInt = _ from e_26]; exact hw) rfl rfl dX55_counts_26
  · have hw := hw.1 (z_eq (rfl : r_1.toInt = _) (rfl : (0 : Int32).toInt = 0) c_2)
    refine lv_iconst (v := (-1)) hx hb dX55_counts_9 (by decide) ?_
    exact k_iret (v := (-1)) X hH (f_known, f_rounds, f_given, f_strata, f_circle, f_turns, f_needs, f_comes, f_values, f_plain, f_plainCount, f_pointers, f_now, f_fresh, f_many, f_sums, f_lows, f_highs, f_layed, f_worked, f_large) hw rfl rfl dX55_counts_10
set_option maxHeartbeats 4000000 in
theorem atX55_row_26 {p : Program} {l : Launch} {e : Env} {s : State} {m : MethodId} {args : Array Value} {below : List Frame} {meth : Method} {c : Code} {dC : Nat → ClassId} {dI : Nat → Nat → Nat} {cl : List vw_C} {ci : Nat} (hc : cl[ci]? = some (RX55, TX55, 28)) {ad : Nat → Nat} {d : Nat → ClassId} {A : Nat → Prop} {post : Int → Int → (Int → Int) → (Int → Int) → (Int → Int) → Int → Int → (Int → Int) → (Int → Int) → (Int → Int) → (Int → Int) → Int → (Int → Int) → Int → (Int → Int) → (Int → Int) → (Int → Int) → (Int → Int) → (Int → Int) → Int → Int → Int → Prop} {f_said : Nat → Int32} {f_heads : Nat → Int32} {f_kinds : Nat → Int32} {f_folded : Nat → Int32} {f_lengths : Nat → Int32} {f_parts : Nat → Int32} {f_rules : Int32} (X : kX p s m args meth c cX55_row 3 RX55 (some .int) (dC, dI) cl (tX55 d)) {K48 : Int → Prop}  {f_known : Int32} {f_rounds : Nat → Int32} {f_given : Nat → Int32} {f_strata : Nat → Int32} {f_circle : Int32} {f_turns : Int32} {f_needs : Nat → Int32} {f_comes : Nat → Int32} {f_values : Nat → Int32} {f_plain : Nat → Int32} {f_plainCount : Int32} {f_pointers : Nat → Int32} {f_now : Int32} {f_fresh : Nat → Int32} {f_many : Nat → Int32} {f_sums : Nat → Int32} {f_lows : Nat → Int32} {f_highs : Nat → Int32} {f_layed : Int32} {f_worked : Int64} {f_large : Int32} (hk48 : ∀ (x2 : Int32), K48 x2.toInt → ∀ (H : Heap) (locs : List Loc) (ls : Array Slot), kH (dC, dI) cl A s.heap H locs (wX55 ci ad d f_said f_heads f_kinds f_folded f_lengths f_parts f_rules f_known f_rounds f_given f_strata f_circle f_turns f_needs f_comes f_values f_plain f_plainCount f_pointers f_now f_fresh f_many f_sums f_lows f_highs f_layed f_worked f_large) → lv_has ls 3 [(2, .int x2)] → W p l e ({ frames := 5, cells := 0, slots := 0, locals := 123 } : Room) s m args below meth c H locs 0 0 (MQ below (va_Qi (fun (r : Int32) (u : Int32 × (Nat → Int32) × (Nat → Int32) × (Nat → Int32) × Int32 × Int32 × (Nat → Int32) × (Nat → Int32) × (Nat → Int32) × (Nat → Int32) × Int32 × (Nat → Int32) × Int32 × (Nat → Int32) × (Nat → Int32) × (Nat → Int32) × (Nat → Int32) × (Nat → Int32) × Int32 × Int64 × Int32) => post r.toInt (u.1).toInt (zF (u.2.1)) (zF (u.2.2.1)) (zF (u.2.2.2.1)) (u.2.2.2.2.1).toInt (u.2.2.2.2.2.1).toInt (zF (u.2.2.2.2.2.2.1)) (zF (u.2.2.2.2.2.2.2.1)) (zF (u.2.2.2.2.2.2.2.2.1)) (zF (u.2.2.2.2.2.2.2.2.2.1)) (u.2.2.2.2.2.2.2.2.2.2.1).toInt (zF (u.2.2.2.2.2.2.2.2.2.2.2.1)) (u.2.2.2.2.2.2.2.2.2.2.2.2.1).toInt (zF (u.2.2.2.2.2.2.2.2.2.2.2.2.2.1)) (zF (u.2.2.2.2.2.2.2.2.2.2.2.2.2.2.1)) (zF (u.2.2.2.2.2.2.2.2.2.2.2.2.2.2.2.1)) (zF (u.2.2.2.2.2.2.2.2.2.2.2.2.2.2.2.2.1)) (zF (u.2.2.2.2.2.2.2.2.2.2.2.2.2.2.2.2.2.1)) (u.2.2.2.2.2.2.2.2.2.2.2.2.2.2.2.2.2.2.1).toInt (u.2.2.2.2.2.2.2.2.2.2.2.2.2.2.2.2.2.2.2.1).toInt (u.2.2.2.2.2.2.2.2.2.2.2.2.2.2.2.2.2.2.2.2).toInt) (kB (dC, dI) cl (tX55 d) A (fun u : Int32 × (Nat → Int32) × (Nat → Int32) × (Nat → Int32) × Int32 × Int32 × (Nat → Int32) × (Nat → Int32) × (Nat → Int32) × (Nat → Int32) × Int32 × (Nat → Int32) × Int32 × (Nat → Int32) × (Nat → Int32) × (Nat → Int32) × (Nat → Int32) × (Nat → Int32) × Int32 × Int64 × Int32 => (wX55 ci ad d f_said f_heads f_kinds f_folded f_lengths f_parts f_rules (u.1) (u.2.1) (u.2.2.1) (u.2.2.2.1) (u.2.2.2.2.1) (u.2.2.2.2.2.1) (u.2.2.2.2.2.2.1) (u.2.2.2.2.2.2.2.1) (u.2.2.2.2.2.2.2.2.1) (u.2.2.2.2.2.2.2.2.2.1) (u.2.2.2.2.2.2.2.2.2.2.1) (u.2.2.2.2.2.2.2.2.2.2.2.1) (u.2.2.2.2.2.2.2.2.2.2.2.2.1) (u.2.2.2.2.2.2.2.2.2.2.2.2.2.1) (u.2.2.2.2.2.2.2.2.2.2.2.2.2.2.1) (u.2.2.2.2.2.2.2.2.2.2.2.2.2.2.2.1) (u.2.2.2.2.2.2.2.2.2.2.2.2.2.2.2.2.1) (u.2.2.2.2.2.2.2.2.2.2.2.2.2.2.2.2.2.1) (u.2.2.2.2.2.2.2.2.2.2.2.2.2.2.2.2.2.2.1) (u.2.2.2.2.2.2.2.2.2.2.2.2.2.2.2.2.2.2.2.1) (u.2.2.2.2.2.2.2.2.2.2.2.2.2.2.2.2.2.2.2.2)))) A) args s 0 0 A) (F0 m 48 ls [])) :
    ∀ (nn : Nat) (x2 : Int32), wX55_row_26 K48 (zF f_rounds) nn x2.toInt → ∀ (H : Heap) (locs : List Loc) (ls : Array Slot), kH (dC, dI) cl A s.heap H locs (wX55 ci ad d f_said f_heads f_kinds f_folded f_lengths f_parts f_rules f_known f_rounds f_given f_strata f_circle f_turns f_needs f_comes f_values f_plain f_plainCount f_pointers f_now f_fresh f_many f_sums f_lows f_highs f_layed f_worked f_large) → lv_has ls 3 [(0, .ref (ad 0)), (2, .int x2)] → W p l e ({ frames := 5, cells := 0, slots := 0, locals := 123 } : Room) s m args below meth c H locs 0 0 (MQ below (va_Qi (fun (r : Int32) (u : Int32 × (Nat → Int32) × (Nat → Int32) × (Nat → Int32) × Int32 × Int32 × (Nat → Int32) × (Nat → Int32) × (Nat → Int32) × (Nat → Int32) × Int32 × (Nat → Int32) × Int32 × (Nat → Int32) × (Nat → Int32) × (Nat → Int32) × (Nat → Int32) × (Nat → Int32) × Int32 × Int64 × Int32) => post r.toInt (u.1).toInt (zF (u.2.1)) (zF (u.2.2.1)) (zF (u.2.2.2.1)) (u.2.2.2.2.1).toInt (u.2.2.2.2.2.1).toInt (zF (u.2.2.2.2.2.2.1)) (zF (u.2.2.2.2.2.2.2.1)) (zF (u.2.2.2.2.2.2.2.2.1)) (zF (u.2.2.2.2.2.2.2.2.2.1)) (u.2.2.2.2.2.2.2.2.2.2.1).toInt (zF (u.2.2.2.2.2.2.2.2.2.2.2.1)) (u.2.2.2.2.2.2.2.2.2.2.2.2.1).toInt (zF (u.2.2.2.2.2.2.2.2.2.2.2.2.2.1)) (zF (u.2.2.2.2.2.2.2.2.2.2.2.2.2.2.1)) (zF (u.2.2.2.2.2.2.2.2.2.2.2.2.2.2.2.1)) (zF (u.2.2.2.2.2.2.2.2.2.2.2.2.2.2.2.2.1)) (zF (u.2.2.2.2.2.2.2.2.2.2.2.2.2.2.2.2.2.1)) (u.2.2.2.2.2.2.2.2.2.2.2.2.2.2.2.2.2.2.1).toInt (u.2.2.2.2.2.2.2.2.2.2.2.2.2.2.2.2.2.2.2.1).toInt (u.2.2.2.2.2.2.2.2.2.2.2.2.2.2.2.2.2.2.2.2).toInt) (kB (dC, dI) cl (tX55 d) A (fun u : Int32 × (Nat → Int32) × (Nat → Int32) × (Nat → Int32) × Int32 × Int32 × (Nat → Int32) × (Nat → Int32) × (Nat → Int32) × (Nat → Int32) × Int32 × (Nat → Int32) × Int32 × (Nat → Int32) × (Nat → Int32) × (Nat → Int32) × (Nat → Int32) × (Nat → Int32) × Int32 × Int64 × Int32 => (wX55 ci ad d f_said f_heads f_kinds f_folded f_lengths f_parts f_rules (u.1) (u.2.1) (u.2.2.1) (u.2.2.2.1) (u.2.2.2.2.1) (u.2.2.2.2.2.1) (u.2.2.2.2.2.2.1) (u.2.2.2.2.2.2.2.1) (u.2.2.2.2.2.2.2.2.1) (u.2.2.2.2.2.2.2.2.2.1) (u.2.2.2.2.2.2.2.2.2.2.1) (u.2.2.2.2.2.2.2.2.2.2.2.1) (u.2.2.2.2.2.2.2.2.2.2.2.2.1) (u.2.2.2.2.2.2.2.2.2.2.2.2.2.1) (u.2.2.2.2.2.2.2.2.2.2.2.2.2.2.1) (u.2.2.2.2.2.2.2.2.2.2.2.2.2.2.2.1) (u.2.2.2.2.2.2.2.2.2.2.2.2.2.2.2.2.1) (u.2.2.2.2.2.2.2.2.2.2.2.2.2.2.2.2.2.1) (u.2.2.2.2.2.2.2.2.2.2.2.2.2.2.2.2.2.2.1) (u.2.2.2.2.2.2.2.2.2.2.2.2.2.2.2.2.2.2.2.1) (u.2.2.2.2.2.2.2.2.2.2.2.2.2.2.2.2.2.2.2.2)))) A) args s 0 0 A) (F0 m 26 ls []) := by
  have hx := X.1.1
  have hb := X.1.2.1
  intro nn
  induction nn with
  | zero =>
    intro x2 hw
    exact False.elim hw
  | succ n ih =>
    intro x2 hw H locs ls hH hl
    rw [wX55_row_26] at hw
    refine lv_iload_n hx hb dX55_row_26 rfl (lv_at hl 1 rfl) ?_
    refine lv_sipush (v := 16384) hx hb dX55_row_27 (by decide) ?_
    refine lv_icmp_ge (tgt := 48) hx hb dX55_row_30 (by decide) (fun c_28 => ?_) (fun c_28 => ?_)
    · have hw := hw.1 (z_le (rfl : (16384 : Int32).toInt = 16384) (rfl : x2.toInt = _) c_28)
      exact hk48 x2 hw _ _ ls hH (lv_sub hl [1] rfl)
    · have hw := hw.2 (z_nle (rfl : (16384 : Int32).toInt = 16384) (rfl : x2.toInt = _) c_28)
      refine lv_aload_n hx hb dX55_row_33 rfl (lv_at hl 0 rfl) ?_
      refine k_get X hH in_X55 0 rfl hc 8 (by decide) q6584 rfl dX55_row_34 ?_
      refine lv_iload_n hx hb dX55_row_37 rfl (lv_at hl 1 rfl) ?_
      have hq_29 := hw.1
      have hw := hw.2
      refine k_iald X hH 7 6 rfl rfl (z_in (rfl : x2.toInt = _) hq_29) dX55_row_38 ?_
      have e_30 := z_ld (f := f_rounds) (rfl : x2.toInt = _) hq_29.1
      refine lv_if_ge (tgt := 48) hx hb dX55_row_39 (by decide) (fun c_31 => ?_) (fun c_31 => ?_)
      · have hw := hw.1 (z_le (rfl : (0 : Int32).toInt = 0) e_30 c_31)
        exact hk48 x2 hw _ _ ls hH (lv_sub hl [1] rfl)
      · have hw := hw.2 (z_nle (rfl : (0 : Int32).toInt = 0) e_30 c_31)
        have hq_33 := hw.1
        have hw := hw.2
        obtain ⟨x2_32, ex2_32⟩ : ∃ y : Int32, y = x2 + 1 := ⟨_, rfl⟩
        have hw := hw x2_32.toInt (by rw [ex2_32]; exact (z_x (z_add (z_m (rfl : x2.toInt = _)) (z_m (rfl : (1 : Int32).toInt = 1))) hq_33))
        refine lv_iinc (v := x2_32) (lv' := [(2, .int x2_32), (0, .ref (ad 0))]) hx hb dX55_row_42 hl (k := 1) rfl (by rw [ex2_32]; rfl) (by decide) rfl (fun ls hl => ?_)
        refine lv_goto (tgt := 26) hx hb dX55_row_45 (by decide) ?_
        exact ih x2_32 hw _ _ ls hH (lv_sub hl [1, 0] rfl)
set_option maxHeartbeats 4000000 in
theorem walkX55_row {l : Launch} {dC : Nat → ClassId} {dI : Nat → Nat → Nat} {cl : List vw_C} {ci : Nat} (hc : cl[ci]? = some (RX55, TX55, 28)) {ad : Nat → Nat} {d : Nat → ClassId} {sz : Nat} {f_said : Nat → Int32} {f_heads : Nat → Int32} {f_kinds : Nat → Int32} {f_folded : Nat → Int32} {f_lengths : Nat → Int32} {f_parts : Nat → Int32} {f_rules : Int32} {f_known : Int32} {f_rounds : Nat → Int32} {f_given : Nat → Int32} {f_strata : Nat → Int32} {f_circle : Int32} {f_turns : Int32} {f_needs : Nat → Int32} {f_comes : Nat → Int32} {f_values : Nat → Int32} {f_plain : Nat → Int32} {f_plainCount : Int32} {f_pointers : Nat → Int32} {f_now : Int32} {f_fresh : Nat → Int32} {f_many : Nat → Int32} {f_sums : Nat → Int32} {f_lows : Nat → Int32} {f_highs : Nat → Int32} {f_layed : Int32} {f_worked : Int64} {f_large : Int32} {x1 : Int32} {post : Int → Int → (Int → Int) → (Int → Int) → (Int → Int) → Int → Int → (Int → Int) → (Int → Int) → (Int → Int) → (Int → Int) → Int → (Int → Int) → Int → (Int → Int) → (Int → Int) → (Int → Int) → (Int → Int) → (Int → Int) → Int → Int → Int → Prop} (hw : wpX55_row post (zF f_said) (zF f_heads) (zF f_kinds) (zF f_folded) (zF f_lengths) (zF f_parts) f_rules.toInt f_known.toInt (zF f_rounds) (zF f_given) (zF f_strata) f_circle.toInt f_turns.toInt (zF f_needs) (zF f_comes) (zF f_values) (zF f_plain) f_plainCount.toInt (zF f_pointers) f_now.toInt (zF f_fresh) (zF f_many) (zF f_sums) (zF f_lows) (zF f_highs) f_layed.toInt f_worked.toInt f_large.toInt x1.toInt) :
    Met l yX55_row (ws_ yX55_row cX55_row 3 (some .int)) ({ frames := 5, cells := 0, slots := 0, locals := 123 } : Room) (kPc (dC, dI) cl (tX55 d) [.ref (ad 0), .int x1] sz (wX55 ci ad d f_said f_heads f_kinds f_folded f_lengths f_parts f_rules f_known f_rounds f_given f_strata f_circle f_turns f_needs f_comes f_values f_plain f_plainCount f_pointers f_now f_fresh f_many f_sums f_lows f_highs f_layed f_worked f_large)) (va_Qi (fun (r : Int32) (u : Int32 × (Nat → Int32) × (Nat → Int32) × (Nat → Int32) × Int32 × Int32 × (Nat → Int32) × (Nat → Int32) × (Nat → Int32) × (Nat → Int32) × Int32 × (Nat → Int32) × Int32 × (Nat → Int32) × (Nat → Int32) × (Nat → Int32) × (Nat → Int32) × (Nat → Int32) × Int32 × Int64 × Int32) => post r.toInt (u.1).toInt (zF (u.2.1)) (zF (u.2.2.1)) (zF (u.2.2.2.1)) (u.2.2.2.2.1).toInt (u.2.2.2.2.2.1).toInt (zF (u.2.2.2.2.2.2.1)) (zF (u.2.2.2.2.2.2.2.1)) (zF (u.2.2.2.2.2.2.2.2.1)) (zF (u.2.2.2.2.2.2.2.2.2.1)) (u.2.2.2.2.2.2.2.2.2.2.1).toInt (zF (u.2.2.2.2.2.2.2.2.2.2.2.1)) (u.2.2.2.2.2.2.2.2.2.2.2.2.1).toInt (zF (u.2.2.2.2.2.2.2.2.2.2.2.2.2.1)) (zF (u.2.2.2.2.2.2.2.2.2.2.2.2.2.2.1)) (zF (u.2.2.2.2.2.2.2.2.2.2.2.2.2.2.2.1)) (zF (u.2.2.2.2.2.2.2.2.2.2.2.2.2.2.2.2.1)) (zF (u.2.2.2.2.2.2.2.2.2.2.2.2.2.2.2.2.2.1)) (u.2.2.2.2.2.2.2.2.2.2.2.2.2.2.2.2.2.2.1).toInt (u.2.2.2.2.2.2.2.2.2.2.2.2.2.2.2.2.2.2.2.1).toInt (u.2.2.2.2.2.2.2.2.2.2.2.2.2.2.2.2.2.2.2.2).toInt) (kB (dC, dI) cl (tX55 d) (va_A (wX55 ci ad d f_said f_heads f_kinds f_folded f_lengths f_parts f_rules f_known f_rounds f_given f_strata f_circle f_turns f_needs f_comes f_values f_plain f_plainCount f_pointers f_now f_fresh f_many f_sums f_lows f_highs f_layed f_worked f_large) sz) (fun u : Int32 × (Nat → Int32) × (Nat → Int32) × (Nat → Int32) × Int32 × Int32 × (Nat → Int32) × (Nat → Int32) × (Nat → Int32) × (Nat → Int32) × Int32 × (Nat → Int32) × Int32 × (Nat → Int32) × (Nat → Int32) × (Nat → Int32) × (Nat → Int32) × (Nat → Int32) × Int32 × Int64 × Int32 => (wX55 ci ad d f_said f_heads f_kinds f_folded f_lengths f_parts f_rules (u.1) (u.2.1) (u.2.2.1) (u.2.2.2.1) (u.2.2.2.2.1) (u.2.2.2.2.2.1) (u.2.2.2.2.2.2.1) (u.2.2.2.2.2.2.2.1) (u.2.2.2.2.2.2.2.2.1) (u.2.2.2.2.2.2.2.2.2.1) (u.2.2.2.2.2.2.2.2.2.2.1) (u.2.2.2.2.2.2.2.2.2.2.2.1) (u.2.2.2.2.2.2.2.2.2.2.2.2.1) (u.2.2.2.2.2.2.2.2.2.2.2.2.2.1) (u.2.2.2.2.2.2.2.2.2.2.2.2.2.2.1) (u.2.2.2.2.2.2.2.2.2.2.2.2.2.2.2.1) (u.2.2.2.2.2.2.2.2.2.2.2.2.2.2.2.2.1) (u.2.2.2.2.2.2.2.2.2.2.2.2.2.2.2.2.2.1) (u.2.2.2.2.2.2.2.2.2.2.2.2.2.2.2.2.2.2.1) (u.2.2.2.2.2.2.2.2.2.2.2.2.2.2.2.2.2.2.2.1) (u.2.2.2.2.2.2.2.2.2.2.2.2.2.2.2.2.2.2.2.2)))) (va_A (wX55 ci ad d f_said f_heads f_kinds f_folded f_lengths f_parts f_rules f_known f_rounds f_given f_strata f_circle f_turns f_needs f_comes f_values f_plain f_plainCount f_pointers f_now f_fresh f_many f_sums f_lows f_highs f_layed f_worked f_large) sz)) 0 0 (va_A (wX55 ci ad d f_said f_heads f_kinds f_folded f_lengths f_parts f_rules f_known f_rounds f_given f_strata f_circle f_turns f_needs f_comes f_values f_plain f_plainCount f_pointers f_now f_fresh f_many f_sums f_lows f_highs f_layed f_worked f_large) sz) := by
  refine k_enter (by decide) (Nat.le_of_ble_eq_true rfl) ?_
  intro p e s m below meth c ls X hsz hH hl
  subst hsz
  generalize va_A (wX55 ci ad d f_said f_heads f_kinds f_folded f_lengths f_parts f_rules f_known f_rounds f_given f_strata f_circle f_turns f_needs f_comes f_values f_plain f_plainCount f_pointers f_now f_fresh f_many f_sums f_lows f_highs f_layed f_worked f_large) s.heap.size = A at hH ⊢
  have hx := X.1.1
  have hb := X.1.2.1
  have hl : lv_has ls 3 [(0, .ref (ad 0)), (1, .int x1)] := hl
  unfold wpX55_row at hw
  refine lv_aload_n hx hb dX55_row_0 rfl (lv_at hl 0 rfl) ?_
  refine k_v0 hH (k_runV (As := []) (rest := []) X hH.1 hH.2.1 X.2.2.2 (walkX55_work hc (f_said := f_said) (f_heads := f_heads) (f_kinds := f_kinds) (f_folded := f_folded) (f_lengths := f_lengths) (f_parts := f_parts) (f_rules := f_rules) (f_known := f_known) (f_rounds := f_rounds) (f_given := f_given) (f_strata := f_strata) (f_circle := f_circle) (f_turns := f_turns) (f_needs := f_needs) (f_comes := f_comes) (f_values := f_values) (f_plain := f_plain) (f_plainCount := f_plainCount) (f_pointers := f_pointers) (f_now := f_now) (f_fresh := f_fresh) (f_many := f_many) (f_sums := f_sums) (f_lows := f_lows) (f_highs := f_highs) (f_layed := f_layed) (f_worked := f_worked) (f_large := f_large) hw) (cwV 0 X.1.2.2.2.2 gX55_173 rfl rfl rfl hX55_work ⟨Nat.le_of_ble_eq_true rfl, Nat.le_of_ble_eq_true rfl⟩) hc (q0 := 0) rfl rfl hl.1 rfl (Nat.le_of_ble_eq_true rfl) dX55_row_1 ⟨Nat.le_refl 0, Nat.le_refl 0⟩) (fun u H locs hw hH => ?_)
  obtain ⟨f_known_1, f_rounds_2, f_given_3, f_strata_4, f_circle_5, f_turns_6, f_needs_7, f_comes_8, f_values_9, f_plain_10, f_plainCount_11, f_pointers_12, f_now_13, f_fresh_14, f_many_15, f_sums_16, f_lows_17, f_highs_18, f_layed_19, f_worked_20, f_large_21⟩ := u
  have hH : kH (dC, dI) cl A s.heap H locs (wX55 ci ad d f_said f_heads f_kinds f_folded f_lengths f_parts f_rules f_known_1 f_rounds_2 f_given_3 f_strata_4 f_circle_5 f_turns_6 f_needs_7 f_comes_8 f_values_9 f_plain_10 f_plainCount_11 f_pointers_12 f_now_13 f_fresh_14 f_many_15 f_sums_16 f_lows_17 f_highs_18 f_layed_19 f_worked_20 f_large_21) := hH
  refine lv_iload_n hx hb dX55_row_4 rfl (lv_at hl 1 rfl) ?_
  refine lv_sipush (v := 16384) hx hb dX55_row_5 (by decide) ?_
  refine lv_icmp_lt (tgt := 14) hx hb dX55_row_8 (by decide) (fun c_22 => ?_) (fun c_22 => ?_)
  · have hw := hw.1 (z_lt (rfl : x1.toInt = _) (rfl : (16384 : Int32).toInt = 16384) c_22)
    refine lv_iload_n hx hb dX55_row_14 rfl (lv_at hl 1 rfl) ?_
    refine lv_if_ge (tgt := 22) hx hb dX55_row_15 (by decide) (fun c_23 => ?_) (fun c_23 => ?_)
    · have hw := hw.1 (z_le (rfl : (0 : Int32).toInt = 0) (rfl : x1.toInt = _) c_23)
      refine lv_iload_n hx hb dX55_row_22 rfl (lv_at hl 1 rfl) ?_
      refine lv_iconst (v := 1) hx hb dX55_row_23 (by decide) ?_
      refine lv_iadd hx hb dX55_row_24 ?_
      have e_24 := z_add (z_m (rfl : x1.toInt = _)) (z_m (rfl : (1 : Int32).toInt = 1))
      have hq_25 := hw.1
      have hw := hw.2
      have e_26 := z_x e_24 hq_25
      refine lv_topi (fun x2_27 ex2_27 => ?_)
      have hw := hw x2_27.toInt (by rw [ex2_27]; exact e_26)
      refine lv_istore_n (lv' := [(2, .int x2_27), (0, .ref (ad 0)), (1, .int x1)]) hx hb dX55_row_25 rfl hl (by decide) rfl (fun ls hl => ?_)
      obtain ⟨fu, hw⟩ := hw
      refine atX55_row_26 hc X ?_ fu x2_27 hw _ _ ls hH (lv_sub hl [1, 0] rfl)
      · intro x2_34 hw H locs ls hH hl
        refine lv_iload_n hx hb dX55_row_48 rfl (lv_at hl 0 rfl) ?_
        refine lv_sipush (v := 16384) hx hb dX55_row_49 (by decide) ?_
        refine lv_icmp_ge (tgt := 59) hx hb dX55_row_52 (by decide) (fun c_35 => ?_) (fun c_35 => ?_)
        · have hw := hw.1 (z_le (rfl : (16384 : Int32).toInt = 16384) (rfl : x2_34.toInt = _) c_35)
          refine lv_bipush (v := (-2)) hx hb dX55_row_59 (by decide) ?_
          exact k_iret (v := (-2)) X hH (f_known_1, f_rounds_2, f_given_3, f_strata_4, f_circle_5, f_turns_6, f_needs_7, f_comes_8, f_values_9, f_plain_10, f_plainCount_11, f_pointers_12, f_now_13, f_fresh_14, f_many_15, f_sums_16, f_lows_17, f_highs_18, f_layed_19, f_worked_20, f_large_21) hw rfl rfl dX55_row_61
        · have hw := hw.2 (z_nle (rfl : (16384 : Int32).toInt = 16384) (rfl : x2_34.toInt = _) c_35)
          refine lv_iload_n hx hb dX55_row_55 rfl (lv_at hl 0 rfl) ?_
          refine lv_goto (tgt := 61) hx hb dX55_row_56 (by decide) ?_
          exact k_iret (v := x2_34) X hH (f_known_1, f_rounds_2, f_given_3, f_strata_4, f_circle_5, f_turns_6, f_needs_7, f_comes_8, f_values_9, f_plain_10, f_plainCount_11, f_pointers_12, f_now_13, f_fresh_14, f_many_15, f_sums_16, f_lows_17, f_highs_18, f_layed_19, f_worked_20, f_large_21) hw rfl rfl dX55_row_61
    · have hw := hw.2 (z_nle (rfl : (0 : Int32).toInt = 0) (rfl : x1.toInt = _) c_23)
      refine lv_iconst (v := 0) hx hb dX55_row_18 (by decide) ?_
      refine lv_goto (tgt := 25) hx hb dX55_row_19 (by decide) ?_
      refine lv_istore_n (lv' := [(2, .int 0), (0, .ref (ad 0)), (1, .int x1)]) hx hb dX55_row_25 rfl hl (by decide) rfl (fun ls hl => ?_)
      obtain ⟨fu, hw⟩ := hw
      refine atX55_row_26 hc X ?_ fu 0 hw _ _ ls hH (lv_sub hl [1, 0] rfl)
      · intro x2_36 hw H locs ls hH hl
        refine lv_iload_n hx hb dX55_row_48 rfl (lv_at hl 0 rfl) ?_
        refine lv_sipush (v := 16384) hx hb dX55_row_49 (by decide) ?_
        refine lv_icmp_ge (tgt := 59) hx hb dX55_row_52 (by decide) (fun c_37 => ?_) (fun c_37 => ?_)
        · have hw := hw.1 (z_le (rfl : (16384 : Int32).toInt = 16384) (rfl : x2_36.toInt = _) c_37)
          refine lv_bipush (v := (-2)) hx hb dX55_row_59 (by decide) ?_
          exact k_iret (v := (-2)) X hH (f_known_1, f_rounds_2, f_given_3, f_strata_4, f_circle_5, f_turns_6, f_needs_7, f_comes_8, f_values_9, f_plain_10, f_plainCount_11, f_pointers_12, f_now_13, f_fresh_14, f_many_15, f_sums_16, f_lows_17, f_highs_18, f_layed_19, f_worked_20, f_large_21) hw rfl rfl dX55_row_61
        · have hw := hw.2 (z_nle (rfl : (16384 : Int32).toInt = 16384) (rfl : x2_36.toInt = _) c_37)
          refine lv_iload_n hx hb dX55_row_55 rfl (lv_at hl 0 rfl) ?_
          refine lv_goto (tgt := 61) hx hb dX55_row_56 (by decide) ?_
          exact k_iret (v := x2_36) X hH (f_known_1, f_rounds_2, f_given_3, f_strata_4, f_circle_5, f_turns_6, f_needs_7, f_comes_8, f_values_9, f_plain_10, f_plainCount_11, f_pointers_12, f_now_13, f_fresh_14, f_many_15, f_sums_16, f_lows_17, f_highs_18, f_layed_19, f_worked_20, f_large_21) hw rfl rfl dX55_row_61
  · have hw := hw.2 (z_nlt (rfl : x1.toInt = _) (rfl : (16384 : Int32).toInt = 16384) c_22)
    refine lv_bipush (v := (-2)) hx hb dX55_row_11 (by decide) ?_
    exact k_iret (v := (-2)) X hH (f_known_1, f_rounds_2, f_given_3, f_strata_4, f_circle_5, f_turns_6, f_needs_7, f_comes_8, f_values_9, f_plain_10, f_plainCount_11, f_pointers_12, f_now_13, f_fresh_14, f_many_15, f_sums_16, f_lows_17, f_highs_18, f_layed_19, f_worked_20, f_large_21) hw rfl rfl dX55_row_13
set_option maxHeartbeats 4000000 in
theorem atX55_size_8 {p : Program} {l : Launch} {e : Env} {s : State} {m : MethodId} {args : Array Value} {below : List Frame} {meth : Method} {c : Code} {dC : Nat → ClassId} {dI : Nat → Nat → Nat} {cl : List vw_C} {ci : Nat} (hc : cl[ci]? = some (RX55, TX55, 28)) {ad : Nat → Nat} {d : Nat → ClassId} {A : Nat → Prop} {post : Int → Int → (Int → Int) → (Int → Int) → (Int → Int) → Int → Int → (Int → Int) → (Int → Int) → (Int → Int) → (Int → Int) → Int → (Int → Int) → Int → (Int → Int) → (Int → Int) → (Int → Int) → (Int → Int) → (Int → Int) → Int → Int → Int → Prop} {f_said : Nat → Int32} {f_heads : Nat → Int32} {f_kinds : Nat → Int32} {f_folded : Nat → Int32} {f_lengths : Nat → Int32} {f_parts : Nat → Int32} {f_rules : Int32} (X : kX p s m args meth c cX55_size 3 RX55 (some .int) (dC, dI) cl (tX55 d)) {K38 : Int → Prop}  {f_known : Int32} {f_rounds : Nat → Int32} {f_given : Nat → Int32} {f_strata : Nat → Int32} {f_circle : Int32} {f_turns : Int32} {f_needs : Nat → Int32} {f_comes : Nat → Int32} {f_values : Nat → Int32} {f_plain : Nat → Int32} {f_plainCount : Int32} {f_pointers : Nat → Int32} {f_now : Int32} {f_fresh : Nat → Int32} {f_many : Nat → Int32} {f_sums : Nat → Int32} {f_lows : Nat → Int32} {f_highs : Nat → Int32} {f_layed : Int32} {f_worked : Int64} {f_large : Int32} (hk38 : ∀ (x1 : Int32), K38 x1.toInt → ∀ (H : Heap) (locs : List Loc) (ls : Array Slot), kH (dC, dI) cl A s.heap H locs (wX55 ci ad d f_said f_heads f_kinds f_folded f_lengths f_parts f_rules f_known f_rounds f_given f_strata f_circle f_turns f_needs f_comes f_values f_plain f_plainCount f_pointers f_now f_fresh f_many f_sums f_lows f_highs f_layed f_worked f_large) → lv_has ls 3 [(1, .int x1)] → W p l e ({ frames := 5, cells := 0, slots := 0, locals := 123 } : Room) s m args below meth c H locs 0 0 (MQ below (va_Qi (fun (r : Int32) (u : Int32 × (Nat → Int32) × (Nat → Int32) × (Nat → Int32) × Int32 × Int32 × (Nat → Int32) × (Nat → Int32) × (Nat → Int32) × (Nat → Int32) × Int32 × (Nat → Int32) × Int32 × (Nat → Int32) × (Nat → Int32) × (Nat → Int32) × (Nat → Int32) × (Nat → Int32) × Int32 × Int64 × Int32) => post r.toInt (u.1).toInt (zF (u.2.1)) (zF (u.2.2.1)) (zF (u.2.2.2.1)) (u.2.2.2.2.1).toInt (u.2.2.2.2.2.1).toInt (zF (u.2.2.2.2.2.2.1)) (zF (u.2.2.2.2.2.2.2.1)) (zF (u.2.2.2.2.2.2.2.2.1)) (zF (u.2.2.2.2.2.2.2.2.2.1)) (u.2.2.2.2.2.2.2.2.2.2.1).toInt (zF (u.2.2.2.2.2.2.2.2.2.2.2.1)) (u.2.2.2.2.2.2.2.2.2.2.2.2.1).toInt (zF (u.2.2.2.2.2.2.2.2.2.2.2.2.2.1)) (zF (u.2.2.2.2.2.2.2.2.2.2.2.2.2.2.1)) (zF (u.2.2.2.2.2.2.2.2.2.2.2.2.2.2.2.1)) (zF (u.2.2.2.2.2.2.2.2.2.2.2.2.2.2.2.2.1)) (zF (u.2.2.2.2.2.2.2.2.2.2.2.2.2.2.2.2.2.1)) (u.2.2.2.2.2.2.2.2.2.2.2.2.2.2.2.2.2.2.1).toInt (u.2.2.2.2.2.2.2.2.2.2.2.2.2.2.2.2.2.2.2.1).toInt (u.2.2.2.2.2.2.2.2.2.2.2.2.2.2.2.2.2.2.2.2).toInt) (kB (dC, dI) cl (tX55 d) A (fun u : Int32 × (Nat → Int32) × (Nat → Int32) × (Nat → Int32) × Int32 × Int32 × (Nat → Int32) × (Nat → Int32) × (Nat → Int32) × (Nat → Int32) × Int32 × (Nat → Int32) × Int32 × (Nat → Int32) × (Nat → Int32) × (Nat → Int32) × (Nat → Int32) × (Nat → Int32) × Int32 × Int64 × Int32 => (wX55 ci ad d f_said f_heads f_kinds f_folded f_lengths f_parts f_rules (u.1) (u.2.1) (u.2.2.1) (u.2.2.2.1) (u.2.2.2.2.1) (u.2.2.2.2.2.1) (u.2.2.2.2.2.2.1) (u.2.2.2.2.2.2.2.1) (u.2.2.2.2.2.2.2.2.1) (u.2.2.2.2.2.2.2.2.2.1) (u.2.2.2.2.2.2.2.2.2.2.1) (u.2.2.2.2.2.2.2.2.2.2.2.1) (u.2.2.2.2.2.2.2.2.2.2.2.2.1) (u.2.2.2.2.2.2.2.2.2.2.2.2.2.1) (u.2.2.2.2.2.2.2.2.2.2.2.2.2.2.1) (u.2.2.2.2.2.2.2.2.2.2.2.2.2.2.2.1) (u.2.2.2.2.2.2.2.2.2.2.2.2.2.2.2.2.1) (u.2.2.2.2.2.2.2.2.2.2.2.2.2.2.2.2.2.1) (u.2.2.2.2.2.2.2.2.2.2.2.2.2.2.2.2.2.2.1) (u.2.2.2.2.2.2.2.2.2.2.2.2.2.2.2.2.2.2.2.1) (u.2.2.2.2.2.2.2.2.2.2.2.2.2.2.2.2.2.2.2.2)))) A) args s 0 0 A) (F0 m 38 ls [])) :
    ∀ (nn : Nat) (x1 : Int32) (x2 : Int32), wX55_size_8 K38 (zF f_rounds) nn x1.toInt x2.toInt → ∀ (H : Heap) (locs : List Loc) (ls : Array Slot), kH (dC, dI) cl A s.heap H locs (wX55 ci ad d f_said f_heads f_kinds f_folded f_lengths f_parts f_rules f_known f_rounds f_given f_strata f_circle f_turns f_needs f_comes f_values f_plain f_plainCount f_pointers f_now f_fresh f_many f_sums f_lows f_highs f_layed f_worked f_large) → lv_has ls 3 [(0, .ref (ad 0)), (1, .int x1), (2, .int x2)] → W p l e ({ frames := 5, cells := 0, slots := 0, locals := 123 } : Room) s m args below meth c H locs 0 0 (MQ below (va_Qi (fun (r : Int32) (u : Int32 × (Nat → Int32) × (Nat → Int32) × (Nat → Int32) × Int32 × Int32 × (Nat → Int32) × (Nat → Int32) × (Nat → Int32) × (Nat → Int32) × Int32 × (Nat → Int32) × Int32 × (Nat → Int32) × (Nat → Int32) × (Nat → Int32) × (Nat → Int32) × (Nat → Int32) × Int32 × Int64 × Int32) => post r.toInt (u.1).toInt (zF (u.2.1)) (zF (u.2.2.1)) (zF (u.2.2.2.1)) (u.2.2.2.2.1).toInt (u.2.2.2.2.2.1).toInt (zF (u.2.2.2.2.2.2.1)) (zF (u.2.2.2.2.2.2.2.1)) (zF (u.2.2.2.2.2.2.2.2.1)) (zF (u.2.2.2.2.2.2.2.2.2.1)) (u.2.2.2.2.2.2.2.2.2.2.1).toInt (zF (u.2.2.2.2.2.2.2.2.2.2.2.1)) (u.2.2.2.2.2.2.2.2.2.2.2.2.1).toInt (zF (u.2.2.2.2.2.2.2.2.2.2.2.2.2.1)) (zF (u.2.2.2.2.2.2.2.2.2.2.2.2.2.2.1)) (zF (u.2.2.2.2.2.2.2.2.2.2.2.2.2.2.2.1)) (zF (u.2.2.2.2.2.2.2.2.2.2.2.2.2.2.2.2.1)) (zF (u.2.2.2.2.2.2.2.2.2.2.2.2.2.2.2.2.2.1)) (u.2.2.2.2.2.2.2.2.2.2.2.2.2.2.2.2.2.2.1).toInt (u.2.2.2.2.2.2.2.2.2.2.2.2.2.2.2.2.2.2.2.1).toInt (u.2.2.2.2.2.2.2.2.2.2.2.2.2.2.2.2.2.2.2.2).toInt) (kB (dC, dI) cl (tX55 d) A (fun u : Int32 × (Nat → Int32) × (Nat → Int32) × (Nat → Int32) × Int32 × Int32 × (Nat → Int32) × (Nat → Int32) × (Nat → Int32) × (Nat → Int32) × Int32 × (Nat → Int32) × Int32 × (Nat → Int32) × (Nat → Int32) × (Nat → Int32) × (Nat → Int32) × (Nat → Int32) × Int32 × Int64 × Int32 => (wX55 ci ad d f_said f_heads f_kinds f_folded f_lengths f_parts f_rules (u.1) (u.2.1) (u.2.2.1) (u.2.2.2.1) (u.2.2.2.2.1) (u.2.2.2.2.2.1) (u.2.2.2.2.2.2.1) (u.2.2.2.2.2.2.2.1) (u.2.2.2.2.2.2.2.2.1) (u.2.2.2.2.2.2.2.2.2.1) (u.2.2.2.2.2.2.2.2.2.2.1) (u.2.2.2.2.2.2.2.2.2.2.2.1) (u.2.2.2.2.2.2.2.2.2.2.2.2.1) (u.2.2.2.2.2.2.2.2.2.2.2.2.2.1) (u.2.2.2.2.2.2.2.2.2.2.2.2.2.2.1) (u.2.2.2.2.2.2.2.2.2.2.2.2.2.2.2.1) (u.2.2.2.2.2.2.2.2.2.2.2.2.2.2.2.2.1) (u.2.2.2.2.2.2.2.2.2.2.2.2.2.2.2.2.2.1) (u.2.2.2.2.2.2.2.2.2.2.2.2.2.2.2.2.2.2.1) (u.2.2.2.2.2.2.2.2.2.2.2.2.2.2.2.2.2.2.2.1) (u.2.2.2.2.2.2.2.2.2.2.2.2.2.2.2.2.2.2.2.2)))) A) args s 0 0 A) (F0 m 8 ls []) := by
  have hx := X.1.1
  have hb := X.1.2.1
  intro nn
  induction nn with
  | zero =>
    intro x1 x2 hw
    exact False.elim hw
  | succ n ih =>
    intro x1 x2 hw H locs ls hH hl
    rw [wX55_size_8] at hw
    refine lv_iload_n hx hb dX55_size_8 rfl (lv_at hl 2 rfl) ?_
    refine lv_sipush (v := 16384) hx hb dX55_size_9 (by decide) ?_
    refine lv_icmp_ge (tgt := 38) hx hb dX55_size_12 (by decide) (fun c_22 => ?_) (fun c_22 => ?_)
    · have hw := hw.1 (z_le (rfl : (16384 : Int32).toInt = 16384) (rfl : x2.toInt = _) c_22)
      exact hk38 x1 hw _ _ ls hH (lv_sub hl [1] rfl)
    · have hw := hw.2 (z_nle (rfl : (16384 : Int32).toInt = 16384) (rfl : x2.toInt = _) c_22)
      refine lv_iload_n hx hb dX55_size_15 rfl (lv_at hl 1 rfl) ?_
      refine lv_aload_n hx hb dX55_size_16 rfl (lv_at hl 0 rfl) ?_
      refine k_get X hH in_X55 0 rfl hc 8 (by decide) q6584 rfl dX55_size_17 ?_
      refine lv_iload_n hx hb dX55_size_20 rfl (lv_at hl 2 rfl) ?_
      have hq_23 := hw.1
      have hw := hw.2
      refine k_iald X hH 7 6 rfl rfl (z_in (rfl : x2.toInt = _) hq_23) dX55_size_21 ?_
      have e_24 := z_ld (f := f_rounds) (rfl : x2.toInt = _) hq_23.1
      refine lv_if_lt (tgt := 29) hx hb dX55_size_22 (by decide) (fun c_25 => ?_) (fun c_25 => ?_)
      · have hw := hw.1 (z_lt e_24 (rfl : (0 : Int32).toInt = 0) c_25)
        refine lv_iconst (v := 0) hx hb dX55_size_29 (by decide) ?_
        refine lv_iadd hx hb dX55_size_30 ?_
        have e_26 := z_add (z_m (rfl : x1.toInt = _)) (z_m (rfl : (0 : Int32).toInt = 0))
        have hq_27 := hw.1
        have hw := hw.2
        have e_28 := z_x e_26 hq_27
        refine lv_topi (fun x1_29 ex1_29 => ?_)
        have hw := hw x1_29.toInt (by rw [ex1_29]; exact e_28)
        refine lv_istore_n (lv' := [(1, .int x1_29), (0, .ref (ad 0)), (2, .int x2)]) hx hb dX55_size_31 rfl hl (by decide) rfl (fun ls hl => ?_)
        have hq_31 := hw.1
        have hw := hw.2
        obtain ⟨x2_30, ex2_30⟩ : ∃ y : Int32, y = x2 + 1 := ⟨_, rfl⟩
        have hw := hw x2_30.toInt (by rw [ex2_30]; exact (z_x (z_add (z_m (rfl : x2.toInt = _)) (z_m (rfl : (1 : Int32).toInt = 1))) hq_31))
        refine lv_iinc (v := x2_30) (lv' := [(2, .int x2_30), (1, .int x1_29), (0, .ref (ad 0))]) hx hb dX55_size_32 hl (k := 2) rfl (by rw [ex2_30]; rfl) (by decide) rfl (fun ls hl => ?_)
        refine lv_goto (tgt := 8) hx hb dX55_size_35 (by decide) ?_
        exact ih x1_29 x2_30 hw _ _ ls hH (lv_sub hl [2, 1, 0] rfl)
      · have hw := hw.2 (z_nlt e_24 (rfl : (0 : Int32).toInt = 0) c_25)
        refine lv_iconst (v := 1) hx hb dX55_size_25 (by decide) ?_
        refine lv_goto (tgt := 30) hx hb dX55_size_26 (by decide) ?_
        refine lv_iadd hx hb dX55_size_30 ?_
        have e_32 := z_add (z_m (rfl : x1.toInt = _)) (z_m (rfl : (1 : Int32).toInt = 1))
        have hq_33 := hw.1
        have hw := hw.2
        have e_34 := z_x e_32 hq_33
        refine lv_topi (fun x1_35 ex1_35 => ?_)
        have hw := hw x1_35.toInt (by rw [ex1_35]; exact e_34)
        refine lv_istore_n (lv' := [(1, .int x1_35), (0, .ref (ad 0)), (2, .int x2)]) hx hb dX55_size_31 rfl hl (by decide) rfl (fun ls hl => ?_)
        have hq_37 := hw.1
        have hw := hw.2
        obtain ⟨x2_36, ex2_36⟩ : ∃ y : Int32, y = x2 + 1 := ⟨_, rfl⟩
        have hw := hw x2_36.toInt (by rw [ex2_36]; exact (z_x (z_add (z_m (rfl : x2.toInt = _)) (z_m (rfl : (1 : Int32).toInt = 1))) hq_37))
        refine lv_iinc (v := x2_36) (lv' := [(2, .int x2_36), (1, .int x1_35), (0, .ref (ad 0))]) hx hb dX55_size_32 hl (k := 2) rfl (by rw [ex2_36]; rfl) (by decide) rfl (fun ls hl => ?_)
        refine lv_goto (tgt := 8) hx hb dX55_size_35 (by decide) ?_
        exact ih x1_35 x2_36 hw _ _ ls hH (lv_sub hl [2, 1, 0] rfl)
set_option maxHeartbeats 4000000 in
theorem walkX55_size {l : Launch} {dC : Nat → ClassId} {dI : Nat → Nat → Nat} {cl : List vw_C} {ci : Nat} (hc : cl[ci]? = some (RX55, TX55, 28)) {ad : Nat → Nat} {d : Nat → ClassId} {sz : Nat} {f_said : Nat → Int32} {f_heads : Nat → Int32} {f_kinds : Nat → Int32} {f_folded : Nat → Int32} {f_lengths : Nat → Int32} {f_parts : Nat → Int32} {f_rules : Int32} {f_known : Int32} {f_rounds : Nat → Int32} {f_given : Nat → Int32} {f_strata : Nat → Int32} {f_circle : Int32} {f_turns : Int32} {f_needs : Nat → Int32} {f_comes : Nat → Int32} {f_values : Nat → Int32} {f_plain : Nat → Int32} {f_plainCount : Int32} {f_pointers : Nat → Int32} {f_now : Int32} {f_fresh : Nat → Int32} {f_many : Nat → Int32} {f_sums : Nat → Int32} {f_lows : Nat → Int32} {f_highs : Nat → Int32} {f_layed : Int32} {f_worked : Int64} {f_large : Int32}  {post : Int → Int → (Int → Int) → (Int → Int) → (Int → Int) → Int → Int → (Int → Int) → (Int → Int) → (Int → Int) → (Int → Int) → Int → (Int → Int) → Int → (Int → Int) → (Int → Int) → (Int → Int) → (Int → Int) → (Int → Int) → Int → Int → Int → Prop} (hw : wpX55_size post (zF f_said) (zF f_heads) (zF f_kinds) (zF f_folded) (zF f_lengths) (zF f_parts) f_rules.toInt f_known.toInt (zF f_rounds) (zF f_given) (zF f_strata) f_circle.toInt f_turns.toInt (zF f_needs) (zF f_comes) (zF f_values) (zF f_plain) f_plainCount.toInt (zF f_pointers) f_now.toInt (zF f_fresh) (zF f_many) (zF f_sums) (zF f_lows) (zF f_highs) f_layed.toInt f_worked.toInt f_large.toInt ) :
    Met l yX55_size (ws_ yX55_size cX55_size 3 (some .int)) ({ frames := 5, cells := 0, slots := 0, locals := 123 } : Room) (kPc (dC, dI) cl (tX55 d) [.ref (ad 0)] sz (wX55 ci ad d f_said f_heads f_kinds f_folded f_lengths f_parts f_rules f_known f_rounds f_given f_strata f_circle f_turns f_needs f_comes f_values f_plain f_plainCount f_pointers f_now f_fresh f_many f_sums f_lows f_highs f_layed f_worked f_large)) (va_Qi (fun (r : Int32) (u : Int32 × (Nat → Int32) × (Nat → Int32) × (Nat → Int32) × Int32 × Int32 × (Nat → Int32) × (Nat → Int32) × (Nat → Int32) × (Nat → Int32) × Int32 × (Nat → Int32) × Int32 × (Nat → Int32) × (Nat → Int32) × (Nat → Int32) × (Nat → Int32) × (Nat → Int32) × Int32 × Int64 × Int32) => post r.toInt (u.1).toInt (zF (u.2.1)) (zF (u.2.2.1)) (zF (u.2.2.2.1)) (u.2.2.2.2.1).toInt (u.2.2.2.2.2.1).toInt (zF (u.2.2.2.2.2.2.1)) (zF (u.2.2.2.2.2.2.2.1)) (zF (u.2.2.2.2.2.2.2.2.1)) (zF (u.2.2.2.2.2.2.2.2.2.1)) (u.2.2.2.2.2.2.2.2.2.2.1).toInt (zF (u.2.2.2.2.2.2.2.2.2.2.2.1)) (u.2.2.2.2.2.2.2.2.2.2.2.2.1).toInt (zF (u.2.2.2.2.2.2.2.2.2.2.2.2.2.1)) (zF (u.2.2.2.2.2.2.2.2.2.2.2.2.2.2.1)) (zF (u.2.2.2.2.2.2.2.2.2.2.2.2.2.2.2.1)) (zF (u.2.2.2.2.2.2.2.2.2.2.2.2.2.2.2.2.1)) (zF (u.2.2.2.2.2.2.2.2.2.2.2.2.2.2.2.2.2.1)) (u.2.2.2.2.2.2.2.2.2.2.2.2.2.2.2.2.2.2.1).toInt (u.2.2.2.2.2.2.2.2.2.2.2.2.2.2.2.2.2.2.2.1).toInt (u.2.2.2.2.2.2.2.2.2.2.2.2.2.2.2.2.2.2.2.2).toInt) (kB (dC, dI) cl (tX55 d) (va_A (wX55 ci ad d f_said f_heads f_kinds f_folded f_lengths f_parts f_rules f_known f_rounds f_given f_strata f_circle f_turns f_needs f_comes f_values f_plain f_plainCount f_pointers f_now f_fresh f_many f_sums f_lows f_highs f_layed f_worked f_large) sz) (fun u : Int32 × (Nat → Int32) × (Nat → Int32) × (Nat → Int32) × Int32 × Int32 × (Nat → Int32) × (Nat → Int32) × (Nat → Int32) × (Nat → Int32) × Int32 × (Nat → Int32) × Int32 × (Nat → Int32) × (Nat → Int32) × (Nat → Int32) × (Nat → Int32) × (Nat → Int32) × Int32 × Int64 × Int32 => (wX55 ci ad d f_said f_heads f_kinds f_folded f_lengths f_parts f_rules (u.1) (u.2.1) (u.2.2.1) (u.2.2.2.1) (u.2.2.2.2.1) (u.2.2.2.2.2.1) (u.2.2.2.2.2.2.1) (u.2.2.2.2.2.2.2.1) (u.2.2.2.2.2.2.2.2.1) (u.2.2.2.2.2.2.2.2.2.1) (u.2.2.2.2.2.2.2.2.2.2.1) (u.2.2.2.2.2.2.2.2.2.2.2.1) (u.2.2.2.2.2.2.2.2.2.2.2.2.1) (u.2.2.2.2.2.2.2.2.2.2.2.2.2.1) (u.2.2.2.2.2.2.2.2.2.2.2.2.2.2.1) (u.2.2.2.2.2.2.2.2.2.2.2.2.2.2.2.1) (u.2.2.2.2.2.2.2.2.2.2.2.2.2.2.2.2.1) (u.2.2.2.2.2.2.2.2.2.2.2.2.2.2.2.2.2.1) (u.2.2.2.2.2.2.2.2.2.2.2.2.2.2.2.2.2.2.1) (u.2.2.2.2.2.2.2.2.2.2.2.2.2.2.2.2.2.2.2.1) (u.2.2.2.2.2.2.2.2.2.2.2.2.2.2.2.2.2.2.2.2)))) (va_A (wX55 ci ad d f_said f_heads f_kinds f_folded f_lengths f_parts f_rules f_known f_rounds f_given f_strata f_circle f_turns f_needs f_comes f_values f_plain f_plainCount f_pointers f_now f_fresh f_many f_sums f_lows f_highs f_layed f_worked f_large) sz)) 0 0 (va_A (wX55 ci ad d f_said f_heads f_kinds f_folded f_lengths f_parts f_rules f_known f_rounds f_given f_strata f_circle f_turns f_needs f_comes f_values f_plain f_plainCount f_pointers f_now f_fresh f_many f_sums f_lows f_highs f_layed f_worked f_large) sz) := by
  refine k_enter (by decide) (Nat.le_of_ble_eq_true rfl) ?_
  intro p e s m below meth c ls X hsz hH hl
  subst hsz
  generalize va_A (wX55 ci ad d f_said f_heads f_kinds f_folded f_lengths f_parts f_rules f_known f_rounds f_given f_strata f_circle f_turns f_needs f_comes f_values f_plain f_plainCount f_pointers f_now f_fresh f_many f_sums f_lows f_highs f_layed f_worked f_large) s.heap.size = A at hH ⊢
  have hx := X.1.1
  have hb := X.1.2.1
  have hl : lv_has ls 3 [(0, .ref (ad 0))] := hl
  unfold wpX55_size at hw
  refine lv_aload_n hx hb dX55_size_0 rfl (lv_at hl 0 rfl) ?_
  refine k_v0 hH (k_runV (As := []) (rest := []) X hH.1 hH.2.1 X.2.2.2 (walkX55_work hc (f_said := f_said) (f_heads := f_heads) (f_kinds := f_kinds) (f_folded := f_folded) (f_lengths := f_lengths) (f_parts := f_parts) (f_rules := f_rules) (f_known := f_known) (f_rounds := f_rounds) (f_given := f_given) (f_strata := f_strata) (f_circle := f_circle) (f_turns := f_turns) (f_needs := f_needs) (f_comes := f_comes) (f_values := f_values) (f_plain := f_plain) (f_plainCount := f_plainCount) (f_pointers := f_pointers) (f_now := f_now) (f_fresh := f_fresh) (f_many := f_many) (f_sums := f_sums) (f_lows := f_lows) (f_highs := f_highs) (f_layed := f_layed) (f_worked := f_worked) (f_large := f_large) hw) (cwV 0 X.1.2.2.2.2 gX55_173 rfl rfl rfl hX55_work ⟨Nat.le_of_ble_eq_true rfl, Nat.le_of_ble_eq_true rfl⟩) hc (q0 := 0) rfl rfl hl.1 rfl (Nat.le_of_ble_eq_true rfl) dX55_size_1 ⟨Nat.le_refl 0, Nat.le_refl 0⟩) (fun u H locs hw hH => ?_)
  obtain ⟨f_known_1, f_rounds_2, f_given_3, f_strata_4, f_circle_5, f_turns_6, f_needs_7, f_comes_8, f_values_9, f_plain_10, f_plainCount_11, f_pointers_12, f_now_13, f_fresh_14, f_many_15, f_sums_16, f_lows_17, f_highs_18, f_layed_19, f_worked_20, f_large_21⟩ := u
  have hH : kH (dC, dI) cl A s.heap H locs (wX55 ci ad d f_said f_heads f_kinds f_folded f_lengths f_parts f_rules f_known_1 f_rounds_2 f_given_3 f_strata_4 f_circle_5 f_turns_6 f_needs_7 f_comes_8 f_values_9 f_plain_10 f_plainCount_11 f_pointers_12 f_now_13 f_fresh_14 f_many_15 f_sums_16 f_lows_17 f_highs_18 f_layed_19 f_worked_20 f_large_21) := hH
  refine lv_iconst (v := 0) hx hb dX55_size_4 (by decide) ?_
  refine lv_istore_n (lv' := [(1, .int 0), (0, .ref (ad 0))]) hx hb dX55_size_5 rfl hl (by decide) rfl (fun ls hl => ?_)
  refine lv_iconst (v := 0) hx hb dX55_size_6 (by decide) ?_
  refine lv_istore_n (lv' := [(2, .int 0), (1, .int 0), (0, .ref (ad 0))]) hx hb dX55_size_7 rfl hl (by decide) rfl (fun ls hl => ?_)
  obtain ⟨fu, hw⟩ := hw
  refine atX55_size_8 hc X ?_ fu 0 0 hw _ _ ls hH (lv_sub hl [2, 1, 0] rfl)
  · intro x1_38 hw H locs ls hH hl
    refine lv_iload_n hx hb dX55_size_38 rfl (lv_at hl 0 rfl) ?_
    exact k_iret (v := x1_38) X hH (f_known_1, f_rounds_2, f_given_3, f_strata_4, f_circle_5, f_turns_6, f_needs_7, f_comes_8, f_values_9, f_plain_10, f_plainCount_11, f_pointers_12, f_now_13, f_fresh_14, f_many_15, f_sums_16, f_lows_17, f_highs_18, f_layed_19, f_worked_20, f_large_21) hw rfl rfl dX55_size_39
