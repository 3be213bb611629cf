/-! KnowHouse$FacetCounts (printed by tools/gen.py) -/
set_option maxRecDepth 100000
set_option maxHeartbeats 4000000 in
theorem walkX31_isIn {l : Launch} {dC : Nat → ClassId} {dI : Nat → Nat → Nat} {cl : List vw_C} {ci : Nat} (hc : cl[ci]? = some (RX31, TX31, 8)) {ad : Nat → Nat} {d : Nat → ClassId} {sz : Nat} {f_own : Nat → Int32} {f_rows : Int32} {f_uppers : Nat → Int32} {f_closed : Nat → Int32} {f_chosen : Nat → Int32} {f_fails : Nat → Int32} {f_counts : Nat → Int32} {f_seen : Nat → Int32} {x0 : Int32} {x1 : Int32} {post : Int32 → Prop} (hw : wpX31_isIn post  x0 x1) :
    Met l yX31_isIn (ws_ yX31_isIn cX31_isIn 2 (some .boolean)) ({ frames := 0, cells := 0, slots := 0, locals := 0 } : Room) (kPc (dC, dI) cl (tX31 d) [.int x0, .int x1] sz (wX31 ci ad d f_own f_rows f_uppers f_closed f_chosen f_fails f_counts f_seen)) (va_Qi (fun (r : Int32) (_ : Unit) => post r) (kB (dC, dI) cl (tX31 d) (va_A (wX31 ci ad d f_own f_rows f_uppers f_closed f_chosen f_fails f_counts f_seen) sz) (fun _ : Unit => (wX31 ci ad d f_own f_rows f_uppers f_closed f_chosen f_fails f_counts f_seen))) (va_A (wX31 ci ad d f_own f_rows f_uppers f_closed f_chosen f_fails f_counts f_seen) sz)) 0 0 (va_A (wX31 ci ad d f_own f_rows f_uppers f_closed f_chosen f_fails f_counts f_seen) sz) := by
  refine k_enter (by decide) (Nat.le_of_ble_eq_true rfl) ?_
  intro p e s m below meth c ls X hsz hH hl
  subst hsz
  generalize va_A (wX31 ci ad d f_own f_rows f_uppers f_closed f_chosen f_fails f_counts f_seen) s.heap.size = A at hH ⊢
  have hx := X.1.1
  have hb := X.1.2.1
  have hl : lv_has ls 2 [(0, .int x0), (1, .int x1)] := hl
  unfold wpX31_isIn at hw
  refine lv_iload_n hx hb dX31_isIn_0 rfl (lv_at hl 0 rfl) ?_
  refine lv_if_lt (tgt := 13) hx hb dX31_isIn_1 (by decide) (fun c_1 => ?_) (fun c_1 => ?_)
  · have hw := hw.1 c_1
    refine lv_iconst (v := 0) hx hb dX31_isIn_13 (by decide) ?_
    exact k_iret (v := 0) X hH () hw rfl rfl dX31_isIn_14
  · have hw := hw.2 c_1
    refine lv_iload_n hx hb dX31_isIn_4 rfl (lv_at hl 0 rfl) ?_
    refine lv_iload_n hx hb dX31_isIn_5 rfl (lv_at hl 1 rfl) ?_
    refine lv_icmp_ge (tgt := 13) hx hb dX31_isIn_6 (by decide) (fun c_2 => ?_) (fun c_2 => ?_)
    · have hw := hw.1 c_2
      refine lv_iconst (v := 0) hx hb dX31_isIn_13 (by decide) ?_
      exact k_iret (v := 0) X hH () hw rfl rfl dX31_isIn_14
    · have hw := hw.2 c_2
      refine lv_iconst (v := 1) hx hb dX31_isIn_9 (by decide) ?_
      refine lv_goto (tgt := 14) hx hb dX31_isIn_10 (by decide) ?_
      exact k_iret (v := 1) X hH () hw rfl rfl dX31_isIn_14
set_option maxHeartbeats 4000000 in
theorem walkX31_isRow {l : Launch} {dC : Nat → ClassId} {dI : Nat → Nat → Nat} {cl : List vw_C} {ci : Nat} (hc : cl[ci]? = some (RX31, TX31, 8)) {ad : Nat → Nat} {d : Nat → ClassId} {sz : Nat} {f_own : Nat → Int32} {f_rows : Int32} {f_uppers : Nat → Int32} {f_closed : Nat → Int32} {f_chosen : Nat → Int32} {f_fails : Nat → Int32} {f_counts : Nat → Int32} {f_seen : Nat → Int32} {x0 : Int32} {x1 : Int32} {x2 : Int32} {post : Int32 → Prop} (hw : wpX31_isRow post  x0 x1 x2) :
    Met l yX31_isRow (ws_ yX31_isRow cX31_isRow 3 (some .boolean)) ({ frames := 1, cells := 0, slots := 0, locals := 21 } : Room) (kPc (dC, dI) cl (tX31 d) [.int x0, .int x1, .int x2] sz (wX31 ci ad d f_own f_rows f_uppers f_closed f_chosen f_fails f_counts f_seen)) (va_Qi (fun (r : Int32) (_ : Unit) => post r) (kB (dC, dI) cl (tX31 d) (va_A (wX31 ci ad d f_own f_rows f_uppers f_closed f_chosen f_fails f_counts f_seen) sz) (fun _ : Unit => (wX31 ci ad d f_own f_rows f_uppers f_closed f_chosen f_fails f_counts f_seen))) (va_A (wX31 ci ad d f_own f_rows f_uppers f_closed f_chosen f_fails f_counts f_seen) sz)) 0 0 (va_A (wX31 ci ad d f_own f_rows f_uppers f_closed f_chosen f_fails f_counts f_seen) sz) := by
  refine k_enter (by decide) (Nat.le_of_ble_eq_true rfl) ?_
  intro p e s m below meth c ls X hsz hH hl
  subst hsz
  generalize va_A (wX31 ci ad d f_own f_rows f_uppers f_closed f_chosen f_fails f_counts f_seen) s.heap.size = A at hH ⊢
  have hx := X.1.1
  have hb := X.1.2.1
  have hl : lv_has ls 3 [(0, .int x0), (1, .int x1), (2, .int x2)] := hl
  unfold wpX31_isRow at hw
  refine lv_iload_n hx hb dX31_isRow_0 rfl (lv_at hl 0 rfl) ?_
  refine lv_bipush (v := 40) hx hb dX31_isRow_1 (by decide) ?_
  refine k_i0 hH (k_runS (As := [.int x0, .int 40]) (rest := []) X hH.1 hH.2.1 X.2.2.2 (walkX31_isIn hc hw) (va_cwS 2 X.1.2.2.2.2 gX31_31 rfl rfl rfl hX31_isIn ⟨Nat.le_of_ble_eq_true rfl, Nat.le_of_ble_eq_true rfl⟩) rfl hl.1 rfl (Nat.le_of_ble_eq_true rfl) dX31_isRow_3 ⟨Nat.le_refl 0, Nat.le_refl 0⟩) (fun r_1 _ H locs hw hH => ?_)
  have hH : kH (dC, dI) cl A s.heap H locs (wX31 ci ad d f_own f_rows f_uppers f_closed f_chosen f_fails f_counts f_seen) := hH
  refine lv_if_eq (tgt := 31) hx hb dX31_isRow_6 (by decide) (fun c_2 => ?_) (fun c_2 => ?_)
  · have hw := hw.1 c_2
    refine lv_iconst (v := 0) hx hb dX31_isRow_31 (by decide) ?_
    exact k_iret (v := 0) X hH () hw rfl rfl dX31_isRow_32
  · have hw := hw.2 c_2
    refine lv_iload_n hx hb dX31_isRow_9 rfl (lv_at hl 1 rfl) ?_
    refine lv_bipush (v := 8) hx hb dX31_isRow_10 (by decide) ?_
    refine k_i0 hH (k_runS (As := [.int x1, .int 8]) (rest := []) X hH.1 hH.2.1 X.2.2.2 (walkX31_isIn hc hw) (va_cwS 2 X.1.2.2.2.2 gX31_31 rfl rfl rfl hX31_isIn ⟨Nat.le_of_ble_eq_true rfl, Nat.le_of_ble_eq_true rfl⟩) rfl hl.1 rfl (Nat.le_of_ble_eq_true rfl) dX31_isRow_12 ⟨Nat.le_refl 0, Nat.le_refl 0⟩) (fun r_3 _ H locs hw hH => ?_)
    have hH : kH (dC, dI) cl A s.heap H locs (wX31 ci ad d f_own f_rows f_uppers f_closed f_chosen f_fails f_counts f_seen) := hH
    refine lv_if_eq (tgt := 31) hx hb dX31_isRow_15 (by decide) (fun c_4 => ?_) (fun c_4 => ?_)
    · have hw := hw.1 c_4
      refine lv_iconst (v := 0) hx hb dX31_isRow_31 (by decide) ?_
      exact k_iret (v := 0) X hH () hw rfl rfl dX31_isRow_32
    · have hw := hw.2 c_4
      refine lv_iload_n hx hb dX31_isRow_18 rfl (lv_at hl 2 rfl) ?_
      refine lv_bipush (v := 32) hx hb dX31_isRow_19 (by decide) ?_
      refine k_i0 hH (k_runS (As := [.int x2, .int 32]) (rest := []) X hH.1 hH.2.1 X.2.2.2 (walkX31_isIn hc hw) (va_cwS 2 X.1.2.2.2.2 gX31_31 rfl rfl rfl hX31_isIn ⟨Nat.le_of_ble_eq_true rfl, Nat.le_of_ble_eq_true rfl⟩) rfl hl.1 rfl (Nat.le_of_ble_eq_true rfl) dX31_isRow_21 ⟨Nat.le_refl 0, Nat.le_refl 0⟩) (fun r_5 _ H locs hw hH => ?_)
      have hH : kH (dC, dI) cl A s.heap H locs (wX31 ci ad d f_own f_rows f_uppers f_closed f_chosen f_fails f_counts f_seen) := hH
      refine lv_if_eq (tgt := 31) hx hb dX31_isRow_24 (by decide) (fun c_6 => ?_) (fun c_6 => ?_)
      · have hw := hw.1 c_6
        refine lv_iconst (v := 0) hx hb dX31_isRow_31 (by decide) ?_
        exact k_iret (v := 0) X hH () hw rfl rfl dX31_isRow_32
      · have hw := hw.2 c_6
        refine lv_iconst (v := 1) hx hb dX31_isRow_27 (by decide) ?_
        refine lv_goto (tgt := 32) hx hb dX31_isRow_28 (by decide) ?_
        exact k_iret (v := 1) X hH () hw rfl rfl dX31_isRow_32
set_option maxHeartbeats 4000000 in
theorem atX31_has_24 {p : Program} {l : Launch} {e : Env} {s : State} {m : MethodId} {args : Array Value} {below : List Frame} {meth : Method} {c : Code} {dC : Nat → ClassId} {dI : Nat → Nat → Nat} {cl : List vw_C} {ci : Nat} (hc : cl[ci]? = some (RX31, TX31, 8)) {ad : Nat → Nat} {d : Nat → ClassId} {A : Nat → Prop} {post : Int32 → Prop} {f_own : Nat → Int32} {f_rows : Int32} {f_uppers : Nat → Int32} {f_closed : Nat → Int32} {f_chosen : Nat → Int32} {f_fails : Nat → Int32} {f_counts : Nat → Int32} {f_seen : Nat → Int32} (X : kX p s m args meth c cX31_has 6 RX31 (some .int) (dC, dI) cl (tX31 d)) {K59 : Int32 → Prop} {x3 : Int32}  (hk59 : ∀ (x4 : Int32), K59 x4 → ∀ (H : Heap) (locs : List Loc) (ls : Array Slot), kH (dC, dI) cl A s.heap H locs (wX31 ci ad d f_own f_rows f_uppers f_closed f_chosen f_fails f_counts f_seen) → lv_has ls 6 [(4, .int x4)] → W p l e ({ frames := 0, cells := 0, slots := 0, locals := 0 } : Room) s m args below meth c H locs 0 0 (MQ below (va_Qi (fun (r : Int32) (_ : Unit) => post r) (kB (dC, dI) cl (tX31 d) A (fun _ : Unit => (wX31 ci ad d f_own f_rows f_uppers f_closed f_chosen f_fails f_counts f_seen))) A) args s 0 0 A) (F0 m 59 ls [])) :
    ∀ (nn : Nat) (x4 : Int32) (x5 : Int32), wX31_has_24 K59 x3 f_closed nn x4 x5 → ∀ (H : Heap) (locs : List Loc) (ls : Array Slot), kH (dC, dI) cl A s.heap H locs (wX31 ci ad d f_own f_rows f_uppers f_closed f_chosen f_fails f_counts f_seen) → lv_has ls 6 [(0, .ref (ad 0)), (3, .int x3), (4, .int x4), (5, .int x5)] → W p l e ({ frames := 0, cells := 0, slots := 0, locals := 0 } : Room) s m args below meth c H locs 0 0 (MQ below (va_Qi (fun (r : Int32) (_ : Unit) => post r) (kB (dC, dI) cl (tX31 d) A (fun _ : Unit => (wX31 ci ad d f_own f_rows f_uppers f_closed f_chosen f_fails f_counts f_seen))) A) args s 0 0 A) (F0 m 24 ls []) := by
  have hx := X.1.1
  have hb := X.1.2.1
  intro nn
  induction nn with
  | zero =>
    intro x4 x5 hw
    exact False.elim hw
  | succ n ih =>
    intro x4 x5 hw H locs ls hH hl
    rw [wX31_has_24] at hw
    refine lv_iload hx hb dX31_has_24 (lv_at hl 3 rfl) ?_
    refine lv_bipush (v := 32) hx hb dX31_has_26 (by decide) ?_
    refine lv_icmp_ge (tgt := 59) hx hb dX31_has_28 (by decide) (fun c_3 => ?_) (fun c_3 => ?_)
    · have hw := hw.1 c_3
      exact hk59 x4 hw _ _ ls hH (lv_sub hl [2] rfl)
    · have hw := hw.2 c_3
      refine lv_iload_n hx hb dX31_has_31 rfl (lv_at hl 1 rfl) ?_
      refine lv_iload hx hb dX31_has_32 (lv_at hl 3 rfl) ?_
      refine lv_ishr hx hb dX31_has_34 ?_
      refine lv_iconst (v := 1) hx hb dX31_has_35 (by decide) ?_
      refine lv_iand hx hb dX31_has_36 ?_
      refine lv_iconst (v := 1) hx hb dX31_has_37 (by decide) ?_
      refine lv_icmp_ne (tgt := 53) hx hb dX31_has_38 (by decide) (fun c_4 => ?_) (fun c_4 => ?_)
      · have hw := hw.2 c_4
        obtain ⟨x5_5, ex5_5⟩ : ∃ y : Int32, y = x5 + 1 := ⟨_, rfl⟩
        have hw := hw x5_5 ex5_5
        refine lv_iinc (v := x5_5) (lv' := [(5, .int x5_5), (0, .ref (ad 0)), (3, .int x3), (4, .int x4)]) hx hb dX31_has_53 hl (k := 3) rfl (by rw [ex5_5]; rfl) (by decide) rfl (fun ls hl => ?_)
        refine lv_goto (tgt := 24) hx hb dX31_has_56 (by decide) ?_
        exact ih x4 x5_5 hw _ _ ls hH (lv_sub hl [1, 2, 3, 0] rfl)
      · have hw := hw.1 c_4
        refine lv_iload hx hb dX31_has_41 (lv_at hl 2 rfl) ?_
        refine lv_aload_n hx hb dX31_has_43 rfl (lv_at hl 0 rfl) ?_
        refine k_get X hH in_X31 0 rfl hc 3 (by decide) q1428 rfl dX31_has_44 ?_
        refine lv_iload hx hb dX31_has_47 (lv_at hl 3 rfl) ?_
        refine k_iald X hH 3 2 rfl rfl hw.1 dX31_has_49 ?_
        have hw := hw.2
        refine lv_ior hx hb dX31_has_50 ?_
        refine lv_topi (fun x4_6 ex4_6 => ?_)
        have hw := hw x4_6 ex4_6
        refine lv_istore (lv' := [(4, .int x4_6), (0, .ref (ad 0)), (3, .int x3), (5, .int x5)]) hx hb dX31_has_51 hl (by decide) rfl (fun ls hl => ?_)
        obtain ⟨x5_7, ex5_7⟩ : ∃ y : Int32, y = x5 + 1 := ⟨_, rfl⟩
        have hw := hw x5_7 ex5_7
        refine lv_iinc (v := x5_7) (lv' := [(5, .int x5_7), (4, .int x4_6), (0, .ref (ad 0)), (3, .int x3)]) hx hb dX31_has_53 hl (k := 3) rfl (by rw [ex5_7]; rfl) (by decide) rfl (fun ls hl => ?_)
        refine lv_goto (tgt := 24) hx hb dX31_has_56 (by decide) ?_
        exact ih x4_6 x5_7 hw _ _ ls hH (lv_sub hl [2, 3, 1, 0] rfl)
set_option maxHeartbeats 4000000 in
theorem walkX31_has {l : Launch} {dC : Nat → ClassId} {dI : Nat → Nat → Nat} {cl : List vw_C} {ci : Nat} (hc : cl[ci]? = some (RX31, TX31, 8)) {ad : Nat → Nat} {d : Nat → ClassId} {sz : Nat} {f_own : Nat → Int32} {f_rows : Int32} {f_uppers : Nat → Int32} {f_closed : Nat → Int32} {f_chosen : Nat → Int32} {f_fails : Nat → Int32} {f_counts : Nat → Int32} {f_seen : Nat → Int32} {x1 : Int32} {x2 : Int32} {post : Int32 → Prop} (hw : wpX31_has post f_own f_closed x1 x2) :
    Met l yX31_has (ws_ yX31_has cX31_has 6 (some .int)) ({ frames := 0, cells := 0, slots := 0, locals := 0 } : Room) (kPc (dC, dI) cl (tX31 d) [.ref (ad 0), .int x1, .int x2] sz (wX31 ci ad d f_own f_rows f_uppers f_closed f_chosen f_fails f_counts f_seen)) (va_Qi (fun (r : Int32) (_ : Unit) => post r) (kB (dC, dI) cl (tX31 d) (va_A (wX31 ci ad d f_own f_rows f_uppers f_closed f_chosen f_fails f_counts f_seen) sz) (fun _ : Unit => (wX31 ci ad d f_own f_rows f_uppers f_closed f_chosen f_fails f_counts f_seen))) (va_A (wX31 ci ad d f_own f_rows f_uppers f_closed f_chosen f_fails f_counts f_seen) sz)) 0 0 (va_A (wX31 ci ad d f_own f_rows f_uppers f_closed f_chosen f_fails f_counts f_seen) sz) := by
  refine k_enter (by decide) (Nat.le_of_ble_eq_true rfl) ?_
  intro p e s m below meth c ls X hsz hH hl
  subst hsz
  generalize va_A (wX31 ci ad d f_own f_rows f_uppers f_closed f_chosen f_fails f_counts f_seen) s.heap.size = A at hH ⊢
  have hx := X.1.1
  have hb := X.1.2.1
  have hl : lv_has ls 6 [(0, .ref (ad 0)), (1, .int x1), (2, .int x2)] := hl
  unfold wpX31_has at hw
  refine lv_aload_n hx hb dX31_has_0 rfl (lv_at hl 0 rfl) ?_
  refine k_get X hH in_X31 0 rfl hc 0 (by decide) q1425 rfl dX31_has_1 ?_
  refine lv_bipush (v := 8) hx hb dX31_has_4 (by decide) ?_
  refine lv_iload_n hx hb dX31_has_6 rfl (lv_at hl 1 rfl) ?_
  refine lv_imul hx hb dX31_has_7 ?_
  refine lv_iload_n hx hb dX31_has_8 rfl (lv_at hl 2 rfl) ?_
  refine lv_iadd hx hb dX31_has_9 ?_
  refine k_iald X hH 1 0 rfl rfl hw.1 dX31_has_10 ?_
  have hw := hw.2
  refine lv_topi (fun x3_1 ex3_1 => ?_)
  have hw := hw x3_1 ex3_1
  refine lv_istore_n (lv' := [(3, .int x3_1), (0, .ref (ad 0)), (1, .int x1), (2, .int x2)]) hx hb dX31_has_11 rfl hl (by decide) rfl (fun ls hl => ?_)
  refine lv_iload_n hx hb dX31_has_12 rfl (lv_at hl 3 rfl) ?_
  refine lv_if_le (tgt := 18) hx hb dX31_has_13 (by decide) (fun c_2 => ?_) (fun c_2 => ?_)
  · have hw := hw.1 c_2
    refine lv_iconst (v := 0) hx hb dX31_has_18 (by decide) ?_
    refine lv_istore (lv' := [(4, .int 0), (3, .int x3_1), (0, .ref (ad 0)), (1, .int x1), (2, .int x2)]) hx hb dX31_has_19 hl (by decide) rfl (fun ls hl => ?_)
    refine lv_iconst (v := 0) hx hb dX31_has_21 (by decide) ?_
    refine lv_istore (lv' := [(5, .int 0), (4, .int 0), (3, .int x3_1), (0, .ref (ad 0)), (1, .int x1), (2, .int x2)]) hx hb dX31_has_22 hl (by decide) rfl (fun ls hl => ?_)
    obtain ⟨fu, hw⟩ := hw
    refine atX31_has_24 hc X ?_ fu 0 0 hw _ _ ls hH (lv_sub hl [3, 2, 1, 0] rfl)
    · intro x4_8 hw H locs ls hH hl
      refine lv_iload hx hb dX31_has_59 (lv_at hl 0 rfl) ?_
      exact k_iret (v := x4_8) X hH () hw rfl rfl dX31_has_61
  · have hw := hw.2 c_2
    refine lv_iload_n hx hb dX31_has_16 rfl (lv_at hl 0 rfl) ?_
    exact k_iret (v := x3_1) X hH () hw rfl rfl dX31_has_17
set_option maxHeartbeats 4000000 in
theorem walkX31_failsAt {l : Launch} {dC : Nat → ClassId} {dI : Nat → Nat → Nat} {cl : List vw_C} {ci : Nat} (hc : cl[ci]? = some (RX31, TX31, 8)) {ad : Nat → Nat} {d : Nat → ClassId} {sz : Nat} {f_own : Nat → Int32} {f_rows : Int32} {f_uppers : Nat → Int32} {f_closed : Nat → Int32} {f_chosen : Nat → Int32} {f_fails : Nat → Int32} {f_counts : Nat → Int32} {f_seen : Nat → Int32} {x1 : Int32} {x2 : Int32} {post : Int32 → Prop} (hw : wpX31_failsAt post f_own f_closed f_chosen x1 x2) :
    Met l yX31_failsAt (ws_ yX31_failsAt cX31_failsAt 3 (some .boolean)) ({ frames := 1, cells := 0, slots := 0, locals := 25 } : Room) (kPc (dC, dI) cl (tX31 d) [.ref (ad 0), .int x1, .int x2] sz (wX31 ci ad d f_own f_rows f_uppers f_closed f_chosen f_fails f_counts f_seen)) (va_Qi (fun (r : Int32) (_ : Unit) => post r) (kB (dC, dI) cl (tX31 d) (va_A (wX31 ci ad d f_own f_rows f_uppers f_closed f_chosen f_fails f_counts f_seen) sz) (fun _ : Unit => (wX31 ci ad d f_own f_rows f_uppers f_closed f_chosen f_fails f_counts f_seen))) (va_A (wX31 ci ad d f_own f_rows f_uppers f_closed f_chosen f_fails f_counts f_seen) sz)) 0 0 (va_A (wX31 ci ad d f_own f_rows f_uppers f_closed f_chosen f_fails f_counts f_seen) sz) := by
  refine k_enter (by decide) (Nat.le_of_ble_eq_true rfl) ?_
  intro p e s m below meth c ls X hsz hH hl
  subst hsz
  generalize va_A (wX31 ci ad d f_own f_rows f_uppers f_closed f_chosen f_fails f_counts f_seen) s.heap.size = A at hH ⊢
  have hx := X.1.1
  have hb := X.1.2.1
  have hl : lv_has ls 3 [(0, .ref (ad 0)), (1, .int x1), (2, .int x2)] := hl
  unfold wpX31_failsAt at hw
  refine lv_aload_n hx hb dX31_failsAt_0 rfl (lv_at hl 0 rfl) ?_
  refine k_get X hH in_X31 0 rfl hc 4 (by decide) q1429 rfl dX31_failsAt_1 ?_
  refine lv_iload_n hx hb dX31_failsAt_4 rfl (lv_at hl 2 rfl) ?_
  refine k_iald X hH 4 3 rfl rfl hw.1 dX31_failsAt_5 ?_
  have hw := hw.2
  refine lv_if_eq (tgt := 29) hx hb dX31_failsAt_6 (by decide) (fun c_1 => ?_) (fun c_1 => ?_)
  · have hw := hw.1 c_1
    refine lv_iconst (v := 0) hx hb dX31_failsAt_29 (by decide) ?_
    exact k_iret (v := 0) X hH () hw rfl rfl dX31_failsAt_30
  · have hw := hw.2 c_1
    refine lv_aload_n hx hb dX31_failsAt_9 rfl (lv_at hl 0 rfl) ?_
    refine lv_iload_n hx hb dX31_failsAt_10 rfl (lv_at hl 1 rfl) ?_
    refine lv_iload_n hx hb dX31_failsAt_11 rfl (lv_at hl 2 rfl) ?_
    refine k_i0 hH (k_runV (As := [.int x1, .int x2]) (rest := []) X hH.1 hH.2.1 X.2.2.2 (walkX31_has hc hw) (cwV 2 X.1.2.2.2.2 gX31_35 rfl rfl rfl hX31_has ⟨Nat.le_of_ble_eq_true rfl, Nat.le_of_ble_eq_true rfl⟩) hc (q0 := 0) rfl rfl hl.1 rfl (Nat.le_of_ble_eq_true rfl) dX31_failsAt_12 ⟨Nat.le_refl 0, Nat.le_refl 0⟩) (fun r_2 _ H locs hw hH => ?_)
    have hH : kH (dC, dI) cl A s.heap H locs (wX31 ci ad d f_own f_rows f_uppers f_closed f_chosen f_fails f_counts f_seen) := hH
    refine lv_aload_n hx hb dX31_failsAt_15 rfl (lv_at hl 0 rfl) ?_
    refine k_get X hH in_X31 0 rfl hc 4 (by decide) q1429 rfl dX31_failsAt_16 ?_
    refine lv_iload_n hx hb dX31_failsAt_19 rfl (lv_at hl 2 rfl) ?_
    refine k_iald X hH 4 3 rfl rfl hw.1 dX31_failsAt_20 ?_
    have hw := hw.2
    refine lv_iand hx hb dX31_failsAt_21 ?_
    refine lv_if_ne (tgt := 29) hx hb dX31_failsAt_22 (by decide) (fun c_3 => ?_) (fun c_3 => ?_)
    · have hw := hw.2 c_3
      refine lv_iconst (v := 0) hx hb dX31_failsAt_29 (by decide) ?_
      exact k_iret (v := 0) X hH () hw rfl rfl dX31_failsAt_30
    · have hw := hw.1 c_3
      refine lv_iconst (v := 1) hx hb dX31_failsAt_25 (by decide) ?_
      refine lv_goto (tgt := 30) hx hb dX31_failsAt_26 (by decide) ?_
      exact k_iret (v := 1) X hH () hw rfl rfl dX31_failsAt_30
set_option maxHeartbeats 4000000 in
theorem walkX31_isKeptBut {l : Launch} {dC : Nat → ClassId} {dI : Nat → Nat → Nat} {cl : List vw_C} {ci : Nat} (hc : cl[ci]? = some (RX31, TX31, 8)) {ad : Nat → Nat} {d : Nat → ClassId} {sz : Nat} {f_own : Nat → Int32} {f_rows : Int32} {f_uppers : Nat → Int32} {f_closed : Nat → Int32} {f_chosen : Nat → Int32} {f_fails : Nat → Int32} {f_counts : Nat → Int32} {f_seen : Nat → Int32} {x1 : Int32} {x2 : Int32} {post : Int32 → Prop} (hw : wpX31_isKeptBut post f_own f_closed f_chosen f_fails x1 x2) :
    Met l yX31_isKeptBut (ws_ yX31_isKeptBut cX31_isKeptBut 3 (some .boolean)) ({ frames := 2, cells := 0, slots := 0, locals := 47 } : Room) (kPc (dC, dI) cl (tX31 d) [.ref (ad 0), .int x1, .int x2] sz (wX31 ci ad d f_own f_rows f_uppers f_closed f_chosen f_fails f_counts f_seen)) (va_Qi (fun (r : Int32) (_ : Unit) => post r) (kB (dC, dI) cl (tX31 d) (va_A (wX31 ci ad d f_own f_rows f_uppers f_closed f_chosen f_fails f_counts f_seen) sz) (fun _ : Unit => (wX31 ci ad d f_own f_rows f_uppers f_closed f_chosen f_fails f_counts f_seen))) (va_A (wX31 ci ad d f_own f_rows f_uppers f_closed f_chosen f_fails f_counts f_seen) sz)) 0 0 (va_A (wX31 ci ad d f_own f_rows f_uppers f_closed f_chosen f_fails f_counts f_seen) sz) := by
  refine k_enter (by decide) (Nat.le_of_ble_eq_true rfl) ?_
  intro p e s m below meth c ls X hsz hH hl
  subst hsz
  generalize va_A (wX31 ci ad d f_own f_rows f_uppers f_closed f_chosen f_fails f_counts f_seen) s.heap.size = A at hH ⊢
  have hx := X.1.1
  have hb := X.1.2.1
  have hl : lv_has ls 3 [(0, .ref (ad 0)), (1, .int x1), (2, .int x2)] := hl
  unfold wpX31_isKeptBut at hw
  refine lv_aload_n hx hb dX31_isKeptBut_0 rfl (lv_at hl 0 rfl) ?_
  refine k_get X hH in_X31 0 rfl hc 5 (by decide) q1430 rfl dX31_isKeptBut_1 ?_
  refine lv_iload_n hx hb dX31_isKeptBut_4 rfl (lv_at hl 1 rfl) ?_
  refine k_iald X hH 5 4 rfl rfl hw.1 dX31_isKeptBut_5 ?_
  have hw := hw.2
  refine lv_aload_n hx hb dX31_isKeptBut_6 rfl (lv_at hl 0 rfl) ?_
  refine lv_iload_n hx hb dX31_isKeptBut_7 rfl (lv_at hl 1 rfl) ?_
  refine lv_iload_n hx hb dX31_isKeptBut_8 rfl (lv_at hl 2 rfl) ?_
  refine k_i0 hH (k_runV (As := [.int x1, .int x2]) (rest := [.int (f_fails x1.toNatClampNeg)]) X hH.1 hH.2.1 X.2.2.2 (walkX31_failsAt hc hw) (cwV 2 X.1.2.2.2.2 gX31_39 rfl rfl rfl hX31_failsAt ⟨Nat.le_of_ble_eq_true rfl, Nat.le_of_ble_eq_true rfl⟩) hc (q0 := 0) rfl rfl hl.1 rfl (Nat.le_of_ble_eq_true rfl) dX31_isKeptBut_9 ⟨Nat.le_refl 0, Nat.le_refl 0⟩) (fun r_1 _ H locs hw hH => ?_)
  have hH : kH (dC, dI) cl A s.heap H locs (wX31 ci ad d f_own f_rows f_uppers f_closed f_chosen f_fails f_counts f_seen) := hH
  refine lv_if_eq (tgt := 19) hx hb dX31_isKeptBut_12 (by decide) (fun c_2 => ?_) (fun c_2 => ?_)
  · have hw := hw.1 c_2
    refine lv_iconst (v := 0) hx hb dX31_isKeptBut_19 (by decide) ?_
    refine lv_isub hx hb dX31_isKeptBut_20 ?_
    refine lv_if_ne (tgt := 28) hx hb dX31_isKeptBut_21 (by decide) (fun c_3 => ?_) (fun c_3 => ?_)
    · have hw := hw.2 c_3
      refine lv_iconst (v := 0) hx hb dX31_isKeptBut_28 (by decide) ?_
      exact k_iret (v := 0) X hH () hw rfl rfl dX31_isKeptBut_29
    · have hw := hw.1 c_3
      refine lv_iconst (v := 1) hx hb dX31_isKeptBut_24 (by decide) ?_
      refine lv_goto (tgt := 29) hx hb dX31_isKeptBut_25 (by decide) ?_
      exact k_iret (v := 1) X hH () hw rfl rfl dX31_isKeptBut_29
  · have hw := hw.2 c_2
    refine lv_iconst (v := 1) hx hb dX31_isKeptBut_15 (by decide) ?_
    refine lv_goto (tgt := 20) hx hb dX31_isKeptBut_16 (by decide) ?_
    refine lv_isub hx hb dX31_isKeptBut_20 ?_
    refine lv_if_ne (tgt := 28) hx hb dX31_isKeptBut_21 (by decide) (fun c_4 => ?_) (fun c_4 => ?_)
    · have hw := hw.2 c_4
      refine lv_iconst (v := 0) hx hb dX31_isKeptBut_28 (by decide) ?_
      exact k_iret (v := 0) X hH () hw rfl rfl dX31_isKeptBut_29
    · have hw := hw.1 c_4
      refine lv_iconst (v := 1) hx hb dX31_isKeptBut_24 (by decide) ?_
      refine lv_goto (tgt := 29) hx hb dX31_isKeptBut_25 (by decide) ?_
      exact k_iret (v := 1) X hH () hw rfl rfl dX31_isKeptBut_29
set_option maxHeartbeats 4000000 in
theorem atX31_weigh_91 {p : Program} {l : Launch} {e : Env} {s : State} {m : MethodId} {args : Array Value} {below : List Frame} {meth : Method} {c : Code} {dC : Nat → ClassId} {dI : Nat → Nat → Nat} {cl : List vw_C} {ci : Nat} (hc : cl[ci]? = some (RX31, TX31, 8)) {ad : Nat → Nat} {d : Nat → ClassId} {A : Nat → Prop} {post : (Nat → Int32) → (Nat → Int32) → Prop} {f_own : Nat → Int32} {f_rows : Int32} {f_uppers : Nat → Int32} {f_closed : Nat → Int32} {f_chosen : Nat → Int32} {f_seen : Nat → Int32} (X : kX p s m args meth c cX31_weigh 6 RX31 none (dC, dI) cl (tX31 d)) {K128 : (Nat → Int32) → Prop} {x1 : Int32} {x2 : Int32} {x3 : Int32} {x4 : Int32} {f_fails : Nat → Int32} (hk128 : ∀ (f_counts : Nat → Int32), K128 f_counts → ∀ (H : Heap) (locs : List Loc) (ls : Array Slot), kH (dC, dI) cl A s.heap H locs (wX31 ci ad d f_own f_rows f_uppers f_closed f_chosen f_fails f_counts f_seen) → lv_has ls 6 [(0, .ref (ad 0)), (1, .int x1), (2, .int x2), (3, .int x3)] → W p l e ({ frames := 3, cells := 0, slots := 0, locals := 69 } : Room) s m args below meth c H locs 0 0 (MQ below (va_Qv (fun (u : (Nat → Int32) × (Nat → Int32)) => post (u.1) (u.2)) (kB (dC, dI) cl (tX31 d) A (fun u : (Nat → Int32) × (Nat → Int32) => (wX31 ci ad d f_own f_rows f_uppers f_closed f_chosen (u.1) (u.2) f_seen))) A) args s 0 0 A) (F0 m 128 ls [])) :
    ∀ (nn : Nat) (x5 : Int32) (f_counts : Nat → Int32), wX31_weigh_91 K128 x2 x3 x4 nn x5 f_counts → ∀ (H : Heap) (locs : List Loc) (ls : Array Slot), kH (dC, dI) cl A s.heap H locs (wX31 ci ad d f_own f_rows f_uppers f_closed f_chosen f_fails f_counts f_seen) → lv_has ls 6 [(0, .ref (ad 0)), (1, .int x1), (2, .int x2), (3, .int x3), (4, .int x4), (5, .int x5)] → W p l e ({ frames := 3, cells := 0, slots := 0, locals := 69 } : Room) s m args below meth c H locs 0 0 (MQ below (va_Qv (fun (u : (Nat → Int32) × (Nat → Int32)) => post (u.1) (u.2)) (kB (dC, dI) cl (tX31 d) A (fun u : (Nat → Int32) × (Nat → Int32) => (wX31 ci ad d f_own f_rows f_uppers f_closed f_chosen (u.1) (u.2) f_seen))) A) args s 0 0 A) (F0 m 91 ls []) := by
  have hx := X.1.1
  have hb := X.1.2.1
  intro nn
  induction nn with
  | zero =>
    intro x5 f_counts hw
    exact False.elim hw
  | succ n ih =>
    intro x5 f_counts hw H locs ls hH hl
    rw [wX31_weigh_91] at hw
    refine lv_iload hx hb dX31_weigh_91 (lv_at hl 5 rfl) ?_
    refine lv_bipush (v := 32) hx hb dX31_weigh_93 (by decide) ?_
    refine lv_icmp_ge (tgt := 128) hx hb dX31_weigh_95 (by decide) (fun c_6 => ?_) (fun c_6 => ?_)
    · have hw := hw.1 c_6
      exact hk128 f_counts hw _ _ ls hH (lv_sub hl [0, 1, 2, 3] rfl)
    · have hw := hw.2 c_6
      refine lv_aload_n hx hb dX31_weigh_98 rfl (lv_at hl 0 rfl) ?_
      refine k_get X hH in_X31 0 rfl hc 6 (by decide) q1431 rfl dX31_weigh_99 ?_
      refine lv_bipush (v := 32) hx hb dX31_weigh_102 (by decide) ?_
      refine lv_iload_n hx hb dX31_weigh_104 rfl (lv_at hl 3 rfl) ?_
      refine lv_imul hx hb dX31_weigh_105 ?_
      refine lv_iload hx hb dX31_weigh_106 (lv_at hl 5 rfl) ?_
      refine lv_iadd hx hb dX31_weigh_108 ?_
      refine lv_dup2_11 hx hb dX31_weigh_109 rfl rfl ?_
      refine k_iald X hH 6 5 rfl rfl hw.1 dX31_weigh_110 ?_
      have hw := hw.2
      refine lv_iload hx hb dX31_weigh_111 (lv_at hl 4 rfl) ?_
      refine lv_iload hx hb dX31_weigh_113 (lv_at hl 5 rfl) ?_
      refine lv_ishr hx hb dX31_weigh_115 ?_
      refine lv_iconst (v := 1) hx hb dX31_weigh_116 (by decide) ?_
      refine lv_iand hx hb dX31_weigh_117 ?_
      refine lv_iload_n hx hb dX31_weigh_118 rfl (lv_at hl 2 rfl) ?_
      refine lv_imul hx hb dX31_weigh_119 ?_
      refine lv_iadd hx hb dX31_weigh_120 ?_
      refine lv_topi (fun v_7 ev_7 => ?_)
      have hw := hw v_7 ev_7
      obtain ⟨f_counts_8, ef_counts_8⟩ : ∃ y : Nat → Int32, y = upd f_counts ((32 * x3) + x5).toNatClampNeg v_7 := ⟨_, rfl⟩
      refine k_iast X hH 6 5 rfl rfl hw.1 dX31_weigh_121 ef_counts_8 (ws1 := (wX31 ci ad d f_own f_rows f_uppers f_closed f_chosen f_fails f_counts_8 f_seen)) rfl (fun H locs hH => ?_)
      have hw := hw.2 f_counts_8 ef_counts_8
      obtain ⟨x5_9, ex5_9⟩ : ∃ y : Int32, y = x5 + 1 := ⟨_, rfl⟩
      have hw := hw x5_9 ex5_9
      refine lv_iinc (v := x5_9) (lv' := [(5, .int x5_9), (0, .ref (ad 0)), (1, .int x1), (2, .int x2), (3, .int x3), (4, .int x4)]) hx hb dX31_weigh_122 hl (k := 5) rfl (by rw [ex5_9]; rfl) (by decide) rfl (fun ls hl => ?_)
      refine lv_goto (tgt := 91) hx hb dX31_weigh_125 (by decide) ?_
      exact ih x5_9 f_counts_8 hw _ _ ls hH (lv_sub hl [1, 2, 3, 4, 5, 0] rfl)
set_option maxHeartbeats 4000000 in
theorem atX31_weigh_61 {p : Program} {l : Launch} {e : Env} {s : State} {m : MethodId} {args : Array Value} {below : List Frame} {meth : Method} {c : Code} {dC : Nat → ClassId} {dI : Nat → Nat → Nat} {cl : List vw_C} {ci : Nat} (hc : cl[ci]? = some (RX31, TX31, 8)) {ad : Nat → Nat} {d : Nat → ClassId} {A : Nat → Prop} {post : (Nat → Int32) → (Nat → Int32) → Prop} {f_own : Nat → Int32} {f_rows : Int32} {f_uppers : Nat → Int32} {f_closed : Nat → Int32} {f_chosen : Nat → Int32} {f_seen : Nat → Int32} (X : kX p s m args meth c cX31_weigh 6 RX31 none (dC, dI) cl (tX31 d)) {K134 : (Nat → Int32) → Prop} {x1 : Int32} {x2 : Int32} {f_fails : Nat → Int32} (hk134 : ∀ (f_counts : Nat → Int32), K134 f_counts → ∀ (H : Heap) (locs : List Loc) (ls : Array Slot), kH (dC, dI) cl A s.heap H locs (wX31 ci ad d f_own f_rows f_uppers f_closed f_chosen f_fails f_counts f_seen) → lv_has ls 6 [] → W p l e ({ frames := 3, cells := 0, slots := 0, locals := 69 } : Room) s m args below meth c H locs 0 0 (MQ below (va_Qv (fun (u : (Nat → Int32) × (Nat → Int32)) => post (u.1) (u.2)) (kB (dC, dI) cl (tX31 d) A (fun u : (Nat → Int32) × (Nat → Int32) => (wX31 ci ad d f_own f_rows f_uppers f_closed f_chosen (u.1) (u.2) f_seen))) A) args s 0 0 A) (F0 m 134 ls [])) :
    ∀ (nn : Nat) (x3 : Int32) (f_counts : Nat → Int32), wX31_weigh_61 K134 x1 x2 f_own f_closed f_chosen f_fails nn x3 f_counts → ∀ (H : Heap) (locs : List Loc) (ls : Array Slot), kH (dC, dI) cl A s.heap H locs (wX31 ci ad d f_own f_rows f_uppers f_closed f_chosen f_fails f_counts f_seen) → lv_has ls 6 [(0, .ref (ad 0)), (1, .int x1), (2, .int x2), (3, .int x3)] → W p l e ({ frames := 3, cells := 0, slots := 0, locals := 69 } : Room) s m args below meth c H locs 0 0 (MQ below (va_Qv (fun (u : (Nat → Int32) × (Nat → Int32)) => post (u.1) (u.2)) (kB (dC, dI) cl (tX31 d) A (fun u : (Nat → Int32) × (Nat → Int32) => (wX31 ci ad d f_own f_rows f_uppers f_closed f_chosen (u.1) (u.2) f_seen))) A) args s 0 0 A) (F0 m 61 ls []) := by
  have hx := X.1.1
  have hb := X.1.2.1
  intro nn
  induction nn with
  | zero =>
    intro x3 f_counts hw
    exact False.elim hw
  | succ n ih =>
    intro x3 f_counts hw H locs ls hH hl
    rw [wX31_weigh_61] at hw
    refine lv_iload_n hx hb dX31_weigh_61 rfl (lv_at hl 3 rfl) ?_
    refine lv_bipush (v := 8) hx hb dX31_weigh_62 (by decide) ?_
    refine lv_icmp_ge (tgt := 134) hx hb dX31_weigh_64 (by decide) (fun c_3 => ?_) (fun c_3 => ?_)
    · have hw := hw.1 c_3
      exact hk134 f_counts hw _ _ ls hH (lv_sub hl [] rfl)
    · have hw := hw.2 c_3
      refine lv_aload_n hx hb dX31_weigh_67 rfl (lv_at hl 0 rfl) ?_
      refine lv_iload_n hx hb dX31_weigh_68 rfl (lv_at hl 1 rfl) ?_
      refine lv_iload_n hx hb dX31_weigh_69 rfl (lv_at hl 3 rfl) ?_
      refine k_i0 hH (k_runV (As := [.int x1, .int x3]) (rest := []) X hH.1 hH.2.1 X.2.2.2 (walkX31_isKeptBut hc hw) (cwV 2 X.1.2.2.2.2 gX31_42 rfl rfl rfl hX31_isKeptBut ⟨Nat.le_of_ble_eq_true rfl, Nat.le_of_ble_eq_true rfl⟩) hc (q0 := 0) rfl rfl hl.1 rfl (Nat.le_of_ble_eq_true rfl) dX31_weigh_70 ⟨Nat.le_refl 0, Nat.le_refl 0⟩) (fun r_4 _ H locs hw hH => ?_)
      have hH : kH (dC, dI) cl A s.heap H locs (wX31 ci ad d f_own f_rows f_uppers f_closed f_chosen f_fails f_counts f_seen) := hH
      refine lv_if_eq (tgt := 85) hx hb dX31_weigh_73 (by decide) (fun c_5 => ?_) (fun c_5 => ?_)
      · have hw := hw.1 c_5
        refine lv_iconst (v := 0) hx hb dX31_weigh_85 (by decide) ?_
        refine lv_istore (lv' := [(4, .int 0), (0, .ref (ad 0)), (1, .int x1), (2, .int x2), (3, .int x3)]) hx hb dX31_weigh_86 hl (by decide) rfl (fun ls hl => ?_)
        refine lv_iconst (v := 0) hx hb dX31_weigh_88 (by decide) ?_
        refine lv_istore (lv' := [(5, .int 0), (4, .int 0), (0, .ref (ad 0)), (1, .int x1), (2, .int x2), (3, .int x3)]) hx hb dX31_weigh_89 hl (by decide) rfl (fun ls hl => ?_)
        obtain ⟨fu, hw⟩ := hw
        refine atX31_weigh_91 hc X ?_ fu 0 f_counts hw _ _ ls hH (lv_sub hl [2, 3, 4, 5, 1, 0] rfl)
        · intro f_counts_10 hw H locs ls hH hl
          obtain ⟨x3_11, ex3_11⟩ : ∃ y : Int32, y = x3 + 1 := ⟨_, rfl⟩
          have hw := hw x3_11 ex3_11
          refine lv_iinc (v := x3_11) (lv' := [(3, .int x3_11), (0, .ref (ad 0)), (1, .int x1), (2, .int x2)]) hx hb dX31_weigh_128 hl (k := 3) rfl (by rw [ex3_11]; rfl) (by decide) rfl (fun ls hl => ?_)
          refine lv_goto (tgt := 61) hx hb dX31_weigh_131 (by decide) ?_
          exact ih x3_11 f_counts_10 hw _ _ ls hH (lv_sub hl [1, 2, 3, 0] rfl)
      · have hw := hw.2 c_5
        refine lv_aload_n hx hb dX31_weigh_76 rfl (lv_at hl 0 rfl) ?_
        refine lv_iload_n hx hb dX31_weigh_77 rfl (lv_at hl 1 rfl) ?_
        refine lv_iload_n hx hb dX31_weigh_78 rfl (lv_at hl 3 rfl) ?_
        refine k_i0 hH (k_runV (As := [.int x1, .int x3]) (rest := []) X hH.1 hH.2.1 X.2.2.2 (walkX31_has hc hw) (cwV 2 X.1.2.2.2.2 gX31_35 rfl rfl rfl hX31_has ⟨Nat.le_of_ble_eq_true rfl, Nat.le_of_ble_eq_true rfl⟩) hc (q0 := 0) rfl rfl hl.1 rfl (Nat.le_of_ble_eq_true rfl) dX31_weigh_79 ⟨Nat.le_refl 0, Nat.le_refl 0⟩) (fun r_12 _ H locs hw hH => ?_)
        have hH : kH (dC, dI) cl A s.heap H locs (wX31 ci ad d f_own f_rows f_uppers f_closed f_chosen f_fails f_counts f_seen) := hH
        refine lv_goto (tgt := 86) hx hb dX31_weigh_82 (by decide) ?_
        refine lv_istore (lv' := [(4, .int r_12), (0, .ref (ad 0)), (1, .int x1), (2, .int x2), (3, .int x3)]) hx hb dX31_weigh_86 hl (by decide) rfl (fun ls hl => ?_)
        refine lv_iconst (v := 0) hx hb dX31_weigh_88 (by decide) ?_
        refine lv_istore (lv' := [(5, .int 0), (4, .int r_12), (0, .ref (ad 0)), (1, .int x1), (2, .int x2), (3, .int x3)]) hx hb dX31_weigh_89 hl (by decide) rfl (fun ls hl => ?_)
        obtain ⟨fu, hw⟩ := hw
        refine atX31_weigh_91 hc X ?_ fu 0 f_counts hw _ _ ls hH (lv_sub hl [2, 3, 4, 5, 1, 0] rfl)
        · intro f_counts_13 hw H locs ls hH hl
          obtain ⟨x3_14, ex3_14⟩ : ∃ y : Int32, y = x3 + 1 := ⟨_, rfl⟩
          have hw := hw x3_14 ex3_14
          refine lv_iinc (v := x3_14) (lv' := [(3, .int x3_14), (0, .ref (ad 0)), (1, .int x1), (2, .int x2)]) hx hb dX31_weigh_128 hl (k := 3) rfl (by rw [ex3_14]; rfl) (by decide) rfl (fun ls hl => ?_)
          refine lv_goto (tgt := 61) hx hb dX31_weigh_131 (by decide) ?_
          exact ih x3_14 f_counts_13 hw _ _ ls hH (lv_sub hl [1, 2, 3, 0] rfl)
set_option maxHeartbeats 4000000 in
theorem atX31_weigh_13 {p : Program} {l : Launch} {e : Env} {s : State} {m : MethodId} {args : Array Value} {below : List Frame} {meth : Method} {c : Code} {dC : Nat → ClassId} {dI : Nat → Nat → Nat} {cl : List vw_C} {ci : Nat} (hc : cl[ci]? = some (RX31, TX31, 8)) {ad : Nat → Nat} {d : Nat → ClassId} {A : Nat → Prop} {post : (Nat → Int32) → (Nat → Int32) → Prop} {f_own : Nat → Int32} {f_rows : Int32} {f_uppers : Nat → Int32} {f_closed : Nat → Int32} {f_chosen : Nat → Int32} {f_seen : Nat → Int32} (X : kX p s m args meth c cX31_weigh 6 RX31 none (dC, dI) cl (tX31 d)) {K48 : (Nat → Int32) → Prop} {x1 : Int32} {x2 : Int32} {f_counts : Nat → Int32} (hk48 : ∀ (f_fails : Nat → Int32), K48 f_fails → ∀ (H : Heap) (locs : List Loc) (ls : Array Slot), kH (dC, dI) cl A s.heap H locs (wX31 ci ad d f_own f_rows f_uppers f_closed f_chosen f_fails f_counts f_seen) → lv_has ls 6 [(0, .ref (ad 0)), (1, .int x1), (2, .int x2)] → W p l e ({ frames := 3, cells := 0, slots := 0, locals := 69 } : Room) s m args below meth c H locs 0 0 (MQ below (va_Qv (fun (u : (Nat → Int32) × (Nat → Int32)) => post (u.1) (u.2)) (kB (dC, dI) cl (tX31 d) A (fun u : (Nat → Int32) × (Nat → Int32) => (wX31 ci ad d f_own f_rows f_uppers f_closed f_chosen (u.1) (u.2) f_seen))) A) args s 0 0 A) (F0 m 48 ls [])) :
    ∀ (nn : Nat) (x3 : Int32) (f_fails : Nat → Int32), wX31_weigh_13 K48 x1 f_own f_closed f_chosen nn x3 f_fails → ∀ (H : Heap) (locs : List Loc) (ls : Array Slot), kH (dC, dI) cl A s.heap H locs (wX31 ci ad d f_own f_rows f_uppers f_closed f_chosen f_fails f_counts f_seen) → lv_has ls 6 [(0, .ref (ad 0)), (1, .int x1), (2, .int x2), (3, .int x3)] → W p l e ({ frames := 3, cells := 0, slots := 0, locals := 69 } : Room) s m args below meth c H locs 0 0 (MQ below (va_Qv (fun (u : (Nat → Int32) × (Nat → Int32)) => post (u.1) (u.2)) (kB (dC, dI) cl (tX31 d) A (fun u : (Nat → Int32) × (Nat → Int32) => (wX31 ci ad d f_own f_rows f_uppers f_closed f_chosen (u.1) (u.2) f_seen))) A) args s 0 0 A) (F0 m 13 ls []) := by
  have hx := X.1.1
  have hb := X.1.2.1
  intro nn
  induction nn with
  | zero =>
    intro x3 f_fails hw
    exact False.elim hw
  | succ n ih =>
    intro x3 f_fails hw H locs ls hH hl
    rw [wX31_weigh_13] at hw
    refine lv_iload_n hx hb dX31_weigh_13 rfl (lv_at hl 3 rfl) ?_
    refine lv_bipush (v := 8) hx hb dX31_weigh_14 (by decide) ?_
    refine lv_icmp_ge (tgt := 48) hx hb dX31_weigh_16 (by decide) (fun c_17 => ?_) (fun c_17 => ?_)
    · have hw := hw.1 c_17
      exact hk48 f_fails hw _ _ ls hH (lv_sub hl [0, 1, 2] rfl)
    · have hw := hw.2 c_17
      refine lv_aload_n hx hb dX31_weigh_19 rfl (lv_at hl 0 rfl) ?_
      refine k_get X hH in_X31 0 rfl hc 5 (by decide) q1430 rfl dX31_weigh_20 ?_
      refine lv_iload_n hx hb dX31_weigh_23 rfl (lv_at hl 1 rfl) ?_
      refine lv_dup2_11 hx hb dX31_weigh_24 rfl rfl ?_
      refine k_iald X hH 5 4 rfl rfl hw.1 dX31_weigh_25 ?_
      have hw := hw.2
      refine lv_aload_n hx hb dX31_weigh_26 rfl (lv_at hl 0 rfl) ?_
      refine lv_iload_n hx hb dX31_weigh_27 rfl (lv_at hl 1 rfl) ?_
      refine lv_iload_n hx hb dX31_weigh_28 rfl (lv_at hl 3 rfl) ?_
      refine k_i0 hH (k_runV (As := [.int x1, .int x3]) (rest := [.int (f_fails x1.toNatClampNeg), .int x1, .ref (ad 5)]) X hH.1 hH.2.1 X.2.2.2 (walkX31_failsAt hc hw) (cwV 2 X.1.2.2.2.2 gX31_39 rfl rfl rfl hX31_failsAt ⟨Nat.le_of_ble_eq_true rfl, Nat.le_of_ble_eq_true rfl⟩) hc (q0 := 0) rfl rfl hl.1 rfl (Nat.le_of_ble_eq_true rfl) dX31_weigh_29 ⟨Nat.le_refl 0, Nat.le_refl 0⟩) (fun r_18 _ H locs hw hH => ?_)
      have hH : kH (dC, dI) cl A s.heap H locs (wX31 ci ad d f_own f_rows f_uppers f_closed f_chosen f_fails f_counts f_seen) := hH
      refine lv_if_eq (tgt := 39) hx hb dX31_weigh_32 (by decide) (fun c_19 => ?_) (fun c_19 => ?_)
      · have hw := hw.1 c_19
        refine lv_iconst (v := 0) hx hb dX31_weigh_39 (by decide) ?_
        refine lv_iadd hx hb dX31_weigh_40 ?_
        refine lv_topi (fun v_20 ev_20 => ?_)
        have hw := hw v_20 ev_20
        obtain ⟨f_fails_21, ef_fails_21⟩ : ∃ y : Nat → Int32, y = upd f_fails x1.toNatClampNeg v_20 := ⟨_, rfl⟩
        refine k_iast X hH 5 4 rfl rfl hw.1 dX31_weigh_41 ef_fails_21 (ws1 := (wX31 ci ad d f_own f_rows f_uppers f_closed f_chosen f_fails_21 f_counts f_seen)) rfl (fun H locs hH => ?_)
        have hw := hw.2 f_fails_21 ef_fails_21
        obtain ⟨x3_22, ex3_22⟩ : ∃ y : Int32, y = x3 + 1 := ⟨_, rfl⟩
        have hw := hw x3_22 ex3_22
        refine lv_iinc (v := x3_22) (lv' := [(3, .int x3_22), (0, .ref (ad 0)), (1, .int x1), (2, .int x2)]) hx hb dX31_weigh_42 hl (k := 3) rfl (by rw [ex3_22]; rfl) (by decide) rfl (fun ls hl => ?_)
        refine lv_goto (tgt := 13) hx hb dX31_weigh_45 (by decide) ?_
        exact ih x3_22 f_fails_21 hw _ _ ls hH (lv_sub hl [1, 2, 3, 0] rfl)
      · have hw := hw.2 c_19
        refine lv_iconst (v := 1) hx hb dX31_weigh_35 (by decide) ?_
        refine lv_goto (tgt := 40) hx hb dX31_weigh_36 (by decide) ?_
        refine lv_iadd hx hb dX31_weigh_40 ?_
        refine lv_topi (fun v_23 ev_23 => ?_)
        have hw := hw v_23 ev_23
        obtain ⟨f_fails_24, ef_fails_24⟩ : ∃ y : Nat → Int32, y = upd f_fails x1.toNatClampNeg v_23 := ⟨_, rfl⟩
        refine k_iast X hH 5 4 rfl rfl hw.1 dX31_weigh_41 ef_fails_24 (ws1 := (wX31 ci ad d f_own f_rows f_uppers f_closed f_chosen f_fails_24 f_counts f_seen)) rfl (fun H locs hH => ?_)
        have hw := hw.2 f_fails_24 ef_fails_24
        obtain ⟨x3_25, ex3_25⟩ : ∃ y : Int32, y = x3 + 1 := ⟨_, rfl⟩
        have hw := hw x3_25 ex3_25
        refine lv_iinc (v := x3_25) (lv' := [(3, .int x3_25), (0, .ref (ad 0)), (1, .int x1), (2, .int x2)]) hx hb dX31_weigh_42 hl (k := 3) rfl (by rw [ex3_25]; rfl) (by decide) rfl (fun ls hl => ?_)
        refine lv_goto (tgt := 13) hx hb dX31_weigh_45 (by decide) ?_
        exact ih x3_25 f_fails_24 hw _ _ ls hH (lv_sub hl [1, 2, 3, 0] rfl)
set_option maxHeartbeats 4000000 in
theorem walkX31_weigh {l : Launch} {dC : Nat → ClassId} {dI : Nat → Nat → Nat} {cl : List vw_C} {ci : Nat} (hc : cl[ci]? = some (RX31, TX31, 8)) {ad : Nat → Nat} {d : Nat → ClassId} {sz : Nat} {f_own : Nat → Int32} {f_rows : Int32} {f_uppers : Nat → Int32} {f_closed : Nat → Int32} {f_chosen : Nat → Int32} {f_fails : Nat → Int32} {f_counts : Nat → Int32} {f_seen : Nat → Int32} {x1 : Int32} {x2 : Int32} {post : (Nat → Int32) → (Nat → Int32) → Prop} (hw : wpX31_weigh post f_own f_closed f_chosen f_fails f_counts x1 x2) :
    Met l yX31_weigh (ws_ yX31_weigh cX31_weigh 6 none) ({ frames := 3, cells := 0, slots := 0, locals := 69 } : Room) (kPc (dC, dI) cl (tX31 d) [.ref (ad 0), .int x1, .int x2] sz (wX31 ci ad d f_own f_rows f_uppers f_closed f_chosen f_fails f_counts f_seen)) (va_Qv (fun (u : (Nat → Int32) × (Nat → Int32)) => post (u.1) (u.2)) (kB (dC, dI) cl (tX31 d) (va_A (wX31 ci ad d f_own f_rows f_uppers f_closed f_chosen f_fails f_counts f_seen) sz) (fun u : (Nat → Int32) × (Nat → Int32) => (wX31 ci ad d f_own f_rows f_uppers f_closed f_chosen (u.1) (u.2) f_seen))) (va_A (wX31 ci ad d f_own f_rows f_uppers f_closed f_chosen f_fails f_counts f_seen) sz)) 0 0 (va_A (wX31 ci ad d f_own f_rows f_uppers f_closed f_chosen f_fails f_counts f_seen) sz) := by
  refine k_enter (by decide) (Nat.le_of_ble_eq_true rfl) ?_
  intro p e s m below meth c ls X hsz hH hl
  subst hsz
  generalize va_A (wX31 ci ad d f_own f_rows f_uppers f_closed f_chosen f_fails f_counts f_seen) s.heap.size = A at hH ⊢
  have hx := X.1.1
  have hb := X.1.2.1
  have hl : lv_has ls 6 [(0, .ref (ad 0)), (1, .int x1), (2, .int x2)] := hl
  unfold wpX31_weigh at hw
  refine lv_iload_n hx hb dX31_weigh_0 rfl (lv_at hl 2 rfl) ?_
  refine lv_if_le (tgt := 48) hx hb dX31_weigh_1 (by decide) (fun c_1 => ?_) (fun c_1 => ?_)
  · have hw := hw.1 c_1
    refine lv_aload_n hx hb dX31_weigh_48 rfl (lv_at hl 0 rfl) ?_
    refine k_get X hH in_X31 0 rfl hc 5 (by decide) q1430 rfl dX31_weigh_49 ?_
    refine lv_iload_n hx hb dX31_weigh_52 rfl (lv_at hl 1 rfl) ?_
    refine k_iald X hH 5 4 rfl rfl hw.1 dX31_weigh_53 ?_
    have hw := hw.2
    refine lv_iconst (v := 1) hx hb dX31_weigh_54 (by decide) ?_
    refine lv_icmp_le (tgt := 59) hx hb dX31_weigh_55 (by decide) (fun c_2 => ?_) (fun c_2 => ?_)
    · have hw := hw.1 c_2
      refine lv_iconst (v := 0) hx hb dX31_weigh_59 (by decide) ?_
      refine lv_istore_n (lv' := [(3, .int 0), (0, .ref (ad 0)), (1, .int x1), (2, .int x2)]) hx hb dX31_weigh_60 rfl hl (by decide) rfl (fun ls hl => ?_)
      obtain ⟨fu, hw⟩ := hw
      refine atX31_weigh_61 hc X ?_ fu 0 f_counts hw _ _ ls hH (lv_sub hl [1, 2, 3, 0] rfl)
      · intro f_counts_15 hw H locs ls hH hl
        exact k_vret X hH (f_fails, f_counts_15) hw rfl dX31_weigh_134
    · have hw := hw.2 c_2
      exact k_vret X hH (f_fails, f_counts) hw rfl dX31_weigh_58
  · have hw := hw.2 c_1
    refine lv_aload_n hx hb dX31_weigh_4 rfl (lv_at hl 0 rfl) ?_
    refine k_get X hH in_X31 0 rfl hc 5 (by decide) q1430 rfl dX31_weigh_5 ?_
    refine lv_iload_n hx hb dX31_weigh_8 rfl (lv_at hl 1 rfl) ?_
    refine lv_iconst (v := 0) hx hb dX31_weigh_9 (by decide) ?_
    obtain ⟨f_fails_16, ef_fails_16⟩ : ∃ y : Nat → Int32, y = upd f_fails x1.toNatClampNeg 0 := ⟨_, rfl⟩
    refine k_iast X hH 5 4 rfl rfl hw.1 dX31_weigh_10 ef_fails_16 (ws1 := (wX31 ci ad d f_own f_rows f_uppers f_closed f_chosen f_fails_16 f_counts f_seen)) rfl (fun H locs hH => ?_)
    have hw := hw.2 f_fails_16 ef_fails_16
    refine lv_iconst (v := 0) hx hb dX31_weigh_11 (by decide) ?_
    refine lv_istore_n (lv' := [(3, .int 0), (0, .ref (ad 0)), (1, .int x1), (2, .int x2)]) hx hb dX31_weigh_12 rfl hl (by decide) rfl (fun ls hl => ?_)
    obtain ⟨fu, hw⟩ := hw
    refine atX31_weigh_13 hc X ?_ fu 0 f_fails_16 hw _ _ ls hH (lv_sub hl [1, 2, 3, 0] rfl)
    · intro f_fails_26 hw H locs ls hH hl
      refine lv_aload_n hx hb dX31_weigh_48 rfl (lv_at hl 0 rfl) ?_
      refine k_get X hH in_X31 0 rfl hc 5 (by decide) q1430 rfl dX31_weigh_49 ?_
      refine lv_iload_n hx hb dX31_weigh_52 rfl (lv_at hl 1 rfl) ?_
      refine k_iald X hH 5 4 rfl rfl hw.1 dX31_weigh_53 ?_
      have hw := hw.2
      refine lv_iconst (v := 1) hx hb dX31_weigh_54 (by decide) ?_
      refine lv_icmp_le (tgt := 59) hx hb dX31_weigh_55 (by decide) (fun c_27 => ?_) (fun c_27 => ?_)
      · have hw := hw.1 c_27
        refine lv_iconst (v := 0) hx hb dX31_weigh_59 (by decide) ?_
        refine lv_istore_n (lv' := [(3, .int 0), (0, .ref (ad 0)), (1, .int x1), (2, .int x2)]) hx hb dX31_weigh_60 rfl hl (by decide) rfl (fun ls hl => ?_)
        obtain ⟨fu, hw⟩ := hw
        refine atX31_weigh_61 hc X ?_ fu 0 f_counts hw _ _ ls hH (lv_sub hl [1, 2, 3, 0] rfl)
        · intro f_counts_28 hw H locs ls hH hl
          exact k_vret X hH (f_fails_26, f_counts_28) hw rfl dX31_weigh_134
      · have hw := hw.2 c_27
        exact k_vret X hH (f_fails_26, f_counts) hw rfl dX31_weigh_58
set_option maxHeartbeats 4000000 in
theorem walkX31_row {l : Launch} {dC : Nat → ClassId} {dI : Nat → Nat → Nat} {cl : List vw_C} {ci : Nat} (hc : cl[ci]? = some (RX31, TX31, 8)) {ad : Nat → Nat} {d : Nat → ClassId} {sz : Nat} {f_own : Nat → Int32} {f_rows : Int32} {f_uppers : Nat → Int32} {f_closed : Nat → Int32} {f_chosen : Nat → Int32} {f_fails : Nat → Int32} {f_counts : Nat → Int32} {f_seen : Nat → Int32} {x1 : Int32} {x2 : Int32} {x3 : Int32} {post : Int32 → (Nat → Int32) → Int32 → (Nat → Int32) → (Nat → Int32) → Prop} (hw : wpX31_row post f_own f_rows f_closed f_chosen f_fails f_counts x1 x2 x3) :
    Met l yX31_row (ws_ yX31_row cX31_row 5 (some .int)) ({ frames := 4, cells := 0, slots := 0, locals := 94 } : Room) (kPc (dC, dI) cl (tX31 d) [.ref (ad 0), .int x1, .int x2, .int x3] sz (wX31 ci ad d f_own f_rows f_uppers f_closed f_chosen f_fails f_counts f_seen)) (va_Qi (fun (r : Int32) (u : (Nat → Int32) × Int32 × (Nat → Int32) × (Nat → Int32)) => post r (u.1) (u.2.1) (u.2.2.1) (u.2.2.2)) (kB (dC, dI) cl (tX31 d) (va_A (wX31 ci ad d f_own f_rows f_uppers f_closed f_chosen f_fails f_counts f_seen) sz) (fun u : (Nat → Int32) × Int32 × (Nat → Int32) × (Nat → Int32) => (wX31 ci ad d (u.1) (u.2.1) f_uppers f_closed f_chosen (u.2.2.1) (u.2.2.2) f_seen))) (va_A (wX31 ci ad d f_own f_rows f_uppers f_closed f_chosen f_fails f_counts f_seen) sz)) 0 0 (va_A (wX31 ci ad d f_own f_rows f_uppers f_closed f_chosen f_fails f_counts f_seen) sz) := by
  refine k_enter (by decide) (Nat.le_of_ble_eq_true rfl) ?_
  intro p e s m below meth c ls X hsz hH hl
  subst hsz
  generalize va_A (wX31 ci ad d f_own f_rows f_uppers f_closed f_chosen f_fails f_counts f_seen) s.heap.size = A at hH ⊢
  have hx := X.1.1
  have hb := X.1.2.1
  have hl : lv_has ls 5 [(0, .ref (ad 0)), (1, .int x1), (2, .int x2), (3, .int x3)] := hl
  unfold wpX31_row at hw
  refine lv_iload_n hx hb dX31_row_0 rfl (lv_at hl 1 rfl) ?_
  refine lv_iload_n hx hb dX31_row_1 rfl (lv_at hl 2 rfl) ?_
  refine lv_iload_n hx hb dX31_row_2 rfl (lv_at hl 3 rfl) ?_
  refine k_i0 hH (k_runS (As := [.int x1, .int x2, .int x3]) (rest := []) X hH.1 hH.2.1 X.2.2.2 (walkX31_isRow hc hw) (va_cwS 3 X.1.2.2.2.2 gX31_49 rfl rfl rfl hX31_isRow ⟨Nat.le_of_ble_eq_true rfl, Nat.le_of_ble_eq_true rfl⟩) rfl hl.1 rfl (Nat.le_of_ble_eq_true rfl) dX31_row_3 ⟨Nat.le_refl 0, Nat.le_refl 0⟩) (fun r_1 _ H locs hw hH => ?_)
  have hH : kH (dC, dI) cl A s.heap H locs (wX31 ci ad d f_own f_rows f_uppers f_closed f_chosen f_fails f_counts f_seen) := hH
  refine lv_if_ne (tgt := 11) hx hb dX31_row_6 (by decide) (fun c_2 => ?_) (fun c_2 => ?_)
  · have hw := hw.2 c_2
    refine lv_bipush (v := 8) hx hb dX31_row_11 (by decide) ?_
    refine lv_iload_n hx hb dX31_row_13 rfl (lv_at hl 1 rfl) ?_
    refine lv_imul hx hb dX31_row_14 ?_
    refine lv_iload_n hx hb dX31_row_15 rfl (lv_at hl 2 rfl) ?_
    refine lv_iadd hx hb dX31_row_16 ?_
    refine lv_topi (fun x4_3 ex4_3 => ?_)
    have hw := hw x4_3 ex4_3
    refine lv_istore (lv' := [(4, .int x4_3), (0, .ref (ad 0)), (1, .int x1), (2, .int x2), (3, .int x3)]) hx hb dX31_row_17 hl (by decide) rfl (fun ls hl => ?_)
    refine lv_aload_n hx hb dX31_row_19 rfl (lv_at hl 1 rfl) ?_
    refine k_get X hH in_X31 0 rfl hc 0 (by decide) q1425 rfl dX31_row_20 ?_
    refine lv_iload hx hb dX31_row_23 (lv_at hl 0 rfl) ?_
    refine k_iald X hH 1 0 rfl rfl hw.1 dX31_row_25 ?_
    have hw := hw.2
    refine lv_iload_n hx hb dX31_row_26 rfl (lv_at hl 4 rfl) ?_
    refine lv_ishr hx hb dX31_row_27 ?_
    refine lv_iconst (v := 1) hx hb dX31_row_28 (by decide) ?_
    refine lv_iand hx hb dX31_row_29 ?_
    refine lv_iconst (v := 1) hx hb dX31_row_30 (by decide) ?_
    refine lv_icmp_ne (tgt := 36) hx hb dX31_row_31 (by decide) (fun c_4 => ?_) (fun c_4 => ?_)
    · have hw := hw.2 c_4
      refine lv_aload_n hx hb dX31_row_36 rfl (lv_at hl 1 rfl) ?_
      refine k_get X hH in_X31 0 rfl hc 1 (by decide) q1426 rfl dX31_row_37 ?_
      refine lv_sipush (v := 300) hx hb dX31_row_40 (by decide) ?_
      refine lv_icmp_ne (tgt := 49) hx hb dX31_row_43 (by decide) (fun c_5 => ?_) (fun c_5 => ?_)
      · have hw := hw.2 c_5
        refine lv_aload_n hx hb dX31_row_49 rfl (lv_at hl 1 rfl) ?_
        refine lv_iload_n hx hb dX31_row_50 rfl (lv_at hl 2 rfl) ?_
        refine lv_iconst (v := (-1)) hx hb dX31_row_51 (by decide) ?_
        refine k_v0 hH (k_runV (As := [.int x1, .int ((-1))]) (rest := []) X hH.1 hH.2.1 X.2.2.2 (walkX31_weigh hc hw) (cwV 2 X.1.2.2.2.2 gX31_45 rfl rfl rfl hX31_weigh ⟨Nat.le_of_ble_eq_true rfl, Nat.le_of_ble_eq_true rfl⟩) hc (q0 := 0) rfl rfl hl.1 rfl (Nat.le_of_ble_eq_true rfl) dX31_row_52 ⟨Nat.le_refl 0, Nat.le_refl 0⟩) (fun u H locs hw hH => ?_)
        obtain ⟨f_fails_6, f_counts_7⟩ := u
        have hH : kH (dC, dI) cl A s.heap H locs (wX31 ci ad d f_own f_rows f_uppers f_closed f_chosen f_fails_6 f_counts_7 f_seen) := hH
        refine lv_aload_n hx hb dX31_row_55 rfl (lv_at hl 1 rfl) ?_
        refine k_get X hH in_X31 0 rfl hc 0 (by decide) q1425 rfl dX31_row_56 ?_
        refine lv_iload hx hb dX31_row_59 (lv_at hl 0 rfl) ?_
        refine lv_dup2_11 hx hb dX31_row_61 rfl rfl ?_
        refine k_iald X hH 1 0 rfl rfl hw.1 dX31_row_62 ?_
        have hw := hw.2
        refine lv_iconst (v := 1) hx hb dX31_row_63 (by decide) ?_
        refine lv_iload_n hx hb dX31_row_64 rfl (lv_at hl 4 rfl) ?_
        refine lv_ishl hx hb dX31_row_65 ?_
        refine lv_ior hx hb dX31_row_66 ?_
        refine lv_topi (fun v_8 ev_8 => ?_)
        have hw := hw v_8 ev_8
        obtain ⟨f_own_9, ef_own_9⟩ : ∃ y : Nat → Int32, y = upd f_own x4_3.toNatClampNeg v_8 := ⟨_, rfl⟩
        refine k_iast X hH 1 0 rfl rfl hw.1 dX31_row_67 ef_own_9 (ws1 := (wX31 ci ad d f_own_9 f_rows f_uppers f_closed f_chosen f_fails_6 f_counts_7 f_seen)) rfl (fun H locs hH => ?_)
        have hw := hw.2 f_own_9 ef_own_9
        refine lv_aload_n hx hb dX31_row_68 rfl (lv_at hl 1 rfl) ?_
        refine lv_dup hx hb dX31_row_69 rfl ?_
        refine k_get X hH in_X31 0 rfl hc 1 (by decide) q1426 rfl dX31_row_70 ?_
        refine lv_iconst (v := 1) hx hb dX31_row_73 (by decide) ?_
        refine lv_iadd hx hb dX31_row_74 ?_
        refine lv_topi (fun f_rows_10 ef_rows_10 => ?_)
        have hw := hw f_rows_10 ef_rows_10
        refine k_put X hH in_X31 tyX31_ok nmX31 0 rfl hc 1 (by decide) q1426 rfl (ty := .int) rfl rfl rfl (Nat.le_of_ble_eq_true rfl) dX31_row_75 (ws1 := (wX31 ci ad d f_own_9 f_rows_10 f_uppers f_closed f_chosen f_fails_6 f_counts_7 f_seen)) rfl (fun H locs hH => ?_)
        refine lv_aload_n hx hb dX31_row_78 rfl (lv_at hl 1 rfl) ?_
        refine lv_iload_n hx hb dX31_row_79 rfl (lv_at hl 2 rfl) ?_
        refine lv_iconst (v := 1) hx hb dX31_row_80 (by decide) ?_
        refine k_v0 hH (k_runV (As := [.int x1, .int 1]) (rest := []) X hH.1 hH.2.1 X.2.2.2 (walkX31_weigh hc hw) (cwV 2 X.1.2.2.2.2 gX31_45 rfl rfl rfl hX31_weigh ⟨Nat.le_of_ble_eq_true rfl, Nat.le_of_ble_eq_true rfl⟩) hc (q0 := 0) rfl rfl hl.1 rfl (Nat.le_of_ble_eq_true rfl) dX31_row_81 ⟨Nat.le_refl 0, Nat.le_refl 0⟩) (fun u H locs hw hH => ?_)
        obtain ⟨f_fails_11, f_counts_12⟩ := u
        have hH : kH (dC, dI) cl A s.heap H locs (wX31 ci ad d f_own_9 f_rows_10 f_uppers f_closed f_chosen f_fails_11 f_counts_12 f_seen) := hH
        refine lv_iconst (v := 1) hx hb dX31_row_84 (by decide) ?_
        exact k_iret (v := 1) X hH (f_own_9, f_rows_10, f_fails_11, f_counts_12) hw rfl rfl dX31_row_85
      · have hw := hw.1 c_5
        refine lv_bipush (v := (-2)) hx hb dX31_row_46 (by decide) ?_
        exact k_iret (v := (-2)) X hH (f_own, f_rows, f_fails, f_counts) hw rfl rfl dX31_row_48
    · have hw := hw.1 c_4
      refine lv_iconst (v := 0) hx hb dX31_row_34 (by decide) ?_
      exact k_iret (v := 0) X hH (f_own, f_rows, f_fails, f_counts) hw rfl rfl dX31_row_35
  · have hw := hw.1 c_2
    refine lv_iconst (v := (-1)) hx hb dX31_row_9 (by decide) ?_
    exact k_iret (v := (-1)) X hH (f_own, f_rows, f_fails, f_counts) hw rfl rfl dX31_row_10
set_option maxHeartbeats 4000000 in
theorem walkX31_drop {l : Launch} {dC : Nat → ClassId} {dI : Nat → Nat → Nat} {cl : List vw_C} {ci : Nat} (hc : cl[ci]? = some (RX31, TX31, 8)) {ad : Nat → Nat} {d : Nat → ClassId} {sz : Nat} {f_own : Nat → Int32} {f_rows : Int32} {f_uppers : Nat → Int32} {f_closed : Nat → Int32} {f_chosen : Nat → Int32} {f_fails : Nat → Int32} {f_counts : Nat → Int32} {f_seen : Nat → Int32} {x1 : Int32} {x2 : Int32} {x3 : Int32} {post : Int32 → (Nat → Int32) → Int32 → (Nat → Int32) → (Nat → Int32) → Prop} (hw : wpX31_drop post f_own f_rows f_closed f_chosen f_fails f_counts x1 x2 x3) :
    Met l yX31_drop (ws_ yX31_drop cX31_drop 5 (some .int)) ({ frames := 4, cells := 0, slots := 0, locals := 94 } : Room) (kPc (dC, dI) cl (tX31 d) [.ref (ad 0), .int x1, .int x2, .int x3] sz (wX31 ci ad d f_own f_rows f_uppers f_closed f_chosen f_fails f_counts f_seen)) (va_Qi (fun (r : Int32) (u : (Nat → Int32) × Int32 × (Nat → Int32) × (Nat → Int32)) => post r (u.1) (u.2.1) (u.2.2.1) (u.2.2.2)) (kB (dC, dI) cl (tX31 d) (va_A (wX31 ci ad d f_own f_rows f_uppers f_closed f_chosen f_fails f_counts f_seen) sz) (fun u : (Nat → Int32) × Int32 × (Nat → Int32) × (Nat → Int32) => (wX31 ci ad d (u.1) (u.2.1) f_uppers f_closed f_chosen (u.2.2.1) (u.2.2.2) f_seen))) (va_A (wX31 ci ad d f_own f_rows f_uppers f_closed f_chosen f_fails f_counts f_seen) sz)) 0 0 (va_A (wX31 ci ad d f_own f_rows f_uppers f_closed f_chosen f_fails f_counts f_seen) sz) := by
  refine k_enter (by decide) (Nat.le_of_ble_eq_true rfl) ?_
  intro p e s m below meth c ls X hsz hH hl
  subst hsz
  generalize va_A (wX31 ci ad d f_own f_rows f_uppers f_closed f_chosen f_fails f_counts f_seen) s.heap.size = A at hH ⊢
  have hx := X.1.1
  have hb := X.1.2.1
  have hl : lv_has ls 5 [(0, .ref (ad 0)), (1, .int x1), (2, .int x2), (3, .int x3)] := hl
  unfold wpX31_drop at hw
  refine lv_iload_n hx hb dX31_drop_0 rfl (lv_at hl 1 rfl) ?_
  refine lv_iload_n hx hb dX31_drop_1 rfl (lv_at hl 2 rfl) ?_
  refine lv_iload_n hx hb dX31_drop_2 rfl (lv_at hl 3 rfl) ?_
  refine k_i0 hH (k_runS (As := [.int x1, .int x2, .int x3]) (rest := []) X hH.1 hH.2.1 X.2.2.2 (walkX31_isRow hc hw) (va_cwS 3 X.1.2.2.2.2 gX31_49 rfl rfl rfl hX31_isRow ⟨Nat.le_of_ble_eq_true rfl, Nat.le_of_ble_eq_true rfl⟩) rfl hl.1 rfl (Nat.le_of_ble_eq_true rfl) dX31_drop_3 ⟨Nat.le_refl 0, Nat.le_refl 0⟩) (fun r_1 _ H locs hw hH => ?_)
  have hH : kH (dC, dI) cl A s.heap H locs (wX31 ci ad d f_own f_rows f_uppers f_closed f_chosen f_fails f_counts f_seen) := hH
  refine lv_if_ne (tgt := 11) hx hb dX31_drop_6 (by decide) (fun c_2 => ?_) (fun c_2 => ?_)
  · have hw := hw.2 c_2
    refine lv_bipush (v := 8) hx hb dX31_drop_11 (by decide) ?_
    refine lv_iload_n hx hb dX31_drop_13 rfl (lv_at hl 1 rfl) ?_
    refine lv_imul hx hb dX31_drop_14 ?_
    refine lv_iload_n hx hb dX31_drop_15 rfl (lv_at hl 2 rfl) ?_
    refine lv_iadd hx hb dX31_drop_16 ?_
    refine lv_topi (fun x4_3 ex4_3 => ?_)
    have hw := hw x4_3 ex4_3
    refine lv_istore (lv' := [(4, .int x4_3), (0, .ref (ad 0)), (1, .int x1), (2, .int x2), (3, .int x3)]) hx hb dX31_drop_17 hl (by decide) rfl (fun ls hl => ?_)
    refine lv_aload_n hx hb dX31_drop_19 rfl (lv_at hl 1 rfl) ?_
    refine k_get X hH in_X31 0 rfl hc 0 (by decide) q1425 rfl dX31_drop_20 ?_
    refine lv_iload hx hb dX31_drop_23 (lv_at hl 0 rfl) ?_
    refine k_iald X hH 1 0 rfl rfl hw.1 dX31_drop_25 ?_
    have hw := hw.2
    refine lv_iload_n hx hb dX31_drop_26 rfl (lv_at hl 4 rfl) ?_
    refine lv_ishr hx hb dX31_drop_27 ?_
    refine lv_iconst (v := 1) hx hb dX31_drop_28 (by decide) ?_
    refine lv_iand hx hb dX31_drop_29 ?_
    refine lv_if_ne (tgt := 35) hx hb dX31_drop_30 (by decide) (fun c_4 => ?_) (fun c_4 => ?_)
    · have hw := hw.2 c_4
      refine lv_aload_n hx hb dX31_drop_35 rfl (lv_at hl 1 rfl) ?_
      refine lv_iload_n hx hb dX31_drop_36 rfl (lv_at hl 2 rfl) ?_
      refine lv_iconst (v := (-1)) hx hb dX31_drop_37 (by decide) ?_
      refine k_v0 hH (k_runV (As := [.int x1, .int ((-1))]) (rest := []) X hH.1 hH.2.1 X.2.2.2 (walkX31_weigh hc hw) (cwV 2 X.1.2.2.2.2 gX31_45 rfl rfl rfl hX31_weigh ⟨Nat.le_of_ble_eq_true rfl, Nat.le_of_ble_eq_true rfl⟩) hc (q0 := 0) rfl rfl hl.1 rfl (Nat.le_of_ble_eq_true rfl) dX31_drop_38 ⟨Nat.le_refl 0, Nat.le_refl 0⟩) (fun u H locs hw hH => ?_)
      obtain ⟨f_fails_5, f_counts_6⟩ := u
      have hH : kH (dC, dI) cl A s.heap H locs (wX31 ci ad d f_own f_rows f_uppers f_closed f_chosen f_fails_5 f_counts_6 f_seen) := hH
      refine lv_aload_n hx hb dX31_drop_41 rfl (lv_at hl 1 rfl) ?_
      refine k_get X hH in_X31 0 rfl hc 0 (by decide) q1425 rfl dX31_drop_42 ?_
      refine lv_iload hx hb dX31_drop_45 (lv_at hl 0 rfl) ?_
      refine lv_dup2_11 hx hb dX31_drop_47 rfl rfl ?_
      refine k_iald X hH 1 0 rfl rfl hw.1 dX31_drop_48 ?_
      have hw := hw.2
      refine lv_iconst (v := 1) hx hb dX31_drop_49 (by decide) ?_
      refine lv_iload_n hx hb dX31_drop_50 rfl (lv_at hl 4 rfl) ?_
      refine lv_ishl hx hb dX31_drop_51 ?_
      refine lv_iconst (v := (-1)) hx hb dX31_drop_52 (by decide) ?_
      refine lv_ixor hx hb dX31_drop_53 ?_
      refine lv_iand hx hb dX31_drop_54 ?_
      refine lv_topi (fun v_7 ev_7 => ?_)
      have hw := hw v_7 ev_7
      obtain ⟨f_own_8, ef_own_8⟩ : ∃ y : Nat → Int32, y = upd f_own x4_3.toNatClampNeg v_7 := ⟨_, rfl⟩
      refine k_iast X hH 1 0 rfl rfl hw.1 dX31_drop_55 ef_own_8 (ws1 := (wX31 ci ad d f_own_8 f_rows f_uppers f_closed f_chosen f_fails_5 f_counts_6 f_seen)) rfl (fun H locs hH => ?_)
      have hw := hw.2 f_own_8 ef_own_8
      refine lv_aload_n hx hb dX31_drop_56 rfl (lv_at hl 1 rfl) ?_
      refine lv_dup hx hb dX31_drop_57 rfl ?_
      refine k_get X hH in_X31 0 rfl hc 1 (by decide) q1426 rfl dX31_drop_58 ?_
      refine lv_iconst (v := 1) hx hb dX31_drop_61 (by decide) ?_
      refine lv_isub hx hb dX31_drop_62 ?_
      refine lv_topi (fun f_rows_9 ef_rows_9 => ?_)
      have hw := hw f_rows_9 ef_rows_9
      refine k_put X hH in_X31 tyX31_ok nmX31 0 rfl hc 1 (by decide) q1426 rfl (ty := .int) rfl rfl rfl (Nat.le_of_ble_eq_true rfl) dX31_drop_63 (ws1 := (wX31 ci ad d f_own_8 f_rows_9 f_uppers f_closed f_chosen f_fails_5 f_counts_6 f_seen)) rfl (fun H locs hH => ?_)
      refine lv_aload_n hx hb dX31_drop_66 rfl (lv_at hl 1 rfl) ?_
      refine lv_iload_n hx hb dX31_drop_67 rfl (lv_at hl 2 rfl) ?_
      refine lv_iconst (v := 1) hx hb dX31_drop_68 (by decide) ?_
      refine k_v0 hH (k_runV (As := [.int x1, .int 1]) (rest := []) X hH.1 hH.2.1 X.2.2.2 (walkX31_weigh hc hw) (cwV 2 X.1.2.2.2.2 gX31_45 rfl rfl rfl hX31_weigh ⟨Nat.le_of_ble_eq_true rfl, Nat.le_of_ble_eq_true rfl⟩) hc (q0 := 0) rfl rfl hl.1 rfl (Nat.le_of_ble_eq_true rfl) dX31_drop_69 ⟨Nat.le_refl 0, Nat.le_refl 0⟩) (fun u H locs hw hH => ?_)
      obtain ⟨f_fails_10, f_counts_11⟩ := u
      have hH : kH (dC, dI) cl A s.heap H locs (wX31 ci ad d f_own_8 f_rows_9 f_uppers f_closed f_chosen f_fails_10 f_counts_11 f_seen) := hH
      refine lv_iconst (v := 1) hx hb dX31_drop_72 (by decide) ?_
      exact k_iret (v := 1) X hH (f_own_8, f_rows_9, f_fails_10, f_counts_11) hw rfl rfl dX31_drop_73
    · have hw := hw.1 c_4
      refine lv_iconst (v := 0) hx hb dX31_drop_33 (by decide) ?_
      exact k_iret (v := 0) X hH (f_own, f_rows, f_fails, f_counts) hw rfl rfl dX31_drop_34
  · have hw := hw.1 c_2
    refine lv_iconst (v := (-1)) hx hb dX31_drop_9 (by decide) ?_
    exact k_iret (v := (-1)) X hH (f_own, f_rows, f_fails, f_counts) hw rfl rfl dX31_drop_10
set_option maxHeartbeats 4000000 in
theorem atX31_weighAll_2 {p : Program} {l : Launch} {e : Env} {s : State} {m : MethodId} {args : Array Value} {below : List Frame} {meth : Method} {c : Code} {dC : Nat → ClassId} {dI : Nat → Nat → Nat} {cl : List vw_C} {ci : Nat} (hc : cl[ci]? = some (RX31, TX31, 8)) {ad : Nat → Nat} {d : Nat → ClassId} {A : Nat → Prop} {post : (Nat → Int32) → (Nat → Int32) → Prop} {f_own : Nat → Int32} {f_rows : Int32} {f_uppers : Nat → Int32} {f_closed : Nat → Int32} {f_chosen : Nat → Int32} {f_seen : Nat → Int32} (X : kX p s m args meth c cX31_weighAll 3 RX31 none (dC, dI) cl (tX31 d)) {K20 : (Nat → Int32) → (Nat → Int32) → Prop} {x1 : Int32}  (hk20 : ∀ (f_fails : Nat → Int32) (f_counts : Nat → Int32), K20 f_fails f_counts → ∀ (H : Heap) (locs : List Loc) (ls : Array Slot), kH (dC, dI) cl A s.heap H locs (wX31 ci ad d f_own f_rows f_uppers f_closed f_chosen f_fails f_counts f_seen) → lv_has ls 3 [] → W p l e ({ frames := 4, cells := 0, slots := 0, locals := 94 } : Room) s m args below meth c H locs 0 0 (MQ below (va_Qv (fun (u : (Nat → Int32) × (Nat → Int32)) => post (u.1) (u.2)) (kB (dC, dI) cl (tX31 d) A (fun u : (Nat → Int32) × (Nat → Int32) => (wX31 ci ad d f_own f_rows f_uppers f_closed f_chosen (u.1) (u.2) f_seen))) A) args s 0 0 A) (F0 m 20 ls [])) :
    ∀ (nn : Nat) (x2 : Int32) (f_fails : Nat → Int32) (f_counts : Nat → Int32), wX31_weighAll_2 K20 x1 f_own f_closed f_chosen nn x2 f_fails f_counts → ∀ (H : Heap) (locs : List Loc) (ls : Array Slot), kH (dC, dI) cl A s.heap H locs (wX31 ci ad d f_own f_rows f_uppers f_closed f_chosen f_fails f_counts f_seen) → lv_has ls 3 [(0, .ref (ad 0)), (1, .int x1), (2, .int x2)] → W p l e ({ frames := 4, cells := 0, slots := 0, locals := 94 } : Room) s m args below meth c H locs 0 0 (MQ below (va_Qv (fun (u : (Nat → Int32) × (Nat → Int32)) => post (u.1) (u.2)) (kB (dC, dI) cl (tX31 d) A (fun u : (Nat → Int32) × (Nat → Int32) => (wX31 ci ad d f_own f_rows f_uppers f_closed f_chosen (u.1) (u.2) f_seen))) A) args s 0 0 A) (F0 m 2 ls []) := by
  have hx := X.1.1
  have hb := X.1.2.1
  intro nn
  induction nn with
  | zero =>
    intro x2 f_fails f_counts hw
    exact False.elim hw
  | succ n ih =>
    intro x2 f_fails f_counts hw H locs ls hH hl
    rw [wX31_weighAll_2] at hw
    refine lv_iload_n hx hb dX31_weighAll_2 rfl (lv_at hl 2 rfl) ?_
    refine lv_bipush (v := 40) hx hb dX31_weighAll_3 (by decide) ?_
    refine lv_icmp_ge (tgt := 20) hx hb dX31_weighAll_5 (by decide) (fun c_1 => ?_) (fun c_1 => ?_)
    · have hw := hw.1 c_1
      exact hk20 f_fails f_counts hw _ _ ls hH (lv_sub hl [] rfl)
    · have hw := hw.2 c_1
      refine lv_aload_n hx hb dX31_weighAll_8 rfl (lv_at hl 0 rfl) ?_
      refine lv_iload_n hx hb dX31_weighAll_9 rfl (lv_at hl 2 rfl) ?_
      refine lv_iload_n hx hb dX31_weighAll_10 rfl (lv_at hl 1 rfl) ?_
      refine k_v0 hH (k_runV (As := [.int x2, .int x1]) (rest := []) X hH.1 hH.2.1 X.2.2.2 (walkX31_weigh hc hw) (cwV 2 X.1.2.2.2.2 gX31_45 rfl rfl rfl hX31_weigh ⟨Nat.le_of_ble_eq_true rfl, Nat.le_of_ble_eq_true rfl⟩) hc (q0 := 0) rfl rfl hl.1 rfl (Nat.le_of_ble_eq_true rfl) dX31_weighAll_11 ⟨Nat.le_refl 0, Nat.le_refl 0⟩) (fun u H locs hw hH => ?_)
      obtain ⟨f_fails_2, f_counts_3⟩ := u
      have hH : kH (dC, dI) cl A s.heap H locs (wX31 ci ad d f_own f_rows f_uppers f_closed f_chosen f_fails_2 f_counts_3 f_seen) := hH
      obtain ⟨x2_4, ex2_4⟩ : ∃ y : Int32, y = x2 + 1 := ⟨_, rfl⟩
      have hw := hw x2_4 ex2_4
      refine lv_iinc (v := x2_4) (lv' := [(2, .int x2_4), (0, .ref (ad 0)), (1, .int x1)]) hx hb dX31_weighAll_14 hl (k := 2) rfl (by rw [ex2_4]; rfl) (by decide) rfl (fun ls hl => ?_)
      refine lv_goto (tgt := 2) hx hb dX31_weighAll_17 (by decide) ?_
      exact ih x2_4 f_fails_2 f_counts_3 hw _ _ ls hH (lv_sub hl [1, 2, 0] rfl)
set_option maxHeartbeats 4000000 in
theorem walkX31_weighAll {l : Launch} {dC : Nat → ClassId} {dI : Nat → Nat → Nat} {cl : List vw_C} {ci : Nat} (hc : cl[ci]? = some (RX31, TX31, 8)) {ad : Nat → Nat} {d : Nat → ClassId} {sz : Nat} {f_own : Nat → Int32} {f_rows : Int32} {f_uppers : Nat → Int32} {f_closed : Nat → Int32} {f_chosen : Nat → Int32} {f_fails : Nat → Int32} {f_counts : Nat → Int32} {f_seen : Nat → Int32} {x1 : Int32} {post : (Nat → Int32) → (Nat → Int32) → Prop} (hw : wpX31_weighAll post f_own f_closed f_chosen f_fails f_counts x1) :
    Met l yX31_weighAll (ws_ yX31_weighAll cX31_weighAll 3 none) ({ frames := 4, cells := 0, slots := 0, locals := 94 } : Room) (kPc (dC, dI) cl (tX31 d) [.ref (ad 0), .int x1] sz (wX31 ci ad d f_own f_rows f_uppers f_closed f_chosen f_fails f_counts f_seen)) (va_Qv (fun (u : (Nat → Int32) × (Nat → Int32)) => post (u.1) (u.2)) (kB (dC, dI) cl (tX31 d) (va_A (wX31 ci ad d f_own f_rows f_uppers f_closed f_chosen f_fails f_counts f_seen) sz) (fun u : (Nat → Int32) × (Nat → Int32) => (wX31 ci ad d f_own f_rows f_uppers f_closed f_chosen (u.1) (u.2) f_seen))) (va_A (wX31 ci ad d f_own f_rows f_uppers f_closed f_chosen f_fails f_counts f_seen) sz)) 0 0 (va_A (wX31 ci ad d f_own f_rows f_uppers f_closed f_chosen f_fails f_counts f_seen) sz) := by
  refine k_enter (by decide) (Nat.le_of_ble_eq_true rfl) ?_
  intro p e s m below meth c ls X hsz hH hl
  subst hsz
  generalize va_A (wX31 ci ad d f_own f_rows f_uppers f_closed f_chosen f_fails f_counts f_seen) s.heap.size = A at hH ⊢
  have hx := X.1.1
  have hb := X.1.2.1
  have hl : lv_has ls 3 [(0, .ref (ad 0)), (1, .int x1)] := hl
  unfold wpX31_weighAll at hw
  refine lv_iconst (v := 0) hx hb dX31_weighAll_0 (by decide) ?_
  refine lv_istore_n (lv' := [(2, .int 0), (0, .ref (ad 0)), (1, .int x1)]) hx hb dX31_weighAll_1 rfl hl (by decide) rfl (fun ls hl => ?_)
  obtain ⟨fu, hw⟩ := hw
  refine atX31_weighAll_2 hc X ?_ fu 0 f_fails f_counts hw _ _ ls hH (lv_sub hl [1, 2, 0] rfl)
  · intro f_fails_5 f_counts_6 hw H locs ls hH hl
    exact k_vret X hH (f_fails_5, f_counts_6) hw rfl dX31_weighAll_20
set_option maxHeartbeats 4000000 in
theorem atX31_above_89 {p : Program} {l : Launch} {e : Env} {s : State} {m : MethodId} {args : Array Value} {below : List Frame} {meth : Method} {c : Code} {dC : Nat → ClassId} {dI : Nat → Nat → Nat} {cl : List vw_C} {ci : Nat} (hc : cl[ci]? = some (RX31, TX31, 8)) {ad : Nat → Nat} {d : Nat → ClassId} {A : Nat → Prop} {post : Int32 → (Nat → Int32) → (Nat → Int32) → (Nat → Int32) → (Nat → Int32) → Prop} {f_own : Nat → Int32} {f_rows : Int32} {f_chosen : Nat → Int32} {f_seen : Nat → Int32} (X : kX p s m args meth c cX31_above 5 RX31 (some .int) (dC, dI) cl (tX31 d)) {K120 : (Nat → Int32) → Prop} {x3 : Int32} {f_uppers : Nat → Int32} {f_fails : Nat → Int32} {f_counts : Nat → Int32} (hk120 : ∀ (f_closed : Nat → Int32), K120 f_closed → ∀ (H : Heap) (locs : List Loc) (ls : Array Slot), kH (dC, dI) cl A s.heap H locs (wX31 ci ad d f_own f_rows f_uppers f_closed f_chosen f_fails f_counts f_seen) → lv_has ls 5 [(0, .ref (ad 0)), (3, .int x3)] → W p l e ({ frames := 5, cells := 0, slots := 0, locals := 116 } : Room) s m args below meth c H locs 0 0 (MQ below (va_Qi (fun (r : Int32) (u : (Nat → Int32) × (Nat → Int32) × (Nat → Int32) × (Nat → Int32)) => post r (u.1) (u.2.1) (u.2.2.1) (u.2.2.2)) (kB (dC, dI) cl (tX31 d) A (fun u : (Nat → Int32) × (Nat → Int32) × (Nat → Int32) × (Nat → Int32) => (wX31 ci ad d f_own f_rows (u.1) (u.2.1) f_chosen (u.2.2.1) (u.2.2.2) f_seen))) A) args s 0 0 A) (F0 m 120 ls [])) :
    ∀ (nn : Nat) (x4 : Int32) (f_closed : Nat → Int32), wX31_above_89 K120 x3 f_uppers nn x4 f_closed → ∀ (H : Heap) (locs : List Loc) (ls : Array Slot), kH (dC, dI) cl A s.heap H locs (wX31 ci ad d f_own f_rows f_uppers f_closed f_chosen f_fails f_counts f_seen) → lv_has ls 5 [(0, .ref (ad 0)), (3, .int x3), (4, .int x4)] → W p l e ({ frames := 5, cells := 0, slots := 0, locals := 116 } : Room) s m args below meth c H locs 0 0 (MQ below (va_Qi (fun (r : Int32) (u : (Nat → Int32) × (Nat → Int32) × (Nat → Int32) × (Nat → Int32)) => post r (u.1) (u.2.1) (u.2.2.1) (u.2.2.2)) (kB (dC, dI) cl (tX31 d) A (fun u : (Nat → Int32) × (Nat → Int32) × (Nat → Int32) × (Nat → Int32) => (wX31 ci ad d f_own f_rows (u.1) (u.2.1) f_chosen (u.2.2.1) (u.2.2.2) f_seen))) A) args s 0 0 A) (F0 m 89 ls []) := by
  have hx := X.1.1
  have hb := X.1.2.1
  intro nn
  induction nn with
  | zero =>
    intro x4 f_closed hw
    exact False.elim hw
  | succ n ih =>
    intro x4 f_closed hw H locs ls hH hl
    rw [wX31_above_89] at hw
    refine lv_iload hx hb dX31_above_89 (lv_at hl 2 rfl) ?_
    refine lv_iconst (v := (-1)) hx hb dX31_above_91 (by decide) ?_
    refine lv_icmp_eq (tgt := 120) hx hb dX31_above_92 (by decide) (fun c_11 => ?_) (fun c_11 => ?_)
    · have hw := hw.1 c_11
      exact hk120 f_closed hw _ _ ls hH (lv_sub hl [0, 1] rfl)
    · have hw := hw.2 c_11
      refine lv_aload_n hx hb dX31_above_95 rfl (lv_at hl 0 rfl) ?_
      refine k_get X hH in_X31 0 rfl hc 3 (by decide) q1428 rfl dX31_above_96 ?_
      refine lv_iload_n hx hb dX31_above_99 rfl (lv_at hl 1 rfl) ?_
      refine lv_dup2_11 hx hb dX31_above_100 rfl rfl ?_
      refine k_iald X hH 3 2 rfl rfl hw.1 dX31_above_101 ?_
      have hw := hw.2
      refine lv_iconst (v := 1) hx hb dX31_above_102 (by decide) ?_
      refine lv_iload hx hb dX31_above_103 (lv_at hl 2 rfl) ?_
      refine lv_ishl hx hb dX31_above_105 ?_
      refine lv_ior hx hb dX31_above_106 ?_
      refine lv_topi (fun v_12 ev_12 => ?_)
      have hw := hw v_12 ev_12
      obtain ⟨f_closed_13, ef_closed_13⟩ : ∃ y : Nat → Int32, y = upd f_closed x3.toNatClampNeg v_12 := ⟨_, rfl⟩
      refine k_iast X hH 3 2 rfl rfl hw.1 dX31_above_107 ef_closed_13 (ws1 := (wX31 ci ad d f_own f_rows f_uppers f_closed_13 f_chosen f_fails f_counts f_seen)) rfl (fun H locs hH => ?_)
      have hw := hw.2 f_closed_13 ef_closed_13
      refine lv_aload_n hx hb dX31_above_108 rfl (lv_at hl 0 rfl) ?_
      refine k_get X hH in_X31 0 rfl hc 2 (by decide) q1427 rfl dX31_above_109 ?_
      refine lv_iload hx hb dX31_above_112 (lv_at hl 2 rfl) ?_
      refine k_iald X hH 2 1 rfl rfl hw.1 dX31_above_114 ?_
      have hw := hw.2
      refine lv_topi (fun x4_14 ex4_14 => ?_)
      have hw := hw x4_14 ex4_14
      refine lv_istore (lv' := [(4, .int x4_14), (0, .ref (ad 0)), (3, .int x3)]) hx hb dX31_above_115 hl (by decide) rfl (fun ls hl => ?_)
      refine lv_goto (tgt := 89) hx hb dX31_above_117 (by decide) ?_
      exact ih x4_14 f_closed_13 hw _ _ ls hH (lv_sub hl [1, 2, 0] rfl)
set_option maxHeartbeats 4000000 in
theorem atX31_above_73 {p : Program} {l : Launch} {e : Env} {s : State} {m : MethodId} {args : Array Value} {below : List Frame} {meth : Method} {c : Code} {dC : Nat → ClassId} {dI : Nat → Nat → Nat} {cl : List vw_C} {ci : Nat} (hc : cl[ci]? = some (RX31, TX31, 8)) {ad : Nat → Nat} {d : Nat → ClassId} {A : Nat → Prop} {post : Int32 → (Nat → Int32) → (Nat → Int32) → (Nat → Int32) → (Nat → Int32) → Prop} {f_own : Nat → Int32} {f_rows : Int32} {f_chosen : Nat → Int32} {f_seen : Nat → Int32} (X : kX p s m args meth c cX31_above 5 RX31 (some .int) (dC, dI) cl (tX31 d)) {K126 : (Nat → Int32) → Prop}  {f_uppers : Nat → Int32} {f_fails : Nat → Int32} {f_counts : Nat → Int32} (hk126 : ∀ (f_closed : Nat → Int32), K126 f_closed → ∀ (H : Heap) (locs : List Loc) (ls : Array Slot), kH (dC, dI) cl A s.heap H locs (wX31 ci ad d f_own f_rows f_uppers f_closed f_chosen f_fails f_counts f_seen) → lv_has ls 5 [(0, .ref (ad 0))] → W p l e ({ frames := 5, cells := 0, slots := 0, locals := 116 } : Room) s m args below meth c H locs 0 0 (MQ below (va_Qi (fun (r : Int32) (u : (Nat → Int32) × (Nat → Int32) × (Nat → Int32) × (Nat → Int32)) => post r (u.1) (u.2.1) (u.2.2.1) (u.2.2.2)) (kB (dC, dI) cl (tX31 d) A (fun u : (Nat → Int32) × (Nat → Int32) × (Nat → Int32) × (Nat → Int32) => (wX31 ci ad d f_own f_rows (u.1) (u.2.1) f_chosen (u.2.2.1) (u.2.2.2) f_seen))) A) args s 0 0 A) (F0 m 126 ls [])) :
    ∀ (nn : Nat) (x3 : Int32) (f_closed : Nat → Int32), wX31_above_73 K126 f_uppers nn x3 f_closed → ∀ (H : Heap) (locs : List Loc) (ls : Array Slot), kH (dC, dI) cl A s.heap H locs (wX31 ci ad d f_own f_rows f_uppers f_closed f_chosen f_fails f_counts f_seen) → lv_has ls 5 [(0, .ref (ad 0)), (3, .int x3)] → W p l e ({ frames := 5, cells := 0, slots := 0, locals := 116 } : Room) s m args below meth c H locs 0 0 (MQ below (va_Qi (fun (r : Int32) (u : (Nat → Int32) × (Nat → Int32) × (Nat → Int32) × (Nat → Int32)) => post r (u.1) (u.2.1) (u.2.2.1) (u.2.2.2)) (kB (dC, dI) cl (tX31 d) A (fun u : (Nat → Int32) × (Nat → Int32) × (Nat → Int32) × (Nat → Int32) => (wX31 ci ad d f_own f_rows (u.1) (u.2.1) f_chosen (u.2.2.1) (u.2.2.2) f_seen))) A) args s 0 0 A) (F0 m 73 ls []) := by
  have hx := X.1.1
  have hb := X.1.2.1
  intro nn
  induction nn with
  | zero =>
    intro x3 f_closed hw
    exact False.elim hw
  | succ n ih =>
    intro x3 f_closed hw H locs ls hH hl
    rw [wX31_above_73] at hw
    refine lv_iload_n hx hb dX31_above_73 rfl (lv_at hl 1 rfl) ?_
    refine lv_bipush (v := 32) hx hb dX31_above_74 (by decide) ?_
    refine lv_icmp_ge (tgt := 126) hx hb dX31_above_76 (by decide) (fun c_9 => ?_) (fun c_9 => ?_)
    · have hw := hw.1 c_9
      exact hk126 f_closed hw _ _ ls hH (lv_sub hl [0] rfl)
    · have hw := hw.2 c_9
      refine lv_aload_n hx hb dX31_above_79 rfl (lv_at hl 0 rfl) ?_
      refine k_get X hH in_X31 0 rfl hc 3 (by decide) q1428 rfl dX31_above_80 ?_
      refine lv_iload_n hx hb dX31_above_83 rfl (lv_at hl 1 rfl) ?_
      refine lv_iconst (v := 0) hx hb dX31_above_84 (by decide) ?_
      obtain ⟨f_closed_10, ef_closed_10⟩ : ∃ y : Nat → Int32, y = upd f_closed x3.toNatClampNeg 0 := ⟨_, rfl⟩
      refine k_iast X hH 3 2 rfl rfl hw.1 dX31_above_85 ef_closed_10 (ws1 := (wX31 ci ad d f_own f_rows f_uppers f_closed_10 f_chosen f_fails f_counts f_seen)) rfl (fun H locs hH => ?_)
      have hw := hw.2 f_closed_10 ef_closed_10
      refine lv_iload_n hx hb dX31_above_86 rfl (lv_at hl 1 rfl) ?_
      refine lv_istore (lv' := [(4, .int x3), (0, .ref (ad 0)), (3, .int x3)]) hx hb dX31_above_87 hl (by decide) rfl (fun ls hl => ?_)
      obtain ⟨fu, hw⟩ := hw
      refine atX31_above_89 hc X ?_ fu x3 f_closed_10 hw _ _ ls hH (lv_sub hl [1, 2, 0] rfl)
      · intro f_closed_15 hw H locs ls hH hl
        obtain ⟨x3_16, ex3_16⟩ : ∃ y : Int32, y = x3 + 1 := ⟨_, rfl⟩
        have hw := hw x3_16 ex3_16
        refine lv_iinc (v := x3_16) (lv' := [(3, .int x3_16), (0, .ref (ad 0))]) hx hb dX31_above_120 hl (k := 1) rfl (by rw [ex3_16]; rfl) (by decide) rfl (fun ls hl => ?_)
        refine lv_goto (tgt := 73) hx hb dX31_above_123 (by decide) ?_
        exact ih x3_16 f_closed_15 hw _ _ ls hH (lv_sub hl [1, 0] rfl)
set_option maxHeartbeats 4000000 in
theorem atX31_above_47 {p : Program} {l : Launch} {e : Env} {s : State} {m : MethodId} {args : Array Value} {below : List Frame} {meth : Method} {c : Code} {dC : Nat → ClassId} {dI : Nat → Nat → Nat} {cl : List vw_C} {ci : Nat} (hc : cl[ci]? = some (RX31, TX31, 8)) {ad : Nat → Nat} {d : Nat → ClassId} {A : Nat → Prop} {post : Int32 → (Nat → Int32) → (Nat → Int32) → (Nat → Int32) → (Nat → Int32) → Prop} {f_own : Nat → Int32} {f_rows : Int32} {f_chosen : Nat → Int32} {f_seen : Nat → Int32} (X : kX p s m args meth c cX31_above 5 RX31 (some .int) (dC, dI) cl (tX31 d))     :
    ∀ (x1 : Int32) (x2 : Int32) (f_uppers : Nat → Int32) (f_closed : Nat → Int32) (f_fails : Nat → Int32) (f_counts : Nat → Int32), wX31_above_47 post x1 x2 f_own f_uppers f_closed f_chosen f_fails f_counts → ∀ (H : Heap) (locs : List Loc) (ls : Array Slot), kH (dC, dI) cl A s.heap H locs (wX31 ci ad d f_own f_rows f_uppers f_closed f_chosen f_fails f_counts f_seen) → lv_has ls 5 [(0, .ref (ad 0)), (1, .int x1), (2, .int x2)] → W p l e ({ frames := 5, cells := 0, slots := 0, locals := 116 } : Room) s m args below meth c H locs 0 0 (MQ below (va_Qi (fun (r : Int32) (u : (Nat → Int32) × (Nat → Int32) × (Nat → Int32) × (Nat → Int32)) => post r (u.1) (u.2.1) (u.2.2.1) (u.2.2.2)) (kB (dC, dI) cl (tX31 d) A (fun u : (Nat → Int32) × (Nat → Int32) × (Nat → Int32) × (Nat → Int32) => (wX31 ci ad d f_own f_rows (u.1) (u.2.1) f_chosen (u.2.2.1) (u.2.2.2) f_seen))) A) args s 0 0 A) (F0 m 47 ls []) := by
  have hx := X.1.1
  have hb := X.1.2.1
  intro x1 x2 f_uppers f_closed f_fails f_counts hw H locs ls hH hl
  unfold wX31_above_47 at hw
  refine lv_aload_n hx hb dX31_above_47 rfl (lv_at hl 0 rfl) ?_
  refine k_get X hH in_X31 0 rfl hc 2 (by decide) q1427 rfl dX31_above_48 ?_
  refine lv_iload_n hx hb dX31_above_51 rfl (lv_at hl 1 rfl) ?_
  refine k_iald X hH 2 1 rfl rfl hw.1 dX31_above_52 ?_
  have hw := hw.2
  refine lv_iload_n hx hb dX31_above_53 rfl (lv_at hl 2 rfl) ?_
  refine lv_icmp_ne (tgt := 59) hx hb dX31_above_54 (by decide) (fun c_5 => ?_) (fun c_5 => ?_)
  · have hw := hw.2 c_5
    refine lv_aload_n hx hb dX31_above_59 rfl (lv_at hl 0 rfl) ?_
    refine lv_iconst (v := (-1)) hx hb dX31_above_60 (by decide) ?_
    refine k_v0 hH (k_runV (As := [.int ((-1))]) (rest := []) X hH.1 hH.2.1 X.2.2.2 (walkX31_weighAll hc hw) (cwV 1 X.1.2.2.2.2 gX31_57 rfl rfl rfl hX31_weighAll ⟨Nat.le_of_ble_eq_true rfl, Nat.le_of_ble_eq_true rfl⟩) hc (q0 := 0) rfl rfl hl.1 rfl (Nat.le_of_ble_eq_true rfl) dX31_above_61 ⟨Nat.le_refl 0, Nat.le_refl 0⟩) (fun u H locs hw hH => ?_)
    obtain ⟨f_fails_6, f_counts_7⟩ := u
    have hH : kH (dC, dI) cl A s.heap H locs (wX31 ci ad d f_own f_rows f_uppers f_closed f_chosen f_fails_6 f_counts_7 f_seen) := hH
    refine lv_aload_n hx hb dX31_above_64 rfl (lv_at hl 0 rfl) ?_
    refine k_get X hH in_X31 0 rfl hc 2 (by decide) q1427 rfl dX31_above_65 ?_
    refine lv_iload_n hx hb dX31_above_68 rfl (lv_at hl 1 rfl) ?_
    refine lv_iload_n hx hb dX31_above_69 rfl (lv_at hl 2 rfl) ?_
    obtain ⟨f_uppers_8, ef_uppers_8⟩ : ∃ y : Nat → Int32, y = upd f_uppers x1.toNatClampNeg x2 := ⟨_, rfl⟩
    refine k_iast X hH 2 1 rfl rfl hw.1 dX31_above_70 ef_uppers_8 (ws1 := (wX31 ci ad d f_own f_rows f_uppers_8 f_closed f_chosen f_fails_6 f_counts_7 f_seen)) rfl (fun H locs hH => ?_)
    have hw := hw.2 f_uppers_8 ef_uppers_8
    refine lv_iconst (v := 0) hx hb dX31_above_71 (by decide) ?_
    refine lv_istore_n (lv' := [(3, .int 0), (0, .ref (ad 0)), (1, .int x1), (2, .int x2)]) hx hb dX31_above_72 rfl hl (by decide) rfl (fun ls hl => ?_)
    obtain ⟨fu, hw⟩ := hw
    refine atX31_above_73 hc X ?_ fu 0 f_closed hw _ _ ls hH (lv_sub hl [1, 0] rfl)
    · intro f_closed_17 hw H locs ls hH hl
      refine lv_aload_n hx hb dX31_above_126 rfl (lv_at hl 0 rfl) ?_
      refine lv_iconst (v := 1) hx hb dX31_above_127 (by decide) ?_
      refine k_v0 hH (k_runV (As := [.int 1]) (rest := []) X hH.1 hH.2.1 X.2.2.2 (walkX31_weighAll hc hw) (cwV 1 X.1.2.2.2.2 gX31_57 rfl rfl rfl hX31_weighAll ⟨Nat.le_of_ble_eq_true rfl, Nat.le_of_ble_eq_true rfl⟩) hc (q0 := 0) rfl rfl hl.1 rfl (Nat.le_of_ble_eq_true rfl) dX31_above_128 ⟨Nat.le_refl 0, Nat.le_refl 0⟩) (fun u H locs hw hH => ?_)
      obtain ⟨f_fails_18, f_counts_19⟩ := u
      have hH : kH (dC, dI) cl A s.heap H locs (wX31 ci ad d f_own f_rows f_uppers_8 f_closed_17 f_chosen f_fails_18 f_counts_19 f_seen) := hH
      refine lv_iconst (v := 1) hx hb dX31_above_131 (by decide) ?_
      exact k_iret (v := 1) X hH (f_uppers_8, f_closed_17, f_fails_18, f_counts_19) hw rfl rfl dX31_above_132
  · have hw := hw.1 c_5
    refine lv_iconst (v := 0) hx hb dX31_above_57 (by decide) ?_
    exact k_iret (v := 0) X hH (f_uppers, f_closed, f_fails, f_counts) hw rfl rfl dX31_above_58
set_option maxHeartbeats 4000000 in
theorem atX31_above_25 {p : Program} {l : Launch} {e : Env} {s : State} {m : MethodId} {args : Array Value} {below : List Frame} {meth : Method} {c : Code} {dC : Nat → ClassId} {dI : Nat → Nat → Nat} {cl : List vw_C} {ci : Nat} (hc : cl[ci]? = some (RX31, TX31, 8)) {ad : Nat → Nat} {d : Nat → ClassId} {A : Nat → Prop} {post : Int32 → (Nat → Int32) → (Nat → Int32) → (Nat → Int32) → (Nat → Int32) → Prop} {f_own : Nat → Int32} {f_rows : Int32} {f_chosen : Nat → Int32} {f_seen : Nat → Int32} (X : kX p s m args meth c cX31_above 5 RX31 (some .int) (dC, dI) cl (tX31 d))     :
    ∀ (x1 : Int32) (x2 : Int32) (f_uppers : Nat → Int32) (f_closed : Nat → Int32) (f_fails : Nat → Int32) (f_counts : Nat → Int32), wX31_above_25 post x1 x2 f_own f_uppers f_closed f_chosen f_fails f_counts → ∀ (H : Heap) (locs : List Loc) (ls : Array Slot), kH (dC, dI) cl A s.heap H locs (wX31 ci ad d f_own f_rows f_uppers f_closed f_chosen f_fails f_counts f_seen) → lv_has ls 5 [(0, .ref (ad 0)), (1, .int x1), (2, .int x2)] → W p l e ({ frames := 5, cells := 0, slots := 0, locals := 116 } : Room) s m args below meth c H locs 0 0 (MQ below (va_Qi (fun (r : Int32) (u : (Nat → Int32) × (Nat → Int32) × (Nat → Int32) × (Nat → Int32)) => post r (u.1) (u.2.1) (u.2.2.1) (u.2.2.2)) (kB (dC, dI) cl (tX31 d) A (fun u : (Nat → Int32) × (Nat → Int32) × (Nat → Int32) × (Nat → Int32) => (wX31 ci ad d f_own f_rows (u.1) (u.2.1) f_chosen (u.2.2.1) (u.2.2.2) f_seen))) A) args s 0 0 A) (F0 m 25 ls []) := by
  have hx := X.1.1
  have hb := X.1.2.1
  intro x1 x2 f_uppers f_closed f_fails f_counts hw H locs ls hH hl
  unfold wX31_above_25 at hw
  refine lv_iload_n hx hb dX31_above_25 rfl (lv_at hl 2 rfl) ?_
  refine lv_iconst (v := (-1)) hx hb dX31_above_26 (by decide) ?_
  refine lv_icmp_eq (tgt := 47) hx hb dX31_above_27 (by decide) (fun c_4 => ?_) (fun c_4 => ?_)
  · have hw := hw.1 c_4
    exact atX31_above_47 hc X x1 x2 f_uppers f_closed f_fails f_counts hw _ _ ls hH (lv_sub hl [0, 1, 2] rfl)
  · have hw := hw.2 c_4
    refine lv_aload_n hx hb dX31_above_30 rfl (lv_at hl 0 rfl) ?_
    refine k_get X hH in_X31 0 rfl hc 3 (by decide) q1428 rfl dX31_above_31 ?_
    refine lv_iload_n hx hb dX31_above_34 rfl (lv_at hl 2 rfl) ?_
    refine k_iald X hH 3 2 rfl rfl hw.1 dX31_above_35 ?_
    have hw := hw.2
    refine lv_iload_n hx hb dX31_above_36 rfl (lv_at hl 1 rfl) ?_
    refine lv_ishr hx hb dX31_above_37 ?_
    refine lv_iconst (v := 1) hx hb dX31_above_38 (by decide) ?_
    refine lv_iand hx hb dX31_above_39 ?_
    refine lv_iconst (v := 1) hx hb dX31_above_40 (by decide) ?_
    refine lv_icmp_ne (tgt := 47) hx hb dX31_above_41 (by decide) (fun c_20 => ?_) (fun c_20 => ?_)
    · have hw := hw.2 c_20
      exact atX31_above_47 hc X x1 x2 f_uppers f_closed f_fails f_counts hw _ _ ls hH (lv_sub hl [0, 1, 2] rfl)
    · have hw := hw.1 c_20
      refine lv_bipush (v := (-3)) hx hb dX31_above_44 (by decide) ?_
      exact k_iret (v := (-3)) X hH (f_uppers, f_closed, f_fails, f_counts) hw rfl rfl dX31_above_46
set_option maxHeartbeats 4000000 in
theorem walkX31_above {l : Launch} {dC : Nat → ClassId} {dI : Nat → Nat → Nat} {cl : List vw_C} {ci : Nat} (hc : cl[ci]? = some (RX31, TX31, 8)) {ad : Nat → Nat} {d : Nat → ClassId} {sz : Nat} {f_own : Nat → Int32} {f_rows : Int32} {f_uppers : Nat → Int32} {f_closed : Nat → Int32} {f_chosen : Nat → Int32} {f_fails : Nat → Int32} {f_counts : Nat → Int32} {f_seen : Nat → Int32} {x1 : Int32} {x2 : Int32} {post : Int32 → (Nat → Int32) → (Nat → Int32) → (Nat → Int32) → (Nat → Int32) → Prop} (hw : wpX31_above post f_own f_uppers f_closed f_chosen f_fails f_counts x1 x2) :
    Met l yX31_above (ws_ yX31_above cX31_above 5 (some .int)) ({ frames := 5, cells := 0, slots := 0, locals := 116 } : Room) (kPc (dC, dI) cl (tX31 d) [.ref (ad 0), .int x1, .int x2] sz (wX31 ci ad d f_own f_rows f_uppers f_closed f_chosen f_fails f_counts f_seen)) (va_Qi (fun (r : Int32) (u : (Nat → Int32) × (Nat → Int32) × (Nat → Int32) × (Nat → Int32)) => post r (u.1) (u.2.1) (u.2.2.1) (u.2.2.2)) (kB (dC, dI) cl (tX31 d) (va_A (wX31 ci ad d f_own f_rows f_uppers f_closed f_chosen f_fails f_counts f_seen) sz) (fun u : (Nat → Int32) × (Nat → Int32) × (Nat → Int32) × (Nat → Int32) => (wX31 ci ad d f_own f_rows (u.1) (u.2.1) f_chosen (u.2.2.1) (u.2.2.2) f_seen))) (va_A (wX31 ci ad d f_own f_rows f_uppers f_closed f_chosen f_fails f_counts f_seen) sz)) 0 0 (va_A (wX31 ci ad d f_own f_rows f_uppers f_closed f_chosen f_fails f_counts f_seen) sz) := by
  refine k_enter (by decide) (Nat.le_of_ble_eq_true rfl) ?_
  intro p e s m below meth c ls X hsz hH hl
  subst hsz
  generalize va_A (wX31 ci ad d f_own f_rows f_uppers f_closed f_chosen f_fails f_counts f_seen) s.heap.size = A at hH ⊢
  have hx := X.1.1
  have hb := X.1.2.1
  have hl : lv_has ls 5 [(0, .ref (ad 0)), (1, .int x1), (2, .int x2)] := hl
  unfold wpX31_above at hw
  refine lv_iload_n hx hb dX31_above_0 rfl (lv_at hl 1 rfl) ?_
  refine lv_bipush (v := 32) hx hb dX31_above_1 (by decide) ?_
  refine k_i0 hH (k_runS (As := [.int x1, .int 32]) (rest := []) X hH.1 hH.2.1 X.2.2.2 (walkX31_isIn hc hw) (va_cwS 2 X.1.2.2.2.2 gX31_31 rfl rfl rfl hX31_isIn ⟨Nat.le_of_ble_eq_true rfl, Nat.le_of_ble_eq_true rfl⟩) rfl hl.1 rfl (Nat.le_of_ble_eq_true rfl) dX31_above_3 ⟨Nat.le_refl 0, Nat.le_refl 0⟩) (fun r_1 _ H locs hw hH => ?_)
  have hH : kH (dC, dI) cl A s.heap H locs (wX31 ci ad d f_own f_rows f_uppers f_closed f_chosen f_fails f_counts f_seen) := hH
  refine lv_if_eq (tgt := 23) hx hb dX31_above_6 (by decide) (fun c_2 => ?_) (fun c_2 => ?_)
  · have hw := hw.1 c_2
    refine lv_iconst (v := (-1)) hx hb dX31_above_23 (by decide) ?_
    exact k_iret (v := (-1)) X hH (f_uppers, f_closed, f_fails, f_counts) hw rfl rfl dX31_above_24
  · have hw := hw.2 c_2
    refine lv_iload_n hx hb dX31_above_9 rfl (lv_at hl 2 rfl) ?_
    refine lv_iconst (v := (-1)) hx hb dX31_above_10 (by decide) ?_
    refine lv_icmp_eq (tgt := 25) hx hb dX31_above_11 (by decide) (fun c_3 => ?_) (fun c_3 => ?_)
    · have hw := hw.1 c_3
      exact atX31_above_25 hc X x1 x2 f_uppers f_closed f_fails f_counts hw _ _ ls hH (lv_sub hl [0, 1, 2] rfl)
    · have hw := hw.2 c_3
      refine lv_iload_n hx hb dX31_above_14 rfl (lv_at hl 2 rfl) ?_
      refine lv_bipush (v := 32) hx hb dX31_above_15 (by decide) ?_
      refine k_i0 hH (k_runS (As := [.int x2, .int 32]) (rest := []) X hH.1 hH.2.1 X.2.2.2 (walkX31_isIn hc hw) (va_cwS 2 X.1.2.2.2.2 gX31_31 rfl rfl rfl hX31_isIn ⟨Nat.le_of_ble_eq_true rfl, Nat.le_of_ble_eq_true rfl⟩) rfl hl.1 rfl (Nat.le_of_ble_eq_true rfl) dX31_above_17 ⟨Nat.le_refl 0, Nat.le_refl 0⟩) (fun r_21 _ H locs hw hH => ?_)
      have hH : kH (dC, dI) cl A s.heap H locs (wX31 ci ad d f_own f_rows f_uppers f_closed f_chosen f_fails f_counts f_seen) := hH
      refine lv_if_ne (tgt := 25) hx hb dX31_above_20 (by decide) (fun c_22 => ?_) (fun c_22 => ?_)
      · have hw := hw.2 c_22
        exact atX31_above_25 hc X x1 x2 f_uppers f_closed f_fails f_counts hw _ _ ls hH (lv_sub hl [0, 1, 2] rfl)
      · have hw := hw.1 c_22
        refine lv_iconst (v := (-1)) hx hb dX31_above_23 (by decide) ?_
        exact k_iret (v := (-1)) X hH (f_uppers, f_closed, f_fails, f_counts) hw rfl rfl dX31_above_24
set_option maxHeartbeats 4000000 in
theorem atX31_kept_4 {p : Program} {l : Launch} {e : Env} {s : State} {m : MethodId} {args : Array Value} {below : List Frame} {meth : Method} {c : Code} {dC : Nat → ClassId} {dI : Nat → Nat → Nat} {cl : List vw_C} {ci : Nat} (hc : cl[ci]? = some (RX31, TX31, 8)) {ad : Nat → Nat} {d : Nat → ClassId} {A : Nat → Prop} {post : Int32 → Prop} {f_own : Nat → Int32} {f_rows : Int32} {f_uppers : Nat → Int32} {f_closed : Nat → Int32} {f_chosen : Nat → Int32} {f_fails : Nat → Int32} {f_counts : Nat → Int32} {f_seen : Nat → Int32} (X : kX p s m args meth c cX31_kept 3 RX31 (some .int) (dC, dI) cl (tX31 d)) {K33 : Int32 → Prop}   (hk33 : ∀ (x1 : Int32), K33 x1 → ∀ (H : Heap) (locs : List Loc) (ls : Array Slot), kH (dC, dI) cl A s.heap H locs (wX31 ci ad d f_own f_rows f_uppers f_closed f_chosen f_fails f_counts f_seen) → lv_has ls 3 [(1, .int x1)] → W p l e ({ frames := 0, cells := 0, slots := 0, locals := 0 } : Room) s m args below meth c H locs 0 0 (MQ below (va_Qi (fun (r : Int32) (_ : Unit) => post r) (kB (dC, dI) cl (tX31 d) A (fun _ : Unit => (wX31 ci ad d f_own f_rows f_uppers f_closed f_chosen f_fails f_counts f_seen))) A) args s 0 0 A) (F0 m 33 ls [])) :
    ∀ (nn : Nat) (x1 : Int32) (x2 : Int32), wX31_kept_4 K33 f_fails nn x1 x2 → ∀ (H : Heap) (locs : List Loc) (ls : Array Slot), kH (dC, dI) cl A s.heap H locs (wX31 ci ad d f_own f_rows f_uppers f_closed f_chosen f_fails f_counts f_seen) → lv_has ls 3 [(0, .ref (ad 0)), (1, .int x1), (2, .int x2)] → W p l e ({ frames := 0, cells := 0, slots := 0, locals := 0 } : Room) s m args below meth c H locs 0 0 (MQ below (va_Qi (fun (r : Int32) (_ : Unit) => post r) (kB (dC, dI) cl (tX31 d) A (fun _ : Unit => (wX31 ci ad d f_own f_rows f_uppers f_closed f_chosen f_fails f_counts f_seen))) A) args s 0 0 A) (F0 m 4 ls []) := by
  have hx := X.1.1
  have hb := X.1.2.1
  intro nn
  induction nn with
  | zero =>
    intro x1 x2 hw
    exact False.elim hw
  | succ n ih =>
    intro x1 x2 hw H locs ls hH hl
    rw [wX31_kept_4] at hw
    refine lv_iload_n hx hb dX31_kept_4 rfl (lv_at hl 2 rfl) ?_
    refine lv_bipush (v := 40) hx hb dX31_kept_5 (by decide) ?_
    refine lv_icmp_ge (tgt := 33) hx hb dX31_kept_7 (by decide) (fun c_1 => ?_) (fun c_1 => ?_)
    · have hw := hw.1 c_1
      exact hk33 x1 hw _ _ ls hH (lv_sub hl [1] rfl)
    · have hw := hw.2 c_1
      refine lv_iload_n hx hb dX31_kept_10 rfl (lv_at hl 1 rfl) ?_
      refine lv_aload_n hx hb dX31_kept_11 rfl (lv_at hl 0 rfl) ?_
      refine k_get X hH in_X31 0 rfl hc 5 (by decide) q1430 rfl dX31_kept_12 ?_
      refine lv_iload_n hx hb dX31_kept_15 rfl (lv_at hl 2 rfl) ?_
      refine k_iald X hH 5 4 rfl rfl hw.1 dX31_kept_16 ?_
      have hw := hw.2
      refine lv_if_ne (tgt := 24) hx hb dX31_kept_17 (by decide) (fun c_2 => ?_) (fun c_2 => ?_)
      · have hw := hw.2 c_2
        refine lv_iconst (v := 0) hx hb dX31_kept_24 (by decide) ?_
        refine lv_iadd hx hb dX31_kept_25 ?_
        refine lv_topi (fun x1_3 ex1_3 => ?_)
        have hw := hw x1_3 ex1_3
        refine lv_istore_n (lv' := [(1, .int x1_3), (0, .ref (ad 0)), (2, .int x2)]) hx hb dX31_kept_26 rfl hl (by decide) rfl (fun ls hl => ?_)
        obtain ⟨x2_4, ex2_4⟩ : ∃ y : Int32, y = x2 + 1 := ⟨_, rfl⟩
        have hw := hw x2_4 ex2_4
        refine lv_iinc (v := x2_4) (lv' := [(2, .int x2_4), (1, .int x1_3), (0, .ref (ad 0))]) hx hb dX31_kept_27 hl (k := 2) rfl (by rw [ex2_4]; rfl) (by decide) rfl (fun ls hl => ?_)
        refine lv_goto (tgt := 4) hx hb dX31_kept_30 (by decide) ?_
        exact ih x1_3 x2_4 hw _ _ ls hH (lv_sub hl [2, 1, 0] rfl)
      · have hw := hw.1 c_2
        refine lv_iconst (v := 1) hx hb dX31_kept_20 (by decide) ?_
        refine lv_goto (tgt := 25) hx hb dX31_kept_21 (by decide) ?_
        refine lv_iadd hx hb dX31_kept_25 ?_
        refine lv_topi (fun x1_5 ex1_5 => ?_)
        have hw := hw x1_5 ex1_5
        refine lv_istore_n (lv' := [(1, .int x1_5), (0, .ref (ad 0)), (2, .int x2)]) hx hb dX31_kept_26 rfl hl (by decide) rfl (fun ls hl => ?_)
        obtain ⟨x2_6, ex2_6⟩ : ∃ y : Int32, y = x2 + 1 := ⟨_, rfl⟩
        have hw := hw x2_6 ex2_6
        refine lv_iinc (v := x2_6) (lv' := [(2, .int x2_6), (1, .int x1_5), (0, .ref (ad 0))]) hx hb dX31_kept_27 hl (k := 2) rfl (by rw [ex2_6]; rfl) (by decide) rfl (fun ls hl => ?_)
        refine lv_goto (tgt := 4) hx hb dX31_kept_30 (by decide) ?_
        exact ih x1_5 x2_6 hw _ _ ls hH (lv_sub hl [2, 1, 0] rfl)
set_option maxHeartbeats 4000000 in
theorem walkX31_kept {l : Launch} {dC : Nat → ClassId} {dI : Nat → Nat → Nat} {cl : List vw_C} {ci : Nat} (hc : cl[ci]? = some (RX31, TX31, 8)) {ad : Nat → Nat} {d : Nat → ClassId} {sz : Nat} {f_own : Nat → Int32} {f_rows : Int32} {f_uppers : Nat → Int32} {f_closed : Nat → Int32} {f_chosen : Nat → Int32} {f_fails : Nat → Int32} {f_counts : Nat → Int32} {f_seen : Nat → Int32}  {post : Int32 → Prop} (hw : wpX31_kept post f_fails ) :
    Met l yX31_kept (ws_ yX31_kept cX31_kept 3 (some .int)) ({ frames := 0, cells := 0, slots := 0, locals := 0 } : Room) (kPc (dC, dI) cl (tX31 d) [.ref (ad 0)] sz (wX31 ci ad d f_own f_rows f_uppers f_closed f_chosen f_fails f_counts f_seen)) (va_Qi (fun (r : Int32) (_ : Unit) => post r) (kB (dC, dI) cl (tX31 d) (va_A (wX31 ci ad d f_own f_rows f_uppers f_closed f_chosen f_fails f_counts f_seen) sz) (fun _ : Unit => (wX31 ci ad d f_own f_rows f_uppers f_closed f_chosen f_fails f_counts f_seen))) (va_A (wX31 ci ad d f_own f_rows f_uppers f_closed f_chosen f_fails f_counts f_seen) sz)) 0 0 (va_A (wX31 ci ad d f_own f_rows f_uppers f_closed f_chosen f_fails f_counts f_seen) sz) := by
  refine k_enter (by decide) (Nat.le_of_ble_eq_true rfl) ?_
  intro p e s m below meth c ls X hsz hH hl
  subst hsz
  generalize va_A (wX31 ci ad d f_own f_rows f_uppers f_closed f_chosen f_fails f_counts f_seen) s.heap.size = A at hH ⊢
  have hx := X.1.1
  have hb := X.1.2.1
  have hl : lv_has ls 3 [(0, .ref (ad 0))] := hl
  unfold wpX31_kept at hw
  refine lv_iconst (v := 0) hx hb dX31_kept_0 (by decide) ?_
  refine lv_istore_n (lv' := [(1, .int 0), (0, .ref (ad 0))]) hx hb dX31_kept_1 rfl hl (by decide) rfl (fun ls hl => ?_)
  refine lv_iconst (v := 0) hx hb dX31_kept_2 (by decide) ?_
  refine lv_istore_n (lv' := [(2, .int 0), (1, .int 0), (0, .ref (ad 0))]) hx hb dX31_kept_3 rfl hl (by decide) rfl (fun ls hl => ?_)
  obtain ⟨fu, hw⟩ := hw
  refine atX31_kept_4 hc X ?_ fu 0 0 hw _ _ ls hH (lv_sub hl [2, 1, 0] rfl)
  · intro x1_7 hw H locs ls hH hl
    refine lv_iload_n hx hb dX31_kept_33 rfl (lv_at hl 0 rfl) ?_
    exact k_iret (v := x1_7) X hH () hw rfl rfl dX31_kept_34
set_option maxHeartbeats 4000000 in
theorem walkX31_choose {l : Launch} {dC : Nat → ClassId} {dI : Nat → Nat → Nat} {cl : List vw_C} {ci : Nat} (hc : cl[ci]? = some (RX31, TX31, 8)) {ad : Nat → Nat} {d : Nat → ClassId} {sz : Nat} {f_own : Nat → Int32} {f_rows : Int32} {f_uppers : Nat → Int32} {f_closed : Nat → Int32} {f_chosen : Nat → Int32} {f_fails : Nat → Int32} {f_counts : Nat → Int32} {f_seen : Nat → Int32} {x1 : Int32} {x2 : Int32} {x3 : Int32} {post : Int32 → (Nat → Int32) → (Nat → Int32) → (Nat → Int32) → Prop} (hw : wpX31_choose post f_own f_closed f_chosen f_fails f_counts x1 x2 x3) :
    Met l yX31_choose (ws_ yX31_choose cX31_choose 4 (some .int)) ({ frames := 5, cells := 0, slots := 0, locals := 116 } : Room) (kPc (dC, dI) cl (tX31 d) [.ref (ad 0), .int x1, .int x2, .int x3] sz (wX31 ci ad d f_own f_rows f_uppers f_closed f_chosen f_fails f_counts f_seen)) (va_Qi (fun (r : Int32) (u : (Nat → Int32) × (Nat → Int32) × (Nat → Int32)) => post r (u.1) (u.2.1) (u.2.2)) (kB (dC, dI) cl (tX31 d) (va_A (wX31 ci ad d f_own f_rows f_uppers f_closed f_chosen f_fails f_counts f_seen) sz) (fun u : (Nat → Int32) × (Nat → Int32) × (Nat → Int32) => (wX31 ci ad d f_own f_rows f_uppers f_closed (u.1) (u.2.1) (u.2.2) f_seen))) (va_A (wX31 ci ad d f_own f_rows f_uppers f_closed f_chosen f_fails f_counts f_seen) sz)) 0 0 (va_A (wX31 ci ad d f_own f_rows f_uppers f_closed f_chosen f_fails f_counts f_seen) sz) := by
  refine k_enter (by decide) (Nat.le_of_ble_eq_true rfl) ?_
  intro p e s m below meth c ls X hsz hH hl
  subst hsz
  generalize va_A (wX31 ci ad d f_own f_rows f_uppers f_closed f_chosen f_fails f_counts f_seen) s.heap.size = A at hH ⊢
  have hx := X.1.1
  have hb := X.1.2.1
  have hl : lv_has ls 4 [(0, .ref (ad 0)), (1, .int x1), (2, .int x2), (3, .int x3)] := hl
  unfold wpX31_choose at hw
  refine lv_iload_n hx hb dX31_choose_0 rfl (lv_at hl 1 rfl) ?_
  refine lv_bipush (v := 8) hx hb dX31_choose_1 (by decide) ?_
  refine k_i0 hH (k_runS (As := [.int x1, .int 8]) (rest := []) X hH.1 hH.2.1 X.2.2.2 (walkX31_isIn hc hw) (va_cwS 2 X.1.2.2.2.2 gX31_31 rfl rfl rfl hX31_isIn ⟨Nat.le_of_ble_eq_true rfl, Nat.le_of_ble_eq_true rfl⟩) rfl hl.1 rfl (Nat.le_of_ble_eq_true rfl) dX31_choose_3 ⟨Nat.le_refl 0, Nat.le_refl 0⟩) (fun r_1 _ H locs hw hH => ?_)
  have hH : kH (dC, dI) cl A s.heap H locs (wX31 ci ad d f_own f_rows f_uppers f_closed f_chosen f_fails f_counts f_seen) := hH
  refine lv_if_eq (tgt := 18) hx hb dX31_choose_6 (by decide) (fun c_2 => ?_) (fun c_2 => ?_)
  · have hw := hw.1 c_2
    refine lv_iconst (v := (-1)) hx hb dX31_choose_18 (by decide) ?_
    exact k_iret (v := (-1)) X hH (f_chosen, f_fails, f_counts) hw rfl rfl dX31_choose_19
  · have hw := hw.2 c_2
    refine lv_iload_n hx hb dX31_choose_9 rfl (lv_at hl 2 rfl) ?_
    refine lv_bipush (v := 32) hx hb dX31_choose_10 (by decide) ?_
    refine k_i0 hH (k_runS (As := [.int x2, .int 32]) (rest := []) X hH.1 hH.2.1 X.2.2.2 (walkX31_isIn hc hw) (va_cwS 2 X.1.2.2.2.2 gX31_31 rfl rfl rfl hX31_isIn ⟨Nat.le_of_ble_eq_true rfl, Nat.le_of_ble_eq_true rfl⟩) rfl hl.1 rfl (Nat.le_of_ble_eq_true rfl) dX31_choose_12 ⟨Nat.le_refl 0, Nat.le_refl 0⟩) (fun r_3 _ H locs hw hH => ?_)
    have hH : kH (dC, dI) cl A s.heap H locs (wX31 ci ad d f_own f_rows f_uppers f_closed f_chosen f_fails f_counts f_seen) := hH
    refine lv_if_ne (tgt := 20) hx hb dX31_choose_15 (by decide) (fun c_4 => ?_) (fun c_4 => ?_)
    · have hw := hw.2 c_4
      refine lv_aload_n hx hb dX31_choose_20 rfl (lv_at hl 0 rfl) ?_
      refine lv_iconst (v := (-1)) hx hb dX31_choose_21 (by decide) ?_
      refine k_v0 hH (k_runV (As := [.int ((-1))]) (rest := []) X hH.1 hH.2.1 X.2.2.2 (walkX31_weighAll hc hw) (cwV 1 X.1.2.2.2.2 gX31_57 rfl rfl rfl hX31_weighAll ⟨Nat.le_of_ble_eq_true rfl, Nat.le_of_ble_eq_true rfl⟩) hc (q0 := 0) rfl rfl hl.1 rfl (Nat.le_of_ble_eq_true rfl) dX31_choose_22 ⟨Nat.le_refl 0, Nat.le_refl 0⟩) (fun u H locs hw hH => ?_)
      obtain ⟨f_fails_5, f_counts_6⟩ := u
      have hH : kH (dC, dI) cl A s.heap H locs (wX31 ci ad d f_own f_rows f_uppers f_closed f_chosen f_fails_5 f_counts_6 f_seen) := hH
      refine lv_iload_n hx hb dX31_choose_25 rfl (lv_at hl 3 rfl) ?_
      refine lv_if_eq (tgt := 44) hx hb dX31_choose_26 (by decide) (fun c_7 => ?_) (fun c_7 => ?_)
      · have hw := hw.1 c_7
        refine lv_aload_n hx hb dX31_choose_44 rfl (lv_at hl 0 rfl) ?_
        refine k_get X hH in_X31 0 rfl hc 4 (by decide) q1429 rfl dX31_choose_45 ?_
        refine lv_iload_n hx hb dX31_choose_48 rfl (lv_at hl 1 rfl) ?_
        refine lv_dup2_11 hx hb dX31_choose_49 rfl rfl ?_
        refine k_iald X hH 4 3 rfl rfl hw.1 dX31_choose_50 ?_
        have hw := hw.2
        refine lv_iconst (v := 1) hx hb dX31_choose_51 (by decide) ?_
        refine lv_iload_n hx hb dX31_choose_52 rfl (lv_at hl 2 rfl) ?_
        refine lv_ishl hx hb dX31_choose_53 ?_
        refine lv_iconst (v := (-1)) hx hb dX31_choose_54 (by decide) ?_
        refine lv_ixor hx hb dX31_choose_55 ?_
        refine lv_iand hx hb dX31_choose_56 ?_
        refine lv_topi (fun v_8 ev_8 => ?_)
        have hw := hw v_8 ev_8
        obtain ⟨f_chosen_9, ef_chosen_9⟩ : ∃ y : Nat → Int32, y = upd f_chosen x1.toNatClampNeg v_8 := ⟨_, rfl⟩
        refine k_iast X hH 4 3 rfl rfl hw.1 dX31_choose_57 ef_chosen_9 (ws1 := (wX31 ci ad d f_own f_rows f_uppers f_closed f_chosen_9 f_fails_5 f_counts_6 f_seen)) rfl (fun H locs hH => ?_)
        have hw := hw.2 f_chosen_9 ef_chosen_9
        refine lv_aload_n hx hb dX31_choose_58 rfl (lv_at hl 0 rfl) ?_
        refine lv_iconst (v := 1) hx hb dX31_choose_59 (by decide) ?_
        refine k_v0 hH (k_runV (As := [.int 1]) (rest := []) X hH.1 hH.2.1 X.2.2.2 (walkX31_weighAll hc hw) (cwV 1 X.1.2.2.2.2 gX31_57 rfl rfl rfl hX31_weighAll ⟨Nat.le_of_ble_eq_true rfl, Nat.le_of_ble_eq_true rfl⟩) hc (q0 := 0) rfl rfl hl.1 rfl (Nat.le_of_ble_eq_true rfl) dX31_choose_60 ⟨Nat.le_refl 0, Nat.le_refl 0⟩) (fun u H locs hw hH => ?_)
        obtain ⟨f_fails_10, f_counts_11⟩ := u
        have hH : kH (dC, dI) cl A s.heap H locs (wX31 ci ad d f_own f_rows f_uppers f_closed f_chosen_9 f_fails_10 f_counts_11 f_seen) := hH
        refine lv_aload_n hx hb dX31_choose_63 rfl (lv_at hl 0 rfl) ?_
        refine k_i0 hH (k_runV (As := []) (rest := []) X hH.1 hH.2.1 X.2.2.2 (walkX31_kept hc hw) (cwV 0 X.1.2.2.2.2 gX31_61 rfl rfl rfl hX31_kept ⟨Nat.le_of_ble_eq_true rfl, Nat.le_of_ble_eq_true rfl⟩) hc (q0 := 0) rfl rfl hl.1 rfl (Nat.le_of_ble_eq_true rfl) dX31_choose_64 ⟨Nat.le_refl 0, Nat.le_refl 0⟩) (fun r_12 _ H locs hw hH => ?_)
        have hH : kH (dC, dI) cl A s.heap H locs (wX31 ci ad d f_own f_rows f_uppers f_closed f_chosen_9 f_fails_10 f_counts_11 f_seen) := hH
        exact k_iret (v := r_12) X hH (f_chosen_9, f_fails_10, f_counts_11) hw rfl rfl dX31_choose_67
      · have hw := hw.2 c_7
        refine lv_aload_n hx hb dX31_choose_29 rfl (lv_at hl 0 rfl) ?_
        refine k_get X hH in_X31 0 rfl hc 4 (by decide) q1429 rfl dX31_choose_30 ?_
        refine lv_iload_n hx hb dX31_choose_33 rfl (lv_at hl 1 rfl) ?_
        refine lv_dup2_11 hx hb dX31_choose_34 rfl rfl ?_
        refine k_iald X hH 4 3 rfl rfl hw.1 dX31_choose_35 ?_
        have hw := hw.2
        refine lv_iconst (v := 1) hx hb dX31_choose_36 (by decide) ?_
        refine lv_iload_n hx hb dX31_choose_37 rfl (lv_at hl 2 rfl) ?_
        refine lv_ishl hx hb dX31_choose_38 ?_
        refine lv_ior hx hb dX31_choose_39 ?_
        refine lv_topi (fun v_13 ev_13 => ?_)
        have hw := hw v_13 ev_13
        obtain ⟨f_chosen_14, ef_chosen_14⟩ : ∃ y : Nat → Int32, y = upd f_chosen x1.toNatClampNeg v_13 := ⟨_, rfl⟩
        refine k_iast X hH 4 3 rfl rfl hw.1 dX31_choose_40 ef_chosen_14 (ws1 := (wX31 ci ad d f_own f_rows f_uppers f_closed f_chosen_14 f_fails_5 f_counts_6 f_seen)) rfl (fun H locs hH => ?_)
        have hw := hw.2 f_chosen_14 ef_chosen_14
        refine lv_goto (tgt := 58) hx hb dX31_choose_41 (by decide) ?_
        refine lv_aload_n hx hb dX31_choose_58 rfl (lv_at hl 0 rfl) ?_
        refine lv_iconst (v := 1) hx hb dX31_choose_59 (by decide) ?_
        refine k_v0 hH (k_runV (As := [.int 1]) (rest := []) X hH.1 hH.2.1 X.2.2.2 (walkX31_weighAll hc hw) (cwV 1 X.1.2.2.2.2 gX31_57 rfl rfl rfl hX31_weighAll ⟨Nat.le_of_ble_eq_true rfl, Nat.le_of_ble_eq_true rfl⟩) hc (q0 := 0) rfl rfl hl.1 rfl (Nat.le_of_ble_eq_true rfl) dX31_choose_60 ⟨Nat.le_refl 0, Nat.le_refl 0⟩) (fun u H locs hw hH => ?_)
        obtain ⟨f_fails_15, f_counts_16⟩ := u
        have hH : kH (dC, dI) cl A s.heap H locs (wX31 ci ad d f_own f_rows f_uppers f_closed f_chosen_14 f_fails_15 f_counts_16 f_seen) := hH
        refine lv_aload_n hx hb dX31_choose_63 rfl (lv_at hl 0 rfl) ?_
        refine k_i0 hH (k_runV (As := []) (rest := []) X hH.1 hH.2.1 X.2.2.2 (walkX31_kept hc hw) (cwV 0 X.1.2.2.2.2 gX31_61 rfl rfl rfl hX31_kept ⟨Nat.le_of_ble_eq_true rfl, Nat.le_of_ble_eq_true rfl⟩) hc (q0 := 0) rfl rfl hl.1 rfl (Nat.le_of_ble_eq_true rfl) dX31_choose_64 ⟨Nat.le_refl 0, Nat.le_refl 0⟩) (fun r_17 _ H locs hw hH => ?_)
        have hH : kH (dC, dI) cl A s.heap H locs (wX31 ci ad d f_own f_rows f_uppers f_closed f_chosen_14 f_fails_15 f_counts_16 f_seen) := hH
        exact k_iret (v := r_17) X hH (f_chosen_14, f_fails_15, f_counts_16) hw rfl rfl dX31_choose_67
    · have hw := hw.1 c_4
      refine lv_iconst (v := (-1)) hx hb dX31_choose_18 (by decide) ?_
      exact k_iret (v := (-1)) X hH (f_chosen, f_fails, f_counts) hw rfl rfl dX31_choose_19
set_option maxHeartbeats 4000000 in
theorem walkX31_isKept {l : Launch} {dC : Nat → ClassId} {dI : Nat → Nat → Nat} {cl : List vw_C} {ci : Nat} (hc : cl[ci]? = some (RX31, TX31, 8)) {ad : Nat → Nat} {d : Nat → ClassId} {sz : Nat} {f_own : Nat → Int32} {f_rows : Int32} {f_uppers : Nat → Int32} {f_closed : Nat → Int32} {f_chosen : Nat → Int32} {f_fails : Nat → Int32} {f_counts : Nat → Int32} {f_seen : Nat → Int32} {x1 : Int32} {post : Int32 → Prop} (hw : wpX31_isKept post f_fails x1) :
    Met l yX31_isKept (ws_ yX31_isKept cX31_isKept 2 (some .int)) ({ frames := 1, cells := 0, slots := 0, locals := 21 } : Room) (kPc (dC, dI) cl (tX31 d) [.ref (ad 0), .int x1] sz (wX31 ci ad d f_own f_rows f_uppers f_closed f_chosen f_fails f_counts f_seen)) (va_Qi (fun (r : Int32) (_ : Unit) => post r) (kB (dC, dI) cl (tX31 d) (va_A (wX31 ci ad d f_own f_rows f_uppers f_closed f_chosen f_fails f_counts f_seen) sz) (fun _ : Unit => (wX31 ci ad d f_own f_rows f_uppers f_closed f_chosen f_fails f_counts f_seen))) (va_A (wX31 ci ad d f_own f_rows f_uppers f_closed f_chosen f_fails f_counts f_seen) sz)) 0 0 (va_A (wX31 ci ad d f_own f_rows f_uppers f_closed f_chosen f_fails f_counts f_seen) sz) := by
  refine k_enter (by decide) (Nat.le_of_ble_eq_true rfl) ?_
  intro p e s m below meth c ls X hsz hH hl
  subst hsz
  generalize va_A (wX31 ci ad d f_own f_rows f_uppers f_closed f_chosen f_fails f_counts f_seen) s.heap.size = A at hH ⊢
  have hx := X.1.1
  have hb := X.1.2.1
  have hl : lv_has ls 2 [(0, .ref (ad 0)), (1, .int x1)] := hl
  unfold wpX31_isKept at hw
  refine lv_iload_n hx hb dX31_isKept_0 rfl (lv_at hl 1 rfl) ?_
  refine lv_bipush (v := 40) hx hb dX31_isKept_1 (by decide) ?_
  refine k_i0 hH (k_runS (As := [.int x1, .int 40]) (rest := []) X hH.1 hH.2.1 X.2.2.2 (walkX31_isIn hc hw) (va_cwS 2 X.1.2.2.2.2 gX31_31 rfl rfl rfl hX31_isIn ⟨Nat.le_of_ble_eq_true rfl, Nat.le_of_ble_eq_true rfl⟩) rfl hl.1 rfl (Nat.le_of_ble_eq_true rfl) dX31_isKept_3 ⟨Nat.le_refl 0, Nat.le_refl 0⟩) (fun r_1 _ H locs hw hH => ?_)
  have hH : kH (dC, dI) cl A s.heap H locs (wX31 ci ad d f_own f_rows f_uppers f_closed f_chosen f_fails f_counts f_seen) := hH
  refine lv_if_ne (tgt := 13) hx hb dX31_isKept_6 (by decide) (fun c_2 => ?_) (fun c_2 => ?_)
  · have hw := hw.2 c_2
    refine lv_aload_n hx hb dX31_isKept_13 rfl (lv_at hl 0 rfl) ?_
    refine k_get X hH in_X31 0 rfl hc 5 (by decide) q1430 rfl dX31_isKept_14 ?_
    refine lv_iload_n hx hb dX31_isKept_17 rfl (lv_at hl 1 rfl) ?_
    refine k_iald X hH 5 4 rfl rfl hw.1 dX31_isKept_18 ?_
    have hw := hw.2
    refine lv_if_ne (tgt := 26) hx hb dX31_isKept_19 (by decide) (fun c_3 => ?_) (fun c_3 => ?_)
    · have hw := hw.2 c_3
      refine lv_iconst (v := 0) hx hb dX31_isKept_26 (by decide) ?_
      exact k_iret (v := 0) X hH () hw rfl rfl dX31_isKept_27
    · have hw := hw.1 c_3
      refine lv_iconst (v := 1) hx hb dX31_isKept_22 (by decide) ?_
      refine lv_goto (tgt := 27) hx hb dX31_isKept_23 (by decide) ?_
      exact k_iret (v := 1) X hH () hw rfl rfl dX31_isKept_27
  · have hw := hw.1 c_2
    refine lv_iconst (v := (-1)) hx hb dX31_isKept_9 (by decide) ?_
    refine lv_goto (tgt := 27) hx hb dX31_isKept_10 (by decide) ?_
    exact k_iret (v := (-1)) X hH () hw rfl rfl dX31_isKept_27
set_option maxHeartbeats 4000000 in
theorem walkX31_facet {l : Launch} {dC : Nat → ClassId} {dI : Nat → Nat → Nat} {cl : List vw_C} {ci : Nat} (hc : cl[ci]? = some (RX31, TX31, 8)) {ad : Nat → Nat} {d : Nat → ClassId} {sz : Nat} {f_own : Nat → Int32} {f_rows : Int32} {f_uppers : Nat → Int32} {f_closed : Nat → Int32} {f_chosen : Nat → Int32} {f_fails : Nat → Int32} {f_counts : Nat → Int32} {f_seen : Nat → Int32} {x1 : Int32} {x2 : Int32} {post : Int32 → Prop} (hw : wpX31_facet post f_counts x1 x2) :
    Met l yX31_facet (ws_ yX31_facet cX31_facet 3 (some .int)) ({ frames := 1, cells := 0, slots := 0, locals := 21 } : Room) (kPc (dC, dI) cl (tX31 d) [.ref (ad 0), .int x1, .int x2] sz (wX31 ci ad d f_own f_rows f_uppers f_closed f_chosen f_fails f_counts f_seen)) (va_Qi (fun (r : Int32) (_ : Unit) => post r) (kB (dC, dI) cl (tX31 d) (va_A (wX31 ci ad d f_own f_rows f_uppers f_closed f_chosen f_fails f_counts f_seen) sz) (fun _ : Unit => (wX31 ci ad d f_own f_rows f_uppers f_closed f_chosen f_fails f_counts f_seen))) (va_A (wX31 ci ad d f_own f_rows f_uppers f_closed f_chosen f_fails f_counts f_seen) sz)) 0 0 (va_A (wX31 ci ad d f_own f_rows f_uppers f_closed f_chosen f_fails f_counts f_seen) sz) := by
  refine k_enter (by decide) (Nat.le_of_ble_eq_true rfl) ?_
  intro p e s m below meth c ls X hsz hH hl
  subst hsz
  generalize va_A (wX31 ci ad d f_own f_rows f_uppers f_closed f_chosen f_fails f_counts f_seen) s.heap.size = A at hH ⊢
  have hx := X.1.1
  have hb := X.1.2.1
  have hl : lv_has ls 3 [(0, .ref (ad 0)), (1, .int x1), (2, .int x2)] := hl
  unfold wpX31_facet at hw
  refine lv_iload_n hx hb dX31_facet_0 rfl (lv_at hl 1 rfl) ?_
  refine lv_bipush (v := 8) hx hb dX31_facet_1 (by decide) ?_
  refine k_i0 hH (k_runS (As := [.int x1, .int 8]) (rest := []) X hH.1 hH.2.1 X.2.2.2 (walkX31_isIn hc hw) (va_cwS 2 X.1.2.2.2.2 gX31_31 rfl rfl rfl hX31_isIn ⟨Nat.le_of_ble_eq_true rfl, Nat.le_of_ble_eq_true rfl⟩) rfl hl.1 rfl (Nat.le_of_ble_eq_true rfl) dX31_facet_3 ⟨Nat.le_refl 0, Nat.le_refl 0⟩) (fun r_1 _ H locs hw hH => ?_)
  have hH : kH (dC, dI) cl A s.heap H locs (wX31 ci ad d f_own f_rows f_uppers f_closed f_chosen f_fails f_counts f_seen) := hH
  refine lv_if_eq (tgt := 32) hx hb dX31_facet_6 (by decide) (fun c_2 => ?_) (fun c_2 => ?_)
  · have hw := hw.1 c_2
    refine lv_iconst (v := (-1)) hx hb dX31_facet_32 (by decide) ?_
    exact k_iret (v := (-1)) X hH () hw rfl rfl dX31_facet_33
  · have hw := hw.2 c_2
    refine lv_iload_n hx hb dX31_facet_9 rfl (lv_at hl 2 rfl) ?_
    refine lv_bipush (v := 32) hx hb dX31_facet_10 (by decide) ?_
    refine k_i0 hH (k_runS (As := [.int x2, .int 32]) (rest := []) X hH.1 hH.2.1 X.2.2.2 (walkX31_isIn hc hw) (va_cwS 2 X.1.2.2.2.2 gX31_31 rfl rfl rfl hX31_isIn ⟨Nat.le_of_ble_eq_true rfl, Nat.le_of_ble_eq_true rfl⟩) rfl hl.1 rfl (Nat.le_of_ble_eq_true rfl) dX31_facet_12 ⟨Nat.le_refl 0, Nat.le_refl 0⟩) (fun r_3 _ H locs hw hH => ?_)
    have hH : kH (dC, dI) cl A s.heap H locs (wX31 ci ad d f_own f_rows f_uppers f_closed f_chosen f_fails f_counts f_seen) := hH
    refine lv_if_eq (tgt := 32) hx hb dX31_facet_15 (by decide) (fun c_4 => ?_) (fun c_4 => ?_)
    · have hw := hw.1 c_4
      refine lv_iconst (v := (-1)) hx hb dX31_facet_32 (by decide) ?_
      exact k_iret (v := (-1)) X hH () hw rfl rfl dX31_facet_33
    · have hw := hw.2 c_4
      refine lv_aload_n hx hb dX31_facet_18 rfl (lv_at hl 0 rfl) ?_
      refine k_get X hH in_X31 0 rfl hc 6 (by decide) q1431 rfl dX31_facet_19 ?_
      refine lv_bipush (v := 32) hx hb dX31_facet_22 (by decide) ?_
      refine lv_iload_n hx hb dX31_facet_24 rfl (lv_at hl 1 rfl) ?_
      refine lv_imul hx hb dX31_facet_25 ?_
      refine lv_iload_n hx hb dX31_facet_26 rfl (lv_at hl 2 rfl) ?_
      refine lv_iadd hx hb dX31_facet_27 ?_
      refine k_iald X hH 6 5 rfl rfl hw.1 dX31_facet_28 ?_
      have hw := hw.2
      refine lv_goto (tgt := 33) hx hb dX31_facet_29 (by decide) ?_
      exact k_iret (v := f_counts ((32 * x1) + x2).toNatClampNeg) X hH () hw rfl rfl dX31_facet_33
set_option maxHeartbeats 4000000 in
theorem atX31_top_73 {p : Program} {l : Launch} {e : Env} {s : State} {m : MethodId} {args : Array Value} {below : List Frame} {meth : Method} {c : Code} {dC : Nat → ClassId} {dI : Nat → Nat → Nat} {cl : List vw_C} {ci : Nat} (hc : cl[ci]? = some (RX31, TX31, 8)) {ad : Nat → Nat} {d : Nat → ClassId} {A : Nat → Prop} {post : Int32 → Prop} {f_own : Nat → Int32} {f_rows : Int32} {f_uppers : Nat → Int32} {f_closed : Nat → Int32} {f_chosen : Nat → Int32} {f_fails : Nat → Int32} {f_counts : Nat → Int32} {f_seen : Nat → Int32} (X : kX p s m args meth c cX31_top 8 RX31 (some .int) (dC, dI) cl (tX31 d)) {K40 : Int32 → Int32 → Prop} {x1 : Int32} {x2 : Int32} {x3 : Int32} {x5 : Int32}  (hk40 : ∀ (x4 : Int32) (x6 : Int32), K40 x4 x6 → ∀ (H : Heap) (locs : List Loc) (ls : Array Slot), kH (dC, dI) cl A s.heap H locs (wX31 ci ad d f_own f_rows f_uppers f_closed f_chosen f_fails f_counts f_seen) → lv_has ls 8 [(0, .ref (ad 0)), (1, .int x1), (2, .int x2), (3, .int x3), (4, .int x4), (5, .int x5), (6, .int x6)] → W p l e ({ frames := 1, cells := 0, slots := 0, locals := 21 } : Room) s m args below meth c H locs 0 0 (MQ below (va_Qi (fun (r : Int32) (_ : Unit) => post r) (kB (dC, dI) cl (tX31 d) A (fun _ : Unit => (wX31 ci ad d f_own f_rows f_uppers f_closed f_chosen f_fails f_counts f_seen))) A) args s 0 0 A) (F0 m 40 ls [])) :
    ∀ (x4 : Int32) (x6 : Int32) (y0 : Int32), wX31_top_73 K40 x1 x4 x6 y0 f_counts → ∀ (H : Heap) (locs : List Loc) (ls : Array Slot), kH (dC, dI) cl A s.heap H locs (wX31 ci ad d f_own f_rows f_uppers f_closed f_chosen f_fails f_counts f_seen) → lv_has ls 8 [(0, .ref (ad 0)), (1, .int x1), (2, .int x2), (3, .int x3), (4, .int x4), (5, .int x5), (6, .int x6)] → W p l e ({ frames := 1, cells := 0, slots := 0, locals := 21 } : Room) s m args below meth c H locs 0 0 (MQ below (va_Qi (fun (r : Int32) (_ : Unit) => post r) (kB (dC, dI) cl (tX31 d) A (fun _ : Unit => (wX31 ci ad d f_own f_rows f_uppers f_closed f_chosen f_fails f_counts f_seen))) A) args s 0 0 A) (F0 m 73 ls [.int y0]) := by
  have hx := X.1.1
  have hb := X.1.2.1
  intro x4 x6 y0 hw H locs ls hH hl
  unfold wX31_top_73 at hw
  refine lv_istore (lv' := [(7, .int y0), (0, .ref (ad 0)), (1, .int x1), (2, .int x2), (3, .int x3), (4, .int x4), (5, .int x5), (6, .int x6)]) hx hb dX31_top_73 hl (by decide) rfl (fun ls hl => ?_)
  refine lv_iload hx hb dX31_top_75 (lv_at hl 0 rfl) ?_
  refine lv_if_le (tgt := 106) hx hb dX31_top_77 (by decide) (fun c_8 => ?_) (fun c_8 => ?_)
  · have hw := hw.1 c_8
    obtain ⟨x6_9, ex6_9⟩ : ∃ y : Int32, y = x6 + 1 := ⟨_, rfl⟩
    have hw := hw x6_9 ex6_9
    refine lv_iinc (v := x6_9) (lv' := [(6, .int x6_9), (7, .int y0), (0, .ref (ad 0)), (1, .int x1), (2, .int x2), (3, .int x3), (4, .int x4), (5, .int x5)]) hx hb dX31_top_106 hl (k := 7) rfl (by rw [ex6_9]; rfl) (by decide) rfl (fun ls hl => ?_)
    refine lv_goto (tgt := 40) hx hb dX31_top_109 (by decide) ?_
    exact hk40 x4 x6_9 hw _ _ ls hH (lv_sub hl [2, 3, 4, 5, 6, 7, 0] rfl)
  · have hw := hw.2 c_8
    refine lv_iload hx hb dX31_top_80 (lv_at hl 5 rfl) ?_
    refine lv_if_lt (tgt := 102) hx hb dX31_top_82 (by decide) (fun c_10 => ?_) (fun c_10 => ?_)
    · have hw := hw.1 c_10
      refine lv_iload hx hb dX31_top_102 (lv_at hl 7 rfl) ?_
      refine lv_istore (lv' := [(4, .int x6), (7, .int y0), (0, .ref (ad 0)), (1, .int x1), (2, .int x2), (3, .int x3), (5, .int x5), (6, .int x6)]) hx hb dX31_top_104 hl (by decide) rfl (fun ls hl => ?_)
      obtain ⟨x6_11, ex6_11⟩ : ∃ y : Int32, y = x6 + 1 := ⟨_, rfl⟩
      have hw := hw x6_11 ex6_11
      refine lv_iinc (v := x6_11) (lv' := [(6, .int x6_11), (4, .int x6), (7, .int y0), (0, .ref (ad 0)), (1, .int x1), (2, .int x2), (3, .int x3), (5, .int x5)]) hx hb dX31_top_106 hl (k := 7) rfl (by rw [ex6_11]; rfl) (by decide) rfl (fun ls hl => ?_)
      refine lv_goto (tgt := 40) hx hb dX31_top_109 (by decide) ?_
      exact hk40 x6 x6_11 hw _ _ ls hH (lv_sub hl [3, 4, 5, 6, 1, 7, 0] rfl)
    · have hw := hw.2 c_10
      refine lv_iload hx hb dX31_top_85 (lv_at hl 0 rfl) ?_
      refine lv_aload_n hx hb dX31_top_87 rfl (lv_at hl 1 rfl) ?_
      refine k_get X hH in_X31 0 rfl hc 6 (by decide) q1431 rfl dX31_top_88 ?_
      refine lv_bipush (v := 32) hx hb dX31_top_91 (by decide) ?_
      refine lv_iload_n hx hb dX31_top_93 rfl (lv_at hl 2 rfl) ?_
      refine lv_imul hx hb dX31_top_94 ?_
      refine lv_iload hx hb dX31_top_95 (lv_at hl 5 rfl) ?_
      refine lv_iadd hx hb dX31_top_97 ?_
      refine k_iald X hH 6 5 rfl rfl hw.1 dX31_top_98 ?_
      have hw := hw.2
      refine lv_icmp_le (tgt := 106) hx hb dX31_top_99 (by decide) (fun c_12 => ?_) (fun c_12 => ?_)
      · have hw := hw.1 c_12
        obtain ⟨x6_13, ex6_13⟩ : ∃ y : Int32, y = x6 + 1 := ⟨_, rfl⟩
        have hw := hw x6_13 ex6_13
        refine lv_iinc (v := x6_13) (lv' := [(6, .int x6_13), (7, .int y0), (0, .ref (ad 0)), (1, .int x1), (2, .int x2), (3, .int x3), (4, .int x4), (5, .int x5)]) hx hb dX31_top_106 hl (k := 7) rfl (by rw [ex6_13]; rfl) (by decide) rfl (fun ls hl => ?_)
        refine lv_goto (tgt := 40) hx hb dX31_top_109 (by decide) ?_
        exact hk40 x4 x6_13 hw _ _ ls hH (lv_sub hl [2, 3, 4, 5, 6, 7, 0] rfl)
      · have hw := hw.2 c_12
        refine lv_iload hx hb dX31_top_102 (lv_at hl 7 rfl) ?_
        refine lv_istore (lv' := [(4, .int x6), (7, .int y0), (0, .ref (ad 0)), (1, .int x1), (2, .int x2), (3, .int x3), (5, .int x5), (6, .int x6)]) hx hb dX31_top_104 hl (by decide) rfl (fun ls hl => ?_)
        obtain ⟨x6_14, ex6_14⟩ : ∃ y : Int32, y = x6 + 1 := ⟨_, rfl⟩
        have hw := hw x6_14 ex6_14
        refine lv_iinc (v := x6_14) (lv' := [(6, .int x6_14), (4, .int x6), (7, .int y0), (0, .ref (ad 0)), (1, .int x1), (2, .int x2), (3, .int x3), (5, .int x5)]) hx hb dX31_top_106 hl (k := 7) rfl (by rw [ex6_14]; rfl) (by decide) rfl (fun ls hl => ?_)
        refine lv_goto (tgt := 40) hx hb dX31_top_109 (by decide) ?_
        exact hk40 x6 x6_14 hw _ _ ls hH (lv_sub hl [3, 4, 5, 6, 1, 7, 0] rfl)
set_option maxHeartbeats 4000000 in
theorem atX31_top_40 {p : Program} {l : Launch} {e : Env} {s : State} {m : MethodId} {args : Array Value} {below : List Frame} {meth : Method} {c : Code} {dC : Nat → ClassId} {dI : Nat → Nat → Nat} {cl : List vw_C} {ci : Nat} (hc : cl[ci]? = some (RX31, TX31, 8)) {ad : Nat → Nat} {d : Nat → ClassId} {A : Nat → Prop} {post : Int32 → Prop} {f_own : Nat → Int32} {f_rows : Int32} {f_uppers : Nat → Int32} {f_closed : Nat → Int32} {f_chosen : Nat → Int32} {f_fails : Nat → Int32} {f_counts : Nat → Int32} {f_seen : Nat → Int32} (X : kX p s m args meth c cX31_top 8 RX31 (some .int) (dC, dI) cl (tX31 d)) {K112 : Int32 → Prop} {x1 : Int32} {x2 : Int32} {x3 : Int32} {x5 : Int32}  (hk112 : ∀ (x4 : Int32), K112 x4 → ∀ (H : Heap) (locs : List Loc) (ls : Array Slot), kH (dC, dI) cl A s.heap H locs (wX31 ci ad d f_own f_rows f_uppers f_closed f_chosen f_fails f_counts f_seen) → lv_has ls 8 [(0, .ref (ad 0)), (1, .int x1), (2, .int x2), (3, .int x3), (4, .int x4), (5, .int x5)] → W p l e ({ frames := 1, cells := 0, slots := 0, locals := 21 } : Room) s m args below meth c H locs 0 0 (MQ below (va_Qi (fun (r : Int32) (_ : Unit) => post r) (kB (dC, dI) cl (tX31 d) A (fun _ : Unit => (wX31 ci ad d f_own f_rows f_uppers f_closed f_chosen f_fails f_counts f_seen))) A) args s 0 0 A) (F0 m 112 ls [])) :
    ∀ (nn : Nat) (x4 : Int32) (x6 : Int32), wX31_top_40 K112 x1 x3 f_counts nn x4 x6 → ∀ (H : Heap) (locs : List Loc) (ls : Array Slot), kH (dC, dI) cl A s.heap H locs (wX31 ci ad d f_own f_rows f_uppers f_closed f_chosen f_fails f_counts f_seen) → lv_has ls 8 [(0, .ref (ad 0)), (1, .int x1), (2, .int x2), (3, .int x3), (4, .int x4), (5, .int x5), (6, .int x6)] → W p l e ({ frames := 1, cells := 0, slots := 0, locals := 21 } : Room) s m args below meth c H locs 0 0 (MQ below (va_Qi (fun (r : Int32) (_ : Unit) => post r) (kB (dC, dI) cl (tX31 d) A (fun _ : Unit => (wX31 ci ad d f_own f_rows f_uppers f_closed f_chosen f_fails f_counts f_seen))) A) args s 0 0 A) (F0 m 40 ls []) := by
  have hx := X.1.1
  have hb := X.1.2.1
  intro nn
  induction nn with
  | zero =>
    intro x4 x6 hw
    exact False.elim hw
  | succ n ih =>
    intro x4 x6 hw H locs ls hH hl
    rw [wX31_top_40] at hw
    refine lv_iload hx hb dX31_top_40 (lv_at hl 6 rfl) ?_
    refine lv_bipush (v := 32) hx hb dX31_top_42 (by decide) ?_
    refine lv_icmp_ge (tgt := 112) hx hb dX31_top_44 (by decide) (fun c_6 => ?_) (fun c_6 => ?_)
    · have hw := hw.1 c_6
      exact hk112 x4 hw _ _ ls hH (lv_sub hl [0, 1, 2, 3, 4, 5] rfl)
    · have hw := hw.2 c_6
      refine lv_iload_n hx hb dX31_top_47 rfl (lv_at hl 3 rfl) ?_
      refine lv_iload hx hb dX31_top_48 (lv_at hl 6 rfl) ?_
      refine lv_ishr hx hb dX31_top_50 ?_
      refine lv_iconst (v := 1) hx hb dX31_top_51 (by decide) ?_
      refine lv_iand hx hb dX31_top_52 ?_
      refine lv_iconst (v := 1) hx hb dX31_top_53 (by decide) ?_
      refine lv_icmp_ne (tgt := 61) hx hb dX31_top_54 (by decide) (fun c_7 => ?_) (fun c_7 => ?_)
      · have hw := hw.2 c_7
        refine lv_aload_n hx hb dX31_top_61 rfl (lv_at hl 0 rfl) ?_
        refine k_get X hH in_X31 0 rfl hc 6 (by decide) q1431 rfl dX31_top_62 ?_
        refine lv_bipush (v := 32) hx hb dX31_top_65 (by decide) ?_
        refine lv_iload_n hx hb dX31_top_67 rfl (lv_at hl 1 rfl) ?_
        refine lv_imul hx hb dX31_top_68 ?_
        refine lv_iload hx hb dX31_top_69 (lv_at hl 6 rfl) ?_
        refine lv_iadd hx hb dX31_top_71 ?_
        refine k_iald X hH 6 5 rfl rfl hw.1 dX31_top_72 ?_
        have hw := hw.2
        exact atX31_top_73 hc X (fun x4 x6 hw H locs ls hH hl => ih x4 x6 hw _ _ ls hH (lv_sub hl [0, 1, 2, 3, 4, 5, 6] rfl)) x4 x6 (f_counts ((32 * x1) + x6).toNatClampNeg) hw _ _ ls hH (lv_sub hl [0, 1, 2, 3, 4, 5, 6] rfl)
      · have hw := hw.1 c_7
        refine lv_iconst (v := 0) hx hb dX31_top_57 (by decide) ?_
        refine lv_goto (tgt := 73) hx hb dX31_top_58 (by decide) ?_
        exact atX31_top_73 hc X (fun x4 x6 hw H locs ls hH hl => ih x4 x6 hw _ _ ls hH (lv_sub hl [0, 1, 2, 3, 4, 5, 6] rfl)) x4 x6 0 hw _ _ ls hH (lv_sub hl [0, 1, 2, 3, 4, 5, 6] rfl)
set_option maxHeartbeats 4000000 in
theorem atX31_top_28 {p : Program} {l : Launch} {e : Env} {s : State} {m : MethodId} {args : Array Value} {below : List Frame} {meth : Method} {c : Code} {dC : Nat → ClassId} {dI : Nat → Nat → Nat} {cl : List vw_C} {ci : Nat} (hc : cl[ci]? = some (RX31, TX31, 8)) {ad : Nat → Nat} {d : Nat → ClassId} {A : Nat → Prop} {post : Int32 → Prop} {f_own : Nat → Int32} {f_rows : Int32} {f_uppers : Nat → Int32} {f_closed : Nat → Int32} {f_chosen : Nat → Int32} {f_fails : Nat → Int32} {f_counts : Nat → Int32} {f_seen : Nat → Int32} (X : kX p s m args meth c cX31_top 8 RX31 (some .int) (dC, dI) cl (tX31 d)) {K117 : Prop} {K132 : Int32 → Prop} {x1 : Int32} {x2 : Int32}  (hk117 : K117  → ∀ (H : Heap) (locs : List Loc) (ls : Array Slot), kH (dC, dI) cl A s.heap H locs (wX31 ci ad d f_own f_rows f_uppers f_closed f_chosen f_fails f_counts f_seen) → lv_has ls 8 [] → W p l e ({ frames := 1, cells := 0, slots := 0, locals := 21 } : Room) s m args below meth c H locs 0 0 (MQ below (va_Qi (fun (r : Int32) (_ : Unit) => post r) (kB (dC, dI) cl (tX31 d) A (fun _ : Unit => (wX31 ci ad d f_own f_rows f_uppers f_closed f_chosen f_fails f_counts f_seen))) A) args s 0 0 A) (F0 m 117 ls [])) (hk132 : ∀ (x4 : Int32), K132 x4 → ∀ (H : Heap) (locs : List Loc) (ls : Array Slot), kH (dC, dI) cl A s.heap H locs (wX31 ci ad d f_own f_rows f_uppers f_closed f_chosen f_fails f_counts f_seen) → lv_has ls 8 [(4, .int x4)] → W p l e ({ frames := 1, cells := 0, slots := 0, locals := 21 } : Room) s m args below meth c H locs 0 0 (MQ below (va_Qi (fun (r : Int32) (_ : Unit) => post r) (kB (dC, dI) cl (tX31 d) A (fun _ : Unit => (wX31 ci ad d f_own f_rows f_uppers f_closed f_chosen f_fails f_counts f_seen))) A) args s 0 0 A) (F0 m 132 ls [])) :
    ∀ (nn : Nat) (x3 : Int32) (x4 : Int32) (x5 : Int32), wX31_top_28 K117 K132 x1 x2 f_counts nn x3 x4 x5 → ∀ (H : Heap) (locs : List Loc) (ls : Array Slot), kH (dC, dI) cl A s.heap H locs (wX31 ci ad d f_own f_rows f_uppers f_closed f_chosen f_fails f_counts f_seen) → lv_has ls 8 [(0, .ref (ad 0)), (1, .int x1), (2, .int x2), (3, .int x3), (4, .int x4), (5, .int x5)] → W p l e ({ frames := 1, cells := 0, slots := 0, locals := 21 } : Room) s m args below meth c H locs 0 0 (MQ below (va_Qi (fun (r : Int32) (_ : Unit) => post r) (kB (dC, dI) cl (tX31 d) A (fun _ : Unit => (wX31 ci ad d f_own f_rows f_uppers f_closed f_chosen f_fails f_counts f_seen))) A) args s 0 0 A) (F0 m 28 ls []) := by
  have hx := X.1.1
  have hb := X.1.2.1
  intro nn
  induction nn with
  | zero =>
    intro x3 x4 x5 hw
    exact False.elim hw
  | succ n ih =>
    intro x3 x4 x5 hw H locs ls hH hl
    rw [wX31_top_28] at hw
    refine lv_iload hx hb dX31_top_28 (lv_at hl 5 rfl) ?_
    refine lv_iload_n hx hb dX31_top_30 rfl (lv_at hl 2 rfl) ?_
    refine lv_icmp_gt (tgt := 132) hx hb dX31_top_31 (by decide) (fun c_5 => ?_) (fun c_5 => ?_)
    · have hw := hw.1 c_5
      exact hk132 x4 hw _ _ ls hH (lv_sub hl [4] rfl)
    · have hw := hw.2 c_5
      refine lv_iconst (v := (-1)) hx hb dX31_top_34 (by decide) ?_
      refine lv_istore (lv' := [(4, .int ((-1))), (0, .ref (ad 0)), (1, .int x1), (2, .int x2), (3, .int x3), (5, .int x5)]) hx hb dX31_top_35 hl (by decide) rfl (fun ls hl => ?_)
      refine lv_iconst (v := 0) hx hb dX31_top_37 (by decide) ?_
      refine lv_istore (lv' := [(6, .int 0), (4, .int ((-1))), (0, .ref (ad 0)), (1, .int x1), (2, .int x2), (3, .int x3), (5, .int x5)]) hx hb dX31_top_38 hl (by decide) rfl (fun ls hl => ?_)
      obtain ⟨fu, hw⟩ := hw
      refine atX31_top_40 hc X ?_ fu (-1) 0 hw _ _ ls hH (lv_sub hl [2, 3, 4, 5, 1, 6, 0] rfl)
      · intro x4_15 hw H locs ls hH hl
        refine lv_iload hx hb dX31_top_112 (lv_at hl 4 rfl) ?_
        refine lv_if_ge (tgt := 119) hx hb dX31_top_114 (by decide) (fun c_16 => ?_) (fun c_16 => ?_)
        · have hw := hw.1 c_16
          refine lv_iload_n hx hb dX31_top_119 rfl (lv_at hl 3 rfl) ?_
          refine lv_iconst (v := 1) hx hb dX31_top_120 (by decide) ?_
          refine lv_iload hx hb dX31_top_121 (lv_at hl 4 rfl) ?_
          refine lv_ishl hx hb dX31_top_123 ?_
          refine lv_ior hx hb dX31_top_124 ?_
          refine lv_topi (fun x3_17 ex3_17 => ?_)
          have hw := hw x3_17 ex3_17
          refine lv_istore_n (lv' := [(3, .int x3_17), (0, .ref (ad 0)), (1, .int x1), (2, .int x2), (4, .int x4_15), (5, .int x5)]) hx hb dX31_top_125 rfl hl (by decide) rfl (fun ls hl => ?_)
          obtain ⟨x5_18, ex5_18⟩ : ∃ y : Int32, y = x5 + 1 := ⟨_, rfl⟩
          have hw := hw x5_18 ex5_18
          refine lv_iinc (v := x5_18) (lv' := [(5, .int x5_18), (3, .int x3_17), (0, .ref (ad 0)), (1, .int x1), (2, .int x2), (4, .int x4_15)]) hx hb dX31_top_126 hl (k := 5) rfl (by rw [ex5_18]; rfl) (by decide) rfl (fun ls hl => ?_)
          refine lv_goto (tgt := 28) hx hb dX31_top_129 (by decide) ?_
          exact ih x3_17 x4_15 x5_18 hw _ _ ls hH (lv_sub hl [2, 3, 4, 1, 5, 0] rfl)
        · have hw := hw.2 c_16
          exact hk117  hw _ _ ls hH (lv_sub hl [] rfl)
set_option maxHeartbeats 4000000 in
theorem walkX31_top {l : Launch} {dC : Nat → ClassId} {dI : Nat → Nat → Nat} {cl : List vw_C} {ci : Nat} (hc : cl[ci]? = some (RX31, TX31, 8)) {ad : Nat → Nat} {d : Nat → ClassId} {sz : Nat} {f_own : Nat → Int32} {f_rows : Int32} {f_uppers : Nat → Int32} {f_closed : Nat → Int32} {f_chosen : Nat → Int32} {f_fails : Nat → Int32} {f_counts : Nat → Int32} {f_seen : Nat → Int32} {x1 : Int32} {x2 : Int32} {post : Int32 → Prop} (hw : wpX31_top post f_counts x1 x2) :
    Met l yX31_top (ws_ yX31_top cX31_top 8 (some .int)) ({ frames := 1, cells := 0, slots := 0, locals := 21 } : Room) (kPc (dC, dI) cl (tX31 d) [.ref (ad 0), .int x1, .int x2] sz (wX31 ci ad d f_own f_rows f_uppers f_closed f_chosen f_fails f_counts f_seen)) (va_Qi (fun (r : Int32) (_ : Unit) => post r) (kB (dC, dI) cl (tX31 d) (va_A (wX31 ci ad d f_own f_rows f_uppers f_closed f_chosen f_fails f_counts f_seen) sz) (fun _ : Unit => (wX31 ci ad d f_own f_rows f_uppers f_closed f_chosen f_fails f_counts f_seen))) (va_A (wX31 ci ad d f_own f_rows f_uppers f_closed f_chosen f_fails f_counts f_seen) sz)) 0 0 (va_A (wX31 ci ad d f_own f_rows f_uppers f_closed f_chosen f_fails f_counts f_seen) sz) := by
  refine k_enter (by decide) (Nat.le_of_ble_eq_true rfl) ?_
  intro p e s m below meth c ls X hsz hH hl
  subst hsz
  generalize va_A (wX31 ci ad d f_own f_rows f_uppers f_closed f_chosen f_fails f_counts f_seen) s.heap.size = A at hH ⊢
  have hx := X.1.1
  have hb := X.1.2.1
  have hl : lv_has ls 8 [(0, .ref (ad 0)), (1, .int x1), (2, .int x2)] := hl
  unfold wpX31_top at hw
  refine lv_iload_n hx hb dX31_top_0 rfl (lv_at hl 1 rfl) ?_
  refine lv_bipush (v := 8) hx hb dX31_top_1 (by decide) ?_
  refine k_i0 hH (k_runS (As := [.int x1, .int 8]) (rest := []) X hH.1 hH.2.1 X.2.2.2 (walkX31_isIn hc hw) (va_cwS 2 X.1.2.2.2.2 gX31_31 rfl rfl rfl hX31_isIn ⟨Nat.le_of_ble_eq_true rfl, Nat.le_of_ble_eq_true rfl⟩) rfl hl.1 rfl (Nat.le_of_ble_eq_true rfl) dX31_top_3 ⟨Nat.le_refl 0, Nat.le_refl 0⟩) (fun r_1 _ H locs hw hH => ?_)
  have hH : kH (dC, dI) cl A s.heap H locs (wX31 ci ad d f_own f_rows f_uppers f_closed f_chosen f_fails f_counts f_seen) := hH
  refine lv_if_eq (tgt := 18) hx hb dX31_top_6 (by decide) (fun c_2 => ?_) (fun c_2 => ?_)
  · have hw := hw.1 c_2
    refine lv_iconst (v := (-1)) hx hb dX31_top_18 (by decide) ?_
    exact k_iret (v := (-1)) X hH () hw rfl rfl dX31_top_19
  · have hw := hw.2 c_2
    refine lv_iload_n hx hb dX31_top_9 rfl (lv_at hl 2 rfl) ?_
    refine lv_bipush (v := 32) hx hb dX31_top_10 (by decide) ?_
    refine k_i0 hH (k_runS (As := [.int x2, .int 32]) (rest := []) X hH.1 hH.2.1 X.2.2.2 (walkX31_isIn hc hw) (va_cwS 2 X.1.2.2.2.2 gX31_31 rfl rfl rfl hX31_isIn ⟨Nat.le_of_ble_eq_true rfl, Nat.le_of_ble_eq_true rfl⟩) rfl hl.1 rfl (Nat.le_of_ble_eq_true rfl) dX31_top_12 ⟨Nat.le_refl 0, Nat.le_refl 0⟩) (fun r_3 _ H locs hw hH => ?_)
    have hH : kH (dC, dI) cl A s.heap H locs (wX31 ci ad d f_own f_rows f_uppers f_closed f_chosen f_fails f_counts f_seen) := hH
    refine lv_if_ne (tgt := 20) hx hb dX31_top_15 (by decide) (fun c_4 => ?_) (fun c_4 => ?_)
    · have hw := hw.2 c_4
      refine lv_iconst (v := 0) hx hb dX31_top_20 (by decide) ?_
      refine lv_istore_n (lv' := [(3, .int 0), (0, .ref (ad 0)), (1, .int x1), (2, .int x2)]) hx hb dX31_top_21 rfl hl (by decide) rfl (fun ls hl => ?_)
      refine lv_iconst (v := (-1)) hx hb dX31_top_22 (by decide) ?_
      refine lv_istore (lv' := [(4, .int ((-1))), (3, .int 0), (0, .ref (ad 0)), (1, .int x1), (2, .int x2)]) hx hb dX31_top_23 hl (by decide) rfl (fun ls hl => ?_)
      refine lv_iconst (v := 0) hx hb dX31_top_25 (by decide) ?_
      refine lv_istore (lv' := [(5, .int 0), (4, .int ((-1))), (3, .int 0), (0, .ref (ad 0)), (1, .int x1), (2, .int x2)]) hx hb dX31_top_26 hl (by decide) rfl (fun ls hl => ?_)
      obtain ⟨fu, hw⟩ := hw
      refine atX31_top_28 hc X ?_ ?_ fu 0 (-1) 0 hw _ _ ls hH (lv_sub hl [3, 4, 5, 2, 1, 0] rfl)
      · intro hw H locs ls hH hl
        refine lv_iconst (v := (-1)) hx hb dX31_top_117 (by decide) ?_
        exact k_iret (v := (-1)) X hH () hw rfl rfl dX31_top_118
      · intro x4_19 hw H locs ls hH hl
        refine lv_iload hx hb dX31_top_132 (lv_at hl 0 rfl) ?_
        exact k_iret (v := x4_19) X hH () hw rfl rfl dX31_top_134
    · have hw := hw.1 c_4
      refine lv_iconst (v := (-1)) hx hb dX31_top_18 (by decide) ?_
      exact k_iret (v := (-1)) X hH () hw rfl rfl dX31_top_19
set_option maxHeartbeats 4000000 in
theorem atX31_range_17 {p : Program} {l : Launch} {e : Env} {s : State} {m : MethodId} {args : Array Value} {below : List Frame} {meth : Method} {c : Code} {dC : Nat → ClassId} {dI : Nat → Nat → Nat} {cl : List vw_C} {ci : Nat} (hc : cl[ci]? = some (RX31, TX31, 8)) {ad : Nat → Nat} {d : Nat → ClassId} {A : Nat → Prop} {post : Int32 → Prop} {f_own : Nat → Int32} {f_rows : Int32} {f_uppers : Nat → Int32} {f_closed : Nat → Int32} {f_chosen : Nat → Int32} {f_fails : Nat → Int32} {f_counts : Nat → Int32} {f_seen : Nat → Int32} (X : kX p s m args meth c cX31_range 7 RX31 (some .int) (dC, dI) cl (tX31 d)) {K51 : Int32 → Prop} {x1 : Int32} {x2 : Int32} {x3 : Int32}  (hk51 : ∀ (x4 : Int32), K51 x4 → ∀ (H : Heap) (locs : List Loc) (ls : Array Slot), kH (dC, dI) cl A s.heap H locs (wX31 ci ad d f_own f_rows f_uppers f_closed f_chosen f_fails f_counts f_seen) → lv_has ls 7 [(0, .ref (ad 0)), (1, .int x1), (4, .int x4)] → W p l e ({ frames := 3, cells := 0, slots := 0, locals := 69 } : Room) s m args below meth c H locs 0 0 (MQ below (va_Qi (fun (r : Int32) (_ : Unit) => post r) (kB (dC, dI) cl (tX31 d) A (fun _ : Unit => (wX31 ci ad d f_own f_rows f_uppers f_closed f_chosen f_fails f_counts f_seen))) A) args s 0 0 A) (F0 m 51 ls [])) :
    ∀ (nn : Nat) (x4 : Int32) (x5 : Int32), wX31_range_17 K51 x2 x3 nn x4 x5 → ∀ (H : Heap) (locs : List Loc) (ls : Array Slot), kH (dC, dI) cl A s.heap H locs (wX31 ci ad d f_own f_rows f_uppers f_closed f_chosen f_fails f_counts f_seen) → lv_has ls 7 [(0, .ref (ad 0)), (1, .int x1), (2, .int x2), (3, .int x3), (4, .int x4), (5, .int x5)] → W p l e ({ frames := 3, cells := 0, slots := 0, locals := 69 } : Room) s m args below meth c H locs 0 0 (MQ below (va_Qi (fun (r : Int32) (_ : Unit) => post r) (kB (dC, dI) cl (tX31 d) A (fun _ : Unit => (wX31 ci ad d f_own f_rows f_uppers f_closed f_chosen f_fails f_counts f_seen))) A) args s 0 0 A) (F0 m 17 ls []) := by
  have hx := X.1.1
  have hb := X.1.2.1
  intro nn
  induction nn with
  | zero =>
    intro x4 x5 hw
    exact False.elim hw
  | succ n ih =>
    intro x4 x5 hw H locs ls hH hl
    rw [wX31_range_17] at hw
    refine lv_iload hx hb dX31_range_17 (lv_at hl 5 rfl) ?_
    refine lv_bipush (v := 32) hx hb dX31_range_19 (by decide) ?_
    refine lv_icmp_ge (tgt := 51) hx hb dX31_range_21 (by decide) (fun c_3 => ?_) (fun c_3 => ?_)
    · have hw := hw.1 c_3
      exact hk51 x4 hw _ _ ls hH (lv_sub hl [0, 1, 4] rfl)
    · have hw := hw.2 c_3
      refine lv_iload hx hb dX31_range_24 (lv_at hl 5 rfl) ?_
      refine lv_iload_n hx hb dX31_range_26 rfl (lv_at hl 2 rfl) ?_
      refine lv_icmp_lt (tgt := 45) hx hb dX31_range_27 (by decide) (fun c_4 => ?_) (fun c_4 => ?_)
      · have hw := hw.1 c_4
        obtain ⟨x5_5, ex5_5⟩ : ∃ y : Int32, y = x5 + 1 := ⟨_, rfl⟩
        have hw := hw x5_5 ex5_5
        refine lv_iinc (v := x5_5) (lv' := [(5, .int x5_5), (0, .ref (ad 0)), (1, .int x1), (2, .int x2), (3, .int x3), (4, .int x4)]) hx hb dX31_range_45 hl (k := 5) rfl (by rw [ex5_5]; rfl) (by decide) rfl (fun ls hl => ?_)
        refine lv_goto (tgt := 17) hx hb dX31_range_48 (by decide) ?_
        exact ih x4 x5_5 hw _ _ ls hH (lv_sub hl [1, 2, 3, 4, 5, 0] rfl)
      · have hw := hw.2 c_4
        refine lv_iload hx hb dX31_range_30 (lv_at hl 5 rfl) ?_
        refine lv_iload_n hx hb dX31_range_32 rfl (lv_at hl 3 rfl) ?_
        refine lv_icmp_gt (tgt := 45) hx hb dX31_range_33 (by decide) (fun c_6 => ?_) (fun c_6 => ?_)
        · have hw := hw.1 c_6
          obtain ⟨x5_7, ex5_7⟩ : ∃ y : Int32, y = x5 + 1 := ⟨_, rfl⟩
          have hw := hw x5_7 ex5_7
          refine lv_iinc (v := x5_7) (lv' := [(5, .int x5_7), (0, .ref (ad 0)), (1, .int x1), (2, .int x2), (3, .int x3), (4, .int x4)]) hx hb dX31_range_45 hl (k := 5) rfl (by rw [ex5_7]; rfl) (by decide) rfl (fun ls hl => ?_)
          refine lv_goto (tgt := 17) hx hb dX31_range_48 (by decide) ?_
          exact ih x4 x5_7 hw _ _ ls hH (lv_sub hl [1, 2, 3, 4, 5, 0] rfl)
        · have hw := hw.2 c_6
          refine lv_iload hx hb dX31_range_36 (lv_at hl 4 rfl) ?_
          refine lv_iconst (v := 1) hx hb dX31_range_38 (by decide) ?_
          refine lv_iload hx hb dX31_range_39 (lv_at hl 5 rfl) ?_
          refine lv_ishl hx hb dX31_range_41 ?_
          refine lv_ior hx hb dX31_range_42 ?_
          refine lv_topi (fun x4_8 ex4_8 => ?_)
          have hw := hw x4_8 ex4_8
          refine lv_istore (lv' := [(4, .int x4_8), (0, .ref (ad 0)), (1, .int x1), (2, .int x2), (3, .int x3), (5, .int x5)]) hx hb dX31_range_43 hl (by decide) rfl (fun ls hl => ?_)
          obtain ⟨x5_9, ex5_9⟩ : ∃ y : Int32, y = x5 + 1 := ⟨_, rfl⟩
          have hw := hw x5_9 ex5_9
          refine lv_iinc (v := x5_9) (lv' := [(5, .int x5_9), (4, .int x4_8), (0, .ref (ad 0)), (1, .int x1), (2, .int x2), (3, .int x3)]) hx hb dX31_range_45 hl (k := 5) rfl (by rw [ex5_9]; rfl) (by decide) rfl (fun ls hl => ?_)
          refine lv_goto (tgt := 17) hx hb dX31_range_48 (by decide) ?_
          exact ih x4_8 x5_9 hw _ _ ls hH (lv_sub hl [2, 3, 4, 5, 1, 0] rfl)
set_option maxHeartbeats 4000000 in
theorem atX31_range_57 {p : Program} {l : Launch} {e : Env} {s : State} {m : MethodId} {args : Array Value} {below : List Frame} {meth : Method} {c : Code} {dC : Nat → ClassId} {dI : Nat → Nat → Nat} {cl : List vw_C} {ci : Nat} (hc : cl[ci]? = some (RX31, TX31, 8)) {ad : Nat → Nat} {d : Nat → ClassId} {A : Nat → Prop} {post : Int32 → Prop} {f_own : Nat → Int32} {f_rows : Int32} {f_uppers : Nat → Int32} {f_closed : Nat → Int32} {f_chosen : Nat → Int32} {f_fails : Nat → Int32} {f_counts : Nat → Int32} {f_seen : Nat → Int32} (X : kX p s m args meth c cX31_range 7 RX31 (some .int) (dC, dI) cl (tX31 d)) {K103 : Int32 → Prop} {x1 : Int32} {x4 : Int32}  (hk103 : ∀ (x5 : Int32), K103 x5 → ∀ (H : Heap) (locs : List Loc) (ls : Array Slot), kH (dC, dI) cl A s.heap H locs (wX31 ci ad d f_own f_rows f_uppers f_closed f_chosen f_fails f_counts f_seen) → lv_has ls 7 [(5, .int x5)] → W p l e ({ frames := 3, cells := 0, slots := 0, locals := 69 } : Room) s m args below meth c H locs 0 0 (MQ below (va_Qi (fun (r : Int32) (_ : Unit) => post r) (kB (dC, dI) cl (tX31 d) A (fun _ : Unit => (wX31 ci ad d f_own f_rows f_uppers f_closed f_chosen f_fails f_counts f_seen))) A) args s 0 0 A) (F0 m 103 ls [])) :
    ∀ (nn : Nat) (x5 : Int32) (x6 : Int32), wX31_range_57 K103 x1 x4 f_own f_closed f_chosen f_fails nn x5 x6 → ∀ (H : Heap) (locs : List Loc) (ls : Array Slot), kH (dC, dI) cl A s.heap H locs (wX31 ci ad d f_own f_rows f_uppers f_closed f_chosen f_fails f_counts f_seen) → lv_has ls 7 [(0, .ref (ad 0)), (1, .int x1), (4, .int x4), (5, .int x5), (6, .int x6)] → W p l e ({ frames := 3, cells := 0, slots := 0, locals := 69 } : Room) s m args below meth c H locs 0 0 (MQ below (va_Qi (fun (r : Int32) (_ : Unit) => post r) (kB (dC, dI) cl (tX31 d) A (fun _ : Unit => (wX31 ci ad d f_own f_rows f_uppers f_closed f_chosen f_fails f_counts f_seen))) A) args s 0 0 A) (F0 m 57 ls []) := by
  have hx := X.1.1
  have hb := X.1.2.1
  intro nn
  induction nn with
  | zero =>
    intro x5 x6 hw
    exact False.elim hw
  | succ n ih =>
    intro x5 x6 hw H locs ls hH hl
    rw [wX31_range_57] at hw
    refine lv_iload hx hb dX31_range_57 (lv_at hl 4 rfl) ?_
    refine lv_bipush (v := 40) hx hb dX31_range_59 (by decide) ?_
    refine lv_icmp_ge (tgt := 103) hx hb dX31_range_61 (by decide) (fun c_11 => ?_) (fun c_11 => ?_)
    · have hw := hw.1 c_11
      exact hk103 x5 hw _ _ ls hH (lv_sub hl [3] rfl)
    · have hw := hw.2 c_11
      refine lv_iload hx hb dX31_range_64 (lv_at hl 3 rfl) ?_
      refine lv_aload_n hx hb dX31_range_66 rfl (lv_at hl 0 rfl) ?_
      refine lv_iload hx hb dX31_range_67 (lv_at hl 4 rfl) ?_
      refine lv_iload_n hx hb dX31_range_69 rfl (lv_at hl 1 rfl) ?_
      refine k_i0 hH (k_runV (As := [.int x6, .int x1]) (rest := [.int x5]) X hH.1 hH.2.1 X.2.2.2 (walkX31_isKeptBut hc hw) (cwV 2 X.1.2.2.2.2 gX31_42 rfl rfl rfl hX31_isKeptBut ⟨Nat.le_of_ble_eq_true rfl, Nat.le_of_ble_eq_true rfl⟩) hc (q0 := 0) rfl rfl hl.1 rfl (Nat.le_of_ble_eq_true rfl) dX31_range_70 ⟨Nat.le_refl 0, Nat.le_refl 0⟩) (fun r_12 _ H locs hw hH => ?_)
      have hH : kH (dC, dI) cl A s.heap H locs (wX31 ci ad d f_own f_rows f_uppers f_closed f_chosen f_fails f_counts f_seen) := hH
      refine lv_if_eq (tgt := 93) hx hb dX31_range_73 (by decide) (fun c_13 => ?_) (fun c_13 => ?_)
      · have hw := hw.1 c_13
        refine lv_iconst (v := 0) hx hb dX31_range_93 (by decide) ?_
        refine lv_iadd hx hb dX31_range_94 ?_
        refine lv_topi (fun x5_14 ex5_14 => ?_)
        have hw := hw x5_14 ex5_14
        refine lv_istore (lv' := [(5, .int x5_14), (0, .ref (ad 0)), (1, .int x1), (4, .int x4), (6, .int x6)]) hx hb dX31_range_95 hl (by decide) rfl (fun ls hl => ?_)
        obtain ⟨x6_15, ex6_15⟩ : ∃ y : Int32, y = x6 + 1 := ⟨_, rfl⟩
        have hw := hw x6_15 ex6_15
        refine lv_iinc (v := x6_15) (lv' := [(6, .int x6_15), (5, .int x5_14), (0, .ref (ad 0)), (1, .int x1), (4, .int x4)]) hx hb dX31_range_97 hl (k := 4) rfl (by rw [ex6_15]; rfl) (by decide) rfl (fun ls hl => ?_)
        refine lv_goto (tgt := 57) hx hb dX31_range_100 (by decide) ?_
        exact ih x5_14 x6_15 hw _ _ ls hH (lv_sub hl [2, 3, 4, 1, 0] rfl)
      · have hw := hw.2 c_13
        refine lv_aload_n hx hb dX31_range_76 rfl (lv_at hl 0 rfl) ?_
        refine lv_iload hx hb dX31_range_77 (lv_at hl 4 rfl) ?_
        refine lv_iload_n hx hb dX31_range_79 rfl (lv_at hl 1 rfl) ?_
        refine k_i0 hH (k_runV (As := [.int x6, .int x1]) (rest := [.int x5]) X hH.1 hH.2.1 X.2.2.2 (walkX31_has hc hw) (cwV 2 X.1.2.2.2.2 gX31_35 rfl rfl rfl hX31_has ⟨Nat.le_of_ble_eq_true rfl, Nat.le_of_ble_eq_true rfl⟩) hc (q0 := 0) rfl rfl hl.1 rfl (Nat.le_of_ble_eq_true rfl) dX31_range_80 ⟨Nat.le_refl 0, Nat.le_refl 0⟩) (fun r_16 _ H locs hw hH => ?_)
        have hH : kH (dC, dI) cl A s.heap H locs (wX31 ci ad d f_own f_rows f_uppers f_closed f_chosen f_fails f_counts f_seen) := hH
        refine lv_iload hx hb dX31_range_83 (lv_at hl 2 rfl) ?_
        refine lv_iand hx hb dX31_range_85 ?_
        refine lv_if_eq (tgt := 93) hx hb dX31_range_86 (by decide) (fun c_17 => ?_) (fun c_17 => ?_)
        · have hw := hw.1 c_17
          refine lv_iconst (v := 0) hx hb dX31_range_93 (by decide) ?_
          refine lv_iadd hx hb dX31_range_94 ?_
          refine lv_topi (fun x5_18 ex5_18 => ?_)
          have hw := hw x5_18 ex5_18
          refine lv_istore (lv' := [(5, .int x5_18), (0, .ref (ad 0)), (1, .int x1), (4, .int x4), (6, .int x6)]) hx hb dX31_range_95 hl (by decide) rfl (fun ls hl => ?_)
          obtain ⟨x6_19, ex6_19⟩ : ∃ y : Int32, y = x6 + 1 := ⟨_, rfl⟩
          have hw := hw x6_19 ex6_19
          refine lv_iinc (v := x6_19) (lv' := [(6, .int x6_19), (5, .int x5_18), (0, .ref (ad 0)), (1, .int x1), (4, .int x4)]) hx hb dX31_range_97 hl (k := 4) rfl (by rw [ex6_19]; rfl) (by decide) rfl (fun ls hl => ?_)
          refine lv_goto (tgt := 57) hx hb dX31_range_100 (by decide) ?_
          exact ih x5_18 x6_19 hw _ _ ls hH (lv_sub hl [2, 3, 4, 1, 0] rfl)
        · have hw := hw.2 c_17
          refine lv_iconst (v := 1) hx hb dX31_range_89 (by decide) ?_
          refine lv_goto (tgt := 94) hx hb dX31_range_90 (by decide) ?_
          refine lv_iadd hx hb dX31_range_94 ?_
          refine lv_topi (fun x5_20 ex5_20 => ?_)
          have hw := hw x5_20 ex5_20
          refine lv_istore (lv' := [(5, .int x5_20), (0, .ref (ad 0)), (1, .int x1), (4, .int x4), (6, .int x6)]) hx hb dX31_range_95 hl (by decide) rfl (fun ls hl => ?_)
          obtain ⟨x6_21, ex6_21⟩ : ∃ y : Int32, y = x6 + 1 := ⟨_, rfl⟩
          have hw := hw x6_21 ex6_21
          refine lv_iinc (v := x6_21) (lv' := [(6, .int x6_21), (5, .int x5_20), (0, .ref (ad 0)), (1, .int x1), (4, .int x4)]) hx hb dX31_range_97 hl (k := 4) rfl (by rw [ex6_21]; rfl) (by decide) rfl (fun ls hl => ?_)
          refine lv_goto (tgt := 57) hx hb dX31_range_100 (by decide) ?_
          exact ih x5_20 x6_21 hw _ _ ls hH (lv_sub hl [2, 3, 4, 1, 0] rfl)
set_option maxHeartbeats 4000000 in
theorem walkX31_range {l : Launch} {dC : Nat → ClassId} {dI : Nat → Nat → Nat} {cl : List vw_C} {ci : Nat} (hc : cl[ci]? = some (RX31, TX31, 8)) {ad : Nat → Nat} {d : Nat → ClassId} {sz : Nat} {f_own : Nat → Int32} {f_rows : Int32} {f_uppers : Nat → Int32} {f_closed : Nat → Int32} {f_chosen : Nat → Int32} {f_fails : Nat → Int32} {f_counts : Nat → Int32} {f_seen : Nat → Int32} {x1 : Int32} {x2 : Int32} {x3 : Int32} {post : Int32 → Prop} (hw : wpX31_range post f_own f_closed f_chosen f_fails x1 x2 x3) :
    Met l yX31_range (ws_ yX31_range cX31_range 7 (some .int)) ({ frames := 3, cells := 0, slots := 0, locals := 69 } : Room) (kPc (dC, dI) cl (tX31 d) [.ref (ad 0), .int x1, .int x2, .int x3] sz (wX31 ci ad d f_own f_rows f_uppers f_closed f_chosen f_fails f_counts f_seen)) (va_Qi (fun (r : Int32) (_ : Unit) => post r) (kB (dC, dI) cl (tX31 d) (va_A (wX31 ci ad d f_own f_rows f_uppers f_closed f_chosen f_fails f_counts f_seen) sz) (fun _ : Unit => (wX31 ci ad d f_own f_rows f_uppers f_closed f_chosen f_fails f_counts f_seen))) (va_A (wX31 ci ad d f_own f_rows f_uppers f_closed f_chosen f_fails f_counts f_seen) sz)) 0 0 (va_A (wX31 ci ad d f_own f_rows f_uppers f_closed f_chosen f_fails f_counts f_seen) sz) := by
  refine k_enter (by decide) (Nat.le_of_ble_eq_true rfl) ?_
  intro p e s m below meth c ls X hsz hH hl
  subst hsz
  generalize va_A (wX31 ci ad d f_own f_rows f_uppers f_closed f_chosen f_fails f_counts f_seen) s.heap.size = A at hH ⊢
  have hx := X.1.1
  have hb := X.1.2.1
  have hl : lv_has ls 7 [(0, .ref (ad 0)), (1, .int x1), (2, .int x2), (3, .int x3)] := hl
  unfold wpX31_range at hw
  refine lv_iload_n hx hb dX31_range_0 rfl (lv_at hl 1 rfl) ?_
  refine lv_bipush (v := 8) hx hb dX31_range_1 (by decide) ?_
  refine k_i0 hH (k_runS (As := [.int x1, .int 8]) (rest := []) X hH.1 hH.2.1 X.2.2.2 (walkX31_isIn hc hw) (va_cwS 2 X.1.2.2.2.2 gX31_31 rfl rfl rfl hX31_isIn ⟨Nat.le_of_ble_eq_true rfl, Nat.le_of_ble_eq_true rfl⟩) rfl hl.1 rfl (Nat.le_of_ble_eq_true rfl) dX31_range_3 ⟨Nat.le_refl 0, Nat.le_refl 0⟩) (fun r_1 _ H locs hw hH => ?_)
  have hH : kH (dC, dI) cl A s.heap H locs (wX31 ci ad d f_own f_rows f_uppers f_closed f_chosen f_fails f_counts f_seen) := hH
  refine lv_if_ne (tgt := 11) hx hb dX31_range_6 (by decide) (fun c_2 => ?_) (fun c_2 => ?_)
  · have hw := hw.2 c_2
    refine lv_iconst (v := 0) hx hb dX31_range_11 (by decide) ?_
    refine lv_istore (lv' := [(4, .int 0), (0, .ref (ad 0)), (1, .int x1), (2, .int x2), (3, .int x3)]) hx hb dX31_range_12 hl (by decide) rfl (fun ls hl => ?_)
    refine lv_iconst (v := 0) hx hb dX31_range_14 (by decide) ?_
    refine lv_istore (lv' := [(5, .int 0), (4, .int 0), (0, .ref (ad 0)), (1, .int x1), (2, .int x2), (3, .int x3)]) hx hb dX31_range_15 hl (by decide) rfl (fun ls hl => ?_)
    obtain ⟨fu, hw⟩ := hw
    refine atX31_range_17 hc X ?_ fu 0 0 hw _ _ ls hH (lv_sub hl [2, 3, 4, 5, 1, 0] rfl)
    · intro x4_10 hw H locs ls hH hl
      refine lv_iconst (v := 0) hx hb dX31_range_51 (by decide) ?_
      refine lv_istore (lv' := [(5, .int 0), (0, .ref (ad 0)), (1, .int x1), (4, .int x4_10)]) hx hb dX31_range_52 hl (by decide) rfl (fun ls hl => ?_)
      refine lv_iconst (v := 0) hx hb dX31_range_54 (by decide) ?_
      refine lv_istore (lv' := [(6, .int 0), (5, .int 0), (0, .ref (ad 0)), (1, .int x1), (4, .int x4_10)]) hx hb dX31_range_55 hl (by decide) rfl (fun ls hl => ?_)
      obtain ⟨fu, hw⟩ := hw
      refine atX31_range_57 hc X ?_ fu 0 0 hw _ _ ls hH (lv_sub hl [2, 3, 4, 1, 0] rfl)
      · intro x5_22 hw H locs ls hH hl
        refine lv_iload hx hb dX31_range_103 (lv_at hl 0 rfl) ?_
        exact k_iret (v := x5_22) X hH () hw rfl rfl dX31_range_105
  · have hw := hw.1 c_2
    refine lv_iconst (v := (-1)) hx hb dX31_range_9 (by decide) ?_
    exact k_iret (v := (-1)) X hH () hw rfl rfl dX31_range_10
set_option maxHeartbeats 4000000 in
theorem atX31_sum_81 {p : Program} {l : Launch} {e : Env} {s : State} {m : MethodId} {args : Array Value} {below : List Frame} {meth : Method} {c : Code} {dC : Nat → ClassId} {dI : Nat → Nat → Nat} {cl : List vw_C} {ci : Nat} (hc : cl[ci]? = some (RX31, TX31, 8)) {ad : Nat → Nat} {d : Nat → ClassId} {A : Nat → Prop} {post : Int32 → Prop} {f_own : Nat → Int32} {f_rows : Int32} {f_uppers : Nat → Int32} {f_closed : Nat → Int32} {f_chosen : Nat → Int32} {f_fails : Nat → Int32} {f_counts : Nat → Int32} {f_seen : Nat → Int32} (X : kX p s m args meth c cX31_sum 8 RX31 (some .int) (dC, dI) cl (tX31 d)) {K109 : Int32 → Prop} {x1 : Int32} {x2 : Int32} {x3 : Int32} {x5 : Int32} {x6 : Int32}  (hk109 : ∀ (x4 : Int32), K109 x4 → ∀ (H : Heap) (locs : List Loc) (ls : Array Slot), kH (dC, dI) cl A s.heap H locs (wX31 ci ad d f_own f_rows f_uppers f_closed f_chosen f_fails f_counts f_seen) → lv_has ls 8 [(0, .ref (ad 0)), (1, .int x1), (2, .int x2), (3, .int x3), (4, .int x4), (5, .int x5)] → W p l e ({ frames := 1, cells := 0, slots := 0, locals := 25 } : Room) s m args below meth c H locs 0 0 (MQ below (va_Qi (fun (r : Int32) (_ : Unit) => post r) (kB (dC, dI) cl (tX31 d) A (fun _ : Unit => (wX31 ci ad d f_own f_rows f_uppers f_closed f_chosen f_fails f_counts f_seen))) A) args s 0 0 A) (F0 m 109 ls [])) :
    ∀ (nn : Nat) (x4 : Int32) (x7 : Int32), wX31_sum_81 K109 x6 nn x4 x7 → ∀ (H : Heap) (locs : List Loc) (ls : Array Slot), kH (dC, dI) cl A s.heap H locs (wX31 ci ad d f_own f_rows f_uppers f_closed f_chosen f_fails f_counts f_seen) → lv_has ls 8 [(0, .ref (ad 0)), (1, .int x1), (2, .int x2), (3, .int x3), (4, .int x4), (5, .int x5), (6, .int x6), (7, .int x7)] → W p l e ({ frames := 1, cells := 0, slots := 0, locals := 25 } : Room) s m args below meth c H locs 0 0 (MQ below (va_Qi (fun (r : Int32) (_ : Unit) => post r) (kB (dC, dI) cl (tX31 d) A (fun _ : Unit => (wX31 ci ad d f_own f_rows f_uppers f_closed f_chosen f_fails f_counts f_seen))) A) args s 0 0 A) (F0 m 81 ls []) := by
  have hx := X.1.1
  have hb := X.1.2.1
  intro nn
  induction nn with
  | zero =>
    intro x4 x7 hw
    exact False.elim hw
  | succ n ih =>
    intro x4 x7 hw H locs ls hH hl
    rw [wX31_sum_81] at hw
    refine lv_iload hx hb dX31_sum_81 (lv_at hl 7 rfl) ?_
    refine lv_bipush (v := 32) hx hb dX31_sum_83 (by decide) ?_
    refine lv_icmp_ge (tgt := 109) hx hb dX31_sum_85 (by decide) (fun c_13 => ?_) (fun c_13 => ?_)
    · have hw := hw.1 c_13
      exact hk109 x4 hw _ _ ls hH (lv_sub hl [0, 1, 2, 3, 4, 5] rfl)
    · have hw := hw.2 c_13
      refine lv_iload hx hb dX31_sum_88 (lv_at hl 4 rfl) ?_
      refine lv_iload hx hb dX31_sum_90 (lv_at hl 6 rfl) ?_
      refine lv_iload hx hb dX31_sum_92 (lv_at hl 7 rfl) ?_
      refine lv_ishr hx hb dX31_sum_94 ?_
      refine lv_iconst (v := 1) hx hb dX31_sum_95 (by decide) ?_
      refine lv_iand hx hb dX31_sum_96 ?_
      refine lv_iload hx hb dX31_sum_97 (lv_at hl 7 rfl) ?_
      refine lv_imul hx hb dX31_sum_99 ?_
      refine lv_iadd hx hb dX31_sum_100 ?_
      refine lv_topi (fun x4_14 ex4_14 => ?_)
      have hw := hw x4_14 ex4_14
      refine lv_istore (lv' := [(4, .int x4_14), (0, .ref (ad 0)), (1, .int x1), (2, .int x2), (3, .int x3), (5, .int x5), (6, .int x6), (7, .int x7)]) hx hb dX31_sum_101 hl (by decide) rfl (fun ls hl => ?_)
      obtain ⟨x7_15, ex7_15⟩ : ∃ y : Int32, y = x7 + 1 := ⟨_, rfl⟩
      have hw := hw x7_15 ex7_15
      refine lv_iinc (v := x7_15) (lv' := [(7, .int x7_15), (4, .int x4_14), (0, .ref (ad 0)), (1, .int x1), (2, .int x2), (3, .int x3), (5, .int x5), (6, .int x6)]) hx hb dX31_sum_103 hl (k := 7) rfl (by rw [ex7_15]; rfl) (by decide) rfl (fun ls hl => ?_)
      refine lv_goto (tgt := 81) hx hb dX31_sum_106 (by decide) ?_
      exact ih x4_14 x7_15 hw _ _ ls hH (lv_sub hl [2, 3, 4, 5, 1, 6, 7, 0] rfl)
set_option maxHeartbeats 4000000 in
theorem atX31_sum_35 {p : Program} {l : Launch} {e : Env} {s : State} {m : MethodId} {args : Array Value} {below : List Frame} {meth : Method} {c : Code} {dC : Nat → ClassId} {dI : Nat → Nat → Nat} {cl : List vw_C} {ci : Nat} (hc : cl[ci]? = some (RX31, TX31, 8)) {ad : Nat → Nat} {d : Nat → ClassId} {A : Nat → Prop} {post : Int32 → Prop} {f_own : Nat → Int32} {f_rows : Int32} {f_uppers : Nat → Int32} {f_closed : Nat → Int32} {f_chosen : Nat → Int32} {f_fails : Nat → Int32} {f_counts : Nat → Int32} {f_seen : Nat → Int32} (X : kX p s m args meth c cX31_sum 8 RX31 (some .int) (dC, dI) cl (tX31 d)) {K115 : Int32 → Prop} {x1 : Int32} {x2 : Int32} {x3 : Int32}  (hk115 : ∀ (x4 : Int32), K115 x4 → ∀ (H : Heap) (locs : List Loc) (ls : Array Slot), kH (dC, dI) cl A s.heap H locs (wX31 ci ad d f_own f_rows f_uppers f_closed f_chosen f_fails f_counts f_seen) → lv_has ls 8 [(4, .int x4)] → W p l e ({ frames := 1, cells := 0, slots := 0, locals := 25 } : Room) s m args below meth c H locs 0 0 (MQ below (va_Qi (fun (r : Int32) (_ : Unit) => post r) (kB (dC, dI) cl (tX31 d) A (fun _ : Unit => (wX31 ci ad d f_own f_rows f_uppers f_closed f_chosen f_fails f_counts f_seen))) A) args s 0 0 A) (F0 m 115 ls [])) :
    ∀ (nn : Nat) (x4 : Int32) (x5 : Int32), wX31_sum_35 K115 x1 x2 x3 f_own f_closed f_fails nn x4 x5 → ∀ (H : Heap) (locs : List Loc) (ls : Array Slot), kH (dC, dI) cl A s.heap H locs (wX31 ci ad d f_own f_rows f_uppers f_closed f_chosen f_fails f_counts f_seen) → lv_has ls 8 [(0, .ref (ad 0)), (1, .int x1), (2, .int x2), (3, .int x3), (4, .int x4), (5, .int x5)] → W p l e ({ frames := 1, cells := 0, slots := 0, locals := 25 } : Room) s m args below meth c H locs 0 0 (MQ below (va_Qi (fun (r : Int32) (_ : Unit) => post r) (kB (dC, dI) cl (tX31 d) A (fun _ : Unit => (wX31 ci ad d f_own f_rows f_uppers f_closed f_chosen f_fails f_counts f_seen))) A) args s 0 0 A) (F0 m 35 ls []) := by
  have hx := X.1.1
  have hb := X.1.2.1
  intro nn
  induction nn with
  | zero =>
    intro x4 x5 hw
    exact False.elim hw
  | succ n ih =>
    intro x4 x5 hw H locs ls hH hl
    rw [wX31_sum_35] at hw
    refine lv_iload hx hb dX31_sum_35 (lv_at hl 5 rfl) ?_
    refine lv_bipush (v := 40) hx hb dX31_sum_37 (by decide) ?_
    refine lv_icmp_ge (tgt := 115) hx hb dX31_sum_39 (by decide) (fun c_7 => ?_) (fun c_7 => ?_)
    · have hw := hw.1 c_7
      exact hk115 x4 hw _ _ ls hH (lv_sub hl [4] rfl)
    · have hw := hw.2 c_7
      refine lv_aload_n hx hb dX31_sum_42 rfl (lv_at hl 0 rfl) ?_
      refine k_get X hH in_X31 0 rfl hc 5 (by decide) q1430 rfl dX31_sum_43 ?_
      refine lv_iload hx hb dX31_sum_46 (lv_at hl 5 rfl) ?_
      refine k_iald X hH 5 4 rfl rfl hw.1 dX31_sum_48 ?_
      have hw := hw.2
      refine lv_if_gt (tgt := 109) hx hb dX31_sum_49 (by decide) (fun c_8 => ?_) (fun c_8 => ?_)
      · have hw := hw.1 c_8
        obtain ⟨x5_9, ex5_9⟩ : ∃ y : Int32, y = x5 + 1 := ⟨_, rfl⟩
        have hw := hw x5_9 ex5_9
        refine lv_iinc (v := x5_9) (lv' := [(5, .int x5_9), (0, .ref (ad 0)), (1, .int x1), (2, .int x2), (3, .int x3), (4, .int x4)]) hx hb dX31_sum_109 hl (k := 5) rfl (by rw [ex5_9]; rfl) (by decide) rfl (fun ls hl => ?_)
        refine lv_goto (tgt := 35) hx hb dX31_sum_112 (by decide) ?_
        exact ih x4 x5_9 hw _ _ ls hH (lv_sub hl [1, 2, 3, 4, 5, 0] rfl)
      · have hw := hw.2 c_8
        refine lv_aload_n hx hb dX31_sum_52 rfl (lv_at hl 0 rfl) ?_
        refine lv_iload hx hb dX31_sum_53 (lv_at hl 5 rfl) ?_
        refine lv_iload_n hx hb dX31_sum_55 rfl (lv_at hl 1 rfl) ?_
        refine k_i0 hH (k_runV (As := [.int x5, .int x1]) (rest := []) X hH.1 hH.2.1 X.2.2.2 (walkX31_has hc hw) (cwV 2 X.1.2.2.2.2 gX31_35 rfl rfl rfl hX31_has ⟨Nat.le_of_ble_eq_true rfl, Nat.le_of_ble_eq_true rfl⟩) hc (q0 := 0) rfl rfl hl.1 rfl (Nat.le_of_ble_eq_true rfl) dX31_sum_56 ⟨Nat.le_refl 0, Nat.le_refl 0⟩) (fun r_10 _ H locs hw hH => ?_)
        have hH : kH (dC, dI) cl A s.heap H locs (wX31 ci ad d f_own f_rows f_uppers f_closed f_chosen f_fails f_counts f_seen) := hH
        refine lv_iload_n hx hb dX31_sum_59 rfl (lv_at hl 2 rfl) ?_
        refine lv_ishr hx hb dX31_sum_60 ?_
        refine lv_iconst (v := 1) hx hb dX31_sum_61 (by decide) ?_
        refine lv_iand hx hb dX31_sum_62 ?_
        refine lv_if_ne (tgt := 69) hx hb dX31_sum_63 (by decide) (fun c_11 => ?_) (fun c_11 => ?_)
        · have hw := hw.2 c_11
          refine lv_aload_n hx hb dX31_sum_69 rfl (lv_at hl 0 rfl) ?_
          refine lv_iload hx hb dX31_sum_70 (lv_at hl 5 rfl) ?_
          refine lv_iload_n hx hb dX31_sum_72 rfl (lv_at hl 3 rfl) ?_
          refine k_i0 hH (k_runV (As := [.int x5, .int x3]) (rest := []) X hH.1 hH.2.1 X.2.2.2 (walkX31_has hc hw) (cwV 2 X.1.2.2.2.2 gX31_35 rfl rfl rfl hX31_has ⟨Nat.le_of_ble_eq_true rfl, Nat.le_of_ble_eq_true rfl⟩) hc (q0 := 0) rfl rfl hl.1 rfl (Nat.le_of_ble_eq_true rfl) dX31_sum_73 ⟨Nat.le_refl 0, Nat.le_refl 0⟩) (fun r_12 _ H locs hw hH => ?_)
          have hH : kH (dC, dI) cl A s.heap H locs (wX31 ci ad d f_own f_rows f_uppers f_closed f_chosen f_fails f_counts f_seen) := hH
          refine lv_istore (lv' := [(6, .int r_12), (0, .ref (ad 0)), (1, .int x1), (2, .int x2), (3, .int x3), (4, .int x4), (5, .int x5)]) hx hb dX31_sum_76 hl (by decide) rfl (fun ls hl => ?_)
          refine lv_iconst (v := 0) hx hb dX31_sum_78 (by decide) ?_
          refine lv_istore (lv' := [(7, .int 0), (6, .int r_12), (0, .ref (ad 0)), (1, .int x1), (2, .int x2), (3, .int x3), (4, .int x4), (5, .int x5)]) hx hb dX31_sum_79 hl (by decide) rfl (fun ls hl => ?_)
          obtain ⟨fu, hw⟩ := hw
          refine atX31_sum_81 hc X ?_ fu x4 0 hw _ _ ls hH (lv_sub hl [2, 3, 4, 5, 6, 7, 1, 0] rfl)
          · intro x4_16 hw H locs ls hH hl
            obtain ⟨x5_17, ex5_17⟩ : ∃ y : Int32, y = x5 + 1 := ⟨_, rfl⟩
            have hw := hw x5_17 ex5_17
            refine lv_iinc (v := x5_17) (lv' := [(5, .int x5_17), (0, .ref (ad 0)), (1, .int x1), (2, .int x2), (3, .int x3), (4, .int x4_16)]) hx hb dX31_sum_109 hl (k := 5) rfl (by rw [ex5_17]; rfl) (by decide) rfl (fun ls hl => ?_)
            refine lv_goto (tgt := 35) hx hb dX31_sum_112 (by decide) ?_
            exact ih x4_16 x5_17 hw _ _ ls hH (lv_sub hl [1, 2, 3, 4, 5, 0] rfl)
        · have hw := hw.1 c_11
          refine lv_goto (tgt := 109) hx hb dX31_sum_66 (by decide) ?_
          obtain ⟨x5_18, ex5_18⟩ : ∃ y : Int32, y = x5 + 1 := ⟨_, rfl⟩
          have hw := hw x5_18 ex5_18
          refine lv_iinc (v := x5_18) (lv' := [(5, .int x5_18), (0, .ref (ad 0)), (1, .int x1), (2, .int x2), (3, .int x3), (4, .int x4)]) hx hb dX31_sum_109 hl (k := 5) rfl (by rw [ex5_18]; rfl) (by decide) rfl (fun ls hl => ?_)
          refine lv_goto (tgt := 35) hx hb dX31_sum_112 (by decide) ?_
          exact ih x4 x5_18 hw _ _ ls hH (lv_sub hl [1, 2, 3, 4, 5, 0] rfl)
set_option maxHeartbeats 4000000 in
theorem walkX31_sum {l : Launch} {dC : Nat → ClassId} {dI : Nat → Nat → Nat} {cl : List vw_C} {ci : Nat} (hc : cl[ci]? = some (RX31, TX31, 8)) {ad : Nat → Nat} {d : Nat → ClassId} {sz : Nat} {f_own : Nat → Int32} {f_rows : Int32} {f_uppers : Nat → Int32} {f_closed : Nat → Int32} {f_chosen : Nat → Int32} {f_fails : Nat → Int32} {f_counts : Nat → Int32} {f_seen : Nat → Int32} {x1 : Int32} {x2 : Int32} {x3 : Int32} {post : Int32 → Prop} (hw : wpX31_sum post f_own f_closed f_fails x1 x2 x3) :
    Met l yX31_sum (ws_ yX31_sum cX31_sum 8 (some .int)) ({ frames := 1, cells := 0, slots := 0, locals := 25 } : Room) (kPc (dC, dI) cl (tX31 d) [.ref (ad 0), .int x1, .int x2, .int x3] sz (wX31 ci ad d f_own f_rows f_uppers f_closed f_chosen f_fails f_counts f_seen)) (va_Qi (fun (r : Int32) (_ : Unit) => post r) (kB (dC, dI) cl (tX31 d) (va_A (wX31 ci ad d f_own f_rows f_uppers f_closed f_chosen f_fails f_counts f_seen) sz) (fun _ : Unit => (wX31 ci ad d f_own f_rows f_uppers f_closed f_chosen f_fails f_counts f_seen))) (va_A (wX31 ci ad d f_own f_rows f_uppers f_closed f_chosen f_fails f_counts f_seen) sz)) 0 0 (va_A (wX31 ci ad d f_own f_rows f_uppers f_closed f_chosen f_fails f_counts f_seen) sz) := by
  refine k_enter (by decide) (Nat.le_of_ble_eq_true rfl) ?_
  intro p e s m below meth c ls X hsz hH hl
  subst hsz
  generalize va_A (wX31 ci ad d f_own f_rows f_uppers f_closed f_chosen f_fails f_counts f_seen) s.heap.size = A at hH ⊢
  have hx := X.1.1
  have hb := X.1.2.1
  have hl : lv_has ls 8 [(0, .ref (ad 0)), (1, .int x1), (2, .int x2), (3, .int x3)] := hl
  unfold wpX31_sum at hw
  refine lv_iload_n hx hb dX31_sum_0 rfl (lv_at hl 1 rfl) ?_
  refine lv_bipush (v := 8) hx hb dX31_sum_1 (by decide) ?_
  refine k_i0 hH (k_runS (As := [.int x1, .int 8]) (rest := []) X hH.1 hH.2.1 X.2.2.2 (walkX31_isIn hc hw) (va_cwS 2 X.1.2.2.2.2 gX31_31 rfl rfl rfl hX31_isIn ⟨Nat.le_of_ble_eq_true rfl, Nat.le_of_ble_eq_true rfl⟩) rfl hl.1 rfl (Nat.le_of_ble_eq_true rfl) dX31_sum_3 ⟨Nat.le_refl 0, Nat.le_refl 0⟩) (fun r_1 _ H locs hw hH => ?_)
  have hH : kH (dC, dI) cl A s.heap H locs (wX31 ci ad d f_own f_rows f_uppers f_closed f_chosen f_fails f_counts f_seen) := hH
  refine lv_if_eq (tgt := 27) hx hb dX31_sum_6 (by decide) (fun c_2 => ?_) (fun c_2 => ?_)
  · have hw := hw.1 c_2
    refine lv_iconst (v := (-1)) hx hb dX31_sum_27 (by decide) ?_
    exact k_iret (v := (-1)) X hH () hw rfl rfl dX31_sum_28
  · have hw := hw.2 c_2
    refine lv_iload_n hx hb dX31_sum_9 rfl (lv_at hl 2 rfl) ?_
    refine lv_bipush (v := 32) hx hb dX31_sum_10 (by decide) ?_
    refine k_i0 hH (k_runS (As := [.int x2, .int 32]) (rest := []) X hH.1 hH.2.1 X.2.2.2 (walkX31_isIn hc hw) (va_cwS 2 X.1.2.2.2.2 gX31_31 rfl rfl rfl hX31_isIn ⟨Nat.le_of_ble_eq_true rfl, Nat.le_of_ble_eq_true rfl⟩) rfl hl.1 rfl (Nat.le_of_ble_eq_true rfl) dX31_sum_12 ⟨Nat.le_refl 0, Nat.le_refl 0⟩) (fun r_3 _ H locs hw hH => ?_)
    have hH : kH (dC, dI) cl A s.heap H locs (wX31 ci ad d f_own f_rows f_uppers f_closed f_chosen f_fails f_counts f_seen) := hH
    refine lv_if_eq (tgt := 27) hx hb dX31_sum_15 (by decide) (fun c_4 => ?_) (fun c_4 => ?_)
    · have hw := hw.1 c_4
      refine lv_iconst (v := (-1)) hx hb dX31_sum_27 (by decide) ?_
      exact k_iret (v := (-1)) X hH () hw rfl rfl dX31_sum_28
    · have hw := hw.2 c_4
      refine lv_iload_n hx hb dX31_sum_18 rfl (lv_at hl 3 rfl) ?_
      refine lv_bipush (v := 8) hx hb dX31_sum_19 (by decide) ?_
      refine k_i0 hH (k_runS (As := [.int x3, .int 8]) (rest := []) X hH.1 hH.2.1 X.2.2.2 (walkX31_isIn hc hw) (va_cwS 2 X.1.2.2.2.2 gX31_31 rfl rfl rfl hX31_isIn ⟨Nat.le_of_ble_eq_true rfl, Nat.le_of_ble_eq_true rfl⟩) rfl hl.1 rfl (Nat.le_of_ble_eq_true rfl) dX31_sum_21 ⟨Nat.le_refl 0, Nat.le_refl 0⟩) (fun r_5 _ H locs hw hH => ?_)
      have hH : kH (dC, dI) cl A s.heap H locs (wX31 ci ad d f_own f_rows f_uppers f_closed f_chosen f_fails f_counts f_seen) := hH
      refine lv_if_ne (tgt := 29) hx hb dX31_sum_24 (by decide) (fun c_6 => ?_) (fun c_6 => ?_)
      · have hw := hw.2 c_6
        refine lv_iconst (v := 0) hx hb dX31_sum_29 (by decide) ?_
        refine lv_istore (lv' := [(4, .int 0), (0, .ref (ad 0)), (1, .int x1), (2, .int x2), (3, .int x3)]) hx hb dX31_sum_30 hl (by decide) rfl (fun ls hl => ?_)
        refine lv_iconst (v := 0) hx hb dX31_sum_32 (by decide) ?_
        refine lv_istore (lv' := [(5, .int 0), (4, .int 0), (0, .ref (ad 0)), (1, .int x1), (2, .int x2), (3, .int x3)]) hx hb dX31_sum_33 hl (by decide) rfl (fun ls hl => ?_)
        obtain ⟨fu, hw⟩ := hw
        refine atX31_sum_35 hc X ?_ fu 0 0 hw _ _ ls hH (lv_sub hl [2, 3, 4, 5, 1, 0] rfl)
        · intro x4_19 hw H locs ls hH hl
          refine lv_iload hx hb dX31_sum_115 (lv_at hl 0 rfl) ?_
          exact k_iret (v := x4_19) X hH () hw rfl rfl dX31_sum_117
      · have hw := hw.1 c_6
        refine lv_iconst (v := (-1)) hx hb dX31_sum_27 (by decide) ?_
        exact k_iret (v := (-1)) X hH () hw rfl rfl dX31_sum_28
set_option maxHeartbeats 4000000 in
theorem atX31_changed_4 {p : Program} {l : Launch} {e : Env} {s : State} {m : MethodId} {args : Array Value} {below : List Frame} {meth : Method} {c : Code} {dC : Nat → ClassId} {dI : Nat → Nat → Nat} {cl : List vw_C} {ci : Nat} (hc : cl[ci]? = some (RX31, TX31, 8)) {ad : Nat → Nat} {d : Nat → ClassId} {A : Nat → Prop} {post : Int32 → (Nat → Int32) → Prop} {f_own : Nat → Int32} {f_rows : Int32} {f_uppers : Nat → Int32} {f_closed : Nat → Int32} {f_chosen : Nat → Int32} {f_fails : Nat → Int32} {f_counts : Nat → Int32} (X : kX p s m args meth c cX31_changed 3 RX31 (some .int) (dC, dI) cl (tX31 d)) {K54 : Int32 → (Nat → Int32) → Prop}   (hk54 : ∀ (x1 : Int32) (f_seen : Nat → Int32), K54 x1 f_seen → ∀ (H : Heap) (locs : List Loc) (ls : Array Slot), kH (dC, dI) cl A s.heap H locs (wX31 ci ad d f_own f_rows f_uppers f_closed f_chosen f_fails f_counts f_seen) → lv_has ls 3 [(1, .int x1)] → W p l e ({ frames := 0, cells := 0, slots := 0, locals := 0 } : Room) s m args below meth c H locs 0 0 (MQ below (va_Qi (fun (r : Int32) (u : (Nat → Int32)) => post r (u)) (kB (dC, dI) cl (tX31 d) A (fun u : (Nat → Int32) => (wX31 ci ad d f_own f_rows f_uppers f_closed f_chosen f_fails f_counts (u)))) A) args s 0 0 A) (F0 m 54 ls [])) :
    ∀ (nn : Nat) (x1 : Int32) (x2 : Int32) (f_seen : Nat → Int32), wX31_changed_4 K54 f_counts nn x1 x2 f_seen → ∀ (H : Heap) (locs : List Loc) (ls : Array Slot), kH (dC, dI) cl A s.heap H locs (wX31 ci ad d f_own f_rows f_uppers f_closed f_chosen f_fails f_counts f_seen) → lv_has ls 3 [(0, .ref (ad 0)), (1, .int x1), (2, .int x2)] → W p l e ({ frames := 0, cells := 0, slots := 0, locals := 0 } : Room) s m args below meth c H locs 0 0 (MQ below (va_Qi (fun (r : Int32) (u : (Nat → Int32)) => post r (u)) (kB (dC, dI) cl (tX31 d) A (fun u : (Nat → Int32) => (wX31 ci ad d f_own f_rows f_uppers f_closed f_chosen f_fails f_counts (u)))) A) args s 0 0 A) (F0 m 4 ls []) := by
  have hx := X.1.1
  have hb := X.1.2.1
  intro nn
  induction nn with
  | zero =>
    intro x1 x2 f_seen hw
    exact False.elim hw
  | succ n ih =>
    intro x1 x2 f_seen hw H locs ls hH hl
    rw [wX31_changed_4] at hw
    refine lv_iload_n hx hb dX31_changed_4 rfl (lv_at hl 2 rfl) ?_
    refine lv_aload_n hx hb dX31_changed_5 rfl (lv_at hl 0 rfl) ?_
    refine k_get X hH in_X31 0 rfl hc 6 (by decide) q1431 rfl dX31_changed_6 ?_
    refine k_alen (v := 256) X hH 6 5 rfl rfl rfl dX31_changed_9 ?_
    refine lv_icmp_ge (tgt := 54) hx hb dX31_changed_10 (by decide) (fun c_1 => ?_) (fun c_1 => ?_)
    · have hw := hw.1 c_1
      exact hk54 x1 f_seen hw _ _ ls hH (lv_sub hl [1] rfl)
    · have hw := hw.2 c_1
      refine lv_iload_n hx hb dX31_changed_13 rfl (lv_at hl 1 rfl) ?_
      refine lv_aload_n hx hb dX31_changed_14 rfl (lv_at hl 0 rfl) ?_
      refine k_get X hH in_X31 0 rfl hc 6 (by decide) q1431 rfl dX31_changed_15 ?_
      refine lv_iload_n hx hb dX31_changed_18 rfl (lv_at hl 2 rfl) ?_
      refine k_iald X hH 6 5 rfl rfl hw.1 dX31_changed_19 ?_
      have hw := hw.2
      refine lv_aload_n hx hb dX31_changed_20 rfl (lv_at hl 0 rfl) ?_
      refine k_get X hH in_X31 0 rfl hc 7 (by decide) q1432 rfl dX31_changed_21 ?_
      refine lv_iload_n hx hb dX31_changed_24 rfl (lv_at hl 2 rfl) ?_
      refine k_iald X hH 7 6 rfl rfl hw.1 dX31_changed_25 ?_
      have hw := hw.2
      refine lv_icmp_eq (tgt := 33) hx hb dX31_changed_26 (by decide) (fun c_2 => ?_) (fun c_2 => ?_)
      · have hw := hw.1 c_2
        refine lv_iconst (v := 0) hx hb dX31_changed_33 (by decide) ?_
        refine lv_iadd hx hb dX31_changed_34 ?_
        refine lv_topi (fun x1_3 ex1_3 => ?_)
        have hw := hw x1_3 ex1_3
        refine lv_istore_n (lv' := [(1, .int x1_3), (0, .ref (ad 0)), (2, .int x2)]) hx hb dX31_changed_35 rfl hl (by decide) rfl (fun ls hl => ?_)
        refine lv_aload_n hx hb dX31_changed_36 rfl (lv_at hl 1 rfl) ?_
        refine k_get X hH in_X31 0 rfl hc 7 (by decide) q1432 rfl dX31_changed_37 ?_
        refine lv_iload_n hx hb dX31_changed_40 rfl (lv_at hl 2 rfl) ?_
        refine lv_aload_n hx hb dX31_changed_41 rfl (lv_at hl 1 rfl) ?_
        refine k_get X hH in_X31 0 rfl hc 6 (by decide) q1431 rfl dX31_changed_42 ?_
        refine lv_iload_n hx hb dX31_changed_45 rfl (lv_at hl 2 rfl) ?_
        refine k_iald X hH 6 5 rfl rfl hw.1 dX31_changed_46 ?_
        have hw := hw.2
        refine lv_topi (fun v_4 ev_4 => ?_)
        have hw := hw v_4 ev_4
        obtain ⟨f_seen_5, ef_seen_5⟩ : ∃ y : Nat → Int32, y = upd f_seen x2.toNatClampNeg v_4 := ⟨_, rfl⟩
        refine k_iast X hH 7 6 rfl rfl hw.1 dX31_changed_47 ef_seen_5 (ws1 := (wX31 ci ad d f_own f_rows f_uppers f_closed f_chosen f_fails f_counts f_seen_5)) rfl (fun H locs hH => ?_)
        have hw := hw.2 f_seen_5 ef_seen_5
        obtain ⟨x2_6, ex2_6⟩ : ∃ y : Int32, y = x2 + 1 := ⟨_, rfl⟩
        have hw := hw x2_6 ex2_6
        refine lv_iinc (v := x2_6) (lv' := [(2, .int x2_6), (1, .int x1_3), (0, .ref (ad 0))]) hx hb dX31_changed_48 hl (k := 2) rfl (by rw [ex2_6]; rfl) (by decide) rfl (fun ls hl => ?_)
        refine lv_goto (tgt := 4) hx hb dX31_changed_51 (by decide) ?_
        exact ih x1_3 x2_6 f_seen_5 hw _ _ ls hH (lv_sub hl [2, 1, 0] rfl)
      · have hw := hw.2 c_2
        refine lv_iconst (v := 1) hx hb dX31_changed_29 (by decide) ?_
        refine lv_goto (tgt := 34) hx hb dX31_changed_30 (by decide) ?_
        refine lv_iadd hx hb dX31_changed_34 ?_
        refine lv_topi (fun x1_7 ex1_7 => ?_)
        have hw := hw x1_7 ex1_7
        refine lv_istore_n (lv' := [(1, .int x1_7), (0, .ref (ad 0)), (2, .int x2)]) hx hb dX31_changed_35 rfl hl (by decide) rfl (fun ls hl => ?_)
        refine lv_aload_n hx hb dX31_changed_36 rfl (lv_at hl 1 rfl) ?_
        refine k_get X hH in_X31 0 rfl hc 7 (by decide) q1432 rfl dX31_changed_37 ?_
        refine lv_iload_n hx hb dX31_changed_40 rfl (lv_at hl 2 rfl) ?_
        refine lv_aload_n hx hb dX31_changed_41 rfl (lv_at hl 1 rfl) ?_
        refine k_get X hH in_X31 0 rfl hc 6 (by decide) q1431 rfl dX31_changed_42 ?_
        refine lv_iload_n hx hb dX31_changed_45 rfl (lv_at hl 2 rfl) ?_
        refine k_iald X hH 6 5 rfl rfl hw.1 dX31_changed_46 ?_
        have hw := hw.2
        refine lv_topi (fun v_8 ev_8 => ?_)
        have hw := hw v_8 ev_8
        obtain ⟨f_seen_9, ef_seen_9⟩ : ∃ y : Nat → Int32, y = upd f_seen x2.toNatClampNeg v_8 := ⟨_, rfl⟩
        refine k_iast X hH 7 6 rfl rfl hw.1 dX31_changed_47 ef_seen_9 (ws1 := (wX31 ci ad d f_own f_rows f_uppers f_closed f_chosen f_fails f_counts f_seen_9)) rfl (fun H locs hH => ?_)
        have hw := hw.2 f_seen_9 ef_seen_9
        obtain ⟨x2_10, ex2_10⟩ : ∃ y : Int32, y = x2 + 1 := ⟨_, rfl⟩
        have hw := hw x2_10 ex2_10
        refine lv_iinc (v := x2_10) (lv' := [(2, .int x2_10), (1, .int x1_7), (0, .ref (ad 0))]) hx hb dX31_changed_48 hl (k := 2) rfl (by rw [ex2_10]; rfl) (by decide) rfl (fun ls hl => ?_)
        refine lv_goto (tgt := 4) hx hb dX31_changed_51 (by decide) ?_
        exact ih x1_7 x2_10 f_seen_9 hw _ _ ls hH (lv_sub hl [2, 1, 0] rfl)
set_option maxHeartbeats 4000000 in
theorem walkX31_changed {l : Launch} {dC : Nat → ClassId} {dI : Nat → Nat → Nat} {cl : List vw_C} {ci : Nat} (hc : cl[ci]? = some (RX31, TX31, 8)) {ad : Nat → Nat} {d : Nat → ClassId} {sz : Nat} {f_own : Nat → Int32} {f_rows : Int32} {f_uppers : Nat → Int32} {f_closed : Nat → Int32} {f_chosen : Nat → Int32} {f_fails : Nat → Int32} {f_counts : Nat → Int32} {f_seen : Nat → Int32}  {post : Int32 → (Nat → Int32) → Prop} (hw : wpX31_changed post f_counts f_seen ) :
    Met l yX31_changed (ws_ yX31_changed cX31_changed 3 (some .int)) ({ frames := 0, cells := 0, slots := 0, locals := 0 } : Room) (kPc (dC, dI) cl (tX31 d) [.ref (ad 0)] sz (wX31 ci ad d f_own f_rows f_uppers f_closed f_chosen f_fails f_counts f_seen)) (va_Qi (fun (r : Int32) (u : (Nat → Int32)) => post r (u)) (kB (dC, dI) cl (tX31 d) (va_A (wX31 ci ad d f_own f_rows f_uppers f_closed f_chosen f_fails f_counts f_seen) sz) (fun u : (Nat → Int32) => (wX31 ci ad d f_own f_rows f_uppers f_closed f_chosen f_fails f_counts (u)))) (va_A (wX31 ci ad d f_own f_rows f_uppers f_closed f_chosen f_fails f_counts f_seen) sz)) 0 0 (va_A (wX31 ci ad d f_own f_rows f_uppers f_closed f_chosen f_fails f_counts f_seen) sz) := by
  refine k_enter (by decide) (Nat.le_of_ble_eq_true rfl) ?_
  intro p e s m below meth c ls X hsz hH hl
  subst hsz
  generalize va_A (wX31 ci ad d f_own f_rows f_uppers f_closed f_chosen f_fails f_counts f_seen) s.heap.size = A at hH ⊢
  have hx := X.1.1
  have hb := X.1.2.1
  have hl : lv_has ls 3 [(0, .ref (ad 0))] := hl
  unfold wpX31_changed at hw
  refine lv_iconst (v := 0) hx hb dX31_changed_0 (by decide) ?_
  refine lv_istore_n (lv' := [(1, .int 0), (0, .ref (ad 0))]) hx hb dX31_changed_1 rfl hl (by decide) rfl (fun ls hl => ?_)
  refine lv_iconst (v := 0) hx hb dX31_changed_2 (by decide) ?_
  refine lv_istore_n (lv' := [(2, .int 0), (1, .int 0), (0, .ref (ad 0))]) hx hb dX31_changed_3 rfl hl (by decide) rfl (fun ls hl => ?_)
  obtain ⟨fu, hw⟩ := hw
  refine atX31_changed_4 hc X ?_ fu 0 0 f_seen hw _ _ ls hH (lv_sub hl [2, 1, 0] rfl)
  · intro x1_11 f_seen_12 hw H locs ls hH hl
    refine lv_iload_n hx hb dX31_changed_54 rfl (lv_at hl 0 rfl) ?_
    exact k_iret (v := x1_11) X hH (f_seen_12) hw rfl rfl dX31_changed_55
set_option maxHeartbeats 4000000 in
theorem walkX31_rows {l : Launch} {dC : Nat → ClassId} {dI : Nat → Nat → Nat} {cl : List vw_C} {ci : Nat} (hc : cl[ci]? = some (RX31, TX31, 8)) {ad : Nat → Nat} {d : Nat → ClassId} {sz : Nat} {f_own : Nat → Int32} {f_rows : Int32} {f_uppers : Nat → Int32} {f_closed : Nat → Int32} {f_chosen : Nat → Int32} {f_fails : Nat → Int32} {f_counts : Nat → Int32} {f_seen : Nat → Int32}  {post : Int32 → Prop} (hw : wpX31_rows post f_rows ) :
    Met l yX31_rows (ws_ yX31_rows cX31_rows 1 (some .int)) ({ frames := 0, cells := 0, slots := 0, locals := 0 } : Room) (kPc (dC, dI) cl (tX31 d) [.ref (ad 0)] sz (wX31 ci ad d f_own f_rows f_uppers f_closed f_chosen f_fails f_counts f_seen)) (va_Qi (fun (r : Int32) (_ : Unit) => post r) (kB (dC, dI) cl (tX31 d) (va_A (wX31 ci ad d f_own f_rows f_uppers f_closed f_chosen f_fails f_counts f_seen) sz) (fun _ : Unit => (wX31 ci ad d f_own f_rows f_uppers f_closed f_chosen f_fails f_counts f_seen))) (va_A (wX31 ci ad d f_own f_rows f_uppers f_closed f_chosen f_fails f_counts f_seen) sz)) 0 0 (va_A (wX31 ci ad d f_own f_rows f_uppers f_closed f_chosen f_fails f_counts f_seen) sz) := by
  refine k_enter (by decide) (Nat.le_of_ble_eq_true rfl) ?_
  intro p e s m below meth c ls X hsz hH hl
  subst hsz
  generalize va_A (wX31 ci ad d f_own f_rows f_uppers f_closed f_chosen f_fails f_counts f_seen) s.heap.size = A at hH ⊢
  have hx := X.1.1
  have hb := X.1.2.1
  have hl : lv_has ls 1 [(0, .ref (ad 0))] := hl
  unfold wpX31_rows at hw
  refine lv_aload_n hx hb dX31_rows_0 rfl (lv_at hl 0 rfl) ?_
  refine k_get X hH in_X31 0 rfl hc 1 (by decide) q1426 rfl dX31_rows_1 ?_
  exact k_iret (v := f_rows) X hH () hw rfl rfl dX31_rows_4
