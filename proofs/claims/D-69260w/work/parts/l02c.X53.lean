/-! KnowHouseModel$FacetCountsModel (printed by tools/gen.py) -/
set_option maxRecDepth 100000
set_option maxHeartbeats 4000000 in
theorem walkX53_isThing {l : Launch} {dC : Nat → ClassId} {dI : Nat → Nat → Nat} {cl : List vw_C} {ci : Nat} (hc : cl[ci]? = some (RX53, TX53, 12)) {ad : Nat → Nat} {d : Nat → ClassId} {sz : Nat} {f_thrown : Int32} {f_rows : Int32} {f_things : Nat → Int32} {f_heads : Nat → Int32} {f_values : Nat → Int32} {f_uppers : Nat → Int32} {f_chosen : Nat → Int32} {f_seen : Nat → Int32} {f_fresh : Int32} {f_has : Nat → Int32} {f_but : Nat → Int32} {f_kept : Nat → Int32} {x0 : Int32} {post : Int32 → Prop} (hw : wpX53_isThing post  x0) :
    Met l yX53_isThing (ws_ yX53_isThing cX53_isThing 1 (some .boolean)) ({ frames := 0, cells := 0, slots := 0, locals := 0 } : Room) (kPc (dC, dI) cl (tX53 d) [.int x0] sz (wX53 ci ad d f_thrown f_rows f_things f_heads f_values f_uppers f_chosen f_seen f_fresh f_has f_but f_kept)) (va_Qi (fun (r : Int32) (_ : Unit) => post r) (kB (dC, dI) cl (tX53 d) (va_A (wX53 ci ad d f_thrown f_rows f_things f_heads f_values f_uppers f_chosen f_seen f_fresh f_has f_but f_kept) sz) (fun _ : Unit => (wX53 ci ad d f_thrown f_rows f_things f_heads f_values f_uppers f_chosen f_seen f_fresh f_has f_but f_kept))) (va_A (wX53 ci ad d f_thrown f_rows f_things f_heads f_values f_uppers f_chosen f_seen f_fresh f_has f_but f_kept) sz)) 0 0 (va_A (wX53 ci ad d f_thrown f_rows f_things f_heads f_values f_uppers f_chosen f_seen f_fresh f_has f_but f_kept) sz) := by
  refine k_enter (by decide) (Nat.le_of_ble_eq_true rfl) ?_
  intro p e s m below meth c ls X hsz hH hl
  subst hsz
  generalize va_A (wX53 ci ad d f_thrown f_rows f_things f_heads f_values f_uppers f_chosen f_seen f_fresh f_has f_but f_kept) s.heap.size = A at hH ⊢
  have hx := X.1.1
  have hb := X.1.2.1
  have hl : lv_has ls 1 [(0, .int x0)] := hl
  unfold wpX53_isThing at hw
  refine lv_iload_n hx hb dX53_isThing_0 rfl (lv_at hl 0 rfl) ?_
  refine lv_if_lt (tgt := 14) hx hb dX53_isThing_1 (by decide) (fun c_1 => ?_) (fun c_1 => ?_)
  · have hw := hw.1 c_1
    refine lv_iconst (v := 0) hx hb dX53_isThing_14 (by decide) ?_
    exact k_iret (v := 0) X hH () hw rfl rfl dX53_isThing_15
  · have hw := hw.2 c_1
    refine lv_iload_n hx hb dX53_isThing_4 rfl (lv_at hl 0 rfl) ?_
    refine lv_bipush (v := 40) hx hb dX53_isThing_5 (by decide) ?_
    refine lv_icmp_ge (tgt := 14) hx hb dX53_isThing_7 (by decide) (fun c_2 => ?_) (fun c_2 => ?_)
    · have hw := hw.1 c_2
      refine lv_iconst (v := 0) hx hb dX53_isThing_14 (by decide) ?_
      exact k_iret (v := 0) X hH () hw rfl rfl dX53_isThing_15
    · have hw := hw.2 c_2
      refine lv_iconst (v := 1) hx hb dX53_isThing_10 (by decide) ?_
      refine lv_goto (tgt := 15) hx hb dX53_isThing_11 (by decide) ?_
      exact k_iret (v := 1) X hH () hw rfl rfl dX53_isThing_15
set_option maxHeartbeats 4000000 in
theorem walkX53_isHead {l : Launch} {dC : Nat → ClassId} {dI : Nat → Nat → Nat} {cl : List vw_C} {ci : Nat} (hc : cl[ci]? = some (RX53, TX53, 12)) {ad : Nat → Nat} {d : Nat → ClassId} {sz : Nat} {f_thrown : Int32} {f_rows : Int32} {f_things : Nat → Int32} {f_heads : Nat → Int32} {f_values : Nat → Int32} {f_uppers : Nat → Int32} {f_chosen : Nat → Int32} {f_seen : Nat → Int32} {f_fresh : Int32} {f_has : Nat → Int32} {f_but : Nat → Int32} {f_kept : Nat → Int32} {x0 : Int32} {post : Int32 → Prop} (hw : wpX53_isHead post  x0) :
    Met l yX53_isHead (ws_ yX53_isHead cX53_isHead 1 (some .boolean)) ({ frames := 0, cells := 0, slots := 0, locals := 0 } : Room) (kPc (dC, dI) cl (tX53 d) [.int x0] sz (wX53 ci ad d f_thrown f_rows f_things f_heads f_values f_uppers f_chosen f_seen f_fresh f_has f_but f_kept)) (va_Qi (fun (r : Int32) (_ : Unit) => post r) (kB (dC, dI) cl (tX53 d) (va_A (wX53 ci ad d f_thrown f_rows f_things f_heads f_values f_uppers f_chosen f_seen f_fresh f_has f_but f_kept) sz) (fun _ : Unit => (wX53 ci ad d f_thrown f_rows f_things f_heads f_values f_uppers f_chosen f_seen f_fresh f_has f_but f_kept))) (va_A (wX53 ci ad d f_thrown f_rows f_things f_heads f_values f_uppers f_chosen f_seen f_fresh f_has f_but f_kept) sz)) 0 0 (va_A (wX53 ci ad d f_thrown f_rows f_things f_heads f_values f_uppers f_chosen f_seen f_fresh f_has f_but f_kept) sz) := by
  refine k_enter (by decide) (Nat.le_of_ble_eq_true rfl) ?_
  intro p e s m below meth c ls X hsz hH hl
  subst hsz
  generalize va_A (wX53 ci ad d f_thrown f_rows f_things f_heads f_values f_uppers f_chosen f_seen f_fresh f_has f_but f_kept) s.heap.size = A at hH ⊢
  have hx := X.1.1
  have hb := X.1.2.1
  have hl : lv_has ls 1 [(0, .int x0)] := hl
  unfold wpX53_isHead at hw
  refine lv_iload_n hx hb dX53_isHead_0 rfl (lv_at hl 0 rfl) ?_
  refine lv_if_lt (tgt := 14) hx hb dX53_isHead_1 (by decide) (fun c_1 => ?_) (fun c_1 => ?_)
  · have hw := hw.1 c_1
    refine lv_iconst (v := 0) hx hb dX53_isHead_14 (by decide) ?_
    exact k_iret (v := 0) X hH () hw rfl rfl dX53_isHead_15
  · have hw := hw.2 c_1
    refine lv_iload_n hx hb dX53_isHead_4 rfl (lv_at hl 0 rfl) ?_
    refine lv_bipush (v := 8) hx hb dX53_isHead_5 (by decide) ?_
    refine lv_icmp_ge (tgt := 14) hx hb dX53_isHead_7 (by decide) (fun c_2 => ?_) (fun c_2 => ?_)
    · have hw := hw.1 c_2
      refine lv_iconst (v := 0) hx hb dX53_isHead_14 (by decide) ?_
      exact k_iret (v := 0) X hH () hw rfl rfl dX53_isHead_15
    · have hw := hw.2 c_2
      refine lv_iconst (v := 1) hx hb dX53_isHead_10 (by decide) ?_
      refine lv_goto (tgt := 15) hx hb dX53_isHead_11 (by decide) ?_
      exact k_iret (v := 1) X hH () hw rfl rfl dX53_isHead_15
set_option maxHeartbeats 4000000 in
theorem walkX53_isValue {l : Launch} {dC : Nat → ClassId} {dI : Nat → Nat → Nat} {cl : List vw_C} {ci : Nat} (hc : cl[ci]? = some (RX53, TX53, 12)) {ad : Nat → Nat} {d : Nat → ClassId} {sz : Nat} {f_thrown : Int32} {f_rows : Int32} {f_things : Nat → Int32} {f_heads : Nat → Int32} {f_values : Nat → Int32} {f_uppers : Nat → Int32} {f_chosen : Nat → Int32} {f_seen : Nat → Int32} {f_fresh : Int32} {f_has : Nat → Int32} {f_but : Nat → Int32} {f_kept : Nat → Int32} {x0 : Int32} {post : Int32 → Prop} (hw : wpX53_isValue post  x0) :
    Met l yX53_isValue (ws_ yX53_isValue cX53_isValue 1 (some .boolean)) ({ frames := 0, cells := 0, slots := 0, locals := 0 } : Room) (kPc (dC, dI) cl (tX53 d) [.int x0] sz (wX53 ci ad d f_thrown f_rows f_things f_heads f_values f_uppers f_chosen f_seen f_fresh f_has f_but f_kept)) (va_Qi (fun (r : Int32) (_ : Unit) => post r) (kB (dC, dI) cl (tX53 d) (va_A (wX53 ci ad d f_thrown f_rows f_things f_heads f_values f_uppers f_chosen f_seen f_fresh f_has f_but f_kept) sz) (fun _ : Unit => (wX53 ci ad d f_thrown f_rows f_things f_heads f_values f_uppers f_chosen f_seen f_fresh f_has f_but f_kept))) (va_A (wX53 ci ad d f_thrown f_rows f_things f_heads f_values f_uppers f_chosen f_seen f_fresh f_has f_but f_kept) sz)) 0 0 (va_A (wX53 ci ad d f_thrown f_rows f_things f_heads f_values f_uppers f_chosen f_seen f_fresh f_has f_but f_kept) sz) := by
  refine k_enter (by decide) (Nat.le_of_ble_eq_true rfl) ?_
  intro p e s m below meth c ls X hsz hH hl
  subst hsz
  generalize va_A (wX53 ci ad d f_thrown f_rows f_things f_heads f_values f_uppers f_chosen f_seen f_fresh f_has f_but f_kept) s.heap.size = A at hH ⊢
  have hx := X.1.1
  have hb := X.1.2.1
  have hl : lv_has ls 1 [(0, .int x0)] := hl
  unfold wpX53_isValue at hw
  refine lv_iload_n hx hb dX53_isValue_0 rfl (lv_at hl 0 rfl) ?_
  refine lv_if_lt (tgt := 14) hx hb dX53_isValue_1 (by decide) (fun c_1 => ?_) (fun c_1 => ?_)
  · have hw := hw.1 c_1
    refine lv_iconst (v := 0) hx hb dX53_isValue_14 (by decide) ?_
    exact k_iret (v := 0) X hH () hw rfl rfl dX53_isValue_15
  · have hw := hw.2 c_1
    refine lv_iload_n hx hb dX53_isValue_4 rfl (lv_at hl 0 rfl) ?_
    refine lv_bipush (v := 32) hx hb dX53_isValue_5 (by decide) ?_
    refine lv_icmp_ge (tgt := 14) hx hb dX53_isValue_7 (by decide) (fun c_2 => ?_) (fun c_2 => ?_)
    · have hw := hw.1 c_2
      refine lv_iconst (v := 0) hx hb dX53_isValue_14 (by decide) ?_
      exact k_iret (v := 0) X hH () hw rfl rfl dX53_isValue_15
    · have hw := hw.2 c_2
      refine lv_iconst (v := 1) hx hb dX53_isValue_10 (by decide) ?_
      refine lv_goto (tgt := 15) hx hb dX53_isValue_11 (by decide) ?_
      exact k_iret (v := 1) X hH () hw rfl rfl dX53_isValue_15
set_option maxHeartbeats 4000000 in
theorem atX53_find_3 {p : Program} {l : Launch} {e : Env} {s : State} {m : MethodId} {args : Array Value} {below : List Frame} {meth : Method} {c : Code} {dC : Nat → ClassId} {dI : Nat → Nat → Nat} {cl : List vw_C} {ci : Nat} (hc : cl[ci]? = some (RX53, TX53, 12)) {ad : Nat → Nat} {d : Nat → ClassId} {A : Nat → Prop} {post : Int32 → Prop} {f_thrown : Int32} {f_rows : Int32} {f_things : Nat → Int32} {f_heads : Nat → Int32} {f_values : Nat → Int32} {f_uppers : Nat → Int32} {f_chosen : Nat → Int32} {f_seen : Nat → Int32} {f_fresh : Int32} {f_has : Nat → Int32} {f_but : Nat → Int32} {f_kept : Nat → Int32} (X : kX p s m args meth c cX53_find 5 RX53 (some .int) (dC, dI) cl (tX53 d)) {K51 : Int32 → Prop} {x1 : Int32} {x2 : Int32} {x3 : Int32}  (hk51 : ∀ (x4 : Int32), K51 x4 → ∀ (H : Heap) (locs : List Loc) (ls : Array Slot), kH (dC, dI) cl A s.heap H locs (wX53 ci ad d f_thrown f_rows f_things f_heads f_values f_uppers f_chosen f_seen f_fresh f_has f_but f_kept) → lv_has ls 5 [(4, .int x4)] → W p l e ({ frames := 0, cells := 0, slots := 0, locals := 0 } : Room) s m args below meth c H locs 0 0 (MQ below (va_Qi (fun (r : Int32) (_ : Unit) => post r) (kB (dC, dI) cl (tX53 d) A (fun _ : Unit => (wX53 ci ad d f_thrown f_rows f_things f_heads f_values f_uppers f_chosen f_seen f_fresh f_has f_but f_kept))) A) args s 0 0 A) (F0 m 51 ls [])) :
    ∀ (nn : Nat) (x4 : Int32), wX53_find_3 K51 x1 x2 x3 f_rows f_things f_heads f_values nn x4 → ∀ (H : Heap) (locs : List Loc) (ls : Array Slot), kH (dC, dI) cl A s.heap H locs (wX53 ci ad d f_thrown f_rows f_things f_heads f_values f_uppers f_chosen f_seen f_fresh f_has f_but f_kept) → lv_has ls 5 [(0, .ref (ad 0)), (1, .int x1), (2, .int x2), (3, .int x3), (4, .int x4)] → W p l e ({ frames := 0, cells := 0, slots := 0, locals := 0 } : Room) s m args below meth c H locs 0 0 (MQ below (va_Qi (fun (r : Int32) (_ : Unit) => post r) (kB (dC, dI) cl (tX53 d) A (fun _ : Unit => (wX53 ci ad d f_thrown f_rows f_things f_heads f_values f_uppers f_chosen f_seen f_fresh f_has f_but f_kept))) A) args s 0 0 A) (F0 m 3 ls []) := by
  have hx := X.1.1
  have hb := X.1.2.1
  intro nn
  induction nn with
  | zero =>
    intro x4 hw
    exact False.elim hw
  | succ n ih =>
    intro x4 hw H locs ls hH hl
    rw [wX53_find_3] at hw
    refine lv_iload hx hb dX53_find_3 (lv_at hl 4 rfl) ?_
    refine lv_aload_n hx hb dX53_find_5 rfl (lv_at hl 0 rfl) ?_
    refine k_get X hH in_X53 0 rfl hc 1 (by decide) q6458 rfl dX53_find_6 ?_
    refine lv_icmp_ge (tgt := 51) hx hb dX53_find_9 (by decide) (fun c_1 => ?_) (fun c_1 => ?_)
    · have hw := hw.1 c_1
      exact hk51 x4 hw _ _ ls hH (lv_sub hl [4] rfl)
    · have hw := hw.2 c_1
      refine lv_aload_n hx hb dX53_find_12 rfl (lv_at hl 0 rfl) ?_
      refine k_get X hH in_X53 0 rfl hc 2 (by decide) q6459 rfl dX53_find_13 ?_
      refine lv_iload hx hb dX53_find_16 (lv_at hl 4 rfl) ?_
      refine k_iald X hH 1 0 rfl rfl hw.1 dX53_find_18 ?_
      have hw := hw.2
      refine lv_iload_n hx hb dX53_find_19 rfl (lv_at hl 1 rfl) ?_
      refine lv_icmp_ne (tgt := 45) hx hb dX53_find_20 (by decide) (fun c_2 => ?_) (fun c_2 => ?_)
      · have hw := hw.2 c_2
        obtain ⟨x4_3, ex4_3⟩ : ∃ y : Int32, y = x4 + 1 := ⟨_, rfl⟩
        have hw := hw x4_3 ex4_3
        refine lv_iinc (v := x4_3) (lv' := [(4, .int x4_3), (0, .ref (ad 0)), (1, .int x1), (2, .int x2), (3, .int x3)]) hx hb dX53_find_45 hl (k := 4) rfl (by rw [ex4_3]; rfl) (by decide) rfl (fun ls hl => ?_)
        refine lv_goto (tgt := 3) hx hb dX53_find_48 (by decide) ?_
        exact ih x4_3 hw _ _ ls hH (lv_sub hl [1, 2, 3, 4, 0] rfl)
      · have hw := hw.1 c_2
        refine lv_aload_n hx hb dX53_find_23 rfl (lv_at hl 0 rfl) ?_
        refine k_get X hH in_X53 0 rfl hc 3 (by decide) q6460 rfl dX53_find_24 ?_
        refine lv_iload hx hb dX53_find_27 (lv_at hl 4 rfl) ?_
        refine k_iald X hH 2 1 rfl rfl hw.1 dX53_find_29 ?_
        have hw := hw.2
        refine lv_iload_n hx hb dX53_find_30 rfl (lv_at hl 2 rfl) ?_
        refine lv_icmp_ne (tgt := 45) hx hb dX53_find_31 (by decide) (fun c_4 => ?_) (fun c_4 => ?_)
        · have hw := hw.2 c_4
          obtain ⟨x4_5, ex4_5⟩ : ∃ y : Int32, y = x4 + 1 := ⟨_, rfl⟩
          have hw := hw x4_5 ex4_5
          refine lv_iinc (v := x4_5) (lv' := [(4, .int x4_5), (0, .ref (ad 0)), (1, .int x1), (2, .int x2), (3, .int x3)]) hx hb dX53_find_45 hl (k := 4) rfl (by rw [ex4_5]; rfl) (by decide) rfl (fun ls hl => ?_)
          refine lv_goto (tgt := 3) hx hb dX53_find_48 (by decide) ?_
          exact ih x4_5 hw _ _ ls hH (lv_sub hl [1, 2, 3, 4, 0] rfl)
        · have hw := hw.1 c_4
          refine lv_aload_n hx hb dX53_find_34 rfl (lv_at hl 0 rfl) ?_
          refine k_get X hH in_X53 0 rfl hc 4 (by decide) q6461 rfl dX53_find_35 ?_
          refine lv_iload hx hb dX53_find_38 (lv_at hl 4 rfl) ?_
          refine k_iald X hH 3 2 rfl rfl hw.1 dX53_find_40 ?_
          have hw := hw.2
          refine lv_iload_n hx hb dX53_find_41 rfl (lv_at hl 3 rfl) ?_
          refine lv_icmp_eq (tgt := 51) hx hb dX53_find_42 (by decide) (fun c_6 => ?_) (fun c_6 => ?_)
          · have hw := hw.1 c_6
            exact hk51 x4 hw _ _ ls hH (lv_sub hl [4] rfl)
          · have hw := hw.2 c_6
            obtain ⟨x4_7, ex4_7⟩ : ∃ y : Int32, y = x4 + 1 := ⟨_, rfl⟩
            have hw := hw x4_7 ex4_7
            refine lv_iinc (v := x4_7) (lv' := [(4, .int x4_7), (0, .ref (ad 0)), (1, .int x1), (2, .int x2), (3, .int x3)]) hx hb dX53_find_45 hl (k := 4) rfl (by rw [ex4_7]; rfl) (by decide) rfl (fun ls hl => ?_)
            refine lv_goto (tgt := 3) hx hb dX53_find_48 (by decide) ?_
            exact ih x4_7 hw _ _ ls hH (lv_sub hl [1, 2, 3, 4, 0] rfl)
set_option maxHeartbeats 4000000 in
theorem walkX53_find {l : Launch} {dC : Nat → ClassId} {dI : Nat → Nat → Nat} {cl : List vw_C} {ci : Nat} (hc : cl[ci]? = some (RX53, TX53, 12)) {ad : Nat → Nat} {d : Nat → ClassId} {sz : Nat} {f_thrown : Int32} {f_rows : Int32} {f_things : Nat → Int32} {f_heads : Nat → Int32} {f_values : Nat → Int32} {f_uppers : Nat → Int32} {f_chosen : Nat → Int32} {f_seen : Nat → Int32} {f_fresh : Int32} {f_has : Nat → Int32} {f_but : Nat → Int32} {f_kept : Nat → Int32} {x1 : Int32} {x2 : Int32} {x3 : Int32} {post : Int32 → Prop} (hw : wpX53_find post f_rows f_things f_heads f_values x1 x2 x3) :
    Met l yX53_find (ws_ yX53_find cX53_find 5 (some .int)) ({ frames := 0, cells := 0, slots := 0, locals := 0 } : Room) (kPc (dC, dI) cl (tX53 d) [.ref (ad 0), .int x1, .int x2, .int x3] sz (wX53 ci ad d f_thrown f_rows f_things f_heads f_values f_uppers f_chosen f_seen f_fresh f_has f_but f_kept)) (va_Qi (fun (r : Int32) (_ : Unit) => post r) (kB (dC, dI) cl (tX53 d) (va_A (wX53 ci ad d f_thrown f_rows f_things f_heads f_values f_uppers f_chosen f_seen f_fresh f_has f_but f_kept) sz) (fun _ : Unit => (wX53 ci ad d f_thrown f_rows f_things f_heads f_values f_uppers f_chosen f_seen f_fresh f_has f_but f_kept))) (va_A (wX53 ci ad d f_thrown f_rows f_things f_heads f_values f_uppers f_chosen f_seen f_fresh f_has f_but f_kept) sz)) 0 0 (va_A (wX53 ci ad d f_thrown f_rows f_things f_heads f_values f_uppers f_chosen f_seen f_fresh f_has f_but f_kept) sz) := by
  refine k_enter (by decide) (Nat.le_of_ble_eq_true rfl) ?_
  intro p e s m below meth c ls X hsz hH hl
  subst hsz
  generalize va_A (wX53 ci ad d f_thrown f_rows f_things f_heads f_values f_uppers f_chosen f_seen f_fresh f_has f_but f_kept) s.heap.size = A at hH ⊢
  have hx := X.1.1
  have hb := X.1.2.1
  have hl : lv_has ls 5 [(0, .ref (ad 0)), (1, .int x1), (2, .int x2), (3, .int x3)] := hl
  unfold wpX53_find at hw
  refine lv_iconst (v := 0) hx hb dX53_find_0 (by decide) ?_
  refine lv_istore (lv' := [(4, .int 0), (0, .ref (ad 0)), (1, .int x1), (2, .int x2), (3, .int x3)]) hx hb dX53_find_1 hl (by decide) rfl (fun ls hl => ?_)
  obtain ⟨fu, hw⟩ := hw
  refine atX53_find_3 hc X ?_ fu 0 hw _ _ ls hH (lv_sub hl [1, 2, 3, 4, 0] rfl)
  · intro x4_8 hw H locs ls hH hl
    refine lv_iload hx hb dX53_find_51 (lv_at hl 0 rfl) ?_
    exact k_iret (v := x4_8) X hH () hw rfl rfl dX53_find_53
set_option maxHeartbeats 4000000 in
theorem walkX53_row {l : Launch} {dC : Nat → ClassId} {dI : Nat → Nat → Nat} {cl : List vw_C} {ci : Nat} (hc : cl[ci]? = some (RX53, TX53, 12)) {ad : Nat → Nat} {d : Nat → ClassId} {sz : Nat} {f_thrown : Int32} {f_rows : Int32} {f_things : Nat → Int32} {f_heads : Nat → Int32} {f_values : Nat → Int32} {f_uppers : Nat → Int32} {f_chosen : Nat → Int32} {f_seen : Nat → Int32} {f_fresh : Int32} {f_has : Nat → Int32} {f_but : Nat → Int32} {f_kept : Nat → Int32} {x1 : Int32} {x2 : Int32} {x3 : Int32} {post : Int32 → Int32 → Int32 → (Nat → Int32) → (Nat → Int32) → (Nat → Int32) → Int32 → Prop} (hw : wpX53_row post f_rows f_things f_heads f_values f_fresh x1 x2 x3) :
    Met l yX53_row (ws_ yX53_row cX53_row 4 (some .int)) ({ frames := 1, cells := 0, slots := 0, locals := 24 } : Room) (kPc (dC, dI) cl (tX53 d) [.ref (ad 0), .int x1, .int x2, .int x3] sz (wX53 ci ad d f_thrown f_rows f_things f_heads f_values f_uppers f_chosen f_seen f_fresh f_has f_but f_kept)) (va_Qi (fun (r : Int32) (u : Int32 × Int32 × (Nat → Int32) × (Nat → Int32) × (Nat → Int32) × Int32) => post r (u.1) (u.2.1) (u.2.2.1) (u.2.2.2.1) (u.2.2.2.2.1) (u.2.2.2.2.2)) (kB (dC, dI) cl (tX53 d) (va_A (wX53 ci ad d f_thrown f_rows f_things f_heads f_values f_uppers f_chosen f_seen f_fresh f_has f_but f_kept) sz) (fun u : Int32 × Int32 × (Nat → Int32) × (Nat → Int32) × (Nat → Int32) × Int32 => (wX53 ci ad d (u.1) (u.2.1) (u.2.2.1) (u.2.2.2.1) (u.2.2.2.2.1) f_uppers f_chosen f_seen (u.2.2.2.2.2) f_has f_but f_kept))) (va_A (wX53 ci ad d f_thrown f_rows f_things f_heads f_values f_uppers f_chosen f_seen f_fresh f_has f_but f_kept) sz)) 0 0 (va_A (wX53 ci ad d f_thrown f_rows f_things f_heads f_values f_uppers f_chosen f_seen f_fresh f_has f_but f_kept) sz) := by
  refine k_enter (by decide) (Nat.le_of_ble_eq_true rfl) ?_
  intro p e s m below meth c ls X hsz hH hl
  subst hsz
  generalize va_A (wX53 ci ad d f_thrown f_rows f_things f_heads f_values f_uppers f_chosen f_seen f_fresh f_has f_but f_kept) s.heap.size = A at hH ⊢
  have hx := X.1.1
  have hb := X.1.2.1
  have hl : lv_has ls 4 [(0, .ref (ad 0)), (1, .int x1), (2, .int x2), (3, .int x3)] := hl
  unfold wpX53_row at hw
  refine lv_aload_n hx hb dX53_row_0 rfl (lv_at hl 0 rfl) ?_
  refine lv_iconst (v := 0) hx hb dX53_row_1 (by decide) ?_
  refine k_put X hH in_X53 tyX53_ok nmX53 0 rfl hc 0 (by decide) q6457 rfl (ty := .int) rfl rfl rfl (Nat.le_of_ble_eq_true rfl) dX53_row_2 (ws1 := (wX53 ci ad d 0 f_rows f_things f_heads f_values f_uppers f_chosen f_seen f_fresh f_has f_but f_kept)) rfl (fun H locs hH => ?_)
  refine lv_iload_n hx hb dX53_row_5 rfl (lv_at hl 1 rfl) ?_
  refine k_i0 hH (k_runS (As := [.int x1]) (rest := []) X hH.1 hH.2.1 X.2.2.2 (walkX53_isThing hc hw) (va_cwS 1 X.1.2.2.2.2 gX53_45 rfl rfl rfl hX53_isThing ⟨Nat.le_of_ble_eq_true rfl, Nat.le_of_ble_eq_true rfl⟩) rfl hl.1 rfl (Nat.le_of_ble_eq_true rfl) dX53_row_6 ⟨Nat.le_refl 0, Nat.le_refl 0⟩) (fun r_1 _ H locs hw hH => ?_)
  have hH : kH (dC, dI) cl A s.heap H locs (wX53 ci ad d 0 f_rows f_things f_heads f_values f_uppers f_chosen f_seen f_fresh f_has f_but f_kept) := hH
  refine lv_if_eq (tgt := 26) hx hb dX53_row_9 (by decide) (fun c_2 => ?_) (fun c_2 => ?_)
  · have hw := hw.1 c_2
    refine lv_iconst (v := (-1)) hx hb dX53_row_26 (by decide) ?_
    exact k_iret (v := (-1)) X hH (0, f_rows, f_things, f_heads, f_values, f_fresh) hw rfl rfl dX53_row_27
  · have hw := hw.2 c_2
    refine lv_iload_n hx hb dX53_row_12 rfl (lv_at hl 2 rfl) ?_
    refine k_i0 hH (k_runS (As := [.int x2]) (rest := []) X hH.1 hH.2.1 X.2.2.2 (walkX53_isHead hc hw) (va_cwS 1 X.1.2.2.2.2 gX53_49 rfl rfl rfl hX53_isHead ⟨Nat.le_of_ble_eq_true rfl, Nat.le_of_ble_eq_true rfl⟩) rfl hl.1 rfl (Nat.le_of_ble_eq_true rfl) dX53_row_13 ⟨Nat.le_refl 0, Nat.le_refl 0⟩) (fun r_3 _ H locs hw hH => ?_)
    have hH : kH (dC, dI) cl A s.heap H locs (wX53 ci ad d 0 f_rows f_things f_heads f_values f_uppers f_chosen f_seen f_fresh f_has f_but f_kept) := hH
    refine lv_if_eq (tgt := 26) hx hb dX53_row_16 (by decide) (fun c_4 => ?_) (fun c_4 => ?_)
    · have hw := hw.1 c_4
      refine lv_iconst (v := (-1)) hx hb dX53_row_26 (by decide) ?_
      exact k_iret (v := (-1)) X hH (0, f_rows, f_things, f_heads, f_values, f_fresh) hw rfl rfl dX53_row_27
    · have hw := hw.2 c_4
      refine lv_iload_n hx hb dX53_row_19 rfl (lv_at hl 3 rfl) ?_
      refine k_i0 hH (k_runS (As := [.int x3]) (rest := []) X hH.1 hH.2.1 X.2.2.2 (walkX53_isValue hc hw) (va_cwS 1 X.1.2.2.2.2 gX53_52 rfl rfl rfl hX53_isValue ⟨Nat.le_of_ble_eq_true rfl, Nat.le_of_ble_eq_true rfl⟩) rfl hl.1 rfl (Nat.le_of_ble_eq_true rfl) dX53_row_20 ⟨Nat.le_refl 0, Nat.le_refl 0⟩) (fun r_5 _ H locs hw hH => ?_)
      have hH : kH (dC, dI) cl A s.heap H locs (wX53 ci ad d 0 f_rows f_things f_heads f_values f_uppers f_chosen f_seen f_fresh f_has f_but f_kept) := hH
      refine lv_if_ne (tgt := 28) hx hb dX53_row_23 (by decide) (fun c_6 => ?_) (fun c_6 => ?_)
      · have hw := hw.2 c_6
        refine lv_aload_n hx hb dX53_row_28 rfl (lv_at hl 0 rfl) ?_
        refine lv_iload_n hx hb dX53_row_29 rfl (lv_at hl 1 rfl) ?_
        refine lv_iload_n hx hb dX53_row_30 rfl (lv_at hl 2 rfl) ?_
        refine lv_iload_n hx hb dX53_row_31 rfl (lv_at hl 3 rfl) ?_
        refine k_i0 hH (k_runV (As := [.int x1, .int x2, .int x3]) (rest := []) X hH.1 hH.2.1 X.2.2.2 (walkX53_find hc hw) (cwV 3 X.1.2.2.2.2 gX53_55 rfl rfl rfl hX53_find ⟨Nat.le_of_ble_eq_true rfl, Nat.le_of_ble_eq_true rfl⟩) hc (q0 := 0) rfl rfl hl.1 rfl (Nat.le_of_ble_eq_true rfl) dX53_row_32 ⟨Nat.le_refl 0, Nat.le_refl 0⟩) (fun r_7 _ H locs hw hH => ?_)
        have hH : kH (dC, dI) cl A s.heap H locs (wX53 ci ad d 0 f_rows f_things f_heads f_values f_uppers f_chosen f_seen f_fresh f_has f_but f_kept) := hH
        refine lv_aload_n hx hb dX53_row_35 rfl (lv_at hl 0 rfl) ?_
        refine k_get X hH in_X53 0 rfl hc 1 (by decide) q6458 rfl dX53_row_36 ?_
        refine lv_icmp_ge (tgt := 44) hx hb dX53_row_39 (by decide) (fun c_8 => ?_) (fun c_8 => ?_)
        · have hw := hw.1 c_8
          refine lv_aload_n hx hb dX53_row_44 rfl (lv_at hl 0 rfl) ?_
          refine k_get X hH in_X53 0 rfl hc 1 (by decide) q6458 rfl dX53_row_45 ?_
          refine lv_sipush (v := 300) hx hb dX53_row_48 (by decide) ?_
          refine lv_icmp_ne (tgt := 57) hx hb dX53_row_51 (by decide) (fun c_9 => ?_) (fun c_9 => ?_)
          · have hw := hw.2 c_9
            refine lv_aload_n hx hb dX53_row_57 rfl (lv_at hl 0 rfl) ?_
            refine k_get X hH in_X53 0 rfl hc 2 (by decide) q6459 rfl dX53_row_58 ?_
            refine lv_aload_n hx hb dX53_row_61 rfl (lv_at hl 0 rfl) ?_
            refine k_get X hH in_X53 0 rfl hc 1 (by decide) q6458 rfl dX53_row_62 ?_
            refine lv_iload_n hx hb dX53_row_65 rfl (lv_at hl 1 rfl) ?_
            obtain ⟨f_things_10, ef_things_10⟩ : ∃ y : Nat → Int32, y = upd f_things f_rows.toNatClampNeg x1 := ⟨_, rfl⟩
            refine k_iast X hH 1 0 rfl rfl hw.1 dX53_row_66 ef_things_10 (ws1 := (wX53 ci ad d 0 f_rows f_things_10 f_heads f_values f_uppers f_chosen f_seen f_fresh f_has f_but f_kept)) rfl (fun H locs hH => ?_)
            have hw := hw.2 f_things_10 ef_things_10
            refine lv_aload_n hx hb dX53_row_67 rfl (lv_at hl 0 rfl) ?_
            refine k_get X hH in_X53 0 rfl hc 3 (by decide) q6460 rfl dX53_row_68 ?_
            refine lv_aload_n hx hb dX53_row_71 rfl (lv_at hl 0 rfl) ?_
            refine k_get X hH in_X53 0 rfl hc 1 (by decide) q6458 rfl dX53_row_72 ?_
            refine lv_iload_n hx hb dX53_row_75 rfl (lv_at hl 2 rfl) ?_
            obtain ⟨f_heads_11, ef_heads_11⟩ : ∃ y : Nat → Int32, y = upd f_heads f_rows.toNatClampNeg x2 := ⟨_, rfl⟩
            refine k_iast X hH 2 1 rfl rfl hw.1 dX53_row_76 ef_heads_11 (ws1 := (wX53 ci ad d 0 f_rows f_things_10 f_heads_11 f_values f_uppers f_chosen f_seen f_fresh f_has f_but f_kept)) rfl (fun H locs hH => ?_)
            have hw := hw.2 f_heads_11 ef_heads_11
            refine lv_aload_n hx hb dX53_row_77 rfl (lv_at hl 0 rfl) ?_
            refine k_get X hH in_X53 0 rfl hc 4 (by decide) q6461 rfl dX53_row_78 ?_
            refine lv_aload_n hx hb dX53_row_81 rfl (lv_at hl 0 rfl) ?_
            refine k_get X hH in_X53 0 rfl hc 1 (by decide) q6458 rfl dX53_row_82 ?_
            refine lv_iload_n hx hb dX53_row_85 rfl (lv_at hl 3 rfl) ?_
            obtain ⟨f_values_12, ef_values_12⟩ : ∃ y : Nat → Int32, y = upd f_values f_rows.toNatClampNeg x3 := ⟨_, rfl⟩
            refine k_iast X hH 3 2 rfl rfl hw.1 dX53_row_86 ef_values_12 (ws1 := (wX53 ci ad d 0 f_rows f_things_10 f_heads_11 f_values_12 f_uppers f_chosen f_seen f_fresh f_has f_but f_kept)) rfl (fun H locs hH => ?_)
            have hw := hw.2 f_values_12 ef_values_12
            refine lv_aload_n hx hb dX53_row_87 rfl (lv_at hl 0 rfl) ?_
            refine lv_dup hx hb dX53_row_88 rfl ?_
            refine k_get X hH in_X53 0 rfl hc 1 (by decide) q6458 rfl dX53_row_89 ?_
            refine lv_iconst (v := 1) hx hb dX53_row_92 (by decide) ?_
            refine lv_iadd hx hb dX53_row_93 ?_
            refine lv_topi (fun f_rows_13 ef_rows_13 => ?_)
            have hw := hw f_rows_13 ef_rows_13
            refine k_put X hH in_X53 tyX53_ok nmX53 0 rfl hc 1 (by decide) q6458 rfl (ty := .int) rfl rfl rfl (Nat.le_of_ble_eq_true rfl) dX53_row_94 (ws1 := (wX53 ci ad d 0 f_rows_13 f_things_10 f_heads_11 f_values_12 f_uppers f_chosen f_seen f_fresh f_has f_but f_kept)) rfl (fun H locs hH => ?_)
            refine lv_aload_n hx hb dX53_row_97 rfl (lv_at hl 0 rfl) ?_
            refine lv_iconst (v := 0) hx hb dX53_row_98 (by decide) ?_
            refine k_put X hH in_X53 tyX53_ok nmX53 0 rfl hc 8 (by decide) q6465 rfl (ty := .boolean) rfl rfl rfl (Nat.le_of_ble_eq_true rfl) dX53_row_99 (ws1 := (wX53 ci ad d 0 f_rows_13 f_things_10 f_heads_11 f_values_12 f_uppers f_chosen f_seen 0 f_has f_but f_kept)) rfl (fun H locs hH => ?_)
            refine lv_iconst (v := 1) hx hb dX53_row_102 (by decide) ?_
            exact k_iret (v := 1) X hH (0, f_rows_13, f_things_10, f_heads_11, f_values_12, 0) hw rfl rfl dX53_row_103
          · have hw := hw.1 c_9
            refine lv_bipush (v := (-2)) hx hb dX53_row_54 (by decide) ?_
            exact k_iret (v := (-2)) X hH (0, f_rows, f_things, f_heads, f_values, f_fresh) hw rfl rfl dX53_row_56
        · have hw := hw.2 c_8
          refine lv_iconst (v := 0) hx hb dX53_row_42 (by decide) ?_
          exact k_iret (v := 0) X hH (0, f_rows, f_things, f_heads, f_values, f_fresh) hw rfl rfl dX53_row_43
      · have hw := hw.1 c_6
        refine lv_iconst (v := (-1)) hx hb dX53_row_26 (by decide) ?_
        exact k_iret (v := (-1)) X hH (0, f_rows, f_things, f_heads, f_values, f_fresh) hw rfl rfl dX53_row_27
set_option maxHeartbeats 4000000 in
theorem walkX53_drop {l : Launch} {dC : Nat → ClassId} {dI : Nat → Nat → Nat} {cl : List vw_C} {ci : Nat} (hc : cl[ci]? = some (RX53, TX53, 12)) {ad : Nat → Nat} {d : Nat → ClassId} {sz : Nat} {f_thrown : Int32} {f_rows : Int32} {f_things : Nat → Int32} {f_heads : Nat → Int32} {f_values : Nat → Int32} {f_uppers : Nat → Int32} {f_chosen : Nat → Int32} {f_seen : Nat → Int32} {f_fresh : Int32} {f_has : Nat → Int32} {f_but : Nat → Int32} {f_kept : Nat → Int32} {x1 : Int32} {x2 : Int32} {x3 : Int32} {post : Int32 → Int32 → Int32 → (Nat → Int32) → (Nat → Int32) → (Nat → Int32) → Int32 → Prop} (hw : wpX53_drop post f_rows f_things f_heads f_values f_fresh x1 x2 x3) :
    Met l yX53_drop (ws_ yX53_drop cX53_drop 5 (some .int)) ({ frames := 1, cells := 0, slots := 0, locals := 24 } : Room) (kPc (dC, dI) cl (tX53 d) [.ref (ad 0), .int x1, .int x2, .int x3] sz (wX53 ci ad d f_thrown f_rows f_things f_heads f_values f_uppers f_chosen f_seen f_fresh f_has f_but f_kept)) (va_Qi (fun (r : Int32) (u : Int32 × Int32 × (Nat → Int32) × (Nat → Int32) × (Nat → Int32) × Int32) => post r (u.1) (u.2.1) (u.2.2.1) (u.2.2.2.1) (u.2.2.2.2.1) (u.2.2.2.2.2)) (kB (dC, dI) cl (tX53 d) (va_A (wX53 ci ad d f_thrown f_rows f_things f_heads f_values f_uppers f_chosen f_seen f_fresh f_has f_but f_kept) sz) (fun u : Int32 × Int32 × (Nat → Int32) × (Nat → Int32) × (Nat → Int32) × Int32 => (wX53 ci ad d (u.1) (u.2.1) (u.2.2.1) (u.2.2.2.1) (u.2.2.2.2.1) f_uppers f_chosen f_seen (u.2.2.2.2.2) f_has f_but f_kept))) (va_A (wX53 ci ad d f_thrown f_rows f_things f_heads f_values f_uppers f_chosen f_seen f_fresh f_has f_but f_kept) sz)) 0 0 (va_A (wX53 ci ad d f_thrown f_rows f_things f_heads f_values f_uppers f_chosen f_seen f_fresh f_has f_but f_kept) sz) := by
  refine k_enter (by decide) (Nat.le_of_ble_eq_true rfl) ?_
  intro p e s m below meth c ls X hsz hH hl
  subst hsz
  generalize va_A (wX53 ci ad d f_thrown f_rows f_things f_heads f_values f_uppers f_chosen f_seen f_fresh f_has f_but f_kept) s.heap.size = A at hH ⊢
  have hx := X.1.1
  have hb := X.1.2.1
  have hl : lv_has ls 5 [(0, .ref (ad 0)), (1, .int x1), (2, .int x2), (3, .int x3)] := hl
  unfold wpX53_drop at hw
  refine lv_aload_n hx hb dX53_drop_0 rfl (lv_at hl 0 rfl) ?_
  refine lv_iconst (v := 0) hx hb dX53_drop_1 (by decide) ?_
  refine k_put X hH in_X53 tyX53_ok nmX53 0 rfl hc 0 (by decide) q6457 rfl (ty := .int) rfl rfl rfl (Nat.le_of_ble_eq_true rfl) dX53_drop_2 (ws1 := (wX53 ci ad d 0 f_rows f_things f_heads f_values f_uppers f_chosen f_seen f_fresh f_has f_but f_kept)) rfl (fun H locs hH => ?_)
  refine lv_iload_n hx hb dX53_drop_5 rfl (lv_at hl 1 rfl) ?_
  refine k_i0 hH (k_runS (As := [.int x1]) (rest := []) X hH.1 hH.2.1 X.2.2.2 (walkX53_isThing hc hw) (va_cwS 1 X.1.2.2.2.2 gX53_45 rfl rfl rfl hX53_isThing ⟨Nat.le_of_ble_eq_true rfl, Nat.le_of_ble_eq_true rfl⟩) rfl hl.1 rfl (Nat.le_of_ble_eq_true rfl) dX53_drop_6 ⟨Nat.le_refl 0, Nat.le_refl 0⟩) (fun r_1 _ H locs hw hH => ?_)
  have hH : kH (dC, dI) cl A s.heap H locs (wX53 ci ad d 0 f_rows f_things f_heads f_values f_uppers f_chosen f_seen f_fresh f_has f_but f_kept) := hH
  refine lv_if_eq (tgt := 26) hx hb dX53_drop_9 (by decide) (fun c_2 => ?_) (fun c_2 => ?_)
  · have hw := hw.1 c_2
    refine lv_iconst (v := (-1)) hx hb dX53_drop_26 (by decide) ?_
    exact k_iret (v := (-1)) X hH (0, f_rows, f_things, f_heads, f_values, f_fresh) hw rfl rfl dX53_drop_27
  · have hw := hw.2 c_2
    refine lv_iload_n hx hb dX53_drop_12 rfl (lv_at hl 2 rfl) ?_
    refine k_i0 hH (k_runS (As := [.int x2]) (rest := []) X hH.1 hH.2.1 X.2.2.2 (walkX53_isHead hc hw) (va_cwS 1 X.1.2.2.2.2 gX53_49 rfl rfl rfl hX53_isHead ⟨Nat.le_of_ble_eq_true rfl, Nat.le_of_ble_eq_true rfl⟩) rfl hl.1 rfl (Nat.le_of_ble_eq_true rfl) dX53_drop_13 ⟨Nat.le_refl 0, Nat.le_refl 0⟩) (fun r_3 _ H locs hw hH => ?_)
    have hH : kH (dC, dI) cl A s.heap H locs (wX53 ci ad d 0 f_rows f_things f_heads f_values f_uppers f_chosen f_seen f_fresh f_has f_but f_kept) := hH
    refine lv_if_eq (tgt := 26) hx hb dX53_drop_16 (by decide) (fun c_4 => ?_) (fun c_4 => ?_)
    · have hw := hw.1 c_4
      refine lv_iconst (v := (-1)) hx hb dX53_drop_26 (by decide) ?_
      exact k_iret (v := (-1)) X hH (0, f_rows, f_things, f_heads, f_values, f_fresh) hw rfl rfl dX53_drop_27
    · have hw := hw.2 c_4
      refine lv_iload_n hx hb dX53_drop_19 rfl (lv_at hl 3 rfl) ?_
      refine k_i0 hH (k_runS (As := [.int x3]) (rest := []) X hH.1 hH.2.1 X.2.2.2 (walkX53_isValue hc hw) (va_cwS 1 X.1.2.2.2.2 gX53_52 rfl rfl rfl hX53_isValue ⟨Nat.le_of_ble_eq_true rfl, Nat.le_of_ble_eq_true rfl⟩) rfl hl.1 rfl (Nat.le_of_ble_eq_true rfl) dX53_drop_20 ⟨Nat.le_refl 0, Nat.le_refl 0⟩) (fun r_5 _ H locs hw hH => ?_)
      have hH : kH (dC, dI) cl A s.heap H locs (wX53 ci ad d 0 f_rows f_things f_heads f_values f_uppers f_chosen f_seen f_fresh f_has f_but f_kept) := hH
      refine lv_if_ne (tgt := 28) hx hb dX53_drop_23 (by decide) (fun c_6 => ?_) (fun c_6 => ?_)
      · have hw := hw.2 c_6
        refine lv_aload_n hx hb dX53_drop_28 rfl (lv_at hl 0 rfl) ?_
        refine lv_iload_n hx hb dX53_drop_29 rfl (lv_at hl 1 rfl) ?_
        refine lv_iload_n hx hb dX53_drop_30 rfl (lv_at hl 2 rfl) ?_
        refine lv_iload_n hx hb dX53_drop_31 rfl (lv_at hl 3 rfl) ?_
        refine k_i0 hH (k_runV (As := [.int x1, .int x2, .int x3]) (rest := []) X hH.1 hH.2.1 X.2.2.2 (walkX53_find hc hw) (cwV 3 X.1.2.2.2.2 gX53_55 rfl rfl rfl hX53_find ⟨Nat.le_of_ble_eq_true rfl, Nat.le_of_ble_eq_true rfl⟩) hc (q0 := 0) rfl rfl hl.1 rfl (Nat.le_of_ble_eq_true rfl) dX53_drop_32 ⟨Nat.le_refl 0, Nat.le_refl 0⟩) (fun r_7 _ H locs hw hH => ?_)
        have hH : kH (dC, dI) cl A s.heap H locs (wX53 ci ad d 0 f_rows f_things f_heads f_values f_uppers f_chosen f_seen f_fresh f_has f_but f_kept) := hH
        refine lv_istore (lv' := [(4, .int r_7), (0, .ref (ad 0)), (1, .int x1), (2, .int x2), (3, .int x3)]) hx hb dX53_drop_35 hl (by decide) rfl (fun ls hl => ?_)
        refine lv_iload hx hb dX53_drop_37 (lv_at hl 0 rfl) ?_
        refine lv_aload_n hx hb dX53_drop_39 rfl (lv_at hl 1 rfl) ?_
        refine k_get X hH in_X53 0 rfl hc 1 (by decide) q6458 rfl dX53_drop_40 ?_
        refine lv_icmp_ne (tgt := 48) hx hb dX53_drop_43 (by decide) (fun c_8 => ?_) (fun c_8 => ?_)
        · have hw := hw.2 c_8
          refine lv_aload_n hx hb dX53_drop_48 rfl (lv_at hl 1 rfl) ?_
          refine lv_dup hx hb dX53_drop_49 rfl ?_
          refine k_get X hH in_X53 0 rfl hc 1 (by decide) q6458 rfl dX53_drop_50 ?_
          refine lv_iconst (v := 1) hx hb dX53_drop_53 (by decide) ?_
          refine lv_isub hx hb dX53_drop_54 ?_
          refine lv_topi (fun f_rows_9 ef_rows_9 => ?_)
          have hw := hw f_rows_9 ef_rows_9
          refine k_put X hH in_X53 tyX53_ok nmX53 0 rfl hc 1 (by decide) q6458 rfl (ty := .int) rfl rfl rfl (Nat.le_of_ble_eq_true rfl) dX53_drop_55 (ws1 := (wX53 ci ad d 0 f_rows_9 f_things f_heads f_values f_uppers f_chosen f_seen f_fresh f_has f_but f_kept)) rfl (fun H locs hH => ?_)
          refine lv_aload_n hx hb dX53_drop_58 rfl (lv_at hl 1 rfl) ?_
          refine k_get X hH in_X53 0 rfl hc 2 (by decide) q6459 rfl dX53_drop_59 ?_
          refine lv_iload hx hb dX53_drop_62 (lv_at hl 0 rfl) ?_
          refine lv_aload_n hx hb dX53_drop_64 rfl (lv_at hl 1 rfl) ?_
          refine k_get X hH in_X53 0 rfl hc 2 (by decide) q6459 rfl dX53_drop_65 ?_
          refine lv_aload_n hx hb dX53_drop_68 rfl (lv_at hl 1 rfl) ?_
          refine k_get X hH in_X53 0 rfl hc 1 (by decide) q6458 rfl dX53_drop_69 ?_
          refine k_iald X hH 1 0 rfl rfl hw.1 dX53_drop_72 ?_
          have hw := hw.2
          refine lv_topi (fun v_10 ev_10 => ?_)
          have hw := hw v_10 ev_10
          obtain ⟨f_things_11, ef_things_11⟩ : ∃ y : Nat → Int32, y = upd f_things r_7.toNatClampNeg v_10 := ⟨_, rfl⟩
          refine k_iast X hH 1 0 rfl rfl hw.1 dX53_drop_73 ef_things_11 (ws1 := (wX53 ci ad d 0 f_rows_9 f_things_11 f_heads f_values f_uppers f_chosen f_seen f_fresh f_has f_but f_kept)) rfl (fun H locs hH => ?_)
          have hw := hw.2 f_things_11 ef_things_11
          refine lv_aload_n hx hb dX53_drop_74 rfl (lv_at hl 1 rfl) ?_
          refine k_get X hH in_X53 0 rfl hc 3 (by decide) q6460 rfl dX53_drop_75 ?_
          refine lv_iload hx hb dX53_drop_78 (lv_at hl 0 rfl) ?_
          refine lv_aload_n hx hb dX53_drop_80 rfl (lv_at hl 1 rfl) ?_
          refine k_get X hH in_X53 0 rfl hc 3 (by decide) q6460 rfl dX53_drop_81 ?_
          refine lv_aload_n hx hb dX53_drop_84 rfl (lv_at hl 1 rfl) ?_
          refine k_get X hH in_X53 0 rfl hc 1 (by decide) q6458 rfl dX53_drop_85 ?_
          refine k_iald X hH 2 1 rfl rfl hw.1 dX53_drop_88 ?_
          have hw := hw.2
          refine lv_topi (fun v_12 ev_12 => ?_)
          have hw := hw v_12 ev_12
          obtain ⟨f_heads_13, ef_heads_13⟩ : ∃ y : Nat → Int32, y = upd f_heads r_7.toNatClampNeg v_12 := ⟨_, rfl⟩
          refine k_iast X hH 2 1 rfl rfl hw.1 dX53_drop_89 ef_heads_13 (ws1 := (wX53 ci ad d 0 f_rows_9 f_things_11 f_heads_13 f_values f_uppers f_chosen f_seen f_fresh f_has f_but f_kept)) rfl (fun H locs hH => ?_)
          have hw := hw.2 f_heads_13 ef_heads_13
          refine lv_aload_n hx hb dX53_drop_90 rfl (lv_at hl 1 rfl) ?_
          refine k_get X hH in_X53 0 rfl hc 4 (by decide) q6461 rfl dX53_drop_91 ?_
          refine lv_iload hx hb dX53_drop_94 (lv_at hl 0 rfl) ?_
          refine lv_aload_n hx hb dX53_drop_96 rfl (lv_at hl 1 rfl) ?_
          refine k_get X hH in_X53 0 rfl hc 4 (by decide) q6461 rfl dX53_drop_97 ?_
          refine lv_aload_n hx hb dX53_drop_100 rfl (lv_at hl 1 rfl) ?_
          refine k_get X hH in_X53 0 rfl hc 1 (by decide) q6458 rfl dX53_drop_101 ?_
          refine k_iald X hH 3 2 rfl rfl hw.1 dX53_drop_104 ?_
          have hw := hw.2
          refine lv_topi (fun v_14 ev_14 => ?_)
          have hw := hw v_14 ev_14
          obtain ⟨f_values_15, ef_values_15⟩ : ∃ y : Nat → Int32, y = upd f_values r_7.toNatClampNeg v_14 := ⟨_, rfl⟩
          refine k_iast X hH 3 2 rfl rfl hw.1 dX53_drop_105 ef_values_15 (ws1 := (wX53 ci ad d 0 f_rows_9 f_things_11 f_heads_13 f_values_15 f_uppers f_chosen f_seen f_fresh f_has f_but f_kept)) rfl (fun H locs hH => ?_)
          have hw := hw.2 f_values_15 ef_values_15
          refine lv_aload_n hx hb dX53_drop_106 rfl (lv_at hl 1 rfl) ?_
          refine lv_iconst (v := 0) hx hb dX53_drop_107 (by decide) ?_
          refine k_put X hH in_X53 tyX53_ok nmX53 0 rfl hc 8 (by decide) q6465 rfl (ty := .boolean) rfl rfl rfl (Nat.le_of_ble_eq_true rfl) dX53_drop_108 (ws1 := (wX53 ci ad d 0 f_rows_9 f_things_11 f_heads_13 f_values_15 f_uppers f_chosen f_seen 0 f_has f_but f_kept)) rfl (fun H locs hH => ?_)
          refine lv_iconst (v := 1) hx hb dX53_drop_111 (by decide) ?_
          exact k_iret (v := 1) X hH (0, f_rows_9, f_things_11, f_heads_13, f_values_15, 0) hw rfl rfl dX53_drop_112
        · have hw := hw.1 c_8
          refine lv_iconst (v := 0) hx hb dX53_drop_46 (by decide) ?_
          exact k_iret (v := 0) X hH (0, f_rows, f_things, f_heads, f_values, f_fresh) hw rfl rfl dX53_drop_47
      · have hw := hw.1 c_6
        refine lv_iconst (v := (-1)) hx hb dX53_drop_26 (by decide) ?_
        exact k_iret (v := (-1)) X hH (0, f_rows, f_things, f_heads, f_values, f_fresh) hw rfl rfl dX53_drop_27
set_option maxHeartbeats 4000000 in
theorem atX53_above_27 {p : Program} {l : Launch} {e : Env} {s : State} {m : MethodId} {args : Array Value} {below : List Frame} {meth : Method} {c : Code} {dC : Nat → ClassId} {dI : Nat → Nat → Nat} {cl : List vw_C} {ci : Nat} (hc : cl[ci]? = some (RX53, TX53, 12)) {ad : Nat → Nat} {d : Nat → ClassId} {A : Nat → Prop} {post : Int32 → Int32 → (Nat → Int32) → Int32 → Prop} {f_rows : Int32} {f_things : Nat → Int32} {f_heads : Nat → Int32} {f_values : Nat → Int32} {f_chosen : Nat → Int32} {f_seen : Nat → Int32} {f_has : Nat → Int32} {f_but : Nat → Int32} {f_kept : Nat → Int32} (X : kX p s m args meth c cX53_above 4 RX53 (some .int) (dC, dI) cl (tX53 d)) {K46 : Int32 → Prop} {x1 : Int32} {x2 : Int32} {f_thrown : Int32} {f_uppers : Nat → Int32} {f_fresh : Int32} (hk46 : ∀ (x3 : Int32), K46 x3 → ∀ (H : Heap) (locs : List Loc) (ls : Array Slot), kH (dC, dI) cl A s.heap H locs (wX53 ci ad d f_thrown f_rows f_things f_heads f_values f_uppers f_chosen f_seen f_fresh f_has f_but f_kept) → lv_has ls 4 [(0, .ref (ad 0)), (1, .int x1), (2, .int x2), (3, .int x3)] → W p l e ({ frames := 1, cells := 0, slots := 0, locals := 20 } : Room) s m args below meth c H locs 0 0 (MQ below (va_Qi (fun (r : Int32) (u : Int32 × (Nat → Int32) × Int32) => post r (u.1) (u.2.1) (u.2.2)) (kB (dC, dI) cl (tX53 d) A (fun u : Int32 × (Nat → Int32) × Int32 => (wX53 ci ad d (u.1) f_rows f_things f_heads f_values (u.2.1) f_chosen f_seen (u.2.2) f_has f_but f_kept))) A) args s 0 0 A) (F0 m 46 ls [])) :
    ∀ (nn : Nat) (x3 : Int32), wX53_above_27 K46 x1 f_uppers nn x3 → ∀ (H : Heap) (locs : List Loc) (ls : Array Slot), kH (dC, dI) cl A s.heap H locs (wX53 ci ad d f_thrown f_rows f_things f_heads f_values f_uppers f_chosen f_seen f_fresh f_has f_but f_kept) → lv_has ls 4 [(0, .ref (ad 0)), (1, .int x1), (2, .int x2), (3, .int x3)] → W p l e ({ frames := 1, cells := 0, slots := 0, locals := 20 } : Room) s m args below meth c H locs 0 0 (MQ below (va_Qi (fun (r : Int32) (u : Int32 × (Nat → Int32) × Int32) => post r (u.1) (u.2.1) (u.2.2)) (kB (dC, dI) cl (tX53 d) A (fun u : Int32 × (Nat → Int32) × Int32 => (wX53 ci ad d (u.1) f_rows f_things f_heads f_values (u.2.1) f_chosen f_seen (u.2.2) f_has f_but f_kept))) A) args s 0 0 A) (F0 m 27 ls []) := by
  have hx := X.1.1
  have hb := X.1.2.1
  intro nn
  induction nn with
  | zero =>
    intro x3 hw
    exact False.elim hw
  | succ n ih =>
    intro x3 hw H locs ls hH hl
    rw [wX53_above_27] at hw
    refine lv_iload_n hx hb dX53_above_27 rfl (lv_at hl 3 rfl) ?_
    refine lv_if_lt (tgt := 46) hx hb dX53_above_28 (by decide) (fun c_5 => ?_) (fun c_5 => ?_)
    · have hw := hw.1 c_5
      exact hk46 x3 hw _ _ ls hH (lv_sub hl [0, 1, 2, 3] rfl)
    · have hw := hw.2 c_5
      refine lv_iload_n hx hb dX53_above_31 rfl (lv_at hl 3 rfl) ?_
      refine lv_iload_n hx hb dX53_above_32 rfl (lv_at hl 1 rfl) ?_
      refine lv_icmp_eq (tgt := 46) hx hb dX53_above_33 (by decide) (fun c_6 => ?_) (fun c_6 => ?_)
      · have hw := hw.1 c_6
        exact hk46 x3 hw _ _ ls hH (lv_sub hl [0, 1, 2, 3] rfl)
      · have hw := hw.2 c_6
        refine lv_aload_n hx hb dX53_above_36 rfl (lv_at hl 0 rfl) ?_
        refine k_get X hH in_X53 0 rfl hc 5 (by decide) q6462 rfl dX53_above_37 ?_
        refine lv_iload_n hx hb dX53_above_40 rfl (lv_at hl 3 rfl) ?_
        refine k_iald X hH 4 3 rfl rfl hw.1 dX53_above_41 ?_
        have hw := hw.2
        refine lv_topi (fun x3_7 ex3_7 => ?_)
        have hw := hw x3_7 ex3_7
        refine lv_istore_n (lv' := [(3, .int x3_7), (0, .ref (ad 0)), (1, .int x1), (2, .int x2)]) hx hb dX53_above_42 rfl hl (by decide) rfl (fun ls hl => ?_)
        refine lv_goto (tgt := 27) hx hb dX53_above_43 (by decide) ?_
        exact ih x3_7 hw _ _ ls hH (lv_sub hl [1, 2, 3, 0] rfl)
set_option maxHeartbeats 4000000 in
theorem atX53_above_46 {p : Program} {l : Launch} {e : Env} {s : State} {m : MethodId} {args : Array Value} {below : List Frame} {meth : Method} {c : Code} {dC : Nat → ClassId} {dI : Nat → Nat → Nat} {cl : List vw_C} {ci : Nat} (hc : cl[ci]? = some (RX53, TX53, 12)) {ad : Nat → Nat} {d : Nat → ClassId} {A : Nat → Prop} {post : Int32 → Int32 → (Nat → Int32) → Int32 → Prop} {f_rows : Int32} {f_things : Nat → Int32} {f_heads : Nat → Int32} {f_values : Nat → Int32} {f_chosen : Nat → Int32} {f_seen : Nat → Int32} {f_has : Nat → Int32} {f_but : Nat → Int32} {f_kept : Nat → Int32} (X : kX p s m args meth c cX53_above 4 RX53 (some .int) (dC, dI) cl (tX53 d))     :
    ∀ (x1 : Int32) (x2 : Int32) (x3 : Int32) (f_thrown : Int32) (f_uppers : Nat → Int32) (f_fresh : Int32), wX53_above_46 post x1 x2 x3 f_thrown f_uppers f_fresh → ∀ (H : Heap) (locs : List Loc) (ls : Array Slot), kH (dC, dI) cl A s.heap H locs (wX53 ci ad d f_thrown f_rows f_things f_heads f_values f_uppers f_chosen f_seen f_fresh f_has f_but f_kept) → lv_has ls 4 [(0, .ref (ad 0)), (1, .int x1), (2, .int x2), (3, .int x3)] → W p l e ({ frames := 1, cells := 0, slots := 0, locals := 20 } : Room) s m args below meth c H locs 0 0 (MQ below (va_Qi (fun (r : Int32) (u : Int32 × (Nat → Int32) × Int32) => post r (u.1) (u.2.1) (u.2.2)) (kB (dC, dI) cl (tX53 d) A (fun u : Int32 × (Nat → Int32) × Int32 => (wX53 ci ad d (u.1) f_rows f_things f_heads f_values (u.2.1) f_chosen f_seen (u.2.2) f_has f_but f_kept))) A) args s 0 0 A) (F0 m 46 ls []) := by
  have hx := X.1.1
  have hb := X.1.2.1
  intro x1 x2 x3 f_thrown f_uppers f_fresh hw H locs ls hH hl
  unfold wX53_above_46 at hw
  refine lv_iload_n hx hb dX53_above_46 rfl (lv_at hl 3 rfl) ?_
  refine lv_if_lt (tgt := 53) hx hb dX53_above_47 (by decide) (fun c_9 => ?_) (fun c_9 => ?_)
  · have hw := hw.1 c_9
    refine lv_aload_n hx hb dX53_above_53 rfl (lv_at hl 0 rfl) ?_
    refine k_get X hH in_X53 0 rfl hc 5 (by decide) q6462 rfl dX53_above_54 ?_
    refine lv_iload_n hx hb dX53_above_57 rfl (lv_at hl 1 rfl) ?_
    refine k_iald X hH 4 3 rfl rfl hw.1 dX53_above_58 ?_
    have hw := hw.2
    refine lv_iload_n hx hb dX53_above_59 rfl (lv_at hl 2 rfl) ?_
    refine lv_icmp_ne (tgt := 65) hx hb dX53_above_60 (by decide) (fun c_10 => ?_) (fun c_10 => ?_)
    · have hw := hw.2 c_10
      refine lv_aload_n hx hb dX53_above_65 rfl (lv_at hl 0 rfl) ?_
      refine k_get X hH in_X53 0 rfl hc 5 (by decide) q6462 rfl dX53_above_66 ?_
      refine lv_iload_n hx hb dX53_above_69 rfl (lv_at hl 1 rfl) ?_
      refine lv_iload_n hx hb dX53_above_70 rfl (lv_at hl 2 rfl) ?_
      obtain ⟨f_uppers_11, ef_uppers_11⟩ : ∃ y : Nat → Int32, y = upd f_uppers x1.toNatClampNeg x2 := ⟨_, rfl⟩
      refine k_iast X hH 4 3 rfl rfl hw.1 dX53_above_71 ef_uppers_11 (ws1 := (wX53 ci ad d f_thrown f_rows f_things f_heads f_values f_uppers_11 f_chosen f_seen f_fresh f_has f_but f_kept)) rfl (fun H locs hH => ?_)
      have hw := hw.2 f_uppers_11 ef_uppers_11
      refine lv_aload_n hx hb dX53_above_72 rfl (lv_at hl 0 rfl) ?_
      refine lv_iconst (v := 0) hx hb dX53_above_73 (by decide) ?_
      refine k_put X hH in_X53 tyX53_ok nmX53 0 rfl hc 8 (by decide) q6465 rfl (ty := .boolean) rfl rfl rfl (Nat.le_of_ble_eq_true rfl) dX53_above_74 (ws1 := (wX53 ci ad d f_thrown f_rows f_things f_heads f_values f_uppers_11 f_chosen f_seen 0 f_has f_but f_kept)) rfl (fun H locs hH => ?_)
      refine lv_iconst (v := 1) hx hb dX53_above_77 (by decide) ?_
      exact k_iret (v := 1) X hH (f_thrown, f_uppers_11, 0) hw rfl rfl dX53_above_78
    · have hw := hw.1 c_10
      refine lv_iconst (v := 0) hx hb dX53_above_63 (by decide) ?_
      exact k_iret (v := 0) X hH (f_thrown, f_uppers, f_fresh) hw rfl rfl dX53_above_64
  · have hw := hw.2 c_9
    refine lv_bipush (v := (-3)) hx hb dX53_above_50 (by decide) ?_
    exact k_iret (v := (-3)) X hH (f_thrown, f_uppers, f_fresh) hw rfl rfl dX53_above_52
set_option maxHeartbeats 4000000 in
theorem walkX53_above {l : Launch} {dC : Nat → ClassId} {dI : Nat → Nat → Nat} {cl : List vw_C} {ci : Nat} (hc : cl[ci]? = some (RX53, TX53, 12)) {ad : Nat → Nat} {d : Nat → ClassId} {sz : Nat} {f_thrown : Int32} {f_rows : Int32} {f_things : Nat → Int32} {f_heads : Nat → Int32} {f_values : Nat → Int32} {f_uppers : Nat → Int32} {f_chosen : Nat → Int32} {f_seen : Nat → Int32} {f_fresh : Int32} {f_has : Nat → Int32} {f_but : Nat → Int32} {f_kept : Nat → Int32} {x1 : Int32} {x2 : Int32} {post : Int32 → Int32 → (Nat → Int32) → Int32 → Prop} (hw : wpX53_above post f_uppers f_fresh x1 x2) :
    Met l yX53_above (ws_ yX53_above cX53_above 4 (some .int)) ({ frames := 1, cells := 0, slots := 0, locals := 20 } : Room) (kPc (dC, dI) cl (tX53 d) [.ref (ad 0), .int x1, .int x2] sz (wX53 ci ad d f_thrown f_rows f_things f_heads f_values f_uppers f_chosen f_seen f_fresh f_has f_but f_kept)) (va_Qi (fun (r : Int32) (u : Int32 × (Nat → Int32) × Int32) => post r (u.1) (u.2.1) (u.2.2)) (kB (dC, dI) cl (tX53 d) (va_A (wX53 ci ad d f_thrown f_rows f_things f_heads f_values f_uppers f_chosen f_seen f_fresh f_has f_but f_kept) sz) (fun u : Int32 × (Nat → Int32) × Int32 => (wX53 ci ad d (u.1) f_rows f_things f_heads f_values (u.2.1) f_chosen f_seen (u.2.2) f_has f_but f_kept))) (va_A (wX53 ci ad d f_thrown f_rows f_things f_heads f_values f_uppers f_chosen f_seen f_fresh f_has f_but f_kept) sz)) 0 0 (va_A (wX53 ci ad d f_thrown f_rows f_things f_heads f_values f_uppers f_chosen f_seen f_fresh f_has f_but f_kept) sz) := by
  refine k_enter (by decide) (Nat.le_of_ble_eq_true rfl) ?_
  intro p e s m below meth c ls X hsz hH hl
  subst hsz
  generalize va_A (wX53 ci ad d f_thrown f_rows f_things f_heads f_values f_uppers f_chosen f_seen f_fresh f_has f_but f_kept) s.heap.size = A at hH ⊢
  have hx := X.1.1
  have hb := X.1.2.1
  have hl : lv_has ls 4 [(0, .ref (ad 0)), (1, .int x1), (2, .int x2)] := hl
  unfold wpX53_above at hw
  refine lv_aload_n hx hb dX53_above_0 rfl (lv_at hl 0 rfl) ?_
  refine lv_iconst (v := 0) hx hb dX53_above_1 (by decide) ?_
  refine k_put X hH in_X53 tyX53_ok nmX53 0 rfl hc 0 (by decide) q6457 rfl (ty := .int) rfl rfl rfl (Nat.le_of_ble_eq_true rfl) dX53_above_2 (ws1 := (wX53 ci ad d 0 f_rows f_things f_heads f_values f_uppers f_chosen f_seen f_fresh f_has f_but f_kept)) rfl (fun H locs hH => ?_)
  refine lv_iload_n hx hb dX53_above_5 rfl (lv_at hl 1 rfl) ?_
  refine k_i0 hH (k_runS (As := [.int x1]) (rest := []) X hH.1 hH.2.1 X.2.2.2 (walkX53_isValue hc hw) (va_cwS 1 X.1.2.2.2.2 gX53_52 rfl rfl rfl hX53_isValue ⟨Nat.le_of_ble_eq_true rfl, Nat.le_of_ble_eq_true rfl⟩) rfl hl.1 rfl (Nat.le_of_ble_eq_true rfl) dX53_above_6 ⟨Nat.le_refl 0, Nat.le_refl 0⟩) (fun r_1 _ H locs hw hH => ?_)
  have hH : kH (dC, dI) cl A s.heap H locs (wX53 ci ad d 0 f_rows f_things f_heads f_values f_uppers f_chosen f_seen f_fresh f_has f_but f_kept) := hH
  refine lv_if_eq (tgt := 23) hx hb dX53_above_9 (by decide) (fun c_2 => ?_) (fun c_2 => ?_)
  · have hw := hw.1 c_2
    refine lv_iconst (v := (-1)) hx hb dX53_above_23 (by decide) ?_
    exact k_iret (v := (-1)) X hH (0, f_uppers, f_fresh) hw rfl rfl dX53_above_24
  · have hw := hw.2 c_2
    refine lv_iload_n hx hb dX53_above_12 rfl (lv_at hl 2 rfl) ?_
    refine lv_iconst (v := (-1)) hx hb dX53_above_13 (by decide) ?_
    refine lv_icmp_lt (tgt := 23) hx hb dX53_above_14 (by decide) (fun c_3 => ?_) (fun c_3 => ?_)
    · have hw := hw.1 c_3
      refine lv_iconst (v := (-1)) hx hb dX53_above_23 (by decide) ?_
      exact k_iret (v := (-1)) X hH (0, f_uppers, f_fresh) hw rfl rfl dX53_above_24
    · have hw := hw.2 c_3
      refine lv_iload_n hx hb dX53_above_17 rfl (lv_at hl 2 rfl) ?_
      refine lv_bipush (v := 31) hx hb dX53_above_18 (by decide) ?_
      refine lv_icmp_le (tgt := 25) hx hb dX53_above_20 (by decide) (fun c_4 => ?_) (fun c_4 => ?_)
      · have hw := hw.1 c_4
        refine lv_iload_n hx hb dX53_above_25 rfl (lv_at hl 2 rfl) ?_
        refine lv_istore_n (lv' := [(3, .int x2), (0, .ref (ad 0)), (1, .int x1), (2, .int x2)]) hx hb dX53_above_26 rfl hl (by decide) rfl (fun ls hl => ?_)
        obtain ⟨fu, hw⟩ := hw
        refine atX53_above_27 hc X ?_ fu x2 hw _ _ ls hH (lv_sub hl [1, 2, 3, 0] rfl)
        · intro x3_8 hw H locs ls hH hl
          exact atX53_above_46 hc X x1 x2 x3_8 0 f_uppers f_fresh hw _ _ ls hH (lv_sub hl [0, 1, 2, 3] rfl)
      · have hw := hw.2 c_4
        refine lv_iconst (v := (-1)) hx hb dX53_above_23 (by decide) ?_
        exact k_iret (v := (-1)) X hH (0, f_uppers, f_fresh) hw rfl rfl dX53_above_24
set_option maxHeartbeats 4000000 in
theorem walkX53_place {l : Launch} {dC : Nat → ClassId} {dI : Nat → Nat → Nat} {cl : List vw_C} {ci : Nat} (hc : cl[ci]? = some (RX53, TX53, 12)) {ad : Nat → Nat} {d : Nat → ClassId} {sz : Nat} {f_thrown : Int32} {f_rows : Int32} {f_things : Nat → Int32} {f_heads : Nat → Int32} {f_values : Nat → Int32} {f_uppers : Nat → Int32} {f_chosen : Nat → Int32} {f_seen : Nat → Int32} {f_fresh : Int32} {f_has : Nat → Int32} {f_but : Nat → Int32} {f_kept : Nat → Int32} {x0 : Int32} {x1 : Int32} {x2 : Int32} {post : Int32 → Prop} (hw : wpX53_place post  x0 x1 x2) :
    Met l yX53_place (ws_ yX53_place cX53_place 3 (some .int)) ({ frames := 0, cells := 0, slots := 0, locals := 0 } : Room) (kPc (dC, dI) cl (tX53 d) [.int x0, .int x1, .int x2] sz (wX53 ci ad d f_thrown f_rows f_things f_heads f_values f_uppers f_chosen f_seen f_fresh f_has f_but f_kept)) (va_Qi (fun (r : Int32) (_ : Unit) => post r) (kB (dC, dI) cl (tX53 d) (va_A (wX53 ci ad d f_thrown f_rows f_things f_heads f_values f_uppers f_chosen f_seen f_fresh f_has f_but f_kept) sz) (fun _ : Unit => (wX53 ci ad d f_thrown f_rows f_things f_heads f_values f_uppers f_chosen f_seen f_fresh f_has f_but f_kept))) (va_A (wX53 ci ad d f_thrown f_rows f_things f_heads f_values f_uppers f_chosen f_seen f_fresh f_has f_but f_kept) sz)) 0 0 (va_A (wX53 ci ad d f_thrown f_rows f_things f_heads f_values f_uppers f_chosen f_seen f_fresh f_has f_but f_kept) sz) := by
  refine k_enter (by decide) (Nat.le_of_ble_eq_true rfl) ?_
  intro p e s m below meth c ls X hsz hH hl
  subst hsz
  generalize va_A (wX53 ci ad d f_thrown f_rows f_things f_heads f_values f_uppers f_chosen f_seen f_fresh f_has f_but f_kept) s.heap.size = A at hH ⊢
  have hx := X.1.1
  have hb := X.1.2.1
  have hl : lv_has ls 3 [(0, .int x0), (1, .int x1), (2, .int x2)] := hl
  unfold wpX53_place at hw
  refine lv_sipush (v := 256) hx hb dX53_place_0 (by decide) ?_
  refine lv_iload_n hx hb dX53_place_3 rfl (lv_at hl 0 rfl) ?_
  refine lv_imul hx hb dX53_place_4 ?_
  refine lv_bipush (v := 32) hx hb dX53_place_5 (by decide) ?_
  refine lv_iload_n hx hb dX53_place_7 rfl (lv_at hl 1 rfl) ?_
  refine lv_imul hx hb dX53_place_8 ?_
  refine lv_iadd hx hb dX53_place_9 ?_
  refine lv_iload_n hx hb dX53_place_10 rfl (lv_at hl 2 rfl) ?_
  refine lv_iadd hx hb dX53_place_11 ?_
  exact k_iret (v := ((256 * x0) + (32 * x1)) + x2) X hH () hw rfl rfl dX53_place_12
set_option maxHeartbeats 4000000 in
theorem atX53_fits_39 {p : Program} {l : Launch} {e : Env} {s : State} {m : MethodId} {args : Array Value} {below : List Frame} {meth : Method} {c : Code} {dC : Nat → ClassId} {dI : Nat → Nat → Nat} {cl : List vw_C} {ci : Nat} (hc : cl[ci]? = some (RX53, TX53, 12)) {ad : Nat → Nat} {d : Nat → ClassId} {A : Nat → Prop} {post : Int32 → Prop} {f_thrown : Int32} {f_rows : Int32} {f_things : Nat → Int32} {f_heads : Nat → Int32} {f_values : Nat → Int32} {f_uppers : Nat → Int32} {f_chosen : Nat → Int32} {f_seen : Nat → Int32} {f_fresh : Int32} {f_has : Nat → Int32} {f_but : Nat → Int32} {f_kept : Nat → Int32} (X : kX p s m args meth c cX53_fits 6 RX53 (some .boolean) (dC, dI) cl (tX53 d)) {K8 : Int32 → Int32 → Int32 → Prop} {x1 : Int32} {x2 : Int32}  (hk8 : ∀ (x3 : Int32) (x4 : Int32) (x5 : Int32), K8 x3 x4 x5 → ∀ (H : Heap) (locs : List Loc) (ls : Array Slot), kH (dC, dI) cl A s.heap H locs (wX53 ci ad d f_thrown f_rows f_things f_heads f_values f_uppers f_chosen f_seen f_fresh f_has f_but f_kept) → lv_has ls 6 [(0, .ref (ad 0)), (1, .int x1), (2, .int x2), (3, .int x3), (4, .int x4), (5, .int x5)] → W p l e ({ frames := 1, cells := 0, slots := 0, locals := 22 } : Room) s m args below meth c H locs 0 0 (MQ below (va_Qi (fun (r : Int32) (_ : Unit) => post r) (kB (dC, dI) cl (tX53 d) A (fun _ : Unit => (wX53 ci ad d f_thrown f_rows f_things f_heads f_values f_uppers f_chosen f_seen f_fresh f_has f_but f_kept))) A) args s 0 0 A) (F0 m 8 ls [])) :
    ∀ (x4 : Int32) (x5 : Int32) (y0 : Int32), wX53_fits_39 K8 x1 x2 x4 x5 y0 f_chosen f_has → ∀ (H : Heap) (locs : List Loc) (ls : Array Slot), kH (dC, dI) cl A s.heap H locs (wX53 ci ad d f_thrown f_rows f_things f_heads f_values f_uppers f_chosen f_seen f_fresh f_has f_but f_kept) → lv_has ls 6 [(0, .ref (ad 0)), (1, .int x1), (2, .int x2), (4, .int x4), (5, .int x5)] → W p l e ({ frames := 1, cells := 0, slots := 0, locals := 22 } : Room) s m args below meth c H locs 0 0 (MQ below (va_Qi (fun (r : Int32) (_ : Unit) => post r) (kB (dC, dI) cl (tX53 d) A (fun _ : Unit => (wX53 ci ad d f_thrown f_rows f_things f_heads f_values f_uppers f_chosen f_seen f_fresh f_has f_but f_kept))) A) args s 0 0 A) (F0 m 39 ls [.int y0]) := by
  have hx := X.1.1
  have hb := X.1.2.1
  intro x4 x5 y0 hw H locs ls hH hl
  unfold wX53_fits_39 at hw
  refine lv_istore_n (lv' := [(3, .int y0), (0, .ref (ad 0)), (1, .int x1), (2, .int x2), (4, .int x4), (5, .int x5)]) hx hb dX53_fits_39 rfl hl (by decide) rfl (fun ls hl => ?_)
  refine lv_iload hx hb dX53_fits_40 (lv_at hl 4 rfl) ?_
  refine lv_if_ne (tgt := 75) hx hb dX53_fits_42 (by decide) (fun c_3 => ?_) (fun c_3 => ?_)
  · have hw := hw.2 c_3
    refine lv_iconst (v := 1) hx hb dX53_fits_75 (by decide) ?_
    refine lv_goto (tgt := 80) hx hb dX53_fits_76 (by decide) ?_
    refine lv_istore (lv' := [(4, .int 1), (3, .int y0), (0, .ref (ad 0)), (1, .int x1), (2, .int x2), (5, .int x5)]) hx hb dX53_fits_80 hl (by decide) rfl (fun ls hl => ?_)
    obtain ⟨x5_4, ex5_4⟩ : ∃ y : Int32, y = x5 + 1 := ⟨_, rfl⟩
    have hw := hw x5_4 ex5_4
    refine lv_iinc (v := x5_4) (lv' := [(5, .int x5_4), (4, .int 1), (3, .int y0), (0, .ref (ad 0)), (1, .int x1), (2, .int x2)]) hx hb dX53_fits_82 hl (k := 5) rfl (by rw [ex5_4]; rfl) (by decide) rfl (fun ls hl => ?_)
    refine lv_goto (tgt := 8) hx hb dX53_fits_85 (by decide) ?_
    exact hk8 y0 1 x5_4 hw _ _ ls hH (lv_sub hl [3, 4, 5, 2, 1, 0] rfl)
  · have hw := hw.1 c_3
    refine lv_aload_n hx hb dX53_fits_45 rfl (lv_at hl 1 rfl) ?_
    refine k_get X hH in_X53 0 rfl hc 6 (by decide) q6463 rfl dX53_fits_46 ?_
    refine lv_bipush (v := 32) hx hb dX53_fits_49 (by decide) ?_
    refine lv_iload_n hx hb dX53_fits_51 rfl (lv_at hl 3 rfl) ?_
    refine lv_imul hx hb dX53_fits_52 ?_
    refine lv_iload hx hb dX53_fits_53 (lv_at hl 5 rfl) ?_
    refine lv_iadd hx hb dX53_fits_55 ?_
    refine k_zald X hH 5 4 rfl rfl hw.1 dX53_fits_56 ?_
    have hw := hw.2
    refine lv_if_eq (tgt := 79) hx hb dX53_fits_57 (by decide) (fun c_5 => ?_) (fun c_5 => ?_)
    · have hw := hw.1 c_5
      refine lv_iconst (v := 0) hx hb dX53_fits_79 (by decide) ?_
      refine lv_istore (lv' := [(4, .int 0), (3, .int y0), (0, .ref (ad 0)), (1, .int x1), (2, .int x2), (5, .int x5)]) hx hb dX53_fits_80 hl (by decide) rfl (fun ls hl => ?_)
      obtain ⟨x5_6, ex5_6⟩ : ∃ y : Int32, y = x5 + 1 := ⟨_, rfl⟩
      have hw := hw x5_6 ex5_6
      refine lv_iinc (v := x5_6) (lv' := [(5, .int x5_6), (4, .int 0), (3, .int y0), (0, .ref (ad 0)), (1, .int x1), (2, .int x2)]) hx hb dX53_fits_82 hl (k := 5) rfl (by rw [ex5_6]; rfl) (by decide) rfl (fun ls hl => ?_)
      refine lv_goto (tgt := 8) hx hb dX53_fits_85 (by decide) ?_
      exact hk8 y0 0 x5_6 hw _ _ ls hH (lv_sub hl [3, 4, 5, 2, 1, 0] rfl)
    · have hw := hw.2 c_5
      refine lv_aload_n hx hb dX53_fits_60 rfl (lv_at hl 1 rfl) ?_
      refine k_get X hH in_X53 0 rfl hc 9 (by decide) q6466 rfl dX53_fits_61 ?_
      refine lv_iload_n hx hb dX53_fits_64 rfl (lv_at hl 2 rfl) ?_
      refine lv_iload_n hx hb dX53_fits_65 rfl (lv_at hl 3 rfl) ?_
      refine lv_iload hx hb dX53_fits_66 (lv_at hl 5 rfl) ?_
      refine k_i0 hH (k_runS (As := [.int x1, .int x2, .int x5]) (rest := [.ref (ad 7)]) X hH.1 hH.2.1 X.2.2.2 (walkX53_place hc hw) (va_cwS 3 X.1.2.2.2.2 gX53_67 rfl rfl rfl hX53_place ⟨Nat.le_of_ble_eq_true rfl, Nat.le_of_ble_eq_true rfl⟩) rfl hl.1 rfl (Nat.le_of_ble_eq_true rfl) dX53_fits_68 ⟨Nat.le_refl 0, Nat.le_refl 0⟩) (fun r_7 _ H locs hw hH => ?_)
      have hH : kH (dC, dI) cl A s.heap H locs (wX53 ci ad d f_thrown f_rows f_things f_heads f_values f_uppers f_chosen f_seen f_fresh f_has f_but f_kept) := hH
      refine k_zald X hH 7 6 rfl rfl hw.1 dX53_fits_71 ?_
      have hw := hw.2
      refine lv_if_eq (tgt := 79) hx hb dX53_fits_72 (by decide) (fun c_8 => ?_) (fun c_8 => ?_)
      · have hw := hw.1 c_8
        refine lv_iconst (v := 0) hx hb dX53_fits_79 (by decide) ?_
        refine lv_istore (lv' := [(4, .int 0), (3, .int y0), (0, .ref (ad 0)), (1, .int x1), (2, .int x2), (5, .int x5)]) hx hb dX53_fits_80 hl (by decide) rfl (fun ls hl => ?_)
        obtain ⟨x5_9, ex5_9⟩ : ∃ y : Int32, y = x5 + 1 := ⟨_, rfl⟩
        have hw := hw x5_9 ex5_9
        refine lv_iinc (v := x5_9) (lv' := [(5, .int x5_9), (4, .int 0), (3, .int y0), (0, .ref (ad 0)), (1, .int x1), (2, .int x2)]) hx hb dX53_fits_82 hl (k := 5) rfl (by rw [ex5_9]; rfl) (by decide) rfl (fun ls hl => ?_)
        refine lv_goto (tgt := 8) hx hb dX53_fits_85 (by decide) ?_
        exact hk8 y0 0 x5_9 hw _ _ ls hH (lv_sub hl [3, 4, 5, 2, 1, 0] rfl)
      · have hw := hw.2 c_8
        refine lv_iconst (v := 1) hx hb dX53_fits_75 (by decide) ?_
        refine lv_goto (tgt := 80) hx hb dX53_fits_76 (by decide) ?_
        refine lv_istore (lv' := [(4, .int 1), (3, .int y0), (0, .ref (ad 0)), (1, .int x1), (2, .int x2), (5, .int x5)]) hx hb dX53_fits_80 hl (by decide) rfl (fun ls hl => ?_)
        obtain ⟨x5_10, ex5_10⟩ : ∃ y : Int32, y = x5 + 1 := ⟨_, rfl⟩
        have hw := hw x5_10 ex5_10
        refine lv_iinc (v := x5_10) (lv' := [(5, .int x5_10), (4, .int 1), (3, .int y0), (0, .ref (ad 0)), (1, .int x1), (2, .int x2)]) hx hb dX53_fits_82 hl (k := 5) rfl (by rw [ex5_10]; rfl) (by decide) rfl (fun ls hl => ?_)
        refine lv_goto (tgt := 8) hx hb dX53_fits_85 (by decide) ?_
        exact hk8 y0 1 x5_10 hw _ _ ls hH (lv_sub hl [3, 4, 5, 2, 1, 0] rfl)
set_option maxHeartbeats 4000000 in
theorem atX53_fits_8 {p : Program} {l : Launch} {e : Env} {s : State} {m : MethodId} {args : Array Value} {below : List Frame} {meth : Method} {c : Code} {dC : Nat → ClassId} {dI : Nat → Nat → Nat} {cl : List vw_C} {ci : Nat} (hc : cl[ci]? = some (RX53, TX53, 12)) {ad : Nat → Nat} {d : Nat → ClassId} {A : Nat → Prop} {post : Int32 → Prop} {f_thrown : Int32} {f_rows : Int32} {f_things : Nat → Int32} {f_heads : Nat → Int32} {f_values : Nat → Int32} {f_uppers : Nat → Int32} {f_chosen : Nat → Int32} {f_seen : Nat → Int32} {f_fresh : Int32} {f_has : Nat → Int32} {f_but : Nat → Int32} {f_kept : Nat → Int32} (X : kX p s m args meth c cX53_fits 6 RX53 (some .boolean) (dC, dI) cl (tX53 d)) {K88 : Int32 → Int32 → Prop} {x1 : Int32} {x2 : Int32}  (hk88 : ∀ (x3 : Int32) (x4 : Int32), K88 x3 x4 → ∀ (H : Heap) (locs : List Loc) (ls : Array Slot), kH (dC, dI) cl A s.heap H locs (wX53 ci ad d f_thrown f_rows f_things f_heads f_values f_uppers f_chosen f_seen f_fresh f_has f_but f_kept) → lv_has ls 6 [(3, .int x3), (4, .int x4)] → W p l e ({ frames := 1, cells := 0, slots := 0, locals := 22 } : Room) s m args below meth c H locs 0 0 (MQ below (va_Qi (fun (r : Int32) (_ : Unit) => post r) (kB (dC, dI) cl (tX53 d) A (fun _ : Unit => (wX53 ci ad d f_thrown f_rows f_things f_heads f_values f_uppers f_chosen f_seen f_fresh f_has f_but f_kept))) A) args s 0 0 A) (F0 m 88 ls [])) :
    ∀ (nn : Nat) (x3 : Int32) (x4 : Int32) (x5 : Int32), wX53_fits_8 K88 x1 x2 f_chosen f_has nn x3 x4 x5 → ∀ (H : Heap) (locs : List Loc) (ls : Array Slot), kH (dC, dI) cl A s.heap H locs (wX53 ci ad d f_thrown f_rows f_things f_heads f_values f_uppers f_chosen f_seen f_fresh f_has f_but f_kept) → lv_has ls 6 [(0, .ref (ad 0)), (1, .int x1), (2, .int x2), (3, .int x3), (4, .int x4), (5, .int x5)] → W p l e ({ frames := 1, cells := 0, slots := 0, locals := 22 } : Room) s m args below meth c H locs 0 0 (MQ below (va_Qi (fun (r : Int32) (_ : Unit) => post r) (kB (dC, dI) cl (tX53 d) A (fun _ : Unit => (wX53 ci ad d f_thrown f_rows f_things f_heads f_values f_uppers f_chosen f_seen f_fresh f_has f_but f_kept))) A) args s 0 0 A) (F0 m 8 ls []) := by
  have hx := X.1.1
  have hb := X.1.2.1
  intro nn
  induction nn with
  | zero =>
    intro x3 x4 x5 hw
    exact False.elim hw
  | succ n ih =>
    intro x3 x4 x5 hw H locs ls hH hl
    rw [wX53_fits_8] at hw
    refine lv_iload hx hb dX53_fits_8 (lv_at hl 5 rfl) ?_
    refine lv_bipush (v := 32) hx hb dX53_fits_10 (by decide) ?_
    refine lv_icmp_ge (tgt := 88) hx hb dX53_fits_12 (by decide) (fun c_1 => ?_) (fun c_1 => ?_)
    · have hw := hw.1 c_1
      exact hk88 x3 x4 hw _ _ ls hH (lv_sub hl [3, 4] rfl)
    · have hw := hw.2 c_1
      refine lv_iload_n hx hb dX53_fits_15 rfl (lv_at hl 3 rfl) ?_
      refine lv_if_ne (tgt := 34) hx hb dX53_fits_16 (by decide) (fun c_2 => ?_) (fun c_2 => ?_)
      · have hw := hw.2 c_2
        refine lv_iconst (v := 1) hx hb dX53_fits_34 (by decide) ?_
        refine lv_goto (tgt := 39) hx hb dX53_fits_35 (by decide) ?_
        exact atX53_fits_39 hc X (fun x3 x4 x5 hw H locs ls hH hl => ih x3 x4 x5 hw _ _ ls hH (lv_sub hl [0, 1, 2, 3, 4, 5] rfl)) x4 x5 1 hw _ _ ls hH (lv_sub hl [0, 1, 2, 4, 5] rfl)
      · have hw := hw.1 c_2
        refine lv_aload_n hx hb dX53_fits_19 rfl (lv_at hl 0 rfl) ?_
        refine k_get X hH in_X53 0 rfl hc 6 (by decide) q6463 rfl dX53_fits_20 ?_
        refine lv_bipush (v := 32) hx hb dX53_fits_23 (by decide) ?_
        refine lv_iload_n hx hb dX53_fits_25 rfl (lv_at hl 2 rfl) ?_
        refine lv_imul hx hb dX53_fits_26 ?_
        refine lv_iload hx hb dX53_fits_27 (lv_at hl 5 rfl) ?_
        refine lv_iadd hx hb dX53_fits_29 ?_
        refine k_zald X hH 5 4 rfl rfl hw.1 dX53_fits_30 ?_
        have hw := hw.2
        refine lv_if_eq (tgt := 38) hx hb dX53_fits_31 (by decide) (fun c_11 => ?_) (fun c_11 => ?_)
        · have hw := hw.1 c_11
          refine lv_iconst (v := 0) hx hb dX53_fits_38 (by decide) ?_
          exact atX53_fits_39 hc X (fun x3 x4 x5 hw H locs ls hH hl => ih x3 x4 x5 hw _ _ ls hH (lv_sub hl [0, 1, 2, 3, 4, 5] rfl)) x4 x5 0 hw _ _ ls hH (lv_sub hl [0, 1, 2, 4, 5] rfl)
        · have hw := hw.2 c_11
          refine lv_iconst (v := 1) hx hb dX53_fits_34 (by decide) ?_
          refine lv_goto (tgt := 39) hx hb dX53_fits_35 (by decide) ?_
          exact atX53_fits_39 hc X (fun x3 x4 x5 hw H locs ls hH hl => ih x3 x4 x5 hw _ _ ls hH (lv_sub hl [0, 1, 2, 3, 4, 5] rfl)) x4 x5 1 hw _ _ ls hH (lv_sub hl [0, 1, 2, 4, 5] rfl)
set_option maxHeartbeats 4000000 in
theorem walkX53_fits {l : Launch} {dC : Nat → ClassId} {dI : Nat → Nat → Nat} {cl : List vw_C} {ci : Nat} (hc : cl[ci]? = some (RX53, TX53, 12)) {ad : Nat → Nat} {d : Nat → ClassId} {sz : Nat} {f_thrown : Int32} {f_rows : Int32} {f_things : Nat → Int32} {f_heads : Nat → Int32} {f_values : Nat → Int32} {f_uppers : Nat → Int32} {f_chosen : Nat → Int32} {f_seen : Nat → Int32} {f_fresh : Int32} {f_has : Nat → Int32} {f_but : Nat → Int32} {f_kept : Nat → Int32} {x1 : Int32} {x2 : Int32} {post : Int32 → Prop} (hw : wpX53_fits post f_chosen f_has x1 x2) :
    Met l yX53_fits (ws_ yX53_fits cX53_fits 6 (some .boolean)) ({ frames := 1, cells := 0, slots := 0, locals := 22 } : Room) (kPc (dC, dI) cl (tX53 d) [.ref (ad 0), .int x1, .int x2] sz (wX53 ci ad d f_thrown f_rows f_things f_heads f_values f_uppers f_chosen f_seen f_fresh f_has f_but f_kept)) (va_Qi (fun (r : Int32) (_ : Unit) => post r) (kB (dC, dI) cl (tX53 d) (va_A (wX53 ci ad d f_thrown f_rows f_things f_heads f_values f_uppers f_chosen f_seen f_fresh f_has f_but f_kept) sz) (fun _ : Unit => (wX53 ci ad d f_thrown f_rows f_things f_heads f_values f_uppers f_chosen f_seen f_fresh f_has f_but f_kept))) (va_A (wX53 ci ad d f_thrown f_rows f_things f_heads f_values f_uppers f_chosen f_seen f_fresh f_has f_but f_kept) sz)) 0 0 (va_A (wX53 ci ad d f_thrown f_rows f_things f_heads f_values f_uppers f_chosen f_seen f_fresh f_has f_but f_kept) sz) := by
  refine k_enter (by decide) (Nat.le_of_ble_eq_true rfl) ?_
  intro p e s m below meth c ls X hsz hH hl
  subst hsz
  generalize va_A (wX53 ci ad d f_thrown f_rows f_things f_heads f_values f_uppers f_chosen f_seen f_fresh f_has f_but f_kept) s.heap.size = A at hH ⊢
  have hx := X.1.1
  have hb := X.1.2.1
  have hl : lv_has ls 6 [(0, .ref (ad 0)), (1, .int x1), (2, .int x2)] := hl
  unfold wpX53_fits at hw
  refine lv_iconst (v := 0) hx hb dX53_fits_0 (by decide) ?_
  refine lv_istore_n (lv' := [(3, .int 0), (0, .ref (ad 0)), (1, .int x1), (2, .int x2)]) hx hb dX53_fits_1 rfl hl (by decide) rfl (fun ls hl => ?_)
  refine lv_iconst (v := 0) hx hb dX53_fits_2 (by decide) ?_
  refine lv_istore (lv' := [(4, .int 0), (3, .int 0), (0, .ref (ad 0)), (1, .int x1), (2, .int x2)]) hx hb dX53_fits_3 hl (by decide) rfl (fun ls hl => ?_)
  refine lv_iconst (v := 0) hx hb dX53_fits_5 (by decide) ?_
  refine lv_istore (lv' := [(5, .int 0), (4, .int 0), (3, .int 0), (0, .ref (ad 0)), (1, .int x1), (2, .int x2)]) hx hb dX53_fits_6 hl (by decide) rfl (fun ls hl => ?_)
  obtain ⟨fu, hw⟩ := hw
  refine atX53_fits_8 hc X ?_ fu 0 0 0 hw _ _ ls hH (lv_sub hl [3, 4, 5, 2, 1, 0] rfl)
  · intro x3_12 x4_13 hw H locs ls hH hl
    refine lv_iload hx hb dX53_fits_88 (lv_at hl 1 rfl) ?_
    refine lv_if_ne (tgt := 97) hx hb dX53_fits_90 (by decide) (fun c_14 => ?_) (fun c_14 => ?_)
    · have hw := hw.2 c_14
      refine lv_iconst (v := 1) hx hb dX53_fits_97 (by decide) ?_
      refine lv_goto (tgt := 102) hx hb dX53_fits_98 (by decide) ?_
      exact k_iret (v := 1) X hH () hw rfl rfl dX53_fits_102
    · have hw := hw.1 c_14
      refine lv_iload_n hx hb dX53_fits_93 rfl (lv_at hl 0 rfl) ?_
      refine lv_if_ne (tgt := 101) hx hb dX53_fits_94 (by decide) (fun c_15 => ?_) (fun c_15 => ?_)
      · have hw := hw.2 c_15
        refine lv_iconst (v := 0) hx hb dX53_fits_101 (by decide) ?_
        exact k_iret (v := 0) X hH () hw rfl rfl dX53_fits_102
      · have hw := hw.1 c_15
        refine lv_iconst (v := 1) hx hb dX53_fits_97 (by decide) ?_
        refine lv_goto (tgt := 102) hx hb dX53_fits_98 (by decide) ?_
        exact k_iret (v := 1) X hH () hw rfl rfl dX53_fits_102
set_option maxHeartbeats 4000000 in
theorem atX53_reckon_15 {p : Program} {l : Launch} {e : Env} {s : State} {m : MethodId} {args : Array Value} {below : List Frame} {meth : Method} {c : Code} {dC : Nat → ClassId} {dI : Nat → Nat → Nat} {cl : List vw_C} {ci : Nat} (hc : cl[ci]? = some (RX53, TX53, 12)) {ad : Nat → Nat} {d : Nat → ClassId} {A : Nat → Prop} {post : Int32 → (Nat → Int32) → (Nat → Int32) → (Nat → Int32) → Prop} {f_thrown : Int32} {f_rows : Int32} {f_things : Nat → Int32} {f_heads : Nat → Int32} {f_values : Nat → Int32} {f_uppers : Nat → Int32} {f_chosen : Nat → Int32} {f_seen : Nat → Int32} (X : kX p s m args meth c cX53_reckon 5 RX53 none (dC, dI) cl (tX53 d)) {K35 : (Nat → Int32) → Prop}  {f_fresh : Int32} {f_but : Nat → Int32} {f_kept : Nat → Int32} (hk35 : ∀ (f_has : Nat → Int32), K35 f_has → ∀ (H : Heap) (locs : List Loc) (ls : Array Slot), kH (dC, dI) cl A s.heap H locs (wX53 ci ad d f_thrown f_rows f_things f_heads f_values f_uppers f_chosen f_seen f_fresh f_has f_but f_kept) → lv_has ls 5 [(0, .ref (ad 0))] → W p l e ({ frames := 2, cells := 0, slots := 0, locals := 47 } : Room) s m args below meth c H locs 0 0 (MQ below (va_Qv (fun (u : Int32 × (Nat → Int32) × (Nat → Int32) × (Nat → Int32)) => post (u.1) (u.2.1) (u.2.2.1) (u.2.2.2)) (kB (dC, dI) cl (tX53 d) A (fun u : Int32 × (Nat → Int32) × (Nat → Int32) × (Nat → Int32) => (wX53 ci ad d f_thrown f_rows f_things f_heads f_values f_uppers f_chosen f_seen (u.1) (u.2.1) (u.2.2.1) (u.2.2.2)))) A) args s 0 0 A) (F0 m 35 ls [])) :
    ∀ (nn : Nat) (x1 : Int32) (f_has : Nat → Int32), wX53_reckon_15 K35 nn x1 f_has → ∀ (H : Heap) (locs : List Loc) (ls : Array Slot), kH (dC, dI) cl A s.heap H locs (wX53 ci ad d f_thrown f_rows f_things f_heads f_values f_uppers f_chosen f_seen f_fresh f_has f_but f_kept) → lv_has ls 5 [(0, .ref (ad 0)), (1, .int x1)] → W p l e ({ frames := 2, cells := 0, slots := 0, locals := 47 } : Room) s m args below meth c H locs 0 0 (MQ below (va_Qv (fun (u : Int32 × (Nat → Int32) × (Nat → Int32) × (Nat → Int32)) => post (u.1) (u.2.1) (u.2.2.1) (u.2.2.2)) (kB (dC, dI) cl (tX53 d) A (fun u : Int32 × (Nat → Int32) × (Nat → Int32) × (Nat → Int32) => (wX53 ci ad d f_thrown f_rows f_things f_heads f_values f_uppers f_chosen f_seen (u.1) (u.2.1) (u.2.2.1) (u.2.2.2)))) A) args s 0 0 A) (F0 m 15 ls []) := by
  have hx := X.1.1
  have hb := X.1.2.1
  intro nn
  induction nn with
  | zero =>
    intro x1 f_has hw
    exact False.elim hw
  | succ n ih =>
    intro x1 f_has hw H locs ls hH hl
    rw [wX53_reckon_15] at hw
    refine lv_iload_n hx hb dX53_reckon_15 rfl (lv_at hl 1 rfl) ?_
    refine lv_sipush (v := 10240) hx hb dX53_reckon_16 (by decide) ?_
    refine lv_icmp_ge (tgt := 35) hx hb dX53_reckon_19 (by decide) (fun c_2 => ?_) (fun c_2 => ?_)
    · have hw := hw.1 c_2
      exact hk35 f_has hw _ _ ls hH (lv_sub hl [0] rfl)
    · have hw := hw.2 c_2
      refine lv_aload_n hx hb dX53_reckon_22 rfl (lv_at hl 0 rfl) ?_
      refine k_get X hH in_X53 0 rfl hc 9 (by decide) q6466 rfl dX53_reckon_23 ?_
      refine lv_iload_n hx hb dX53_reckon_26 rfl (lv_at hl 1 rfl) ?_
      refine lv_iconst (v := 0) hx hb dX53_reckon_27 (by decide) ?_
      obtain ⟨f_has_3, ef_has_3⟩ : ∃ y : Nat → Int32, y = upd f_has x1.toNatClampNeg (vp_nar .boolean 0) := ⟨_, rfl⟩
      refine k_zast X hH 7 6 rfl rfl hw.1 dX53_reckon_28 ef_has_3 (ws1 := (wX53 ci ad d f_thrown f_rows f_things f_heads f_values f_uppers f_chosen f_seen f_fresh f_has_3 f_but f_kept)) rfl (fun H locs hH => ?_)
      have hw := hw.2 f_has_3 ef_has_3
      obtain ⟨x1_4, ex1_4⟩ : ∃ y : Int32, y = x1 + 1 := ⟨_, rfl⟩
      have hw := hw x1_4 ex1_4
      refine lv_iinc (v := x1_4) (lv' := [(1, .int x1_4), (0, .ref (ad 0))]) hx hb dX53_reckon_29 hl (k := 1) rfl (by rw [ex1_4]; rfl) (by decide) rfl (fun ls hl => ?_)
      refine lv_goto (tgt := 15) hx hb dX53_reckon_32 (by decide) ?_
      exact ih x1_4 f_has_3 hw _ _ ls hH (lv_sub hl [1, 0] rfl)
set_option maxHeartbeats 4000000 in
theorem atX53_reckon_52 {p : Program} {l : Launch} {e : Env} {s : State} {m : MethodId} {args : Array Value} {below : List Frame} {meth : Method} {c : Code} {dC : Nat → ClassId} {dI : Nat → Nat → Nat} {cl : List vw_C} {ci : Nat} (hc : cl[ci]? = some (RX53, TX53, 12)) {ad : Nat → Nat} {d : Nat → ClassId} {A : Nat → Prop} {post : Int32 → (Nat → Int32) → (Nat → Int32) → (Nat → Int32) → Prop} {f_thrown : Int32} {f_rows : Int32} {f_things : Nat → Int32} {f_heads : Nat → Int32} {f_values : Nat → Int32} {f_uppers : Nat → Int32} {f_chosen : Nat → Int32} {f_seen : Nat → Int32} (X : kX p s m args meth c cX53_reckon 5 RX53 none (dC, dI) cl (tX53 d)) {K101 : (Nat → Int32) → Prop} {x1 : Int32} {f_fresh : Int32} {f_but : Nat → Int32} {f_kept : Nat → Int32} (hk101 : ∀ (f_has : Nat → Int32), K101 f_has → ∀ (H : Heap) (locs : List Loc) (ls : Array Slot), kH (dC, dI) cl A s.heap H locs (wX53 ci ad d f_thrown f_rows f_things f_heads f_values f_uppers f_chosen f_seen f_fresh f_has f_but f_kept) → lv_has ls 5 [(0, .ref (ad 0)), (1, .int x1)] → W p l e ({ frames := 2, cells := 0, slots := 0, locals := 47 } : Room) s m args below meth c H locs 0 0 (MQ below (va_Qv (fun (u : Int32 × (Nat → Int32) × (Nat → Int32) × (Nat → Int32)) => post (u.1) (u.2.1) (u.2.2.1) (u.2.2.2)) (kB (dC, dI) cl (tX53 d) A (fun u : Int32 × (Nat → Int32) × (Nat → Int32) × (Nat → Int32) => (wX53 ci ad d f_thrown f_rows f_things f_heads f_values f_uppers f_chosen f_seen (u.1) (u.2.1) (u.2.2.1) (u.2.2.2)))) A) args s 0 0 A) (F0 m 101 ls [])) :
    ∀ (nn : Nat) (x2 : Int32) (f_has : Nat → Int32), wX53_reckon_52 K101 x1 f_things f_heads f_uppers nn x2 f_has → ∀ (H : Heap) (locs : List Loc) (ls : Array Slot), kH (dC, dI) cl A s.heap H locs (wX53 ci ad d f_thrown f_rows f_things f_heads f_values f_uppers f_chosen f_seen f_fresh f_has f_but f_kept) → lv_has ls 5 [(0, .ref (ad 0)), (1, .int x1), (2, .int x2)] → W p l e ({ frames := 2, cells := 0, slots := 0, locals := 47 } : Room) s m args below meth c H locs 0 0 (MQ below (va_Qv (fun (u : Int32 × (Nat → Int32) × (Nat → Int32) × (Nat → Int32)) => post (u.1) (u.2.1) (u.2.2.1) (u.2.2.2)) (kB (dC, dI) cl (tX53 d) A (fun u : Int32 × (Nat → Int32) × (Nat → Int32) × (Nat → Int32) => (wX53 ci ad d f_thrown f_rows f_things f_heads f_values f_uppers f_chosen f_seen (u.1) (u.2.1) (u.2.2.1) (u.2.2.2)))) A) args s 0 0 A) (F0 m 52 ls []) := by
  have hx := X.1.1
  have hb := X.1.2.1
  intro nn
  induction nn with
  | zero =>
    intro x2 f_has hw
    exact False.elim hw
  | succ n ih =>
    intro x2 f_has hw H locs ls hH hl
    rw [wX53_reckon_52] at hw
    refine lv_iload_n hx hb dX53_reckon_52 rfl (lv_at hl 2 rfl) ?_
    refine lv_if_lt (tgt := 101) hx hb dX53_reckon_53 (by decide) (fun c_8 => ?_) (fun c_8 => ?_)
    · have hw := hw.1 c_8
      exact hk101 f_has hw _ _ ls hH (lv_sub hl [0, 1] rfl)
    · have hw := hw.2 c_8
      refine lv_aload_n hx hb dX53_reckon_56 rfl (lv_at hl 0 rfl) ?_
      refine k_get X hH in_X53 0 rfl hc 9 (by decide) q6466 rfl dX53_reckon_57 ?_
      refine lv_aload_n hx hb dX53_reckon_60 rfl (lv_at hl 0 rfl) ?_
      refine k_get X hH in_X53 0 rfl hc 2 (by decide) q6459 rfl dX53_reckon_61 ?_
      refine lv_iload_n hx hb dX53_reckon_64 rfl (lv_at hl 1 rfl) ?_
      refine k_iald X hH 1 0 rfl rfl hw.1 dX53_reckon_65 ?_
      have hw := hw.2
      refine lv_aload_n hx hb dX53_reckon_66 rfl (lv_at hl 0 rfl) ?_
      refine k_get X hH in_X53 0 rfl hc 3 (by decide) q6460 rfl dX53_reckon_67 ?_
      refine lv_iload_n hx hb dX53_reckon_70 rfl (lv_at hl 1 rfl) ?_
      refine k_iald X hH 2 1 rfl rfl hw.1 dX53_reckon_71 ?_
      have hw := hw.2
      refine lv_iload_n hx hb dX53_reckon_72 rfl (lv_at hl 2 rfl) ?_
      refine k_i0 hH (k_runS (As := [.int (f_things x1.toNatClampNeg), .int (f_heads x1.toNatClampNeg), .int x2]) (rest := [.ref (ad 7)]) X hH.1 hH.2.1 X.2.2.2 (walkX53_place hc hw) (va_cwS 3 X.1.2.2.2.2 gX53_67 rfl rfl rfl hX53_place ⟨Nat.le_of_ble_eq_true rfl, Nat.le_of_ble_eq_true rfl⟩) rfl hl.1 rfl (Nat.le_of_ble_eq_true rfl) dX53_reckon_73 ⟨Nat.le_refl 0, Nat.le_refl 0⟩) (fun r_9 _ H locs hw hH => ?_)
      have hH : kH (dC, dI) cl A s.heap H locs (wX53 ci ad d f_thrown f_rows f_things f_heads f_values f_uppers f_chosen f_seen f_fresh f_has f_but f_kept) := hH
      refine lv_iconst (v := 1) hx hb dX53_reckon_76 (by decide) ?_
      obtain ⟨f_has_10, ef_has_10⟩ : ∃ y : Nat → Int32, y = upd f_has r_9.toNatClampNeg (vp_nar .boolean 1) := ⟨_, rfl⟩
      refine k_zast X hH 7 6 rfl rfl hw.1 dX53_reckon_77 ef_has_10 (ws1 := (wX53 ci ad d f_thrown f_rows f_things f_heads f_values f_uppers f_chosen f_seen f_fresh f_has_10 f_but f_kept)) rfl (fun H locs hH => ?_)
      have hw := hw.2 f_has_10 ef_has_10
      refine lv_aload_n hx hb dX53_reckon_78 rfl (lv_at hl 0 rfl) ?_
      refine k_get X hH in_X53 0 rfl hc 3 (by decide) q6460 rfl dX53_reckon_79 ?_
      refine lv_iload_n hx hb dX53_reckon_82 rfl (lv_at hl 1 rfl) ?_
      refine k_iald X hH 2 1 rfl rfl hw.1 dX53_reckon_83 ?_
      have hw := hw.2
      refine lv_if_ne (tgt := 96) hx hb dX53_reckon_84 (by decide) (fun c_11 => ?_) (fun c_11 => ?_)
      · have hw := hw.2 c_11
        refine lv_iconst (v := (-1)) hx hb dX53_reckon_96 (by decide) ?_
        refine lv_istore_n (lv' := [(2, .int ((-1))), (0, .ref (ad 0)), (1, .int x1)]) hx hb dX53_reckon_97 rfl hl (by decide) rfl (fun ls hl => ?_)
        refine lv_goto (tgt := 52) hx hb dX53_reckon_98 (by decide) ?_
        exact ih (-1) f_has_10 hw _ _ ls hH (lv_sub hl [1, 2, 0] rfl)
      · have hw := hw.1 c_11
        refine lv_aload_n hx hb dX53_reckon_87 rfl (lv_at hl 0 rfl) ?_
        refine k_get X hH in_X53 0 rfl hc 5 (by decide) q6462 rfl dX53_reckon_88 ?_
        refine lv_iload_n hx hb dX53_reckon_91 rfl (lv_at hl 2 rfl) ?_
        refine k_iald X hH 4 3 rfl rfl hw.1 dX53_reckon_92 ?_
        have hw := hw.2
        refine lv_goto (tgt := 97) hx hb dX53_reckon_93 (by decide) ?_
        refine lv_topi (fun x2_12 ex2_12 => ?_)
        have hw := hw x2_12 ex2_12
        refine lv_istore_n (lv' := [(2, .int x2_12), (0, .ref (ad 0)), (1, .int x1)]) hx hb dX53_reckon_97 rfl hl (by decide) rfl (fun ls hl => ?_)
        refine lv_goto (tgt := 52) hx hb dX53_reckon_98 (by decide) ?_
        exact ih x2_12 f_has_10 hw _ _ ls hH (lv_sub hl [1, 2, 0] rfl)
set_option maxHeartbeats 4000000 in
theorem atX53_reckon_37 {p : Program} {l : Launch} {e : Env} {s : State} {m : MethodId} {args : Array Value} {below : List Frame} {meth : Method} {c : Code} {dC : Nat → ClassId} {dI : Nat → Nat → Nat} {cl : List vw_C} {ci : Nat} (hc : cl[ci]? = some (RX53, TX53, 12)) {ad : Nat → Nat} {d : Nat → ClassId} {A : Nat → Prop} {post : Int32 → (Nat → Int32) → (Nat → Int32) → (Nat → Int32) → Prop} {f_thrown : Int32} {f_rows : Int32} {f_things : Nat → Int32} {f_heads : Nat → Int32} {f_values : Nat → Int32} {f_uppers : Nat → Int32} {f_chosen : Nat → Int32} {f_seen : Nat → Int32} (X : kX p s m args meth c cX53_reckon 5 RX53 none (dC, dI) cl (tX53 d)) {K107 : (Nat → Int32) → Prop}  {f_fresh : Int32} {f_but : Nat → Int32} {f_kept : Nat → Int32} (hk107 : ∀ (f_has : Nat → Int32), K107 f_has → ∀ (H : Heap) (locs : List Loc) (ls : Array Slot), kH (dC, dI) cl A s.heap H locs (wX53 ci ad d f_thrown f_rows f_things f_heads f_values f_uppers f_chosen f_seen f_fresh f_has f_but f_kept) → lv_has ls 5 [(0, .ref (ad 0))] → W p l e ({ frames := 2, cells := 0, slots := 0, locals := 47 } : Room) s m args below meth c H locs 0 0 (MQ below (va_Qv (fun (u : Int32 × (Nat → Int32) × (Nat → Int32) × (Nat → Int32)) => post (u.1) (u.2.1) (u.2.2.1) (u.2.2.2)) (kB (dC, dI) cl (tX53 d) A (fun u : Int32 × (Nat → Int32) × (Nat → Int32) × (Nat → Int32) => (wX53 ci ad d f_thrown f_rows f_things f_heads f_values f_uppers f_chosen f_seen (u.1) (u.2.1) (u.2.2.1) (u.2.2.2)))) A) args s 0 0 A) (F0 m 107 ls [])) :
    ∀ (nn : Nat) (x1 : Int32) (f_has : Nat → Int32), wX53_reckon_37 K107 f_rows f_things f_heads f_values f_uppers nn x1 f_has → ∀ (H : Heap) (locs : List Loc) (ls : Array Slot), kH (dC, dI) cl A s.heap H locs (wX53 ci ad d f_thrown f_rows f_things f_heads f_values f_uppers f_chosen f_seen f_fresh f_has f_but f_kept) → lv_has ls 5 [(0, .ref (ad 0)), (1, .int x1)] → W p l e ({ frames := 2, cells := 0, slots := 0, locals := 47 } : Room) s m args below meth c H locs 0 0 (MQ below (va_Qv (fun (u : Int32 × (Nat → Int32) × (Nat → Int32) × (Nat → Int32)) => post (u.1) (u.2.1) (u.2.2.1) (u.2.2.2)) (kB (dC, dI) cl (tX53 d) A (fun u : Int32 × (Nat → Int32) × (Nat → Int32) × (Nat → Int32) => (wX53 ci ad d f_thrown f_rows f_things f_heads f_values f_uppers f_chosen f_seen (u.1) (u.2.1) (u.2.2.1) (u.2.2.2)))) A) args s 0 0 A) (F0 m 37 ls []) := by
  have hx := X.1.1
  have hb := X.1.2.1
  intro nn
  induction nn with
  | zero =>
    intro x1 f_has hw
    exact False.elim hw
  | succ n ih =>
    intro x1 f_has hw H locs ls hH hl
    rw [wX53_reckon_37] at hw
    refine lv_iload_n hx hb dX53_reckon_37 rfl (lv_at hl 1 rfl) ?_
    refine lv_aload_n hx hb dX53_reckon_38 rfl (lv_at hl 0 rfl) ?_
    refine k_get X hH in_X53 0 rfl hc 1 (by decide) q6458 rfl dX53_reckon_39 ?_
    refine lv_icmp_ge (tgt := 107) hx hb dX53_reckon_42 (by decide) (fun c_6 => ?_) (fun c_6 => ?_)
    · have hw := hw.1 c_6
      exact hk107 f_has hw _ _ ls hH (lv_sub hl [0] rfl)
    · have hw := hw.2 c_6
      refine lv_aload_n hx hb dX53_reckon_45 rfl (lv_at hl 0 rfl) ?_
      refine k_get X hH in_X53 0 rfl hc 4 (by decide) q6461 rfl dX53_reckon_46 ?_
      refine lv_iload_n hx hb dX53_reckon_49 rfl (lv_at hl 1 rfl) ?_
      refine k_iald X hH 3 2 rfl rfl hw.1 dX53_reckon_50 ?_
      have hw := hw.2
      refine lv_topi (fun x2_7 ex2_7 => ?_)
      have hw := hw x2_7 ex2_7
      refine lv_istore_n (lv' := [(2, .int x2_7), (0, .ref (ad 0)), (1, .int x1)]) hx hb dX53_reckon_51 rfl hl (by decide) rfl (fun ls hl => ?_)
      obtain ⟨fu, hw⟩ := hw
      refine atX53_reckon_52 hc X ?_ fu x2_7 f_has hw _ _ ls hH (lv_sub hl [1, 2, 0] rfl)
      · intro f_has_13 hw H locs ls hH hl
        obtain ⟨x1_14, ex1_14⟩ : ∃ y : Int32, y = x1 + 1 := ⟨_, rfl⟩
        have hw := hw x1_14 ex1_14
        refine lv_iinc (v := x1_14) (lv' := [(1, .int x1_14), (0, .ref (ad 0))]) hx hb dX53_reckon_101 hl (k := 1) rfl (by rw [ex1_14]; rfl) (by decide) rfl (fun ls hl => ?_)
        refine lv_goto (tgt := 37) hx hb dX53_reckon_104 (by decide) ?_
        exact ih x1_14 f_has_13 hw _ _ ls hH (lv_sub hl [1, 0] rfl)
set_option maxHeartbeats 4000000 in
theorem atX53_reckon_122 {p : Program} {l : Launch} {e : Env} {s : State} {m : MethodId} {args : Array Value} {below : List Frame} {meth : Method} {c : Code} {dC : Nat → ClassId} {dI : Nat → Nat → Nat} {cl : List vw_C} {ci : Nat} (hc : cl[ci]? = some (RX53, TX53, 12)) {ad : Nat → Nat} {d : Nat → ClassId} {A : Nat → Prop} {post : Int32 → (Nat → Int32) → (Nat → Int32) → (Nat → Int32) → Prop} {f_thrown : Int32} {f_rows : Int32} {f_things : Nat → Int32} {f_heads : Nat → Int32} {f_values : Nat → Int32} {f_uppers : Nat → Int32} {f_chosen : Nat → Int32} {f_seen : Nat → Int32} (X : kX p s m args meth c cX53_reckon 5 RX53 none (dC, dI) cl (tX53 d)) {K151 : Int32 → Int32 → Prop} {x1 : Int32} {f_fresh : Int32} {f_has : Nat → Int32} {f_but : Nat → Int32} {f_kept : Nat → Int32} (hk151 : ∀ (x2 : Int32) (x3 : Int32), K151 x2 x3 → ∀ (H : Heap) (locs : List Loc) (ls : Array Slot), kH (dC, dI) cl A s.heap H locs (wX53 ci ad d f_thrown f_rows f_things f_heads f_values f_uppers f_chosen f_seen f_fresh f_has f_but f_kept) → lv_has ls 5 [(0, .ref (ad 0)), (1, .int x1), (2, .int x2), (3, .int x3)] → W p l e ({ frames := 2, cells := 0, slots := 0, locals := 47 } : Room) s m args below meth c H locs 0 0 (MQ below (va_Qv (fun (u : Int32 × (Nat → Int32) × (Nat → Int32) × (Nat → Int32)) => post (u.1) (u.2.1) (u.2.2.1) (u.2.2.2)) (kB (dC, dI) cl (tX53 d) A (fun u : Int32 × (Nat → Int32) × (Nat → Int32) × (Nat → Int32) => (wX53 ci ad d f_thrown f_rows f_things f_heads f_values f_uppers f_chosen f_seen (u.1) (u.2.1) (u.2.2.1) (u.2.2.2)))) A) args s 0 0 A) (F0 m 151 ls [])) :
    ∀ (nn : Nat) (x2 : Int32) (x3 : Int32) (x4 : Int32), wX53_reckon_122 K151 x1 f_chosen f_has nn x2 x3 x4 → ∀ (H : Heap) (locs : List Loc) (ls : Array Slot), kH (dC, dI) cl A s.heap H locs (wX53 ci ad d f_thrown f_rows f_things f_heads f_values f_uppers f_chosen f_seen f_fresh f_has f_but f_kept) → lv_has ls 5 [(0, .ref (ad 0)), (1, .int x1), (2, .int x2), (3, .int x3), (4, .int x4)] → W p l e ({ frames := 2, cells := 0, slots := 0, locals := 47 } : Room) s m args below meth c H locs 0 0 (MQ below (va_Qv (fun (u : Int32 × (Nat → Int32) × (Nat → Int32) × (Nat → Int32)) => post (u.1) (u.2.1) (u.2.2.1) (u.2.2.2)) (kB (dC, dI) cl (tX53 d) A (fun u : Int32 × (Nat → Int32) × (Nat → Int32) × (Nat → Int32) => (wX53 ci ad d f_thrown f_rows f_things f_heads f_values f_uppers f_chosen f_seen (u.1) (u.2.1) (u.2.2.1) (u.2.2.2)))) A) args s 0 0 A) (F0 m 122 ls []) := by
  have hx := X.1.1
  have hb := X.1.2.1
  intro nn
  induction nn with
  | zero =>
    intro x2 x3 x4 hw
    exact False.elim hw
  | succ n ih =>
    intro x2 x3 x4 hw H locs ls hH hl
    rw [wX53_reckon_122] at hw
    refine lv_iload hx hb dX53_reckon_122 (lv_at hl 4 rfl) ?_
    refine lv_bipush (v := 8) hx hb dX53_reckon_124 (by decide) ?_
    refine lv_icmp_ge (tgt := 151) hx hb dX53_reckon_126 (by decide) (fun c_17 => ?_) (fun c_17 => ?_)
    · have hw := hw.1 c_17
      exact hk151 x2 x3 hw _ _ ls hH (lv_sub hl [0, 1, 2, 3] rfl)
    · have hw := hw.2 c_17
      refine lv_aload_n hx hb dX53_reckon_129 rfl (lv_at hl 0 rfl) ?_
      refine lv_iload_n hx hb dX53_reckon_130 rfl (lv_at hl 1 rfl) ?_
      refine lv_iload hx hb dX53_reckon_131 (lv_at hl 4 rfl) ?_
      refine k_i0 hH (k_runV (As := [.int x1, .int x4]) (rest := []) X hH.1 hH.2.1 X.2.2.2 (walkX53_fits hc hw) (cwV 2 X.1.2.2.2.2 gX53_70 rfl rfl rfl hX53_fits ⟨Nat.le_of_ble_eq_true rfl, Nat.le_of_ble_eq_true rfl⟩) hc (q0 := 0) rfl rfl hl.1 rfl (Nat.le_of_ble_eq_true rfl) dX53_reckon_133 ⟨Nat.le_refl 0, Nat.le_refl 0⟩) (fun r_18 _ H locs hw hH => ?_)
      have hH : kH (dC, dI) cl A s.heap H locs (wX53 ci ad d f_thrown f_rows f_things f_heads f_values f_uppers f_chosen f_seen f_fresh f_has f_but f_kept) := hH
      refine lv_if_ne (tgt := 145) hx hb dX53_reckon_136 (by decide) (fun c_19 => ?_) (fun c_19 => ?_)
      · have hw := hw.2 c_19
        obtain ⟨x4_20, ex4_20⟩ : ∃ y : Int32, y = x4 + 1 := ⟨_, rfl⟩
        have hw := hw x4_20 ex4_20
        refine lv_iinc (v := x4_20) (lv' := [(4, .int x4_20), (0, .ref (ad 0)), (1, .int x1), (2, .int x2), (3, .int x3)]) hx hb dX53_reckon_145 hl (k := 4) rfl (by rw [ex4_20]; rfl) (by decide) rfl (fun ls hl => ?_)
        refine lv_goto (tgt := 122) hx hb dX53_reckon_148 (by decide) ?_
        exact ih x2 x3 x4_20 hw _ _ ls hH (lv_sub hl [1, 2, 3, 4, 0] rfl)
      · have hw := hw.1 c_19
        obtain ⟨x2_21, ex2_21⟩ : ∃ y : Int32, y = x2 + 1 := ⟨_, rfl⟩
        have hw := hw x2_21 ex2_21
        refine lv_iinc (v := x2_21) (lv' := [(2, .int x2_21), (0, .ref (ad 0)), (1, .int x1), (3, .int x3), (4, .int x4)]) hx hb dX53_reckon_139 hl (k := 2) rfl (by rw [ex2_21]; rfl) (by decide) rfl (fun ls hl => ?_)
        refine lv_iload hx hb dX53_reckon_142 (lv_at hl 4 rfl) ?_
        refine lv_istore_n (lv' := [(3, .int x4), (2, .int x2_21), (0, .ref (ad 0)), (1, .int x1), (4, .int x4)]) hx hb dX53_reckon_144 rfl hl (by decide) rfl (fun ls hl => ?_)
        obtain ⟨x4_22, ex4_22⟩ : ∃ y : Int32, y = x4 + 1 := ⟨_, rfl⟩
        have hw := hw x4_22 ex4_22
        refine lv_iinc (v := x4_22) (lv' := [(4, .int x4_22), (3, .int x4), (2, .int x2_21), (0, .ref (ad 0)), (1, .int x1)]) hx hb dX53_reckon_145 hl (k := 4) rfl (by rw [ex4_22]; rfl) (by decide) rfl (fun ls hl => ?_)
        refine lv_goto (tgt := 122) hx hb dX53_reckon_148 (by decide) ?_
        exact ih x2_21 x4 x4_22 hw _ _ ls hH (lv_sub hl [3, 4, 2, 1, 0] rfl)
set_option maxHeartbeats 4000000 in
theorem atX53_reckon_169 {p : Program} {l : Launch} {e : Env} {s : State} {m : MethodId} {args : Array Value} {below : List Frame} {meth : Method} {c : Code} {dC : Nat → ClassId} {dI : Nat → Nat → Nat} {cl : List vw_C} {ci : Nat} (hc : cl[ci]? = some (RX53, TX53, 12)) {ad : Nat → Nat} {d : Nat → ClassId} {A : Nat → Prop} {post : Int32 → (Nat → Int32) → (Nat → Int32) → (Nat → Int32) → Prop} {f_thrown : Int32} {f_rows : Int32} {f_things : Nat → Int32} {f_heads : Nat → Int32} {f_values : Nat → Int32} {f_uppers : Nat → Int32} {f_chosen : Nat → Int32} {f_seen : Nat → Int32} (X : kX p s m args meth c cX53_reckon 5 RX53 none (dC, dI) cl (tX53 d)) {K214 : (Nat → Int32) → Prop} {x1 : Int32} {x2 : Int32} {x3 : Int32} {f_fresh : Int32} {f_has : Nat → Int32} {f_kept : Nat → Int32} (hk214 : ∀ (f_but : Nat → Int32), K214 f_but → ∀ (H : Heap) (locs : List Loc) (ls : Array Slot), kH (dC, dI) cl A s.heap H locs (wX53 ci ad d f_thrown f_rows f_things f_heads f_values f_uppers f_chosen f_seen f_fresh f_has f_but f_kept) → lv_has ls 5 [(0, .ref (ad 0)), (1, .int x1)] → W p l e ({ frames := 2, cells := 0, slots := 0, locals := 47 } : Room) s m args below meth c H locs 0 0 (MQ below (va_Qv (fun (u : Int32 × (Nat → Int32) × (Nat → Int32) × (Nat → Int32)) => post (u.1) (u.2.1) (u.2.2.1) (u.2.2.2)) (kB (dC, dI) cl (tX53 d) A (fun u : Int32 × (Nat → Int32) × (Nat → Int32) × (Nat → Int32) => (wX53 ci ad d f_thrown f_rows f_things f_heads f_values f_uppers f_chosen f_seen (u.1) (u.2.1) (u.2.2.1) (u.2.2.2)))) A) args s 0 0 A) (F0 m 214 ls [])) :
    ∀ (nn : Nat) (x4 : Int32) (f_but : Nat → Int32), wX53_reckon_169 K214 x1 x2 x3 nn x4 f_but → ∀ (H : Heap) (locs : List Loc) (ls : Array Slot), kH (dC, dI) cl A s.heap H locs (wX53 ci ad d f_thrown f_rows f_things f_heads f_values f_uppers f_chosen f_seen f_fresh f_has f_but f_kept) → lv_has ls 5 [(0, .ref (ad 0)), (1, .int x1), (2, .int x2), (3, .int x3), (4, .int x4)] → W p l e ({ frames := 2, cells := 0, slots := 0, locals := 47 } : Room) s m args below meth c H locs 0 0 (MQ below (va_Qv (fun (u : Int32 × (Nat → Int32) × (Nat → Int32) × (Nat → Int32)) => post (u.1) (u.2.1) (u.2.2.1) (u.2.2.2)) (kB (dC, dI) cl (tX53 d) A (fun u : Int32 × (Nat → Int32) × (Nat → Int32) × (Nat → Int32) => (wX53 ci ad d f_thrown f_rows f_things f_heads f_values f_uppers f_chosen f_seen (u.1) (u.2.1) (u.2.2.1) (u.2.2.2)))) A) args s 0 0 A) (F0 m 169 ls []) := by
  have hx := X.1.1
  have hb := X.1.2.1
  intro nn
  induction nn with
  | zero =>
    intro x4 f_but hw
    exact False.elim hw
  | succ n ih =>
    intro x4 f_but hw H locs ls hH hl
    rw [wX53_reckon_169] at hw
    refine lv_iload hx hb dX53_reckon_169 (lv_at hl 4 rfl) ?_
    refine lv_bipush (v := 8) hx hb dX53_reckon_171 (by decide) ?_
    refine lv_icmp_ge (tgt := 214) hx hb dX53_reckon_173 (by decide) (fun c_27 => ?_) (fun c_27 => ?_)
    · have hw := hw.1 c_27
      exact hk214 f_but hw _ _ ls hH (lv_sub hl [0, 1] rfl)
    · have hw := hw.2 c_27
      refine lv_aload_n hx hb dX53_reckon_176 rfl (lv_at hl 0 rfl) ?_
      refine k_get X hH in_X53 0 rfl hc 10 (by decide) q6467 rfl dX53_reckon_177 ?_
      refine lv_bipush (v := 8) hx hb dX53_reckon_180 (by decide) ?_
      refine lv_iload_n hx hb dX53_reckon_182 rfl (lv_at hl 1 rfl) ?_
      refine lv_imul hx hb dX53_reckon_183 ?_
      refine lv_iload hx hb dX53_reckon_184 (lv_at hl 4 rfl) ?_
      refine lv_iadd hx hb dX53_reckon_186 ?_
      refine lv_iload_n hx hb dX53_reckon_187 rfl (lv_at hl 2 rfl) ?_
      refine lv_if_eq (tgt := 202) hx hb dX53_reckon_188 (by decide) (fun c_28 => ?_) (fun c_28 => ?_)
      · have hw := hw.1 c_28
        refine lv_iconst (v := 1) hx hb dX53_reckon_202 (by decide) ?_
        refine lv_goto (tgt := 207) hx hb dX53_reckon_203 (by decide) ?_
        obtain ⟨f_but_29, ef_but_29⟩ : ∃ y : Nat → Int32, y = upd f_but ((8 * x1) + x4).toNatClampNeg (vp_nar .boolean 1) := ⟨_, rfl⟩
        refine k_zast X hH 8 7 rfl rfl hw.1 dX53_reckon_207 ef_but_29 (ws1 := (wX53 ci ad d f_thrown f_rows f_things f_heads f_values f_uppers f_chosen f_seen f_fresh f_has f_but_29 f_kept)) rfl (fun H locs hH => ?_)
        have hw := hw.2 f_but_29 ef_but_29
        obtain ⟨x4_30, ex4_30⟩ : ∃ y : Int32, y = x4 + 1 := ⟨_, rfl⟩
        have hw := hw x4_30 ex4_30
        refine lv_iinc (v := x4_30) (lv' := [(4, .int x4_30), (0, .ref (ad 0)), (1, .int x1), (2, .int x2), (3, .int x3)]) hx hb dX53_reckon_208 hl (k := 4) rfl (by rw [ex4_30]; rfl) (by decide) rfl (fun ls hl => ?_)
        refine lv_goto (tgt := 169) hx hb dX53_reckon_211 (by decide) ?_
        exact ih x4_30 f_but_29 hw _ _ ls hH (lv_sub hl [1, 2, 3, 4, 0] rfl)
      · have hw := hw.2 c_28
        refine lv_iload_n hx hb dX53_reckon_191 rfl (lv_at hl 2 rfl) ?_
        refine lv_iconst (v := 1) hx hb dX53_reckon_192 (by decide) ?_
        refine lv_icmp_ne (tgt := 206) hx hb dX53_reckon_193 (by decide) (fun c_31 => ?_) (fun c_31 => ?_)
        · have hw := hw.2 c_31
          refine lv_iconst (v := 0) hx hb dX53_reckon_206 (by decide) ?_
          obtain ⟨f_but_32, ef_but_32⟩ : ∃ y : Nat → Int32, y = upd f_but ((8 * x1) + x4).toNatClampNeg (vp_nar .boolean 0) := ⟨_, rfl⟩
          refine k_zast X hH 8 7 rfl rfl hw.1 dX53_reckon_207 ef_but_32 (ws1 := (wX53 ci ad d f_thrown f_rows f_things f_heads f_values f_uppers f_chosen f_seen f_fresh f_has f_but_32 f_kept)) rfl (fun H locs hH => ?_)
          have hw := hw.2 f_but_32 ef_but_32
          obtain ⟨x4_33, ex4_33⟩ : ∃ y : Int32, y = x4 + 1 := ⟨_, rfl⟩
          have hw := hw x4_33 ex4_33
          refine lv_iinc (v := x4_33) (lv' := [(4, .int x4_33), (0, .ref (ad 0)), (1, .int x1), (2, .int x2), (3, .int x3)]) hx hb dX53_reckon_208 hl (k := 4) rfl (by rw [ex4_33]; rfl) (by decide) rfl (fun ls hl => ?_)
          refine lv_goto (tgt := 169) hx hb dX53_reckon_211 (by decide) ?_
          exact ih x4_33 f_but_32 hw _ _ ls hH (lv_sub hl [1, 2, 3, 4, 0] rfl)
        · have hw := hw.1 c_31
          refine lv_iload_n hx hb dX53_reckon_196 rfl (lv_at hl 3 rfl) ?_
          refine lv_iload hx hb dX53_reckon_197 (lv_at hl 4 rfl) ?_
          refine lv_icmp_ne (tgt := 206) hx hb dX53_reckon_199 (by decide) (fun c_34 => ?_) (fun c_34 => ?_)
          · have hw := hw.2 c_34
            refine lv_iconst (v := 0) hx hb dX53_reckon_206 (by decide) ?_
            obtain ⟨f_but_35, ef_but_35⟩ : ∃ y : Nat → Int32, y = upd f_but ((8 * x1) + x4).toNatClampNeg (vp_nar .boolean 0) := ⟨_, rfl⟩
            refine k_zast X hH 8 7 rfl rfl hw.1 dX53_reckon_207 ef_but_35 (ws1 := (wX53 ci ad d f_thrown f_rows f_things f_heads f_values f_uppers f_chosen f_seen f_fresh f_has f_but_35 f_kept)) rfl (fun H locs hH => ?_)
            have hw := hw.2 f_but_35 ef_but_35
            obtain ⟨x4_36, ex4_36⟩ : ∃ y : Int32, y = x4 + 1 := ⟨_, rfl⟩
            have hw := hw x4_36 ex4_36
            refine lv_iinc (v := x4_36) (lv' := [(4, .int x4_36), (0, .ref (ad 0)), (1, .int x1), (2, .int x2), (3, .int x3)]) hx hb dX53_reckon_208 hl (k := 4) rfl (by rw [ex4_36]; rfl) (by decide) rfl (fun ls hl => ?_)
            refine lv_goto (tgt := 169) hx hb dX53_reckon_211 (by decide) ?_
            exact ih x4_36 f_but_35 hw _ _ ls hH (lv_sub hl [1, 2, 3, 4, 0] rfl)
          · have hw := hw.1 c_34
            refine lv_iconst (v := 1) hx hb dX53_reckon_202 (by decide) ?_
            refine lv_goto (tgt := 207) hx hb dX53_reckon_203 (by decide) ?_
            obtain ⟨f_but_37, ef_but_37⟩ : ∃ y : Nat → Int32, y = upd f_but ((8 * x1) + x4).toNatClampNeg (vp_nar .boolean 1) := ⟨_, rfl⟩
            refine k_zast X hH 8 7 rfl rfl hw.1 dX53_reckon_207 ef_but_37 (ws1 := (wX53 ci ad d f_thrown f_rows f_things f_heads f_values f_uppers f_chosen f_seen f_fresh f_has f_but_37 f_kept)) rfl (fun H locs hH => ?_)
            have hw := hw.2 f_but_37 ef_but_37
            obtain ⟨x4_38, ex4_38⟩ : ∃ y : Int32, y = x4 + 1 := ⟨_, rfl⟩
            have hw := hw x4_38 ex4_38
            refine lv_iinc (v := x4_38) (lv' := [(4, .int x4_38), (0, .ref (ad 0)), (1, .int x1), (2, .int x2), (3, .int x3)]) hx hb dX53_reckon_208 hl (k := 4) rfl (by rw [ex4_38]; rfl) (by decide) rfl (fun ls hl => ?_)
            refine lv_goto (tgt := 169) hx hb dX53_reckon_211 (by decide) ?_
            exact ih x4_38 f_but_37 hw _ _ ls hH (lv_sub hl [1, 2, 3, 4, 0] rfl)
set_option maxHeartbeats 4000000 in
theorem atX53_reckon_109 {p : Program} {l : Launch} {e : Env} {s : State} {m : MethodId} {args : Array Value} {below : List Frame} {meth : Method} {c : Code} {dC : Nat → ClassId} {dI : Nat → Nat → Nat} {cl : List vw_C} {ci : Nat} (hc : cl[ci]? = some (RX53, TX53, 12)) {ad : Nat → Nat} {d : Nat → ClassId} {A : Nat → Prop} {post : Int32 → (Nat → Int32) → (Nat → Int32) → (Nat → Int32) → Prop} {f_thrown : Int32} {f_rows : Int32} {f_things : Nat → Int32} {f_heads : Nat → Int32} {f_values : Nat → Int32} {f_uppers : Nat → Int32} {f_chosen : Nat → Int32} {f_seen : Nat → Int32} (X : kX p s m args meth c cX53_reckon 5 RX53 none (dC, dI) cl (tX53 d)) {K220 : (Nat → Int32) → (Nat → Int32) → Prop}  {f_fresh : Int32} {f_has : Nat → Int32} (hk220 : ∀ (f_but : Nat → Int32) (f_kept : Nat → Int32), K220 f_but f_kept → ∀ (H : Heap) (locs : List Loc) (ls : Array Slot), kH (dC, dI) cl A s.heap H locs (wX53 ci ad d f_thrown f_rows f_things f_heads f_values f_uppers f_chosen f_seen f_fresh f_has f_but f_kept) → lv_has ls 5 [] → W p l e ({ frames := 2, cells := 0, slots := 0, locals := 47 } : Room) s m args below meth c H locs 0 0 (MQ below (va_Qv (fun (u : Int32 × (Nat → Int32) × (Nat → Int32) × (Nat → Int32)) => post (u.1) (u.2.1) (u.2.2.1) (u.2.2.2)) (kB (dC, dI) cl (tX53 d) A (fun u : Int32 × (Nat → Int32) × (Nat → Int32) × (Nat → Int32) => (wX53 ci ad d f_thrown f_rows f_things f_heads f_values f_uppers f_chosen f_seen (u.1) (u.2.1) (u.2.2.1) (u.2.2.2)))) A) args s 0 0 A) (F0 m 220 ls [])) :
    ∀ (nn : Nat) (x1 : Int32) (f_but : Nat → Int32) (f_kept : Nat → Int32), wX53_reckon_109 K220 f_chosen f_has nn x1 f_but f_kept → ∀ (H : Heap) (locs : List Loc) (ls : Array Slot), kH (dC, dI) cl A s.heap H locs (wX53 ci ad d f_thrown f_rows f_things f_heads f_values f_uppers f_chosen f_seen f_fresh f_has f_but f_kept) → lv_has ls 5 [(0, .ref (ad 0)), (1, .int x1)] → W p l e ({ frames := 2, cells := 0, slots := 0, locals := 47 } : Room) s m args below meth c H locs 0 0 (MQ below (va_Qv (fun (u : Int32 × (Nat → Int32) × (Nat → Int32) × (Nat → Int32)) => post (u.1) (u.2.1) (u.2.2.1) (u.2.2.2)) (kB (dC, dI) cl (tX53 d) A (fun u : Int32 × (Nat → Int32) × (Nat → Int32) × (Nat → Int32) => (wX53 ci ad d f_thrown f_rows f_things f_heads f_values f_uppers f_chosen f_seen (u.1) (u.2.1) (u.2.2.1) (u.2.2.2)))) A) args s 0 0 A) (F0 m 109 ls []) := by
  have hx := X.1.1
  have hb := X.1.2.1
  intro nn
  induction nn with
  | zero =>
    intro x1 f_but f_kept hw
    exact False.elim hw
  | succ n ih =>
    intro x1 f_but f_kept hw H locs ls hH hl
    rw [wX53_reckon_109] at hw
    refine lv_iload_n hx hb dX53_reckon_109 rfl (lv_at hl 1 rfl) ?_
    refine lv_bipush (v := 40) hx hb dX53_reckon_110 (by decide) ?_
    refine lv_icmp_ge (tgt := 220) hx hb dX53_reckon_112 (by decide) (fun c_16 => ?_) (fun c_16 => ?_)
    · have hw := hw.1 c_16
      exact hk220 f_but f_kept hw _ _ ls hH (lv_sub hl [] rfl)
    · have hw := hw.2 c_16
      refine lv_iconst (v := 0) hx hb dX53_reckon_115 (by decide) ?_
      refine lv_istore_n (lv' := [(2, .int 0), (0, .ref (ad 0)), (1, .int x1)]) hx hb dX53_reckon_116 rfl hl (by decide) rfl (fun ls hl => ?_)
      refine lv_iconst (v := (-1)) hx hb dX53_reckon_117 (by decide) ?_
      refine lv_istore_n (lv' := [(3, .int ((-1))), (2, .int 0), (0, .ref (ad 0)), (1, .int x1)]) hx hb dX53_reckon_118 rfl hl (by decide) rfl (fun ls hl => ?_)
      refine lv_iconst (v := 0) hx hb dX53_reckon_119 (by decide) ?_
      refine lv_istore (lv' := [(4, .int 0), (3, .int ((-1))), (2, .int 0), (0, .ref (ad 0)), (1, .int x1)]) hx hb dX53_reckon_120 hl (by decide) rfl (fun ls hl => ?_)
      obtain ⟨fu, hw⟩ := hw
      refine atX53_reckon_122 hc X ?_ fu 0 (-1) 0 hw _ _ ls hH (lv_sub hl [3, 4, 2, 1, 0] rfl)
      · intro x2_23 x3_24 hw H locs ls hH hl
        refine lv_aload_n hx hb dX53_reckon_151 rfl (lv_at hl 0 rfl) ?_
        refine k_get X hH in_X53 0 rfl hc 11 (by decide) q6468 rfl dX53_reckon_152 ?_
        refine lv_iload_n hx hb dX53_reckon_155 rfl (lv_at hl 1 rfl) ?_
        refine lv_iload_n hx hb dX53_reckon_156 rfl (lv_at hl 2 rfl) ?_
        refine lv_if_ne (tgt := 164) hx hb dX53_reckon_157 (by decide) (fun c_25 => ?_) (fun c_25 => ?_)
        · have hw := hw.2 c_25
          refine lv_iconst (v := 0) hx hb dX53_reckon_164 (by decide) ?_
          obtain ⟨f_kept_26, ef_kept_26⟩ : ∃ y : Nat → Int32, y = upd f_kept x1.toNatClampNeg (vp_nar .boolean 0) := ⟨_, rfl⟩
          refine k_zast X hH 9 8 rfl rfl hw.1 dX53_reckon_165 ef_kept_26 (ws1 := (wX53 ci ad d f_thrown f_rows f_things f_heads f_values f_uppers f_chosen f_seen f_fresh f_has f_but f_kept_26)) rfl (fun H locs hH => ?_)
          have hw := hw.2 f_kept_26 ef_kept_26
          refine lv_iconst (v := 0) hx hb dX53_reckon_166 (by decide) ?_
          refine lv_istore (lv' := [(4, .int 0), (0, .ref (ad 0)), (1, .int x1), (2, .int x2_23), (3, .int x3_24)]) hx hb dX53_reckon_167 hl (by decide) rfl (fun ls hl => ?_)
          obtain ⟨fu, hw⟩ := hw
          refine atX53_reckon_169 hc X ?_ fu 0 f_but hw _ _ ls hH (lv_sub hl [1, 2, 3, 4, 0] rfl)
          · intro f_but_39 hw H locs ls hH hl
            obtain ⟨x1_40, ex1_40⟩ : ∃ y : Int32, y = x1 + 1 := ⟨_, rfl⟩
            have hw := hw x1_40 ex1_40
            refine lv_iinc (v := x1_40) (lv' := [(1, .int x1_40), (0, .ref (ad 0))]) hx hb dX53_reckon_214 hl (k := 1) rfl (by rw [ex1_40]; rfl) (by decide) rfl (fun ls hl => ?_)
            refine lv_goto (tgt := 109) hx hb dX53_reckon_217 (by decide) ?_
            exact ih x1_40 f_but_39 f_kept_26 hw _ _ ls hH (lv_sub hl [1, 0] rfl)
        · have hw := hw.1 c_25
          refine lv_iconst (v := 1) hx hb dX53_reckon_160 (by decide) ?_
          refine lv_goto (tgt := 165) hx hb dX53_reckon_161 (by decide) ?_
          obtain ⟨f_kept_41, ef_kept_41⟩ : ∃ y : Nat → Int32, y = upd f_kept x1.toNatClampNeg (vp_nar .boolean 1) := ⟨_, rfl⟩
          refine k_zast X hH 9 8 rfl rfl hw.1 dX53_reckon_165 ef_kept_41 (ws1 := (wX53 ci ad d f_thrown f_rows f_things f_heads f_values f_uppers f_chosen f_seen f_fresh f_has f_but f_kept_41)) rfl (fun H locs hH => ?_)
          have hw := hw.2 f_kept_41 ef_kept_41
          refine lv_iconst (v := 0) hx hb dX53_reckon_166 (by decide) ?_
          refine lv_istore (lv' := [(4, .int 0), (0, .ref (ad 0)), (1, .int x1), (2, .int x2_23), (3, .int x3_24)]) hx hb dX53_reckon_167 hl (by decide) rfl (fun ls hl => ?_)
          obtain ⟨fu, hw⟩ := hw
          refine atX53_reckon_169 hc X ?_ fu 0 f_but hw _ _ ls hH (lv_sub hl [1, 2, 3, 4, 0] rfl)
          · intro f_but_42 hw H locs ls hH hl
            obtain ⟨x1_43, ex1_43⟩ : ∃ y : Int32, y = x1 + 1 := ⟨_, rfl⟩
            have hw := hw x1_43 ex1_43
            refine lv_iinc (v := x1_43) (lv' := [(1, .int x1_43), (0, .ref (ad 0))]) hx hb dX53_reckon_214 hl (k := 1) rfl (by rw [ex1_43]; rfl) (by decide) rfl (fun ls hl => ?_)
            refine lv_goto (tgt := 109) hx hb dX53_reckon_217 (by decide) ?_
            exact ih x1_43 f_but_42 f_kept_41 hw _ _ ls hH (lv_sub hl [1, 0] rfl)
set_option maxHeartbeats 4000000 in
theorem walkX53_reckon {l : Launch} {dC : Nat → ClassId} {dI : Nat → Nat → Nat} {cl : List vw_C} {ci : Nat} (hc : cl[ci]? = some (RX53, TX53, 12)) {ad : Nat → Nat} {d : Nat → ClassId} {sz : Nat} {f_thrown : Int32} {f_rows : Int32} {f_things : Nat → Int32} {f_heads : Nat → Int32} {f_values : Nat → Int32} {f_uppers : Nat → Int32} {f_chosen : Nat → Int32} {f_seen : Nat → Int32} {f_fresh : Int32} {f_has : Nat → Int32} {f_but : Nat → Int32} {f_kept : Nat → Int32}  {post : Int32 → (Nat → Int32) → (Nat → Int32) → (Nat → Int32) → Prop} (hw : wpX53_reckon post f_rows f_things f_heads f_values f_uppers f_chosen f_fresh f_has f_but f_kept ) :
    Met l yX53_reckon (ws_ yX53_reckon cX53_reckon 5 none) ({ frames := 2, cells := 0, slots := 0, locals := 47 } : Room) (kPc (dC, dI) cl (tX53 d) [.ref (ad 0)] sz (wX53 ci ad d f_thrown f_rows f_things f_heads f_values f_uppers f_chosen f_seen f_fresh f_has f_but f_kept)) (va_Qv (fun (u : Int32 × (Nat → Int32) × (Nat → Int32) × (Nat → Int32)) => post (u.1) (u.2.1) (u.2.2.1) (u.2.2.2)) (kB (dC, dI) cl (tX53 d) (va_A (wX53 ci ad d f_thrown f_rows f_things f_heads f_values f_uppers f_chosen f_seen f_fresh f_has f_but f_kept) sz) (fun u : Int32 × (Nat → Int32) × (Nat → Int32) × (Nat → Int32) => (wX53 ci ad d f_thrown f_rows f_things f_heads f_values f_uppers f_chosen f_seen (u.1) (u.2.1) (u.2.2.1) (u.2.2.2)))) (va_A (wX53 ci ad d f_thrown f_rows f_things f_heads f_values f_uppers f_chosen f_seen f_fresh f_has f_but f_kept) sz)) 0 0 (va_A (wX53 ci ad d f_thrown f_rows f_things f_heads f_values f_uppers f_chosen f_seen f_fresh f_has f_but f_kept) sz) := by
  refine k_enter (by decide) (Nat.le_of_ble_eq_true rfl) ?_
  intro p e s m below meth c ls X hsz hH hl
  subst hsz
  generalize va_A (wX53 ci ad d f_thrown f_rows f_things f_heads f_values f_uppers f_chosen f_seen f_fresh f_has f_but f_kept) s.heap.size = A at hH ⊢
  have hx := X.1.1
  have hb := X.1.2.1
  have hl : lv_has ls 5 [(0, .ref (ad 0))] := hl
  unfold wpX53_reckon at hw
  refine lv_aload_n hx hb dX53_reckon_0 rfl (lv_at hl 0 rfl) ?_
  refine k_get X hH in_X53 0 rfl hc 8 (by decide) q6465 rfl dX53_reckon_1 ?_
  refine lv_if_eq (tgt := 8) hx hb dX53_reckon_4 (by decide) (fun c_1 => ?_) (fun c_1 => ?_)
  · have hw := hw.1 c_1
    refine lv_aload_n hx hb dX53_reckon_8 rfl (lv_at hl 0 rfl) ?_
    refine lv_iconst (v := 1) hx hb dX53_reckon_9 (by decide) ?_
    refine k_put X hH in_X53 tyX53_ok nmX53 0 rfl hc 8 (by decide) q6465 rfl (ty := .boolean) rfl rfl rfl (Nat.le_of_ble_eq_true rfl) dX53_reckon_10 (ws1 := (wX53 ci ad d f_thrown f_rows f_things f_heads f_values f_uppers f_chosen f_seen 1 f_has f_but f_kept)) rfl (fun H locs hH => ?_)
    refine lv_iconst (v := 0) hx hb dX53_reckon_13 (by decide) ?_
    refine lv_istore_n (lv' := [(1, .int 0), (0, .ref (ad 0))]) hx hb dX53_reckon_14 rfl hl (by decide) rfl (fun ls hl => ?_)
    obtain ⟨fu, hw⟩ := hw
    refine atX53_reckon_15 hc X ?_ fu 0 f_has hw _ _ ls hH (lv_sub hl [1, 0] rfl)
    · intro f_has_5 hw H locs ls hH hl
      refine lv_iconst (v := 0) hx hb dX53_reckon_35 (by decide) ?_
      refine lv_istore_n (lv' := [(1, .int 0), (0, .ref (ad 0))]) hx hb dX53_reckon_36 rfl hl (by decide) rfl (fun ls hl => ?_)
      obtain ⟨fu, hw⟩ := hw
      refine atX53_reckon_37 hc X ?_ fu 0 f_has_5 hw _ _ ls hH (lv_sub hl [1, 0] rfl)
      · intro f_has_15 hw H locs ls hH hl
        refine lv_iconst (v := 0) hx hb dX53_reckon_107 (by decide) ?_
        refine lv_istore_n (lv' := [(1, .int 0), (0, .ref (ad 0))]) hx hb dX53_reckon_108 rfl hl (by decide) rfl (fun ls hl => ?_)
        obtain ⟨fu, hw⟩ := hw
        refine atX53_reckon_109 hc X ?_ fu 0 f_but f_kept hw _ _ ls hH (lv_sub hl [1, 0] rfl)
        · intro f_but_44 f_kept_45 hw H locs ls hH hl
          exact k_vret X hH (1, f_has_15, f_but_44, f_kept_45) hw rfl dX53_reckon_220
  · have hw := hw.2 c_1
    exact k_vret X hH (f_fresh, f_has, f_but, f_kept) hw rfl dX53_reckon_7
set_option maxHeartbeats 4000000 in
theorem atX53_countKept_8 {p : Program} {l : Launch} {e : Env} {s : State} {m : MethodId} {args : Array Value} {below : List Frame} {meth : Method} {c : Code} {dC : Nat → ClassId} {dI : Nat → Nat → Nat} {cl : List vw_C} {ci : Nat} (hc : cl[ci]? = some (RX53, TX53, 12)) {ad : Nat → Nat} {d : Nat → ClassId} {A : Nat → Prop} {post : Int32 → Int32 → (Nat → Int32) → (Nat → Int32) → (Nat → Int32) → Prop} {f_thrown : Int32} {f_rows : Int32} {f_things : Nat → Int32} {f_heads : Nat → Int32} {f_values : Nat → Int32} {f_uppers : Nat → Int32} {f_chosen : Nat → Int32} {f_seen : Nat → Int32} (X : kX p s m args meth c cX53_countKept 3 RX53 (some .int) (dC, dI) cl (tX53 d)) {K37 : Int32 → Prop}  {f_fresh : Int32} {f_has : Nat → Int32} {f_but : Nat → Int32} {f_kept : Nat → Int32} (hk37 : ∀ (x1 : Int32), K37 x1 → ∀ (H : Heap) (locs : List Loc) (ls : Array Slot), kH (dC, dI) cl A s.heap H locs (wX53 ci ad d f_thrown f_rows f_things f_heads f_values f_uppers f_chosen f_seen f_fresh f_has f_but f_kept) → lv_has ls 3 [(1, .int x1)] → W p l e ({ frames := 3, cells := 0, slots := 0, locals := 71 } : Room) s m args below meth c H locs 0 0 (MQ below (va_Qi (fun (r : Int32) (u : Int32 × (Nat → Int32) × (Nat → Int32) × (Nat → Int32)) => post r (u.1) (u.2.1) (u.2.2.1) (u.2.2.2)) (kB (dC, dI) cl (tX53 d) A (fun u : Int32 × (Nat → Int32) × (Nat → Int32) × (Nat → Int32) => (wX53 ci ad d f_thrown f_rows f_things f_heads f_values f_uppers f_chosen f_seen (u.1) (u.2.1) (u.2.2.1) (u.2.2.2)))) A) args s 0 0 A) (F0 m 37 ls [])) :
    ∀ (nn : Nat) (x1 : Int32) (x2 : Int32), wX53_countKept_8 K37 f_kept nn x1 x2 → ∀ (H : Heap) (locs : List Loc) (ls : Array Slot), kH (dC, dI) cl A s.heap H locs (wX53 ci ad d f_thrown f_rows f_things f_heads f_values f_uppers f_chosen f_seen f_fresh f_has f_but f_kept) → lv_has ls 3 [(0, .ref (ad 0)), (1, .int x1), (2, .int x2)] → W p l e ({ frames := 3, cells := 0, slots := 0, locals := 71 } : Room) s m args below meth c H locs 0 0 (MQ below (va_Qi (fun (r : Int32) (u : Int32 × (Nat → Int32) × (Nat → Int32) × (Nat → Int32)) => post r (u.1) (u.2.1) (u.2.2.1) (u.2.2.2)) (kB (dC, dI) cl (tX53 d) A (fun u : Int32 × (Nat → Int32) × (Nat → Int32) × (Nat → Int32) => (wX53 ci ad d f_thrown f_rows f_things f_heads f_values f_uppers f_chosen f_seen (u.1) (u.2.1) (u.2.2.1) (u.2.2.2)))) A) args s 0 0 A) (F0 m 8 ls []) := by
  have hx := X.1.1
  have hb := X.1.2.1
  intro nn
  induction nn with
  | zero =>
    intro x1 x2 hw
    exact False.elim hw
  | succ n ih =>
    intro x1 x2 hw H locs ls hH hl
    rw [wX53_countKept_8] at hw
    refine lv_iload_n hx hb dX53_countKept_8 rfl (lv_at hl 2 rfl) ?_
    refine lv_bipush (v := 40) hx hb dX53_countKept_9 (by decide) ?_
    refine lv_icmp_ge (tgt := 37) hx hb dX53_countKept_11 (by decide) (fun c_5 => ?_) (fun c_5 => ?_)
    · have hw := hw.1 c_5
      exact hk37 x1 hw _ _ ls hH (lv_sub hl [1] rfl)
    · have hw := hw.2 c_5
      refine lv_iload_n hx hb dX53_countKept_14 rfl (lv_at hl 1 rfl) ?_
      refine lv_aload_n hx hb dX53_countKept_15 rfl (lv_at hl 0 rfl) ?_
      refine k_get X hH in_X53 0 rfl hc 11 (by decide) q6468 rfl dX53_countKept_16 ?_
      refine lv_iload_n hx hb dX53_countKept_19 rfl (lv_at hl 2 rfl) ?_
      refine k_zald X hH 9 8 rfl rfl hw.1 dX53_countKept_20 ?_
      have hw := hw.2
      refine lv_if_eq (tgt := 28) hx hb dX53_countKept_21 (by decide) (fun c_6 => ?_) (fun c_6 => ?_)
      · have hw := hw.1 c_6
        refine lv_iconst (v := 0) hx hb dX53_countKept_28 (by decide) ?_
        refine lv_iadd hx hb dX53_countKept_29 ?_
        refine lv_topi (fun x1_7 ex1_7 => ?_)
        have hw := hw x1_7 ex1_7
        refine lv_istore_n (lv' := [(1, .int x1_7), (0, .ref (ad 0)), (2, .int x2)]) hx hb dX53_countKept_30 rfl hl (by decide) rfl (fun ls hl => ?_)
        obtain ⟨x2_8, ex2_8⟩ : ∃ y : Int32, y = x2 + 1 := ⟨_, rfl⟩
        have hw := hw x2_8 ex2_8
        refine lv_iinc (v := x2_8) (lv' := [(2, .int x2_8), (1, .int x1_7), (0, .ref (ad 0))]) hx hb dX53_countKept_31 hl (k := 2) rfl (by rw [ex2_8]; rfl) (by decide) rfl (fun ls hl => ?_)
        refine lv_goto (tgt := 8) hx hb dX53_countKept_34 (by decide) ?_
        exact ih x1_7 x2_8 hw _ _ ls hH (lv_sub hl [2, 1, 0] rfl)
      · have hw := hw.2 c_6
        refine lv_iconst (v := 1) hx hb dX53_countKept_24 (by decide) ?_
        refine lv_goto (tgt := 29) hx hb dX53_countKept_25 (by decide) ?_
        refine lv_iadd hx hb dX53_countKept_29 ?_
        refine lv_topi (fun x1_9 ex1_9 => ?_)
        have hw := hw x1_9 ex1_9
        refine lv_istore_n (lv' := [(1, .int x1_9), (0, .ref (ad 0)), (2, .int x2)]) hx hb dX53_countKept_30 rfl hl (by decide) rfl (fun ls hl => ?_)
        obtain ⟨x2_10, ex2_10⟩ : ∃ y : Int32, y = x2 + 1 := ⟨_, rfl⟩
        have hw := hw x2_10 ex2_10
        refine lv_iinc (v := x2_10) (lv' := [(2, .int x2_10), (1, .int x1_9), (0, .ref (ad 0))]) hx hb dX53_countKept_31 hl (k := 2) rfl (by rw [ex2_10]; rfl) (by decide) rfl (fun ls hl => ?_)
        refine lv_goto (tgt := 8) hx hb dX53_countKept_34 (by decide) ?_
        exact ih x1_9 x2_10 hw _ _ ls hH (lv_sub hl [2, 1, 0] rfl)
set_option maxHeartbeats 4000000 in
theorem walkX53_countKept {l : Launch} {dC : Nat → ClassId} {dI : Nat → Nat → Nat} {cl : List vw_C} {ci : Nat} (hc : cl[ci]? = some (RX53, TX53, 12)) {ad : Nat → Nat} {d : Nat → ClassId} {sz : Nat} {f_thrown : Int32} {f_rows : Int32} {f_things : Nat → Int32} {f_heads : Nat → Int32} {f_values : Nat → Int32} {f_uppers : Nat → Int32} {f_chosen : Nat → Int32} {f_seen : Nat → Int32} {f_fresh : Int32} {f_has : Nat → Int32} {f_but : Nat → Int32} {f_kept : Nat → Int32}  {post : Int32 → Int32 → (Nat → Int32) → (Nat → Int32) → (Nat → Int32) → Prop} (hw : wpX53_countKept post f_rows f_things f_heads f_values f_uppers f_chosen f_fresh f_has f_but f_kept ) :
    Met l yX53_countKept (ws_ yX53_countKept cX53_countKept 3 (some .int)) ({ frames := 3, cells := 0, slots := 0, locals := 71 } : Room) (kPc (dC, dI) cl (tX53 d) [.ref (ad 0)] sz (wX53 ci ad d f_thrown f_rows f_things f_heads f_values f_uppers f_chosen f_seen f_fresh f_has f_but f_kept)) (va_Qi (fun (r : Int32) (u : Int32 × (Nat → Int32) × (Nat → Int32) × (Nat → Int32)) => post r (u.1) (u.2.1) (u.2.2.1) (u.2.2.2)) (kB (dC, dI) cl (tX53 d) (va_A (wX53 ci ad d f_thrown f_rows f_things f_heads f_values f_uppers f_chosen f_seen f_fresh f_has f_but f_kept) sz) (fun u : Int32 × (Nat → Int32) × (Nat → Int32) × (Nat → Int32) => (wX53 ci ad d f_thrown f_rows f_things f_heads f_values f_uppers f_chosen f_seen (u.1) (u.2.1) (u.2.2.1) (u.2.2.2)))) (va_A (wX53 ci ad d f_thrown f_rows f_things f_heads f_values f_uppers f_chosen f_seen f_fresh f_has f_but f_kept) sz)) 0 0 (va_A (wX53 ci ad d f_thrown f_rows f_things f_heads f_values f_uppers f_chosen f_seen f_fresh f_has f_but f_kept) sz) := by
  refine k_enter (by decide) (Nat.le_of_ble_eq_true rfl) ?_
  intro p e s m below meth c ls X hsz hH hl
  subst hsz
  generalize va_A (wX53 ci ad d f_thrown f_rows f_things f_heads f_values f_uppers f_chosen f_seen f_fresh f_has f_but f_kept) s.heap.size = A at hH ⊢
  have hx := X.1.1
  have hb := X.1.2.1
  have hl : lv_has ls 3 [(0, .ref (ad 0))] := hl
  unfold wpX53_countKept at hw
  refine lv_aload_n hx hb dX53_countKept_0 rfl (lv_at hl 0 rfl) ?_
  refine k_v0 hH (k_runV (As := []) (rest := []) X hH.1 hH.2.1 X.2.2.2 (walkX53_reckon hc hw) (cwV 0 X.1.2.2.2.2 gX53_74 rfl rfl rfl hX53_reckon ⟨Nat.le_of_ble_eq_true rfl, Nat.le_of_ble_eq_true rfl⟩) hc (q0 := 0) rfl rfl hl.1 rfl (Nat.le_of_ble_eq_true rfl) dX53_countKept_1 ⟨Nat.le_refl 0, Nat.le_refl 0⟩) (fun u H locs hw hH => ?_)
  obtain ⟨f_fresh_1, f_has_2, f_but_3, f_kept_4⟩ := u
  have hH : kH (dC, dI) cl A s.heap H locs (wX53 ci ad d f_thrown f_rows f_things f_heads f_values f_uppers f_chosen f_seen f_fresh_1 f_has_2 f_but_3 f_kept_4) := hH
  refine lv_iconst (v := 0) hx hb dX53_countKept_4 (by decide) ?_
  refine lv_istore_n (lv' := [(1, .int 0), (0, .ref (ad 0))]) hx hb dX53_countKept_5 rfl hl (by decide) rfl (fun ls hl => ?_)
  refine lv_iconst (v := 0) hx hb dX53_countKept_6 (by decide) ?_
  refine lv_istore_n (lv' := [(2, .int 0), (1, .int 0), (0, .ref (ad 0))]) hx hb dX53_countKept_7 rfl hl (by decide) rfl (fun ls hl => ?_)
  obtain ⟨fu, hw⟩ := hw
  refine atX53_countKept_8 hc X ?_ fu 0 0 hw _ _ ls hH (lv_sub hl [2, 1, 0] rfl)
  · intro x1_11 hw H locs ls hH hl
    refine lv_iload_n hx hb dX53_countKept_37 rfl (lv_at hl 0 rfl) ?_
    exact k_iret (v := x1_11) X hH (f_fresh_1, f_has_2, f_but_3, f_kept_4) hw rfl rfl dX53_countKept_38
set_option maxHeartbeats 4000000 in
theorem walkX53_kept {l : Launch} {dC : Nat → ClassId} {dI : Nat → Nat → Nat} {cl : List vw_C} {ci : Nat} (hc : cl[ci]? = some (RX53, TX53, 12)) {ad : Nat → Nat} {d : Nat → ClassId} {sz : Nat} {f_thrown : Int32} {f_rows : Int32} {f_things : Nat → Int32} {f_heads : Nat → Int32} {f_values : Nat → Int32} {f_uppers : Nat → Int32} {f_chosen : Nat → Int32} {f_seen : Nat → Int32} {f_fresh : Int32} {f_has : Nat → Int32} {f_but : Nat → Int32} {f_kept : Nat → Int32}  {post : Int32 → Int32 → Int32 → (Nat → Int32) → (Nat → Int32) → (Nat → Int32) → Prop} (hw : wpX53_kept post f_rows f_things f_heads f_values f_uppers f_chosen f_fresh f_has f_but f_kept ) :
    Met l yX53_kept (ws_ yX53_kept cX53_kept 1 (some .int)) ({ frames := 4, cells := 0, slots := 0, locals := 93 } : Room) (kPc (dC, dI) cl (tX53 d) [.ref (ad 0)] sz (wX53 ci ad d f_thrown f_rows f_things f_heads f_values f_uppers f_chosen f_seen f_fresh f_has f_but f_kept)) (va_Qi (fun (r : Int32) (u : Int32 × Int32 × (Nat → Int32) × (Nat → Int32) × (Nat → Int32)) => post r (u.1) (u.2.1) (u.2.2.1) (u.2.2.2.1) (u.2.2.2.2)) (kB (dC, dI) cl (tX53 d) (va_A (wX53 ci ad d f_thrown f_rows f_things f_heads f_values f_uppers f_chosen f_seen f_fresh f_has f_but f_kept) sz) (fun u : Int32 × Int32 × (Nat → Int32) × (Nat → Int32) × (Nat → Int32) => (wX53 ci ad d (u.1) f_rows f_things f_heads f_values f_uppers f_chosen f_seen (u.2.1) (u.2.2.1) (u.2.2.2.1) (u.2.2.2.2)))) (va_A (wX53 ci ad d f_thrown f_rows f_things f_heads f_values f_uppers f_chosen f_seen f_fresh f_has f_but f_kept) sz)) 0 0 (va_A (wX53 ci ad d f_thrown f_rows f_things f_heads f_values f_uppers f_chosen f_seen f_fresh f_has f_but f_kept) sz) := by
  refine k_enter (by decide) (Nat.le_of_ble_eq_true rfl) ?_
  intro p e s m below meth c ls X hsz hH hl
  subst hsz
  generalize va_A (wX53 ci ad d f_thrown f_rows f_things f_heads f_values f_uppers f_chosen f_seen f_fresh f_has f_but f_kept) s.heap.size = A at hH ⊢
  have hx := X.1.1
  have hb := X.1.2.1
  have hl : lv_has ls 1 [(0, .ref (ad 0))] := hl
  unfold wpX53_kept at hw
  refine lv_aload_n hx hb dX53_kept_0 rfl (lv_at hl 0 rfl) ?_
  refine lv_iconst (v := 0) hx hb dX53_kept_1 (by decide) ?_
  refine k_put X hH in_X53 tyX53_ok nmX53 0 rfl hc 0 (by decide) q6457 rfl (ty := .int) rfl rfl rfl (Nat.le_of_ble_eq_true rfl) dX53_kept_2 (ws1 := (wX53 ci ad d 0 f_rows f_things f_heads f_values f_uppers f_chosen f_seen f_fresh f_has f_but f_kept)) rfl (fun H locs hH => ?_)
  refine lv_aload_n hx hb dX53_kept_5 rfl (lv_at hl 0 rfl) ?_
  refine k_i0 hH (k_runV (As := []) (rest := []) X hH.1 hH.2.1 X.2.2.2 (walkX53_countKept hc hw) (cwV 0 X.1.2.2.2.2 gX53_63 rfl rfl rfl hX53_countKept ⟨Nat.le_of_ble_eq_true rfl, Nat.le_of_ble_eq_true rfl⟩) hc (q0 := 0) rfl rfl hl.1 rfl (Nat.le_of_ble_eq_true rfl) dX53_kept_6 ⟨Nat.le_refl 0, Nat.le_refl 0⟩) (fun r_1 u H locs hw hH => ?_)
  obtain ⟨f_fresh_2, f_has_3, f_but_4, f_kept_5⟩ := u
  have hH : kH (dC, dI) cl A s.heap H locs (wX53 ci ad d 0 f_rows f_things f_heads f_values f_uppers f_chosen f_seen f_fresh_2 f_has_3 f_but_4 f_kept_5) := hH
  exact k_iret (v := r_1) X hH (0, f_fresh_2, f_has_3, f_but_4, f_kept_5) hw rfl rfl dX53_kept_9
set_option maxHeartbeats 4000000 in
theorem walkX53_choose {l : Launch} {dC : Nat → ClassId} {dI : Nat → Nat → Nat} {cl : List vw_C} {ci : Nat} (hc : cl[ci]? = some (RX53, TX53, 12)) {ad : Nat → Nat} {d : Nat → ClassId} {sz : Nat} {f_thrown : Int32} {f_rows : Int32} {f_things : Nat → Int32} {f_heads : Nat → Int32} {f_values : Nat → Int32} {f_uppers : Nat → Int32} {f_chosen : Nat → Int32} {f_seen : Nat → Int32} {f_fresh : Int32} {f_has : Nat → Int32} {f_but : Nat → Int32} {f_kept : Nat → Int32} {x1 : Int32} {x2 : Int32} {x3 : Int32} {post : Int32 → Int32 → (Nat → Int32) → Int32 → (Nat → Int32) → (Nat → Int32) → (Nat → Int32) → Prop} (hw : wpX53_choose post f_rows f_things f_heads f_values f_uppers f_chosen f_fresh f_has f_but f_kept x1 x2 x3) :
    Met l yX53_choose (ws_ yX53_choose cX53_choose 4 (some .int)) ({ frames := 4, cells := 0, slots := 0, locals := 93 } : Room) (kPc (dC, dI) cl (tX53 d) [.ref (ad 0), .int x1, .int x2, .int x3] sz (wX53 ci ad d f_thrown f_rows f_things f_heads f_values f_uppers f_chosen f_seen f_fresh f_has f_but f_kept)) (va_Qi (fun (r : Int32) (u : Int32 × (Nat → Int32) × Int32 × (Nat → Int32) × (Nat → Int32) × (Nat → Int32)) => post r (u.1) (u.2.1) (u.2.2.1) (u.2.2.2.1) (u.2.2.2.2.1) (u.2.2.2.2.2)) (kB (dC, dI) cl (tX53 d) (va_A (wX53 ci ad d f_thrown f_rows f_things f_heads f_values f_uppers f_chosen f_seen f_fresh f_has f_but f_kept) sz) (fun u : Int32 × (Nat → Int32) × Int32 × (Nat → Int32) × (Nat → Int32) × (Nat → Int32) => (wX53 ci ad d (u.1) f_rows f_things f_heads f_values f_uppers (u.2.1) f_seen (u.2.2.1) (u.2.2.2.1) (u.2.2.2.2.1) (u.2.2.2.2.2)))) (va_A (wX53 ci ad d f_thrown f_rows f_things f_heads f_values f_uppers f_chosen f_seen f_fresh f_has f_but f_kept) sz)) 0 0 (va_A (wX53 ci ad d f_thrown f_rows f_things f_heads f_values f_uppers f_chosen f_seen f_fresh f_has f_but f_kept) sz) := by
  refine k_enter (by decide) (Nat.le_of_ble_eq_true rfl) ?_
  intro p e s m below meth c ls X hsz hH hl
  subst hsz
  generalize va_A (wX53 ci ad d f_thrown f_rows f_things f_heads f_values f_uppers f_chosen f_seen f_fresh f_has f_but f_kept) s.heap.size = A at hH ⊢
  have hx := X.1.1
  have hb := X.1.2.1
  have hl : lv_has ls 4 [(0, .ref (ad 0)), (1, .int x1), (2, .int x2), (3, .int x3)] := hl
  unfold wpX53_choose at hw
  refine lv_aload_n hx hb dX53_choose_0 rfl (lv_at hl 0 rfl) ?_
  refine lv_iconst (v := 0) hx hb dX53_choose_1 (by decide) ?_
  refine k_put X hH in_X53 tyX53_ok nmX53 0 rfl hc 0 (by decide) q6457 rfl (ty := .int) rfl rfl rfl (Nat.le_of_ble_eq_true rfl) dX53_choose_2 (ws1 := (wX53 ci ad d 0 f_rows f_things f_heads f_values f_uppers f_chosen f_seen f_fresh f_has f_but f_kept)) rfl (fun H locs hH => ?_)
  refine lv_iload_n hx hb dX53_choose_5 rfl (lv_at hl 1 rfl) ?_
  refine k_i0 hH (k_runS (As := [.int x1]) (rest := []) X hH.1 hH.2.1 X.2.2.2 (walkX53_isHead hc hw) (va_cwS 1 X.1.2.2.2.2 gX53_49 rfl rfl rfl hX53_isHead ⟨Nat.le_of_ble_eq_true rfl, Nat.le_of_ble_eq_true rfl⟩) rfl hl.1 rfl (Nat.le_of_ble_eq_true rfl) dX53_choose_6 ⟨Nat.le_refl 0, Nat.le_refl 0⟩) (fun r_1 _ H locs hw hH => ?_)
  have hH : kH (dC, dI) cl A s.heap H locs (wX53 ci ad d 0 f_rows f_things f_heads f_values f_uppers f_chosen f_seen f_fresh f_has f_but f_kept) := hH
  refine lv_if_eq (tgt := 19) hx hb dX53_choose_9 (by decide) (fun c_2 => ?_) (fun c_2 => ?_)
  · have hw := hw.1 c_2
    refine lv_iconst (v := (-1)) hx hb dX53_choose_19 (by decide) ?_
    exact k_iret (v := (-1)) X hH (0, f_chosen, f_fresh, f_has, f_but, f_kept) hw rfl rfl dX53_choose_20
  · have hw := hw.2 c_2
    refine lv_iload_n hx hb dX53_choose_12 rfl (lv_at hl 2 rfl) ?_
    refine k_i0 hH (k_runS (As := [.int x2]) (rest := []) X hH.1 hH.2.1 X.2.2.2 (walkX53_isValue hc hw) (va_cwS 1 X.1.2.2.2.2 gX53_52 rfl rfl rfl hX53_isValue ⟨Nat.le_of_ble_eq_true rfl, Nat.le_of_ble_eq_true rfl⟩) rfl hl.1 rfl (Nat.le_of_ble_eq_true rfl) dX53_choose_13 ⟨Nat.le_refl 0, Nat.le_refl 0⟩) (fun r_3 _ H locs hw hH => ?_)
    have hH : kH (dC, dI) cl A s.heap H locs (wX53 ci ad d 0 f_rows f_things f_heads f_values f_uppers f_chosen f_seen f_fresh f_has f_but f_kept) := hH
    refine lv_if_ne (tgt := 21) hx hb dX53_choose_16 (by decide) (fun c_4 => ?_) (fun c_4 => ?_)
    · have hw := hw.2 c_4
      refine lv_aload_n hx hb dX53_choose_21 rfl (lv_at hl 0 rfl) ?_
      refine k_get X hH in_X53 0 rfl hc 6 (by decide) q6463 rfl dX53_choose_22 ?_
      refine lv_bipush (v := 32) hx hb dX53_choose_25 (by decide) ?_
      refine lv_iload_n hx hb dX53_choose_27 rfl (lv_at hl 1 rfl) ?_
      refine lv_imul hx hb dX53_choose_28 ?_
      refine lv_iload_n hx hb dX53_choose_29 rfl (lv_at hl 2 rfl) ?_
      refine lv_iadd hx hb dX53_choose_30 ?_
      refine lv_iload_n hx hb dX53_choose_31 rfl (lv_at hl 3 rfl) ?_
      obtain ⟨f_chosen_5, ef_chosen_5⟩ : ∃ y : Nat → Int32, y = upd f_chosen ((32 * x1) + x2).toNatClampNeg (vp_nar .boolean x3) := ⟨_, rfl⟩
      refine k_zast X hH 5 4 rfl rfl hw.1 dX53_choose_32 ef_chosen_5 (ws1 := (wX53 ci ad d 0 f_rows f_things f_heads f_values f_uppers f_chosen_5 f_seen f_fresh f_has f_but f_kept)) rfl (fun H locs hH => ?_)
      have hw := hw.2 f_chosen_5 ef_chosen_5
      refine lv_aload_n hx hb dX53_choose_33 rfl (lv_at hl 0 rfl) ?_
      refine lv_iconst (v := 0) hx hb dX53_choose_34 (by decide) ?_
      refine k_put X hH in_X53 tyX53_ok nmX53 0 rfl hc 8 (by decide) q6465 rfl (ty := .boolean) rfl rfl rfl (Nat.le_of_ble_eq_true rfl) dX53_choose_35 (ws1 := (wX53 ci ad d 0 f_rows f_things f_heads f_values f_uppers f_chosen_5 f_seen 0 f_has f_but f_kept)) rfl (fun H locs hH => ?_)
      refine lv_aload_n hx hb dX53_choose_38 rfl (lv_at hl 0 rfl) ?_
      refine k_i0 hH (k_runV (As := []) (rest := []) X hH.1 hH.2.1 X.2.2.2 (walkX53_countKept hc hw) (cwV 0 X.1.2.2.2.2 gX53_63 rfl rfl rfl hX53_countKept ⟨Nat.le_of_ble_eq_true rfl, Nat.le_of_ble_eq_true rfl⟩) hc (q0 := 0) rfl rfl hl.1 rfl (Nat.le_of_ble_eq_true rfl) dX53_choose_39 ⟨Nat.le_refl 0, Nat.le_refl 0⟩) (fun r_6 u H locs hw hH => ?_)
      obtain ⟨f_fresh_7, f_has_8, f_but_9, f_kept_10⟩ := u
      have hH : kH (dC, dI) cl A s.heap H locs (wX53 ci ad d 0 f_rows f_things f_heads f_values f_uppers f_chosen_5 f_seen f_fresh_7 f_has_8 f_but_9 f_kept_10) := hH
      exact k_iret (v := r_6) X hH (0, f_chosen_5, f_fresh_7, f_has_8, f_but_9, f_kept_10) hw rfl rfl dX53_choose_42
    · have hw := hw.1 c_4
      refine lv_iconst (v := (-1)) hx hb dX53_choose_19 (by decide) ?_
      exact k_iret (v := (-1)) X hH (0, f_chosen, f_fresh, f_has, f_but, f_kept) hw rfl rfl dX53_choose_20
set_option maxHeartbeats 4000000 in
theorem walkX53_isKept {l : Launch} {dC : Nat → ClassId} {dI : Nat → Nat → Nat} {cl : List vw_C} {ci : Nat} (hc : cl[ci]? = some (RX53, TX53, 12)) {ad : Nat → Nat} {d : Nat → ClassId} {sz : Nat} {f_thrown : Int32} {f_rows : Int32} {f_things : Nat → Int32} {f_heads : Nat → Int32} {f_values : Nat → Int32} {f_uppers : Nat → Int32} {f_chosen : Nat → Int32} {f_seen : Nat → Int32} {f_fresh : Int32} {f_has : Nat → Int32} {f_but : Nat → Int32} {f_kept : Nat → Int32} {x1 : Int32} {post : Int32 → Int32 → Int32 → (Nat → Int32) → (Nat → Int32) → (Nat → Int32) → Prop} (hw : wpX53_isKept post f_rows f_things f_heads f_values f_uppers f_chosen f_fresh f_has f_but f_kept x1) :
    Met l yX53_isKept (ws_ yX53_isKept cX53_isKept 2 (some .int)) ({ frames := 3, cells := 0, slots := 0, locals := 71 } : Room) (kPc (dC, dI) cl (tX53 d) [.ref (ad 0), .int x1] sz (wX53 ci ad d f_thrown f_rows f_things f_heads f_values f_uppers f_chosen f_seen f_fresh f_has f_but f_kept)) (va_Qi (fun (r : Int32) (u : Int32 × Int32 × (Nat → Int32) × (Nat → Int32) × (Nat → Int32)) => post r (u.1) (u.2.1) (u.2.2.1) (u.2.2.2.1) (u.2.2.2.2)) (kB (dC, dI) cl (tX53 d) (va_A (wX53 ci ad d f_thrown f_rows f_things f_heads f_values f_uppers f_chosen f_seen f_fresh f_has f_but f_kept) sz) (fun u : Int32 × Int32 × (Nat → Int32) × (Nat → Int32) × (Nat → Int32) => (wX53 ci ad d (u.1) f_rows f_things f_heads f_values f_uppers f_chosen f_seen (u.2.1) (u.2.2.1) (u.2.2.2.1) (u.2.2.2.2)))) (va_A (wX53 ci ad d f_thrown f_rows f_things f_heads f_values f_uppers f_chosen f_seen f_fresh f_has f_but f_kept) sz)) 0 0 (va_A (wX53 ci ad d f_thrown f_rows f_things f_heads f_values f_uppers f_chosen f_seen f_fresh f_has f_but f_kept) sz) := by
  refine k_enter (by decide) (Nat.le_of_ble_eq_true rfl) ?_
  intro p e s m below meth c ls X hsz hH hl
  subst hsz
  generalize va_A (wX53 ci ad d f_thrown f_rows f_things f_heads f_values f_uppers f_chosen f_seen f_fresh f_has f_but f_kept) s.heap.size = A at hH ⊢
  have hx := X.1.1
  have hb := X.1.2.1
  have hl : lv_has ls 2 [(0, .ref (ad 0)), (1, .int x1)] := hl
  unfold wpX53_isKept at hw
  refine lv_aload_n hx hb dX53_isKept_0 rfl (lv_at hl 0 rfl) ?_
  refine lv_iconst (v := 0) hx hb dX53_isKept_1 (by decide) ?_
  refine k_put X hH in_X53 tyX53_ok nmX53 0 rfl hc 0 (by decide) q6457 rfl (ty := .int) rfl rfl rfl (Nat.le_of_ble_eq_true rfl) dX53_isKept_2 (ws1 := (wX53 ci ad d 0 f_rows f_things f_heads f_values f_uppers f_chosen f_seen f_fresh f_has f_but f_kept)) rfl (fun H locs hH => ?_)
  refine lv_aload_n hx hb dX53_isKept_5 rfl (lv_at hl 0 rfl) ?_
  refine k_v0 hH (k_runV (As := []) (rest := []) X hH.1 hH.2.1 X.2.2.2 (walkX53_reckon hc hw) (cwV 0 X.1.2.2.2.2 gX53_74 rfl rfl rfl hX53_reckon ⟨Nat.le_of_ble_eq_true rfl, Nat.le_of_ble_eq_true rfl⟩) hc (q0 := 0) rfl rfl hl.1 rfl (Nat.le_of_ble_eq_true rfl) dX53_isKept_6 ⟨Nat.le_refl 0, Nat.le_refl 0⟩) (fun u H locs hw hH => ?_)
  obtain ⟨f_fresh_1, f_has_2, f_but_3, f_kept_4⟩ := u
  have hH : kH (dC, dI) cl A s.heap H locs (wX53 ci ad d 0 f_rows f_things f_heads f_values f_uppers f_chosen f_seen f_fresh_1 f_has_2 f_but_3 f_kept_4) := hH
  refine lv_iload_n hx hb dX53_isKept_9 rfl (lv_at hl 1 rfl) ?_
  refine k_i0 hH (k_runS (As := [.int x1]) (rest := []) X hH.1 hH.2.1 X.2.2.2 (walkX53_isThing hc hw) (va_cwS 1 X.1.2.2.2.2 gX53_45 rfl rfl rfl hX53_isThing ⟨Nat.le_of_ble_eq_true rfl, Nat.le_of_ble_eq_true rfl⟩) rfl hl.1 rfl (Nat.le_of_ble_eq_true rfl) dX53_isKept_10 ⟨Nat.le_refl 0, Nat.le_refl 0⟩) (fun r_5 _ H locs hw hH => ?_)
  have hH : kH (dC, dI) cl A s.heap H locs (wX53 ci ad d 0 f_rows f_things f_heads f_values f_uppers f_chosen f_seen f_fresh_1 f_has_2 f_but_3 f_kept_4) := hH
  refine lv_if_ne (tgt := 20) hx hb dX53_isKept_13 (by decide) (fun c_6 => ?_) (fun c_6 => ?_)
  · have hw := hw.2 c_6
    refine lv_aload_n hx hb dX53_isKept_20 rfl (lv_at hl 0 rfl) ?_
    refine k_get X hH in_X53 0 rfl hc 11 (by decide) q6468 rfl dX53_isKept_21 ?_
    refine lv_iload_n hx hb dX53_isKept_24 rfl (lv_at hl 1 rfl) ?_
    refine k_zald X hH 9 8 rfl rfl hw.1 dX53_isKept_25 ?_
    have hw := hw.2
    refine lv_if_eq (tgt := 33) hx hb dX53_isKept_26 (by decide) (fun c_7 => ?_) (fun c_7 => ?_)
    · have hw := hw.1 c_7
      refine lv_iconst (v := 0) hx hb dX53_isKept_33 (by decide) ?_
      exact k_iret (v := 0) X hH (0, f_fresh_1, f_has_2, f_but_3, f_kept_4) hw rfl rfl dX53_isKept_34
    · have hw := hw.2 c_7
      refine lv_iconst (v := 1) hx hb dX53_isKept_29 (by decide) ?_
      refine lv_goto (tgt := 34) hx hb dX53_isKept_30 (by decide) ?_
      exact k_iret (v := 1) X hH (0, f_fresh_1, f_has_2, f_but_3, f_kept_4) hw rfl rfl dX53_isKept_34
  · have hw := hw.1 c_6
    refine lv_iconst (v := (-1)) hx hb dX53_isKept_16 (by decide) ?_
    refine lv_goto (tgt := 34) hx hb dX53_isKept_17 (by decide) ?_
    exact k_iret (v := (-1)) X hH (0, f_fresh_1, f_has_2, f_but_3, f_kept_4) hw rfl rfl dX53_isKept_34
set_option maxHeartbeats 4000000 in
theorem atX53_countOf_5 {p : Program} {l : Launch} {e : Env} {s : State} {m : MethodId} {args : Array Value} {below : List Frame} {meth : Method} {c : Code} {dC : Nat → ClassId} {dI : Nat → Nat → Nat} {cl : List vw_C} {ci : Nat} (hc : cl[ci]? = some (RX53, TX53, 12)) {ad : Nat → Nat} {d : Nat → ClassId} {A : Nat → Prop} {post : Int32 → Prop} {f_thrown : Int32} {f_rows : Int32} {f_things : Nat → Int32} {f_heads : Nat → Int32} {f_values : Nat → Int32} {f_uppers : Nat → Int32} {f_chosen : Nat → Int32} {f_seen : Nat → Int32} {f_fresh : Int32} {f_has : Nat → Int32} {f_but : Nat → Int32} {f_kept : Nat → Int32} (X : kX p s m args meth c cX53_countOf 5 RX53 (some .int) (dC, dI) cl (tX53 d)) {K56 : Int32 → Prop} {x1 : Int32} {x2 : Int32}  (hk56 : ∀ (x3 : Int32), K56 x3 → ∀ (H : Heap) (locs : List Loc) (ls : Array Slot), kH (dC, dI) cl A s.heap H locs (wX53 ci ad d f_thrown f_rows f_things f_heads f_values f_uppers f_chosen f_seen f_fresh f_has f_but f_kept) → lv_has ls 5 [(3, .int x3)] → W p l e ({ frames := 1, cells := 0, slots := 0, locals := 22 } : Room) s m args below meth c H locs 0 0 (MQ below (va_Qi (fun (r : Int32) (_ : Unit) => post r) (kB (dC, dI) cl (tX53 d) A (fun _ : Unit => (wX53 ci ad d f_thrown f_rows f_things f_heads f_values f_uppers f_chosen f_seen f_fresh f_has f_but f_kept))) A) args s 0 0 A) (F0 m 56 ls [])) :
    ∀ (nn : Nat) (x3 : Int32) (x4 : Int32), wX53_countOf_5 K56 x1 x2 f_has f_but nn x3 x4 → ∀ (H : Heap) (locs : List Loc) (ls : Array Slot), kH (dC, dI) cl A s.heap H locs (wX53 ci ad d f_thrown f_rows f_things f_heads f_values f_uppers f_chosen f_seen f_fresh f_has f_but f_kept) → lv_has ls 5 [(0, .ref (ad 0)), (1, .int x1), (2, .int x2), (3, .int x3), (4, .int x4)] → W p l e ({ frames := 1, cells := 0, slots := 0, locals := 22 } : Room) s m args below meth c H locs 0 0 (MQ below (va_Qi (fun (r : Int32) (_ : Unit) => post r) (kB (dC, dI) cl (tX53 d) A (fun _ : Unit => (wX53 ci ad d f_thrown f_rows f_things f_heads f_values f_uppers f_chosen f_seen f_fresh f_has f_but f_kept))) A) args s 0 0 A) (F0 m 5 ls []) := by
  have hx := X.1.1
  have hb := X.1.2.1
  intro nn
  induction nn with
  | zero =>
    intro x3 x4 hw
    exact False.elim hw
  | succ n ih =>
    intro x3 x4 hw H locs ls hH hl
    rw [wX53_countOf_5] at hw
    refine lv_iload hx hb dX53_countOf_5 (lv_at hl 4 rfl) ?_
    refine lv_bipush (v := 40) hx hb dX53_countOf_7 (by decide) ?_
    refine lv_icmp_ge (tgt := 56) hx hb dX53_countOf_9 (by decide) (fun c_1 => ?_) (fun c_1 => ?_)
    · have hw := hw.1 c_1
      exact hk56 x3 hw _ _ ls hH (lv_sub hl [3] rfl)
    · have hw := hw.2 c_1
      refine lv_iload_n hx hb dX53_countOf_12 rfl (lv_at hl 3 rfl) ?_
      refine lv_aload_n hx hb dX53_countOf_13 rfl (lv_at hl 0 rfl) ?_
      refine k_get X hH in_X53 0 rfl hc 10 (by decide) q6467 rfl dX53_countOf_14 ?_
      refine lv_bipush (v := 8) hx hb dX53_countOf_17 (by decide) ?_
      refine lv_iload hx hb dX53_countOf_19 (lv_at hl 4 rfl) ?_
      refine lv_imul hx hb dX53_countOf_21 ?_
      refine lv_iload_n hx hb dX53_countOf_22 rfl (lv_at hl 1 rfl) ?_
      refine lv_iadd hx hb dX53_countOf_23 ?_
      refine k_zald X hH 8 7 rfl rfl hw.1 dX53_countOf_24 ?_
      have hw := hw.2
      refine lv_if_eq (tgt := 47) hx hb dX53_countOf_25 (by decide) (fun c_2 => ?_) (fun c_2 => ?_)
      · have hw := hw.1 c_2
        refine lv_iconst (v := 0) hx hb dX53_countOf_47 (by decide) ?_
        refine lv_iadd hx hb dX53_countOf_48 ?_
        refine lv_topi (fun x3_3 ex3_3 => ?_)
        have hw := hw x3_3 ex3_3
        refine lv_istore_n (lv' := [(3, .int x3_3), (0, .ref (ad 0)), (1, .int x1), (2, .int x2), (4, .int x4)]) hx hb dX53_countOf_49 rfl hl (by decide) rfl (fun ls hl => ?_)
        obtain ⟨x4_4, ex4_4⟩ : ∃ y : Int32, y = x4 + 1 := ⟨_, rfl⟩
        have hw := hw x4_4 ex4_4
        refine lv_iinc (v := x4_4) (lv' := [(4, .int x4_4), (3, .int x3_3), (0, .ref (ad 0)), (1, .int x1), (2, .int x2)]) hx hb dX53_countOf_50 hl (k := 4) rfl (by rw [ex4_4]; rfl) (by decide) rfl (fun ls hl => ?_)
        refine lv_goto (tgt := 5) hx hb dX53_countOf_53 (by decide) ?_
        exact ih x3_3 x4_4 hw _ _ ls hH (lv_sub hl [2, 3, 4, 1, 0] rfl)
      · have hw := hw.2 c_2
        refine lv_aload_n hx hb dX53_countOf_28 rfl (lv_at hl 0 rfl) ?_
        refine k_get X hH in_X53 0 rfl hc 9 (by decide) q6466 rfl dX53_countOf_29 ?_
        refine lv_iload hx hb dX53_countOf_32 (lv_at hl 4 rfl) ?_
        refine lv_iload_n hx hb dX53_countOf_34 rfl (lv_at hl 1 rfl) ?_
        refine lv_iload_n hx hb dX53_countOf_35 rfl (lv_at hl 2 rfl) ?_
        refine k_i0 hH (k_runS (As := [.int x4, .int x1, .int x2]) (rest := [.ref (ad 7), .int x3]) X hH.1 hH.2.1 X.2.2.2 (walkX53_place hc hw) (va_cwS 3 X.1.2.2.2.2 gX53_67 rfl rfl rfl hX53_place ⟨Nat.le_of_ble_eq_true rfl, Nat.le_of_ble_eq_true rfl⟩) rfl hl.1 rfl (Nat.le_of_ble_eq_true rfl) dX53_countOf_36 ⟨Nat.le_refl 0, Nat.le_refl 0⟩) (fun r_5 _ H locs hw hH => ?_)
        have hH : kH (dC, dI) cl A s.heap H locs (wX53 ci ad d f_thrown f_rows f_things f_heads f_values f_uppers f_chosen f_seen f_fresh f_has f_but f_kept) := hH
        refine k_zald X hH 7 6 rfl rfl hw.1 dX53_countOf_39 ?_
        have hw := hw.2
        refine lv_if_eq (tgt := 47) hx hb dX53_countOf_40 (by decide) (fun c_6 => ?_) (fun c_6 => ?_)
        · have hw := hw.1 c_6
          refine lv_iconst (v := 0) hx hb dX53_countOf_47 (by decide) ?_
          refine lv_iadd hx hb dX53_countOf_48 ?_
          refine lv_topi (fun x3_7 ex3_7 => ?_)
          have hw := hw x3_7 ex3_7
          refine lv_istore_n (lv' := [(3, .int x3_7), (0, .ref (ad 0)), (1, .int x1), (2, .int x2), (4, .int x4)]) hx hb dX53_countOf_49 rfl hl (by decide) rfl (fun ls hl => ?_)
          obtain ⟨x4_8, ex4_8⟩ : ∃ y : Int32, y = x4 + 1 := ⟨_, rfl⟩
          have hw := hw x4_8 ex4_8
          refine lv_iinc (v := x4_8) (lv' := [(4, .int x4_8), (3, .int x3_7), (0, .ref (ad 0)), (1, .int x1), (2, .int x2)]) hx hb dX53_countOf_50 hl (k := 4) rfl (by rw [ex4_8]; rfl) (by decide) rfl (fun ls hl => ?_)
          refine lv_goto (tgt := 5) hx hb dX53_countOf_53 (by decide) ?_
          exact ih x3_7 x4_8 hw _ _ ls hH (lv_sub hl [2, 3, 4, 1, 0] rfl)
        · have hw := hw.2 c_6
          refine lv_iconst (v := 1) hx hb dX53_countOf_43 (by decide) ?_
          refine lv_goto (tgt := 48) hx hb dX53_countOf_44 (by decide) ?_
          refine lv_iadd hx hb dX53_countOf_48 ?_
          refine lv_topi (fun x3_9 ex3_9 => ?_)
          have hw := hw x3_9 ex3_9
          refine lv_istore_n (lv' := [(3, .int x3_9), (0, .ref (ad 0)), (1, .int x1), (2, .int x2), (4, .int x4)]) hx hb dX53_countOf_49 rfl hl (by decide) rfl (fun ls hl => ?_)
          obtain ⟨x4_10, ex4_10⟩ : ∃ y : Int32, y = x4 + 1 := ⟨_, rfl⟩
          have hw := hw x4_10 ex4_10
          refine lv_iinc (v := x4_10) (lv' := [(4, .int x4_10), (3, .int x3_9), (0, .ref (ad 0)), (1, .int x1), (2, .int x2)]) hx hb dX53_countOf_50 hl (k := 4) rfl (by rw [ex4_10]; rfl) (by decide) rfl (fun ls hl => ?_)
          refine lv_goto (tgt := 5) hx hb dX53_countOf_53 (by decide) ?_
          exact ih x3_9 x4_10 hw _ _ ls hH (lv_sub hl [2, 3, 4, 1, 0] rfl)
set_option maxHeartbeats 4000000 in
theorem walkX53_countOf {l : Launch} {dC : Nat → ClassId} {dI : Nat → Nat → Nat} {cl : List vw_C} {ci : Nat} (hc : cl[ci]? = some (RX53, TX53, 12)) {ad : Nat → Nat} {d : Nat → ClassId} {sz : Nat} {f_thrown : Int32} {f_rows : Int32} {f_things : Nat → Int32} {f_heads : Nat → Int32} {f_values : Nat → Int32} {f_uppers : Nat → Int32} {f_chosen : Nat → Int32} {f_seen : Nat → Int32} {f_fresh : Int32} {f_has : Nat → Int32} {f_but : Nat → Int32} {f_kept : Nat → Int32} {x1 : Int32} {x2 : Int32} {post : Int32 → Prop} (hw : wpX53_countOf post f_has f_but x1 x2) :
    Met l yX53_countOf (ws_ yX53_countOf cX53_countOf 5 (some .int)) ({ frames := 1, cells := 0, slots := 0, locals := 22 } : Room) (kPc (dC, dI) cl (tX53 d) [.ref (ad 0), .int x1, .int x2] sz (wX53 ci ad d f_thrown f_rows f_things f_heads f_values f_uppers f_chosen f_seen f_fresh f_has f_but f_kept)) (va_Qi (fun (r : Int32) (_ : Unit) => post r) (kB (dC, dI) cl (tX53 d) (va_A (wX53 ci ad d f_thrown f_rows f_things f_heads f_values f_uppers f_chosen f_seen f_fresh f_has f_but f_kept) sz) (fun _ : Unit => (wX53 ci ad d f_thrown f_rows f_things f_heads f_values f_uppers f_chosen f_seen f_fresh f_has f_but f_kept))) (va_A (wX53 ci ad d f_thrown f_rows f_things f_heads f_values f_uppers f_chosen f_seen f_fresh f_has f_but f_kept) sz)) 0 0 (va_A (wX53 ci ad d f_thrown f_rows f_things f_heads f_values f_uppers f_chosen f_seen f_fresh f_has f_but f_kept) sz) := by
  refine k_enter (by decide) (Nat.le_of_ble_eq_true rfl) ?_
  intro p e s m below meth c ls X hsz hH hl
  subst hsz
  generalize va_A (wX53 ci ad d f_thrown f_rows f_things f_heads f_values f_uppers f_chosen f_seen f_fresh f_has f_but f_kept) s.heap.size = A at hH ⊢
  have hx := X.1.1
  have hb := X.1.2.1
  have hl : lv_has ls 5 [(0, .ref (ad 0)), (1, .int x1), (2, .int x2)] := hl
  unfold wpX53_countOf at hw
  refine lv_iconst (v := 0) hx hb dX53_countOf_0 (by decide) ?_
  refine lv_istore_n (lv' := [(3, .int 0), (0, .ref (ad 0)), (1, .int x1), (2, .int x2)]) hx hb dX53_countOf_1 rfl hl (by decide) rfl (fun ls hl => ?_)
  refine lv_iconst (v := 0) hx hb dX53_countOf_2 (by decide) ?_
  refine lv_istore (lv' := [(4, .int 0), (3, .int 0), (0, .ref (ad 0)), (1, .int x1), (2, .int x2)]) hx hb dX53_countOf_3 hl (by decide) rfl (fun ls hl => ?_)
  obtain ⟨fu, hw⟩ := hw
  refine atX53_countOf_5 hc X ?_ fu 0 0 hw _ _ ls hH (lv_sub hl [2, 3, 4, 1, 0] rfl)
  · intro x3_11 hw H locs ls hH hl
    refine lv_iload_n hx hb dX53_countOf_56 rfl (lv_at hl 0 rfl) ?_
    exact k_iret (v := x3_11) X hH () hw rfl rfl dX53_countOf_57
set_option maxHeartbeats 4000000 in
theorem walkX53_facet {l : Launch} {dC : Nat → ClassId} {dI : Nat → Nat → Nat} {cl : List vw_C} {ci : Nat} (hc : cl[ci]? = some (RX53, TX53, 12)) {ad : Nat → Nat} {d : Nat → ClassId} {sz : Nat} {f_thrown : Int32} {f_rows : Int32} {f_things : Nat → Int32} {f_heads : Nat → Int32} {f_values : Nat → Int32} {f_uppers : Nat → Int32} {f_chosen : Nat → Int32} {f_seen : Nat → Int32} {f_fresh : Int32} {f_has : Nat → Int32} {f_but : Nat → Int32} {f_kept : Nat → Int32} {x1 : Int32} {x2 : Int32} {post : Int32 → Int32 → Int32 → (Nat → Int32) → (Nat → Int32) → (Nat → Int32) → Prop} (hw : wpX53_facet post f_rows f_things f_heads f_values f_uppers f_chosen f_fresh f_has f_but f_kept x1 x2) :
    Met l yX53_facet (ws_ yX53_facet cX53_facet 3 (some .int)) ({ frames := 3, cells := 0, slots := 0, locals := 71 } : Room) (kPc (dC, dI) cl (tX53 d) [.ref (ad 0), .int x1, .int x2] sz (wX53 ci ad d f_thrown f_rows f_things f_heads f_values f_uppers f_chosen f_seen f_fresh f_has f_but f_kept)) (va_Qi (fun (r : Int32) (u : Int32 × Int32 × (Nat → Int32) × (Nat → Int32) × (Nat → Int32)) => post r (u.1) (u.2.1) (u.2.2.1) (u.2.2.2.1) (u.2.2.2.2)) (kB (dC, dI) cl (tX53 d) (va_A (wX53 ci ad d f_thrown f_rows f_things f_heads f_values f_uppers f_chosen f_seen f_fresh f_has f_but f_kept) sz) (fun u : Int32 × Int32 × (Nat → Int32) × (Nat → Int32) × (Nat → Int32) => (wX53 ci ad d (u.1) f_rows f_things f_heads f_values f_uppers f_chosen f_seen (u.2.1) (u.2.2.1) (u.2.2.2.1) (u.2.2.2.2)))) (va_A (wX53 ci ad d f_thrown f_rows f_things f_heads f_values f_uppers f_chosen f_seen f_fresh f_has f_but f_kept) sz)) 0 0 (va_A (wX53 ci ad d f_thrown f_rows f_things f_heads f_values f_uppers f_chosen f_seen f_fresh f_has f_but f_kept) sz) := by
  refine k_enter (by decide) (Nat.le_of_ble_eq_true rfl) ?_
  intro p e s m below meth c ls X hsz hH hl
  subst hsz
  generalize va_A (wX53 ci ad d f_thrown f_rows f_things f_heads f_values f_uppers f_chosen f_seen f_fresh f_has f_but f_kept) s.heap.size = A at hH ⊢
  have hx := X.1.1
  have hb := X.1.2.1
  have hl : lv_has ls 3 [(0, .ref (ad 0)), (1, .int x1), (2, .int x2)] := hl
  unfold wpX53_facet at hw
  refine lv_aload_n hx hb dX53_facet_0 rfl (lv_at hl 0 rfl) ?_
  refine lv_iconst (v := 0) hx hb dX53_facet_1 (by decide) ?_
  refine k_put X hH in_X53 tyX53_ok nmX53 0 rfl hc 0 (by decide) q6457 rfl (ty := .int) rfl rfl rfl (Nat.le_of_ble_eq_true rfl) dX53_facet_2 (ws1 := (wX53 ci ad d 0 f_rows f_things f_heads f_values f_uppers f_chosen f_seen f_fresh f_has f_but f_kept)) rfl (fun H locs hH => ?_)
  refine lv_aload_n hx hb dX53_facet_5 rfl (lv_at hl 0 rfl) ?_
  refine k_v0 hH (k_runV (As := []) (rest := []) X hH.1 hH.2.1 X.2.2.2 (walkX53_reckon hc hw) (cwV 0 X.1.2.2.2.2 gX53_74 rfl rfl rfl hX53_reckon ⟨Nat.le_of_ble_eq_true rfl, Nat.le_of_ble_eq_true rfl⟩) hc (q0 := 0) rfl rfl hl.1 rfl (Nat.le_of_ble_eq_true rfl) dX53_facet_6 ⟨Nat.le_refl 0, Nat.le_refl 0⟩) (fun u H locs hw hH => ?_)
  obtain ⟨f_fresh_1, f_has_2, f_but_3, f_kept_4⟩ := u
  have hH : kH (dC, dI) cl A s.heap H locs (wX53 ci ad d 0 f_rows f_things f_heads f_values f_uppers f_chosen f_seen f_fresh_1 f_has_2 f_but_3 f_kept_4) := hH
  refine lv_iload_n hx hb dX53_facet_9 rfl (lv_at hl 1 rfl) ?_
  refine k_i0 hH (k_runS (As := [.int x1]) (rest := []) X hH.1 hH.2.1 X.2.2.2 (walkX53_isHead hc hw) (va_cwS 1 X.1.2.2.2.2 gX53_49 rfl rfl rfl hX53_isHead ⟨Nat.le_of_ble_eq_true rfl, Nat.le_of_ble_eq_true rfl⟩) rfl hl.1 rfl (Nat.le_of_ble_eq_true rfl) dX53_facet_10 ⟨Nat.le_refl 0, Nat.le_refl 0⟩) (fun r_5 _ H locs hw hH => ?_)
  have hH : kH (dC, dI) cl A s.heap H locs (wX53 ci ad d 0 f_rows f_things f_heads f_values f_uppers f_chosen f_seen f_fresh_1 f_has_2 f_but_3 f_kept_4) := hH
  refine lv_if_eq (tgt := 32) hx hb dX53_facet_13 (by decide) (fun c_6 => ?_) (fun c_6 => ?_)
  · have hw := hw.1 c_6
    refine lv_iconst (v := (-1)) hx hb dX53_facet_32 (by decide) ?_
    exact k_iret (v := (-1)) X hH (0, f_fresh_1, f_has_2, f_but_3, f_kept_4) hw rfl rfl dX53_facet_33
  · have hw := hw.2 c_6
    refine lv_iload_n hx hb dX53_facet_16 rfl (lv_at hl 2 rfl) ?_
    refine k_i0 hH (k_runS (As := [.int x2]) (rest := []) X hH.1 hH.2.1 X.2.2.2 (walkX53_isValue hc hw) (va_cwS 1 X.1.2.2.2.2 gX53_52 rfl rfl rfl hX53_isValue ⟨Nat.le_of_ble_eq_true rfl, Nat.le_of_ble_eq_true rfl⟩) rfl hl.1 rfl (Nat.le_of_ble_eq_true rfl) dX53_facet_17 ⟨Nat.le_refl 0, Nat.le_refl 0⟩) (fun r_7 _ H locs hw hH => ?_)
    have hH : kH (dC, dI) cl A s.heap H locs (wX53 ci ad d 0 f_rows f_things f_heads f_values f_uppers f_chosen f_seen f_fresh_1 f_has_2 f_but_3 f_kept_4) := hH
    refine lv_if_eq (tgt := 32) hx hb dX53_facet_20 (by decide) (fun c_8 => ?_) (fun c_8 => ?_)
    · have hw := hw.1 c_8
      refine lv_iconst (v := (-1)) hx hb dX53_facet_32 (by decide) ?_
      exact k_iret (v := (-1)) X hH (0, f_fresh_1, f_has_2, f_but_3, f_kept_4) hw rfl rfl dX53_facet_33
    · have hw := hw.2 c_8
      refine lv_aload_n hx hb dX53_facet_23 rfl (lv_at hl 0 rfl) ?_
      refine lv_iload_n hx hb dX53_facet_24 rfl (lv_at hl 1 rfl) ?_
      refine lv_iload_n hx hb dX53_facet_25 rfl (lv_at hl 2 rfl) ?_
      refine k_i0 hH (k_runV (As := [.int x1, .int x2]) (rest := []) X hH.1 hH.2.1 X.2.2.2 (walkX53_countOf hc hw) (cwV 2 X.1.2.2.2.2 gX53_77 rfl rfl rfl hX53_countOf ⟨Nat.le_of_ble_eq_true rfl, Nat.le_of_ble_eq_true rfl⟩) hc (q0 := 0) rfl rfl hl.1 rfl (Nat.le_of_ble_eq_true rfl) dX53_facet_26 ⟨Nat.le_refl 0, Nat.le_refl 0⟩) (fun r_9 _ H locs hw hH => ?_)
      have hH : kH (dC, dI) cl A s.heap H locs (wX53 ci ad d 0 f_rows f_things f_heads f_values f_uppers f_chosen f_seen f_fresh_1 f_has_2 f_but_3 f_kept_4) := hH
      refine lv_goto (tgt := 33) hx hb dX53_facet_29 (by decide) ?_
      exact k_iret (v := r_9) X hH (0, f_fresh_1, f_has_2, f_but_3, f_kept_4) hw rfl rfl dX53_facet_33
set_option maxHeartbeats 4000000 in
theorem atX53_rankOf_13 {p : Program} {l : Launch} {e : Env} {s : State} {m : MethodId} {args : Array Value} {below : List Frame} {meth : Method} {c : Code} {dC : Nat → ClassId} {dI : Nat → Nat → Nat} {cl : List vw_C} {ci : Nat} (hc : cl[ci]? = some (RX53, TX53, 12)) {ad : Nat → Nat} {d : Nat → ClassId} {A : Nat → Prop} {post : Int32 → Prop} {f_thrown : Int32} {f_rows : Int32} {f_things : Nat → Int32} {f_heads : Nat → Int32} {f_values : Nat → Int32} {f_uppers : Nat → Int32} {f_chosen : Nat → Int32} {f_seen : Nat → Int32} {f_fresh : Int32} {f_has : Nat → Int32} {f_but : Nat → Int32} {f_kept : Nat → Int32} (X : kX p s m args meth c cX53_rankOf 7 RX53 (some .int) (dC, dI) cl (tX53 d)) {K63 : Int32 → Prop} {x1 : Int32} {x2 : Int32} {x3 : Int32}  (hk63 : ∀ (x4 : Int32), K63 x4 → ∀ (H : Heap) (locs : List Loc) (ls : Array Slot), kH (dC, dI) cl A s.heap H locs (wX53 ci ad d f_thrown f_rows f_things f_heads f_values f_uppers f_chosen f_seen f_fresh f_has f_but f_kept) → lv_has ls 7 [(4, .int x4)] → W p l e ({ frames := 2, cells := 0, slots := 0, locals := 46 } : Room) s m args below meth c H locs 0 0 (MQ below (va_Qi (fun (r : Int32) (_ : Unit) => post r) (kB (dC, dI) cl (tX53 d) A (fun _ : Unit => (wX53 ci ad d f_thrown f_rows f_things f_heads f_values f_uppers f_chosen f_seen f_fresh f_has f_but f_kept))) A) args s 0 0 A) (F0 m 63 ls [])) :
    ∀ (nn : Nat) (x4 : Int32) (x5 : Int32), wX53_rankOf_13 K63 x1 x2 x3 f_has f_but nn x4 x5 → ∀ (H : Heap) (locs : List Loc) (ls : Array Slot), kH (dC, dI) cl A s.heap H locs (wX53 ci ad d f_thrown f_rows f_things f_heads f_values f_uppers f_chosen f_seen f_fresh f_has f_but f_kept) → lv_has ls 7 [(0, .ref (ad 0)), (1, .int x1), (2, .int x2), (3, .int x3), (4, .int x4), (5, .int x5)] → W p l e ({ frames := 2, cells := 0, slots := 0, locals := 46 } : Room) s m args below meth c H locs 0 0 (MQ below (va_Qi (fun (r : Int32) (_ : Unit) => post r) (kB (dC, dI) cl (tX53 d) A (fun _ : Unit => (wX53 ci ad d f_thrown f_rows f_things f_heads f_values f_uppers f_chosen f_seen f_fresh f_has f_but f_kept))) A) args s 0 0 A) (F0 m 13 ls []) := by
  have hx := X.1.1
  have hb := X.1.2.1
  intro nn
  induction nn with
  | zero =>
    intro x4 x5 hw
    exact False.elim hw
  | succ n ih =>
    intro x4 x5 hw H locs ls hH hl
    rw [wX53_rankOf_13] at hw
    refine lv_iload hx hb dX53_rankOf_13 (lv_at hl 5 rfl) ?_
    refine lv_bipush (v := 32) hx hb dX53_rankOf_15 (by decide) ?_
    refine lv_icmp_ge (tgt := 63) hx hb dX53_rankOf_17 (by decide) (fun c_2 => ?_) (fun c_2 => ?_)
    · have hw := hw.1 c_2
      exact hk63 x4 hw _ _ ls hH (lv_sub hl [4] rfl)
    · have hw := hw.2 c_2
      refine lv_aload_n hx hb dX53_rankOf_20 rfl (lv_at hl 0 rfl) ?_
      refine lv_iload_n hx hb dX53_rankOf_21 rfl (lv_at hl 1 rfl) ?_
      refine lv_iload hx hb dX53_rankOf_22 (lv_at hl 5 rfl) ?_
      refine k_i0 hH (k_runV (As := [.int x1, .int x5]) (rest := []) X hH.1 hH.2.1 X.2.2.2 (walkX53_countOf hc hw) (cwV 2 X.1.2.2.2.2 gX53_77 rfl rfl rfl hX53_countOf ⟨Nat.le_of_ble_eq_true rfl, Nat.le_of_ble_eq_true rfl⟩) hc (q0 := 0) rfl rfl hl.1 rfl (Nat.le_of_ble_eq_true rfl) dX53_rankOf_24 ⟨Nat.le_refl 0, Nat.le_refl 0⟩) (fun r_3 _ H locs hw hH => ?_)
      have hH : kH (dC, dI) cl A s.heap H locs (wX53 ci ad d f_thrown f_rows f_things f_heads f_values f_uppers f_chosen f_seen f_fresh f_has f_but f_kept) := hH
      refine lv_istore (lv' := [(6, .int r_3), (0, .ref (ad 0)), (1, .int x1), (2, .int x2), (3, .int x3), (4, .int x4), (5, .int x5)]) hx hb dX53_rankOf_27 hl (by decide) rfl (fun ls hl => ?_)
      refine lv_iload hx hb dX53_rankOf_29 (lv_at hl 5 rfl) ?_
      refine lv_iload hx hb dX53_rankOf_31 (lv_at hl 0 rfl) ?_
      refine lv_iload_n hx hb dX53_rankOf_33 rfl (lv_at hl 4 rfl) ?_
      refine lv_icmp_gt (tgt := 49) hx hb dX53_rankOf_34 (by decide) (fun c_4 => ?_) (fun c_4 => ?_)
      · have hw := hw.1 c_4
        refine lv_iconst (v := 1) hx hb dX53_rankOf_49 (by decide) ?_
        refine lv_goto (tgt := 54) hx hb dX53_rankOf_50 (by decide) ?_
        refine lv_iadd hx hb dX53_rankOf_54 ?_
        refine lv_topi (fun x4_5 ex4_5 => ?_)
        have hw := hw x4_5 ex4_5
        refine lv_istore (lv' := [(4, .int x4_5), (6, .int r_3), (0, .ref (ad 0)), (1, .int x1), (2, .int x2), (3, .int x3), (5, .int x5)]) hx hb dX53_rankOf_55 hl (by decide) rfl (fun ls hl => ?_)
        obtain ⟨x5_6, ex5_6⟩ : ∃ y : Int32, y = x5 + 1 := ⟨_, rfl⟩
        have hw := hw x5_6 ex5_6
        refine lv_iinc (v := x5_6) (lv' := [(5, .int x5_6), (4, .int x4_5), (6, .int r_3), (0, .ref (ad 0)), (1, .int x1), (2, .int x2), (3, .int x3)]) hx hb dX53_rankOf_57 hl (k := 6) rfl (by rw [ex5_6]; rfl) (by decide) rfl (fun ls hl => ?_)
        refine lv_goto (tgt := 13) hx hb dX53_rankOf_60 (by decide) ?_
        exact ih x4_5 x5_6 hw _ _ ls hH (lv_sub hl [3, 4, 5, 6, 1, 0] rfl)
      · have hw := hw.2 c_4
        refine lv_iload hx hb dX53_rankOf_37 (lv_at hl 0 rfl) ?_
        refine lv_iload_n hx hb dX53_rankOf_39 rfl (lv_at hl 4 rfl) ?_
        refine lv_icmp_ne (tgt := 53) hx hb dX53_rankOf_40 (by decide) (fun c_7 => ?_) (fun c_7 => ?_)
        · have hw := hw.2 c_7
          refine lv_iconst (v := 0) hx hb dX53_rankOf_53 (by decide) ?_
          refine lv_iadd hx hb dX53_rankOf_54 ?_
          refine lv_topi (fun x4_8 ex4_8 => ?_)
          have hw := hw x4_8 ex4_8
          refine lv_istore (lv' := [(4, .int x4_8), (6, .int r_3), (0, .ref (ad 0)), (1, .int x1), (2, .int x2), (3, .int x3), (5, .int x5)]) hx hb dX53_rankOf_55 hl (by decide) rfl (fun ls hl => ?_)
          obtain ⟨x5_9, ex5_9⟩ : ∃ y : Int32, y = x5 + 1 := ⟨_, rfl⟩
          have hw := hw x5_9 ex5_9
          refine lv_iinc (v := x5_9) (lv' := [(5, .int x5_9), (4, .int x4_8), (6, .int r_3), (0, .ref (ad 0)), (1, .int x1), (2, .int x2), (3, .int x3)]) hx hb dX53_rankOf_57 hl (k := 6) rfl (by rw [ex5_9]; rfl) (by decide) rfl (fun ls hl => ?_)
          refine lv_goto (tgt := 13) hx hb dX53_rankOf_60 (by decide) ?_
          exact ih x4_8 x5_9 hw _ _ ls hH (lv_sub hl [3, 4, 5, 6, 1, 0] rfl)
        · have hw := hw.1 c_7
          refine lv_iload hx hb dX53_rankOf_43 (lv_at hl 6 rfl) ?_
          refine lv_iload_n hx hb dX53_rankOf_45 rfl (lv_at hl 3 rfl) ?_
          refine lv_icmp_ge (tgt := 53) hx hb dX53_rankOf_46 (by decide) (fun c_10 => ?_) (fun c_10 => ?_)
          · have hw := hw.1 c_10
            refine lv_iconst (v := 0) hx hb dX53_rankOf_53 (by decide) ?_
            refine lv_iadd hx hb dX53_rankOf_54 ?_
            refine lv_topi (fun x4_11 ex4_11 => ?_)
            have hw := hw x4_11 ex4_11
            refine lv_istore (lv' := [(4, .int x4_11), (6, .int r_3), (0, .ref (ad 0)), (1, .int x1), (2, .int x2), (3, .int x3), (5, .int x5)]) hx hb dX53_rankOf_55 hl (by decide) rfl (fun ls hl => ?_)
            obtain ⟨x5_12, ex5_12⟩ : ∃ y : Int32, y = x5 + 1 := ⟨_, rfl⟩
            have hw := hw x5_12 ex5_12
            refine lv_iinc (v := x5_12) (lv' := [(5, .int x5_12), (4, .int x4_11), (6, .int r_3), (0, .ref (ad 0)), (1, .int x1), (2, .int x2), (3, .int x3)]) hx hb dX53_rankOf_57 hl (k := 6) rfl (by rw [ex5_12]; rfl) (by decide) rfl (fun ls hl => ?_)
            refine lv_goto (tgt := 13) hx hb dX53_rankOf_60 (by decide) ?_
            exact ih x4_11 x5_12 hw _ _ ls hH (lv_sub hl [3, 4, 5, 6, 1, 0] rfl)
          · have hw := hw.2 c_10
            refine lv_iconst (v := 1) hx hb dX53_rankOf_49 (by decide) ?_
            refine lv_goto (tgt := 54) hx hb dX53_rankOf_50 (by decide) ?_
            refine lv_iadd hx hb dX53_rankOf_54 ?_
            refine lv_topi (fun x4_13 ex4_13 => ?_)
            have hw := hw x4_13 ex4_13
            refine lv_istore (lv' := [(4, .int x4_13), (6, .int r_3), (0, .ref (ad 0)), (1, .int x1), (2, .int x2), (3, .int x3), (5, .int x5)]) hx hb dX53_rankOf_55 hl (by decide) rfl (fun ls hl => ?_)
            obtain ⟨x5_14, ex5_14⟩ : ∃ y : Int32, y = x5 + 1 := ⟨_, rfl⟩
            have hw := hw x5_14 ex5_14
            refine lv_iinc (v := x5_14) (lv' := [(5, .int x5_14), (4, .int x4_13), (6, .int r_3), (0, .ref (ad 0)), (1, .int x1), (2, .int x2), (3, .int x3)]) hx hb dX53_rankOf_57 hl (k := 6) rfl (by rw [ex5_14]; rfl) (by decide) rfl (fun ls hl => ?_)
            refine lv_goto (tgt := 13) hx hb dX53_rankOf_60 (by decide) ?_
            exact ih x4_13 x5_14 hw _ _ ls hH (lv_sub hl [3, 4, 5, 6, 1, 0] rfl)
set_option maxHeartbeats 4000000 in
theorem walkX53_rankOf {l : Launch} {dC : Nat → ClassId} {dI : Nat → Nat → Nat} {cl : List vw_C} {ci : Nat} (hc : cl[ci]? = some (RX53, TX53, 12)) {ad : Nat → Nat} {d : Nat → ClassId} {sz : Nat} {f_thrown : Int32} {f_rows : Int32} {f_things : Nat → Int32} {f_heads : Nat → Int32} {f_values : Nat → Int32} {f_uppers : Nat → Int32} {f_chosen : Nat → Int32} {f_seen : Nat → Int32} {f_fresh : Int32} {f_has : Nat → Int32} {f_but : Nat → Int32} {f_kept : Nat → Int32} {x1 : Int32} {x2 : Int32} {post : Int32 → Prop} (hw : wpX53_rankOf post f_has f_but x1 x2) :
    Met l yX53_rankOf (ws_ yX53_rankOf cX53_rankOf 7 (some .int)) ({ frames := 2, cells := 0, slots := 0, locals := 46 } : Room) (kPc (dC, dI) cl (tX53 d) [.ref (ad 0), .int x1, .int x2] sz (wX53 ci ad d f_thrown f_rows f_things f_heads f_values f_uppers f_chosen f_seen f_fresh f_has f_but f_kept)) (va_Qi (fun (r : Int32) (_ : Unit) => post r) (kB (dC, dI) cl (tX53 d) (va_A (wX53 ci ad d f_thrown f_rows f_things f_heads f_values f_uppers f_chosen f_seen f_fresh f_has f_but f_kept) sz) (fun _ : Unit => (wX53 ci ad d f_thrown f_rows f_things f_heads f_values f_uppers f_chosen f_seen f_fresh f_has f_but f_kept))) (va_A (wX53 ci ad d f_thrown f_rows f_things f_heads f_values f_uppers f_chosen f_seen f_fresh f_has f_but f_kept) sz)) 0 0 (va_A (wX53 ci ad d f_thrown f_rows f_things f_heads f_values f_uppers f_chosen f_seen f_fresh f_has f_but f_kept) sz) := by
  refine k_enter (by decide) (Nat.le_of_ble_eq_true rfl) ?_
  intro p e s m below meth c ls X hsz hH hl
  subst hsz
  generalize va_A (wX53 ci ad d f_thrown f_rows f_things f_heads f_values f_uppers f_chosen f_seen f_fresh f_has f_but f_kept) s.heap.size = A at hH ⊢
  have hx := X.1.1
  have hb := X.1.2.1
  have hl : lv_has ls 7 [(0, .ref (ad 0)), (1, .int x1), (2, .int x2)] := hl
  unfold wpX53_rankOf at hw
  refine lv_aload_n hx hb dX53_rankOf_0 rfl (lv_at hl 0 rfl) ?_
  refine lv_iload_n hx hb dX53_rankOf_1 rfl (lv_at hl 1 rfl) ?_
  refine lv_iload_n hx hb dX53_rankOf_2 rfl (lv_at hl 2 rfl) ?_
  refine k_i0 hH (k_runV (As := [.int x1, .int x2]) (rest := []) X hH.1 hH.2.1 X.2.2.2 (walkX53_countOf hc hw) (cwV 2 X.1.2.2.2.2 gX53_77 rfl rfl rfl hX53_countOf ⟨Nat.le_of_ble_eq_true rfl, Nat.le_of_ble_eq_true rfl⟩) hc (q0 := 0) rfl rfl hl.1 rfl (Nat.le_of_ble_eq_true rfl) dX53_rankOf_3 ⟨Nat.le_refl 0, Nat.le_refl 0⟩) (fun r_1 _ H locs hw hH => ?_)
  have hH : kH (dC, dI) cl A s.heap H locs (wX53 ci ad d f_thrown f_rows f_things f_heads f_values f_uppers f_chosen f_seen f_fresh f_has f_but f_kept) := hH
  refine lv_istore_n (lv' := [(3, .int r_1), (0, .ref (ad 0)), (1, .int x1), (2, .int x2)]) hx hb dX53_rankOf_6 rfl hl (by decide) rfl (fun ls hl => ?_)
  refine lv_iconst (v := 0) hx hb dX53_rankOf_7 (by decide) ?_
  refine lv_istore (lv' := [(4, .int 0), (3, .int r_1), (0, .ref (ad 0)), (1, .int x1), (2, .int x2)]) hx hb dX53_rankOf_8 hl (by decide) rfl (fun ls hl => ?_)
  refine lv_iconst (v := 0) hx hb dX53_rankOf_10 (by decide) ?_
  refine lv_istore (lv' := [(5, .int 0), (4, .int 0), (3, .int r_1), (0, .ref (ad 0)), (1, .int x1), (2, .int x2)]) hx hb dX53_rankOf_11 hl (by decide) rfl (fun ls hl => ?_)
  obtain ⟨fu, hw⟩ := hw
  refine atX53_rankOf_13 hc X ?_ fu 0 0 hw _ _ ls hH (lv_sub hl [3, 4, 5, 2, 1, 0] rfl)
  · intro x4_15 hw H locs ls hH hl
    refine lv_iload hx hb dX53_rankOf_63 (lv_at hl 0 rfl) ?_
    exact k_iret (v := x4_15) X hH () hw rfl rfl dX53_rankOf_65
set_option maxHeartbeats 4000000 in
theorem atX53_top_24 {p : Program} {l : Launch} {e : Env} {s : State} {m : MethodId} {args : Array Value} {below : List Frame} {meth : Method} {c : Code} {dC : Nat → ClassId} {dI : Nat → Nat → Nat} {cl : List vw_C} {ci : Nat} (hc : cl[ci]? = some (RX53, TX53, 12)) {ad : Nat → Nat} {d : Nat → ClassId} {A : Nat → Prop} {post : Int32 → Int32 → Int32 → (Nat → Int32) → (Nat → Int32) → (Nat → Int32) → Prop} {f_rows : Int32} {f_things : Nat → Int32} {f_heads : Nat → Int32} {f_values : Nat → Int32} {f_uppers : Nat → Int32} {f_chosen : Nat → Int32} {f_seen : Nat → Int32} (X : kX p s m args meth c cX53_top 4 RX53 (some .int) (dC, dI) cl (tX53 d)) {K49 : Int32 → Prop} {K57 : Prop} {x1 : Int32} {x2 : Int32} {f_thrown : Int32} {f_fresh : Int32} {f_has : Nat → Int32} {f_but : Nat → Int32} {f_kept : Nat → Int32} (hk49 : ∀ (x3 : Int32), K49 x3 → ∀ (H : Heap) (locs : List Loc) (ls : Array Slot), kH (dC, dI) cl A s.heap H locs (wX53 ci ad d f_thrown f_rows f_things f_heads f_values f_uppers f_chosen f_seen f_fresh f_has f_but f_kept) → lv_has ls 4 [(3, .int x3)] → W p l e ({ frames := 3, cells := 0, slots := 0, locals := 72 } : Room) s m args below meth c H locs 0 0 (MQ below (va_Qi (fun (r : Int32) (u : Int32 × Int32 × (Nat → Int32) × (Nat → Int32) × (Nat → Int32)) => post r (u.1) (u.2.1) (u.2.2.1) (u.2.2.2.1) (u.2.2.2.2)) (kB (dC, dI) cl (tX53 d) A (fun u : Int32 × Int32 × (Nat → Int32) × (Nat → Int32) × (Nat → Int32) => (wX53 ci ad d (u.1) f_rows f_things f_heads f_values f_uppers f_chosen f_seen (u.2.1) (u.2.2.1) (u.2.2.2.1) (u.2.2.2.2)))) A) args s 0 0 A) (F0 m 49 ls [])) (hk57 : K57  → ∀ (H : Heap) (locs : List Loc) (ls : Array Slot), kH (dC, dI) cl A s.heap H locs (wX53 ci ad d f_thrown f_rows f_things f_heads f_values f_uppers f_chosen f_seen f_fresh f_has f_but f_kept) → lv_has ls 4 [] → W p l e ({ frames := 3, cells := 0, slots := 0, locals := 72 } : Room) s m args below meth c H locs 0 0 (MQ below (va_Qi (fun (r : Int32) (u : Int32 × Int32 × (Nat → Int32) × (Nat → Int32) × (Nat → Int32)) => post r (u.1) (u.2.1) (u.2.2.1) (u.2.2.2.1) (u.2.2.2.2)) (kB (dC, dI) cl (tX53 d) A (fun u : Int32 × Int32 × (Nat → Int32) × (Nat → Int32) × (Nat → Int32) => (wX53 ci ad d (u.1) f_rows f_things f_heads f_values f_uppers f_chosen f_seen (u.2.1) (u.2.2.1) (u.2.2.2.1) (u.2.2.2.2)))) A) args s 0 0 A) (F0 m 57 ls [])) :
    ∀ (nn : Nat) (x3 : Int32), wX53_top_24 K49 K57 x1 x2 f_has f_but nn x3 → ∀ (H : Heap) (locs : List Loc) (ls : Array Slot), kH (dC, dI) cl A s.heap H locs (wX53 ci ad d f_thrown f_rows f_things f_heads f_values f_uppers f_chosen f_seen f_fresh f_has f_but f_kept) → lv_has ls 4 [(0, .ref (ad 0)), (1, .int x1), (2, .int x2), (3, .int x3)] → W p l e ({ frames := 3, cells := 0, slots := 0, locals := 72 } : Room) s m args below meth c H locs 0 0 (MQ below (va_Qi (fun (r : Int32) (u : Int32 × Int32 × (Nat → Int32) × (Nat → Int32) × (Nat → Int32)) => post r (u.1) (u.2.1) (u.2.2.1) (u.2.2.2.1) (u.2.2.2.2)) (kB (dC, dI) cl (tX53 d) A (fun u : Int32 × Int32 × (Nat → Int32) × (Nat → Int32) × (Nat → Int32) => (wX53 ci ad d (u.1) f_rows f_things f_heads f_values f_uppers f_chosen f_seen (u.2.1) (u.2.2.1) (u.2.2.2.1) (u.2.2.2.2)))) A) args s 0 0 A) (F0 m 24 ls []) := by
  have hx := X.1.1
  have hb := X.1.2.1
  intro nn
  induction nn with
  | zero =>
    intro x3 hw
    exact False.elim hw
  | succ n ih =>
    intro x3 hw H locs ls hH hl
    rw [wX53_top_24] at hw
    refine lv_iload_n hx hb dX53_top_24 rfl (lv_at hl 3 rfl) ?_
    refine lv_bipush (v := 32) hx hb dX53_top_25 (by decide) ?_
    refine lv_icmp_ge (tgt := 57) hx hb dX53_top_27 (by decide) (fun c_8 => ?_) (fun c_8 => ?_)
    · have hw := hw.1 c_8
      exact hk57  hw _ _ ls hH (lv_sub hl [] rfl)
    · have hw := hw.2 c_8
      refine lv_aload_n hx hb dX53_top_30 rfl (lv_at hl 0 rfl) ?_
      refine lv_iload_n hx hb dX53_top_31 rfl (lv_at hl 1 rfl) ?_
      refine lv_iload_n hx hb dX53_top_32 rfl (lv_at hl 3 rfl) ?_
      refine k_i0 hH (k_runV (As := [.int x1, .int x3]) (rest := []) X hH.1 hH.2.1 X.2.2.2 (walkX53_countOf hc hw) (cwV 2 X.1.2.2.2.2 gX53_77 rfl rfl rfl hX53_countOf ⟨Nat.le_of_ble_eq_true rfl, Nat.le_of_ble_eq_true rfl⟩) hc (q0 := 0) rfl rfl hl.1 rfl (Nat.le_of_ble_eq_true rfl) dX53_top_33 ⟨Nat.le_refl 0, Nat.le_refl 0⟩) (fun r_9 _ H locs hw hH => ?_)
      have hH : kH (dC, dI) cl A s.heap H locs (wX53 ci ad d f_thrown f_rows f_things f_heads f_values f_uppers f_chosen f_seen f_fresh f_has f_but f_kept) := hH
      refine lv_if_le (tgt := 51) hx hb dX53_top_36 (by decide) (fun c_10 => ?_) (fun c_10 => ?_)
      · have hw := hw.1 c_10
        obtain ⟨x3_11, ex3_11⟩ : ∃ y : Int32, y = x3 + 1 := ⟨_, rfl⟩
        have hw := hw x3_11 ex3_11
        refine lv_iinc (v := x3_11) (lv' := [(3, .int x3_11), (0, .ref (ad 0)), (1, .int x1), (2, .int x2)]) hx hb dX53_top_51 hl (k := 3) rfl (by rw [ex3_11]; rfl) (by decide) rfl (fun ls hl => ?_)
        refine lv_goto (tgt := 24) hx hb dX53_top_54 (by decide) ?_
        exact ih x3_11 hw _ _ ls hH (lv_sub hl [1, 2, 3, 0] rfl)
      · have hw := hw.2 c_10
        refine lv_aload_n hx hb dX53_top_39 rfl (lv_at hl 0 rfl) ?_
        refine lv_iload_n hx hb dX53_top_40 rfl (lv_at hl 1 rfl) ?_
        refine lv_iload_n hx hb dX53_top_41 rfl (lv_at hl 3 rfl) ?_
        refine k_i0 hH (k_runV (As := [.int x1, .int x3]) (rest := []) X hH.1 hH.2.1 X.2.2.2 (walkX53_rankOf hc hw) (cwV 2 X.1.2.2.2.2 gX53_81 rfl rfl rfl hX53_rankOf ⟨Nat.le_of_ble_eq_true rfl, Nat.le_of_ble_eq_true rfl⟩) hc (q0 := 0) rfl rfl hl.1 rfl (Nat.le_of_ble_eq_true rfl) dX53_top_42 ⟨Nat.le_refl 0, Nat.le_refl 0⟩) (fun r_12 _ H locs hw hH => ?_)
        have hH : kH (dC, dI) cl A s.heap H locs (wX53 ci ad d f_thrown f_rows f_things f_heads f_values f_uppers f_chosen f_seen f_fresh f_has f_but f_kept) := hH
        refine lv_iload_n hx hb dX53_top_45 rfl (lv_at hl 2 rfl) ?_
        refine lv_icmp_ne (tgt := 51) hx hb dX53_top_46 (by decide) (fun c_13 => ?_) (fun c_13 => ?_)
        · have hw := hw.2 c_13
          obtain ⟨x3_14, ex3_14⟩ : ∃ y : Int32, y = x3 + 1 := ⟨_, rfl⟩
          have hw := hw x3_14 ex3_14
          refine lv_iinc (v := x3_14) (lv' := [(3, .int x3_14), (0, .ref (ad 0)), (1, .int x1), (2, .int x2)]) hx hb dX53_top_51 hl (k := 3) rfl (by rw [ex3_14]; rfl) (by decide) rfl (fun ls hl => ?_)
          refine lv_goto (tgt := 24) hx hb dX53_top_54 (by decide) ?_
          exact ih x3_14 hw _ _ ls hH (lv_sub hl [1, 2, 3, 0] rfl)
        · have hw := hw.1 c_13
          exact hk49 x3 hw _ _ ls hH (lv_sub hl [3] rfl)
set_option maxHeartbeats 4000000 in
theorem walkX53_top {l : Launch} {dC : Nat → ClassId} {dI : Nat → Nat → Nat} {cl : List vw_C} {ci : Nat} (hc : cl[ci]? = some (RX53, TX53, 12)) {ad : Nat → Nat} {d : Nat → ClassId} {sz : Nat} {f_thrown : Int32} {f_rows : Int32} {f_things : Nat → Int32} {f_heads : Nat → Int32} {f_values : Nat → Int32} {f_uppers : Nat → Int32} {f_chosen : Nat → Int32} {f_seen : Nat → Int32} {f_fresh : Int32} {f_has : Nat → Int32} {f_but : Nat → Int32} {f_kept : Nat → Int32} {x1 : Int32} {x2 : Int32} {post : Int32 → Int32 → Int32 → (Nat → Int32) → (Nat → Int32) → (Nat → Int32) → Prop} (hw : wpX53_top post f_rows f_things f_heads f_values f_uppers f_chosen f_fresh f_has f_but f_kept x1 x2) :
    Met l yX53_top (ws_ yX53_top cX53_top 4 (some .int)) ({ frames := 3, cells := 0, slots := 0, locals := 72 } : Room) (kPc (dC, dI) cl (tX53 d) [.ref (ad 0), .int x1, .int x2] sz (wX53 ci ad d f_thrown f_rows f_things f_heads f_values f_uppers f_chosen f_seen f_fresh f_has f_but f_kept)) (va_Qi (fun (r : Int32) (u : Int32 × Int32 × (Nat → Int32) × (Nat → Int32) × (Nat → Int32)) => post r (u.1) (u.2.1) (u.2.2.1) (u.2.2.2.1) (u.2.2.2.2)) (kB (dC, dI) cl (tX53 d) (va_A (wX53 ci ad d f_thrown f_rows f_things f_heads f_values f_uppers f_chosen f_seen f_fresh f_has f_but f_kept) sz) (fun u : Int32 × Int32 × (Nat → Int32) × (Nat → Int32) × (Nat → Int32) => (wX53 ci ad d (u.1) f_rows f_things f_heads f_values f_uppers f_chosen f_seen (u.2.1) (u.2.2.1) (u.2.2.2.1) (u.2.2.2.2)))) (va_A (wX53 ci ad d f_thrown f_rows f_things f_heads f_values f_uppers f_chosen f_seen f_fresh f_has f_but f_kept) sz)) 0 0 (va_A (wX53 ci ad d f_thrown f_rows f_things f_heads f_values f_uppers f_chosen f_seen f_fresh f_has f_but f_kept) sz) := by
  refine k_enter (by decide) (Nat.le_of_ble_eq_true rfl) ?_
  intro p e s m below meth c ls X hsz hH hl
  subst hsz
  generalize va_A (wX53 ci ad d f_thrown f_rows f_things f_heads f_values f_uppers f_chosen f_seen f_fresh f_has f_but f_kept) s.heap.size = A at hH ⊢
  have hx := X.1.1
  have hb := X.1.2.1
  have hl : lv_has ls 4 [(0, .ref (ad 0)), (1, .int x1), (2, .int x2)] := hl
  unfold wpX53_top at hw
  refine lv_aload_n hx hb dX53_top_0 rfl (lv_at hl 0 rfl) ?_
  refine lv_iconst (v := 0) hx hb dX53_top_1 (by decide) ?_
  refine k_put X hH in_X53 tyX53_ok nmX53 0 rfl hc 0 (by decide) q6457 rfl (ty := .int) rfl rfl rfl (Nat.le_of_ble_eq_true rfl) dX53_top_2 (ws1 := (wX53 ci ad d 0 f_rows f_things f_heads f_values f_uppers f_chosen f_seen f_fresh f_has f_but f_kept)) rfl (fun H locs hH => ?_)
  refine lv_aload_n hx hb dX53_top_5 rfl (lv_at hl 0 rfl) ?_
  refine k_v0 hH (k_runV (As := []) (rest := []) X hH.1 hH.2.1 X.2.2.2 (walkX53_reckon hc hw) (cwV 0 X.1.2.2.2.2 gX53_74 rfl rfl rfl hX53_reckon ⟨Nat.le_of_ble_eq_true rfl, Nat.le_of_ble_eq_true rfl⟩) hc (q0 := 0) rfl rfl hl.1 rfl (Nat.le_of_ble_eq_true rfl) dX53_top_6 ⟨Nat.le_refl 0, Nat.le_refl 0⟩) (fun u H locs hw hH => ?_)
  obtain ⟨f_fresh_1, f_has_2, f_but_3, f_kept_4⟩ := u
  have hH : kH (dC, dI) cl A s.heap H locs (wX53 ci ad d 0 f_rows f_things f_heads f_values f_uppers f_chosen f_seen f_fresh_1 f_has_2 f_but_3 f_kept_4) := hH
  refine lv_iload_n hx hb dX53_top_9 rfl (lv_at hl 1 rfl) ?_
  refine k_i0 hH (k_runS (As := [.int x1]) (rest := []) X hH.1 hH.2.1 X.2.2.2 (walkX53_isHead hc hw) (va_cwS 1 X.1.2.2.2.2 gX53_49 rfl rfl rfl hX53_isHead ⟨Nat.le_of_ble_eq_true rfl, Nat.le_of_ble_eq_true rfl⟩) rfl hl.1 rfl (Nat.le_of_ble_eq_true rfl) dX53_top_10 ⟨Nat.le_refl 0, Nat.le_refl 0⟩) (fun r_5 _ H locs hw hH => ?_)
  have hH : kH (dC, dI) cl A s.heap H locs (wX53 ci ad d 0 f_rows f_things f_heads f_values f_uppers f_chosen f_seen f_fresh_1 f_has_2 f_but_3 f_kept_4) := hH
  refine lv_if_eq (tgt := 20) hx hb dX53_top_13 (by decide) (fun c_6 => ?_) (fun c_6 => ?_)
  · have hw := hw.1 c_6
    refine lv_iconst (v := (-1)) hx hb dX53_top_20 (by decide) ?_
    exact k_iret (v := (-1)) X hH (0, f_fresh_1, f_has_2, f_but_3, f_kept_4) hw rfl rfl dX53_top_21
  · have hw := hw.2 c_6
    refine lv_iload_n hx hb dX53_top_16 rfl (lv_at hl 2 rfl) ?_
    refine lv_if_ge (tgt := 22) hx hb dX53_top_17 (by decide) (fun c_7 => ?_) (fun c_7 => ?_)
    · have hw := hw.1 c_7
      refine lv_iconst (v := 0) hx hb dX53_top_22 (by decide) ?_
      refine lv_istore_n (lv' := [(3, .int 0), (0, .ref (ad 0)), (1, .int x1), (2, .int x2)]) hx hb dX53_top_23 rfl hl (by decide) rfl (fun ls hl => ?_)
      obtain ⟨fu, hw⟩ := hw
      refine atX53_top_24 hc X ?_ ?_ fu 0 hw _ _ ls hH (lv_sub hl [1, 2, 3, 0] rfl)
      · intro x3_15 hw H locs ls hH hl
        refine lv_iload_n hx hb dX53_top_49 rfl (lv_at hl 0 rfl) ?_
        exact k_iret (v := x3_15) X hH (0, f_fresh_1, f_has_2, f_but_3, f_kept_4) hw rfl rfl dX53_top_50
      · intro hw H locs ls hH hl
        refine lv_iconst (v := (-1)) hx hb dX53_top_57 (by decide) ?_
        exact k_iret (v := (-1)) X hH (0, f_fresh_1, f_has_2, f_but_3, f_kept_4) hw rfl rfl dX53_top_58
    · have hw := hw.2 c_7
      refine lv_iconst (v := (-1)) hx hb dX53_top_20 (by decide) ?_
      exact k_iret (v := (-1)) X hH (0, f_fresh_1, f_has_2, f_but_3, f_kept_4) hw rfl rfl dX53_top_21
set_option maxHeartbeats 4000000 in
theorem atX53_range_37 {p : Program} {l : Launch} {e : Env} {s : State} {m : MethodId} {args : Array Value} {below : List Frame} {meth : Method} {c : Code} {dC : Nat → ClassId} {dI : Nat → Nat → Nat} {cl : List vw_C} {ci : Nat} (hc : cl[ci]? = some (RX53, TX53, 12)) {ad : Nat → Nat} {d : Nat → ClassId} {A : Nat → Prop} {post : Int32 → Int32 → Int32 → (Nat → Int32) → (Nat → Int32) → (Nat → Int32) → Prop} {f_rows : Int32} {f_things : Nat → Int32} {f_heads : Nat → Int32} {f_values : Nat → Int32} {f_uppers : Nat → Int32} {f_chosen : Nat → Int32} {f_seen : Nat → Int32} (X : kX p s m args meth c cX53_range 8 RX53 (some .int) (dC, dI) cl (tX53 d)) {K90 : Int32 → Prop} {x1 : Int32} {x2 : Int32} {x3 : Int32} {x4 : Int32} {x5 : Int32} {f_thrown : Int32} {f_fresh : Int32} {f_has : Nat → Int32} {f_but : Nat → Int32} {f_kept : Nat → Int32} (hk90 : ∀ (x6 : Int32), K90 x6 → ∀ (H : Heap) (locs : List Loc) (ls : Array Slot), kH (dC, dI) cl A s.heap H locs (wX53 ci ad d f_thrown f_rows f_things f_heads f_values f_uppers f_chosen f_seen f_fresh f_has f_but f_kept) → lv_has ls 8 [(0, .ref (ad 0)), (1, .int x1), (2, .int x2), (3, .int x3), (4, .int x4), (5, .int x5), (6, .int x6)] → W p l e ({ frames := 3, cells := 0, slots := 0, locals := 71 } : Room) s m args below meth c H locs 0 0 (MQ below (va_Qi (fun (r : Int32) (u : Int32 × Int32 × (Nat → Int32) × (Nat → Int32) × (Nat → Int32)) => post r (u.1) (u.2.1) (u.2.2.1) (u.2.2.2.1) (u.2.2.2.2)) (kB (dC, dI) cl (tX53 d) A (fun u : Int32 × Int32 × (Nat → Int32) × (Nat → Int32) × (Nat → Int32) => (wX53 ci ad d (u.1) f_rows f_things f_heads f_values f_uppers f_chosen f_seen (u.2.1) (u.2.2.1) (u.2.2.2.1) (u.2.2.2.2)))) A) args s 0 0 A) (F0 m 90 ls [])) :
    ∀ (nn : Nat) (x6 : Int32) (x7 : Int32), wX53_range_37 K90 x1 x2 x3 x5 f_has nn x6 x7 → ∀ (H : Heap) (locs : List Loc) (ls : Array Slot), kH (dC, dI) cl A s.heap H locs (wX53 ci ad d f_thrown f_rows f_things f_heads f_values f_uppers f_chosen f_seen f_fresh f_has f_but f_kept) → lv_has ls 8 [(0, .ref (ad 0)), (1, .int x1), (2, .int x2), (3, .int x3), (4, .int x4), (5, .int x5), (6, .int x6), (7, .int x7)] → W p l e ({ frames := 3, cells := 0, slots := 0, locals := 71 } : Room) s m args below meth c H locs 0 0 (MQ below (va_Qi (fun (r : Int32) (u : Int32 × Int32 × (Nat → Int32) × (Nat → Int32) × (Nat → Int32)) => post r (u.1) (u.2.1) (u.2.2.1) (u.2.2.2.1) (u.2.2.2.2)) (kB (dC, dI) cl (tX53 d) A (fun u : Int32 × Int32 × (Nat → Int32) × (Nat → Int32) × (Nat → Int32) => (wX53 ci ad d (u.1) f_rows f_things f_heads f_values f_uppers f_chosen f_seen (u.2.1) (u.2.2.1) (u.2.2.2.1) (u.2.2.2.2)))) A) args s 0 0 A) (F0 m 37 ls []) := by
  have hx := X.1.1
  have hb := X.1.2.1
  intro nn
  induction nn with
  | zero =>
    intro x6 x7 hw
    exact False.elim hw
  | succ n ih =>
    intro x6 x7 hw H locs ls hH hl
    rw [wX53_range_37] at hw
    refine lv_iload hx hb dX53_range_37 (lv_at hl 7 rfl) ?_
    refine lv_bipush (v := 32) hx hb dX53_range_39 (by decide) ?_
    refine lv_icmp_ge (tgt := 90) hx hb dX53_range_41 (by decide) (fun c_8 => ?_) (fun c_8 => ?_)
    · have hw := hw.1 c_8
      exact hk90 x6 hw _ _ ls hH (lv_sub hl [0, 1, 2, 3, 4, 5, 6] rfl)
    · have hw := hw.2 c_8
      refine lv_iload hx hb dX53_range_44 (lv_at hl 6 rfl) ?_
      refine lv_if_ne (tgt := 77) hx hb dX53_range_46 (by decide) (fun c_9 => ?_) (fun c_9 => ?_)
      · have hw := hw.2 c_9
        refine lv_iconst (v := 1) hx hb dX53_range_77 (by decide) ?_
        refine lv_goto (tgt := 82) hx hb dX53_range_78 (by decide) ?_
        refine lv_istore (lv' := [(6, .int 1), (0, .ref (ad 0)), (1, .int x1), (2, .int x2), (3, .int x3), (4, .int x4), (5, .int x5), (7, .int x7)]) hx hb dX53_range_82 hl (by decide) rfl (fun ls hl => ?_)
        obtain ⟨x7_10, ex7_10⟩ : ∃ y : Int32, y = x7 + 1 := ⟨_, rfl⟩
        have hw := hw x7_10 ex7_10
        refine lv_iinc (v := x7_10) (lv' := [(7, .int x7_10), (6, .int 1), (0, .ref (ad 0)), (1, .int x1), (2, .int x2), (3, .int x3), (4, .int x4), (5, .int x5)]) hx hb dX53_range_84 hl (k := 7) rfl (by rw [ex7_10]; rfl) (by decide) rfl (fun ls hl => ?_)
        refine lv_goto (tgt := 37) hx hb dX53_range_87 (by decide) ?_
        exact ih 1 x7_10 hw _ _ ls hH (lv_sub hl [2, 3, 4, 5, 6, 7, 1, 0] rfl)
      · have hw := hw.1 c_9
        refine lv_iload hx hb dX53_range_49 (lv_at hl 7 rfl) ?_
        refine lv_iload_n hx hb dX53_range_51 rfl (lv_at hl 2 rfl) ?_
        refine lv_icmp_lt (tgt := 81) hx hb dX53_range_52 (by decide) (fun c_11 => ?_) (fun c_11 => ?_)
        · have hw := hw.1 c_11
          refine lv_iconst (v := 0) hx hb dX53_range_81 (by decide) ?_
          refine lv_istore (lv' := [(6, .int 0), (0, .ref (ad 0)), (1, .int x1), (2, .int x2), (3, .int x3), (4, .int x4), (5, .int x5), (7, .int x7)]) hx hb dX53_range_82 hl (by decide) rfl (fun ls hl => ?_)
          obtain ⟨x7_12, ex7_12⟩ : ∃ y : Int32, y = x7 + 1 := ⟨_, rfl⟩
          have hw := hw x7_12 ex7_12
          refine lv_iinc (v := x7_12) (lv' := [(7, .int x7_12), (6, .int 0), (0, .ref (ad 0)), (1, .int x1), (2, .int x2), (3, .int x3), (4, .int x4), (5, .int x5)]) hx hb dX53_range_84 hl (k := 7) rfl (by rw [ex7_12]; rfl) (by decide) rfl (fun ls hl => ?_)
          refine lv_goto (tgt := 37) hx hb dX53_range_87 (by decide) ?_
          exact ih 0 x7_12 hw _ _ ls hH (lv_sub hl [2, 3, 4, 5, 6, 7, 1, 0] rfl)
        · have hw := hw.2 c_11
          refine lv_iload hx hb dX53_range_55 (lv_at hl 7 rfl) ?_
          refine lv_iload_n hx hb dX53_range_57 rfl (lv_at hl 3 rfl) ?_
          refine lv_icmp_gt (tgt := 81) hx hb dX53_range_58 (by decide) (fun c_13 => ?_) (fun c_13 => ?_)
          · have hw := hw.1 c_13
            refine lv_iconst (v := 0) hx hb dX53_range_81 (by decide) ?_
            refine lv_istore (lv' := [(6, .int 0), (0, .ref (ad 0)), (1, .int x1), (2, .int x2), (3, .int x3), (4, .int x4), (5, .int x5), (7, .int x7)]) hx hb dX53_range_82 hl (by decide) rfl (fun ls hl => ?_)
            obtain ⟨x7_14, ex7_14⟩ : ∃ y : Int32, y = x7 + 1 := ⟨_, rfl⟩
            have hw := hw x7_14 ex7_14
            refine lv_iinc (v := x7_14) (lv' := [(7, .int x7_14), (6, .int 0), (0, .ref (ad 0)), (1, .int x1), (2, .int x2), (3, .int x3), (4, .int x4), (5, .int x5)]) hx hb dX53_range_84 hl (k := 7) rfl (by rw [ex7_14]; rfl) (by decide) rfl (fun ls hl => ?_)
            refine lv_goto (tgt := 37) hx hb dX53_range_87 (by decide) ?_
            exact ih 0 x7_14 hw _ _ ls hH (lv_sub hl [2, 3, 4, 5, 6, 7, 1, 0] rfl)
          · have hw := hw.2 c_13
            refine lv_aload_n hx hb dX53_range_61 rfl (lv_at hl 0 rfl) ?_
            refine k_get X hH in_X53 0 rfl hc 9 (by decide) q6466 rfl dX53_range_62 ?_
            refine lv_iload hx hb dX53_range_65 (lv_at hl 5 rfl) ?_
            refine lv_iload_n hx hb dX53_range_67 rfl (lv_at hl 1 rfl) ?_
            refine lv_iload hx hb dX53_range_68 (lv_at hl 7 rfl) ?_
            refine k_i0 hH (k_runS (As := [.int x5, .int x1, .int x7]) (rest := [.ref (ad 7)]) X hH.1 hH.2.1 X.2.2.2 (walkX53_place hc hw) (va_cwS 3 X.1.2.2.2.2 gX53_67 rfl rfl rfl hX53_place ⟨Nat.le_of_ble_eq_true rfl, Nat.le_of_ble_eq_true rfl⟩) rfl hl.1 rfl (Nat.le_of_ble_eq_true rfl) dX53_range_70 ⟨Nat.le_refl 0, Nat.le_refl 0⟩) (fun r_15 _ H locs hw hH => ?_)
            have hH : kH (dC, dI) cl A s.heap H locs (wX53 ci ad d f_thrown f_rows f_things f_heads f_values f_uppers f_chosen f_seen f_fresh f_has f_but f_kept) := hH
            refine k_zald X hH 7 6 rfl rfl hw.1 dX53_range_73 ?_
            have hw := hw.2
            refine lv_if_eq (tgt := 81) hx hb dX53_range_74 (by decide) (fun c_16 => ?_) (fun c_16 => ?_)
            · have hw := hw.1 c_16
              refine lv_iconst (v := 0) hx hb dX53_range_81 (by decide) ?_
              refine lv_istore (lv' := [(6, .int 0), (0, .ref (ad 0)), (1, .int x1), (2, .int x2), (3, .int x3), (4, .int x4), (5, .int x5), (7, .int x7)]) hx hb dX53_range_82 hl (by decide) rfl (fun ls hl => ?_)
              obtain ⟨x7_17, ex7_17⟩ : ∃ y : Int32, y = x7 + 1 := ⟨_, rfl⟩
              have hw := hw x7_17 ex7_17
              refine lv_iinc (v := x7_17) (lv' := [(7, .int x7_17), (6, .int 0), (0, .ref (ad 0)), (1, .int x1), (2, .int x2), (3, .int x3), (4, .int x4), (5, .int x5)]) hx hb dX53_range_84 hl (k := 7) rfl (by rw [ex7_17]; rfl) (by decide) rfl (fun ls hl => ?_)
              refine lv_goto (tgt := 37) hx hb dX53_range_87 (by decide) ?_
              exact ih 0 x7_17 hw _ _ ls hH (lv_sub hl [2, 3, 4, 5, 6, 7, 1, 0] rfl)
            · have hw := hw.2 c_16
              refine lv_iconst (v := 1) hx hb dX53_range_77 (by decide) ?_
              refine lv_goto (tgt := 82) hx hb dX53_range_78 (by decide) ?_
              refine lv_istore (lv' := [(6, .int 1), (0, .ref (ad 0)), (1, .int x1), (2, .int x2), (3, .int x3), (4, .int x4), (5, .int x5), (7, .int x7)]) hx hb dX53_range_82 hl (by decide) rfl (fun ls hl => ?_)
              obtain ⟨x7_18, ex7_18⟩ : ∃ y : Int32, y = x7 + 1 := ⟨_, rfl⟩
              have hw := hw x7_18 ex7_18
              refine lv_iinc (v := x7_18) (lv' := [(7, .int x7_18), (6, .int 1), (0, .ref (ad 0)), (1, .int x1), (2, .int x2), (3, .int x3), (4, .int x4), (5, .int x5)]) hx hb dX53_range_84 hl (k := 7) rfl (by rw [ex7_18]; rfl) (by decide) rfl (fun ls hl => ?_)
              refine lv_goto (tgt := 37) hx hb dX53_range_87 (by decide) ?_
              exact ih 1 x7_18 hw _ _ ls hH (lv_sub hl [2, 3, 4, 5, 6, 7, 1, 0] rfl)
set_option maxHeartbeats 4000000 in
theorem atX53_range_24 {p : Program} {l : Launch} {e : Env} {s : State} {m : MethodId} {args : Array Value} {below : List Frame} {meth : Method} {c : Code} {dC : Nat → ClassId} {dI : Nat → Nat → Nat} {cl : List vw_C} {ci : Nat} (hc : cl[ci]? = some (RX53, TX53, 12)) {ad : Nat → Nat} {d : Nat → ClassId} {A : Nat → Prop} {post : Int32 → Int32 → Int32 → (Nat → Int32) → (Nat → Int32) → (Nat → Int32) → Prop} {f_rows : Int32} {f_things : Nat → Int32} {f_heads : Nat → Int32} {f_values : Nat → Int32} {f_uppers : Nat → Int32} {f_chosen : Nat → Int32} {f_seen : Nat → Int32} (X : kX p s m args meth c cX53_range 8 RX53 (some .int) (dC, dI) cl (tX53 d)) {K126 : Int32 → Prop} {x1 : Int32} {x2 : Int32} {x3 : Int32} {f_thrown : Int32} {f_fresh : Int32} {f_has : Nat → Int32} {f_but : Nat → Int32} {f_kept : Nat → Int32} (hk126 : ∀ (x4 : Int32), K126 x4 → ∀ (H : Heap) (locs : List Loc) (ls : Array Slot), kH (dC, dI) cl A s.heap H locs (wX53 ci ad d f_thrown f_rows f_things f_heads f_values f_uppers f_chosen f_seen f_fresh f_has f_but f_kept) → lv_has ls 8 [(4, .int x4)] → W p l e ({ frames := 3, cells := 0, slots := 0, locals := 71 } : Room) s m args below meth c H locs 0 0 (MQ below (va_Qi (fun (r : Int32) (u : Int32 × Int32 × (Nat → Int32) × (Nat → Int32) × (Nat → Int32)) => post r (u.1) (u.2.1) (u.2.2.1) (u.2.2.2.1) (u.2.2.2.2)) (kB (dC, dI) cl (tX53 d) A (fun u : Int32 × Int32 × (Nat → Int32) × (Nat → Int32) × (Nat → Int32) => (wX53 ci ad d (u.1) f_rows f_things f_heads f_values f_uppers f_chosen f_seen (u.2.1) (u.2.2.1) (u.2.2.2.1) (u.2.2.2.2)))) A) args s 0 0 A) (F0 m 126 ls [])) :
    ∀ (nn : Nat) (x4 : Int32) (x5 : Int32), wX53_range_24 K126 x1 x2 x3 f_has f_but nn x4 x5 → ∀ (H : Heap) (locs : List Loc) (ls : Array Slot), kH (dC, dI) cl A s.heap H locs (wX53 ci ad d f_thrown f_rows f_things f_heads f_values f_uppers f_chosen f_seen f_fresh f_has f_but f_kept) → lv_has ls 8 [(0, .ref (ad 0)), (1, .int x1), (2, .int x2), (3, .int x3), (4, .int x4), (5, .int x5)] → W p l e ({ frames := 3, cells := 0, slots := 0, locals := 71 } : Room) s m args below meth c H locs 0 0 (MQ below (va_Qi (fun (r : Int32) (u : Int32 × Int32 × (Nat → Int32) × (Nat → Int32) × (Nat → Int32)) => post r (u.1) (u.2.1) (u.2.2.1) (u.2.2.2.1) (u.2.2.2.2)) (kB (dC, dI) cl (tX53 d) A (fun u : Int32 × Int32 × (Nat → Int32) × (Nat → Int32) × (Nat → Int32) => (wX53 ci ad d (u.1) f_rows f_things f_heads f_values f_uppers f_chosen f_seen (u.2.1) (u.2.2.1) (u.2.2.2.1) (u.2.2.2.2)))) A) args s 0 0 A) (F0 m 24 ls []) := by
  have hx := X.1.1
  have hb := X.1.2.1
  intro nn
  induction nn with
  | zero =>
    intro x4 x5 hw
    exact False.elim hw
  | succ n ih =>
    intro x4 x5 hw H locs ls hH hl
    rw [wX53_range_24] at hw
    refine lv_iload hx hb dX53_range_24 (lv_at hl 5 rfl) ?_
    refine lv_bipush (v := 40) hx hb dX53_range_26 (by decide) ?_
    refine lv_icmp_ge (tgt := 126) hx hb dX53_range_28 (by decide) (fun c_7 => ?_) (fun c_7 => ?_)
    · have hw := hw.1 c_7
      exact hk126 x4 hw _ _ ls hH (lv_sub hl [4] rfl)
    · have hw := hw.2 c_7
      refine lv_iconst (v := 0) hx hb dX53_range_31 (by decide) ?_
      refine lv_istore (lv' := [(6, .int 0), (0, .ref (ad 0)), (1, .int x1), (2, .int x2), (3, .int x3), (4, .int x4), (5, .int x5)]) hx hb dX53_range_32 hl (by decide) rfl (fun ls hl => ?_)
      refine lv_iconst (v := 0) hx hb dX53_range_34 (by decide) ?_
      refine lv_istore (lv' := [(7, .int 0), (6, .int 0), (0, .ref (ad 0)), (1, .int x1), (2, .int x2), (3, .int x3), (4, .int x4), (5, .int x5)]) hx hb dX53_range_35 hl (by decide) rfl (fun ls hl => ?_)
      obtain ⟨fu, hw⟩ := hw
      refine atX53_range_37 hc X ?_ fu 0 0 hw _ _ ls hH (lv_sub hl [2, 3, 4, 5, 6, 7, 1, 0] rfl)
      · intro x6_19 hw H locs ls hH hl
        refine lv_iload hx hb dX53_range_90 (lv_at hl 4 rfl) ?_
        refine lv_iload hx hb dX53_range_92 (lv_at hl 6 rfl) ?_
        refine lv_if_eq (tgt := 116) hx hb dX53_range_94 (by decide) (fun c_20 => ?_) (fun c_20 => ?_)
        · have hw := hw.1 c_20
          refine lv_iconst (v := 0) hx hb dX53_range_116 (by decide) ?_
          refine lv_iadd hx hb dX53_range_117 ?_
          refine lv_topi (fun x4_21 ex4_21 => ?_)
          have hw := hw x4_21 ex4_21
          refine lv_istore (lv' := [(4, .int x4_21), (0, .ref (ad 0)), (1, .int x1), (2, .int x2), (3, .int x3), (5, .int x5), (6, .int x6_19)]) hx hb dX53_range_118 hl (by decide) rfl (fun ls hl => ?_)
          obtain ⟨x5_22, ex5_22⟩ : ∃ y : Int32, y = x5 + 1 := ⟨_, rfl⟩
          have hw := hw x5_22 ex5_22
          refine lv_iinc (v := x5_22) (lv' := [(5, .int x5_22), (4, .int x4_21), (0, .ref (ad 0)), (1, .int x1), (2, .int x2), (3, .int x3), (6, .int x6_19)]) hx hb dX53_range_120 hl (k := 5) rfl (by rw [ex5_22]; rfl) (by decide) rfl (fun ls hl => ?_)
          refine lv_goto (tgt := 24) hx hb dX53_range_123 (by decide) ?_
          exact ih x4_21 x5_22 hw _ _ ls hH (lv_sub hl [2, 3, 4, 5, 1, 0] rfl)
        · have hw := hw.2 c_20
          refine lv_aload_n hx hb dX53_range_97 rfl (lv_at hl 0 rfl) ?_
          refine k_get X hH in_X53 0 rfl hc 10 (by decide) q6467 rfl dX53_range_98 ?_
          refine lv_bipush (v := 8) hx hb dX53_range_101 (by decide) ?_
          refine lv_iload hx hb dX53_range_103 (lv_at hl 5 rfl) ?_
          refine lv_imul hx hb dX53_range_105 ?_
          refine lv_iload_n hx hb dX53_range_106 rfl (lv_at hl 1 rfl) ?_
          refine lv_iadd hx hb dX53_range_107 ?_
          refine k_zald X hH 8 7 rfl rfl hw.1 dX53_range_108 ?_
          have hw := hw.2
          refine lv_if_eq (tgt := 116) hx hb dX53_range_109 (by decide) (fun c_23 => ?_) (fun c_23 => ?_)
          · have hw := hw.1 c_23
            refine lv_iconst (v := 0) hx hb dX53_range_116 (by decide) ?_
            refine lv_iadd hx hb dX53_range_117 ?_
            refine lv_topi (fun x4_24 ex4_24 => ?_)
            have hw := hw x4_24 ex4_24
            refine lv_istore (lv' := [(4, .int x4_24), (0, .ref (ad 0)), (1, .int x1), (2, .int x2), (3, .int x3), (5, .int x5), (6, .int x6_19)]) hx hb dX53_range_118 hl (by decide) rfl (fun ls hl => ?_)
            obtain ⟨x5_25, ex5_25⟩ : ∃ y : Int32, y = x5 + 1 := ⟨_, rfl⟩
            have hw := hw x5_25 ex5_25
            refine lv_iinc (v := x5_25) (lv' := [(5, .int x5_25), (4, .int x4_24), (0, .ref (ad 0)), (1, .int x1), (2, .int x2), (3, .int x3), (6, .int x6_19)]) hx hb dX53_range_120 hl (k := 5) rfl (by rw [ex5_25]; rfl) (by decide) rfl (fun ls hl => ?_)
            refine lv_goto (tgt := 24) hx hb dX53_range_123 (by decide) ?_
            exact ih x4_24 x5_25 hw _ _ ls hH (lv_sub hl [2, 3, 4, 5, 1, 0] rfl)
          · have hw := hw.2 c_23
            refine lv_iconst (v := 1) hx hb dX53_range_112 (by decide) ?_
            refine lv_goto (tgt := 117) hx hb dX53_range_113 (by decide) ?_
            refine lv_iadd hx hb dX53_range_117 ?_
            refine lv_topi (fun x4_26 ex4_26 => ?_)
            have hw := hw x4_26 ex4_26
            refine lv_istore (lv' := [(4, .int x4_26), (0, .ref (ad 0)), (1, .int x1), (2, .int x2), (3, .int x3), (5, .int x5), (6, .int x6_19)]) hx hb dX53_range_118 hl (by decide) rfl (fun ls hl => ?_)
            obtain ⟨x5_27, ex5_27⟩ : ∃ y : Int32, y = x5 + 1 := ⟨_, rfl⟩
            have hw := hw x5_27 ex5_27
            refine lv_iinc (v := x5_27) (lv' := [(5, .int x5_27), (4, .int x4_26), (0, .ref (ad 0)), (1, .int x1), (2, .int x2), (3, .int x3), (6, .int x6_19)]) hx hb dX53_range_120 hl (k := 5) rfl (by rw [ex5_27]; rfl) (by decide) rfl (fun ls hl => ?_)
            refine lv_goto (tgt := 24) hx hb dX53_range_123 (by decide) ?_
            exact ih x4_26 x5_27 hw _ _ ls hH (lv_sub hl [2, 3, 4, 5, 1, 0] rfl)
set_option maxHeartbeats 4000000 in
theorem walkX53_range {l : Launch} {dC : Nat → ClassId} {dI : Nat → Nat → Nat} {cl : List vw_C} {ci : Nat} (hc : cl[ci]? = some (RX53, TX53, 12)) {ad : Nat → Nat} {d : Nat → ClassId} {sz : Nat} {f_thrown : Int32} {f_rows : Int32} {f_things : Nat → Int32} {f_heads : Nat → Int32} {f_values : Nat → Int32} {f_uppers : Nat → Int32} {f_chosen : Nat → Int32} {f_seen : Nat → Int32} {f_fresh : Int32} {f_has : Nat → Int32} {f_but : Nat → Int32} {f_kept : Nat → Int32} {x1 : Int32} {x2 : Int32} {x3 : Int32} {post : Int32 → Int32 → Int32 → (Nat → Int32) → (Nat → Int32) → (Nat → Int32) → Prop} (hw : wpX53_range post f_rows f_things f_heads f_values f_uppers f_chosen f_fresh f_has f_but f_kept x1 x2 x3) :
    Met l yX53_range (ws_ yX53_range cX53_range 8 (some .int)) ({ frames := 3, cells := 0, slots := 0, locals := 71 } : Room) (kPc (dC, dI) cl (tX53 d) [.ref (ad 0), .int x1, .int x2, .int x3] sz (wX53 ci ad d f_thrown f_rows f_things f_heads f_values f_uppers f_chosen f_seen f_fresh f_has f_but f_kept)) (va_Qi (fun (r : Int32) (u : Int32 × Int32 × (Nat → Int32) × (Nat → Int32) × (Nat → Int32)) => post r (u.1) (u.2.1) (u.2.2.1) (u.2.2.2.1) (u.2.2.2.2)) (kB (dC, dI) cl (tX53 d) (va_A (wX53 ci ad d f_thrown f_rows f_things f_heads f_values f_uppers f_chosen f_seen f_fresh f_has f_but f_kept) sz) (fun u : Int32 × Int32 × (Nat → Int32) × (Nat → Int32) × (Nat → Int32) => (wX53 ci ad d (u.1) f_rows f_things f_heads f_values f_uppers f_chosen f_seen (u.2.1) (u.2.2.1) (u.2.2.2.1) (u.2.2.2.2)))) (va_A (wX53 ci ad d f_thrown f_rows f_things f_heads f_values f_uppers f_chosen f_seen f_fresh f_has f_but f_kept) sz)) 0 0 (va_A (wX53 ci ad d f_thrown f_rows f_things f_heads f_values f_uppers f_chosen f_seen f_fresh f_has f_but f_kept) sz) := by
  refine k_enter (by decide) (Nat.le_of_ble_eq_true rfl) ?_
  intro p e s m below meth c ls X hsz hH hl
  subst hsz
  generalize va_A (wX53 ci ad d f_thrown f_rows f_things f_heads f_values f_uppers f_chosen f_seen f_fresh f_has f_but f_kept) s.heap.size = A at hH ⊢
  have hx := X.1.1
  have hb := X.1.2.1
  have hl : lv_has ls 8 [(0, .ref (ad 0)), (1, .int x1), (2, .int x2), (3, .int x3)] := hl
  unfold wpX53_range at hw
  refine lv_aload_n hx hb dX53_range_0 rfl (lv_at hl 0 rfl) ?_
  refine lv_iconst (v := 0) hx hb dX53_range_1 (by decide) ?_
  refine k_put X hH in_X53 tyX53_ok nmX53 0 rfl hc 0 (by decide) q6457 rfl (ty := .int) rfl rfl rfl (Nat.le_of_ble_eq_true rfl) dX53_range_2 (ws1 := (wX53 ci ad d 0 f_rows f_things f_heads f_values f_uppers f_chosen f_seen f_fresh f_has f_but f_kept)) rfl (fun H locs hH => ?_)
  refine lv_aload_n hx hb dX53_range_5 rfl (lv_at hl 0 rfl) ?_
  refine k_v0 hH (k_runV (As := []) (rest := []) X hH.1 hH.2.1 X.2.2.2 (walkX53_reckon hc hw) (cwV 0 X.1.2.2.2.2 gX53_74 rfl rfl rfl hX53_reckon ⟨Nat.le_of_ble_eq_true rfl, Nat.le_of_ble_eq_true rfl⟩) hc (q0 := 0) rfl rfl hl.1 rfl (Nat.le_of_ble_eq_true rfl) dX53_range_6 ⟨Nat.le_refl 0, Nat.le_refl 0⟩) (fun u H locs hw hH => ?_)
  obtain ⟨f_fresh_1, f_has_2, f_but_3, f_kept_4⟩ := u
  have hH : kH (dC, dI) cl A s.heap H locs (wX53 ci ad d 0 f_rows f_things f_heads f_values f_uppers f_chosen f_seen f_fresh_1 f_has_2 f_but_3 f_kept_4) := hH
  refine lv_iload_n hx hb dX53_range_9 rfl (lv_at hl 1 rfl) ?_
  refine k_i0 hH (k_runS (As := [.int x1]) (rest := []) X hH.1 hH.2.1 X.2.2.2 (walkX53_isHead hc hw) (va_cwS 1 X.1.2.2.2.2 gX53_49 rfl rfl rfl hX53_isHead ⟨Nat.le_of_ble_eq_true rfl, Nat.le_of_ble_eq_true rfl⟩) rfl hl.1 rfl (Nat.le_of_ble_eq_true rfl) dX53_range_10 ⟨Nat.le_refl 0, Nat.le_refl 0⟩) (fun r_5 _ H locs hw hH => ?_)
  have hH : kH (dC, dI) cl A s.heap H locs (wX53 ci ad d 0 f_rows f_things f_heads f_values f_uppers f_chosen f_seen f_fresh_1 f_has_2 f_but_3 f_kept_4) := hH
  refine lv_if_ne (tgt := 18) hx hb dX53_range_13 (by decide) (fun c_6 => ?_) (fun c_6 => ?_)
  · have hw := hw.2 c_6
    refine lv_iconst (v := 0) hx hb dX53_range_18 (by decide) ?_
    refine lv_istore (lv' := [(4, .int 0), (0, .ref (ad 0)), (1, .int x1), (2, .int x2), (3, .int x3)]) hx hb dX53_range_19 hl (by decide) rfl (fun ls hl => ?_)
    refine lv_iconst (v := 0) hx hb dX53_range_21 (by decide) ?_
    refine lv_istore (lv' := [(5, .int 0), (4, .int 0), (0, .ref (ad 0)), (1, .int x1), (2, .int x2), (3, .int x3)]) hx hb dX53_range_22 hl (by decide) rfl (fun ls hl => ?_)
    obtain ⟨fu, hw⟩ := hw
    refine atX53_range_24 hc X ?_ fu 0 0 hw _ _ ls hH (lv_sub hl [2, 3, 4, 5, 1, 0] rfl)
    · intro x4_28 hw H locs ls hH hl
      refine lv_iload hx hb dX53_range_126 (lv_at hl 0 rfl) ?_
      exact k_iret (v := x4_28) X hH (0, f_fresh_1, f_has_2, f_but_3, f_kept_4) hw rfl rfl dX53_range_128
  · have hw := hw.1 c_6
    refine lv_iconst (v := (-1)) hx hb dX53_range_16 (by decide) ?_
    exact k_iret (v := (-1)) X hH (0, f_fresh_1, f_has_2, f_but_3, f_kept_4) hw rfl rfl dX53_range_17
set_option maxHeartbeats 4000000 in
theorem atX53_sum_48 {p : Program} {l : Launch} {e : Env} {s : State} {m : MethodId} {args : Array Value} {below : List Frame} {meth : Method} {c : Code} {dC : Nat → ClassId} {dI : Nat → Nat → Nat} {cl : List vw_C} {ci : Nat} (hc : cl[ci]? = some (RX53, TX53, 12)) {ad : Nat → Nat} {d : Nat → ClassId} {A : Nat → Prop} {post : Int32 → Int32 → Int32 → (Nat → Int32) → (Nat → Int32) → (Nat → Int32) → Prop} {f_rows : Int32} {f_things : Nat → Int32} {f_heads : Nat → Int32} {f_values : Nat → Int32} {f_uppers : Nat → Int32} {f_chosen : Nat → Int32} {f_seen : Nat → Int32} (X : kX p s m args meth c cX53_sum 7 RX53 (some .int) (dC, dI) cl (tX53 d)) {K113 : Int32 → Prop} {x1 : Int32} {x2 : Int32} {x3 : Int32} {x5 : Int32} {f_thrown : Int32} {f_fresh : Int32} {f_has : Nat → Int32} {f_but : Nat → Int32} {f_kept : Nat → Int32} (hk113 : ∀ (x4 : Int32), K113 x4 → ∀ (H : Heap) (locs : List Loc) (ls : Array Slot), kH (dC, dI) cl A s.heap H locs (wX53 ci ad d f_thrown f_rows f_things f_heads f_values f_uppers f_chosen f_seen f_fresh f_has f_but f_kept) → lv_has ls 7 [(0, .ref (ad 0)), (1, .int x1), (2, .int x2), (3, .int x3), (4, .int x4), (5, .int x5)] → W p l e ({ frames := 3, cells := 0, slots := 0, locals := 71 } : Room) s m args below meth c H locs 0 0 (MQ below (va_Qi (fun (r : Int32) (u : Int32 × Int32 × (Nat → Int32) × (Nat → Int32) × (Nat → Int32)) => post r (u.1) (u.2.1) (u.2.2.1) (u.2.2.2.1) (u.2.2.2.2)) (kB (dC, dI) cl (tX53 d) A (fun u : Int32 × Int32 × (Nat → Int32) × (Nat → Int32) × (Nat → Int32) => (wX53 ci ad d (u.1) f_rows f_things f_heads f_values f_uppers f_chosen f_seen (u.2.1) (u.2.2.1) (u.2.2.2.1) (u.2.2.2.2)))) A) args s 0 0 A) (F0 m 113 ls [])) :
    ∀ (nn : Nat) (x4 : Int32) (x6 : Int32), wX53_sum_48 K113 x1 x2 x3 x5 f_has f_kept nn x4 x6 → ∀ (H : Heap) (locs : List Loc) (ls : Array Slot), kH (dC, dI) cl A s.heap H locs (wX53 ci ad d f_thrown f_rows f_things f_heads f_values f_uppers f_chosen f_seen f_fresh f_has f_but f_kept) → lv_has ls 7 [(0, .ref (ad 0)), (1, .int x1), (2, .int x2), (3, .int x3), (4, .int x4), (5, .int x5), (6, .int x6)] → W p l e ({ frames := 3, cells := 0, slots := 0, locals := 71 } : Room) s m args below meth c H locs 0 0 (MQ below (va_Qi (fun (r : Int32) (u : Int32 × Int32 × (Nat → Int32) × (Nat → Int32) × (Nat → Int32)) => post r (u.1) (u.2.1) (u.2.2.1) (u.2.2.2.1) (u.2.2.2.2)) (kB (dC, dI) cl (tX53 d) A (fun u : Int32 × Int32 × (Nat → Int32) × (Nat → Int32) × (Nat → Int32) => (wX53 ci ad d (u.1) f_rows f_things f_heads f_values f_uppers f_chosen f_seen (u.2.1) (u.2.2.1) (u.2.2.2.1) (u.2.2.2.2)))) A) args s 0 0 A) (F0 m 48 ls []) := by
  have hx := X.1.1
  have hb := X.1.2.1
  intro nn
  induction nn with
  | zero =>
    intro x4 x6 hw
    exact False.elim hw
  | succ n ih =>
    intro x4 x6 hw H locs ls hH hl
    rw [wX53_sum_48] at hw
    refine lv_iload hx hb dX53_sum_48 (lv_at hl 6 rfl) ?_
    refine lv_bipush (v := 32) hx hb dX53_sum_50 (by decide) ?_
    refine lv_icmp_ge (tgt := 113) hx hb dX53_sum_52 (by decide) (fun c_12 => ?_) (fun c_12 => ?_)
    · have hw := hw.1 c_12
      exact hk113 x4 hw _ _ ls hH (lv_sub hl [0, 1, 2, 3, 4, 5] rfl)
    · have hw := hw.2 c_12
      refine lv_aload_n hx hb dX53_sum_55 rfl (lv_at hl 0 rfl) ?_
      refine k_get X hH in_X53 0 rfl hc 11 (by decide) q6468 rfl dX53_sum_56 ?_
      refine lv_iload hx hb dX53_sum_59 (lv_at hl 5 rfl) ?_
      refine k_zald X hH 9 8 rfl rfl hw.1 dX53_sum_61 ?_
      have hw := hw.2
      refine lv_if_eq (tgt := 113) hx hb dX53_sum_62 (by decide) (fun c_13 => ?_) (fun c_13 => ?_)
      · have hw := hw.1 c_13
        exact hk113 x4 hw _ _ ls hH (lv_sub hl [0, 1, 2, 3, 4, 5] rfl)
      · have hw := hw.2 c_13
        refine lv_aload_n hx hb dX53_sum_65 rfl (lv_at hl 0 rfl) ?_
        refine k_get X hH in_X53 0 rfl hc 9 (by decide) q6466 rfl dX53_sum_66 ?_
        refine lv_iload hx hb dX53_sum_69 (lv_at hl 5 rfl) ?_
        refine lv_iload_n hx hb dX53_sum_71 rfl (lv_at hl 1 rfl) ?_
        refine lv_iload_n hx hb dX53_sum_72 rfl (lv_at hl 2 rfl) ?_
        refine k_i0 hH (k_runS (As := [.int x5, .int x1, .int x2]) (rest := [.ref (ad 7)]) X hH.1 hH.2.1 X.2.2.2 (walkX53_place hc hw) (va_cwS 3 X.1.2.2.2.2 gX53_67 rfl rfl rfl hX53_place ⟨Nat.le_of_ble_eq_true rfl, Nat.le_of_ble_eq_true rfl⟩) rfl hl.1 rfl (Nat.le_of_ble_eq_true rfl) dX53_sum_73 ⟨Nat.le_refl 0, Nat.le_refl 0⟩) (fun r_14 _ H locs hw hH => ?_)
        have hH : kH (dC, dI) cl A s.heap H locs (wX53 ci ad d f_thrown f_rows f_things f_heads f_values f_uppers f_chosen f_seen f_fresh f_has f_but f_kept) := hH
        refine k_zald X hH 7 6 rfl rfl hw.1 dX53_sum_76 ?_
        have hw := hw.2
        refine lv_if_eq (tgt := 113) hx hb dX53_sum_77 (by decide) (fun c_15 => ?_) (fun c_15 => ?_)
        · have hw := hw.1 c_15
          exact hk113 x4 hw _ _ ls hH (lv_sub hl [0, 1, 2, 3, 4, 5] rfl)
        · have hw := hw.2 c_15
          refine lv_iload hx hb dX53_sum_80 (lv_at hl 4 rfl) ?_
          refine lv_aload_n hx hb dX53_sum_82 rfl (lv_at hl 0 rfl) ?_
          refine k_get X hH in_X53 0 rfl hc 9 (by decide) q6466 rfl dX53_sum_83 ?_
          refine lv_iload hx hb dX53_sum_86 (lv_at hl 5 rfl) ?_
          refine lv_iload_n hx hb dX53_sum_88 rfl (lv_at hl 3 rfl) ?_
          refine lv_iload hx hb dX53_sum_89 (lv_at hl 6 rfl) ?_
          refine k_i0 hH (k_runS (As := [.int x5, .int x3, .int x6]) (rest := [.ref (ad 7), .int x4]) X hH.1 hH.2.1 X.2.2.2 (walkX53_place hc hw) (va_cwS 3 X.1.2.2.2.2 gX53_67 rfl rfl rfl hX53_place ⟨Nat.le_of_ble_eq_true rfl, Nat.le_of_ble_eq_true rfl⟩) rfl hl.1 rfl (Nat.le_of_ble_eq_true rfl) dX53_sum_91 ⟨Nat.le_refl 0, Nat.le_refl 0⟩) (fun r_16 _ H locs hw hH => ?_)
          have hH : kH (dC, dI) cl A s.heap H locs (wX53 ci ad d f_thrown f_rows f_things f_heads f_values f_uppers f_chosen f_seen f_fresh f_has f_but f_kept) := hH
          refine k_zald X hH 7 6 rfl rfl hw.1 dX53_sum_94 ?_
          have hw := hw.2
          refine lv_if_eq (tgt := 103) hx hb dX53_sum_95 (by decide) (fun c_17 => ?_) (fun c_17 => ?_)
          · have hw := hw.1 c_17
            refine lv_iconst (v := 0) hx hb dX53_sum_103 (by decide) ?_
            refine lv_iadd hx hb dX53_sum_104 ?_
            refine lv_topi (fun x4_18 ex4_18 => ?_)
            have hw := hw x4_18 ex4_18
            refine lv_istore (lv' := [(4, .int x4_18), (0, .ref (ad 0)), (1, .int x1), (2, .int x2), (3, .int x3), (5, .int x5), (6, .int x6)]) hx hb dX53_sum_105 hl (by decide) rfl (fun ls hl => ?_)
            obtain ⟨x6_19, ex6_19⟩ : ∃ y : Int32, y = x6 + 1 := ⟨_, rfl⟩
            have hw := hw x6_19 ex6_19
            refine lv_iinc (v := x6_19) (lv' := [(6, .int x6_19), (4, .int x4_18), (0, .ref (ad 0)), (1, .int x1), (2, .int x2), (3, .int x3), (5, .int x5)]) hx hb dX53_sum_107 hl (k := 6) rfl (by rw [ex6_19]; rfl) (by decide) rfl (fun ls hl => ?_)
            refine lv_goto (tgt := 48) hx hb dX53_sum_110 (by decide) ?_
            exact ih x4_18 x6_19 hw _ _ ls hH (lv_sub hl [2, 3, 4, 5, 1, 6, 0] rfl)
          · have hw := hw.2 c_17
            refine lv_iload hx hb dX53_sum_98 (lv_at hl 6 rfl) ?_
            refine lv_goto (tgt := 104) hx hb dX53_sum_100 (by decide) ?_
            refine lv_iadd hx hb dX53_sum_104 ?_
            refine lv_topi (fun x4_20 ex4_20 => ?_)
            have hw := hw x4_20 ex4_20
            refine lv_istore (lv' := [(4, .int x4_20), (0, .ref (ad 0)), (1, .int x1), (2, .int x2), (3, .int x3), (5, .int x5), (6, .int x6)]) hx hb dX53_sum_105 hl (by decide) rfl (fun ls hl => ?_)
            obtain ⟨x6_21, ex6_21⟩ : ∃ y : Int32, y = x6 + 1 := ⟨_, rfl⟩
            have hw := hw x6_21 ex6_21
            refine lv_iinc (v := x6_21) (lv' := [(6, .int x6_21), (4, .int x4_20), (0, .ref (ad 0)), (1, .int x1), (2, .int x2), (3, .int x3), (5, .int x5)]) hx hb dX53_sum_107 hl (k := 6) rfl (by rw [ex6_21]; rfl) (by decide) rfl (fun ls hl => ?_)
            refine lv_goto (tgt := 48) hx hb dX53_sum_110 (by decide) ?_
            exact ih x4_20 x6_21 hw _ _ ls hH (lv_sub hl [2, 3, 4, 5, 1, 6, 0] rfl)
set_option maxHeartbeats 4000000 in
theorem atX53_sum_38 {p : Program} {l : Launch} {e : Env} {s : State} {m : MethodId} {args : Array Value} {below : List Frame} {meth : Method} {c : Code} {dC : Nat → ClassId} {dI : Nat → Nat → Nat} {cl : List vw_C} {ci : Nat} (hc : cl[ci]? = some (RX53, TX53, 12)) {ad : Nat → Nat} {d : Nat → ClassId} {A : Nat → Prop} {post : Int32 → Int32 → Int32 → (Nat → Int32) → (Nat → Int32) → (Nat → Int32) → Prop} {f_rows : Int32} {f_things : Nat → Int32} {f_heads : Nat → Int32} {f_values : Nat → Int32} {f_uppers : Nat → Int32} {f_chosen : Nat → Int32} {f_seen : Nat → Int32} (X : kX p s m args meth c cX53_sum 7 RX53 (some .int) (dC, dI) cl (tX53 d)) {K119 : Int32 → Prop} {x1 : Int32} {x2 : Int32} {x3 : Int32} {f_thrown : Int32} {f_fresh : Int32} {f_has : Nat → Int32} {f_but : Nat → Int32} {f_kept : Nat → Int32} (hk119 : ∀ (x4 : Int32), K119 x4 → ∀ (H : Heap) (locs : List Loc) (ls : Array Slot), kH (dC, dI) cl A s.heap H locs (wX53 ci ad d f_thrown f_rows f_things f_heads f_values f_uppers f_chosen f_seen f_fresh f_has f_but f_kept) → lv_has ls 7 [(4, .int x4)] → W p l e ({ frames := 3, cells := 0, slots := 0, locals := 71 } : Room) s m args below meth c H locs 0 0 (MQ below (va_Qi (fun (r : Int32) (u : Int32 × Int32 × (Nat → Int32) × (Nat → Int32) × (Nat → Int32)) => post r (u.1) (u.2.1) (u.2.2.1) (u.2.2.2.1) (u.2.2.2.2)) (kB (dC, dI) cl (tX53 d) A (fun u : Int32 × Int32 × (Nat → Int32) × (Nat → Int32) × (Nat → Int32) => (wX53 ci ad d (u.1) f_rows f_things f_heads f_values f_uppers f_chosen f_seen (u.2.1) (u.2.2.1) (u.2.2.2.1) (u.2.2.2.2)))) A) args s 0 0 A) (F0 m 119 ls [])) :
    ∀ (nn : Nat) (x4 : Int32) (x5 : Int32), wX53_sum_38 K119 x1 x2 x3 f_has f_kept nn x4 x5 → ∀ (H : Heap) (locs : List Loc) (ls : Array Slot), kH (dC, dI) cl A s.heap H locs (wX53 ci ad d f_thrown f_rows f_things f_heads f_values f_uppers f_chosen f_seen f_fresh f_has f_but f_kept) → lv_has ls 7 [(0, .ref (ad 0)), (1, .int x1), (2, .int x2), (3, .int x3), (4, .int x4), (5, .int x5)] → W p l e ({ frames := 3, cells := 0, slots := 0, locals := 71 } : Room) s m args below meth c H locs 0 0 (MQ below (va_Qi (fun (r : Int32) (u : Int32 × Int32 × (Nat → Int32) × (Nat → Int32) × (Nat → Int32)) => post r (u.1) (u.2.1) (u.2.2.1) (u.2.2.2.1) (u.2.2.2.2)) (kB (dC, dI) cl (tX53 d) A (fun u : Int32 × Int32 × (Nat → Int32) × (Nat → Int32) × (Nat → Int32) => (wX53 ci ad d (u.1) f_rows f_things f_heads f_values f_uppers f_chosen f_seen (u.2.1) (u.2.2.1) (u.2.2.2.1) (u.2.2.2.2)))) A) args s 0 0 A) (F0 m 38 ls []) := by
  have hx := X.1.1
  have hb := X.1.2.1
  intro nn
  induction nn with
  | zero =>
    intro x4 x5 hw
    exact False.elim hw
  | succ n ih =>
    intro x4 x5 hw H locs ls hH hl
    rw [wX53_sum_38] at hw
    refine lv_iload hx hb dX53_sum_38 (lv_at hl 5 rfl) ?_
    refine lv_bipush (v := 40) hx hb dX53_sum_40 (by decide) ?_
    refine lv_icmp_ge (tgt := 119) hx hb dX53_sum_42 (by decide) (fun c_11 => ?_) (fun c_11 => ?_)
    · have hw := hw.1 c_11
      exact hk119 x4 hw _ _ ls hH (lv_sub hl [4] rfl)
    · have hw := hw.2 c_11
      refine lv_iconst (v := 1) hx hb dX53_sum_45 (by decide) ?_
      refine lv_istore (lv' := [(6, .int 1), (0, .ref (ad 0)), (1, .int x1), (2, .int x2), (3, .int x3), (4, .int x4), (5, .int x5)]) hx hb dX53_sum_46 hl (by decide) rfl (fun ls hl => ?_)
      obtain ⟨fu, hw⟩ := hw
      refine atX53_sum_48 hc X ?_ fu x4 1 hw _ _ ls hH (lv_sub hl [1, 2, 3, 4, 5, 6, 0] rfl)
      · intro x4_22 hw H locs ls hH hl
        obtain ⟨x5_23, ex5_23⟩ : ∃ y : Int32, y = x5 + 1 := ⟨_, rfl⟩
        have hw := hw x5_23 ex5_23
        refine lv_iinc (v := x5_23) (lv' := [(5, .int x5_23), (0, .ref (ad 0)), (1, .int x1), (2, .int x2), (3, .int x3), (4, .int x4_22)]) hx hb dX53_sum_113 hl (k := 5) rfl (by rw [ex5_23]; rfl) (by decide) rfl (fun ls hl => ?_)
        refine lv_goto (tgt := 38) hx hb dX53_sum_116 (by decide) ?_
        exact ih x4_22 x5_23 hw _ _ ls hH (lv_sub hl [1, 2, 3, 4, 5, 0] rfl)
set_option maxHeartbeats 4000000 in
theorem walkX53_sum {l : Launch} {dC : Nat → ClassId} {dI : Nat → Nat → Nat} {cl : List vw_C} {ci : Nat} (hc : cl[ci]? = some (RX53, TX53, 12)) {ad : Nat → Nat} {d : Nat → ClassId} {sz : Nat} {f_thrown : Int32} {f_rows : Int32} {f_things : Nat → Int32} {f_heads : Nat → Int32} {f_values : Nat → Int32} {f_uppers : Nat → Int32} {f_chosen : Nat → Int32} {f_seen : Nat → Int32} {f_fresh : Int32} {f_has : Nat → Int32} {f_but : Nat → Int32} {f_kept : Nat → Int32} {x1 : Int32} {x2 : Int32} {x3 : Int32} {post : Int32 → Int32 → Int32 → (Nat → Int32) → (Nat → Int32) → (Nat → Int32) → Prop} (hw : wpX53_sum post f_rows f_things f_heads f_values f_uppers f_chosen f_fresh f_has f_but f_kept x1 x2 x3) :
    Met l yX53_sum (ws_ yX53_sum cX53_sum 7 (some .int)) ({ frames := 3, cells := 0, slots := 0, locals := 71 } : Room) (kPc (dC, dI) cl (tX53 d) [.ref (ad 0), .int x1, .int x2, .int x3] sz (wX53 ci ad d f_thrown f_rows f_things f_heads f_values f_uppers f_chosen f_seen f_fresh f_has f_but f_kept)) (va_Qi (fun (r : Int32) (u : Int32 × Int32 × (Nat → Int32) × (Nat → Int32) × (Nat → Int32)) => post r (u.1) (u.2.1) (u.2.2.1) (u.2.2.2.1) (u.2.2.2.2)) (kB (dC, dI) cl (tX53 d) (va_A (wX53 ci ad d f_thrown f_rows f_things f_heads f_values f_uppers f_chosen f_seen f_fresh f_has f_but f_kept) sz) (fun u : Int32 × Int32 × (Nat → Int32) × (Nat → Int32) × (Nat → Int32) => (wX53 ci ad d (u.1) f_rows f_things f_heads f_values f_uppers f_chosen f_seen (u.2.1) (u.2.2.1) (u.2.2.2.1) (u.2.2.2.2)))) (va_A (wX53 ci ad d f_thrown f_rows f_things f_heads f_values f_uppers f_chosen f_seen f_fresh f_has f_but f_kept) sz)) 0 0 (va_A (wX53 ci ad d f_thrown f_rows f_things f_heads f_values f_uppers f_chosen f_seen f_fresh f_has f_but f_kept) sz) := by
  refine k_enter (by decide) (Nat.le_of_ble_eq_true rfl) ?_
  intro p e s m below meth c ls X hsz hH hl
  subst hsz
  generalize va_A (wX53 ci ad d f_thrown f_rows f_things f_heads f_values f_uppers f_chosen f_seen f_fresh f_has f_but f_kept) s.heap.size = A at hH ⊢
  have hx := X.1.1
  have hb := X.1.2.1
  have hl : lv_has ls 7 [(0, .ref (ad 0)), (1, .int x1), (2, .int x2), (3, .int x3)] := hl
  unfold wpX53_sum at hw
  refine lv_aload_n hx hb dX53_sum_0 rfl (lv_at hl 0 rfl) ?_
  refine lv_iconst (v := 0) hx hb dX53_sum_1 (by decide) ?_
  refine k_put X hH in_X53 tyX53_ok nmX53 0 rfl hc 0 (by decide) q6457 rfl (ty := .int) rfl rfl rfl (Nat.le_of_ble_eq_true rfl) dX53_sum_2 (ws1 := (wX53 ci ad d 0 f_rows f_things f_heads f_values f_uppers f_chosen f_seen f_fresh f_has f_but f_kept)) rfl (fun H locs hH => ?_)
  refine lv_aload_n hx hb dX53_sum_5 rfl (lv_at hl 0 rfl) ?_
  refine k_v0 hH (k_runV (As := []) (rest := []) X hH.1 hH.2.1 X.2.2.2 (walkX53_reckon hc hw) (cwV 0 X.1.2.2.2.2 gX53_74 rfl rfl rfl hX53_reckon ⟨Nat.le_of_ble_eq_true rfl, Nat.le_of_ble_eq_true rfl⟩) hc (q0 := 0) rfl rfl hl.1 rfl (Nat.le_of_ble_eq_true rfl) dX53_sum_6 ⟨Nat.le_refl 0, Nat.le_refl 0⟩) (fun u H locs hw hH => ?_)
  obtain ⟨f_fresh_1, f_has_2, f_but_3, f_kept_4⟩ := u
  have hH : kH (dC, dI) cl A s.heap H locs (wX53 ci ad d 0 f_rows f_things f_heads f_values f_uppers f_chosen f_seen f_fresh_1 f_has_2 f_but_3 f_kept_4) := hH
  refine lv_iload_n hx hb dX53_sum_9 rfl (lv_at hl 1 rfl) ?_
  refine k_i0 hH (k_runS (As := [.int x1]) (rest := []) X hH.1 hH.2.1 X.2.2.2 (walkX53_isHead hc hw) (va_cwS 1 X.1.2.2.2.2 gX53_49 rfl rfl rfl hX53_isHead ⟨Nat.le_of_ble_eq_true rfl, Nat.le_of_ble_eq_true rfl⟩) rfl hl.1 rfl (Nat.le_of_ble_eq_true rfl) dX53_sum_10 ⟨Nat.le_refl 0, Nat.le_refl 0⟩) (fun r_5 _ H locs hw hH => ?_)
  have hH : kH (dC, dI) cl A s.heap H locs (wX53 ci ad d 0 f_rows f_things f_heads f_values f_uppers f_chosen f_seen f_fresh_1 f_has_2 f_but_3 f_kept_4) := hH
  refine lv_if_eq (tgt := 30) hx hb dX53_sum_13 (by decide) (fun c_6 => ?_) (fun c_6 => ?_)
  · have hw := hw.1 c_6
    refine lv_iconst (v := (-1)) hx hb dX53_sum_30 (by decide) ?_
    exact k_iret (v := (-1)) X hH (0, f_fresh_1, f_has_2, f_but_3, f_kept_4) hw rfl rfl dX53_sum_31
  · have hw := hw.2 c_6
    refine lv_iload_n hx hb dX53_sum_16 rfl (lv_at hl 2 rfl) ?_
    refine k_i0 hH (k_runS (As := [.int x2]) (rest := []) X hH.1 hH.2.1 X.2.2.2 (walkX53_isValue hc hw) (va_cwS 1 X.1.2.2.2.2 gX53_52 rfl rfl rfl hX53_isValue ⟨Nat.le_of_ble_eq_true rfl, Nat.le_of_ble_eq_true rfl⟩) rfl hl.1 rfl (Nat.le_of_ble_eq_true rfl) dX53_sum_17 ⟨Nat.le_refl 0, Nat.le_refl 0⟩) (fun r_7 _ H locs hw hH => ?_)
    have hH : kH (dC, dI) cl A s.heap H locs (wX53 ci ad d 0 f_rows f_things f_heads f_values f_uppers f_chosen f_seen f_fresh_1 f_has_2 f_but_3 f_kept_4) := hH
    refine lv_if_eq (tgt := 30) hx hb dX53_sum_20 (by decide) (fun c_8 => ?_) (fun c_8 => ?_)
    · have hw := hw.1 c_8
      refine lv_iconst (v := (-1)) hx hb dX53_sum_30 (by decide) ?_
      exact k_iret (v := (-1)) X hH (0, f_fresh_1, f_has_2, f_but_3, f_kept_4) hw rfl rfl dX53_sum_31
    · have hw := hw.2 c_8
      refine lv_iload_n hx hb dX53_sum_23 rfl (lv_at hl 3 rfl) ?_
      refine k_i0 hH (k_runS (As := [.int x3]) (rest := []) X hH.1 hH.2.1 X.2.2.2 (walkX53_isHead hc hw) (va_cwS 1 X.1.2.2.2.2 gX53_49 rfl rfl rfl hX53_isHead ⟨Nat.le_of_ble_eq_true rfl, Nat.le_of_ble_eq_true rfl⟩) rfl hl.1 rfl (Nat.le_of_ble_eq_true rfl) dX53_sum_24 ⟨Nat.le_refl 0, Nat.le_refl 0⟩) (fun r_9 _ H locs hw hH => ?_)
      have hH : kH (dC, dI) cl A s.heap H locs (wX53 ci ad d 0 f_rows f_things f_heads f_values f_uppers f_chosen f_seen f_fresh_1 f_has_2 f_but_3 f_kept_4) := hH
      refine lv_if_ne (tgt := 32) hx hb dX53_sum_27 (by decide) (fun c_10 => ?_) (fun c_10 => ?_)
      · have hw := hw.2 c_10
        refine lv_iconst (v := 0) hx hb dX53_sum_32 (by decide) ?_
        refine lv_istore (lv' := [(4, .int 0), (0, .ref (ad 0)), (1, .int x1), (2, .int x2), (3, .int x3)]) hx hb dX53_sum_33 hl (by decide) rfl (fun ls hl => ?_)
        refine lv_iconst (v := 0) hx hb dX53_sum_35 (by decide) ?_
        refine lv_istore (lv' := [(5, .int 0), (4, .int 0), (0, .ref (ad 0)), (1, .int x1), (2, .int x2), (3, .int x3)]) hx hb dX53_sum_36 hl (by decide) rfl (fun ls hl => ?_)
        obtain ⟨fu, hw⟩ := hw
        refine atX53_sum_38 hc X ?_ fu 0 0 hw _ _ ls hH (lv_sub hl [2, 3, 4, 5, 1, 0] rfl)
        · intro x4_24 hw H locs ls hH hl
          refine lv_iload hx hb dX53_sum_119 (lv_at hl 0 rfl) ?_
          exact k_iret (v := x4_24) X hH (0, f_fresh_1, f_has_2, f_but_3, f_kept_4) hw rfl rfl dX53_sum_121
      · have hw := hw.1 c_10
        refine lv_iconst (v := (-1)) hx hb dX53_sum_30 (by decide) ?_
        exact k_iret (v := (-1)) X hH (0, f_fresh_1, f_has_2, f_but_3, f_kept_4) hw rfl rfl dX53_sum_31
set_option maxHeartbeats 4000000 in
theorem atX53_changed_21 {p : Program} {l : Launch} {e : Env} {s : State} {m : MethodId} {args : Array Value} {below : List Frame} {meth : Method} {c : Code} {dC : Nat → ClassId} {dI : Nat → Nat → Nat} {cl : List vw_C} {ci : Nat} (hc : cl[ci]? = some (RX53, TX53, 12)) {ad : Nat → Nat} {d : Nat → ClassId} {A : Nat → Prop} {post : Int32 → Int32 → (Nat → Int32) → Int32 → (Nat → Int32) → (Nat → Int32) → (Nat → Int32) → Prop} {f_rows : Int32} {f_things : Nat → Int32} {f_heads : Nat → Int32} {f_values : Nat → Int32} {f_uppers : Nat → Int32} {f_chosen : Nat → Int32} (X : kX p s m args meth c cX53_changed 5 RX53 (some .int) (dC, dI) cl (tX53 d)) {K78 : Int32 → (Nat → Int32) → Prop} {x2 : Int32} {f_thrown : Int32} {f_fresh : Int32} {f_has : Nat → Int32} {f_but : Nat → Int32} {f_kept : Nat → Int32} (hk78 : ∀ (x1 : Int32) (f_seen : Nat → Int32), K78 x1 f_seen → ∀ (H : Heap) (locs : List Loc) (ls : Array Slot), kH (dC, dI) cl A s.heap H locs (wX53 ci ad d f_thrown f_rows f_things f_heads f_values f_uppers f_chosen f_seen f_fresh f_has f_but f_kept) → lv_has ls 5 [(0, .ref (ad 0)), (1, .int x1), (2, .int x2)] → W p l e ({ frames := 3, cells := 0, slots := 0, locals := 71 } : Room) s m args below meth c H locs 0 0 (MQ below (va_Qi (fun (r : Int32) (u : Int32 × (Nat → Int32) × Int32 × (Nat → Int32) × (Nat → Int32) × (Nat → Int32)) => post r (u.1) (u.2.1) (u.2.2.1) (u.2.2.2.1) (u.2.2.2.2.1) (u.2.2.2.2.2)) (kB (dC, dI) cl (tX53 d) A (fun u : Int32 × (Nat → Int32) × Int32 × (Nat → Int32) × (Nat → Int32) × (Nat → Int32) => (wX53 ci ad d (u.1) f_rows f_things f_heads f_values f_uppers f_chosen (u.2.1) (u.2.2.1) (u.2.2.2.1) (u.2.2.2.2.1) (u.2.2.2.2.2)))) A) args s 0 0 A) (F0 m 78 ls [])) :
    ∀ (nn : Nat) (x1 : Int32) (x3 : Int32) (f_seen : Nat → Int32), wX53_changed_21 K78 x2 f_has f_but nn x1 x3 f_seen → ∀ (H : Heap) (locs : List Loc) (ls : Array Slot), kH (dC, dI) cl A s.heap H locs (wX53 ci ad d f_thrown f_rows f_things f_heads f_values f_uppers f_chosen f_seen f_fresh f_has f_but f_kept) → lv_has ls 5 [(0, .ref (ad 0)), (1, .int x1), (2, .int x2), (3, .int x3)] → W p l e ({ frames := 3, cells := 0, slots := 0, locals := 71 } : Room) s m args below meth c H locs 0 0 (MQ below (va_Qi (fun (r : Int32) (u : Int32 × (Nat → Int32) × Int32 × (Nat → Int32) × (Nat → Int32) × (Nat → Int32)) => post r (u.1) (u.2.1) (u.2.2.1) (u.2.2.2.1) (u.2.2.2.2.1) (u.2.2.2.2.2)) (kB (dC, dI) cl (tX53 d) A (fun u : Int32 × (Nat → Int32) × Int32 × (Nat → Int32) × (Nat → Int32) × (Nat → Int32) => (wX53 ci ad d (u.1) f_rows f_things f_heads f_values f_uppers f_chosen (u.2.1) (u.2.2.1) (u.2.2.2.1) (u.2.2.2.2.1) (u.2.2.2.2.2)))) A) args s 0 0 A) (F0 m 21 ls []) := by
  have hx := X.1.1
  have hb := X.1.2.1
  intro nn
  induction nn with
  | zero =>
    intro x1 x3 f_seen hw
    exact False.elim hw
  | succ n ih =>
    intro x1 x3 f_seen hw H locs ls hH hl
    rw [wX53_changed_21] at hw
    refine lv_iload_n hx hb dX53_changed_21 rfl (lv_at hl 3 rfl) ?_
    refine lv_bipush (v := 32) hx hb dX53_changed_22 (by decide) ?_
    refine lv_icmp_ge (tgt := 78) hx hb dX53_changed_24 (by decide) (fun c_6 => ?_) (fun c_6 => ?_)
    · have hw := hw.1 c_6
      exact hk78 x1 f_seen hw _ _ ls hH (lv_sub hl [0, 1, 2] rfl)
    · have hw := hw.2 c_6
      refine lv_aload_n hx hb dX53_changed_27 rfl (lv_at hl 0 rfl) ?_
      refine lv_iload_n hx hb dX53_changed_28 rfl (lv_at hl 2 rfl) ?_
      refine lv_iload_n hx hb dX53_changed_29 rfl (lv_at hl 3 rfl) ?_
      refine k_i0 hH (k_runV (As := [.int x2, .int x3]) (rest := []) X hH.1 hH.2.1 X.2.2.2 (walkX53_countOf hc hw) (cwV 2 X.1.2.2.2.2 gX53_77 rfl rfl rfl hX53_countOf ⟨Nat.le_of_ble_eq_true rfl, Nat.le_of_ble_eq_true rfl⟩) hc (q0 := 0) rfl rfl hl.1 rfl (Nat.le_of_ble_eq_true rfl) dX53_changed_30 ⟨Nat.le_refl 0, Nat.le_refl 0⟩) (fun r_7 _ H locs hw hH => ?_)
      have hH : kH (dC, dI) cl A s.heap H locs (wX53 ci ad d f_thrown f_rows f_things f_heads f_values f_uppers f_chosen f_seen f_fresh f_has f_but f_kept) := hH
      refine lv_istore (lv' := [(4, .int r_7), (0, .ref (ad 0)), (1, .int x1), (2, .int x2), (3, .int x3)]) hx hb dX53_changed_33 hl (by decide) rfl (fun ls hl => ?_)
      refine lv_iload_n hx hb dX53_changed_35 rfl (lv_at hl 2 rfl) ?_
      refine lv_iload hx hb dX53_changed_36 (lv_at hl 0 rfl) ?_
      refine lv_aload_n hx hb dX53_changed_38 rfl (lv_at hl 1 rfl) ?_
      refine k_get X hH in_X53 0 rfl hc 7 (by decide) q6464 rfl dX53_changed_39 ?_
      refine lv_bipush (v := 32) hx hb dX53_changed_42 (by decide) ?_
      refine lv_iload_n hx hb dX53_changed_44 rfl (lv_at hl 3 rfl) ?_
      refine lv_imul hx hb dX53_changed_45 ?_
      refine lv_iload_n hx hb dX53_changed_46 rfl (lv_at hl 4 rfl) ?_
      refine lv_iadd hx hb dX53_changed_47 ?_
      refine k_iald X hH 6 5 rfl rfl hw.1 dX53_changed_48 ?_
      have hw := hw.2
      refine lv_icmp_eq (tgt := 56) hx hb dX53_changed_49 (by decide) (fun c_8 => ?_) (fun c_8 => ?_)
      · have hw := hw.1 c_8
        refine lv_iconst (v := 0) hx hb dX53_changed_56 (by decide) ?_
        refine lv_iadd hx hb dX53_changed_57 ?_
        refine lv_topi (fun x1_9 ex1_9 => ?_)
        have hw := hw x1_9 ex1_9
        refine lv_istore_n (lv' := [(1, .int x1_9), (4, .int r_7), (0, .ref (ad 0)), (2, .int x2), (3, .int x3)]) hx hb dX53_changed_58 rfl hl (by decide) rfl (fun ls hl => ?_)
        refine lv_aload_n hx hb dX53_changed_59 rfl (lv_at hl 2 rfl) ?_
        refine k_get X hH in_X53 0 rfl hc 7 (by decide) q6464 rfl dX53_changed_60 ?_
        refine lv_bipush (v := 32) hx hb dX53_changed_63 (by decide) ?_
        refine lv_iload_n hx hb dX53_changed_65 rfl (lv_at hl 3 rfl) ?_
        refine lv_imul hx hb dX53_changed_66 ?_
        refine lv_iload_n hx hb dX53_changed_67 rfl (lv_at hl 4 rfl) ?_
        refine lv_iadd hx hb dX53_changed_68 ?_
        refine lv_iload hx hb dX53_changed_69 (lv_at hl 1 rfl) ?_
        obtain ⟨f_seen_10, ef_seen_10⟩ : ∃ y : Nat → Int32, y = upd f_seen ((32 * x2) + x3).toNatClampNeg r_7 := ⟨_, rfl⟩
        refine k_iast X hH 6 5 rfl rfl hw.1 dX53_changed_71 ef_seen_10 (ws1 := (wX53 ci ad d f_thrown f_rows f_things f_heads f_values f_uppers f_chosen f_seen_10 f_fresh f_has f_but f_kept)) rfl (fun H locs hH => ?_)
        have hw := hw.2 f_seen_10 ef_seen_10
        obtain ⟨x3_11, ex3_11⟩ : ∃ y : Int32, y = x3 + 1 := ⟨_, rfl⟩
        have hw := hw x3_11 ex3_11
        refine lv_iinc (v := x3_11) (lv' := [(3, .int x3_11), (1, .int x1_9), (4, .int r_7), (0, .ref (ad 0)), (2, .int x2)]) hx hb dX53_changed_72 hl (k := 4) rfl (by rw [ex3_11]; rfl) (by decide) rfl (fun ls hl => ?_)
        refine lv_goto (tgt := 21) hx hb dX53_changed_75 (by decide) ?_
        exact ih x1_9 x3_11 f_seen_10 hw _ _ ls hH (lv_sub hl [3, 1, 4, 0] rfl)
      · have hw := hw.2 c_8
        refine lv_iconst (v := 1) hx hb dX53_changed_52 (by decide) ?_
        refine lv_goto (tgt := 57) hx hb dX53_changed_53 (by decide) ?_
        refine lv_iadd hx hb dX53_changed_57 ?_
        refine lv_topi (fun x1_12 ex1_12 => ?_)
        have hw := hw x1_12 ex1_12
        refine lv_istore_n (lv' := [(1, .int x1_12), (4, .int r_7), (0, .ref (ad 0)), (2, .int x2), (3, .int x3)]) hx hb dX53_changed_58 rfl hl (by decide) rfl (fun ls hl => ?_)
        refine lv_aload_n hx hb dX53_changed_59 rfl (lv_at hl 2 rfl) ?_
        refine k_get X hH in_X53 0 rfl hc 7 (by decide) q6464 rfl dX53_changed_60 ?_
        refine lv_bipush (v := 32) hx hb dX53_changed_63 (by decide) ?_
        refine lv_iload_n hx hb dX53_changed_65 rfl (lv_at hl 3 rfl) ?_
        refine lv_imul hx hb dX53_changed_66 ?_
        refine lv_iload_n hx hb dX53_changed_67 rfl (lv_at hl 4 rfl) ?_
        refine lv_iadd hx hb dX53_changed_68 ?_
        refine lv_iload hx hb dX53_changed_69 (lv_at hl 1 rfl) ?_
        obtain ⟨f_seen_13, ef_seen_13⟩ : ∃ y : Nat → Int32, y = upd f_seen ((32 * x2) + x3).toNatClampNeg r_7 := ⟨_, rfl⟩
        refine k_iast X hH 6 5 rfl rfl hw.1 dX53_changed_71 ef_seen_13 (ws1 := (wX53 ci ad d f_thrown f_rows f_things f_heads f_values f_uppers f_chosen f_seen_13 f_fresh f_has f_but f_kept)) rfl (fun H locs hH => ?_)
        have hw := hw.2 f_seen_13 ef_seen_13
        obtain ⟨x3_14, ex3_14⟩ : ∃ y : Int32, y = x3 + 1 := ⟨_, rfl⟩
        have hw := hw x3_14 ex3_14
        refine lv_iinc (v := x3_14) (lv' := [(3, .int x3_14), (1, .int x1_12), (4, .int r_7), (0, .ref (ad 0)), (2, .int x2)]) hx hb dX53_changed_72 hl (k := 4) rfl (by rw [ex3_14]; rfl) (by decide) rfl (fun ls hl => ?_)
        refine lv_goto (tgt := 21) hx hb dX53_changed_75 (by decide) ?_
        exact ih x1_12 x3_14 f_seen_13 hw _ _ ls hH (lv_sub hl [3, 1, 4, 0] rfl)
set_option maxHeartbeats 4000000 in
theorem atX53_changed_13 {p : Program} {l : Launch} {e : Env} {s : State} {m : MethodId} {args : Array Value} {below : List Frame} {meth : Method} {c : Code} {dC : Nat → ClassId} {dI : Nat → Nat → Nat} {cl : List vw_C} {ci : Nat} (hc : cl[ci]? = some (RX53, TX53, 12)) {ad : Nat → Nat} {d : Nat → ClassId} {A : Nat → Prop} {post : Int32 → Int32 → (Nat → Int32) → Int32 → (Nat → Int32) → (Nat → Int32) → (Nat → Int32) → Prop} {f_rows : Int32} {f_things : Nat → Int32} {f_heads : Nat → Int32} {f_values : Nat → Int32} {f_uppers : Nat → Int32} {f_chosen : Nat → Int32} (X : kX p s m args meth c cX53_changed 5 RX53 (some .int) (dC, dI) cl (tX53 d)) {K84 : Int32 → (Nat → Int32) → Prop}  {f_thrown : Int32} {f_fresh : Int32} {f_has : Nat → Int32} {f_but : Nat → Int32} {f_kept : Nat → Int32} (hk84 : ∀ (x1 : Int32) (f_seen : Nat → Int32), K84 x1 f_seen → ∀ (H : Heap) (locs : List Loc) (ls : Array Slot), kH (dC, dI) cl A s.heap H locs (wX53 ci ad d f_thrown f_rows f_things f_heads f_values f_uppers f_chosen f_seen f_fresh f_has f_but f_kept) → lv_has ls 5 [(1, .int x1)] → W p l e ({ frames := 3, cells := 0, slots := 0, locals := 71 } : Room) s m args below meth c H locs 0 0 (MQ below (va_Qi (fun (r : Int32) (u : Int32 × (Nat → Int32) × Int32 × (Nat → Int32) × (Nat → Int32) × (Nat → Int32)) => post r (u.1) (u.2.1) (u.2.2.1) (u.2.2.2.1) (u.2.2.2.2.1) (u.2.2.2.2.2)) (kB (dC, dI) cl (tX53 d) A (fun u : Int32 × (Nat → Int32) × Int32 × (Nat → Int32) × (Nat → Int32) × (Nat → Int32) => (wX53 ci ad d (u.1) f_rows f_things f_heads f_values f_uppers f_chosen (u.2.1) (u.2.2.1) (u.2.2.2.1) (u.2.2.2.2.1) (u.2.2.2.2.2)))) A) args s 0 0 A) (F0 m 84 ls [])) :
    ∀ (nn : Nat) (x1 : Int32) (x2 : Int32) (f_seen : Nat → Int32), wX53_changed_13 K84 f_has f_but nn x1 x2 f_seen → ∀ (H : Heap) (locs : List Loc) (ls : Array Slot), kH (dC, dI) cl A s.heap H locs (wX53 ci ad d f_thrown f_rows f_things f_heads f_values f_uppers f_chosen f_seen f_fresh f_has f_but f_kept) → lv_has ls 5 [(0, .ref (ad 0)), (1, .int x1), (2, .int x2)] → W p l e ({ frames := 3, cells := 0, slots := 0, locals := 71 } : Room) s m args below meth c H locs 0 0 (MQ below (va_Qi (fun (r : Int32) (u : Int32 × (Nat → Int32) × Int32 × (Nat → Int32) × (Nat → Int32) × (Nat → Int32)) => post r (u.1) (u.2.1) (u.2.2.1) (u.2.2.2.1) (u.2.2.2.2.1) (u.2.2.2.2.2)) (kB (dC, dI) cl (tX53 d) A (fun u : Int32 × (Nat → Int32) × Int32 × (Nat → Int32) × (Nat → Int32) × (Nat → Int32) => (wX53 ci ad d (u.1) f_rows f_things f_heads f_values f_uppers f_chosen (u.2.1) (u.2.2.1) (u.2.2.2.1) (u.2.2.2.2.1) (u.2.2.2.2.2)))) A) args s 0 0 A) (F0 m 13 ls []) := by
  have hx := X.1.1
  have hb := X.1.2.1
  intro nn
  induction nn with
  | zero =>
    intro x1 x2 f_seen hw
    exact False.elim hw
  | succ n ih =>
    intro x1 x2 f_seen hw H locs ls hH hl
    rw [wX53_changed_13] at hw
    refine lv_iload_n hx hb dX53_changed_13 rfl (lv_at hl 2 rfl) ?_
    refine lv_bipush (v := 8) hx hb dX53_changed_14 (by decide) ?_
    refine lv_icmp_ge (tgt := 84) hx hb dX53_changed_16 (by decide) (fun c_5 => ?_) (fun c_5 => ?_)
    · have hw := hw.1 c_5
      exact hk84 x1 f_seen hw _ _ ls hH (lv_sub hl [1] rfl)
    · have hw := hw.2 c_5
      refine lv_iconst (v := 0) hx hb dX53_changed_19 (by decide) ?_
      refine lv_istore_n (lv' := [(3, .int 0), (0, .ref (ad 0)), (1, .int x1), (2, .int x2)]) hx hb dX53_changed_20 rfl hl (by decide) rfl (fun ls hl => ?_)
      obtain ⟨fu, hw⟩ := hw
      refine atX53_changed_21 hc X ?_ fu x1 0 f_seen hw _ _ ls hH (lv_sub hl [1, 2, 3, 0] rfl)
      · intro x1_15 f_seen_16 hw H locs ls hH hl
        obtain ⟨x2_17, ex2_17⟩ : ∃ y : Int32, y = x2 + 1 := ⟨_, rfl⟩
        have hw := hw x2_17 ex2_17
        refine lv_iinc (v := x2_17) (lv' := [(2, .int x2_17), (0, .ref (ad 0)), (1, .int x1_15)]) hx hb dX53_changed_78 hl (k := 2) rfl (by rw [ex2_17]; rfl) (by decide) rfl (fun ls hl => ?_)
        refine lv_goto (tgt := 13) hx hb dX53_changed_81 (by decide) ?_
        exact ih x1_15 x2_17 f_seen_16 hw _ _ ls hH (lv_sub hl [1, 2, 0] rfl)
set_option maxHeartbeats 4000000 in
theorem walkX53_changed {l : Launch} {dC : Nat → ClassId} {dI : Nat → Nat → Nat} {cl : List vw_C} {ci : Nat} (hc : cl[ci]? = some (RX53, TX53, 12)) {ad : Nat → Nat} {d : Nat → ClassId} {sz : Nat} {f_thrown : Int32} {f_rows : Int32} {f_things : Nat → Int32} {f_heads : Nat → Int32} {f_values : Nat → Int32} {f_uppers : Nat → Int32} {f_chosen : Nat → Int32} {f_seen : Nat → Int32} {f_fresh : Int32} {f_has : Nat → Int32} {f_but : Nat → Int32} {f_kept : Nat → Int32}  {post : Int32 → Int32 → (Nat → Int32) → Int32 → (Nat → Int32) → (Nat → Int32) → (Nat → Int32) → Prop} (hw : wpX53_changed post f_rows f_things f_heads f_values f_uppers f_chosen f_seen f_fresh f_has f_but f_kept ) :
    Met l yX53_changed (ws_ yX53_changed cX53_changed 5 (some .int)) ({ frames := 3, cells := 0, slots := 0, locals := 71 } : Room) (kPc (dC, dI) cl (tX53 d) [.ref (ad 0)] sz (wX53 ci ad d f_thrown f_rows f_things f_heads f_values f_uppers f_chosen f_seen f_fresh f_has f_but f_kept)) (va_Qi (fun (r : Int32) (u : Int32 × (Nat → Int32) × Int32 × (Nat → Int32) × (Nat → Int32) × (Nat → Int32)) => post r (u.1) (u.2.1) (u.2.2.1) (u.2.2.2.1) (u.2.2.2.2.1) (u.2.2.2.2.2)) (kB (dC, dI) cl (tX53 d) (va_A (wX53 ci ad d f_thrown f_rows f_things f_heads f_values f_uppers f_chosen f_seen f_fresh f_has f_but f_kept) sz) (fun u : Int32 × (Nat → Int32) × Int32 × (Nat → Int32) × (Nat → Int32) × (Nat → Int32) => (wX53 ci ad d (u.1) f_rows f_things f_heads f_values f_uppers f_chosen (u.2.1) (u.2.2.1) (u.2.2.2.1) (u.2.2.2.2.1) (u.2.2.2.2.2)))) (va_A (wX53 ci ad d f_thrown f_rows f_things f_heads f_values f_uppers f_chosen f_seen f_fresh f_has f_but f_kept) sz)) 0 0 (va_A (wX53 ci ad d f_thrown f_rows f_things f_heads f_values f_uppers f_chosen f_seen f_fresh f_has f_but f_kept) sz) := by
  refine k_enter (by decide) (Nat.le_of_ble_eq_true rfl) ?_
  intro p e s m below meth c ls X hsz hH hl
  subst hsz
  generalize va_A (wX53 ci ad d f_thrown f_rows f_things f_heads f_values f_uppers f_chosen f_seen f_fresh f_has f_but f_kept) s.heap.size = A at hH ⊢
  have hx := X.1.1
  have hb := X.1.2.1
  have hl : lv_has ls 5 [(0, .ref (ad 0))] := hl
  unfold wpX53_changed at hw
  refine lv_aload_n hx hb dX53_changed_0 rfl (lv_at hl 0 rfl) ?_
  refine lv_iconst (v := 0) hx hb dX53_changed_1 (by decide) ?_
  refine k_put X hH in_X53 tyX53_ok nmX53 0 rfl hc 0 (by decide) q6457 rfl (ty := .int) rfl rfl rfl (Nat.le_of_ble_eq_true rfl) dX53_changed_2 (ws1 := (wX53 ci ad d 0 f_rows f_things f_heads f_values f_uppers f_chosen f_seen f_fresh f_has f_but f_kept)) rfl (fun H locs hH => ?_)
  refine lv_aload_n hx hb dX53_changed_5 rfl (lv_at hl 0 rfl) ?_
  refine k_v0 hH (k_runV (As := []) (rest := []) X hH.1 hH.2.1 X.2.2.2 (walkX53_reckon hc hw) (cwV 0 X.1.2.2.2.2 gX53_74 rfl rfl rfl hX53_reckon ⟨Nat.le_of_ble_eq_true rfl, Nat.le_of_ble_eq_true rfl⟩) hc (q0 := 0) rfl rfl hl.1 rfl (Nat.le_of_ble_eq_true rfl) dX53_changed_6 ⟨Nat.le_refl 0, Nat.le_refl 0⟩) (fun u H locs hw hH => ?_)
  obtain ⟨f_fresh_1, f_has_2, f_but_3, f_kept_4⟩ := u
  have hH : kH (dC, dI) cl A s.heap H locs (wX53 ci ad d 0 f_rows f_things f_heads f_values f_uppers f_chosen f_seen f_fresh_1 f_has_2 f_but_3 f_kept_4) := hH
  refine lv_iconst (v := 0) hx hb dX53_changed_9 (by decide) ?_
  refine lv_istore_n (lv' := [(1, .int 0), (0, .ref (ad 0))]) hx hb dX53_changed_10 rfl hl (by decide) rfl (fun ls hl => ?_)
  refine lv_iconst (v := 0) hx hb dX53_changed_11 (by decide) ?_
  refine lv_istore_n (lv' := [(2, .int 0), (1, .int 0), (0, .ref (ad 0))]) hx hb dX53_changed_12 rfl hl (by decide) rfl (fun ls hl => ?_)
  obtain ⟨fu, hw⟩ := hw
  refine atX53_changed_13 hc X ?_ fu 0 0 f_seen hw _ _ ls hH (lv_sub hl [2, 1, 0] rfl)
  · intro x1_18 f_seen_19 hw H locs ls hH hl
    refine lv_iload_n hx hb dX53_changed_84 rfl (lv_at hl 0 rfl) ?_
    exact k_iret (v := x1_18) X hH (0, f_seen_19, f_fresh_1, f_has_2, f_but_3, f_kept_4) hw rfl rfl dX53_changed_85
set_option maxHeartbeats 4000000 in
theorem walkX53_rows {l : Launch} {dC : Nat → ClassId} {dI : Nat → Nat → Nat} {cl : List vw_C} {ci : Nat} (hc : cl[ci]? = some (RX53, TX53, 12)) {ad : Nat → Nat} {d : Nat → ClassId} {sz : Nat} {f_thrown : Int32} {f_rows : Int32} {f_things : Nat → Int32} {f_heads : Nat → Int32} {f_values : Nat → Int32} {f_uppers : Nat → Int32} {f_chosen : Nat → Int32} {f_seen : Nat → Int32} {f_fresh : Int32} {f_has : Nat → Int32} {f_but : Nat → Int32} {f_kept : Nat → Int32}  {post : Int32 → Int32 → Prop} (hw : wpX53_rows post f_rows ) :
    Met l yX53_rows (ws_ yX53_rows cX53_rows 1 (some .int)) ({ frames := 0, cells := 0, slots := 0, locals := 0 } : Room) (kPc (dC, dI) cl (tX53 d) [.ref (ad 0)] sz (wX53 ci ad d f_thrown f_rows f_things f_heads f_values f_uppers f_chosen f_seen f_fresh f_has f_but f_kept)) (va_Qi (fun (r : Int32) (u : Int32) => post r (u)) (kB (dC, dI) cl (tX53 d) (va_A (wX53 ci ad d f_thrown f_rows f_things f_heads f_values f_uppers f_chosen f_seen f_fresh f_has f_but f_kept) sz) (fun u : Int32 => (wX53 ci ad d (u) f_rows f_things f_heads f_values f_uppers f_chosen f_seen f_fresh f_has f_but f_kept))) (va_A (wX53 ci ad d f_thrown f_rows f_things f_heads f_values f_uppers f_chosen f_seen f_fresh f_has f_but f_kept) sz)) 0 0 (va_A (wX53 ci ad d f_thrown f_rows f_things f_heads f_values f_uppers f_chosen f_seen f_fresh f_has f_but f_kept) sz) := by
  refine k_enter (by decide) (Nat.le_of_ble_eq_true rfl) ?_
  intro p e s m below meth c ls X hsz hH hl
  subst hsz
  generalize va_A (wX53 ci ad d f_thrown f_rows f_things f_heads f_values f_uppers f_chosen f_seen f_fresh f_has f_but f_kept) s.heap.size = A at hH ⊢
  have hx := X.1.1
  have hb := X.1.2.1
  have hl : lv_has ls 1 [(0, .ref (ad 0))] := hl
  unfold wpX53_rows at hw
  refine lv_aload_n hx hb dX53_rows_0 rfl (lv_at hl 0 rfl) ?_
  refine lv_iconst (v := 0) hx hb dX53_rows_1 (by decide) ?_
  refine k_put X hH in_X53 tyX53_ok nmX53 0 rfl hc 0 (by decide) q6457 rfl (ty := .int) rfl rfl rfl (Nat.le_of_ble_eq_true rfl) dX53_rows_2 (ws1 := (wX53 ci ad d 0 f_rows f_things f_heads f_values f_uppers f_chosen f_seen f_fresh f_has f_but f_kept)) rfl (fun H locs hH => ?_)
  refine lv_aload_n hx hb dX53_rows_5 rfl (lv_at hl 0 rfl) ?_
  refine k_get X hH in_X53 0 rfl hc 1 (by decide) q6458 rfl dX53_rows_6 ?_
  exact k_iret (v := f_rows) X hH (0) hw rfl rfl dX53_rows_9
