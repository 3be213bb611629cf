/-! KnowHouseModel$RightDeskModel (printed by tools/zgen.py) -/
set_option maxRecDepth 100000
set_option maxHeartbeats 4000000 in
theorem walkX51_in {l : Launch} {dC : Nat → ClassId} {dI : Nat → Nat → Nat} {cl : List vw_C} {ci : Nat} (hc : cl[ci]? = some (RX51, TX51, 11)) {ad : Nat → Nat} {d : Nat → ClassId} {sz : Nat} {f_groups : Nat → Int32} {f_kinds : Nat → Int32} {f_as : Nat → Int32} {f_bs : Nat → Int32} {f_cs : Nat → Int32} {f_conditions : Int32} {f_ranks : Nat → Int32} {f_denies : Nat → Int32} {f_wants : Nat → Int32} {f_rules : Int32} {f_holds : Nat → Int32} {x0 : Int32} {x1 : Int32} {post : Int → Prop} (hw : wpX51_in post  x0.toInt x1.toInt) :
    Met l yX51_in (ws_ yX51_in cX51_in 2 (some .boolean)) ({ frames := 0, cells := 0, slots := 0, locals := 0 } : Room) (kPc (dC, dI) cl (tX51 d) [.int x0, .int x1] sz (wX51 ci ad d f_groups f_kinds f_as f_bs f_cs f_conditions f_ranks f_denies f_wants f_rules f_holds)) (va_Qi (fun (r : Int32) (_ : Unit) => post r.toInt) (kB (dC, dI) cl (tX51 d) (va_A (wX51 ci ad d f_groups f_kinds f_as f_bs f_cs f_conditions f_ranks f_denies f_wants f_rules f_holds) sz) (fun _ : Unit => (wX51 ci ad d f_groups f_kinds f_as f_bs f_cs f_conditions f_ranks f_denies f_wants f_rules f_holds))) (va_A (wX51 ci ad d f_groups f_kinds f_as f_bs f_cs f_conditions f_ranks f_denies f_wants f_rules f_holds) sz)) 0 0 (va_A (wX51 ci ad d f_groups f_kinds f_as f_bs f_cs f_conditions f_ranks f_denies f_wants f_rules f_holds) sz) := by
  refine k_enter (by decide) (Nat.le_of_ble_eq_true rfl) ?_
  intro p e s m below meth c ls X hsz hH hl
  subst hsz
  generalize va_A (wX51 ci ad d f_groups f_kinds f_as f_bs f_cs f_conditions f_ranks f_denies f_wants f_rules f_holds) s.heap.size = A at hH ⊢
  have hx := X.1.1
  have hb := X.1.2.1
  have hl : lv_has ls 2 [(0, .int x0), (1, .int x1)] := hl
  unfold wpX51_in at hw
  refine lv_iload_n hx hb dX51_in_0 rfl (lv_at hl 0 rfl) ?_
  refine lv_if_lt (tgt := 13) hx hb dX51_in_1 (by decide) (fun c_1 => ?_) (fun c_1 => ?_)
  · have hw := hw.1 (z_lt (rfl : x0.toInt = _) (rfl : (0 : Int32).toInt = 0) c_1)
    refine lv_iconst (v := 0) hx hb dX51_in_13 (by decide) ?_
    exact k_iret (v := 0) X hH () hw rfl rfl dX51_in_14
  · have hw := hw.2 (z_nlt (rfl : x0.toInt = _) (rfl : (0 : Int32).toInt = 0) c_1)
    refine lv_iload_n hx hb dX51_in_4 rfl (lv_at hl 0 rfl) ?_
    refine lv_iload_n hx hb dX51_in_5 rfl (lv_at hl 1 rfl) ?_
    refine lv_icmp_ge (tgt := 13) hx hb dX51_in_6 (by decide) (fun c_2 => ?_) (fun c_2 => ?_)
    · have hw := hw.1 (z_le (rfl : x1.toInt = _) (rfl : x0.toInt = _) c_2)
      refine lv_iconst (v := 0) hx hb dX51_in_13 (by decide) ?_
      exact k_iret (v := 0) X hH () hw rfl rfl dX51_in_14
    · have hw := hw.2 (z_nle (rfl : x1.toInt = _) (rfl : x0.toInt = _) c_2)
      refine lv_iconst (v := 1) hx hb dX51_in_9 (by decide) ?_
      refine lv_goto (tgt := 14) hx hb dX51_in_10 (by decide) ?_
      exact k_iret (v := 1) X hH () hw rfl rfl dX51_in_14
set_option maxHeartbeats 4000000 in
theorem walkX51_personOf {l : Launch} {dC : Nat → ClassId} {dI : Nat → Nat → Nat} {cl : List vw_C} {ci : Nat} (hc : cl[ci]? = some (RX51, TX51, 11)) {ad : Nat → Nat} {d : Nat → ClassId} {sz : Nat} {f_groups : Nat → Int32} {f_kinds : Nat → Int32} {f_as : Nat → Int32} {f_bs : Nat → Int32} {f_cs : Nat → Int32} {f_conditions : Int32} {f_ranks : Nat → Int32} {f_denies : Nat → Int32} {f_wants : Nat → Int32} {f_rules : Int32} {f_holds : Nat → Int32} {x0 : Int32} {post : Int → Prop} (hw : wpX51_personOf post  x0.toInt) :
    Met l yX51_personOf (ws_ yX51_personOf cX51_personOf 1 (some .int)) ({ frames := 0, cells := 0, slots := 0, locals := 0 } : Room) (kPc (dC, dI) cl (tX51 d) [.int x0] sz (wX51 ci ad d f_groups f_kinds f_as f_bs f_cs f_conditions f_ranks f_denies f_wants f_rules f_holds)) (va_Qi (fun (r : Int32) (_ : Unit) => post r.toInt) (kB (dC, dI) cl (tX51 d) (va_A (wX51 ci ad d f_groups f_kinds f_as f_bs f_cs f_conditions f_ranks f_denies f_wants f_rules f_holds) sz) (fun _ : Unit => (wX51 ci ad d f_groups f_kinds f_as f_bs f_cs f_conditions f_ranks f_denies f_wants f_rules f_holds))) (va_A (wX51 ci ad d f_groups f_kinds f_as f_bs f_cs f_conditions f_ranks f_denies f_wants f_rules f_holds) sz)) 0 0 (va_A (wX51 ci ad d f_groups f_kinds f_as f_bs f_cs f_conditions f_ranks f_denies f_wants f_rules f_holds) sz) := by
  refine k_enter (by decide) (Nat.le_of_ble_eq_true rfl) ?_
  intro p e s m below meth c ls X hsz hH hl
  subst hsz
  generalize va_A (wX51 ci ad d f_groups f_kinds f_as f_bs f_cs f_conditions f_ranks f_denies f_wants f_rules f_holds) s.heap.size = A at hH ⊢
  have hx := X.1.1
  have hb := X.1.2.1
  have hl : lv_has ls 1 [(0, .int x0)] := hl
  unfold wpX51_personOf at hw
  refine lv_iload_n hx hb dX51_personOf_0 rfl (lv_at hl 0 rfl) ?_
  refine lv_sipush (v := 768) hx hb dX51_personOf_1 (by decide) ?_
  have hq_1 := hw.1
  have hw := hw.2
  refine lv_idiv hx hb dX51_personOf_4 (by decide) ?_
  have e_2 := z_div (rfl : x0.toInt = _) (rfl : (768 : Int32).toInt = 768) hq_1 (by decide)
  exact k_iret (v := x0 / 768) X hH () (by rw [show (x0 / 768 : Int32).toInt = _ from e_2]; exact hw) rfl rfl dX51_personOf_5
set_option maxHeartbeats 4000000 in
theorem walkX51_versionOf {l : Launch} {dC : Nat → ClassId} {dI : Nat → Nat → Nat} {cl : List vw_C} {ci : Nat} (hc : cl[ci]? = some (RX51, TX51, 11)) {ad : Nat → Nat} {d : Nat → ClassId} {sz : Nat} {f_groups : Nat → Int32} {f_kinds : Nat → Int32} {f_as : Nat → Int32} {f_bs : Nat → Int32} {f_cs : Nat → Int32} {f_conditions : Int32} {f_ranks : Nat → Int32} {f_denies : Nat → Int32} {f_wants : Nat → Int32} {f_rules : Int32} {f_holds : Nat → Int32} {x0 : Int32} {post : Int → Prop} (hw : wpX51_versionOf post  x0.toInt) :
    Met l yX51_versionOf (ws_ yX51_versionOf cX51_versionOf 1 (some .int)) ({ frames := 0, cells := 0, slots := 0, locals := 0 } : Room) (kPc (dC, dI) cl (tX51 d) [.int x0] sz (wX51 ci ad d f_groups f_kinds f_as f_bs f_cs f_conditions f_ranks f_denies f_wants f_rules f_holds)) (va_Qi (fun (r : Int32) (_ : Unit) => post r.toInt) (kB (dC, dI) cl (tX51 d) (va_A (wX51 ci ad d f_groups f_kinds f_as f_bs f_cs f_conditions f_ranks f_denies f_wants f_rules f_holds) sz) (fun _ : Unit => (wX51 ci ad d f_groups f_kinds f_as f_bs f_cs f_conditions f_ranks f_denies f_wants f_rules f_holds))) (va_A (wX51 ci ad d f_groups f_kinds f_as f_bs f_cs f_conditions f_ranks f_denies f_wants f_rules f_holds) sz)) 0 0 (va_A (wX51 ci ad d f_groups f_kinds f_as f_bs f_cs f_conditions f_ranks f_denies f_wants f_rules f_holds) sz) := by
  refine k_enter (by decide) (Nat.le_of_ble_eq_true rfl) ?_
  intro p e s m below meth c ls X hsz hH hl
  subst hsz
  generalize va_A (wX51 ci ad d f_groups f_kinds f_as f_bs f_cs f_conditions f_ranks f_denies f_wants f_rules f_holds) s.heap.size = A at hH ⊢
  have hx := X.1.1
  have hb := X.1.2.1
  have hl : lv_has ls 1 [(0, .int x0)] := hl
  unfold wpX51_versionOf at hw
  refine lv_iload_n hx hb dX51_versionOf_0 rfl (lv_at hl 0 rfl) ?_
  refine lv_bipush (v := 8) hx hb dX51_versionOf_1 (by decide) ?_
  have hq_1 := hw.1
  have hw := hw.2
  refine lv_irem hx hb dX51_versionOf_3 (by decide) ?_
  have e_2 := z_rem (rfl : x0.toInt = _) (rfl : (8 : Int32).toInt = 8) hq_1 (by decide)
  exact k_iret (v := x0 - x0 / 8 * 8) X hH () (by rw [show (x0 - x0 / 8 * 8 : Int32).toInt = _ from e_2]; exact hw) rfl rfl dX51_versionOf_4
set_option maxHeartbeats 4000000 in
theorem atX51_look_381 {p : Program} {l : Launch} {e : Env} {s : State} {m : MethodId} {args : Array Value} {below : List Frame} {meth : Method} {c : Code} {dC : Nat → ClassId} {dI : Nat → Nat → Nat} {cl : List vw_C} {ci : Nat} (hc : cl[ci]? = some (RX51, TX51, 11)) {ad : Nat → Nat} {d : Nat → ClassId} {A : Nat → Prop} {post : (Int → Int) → Prop} {f_groups : Nat → Int32} {f_kinds : Nat → Int32} {f_as : Nat → Int32} {f_bs : Nat → Int32} {f_cs : Nat → Int32} {f_conditions : Int32} {f_ranks : Nat → Int32} {f_denies : Nat → Int32} {f_wants : Nat → Int32} {f_rules : Int32} (X : kX p s m args meth c cX51_look 13 RX51 none (dC, dI) cl (tX51 d)) {K40 : Int → (Int → Int) → Prop} {x2 : Int32} {x3 : Int32} {x4 : Int32} {x5 : Int32} {x6 : Int32} {x7 : Int32}  (hk40 : ∀ (x8 : Int32) (f_holds : Nat → Int32), K40 x8.toInt (zF f_holds) → ∀ (H : Heap) (locs : List Loc) (ls : Array Slot), kH (dC, dI) cl A s.heap H locs (wX51 ci ad d f_groups f_kinds f_as f_bs f_cs f_conditions f_ranks f_denies f_wants f_rules f_holds) → lv_has ls 13 [(0, .ref (ad 0)), (2, .int x2), (3, .int x3), (4, .int x4), (5, .int x5), (6, .int x6), (7, .int x7), (8, .int x8)] → W p l e ({ frames := 1, cells := 0, slots := 0, locals := 20 } : Room) s m args below meth c H locs 0 0 (MQ below (va_Qv (fun (u : (Nat → Int32)) => post (zF (u))) (kB (dC, dI) cl (tX51 d) A (fun u : (Nat → Int32) => (wX51 ci ad d f_groups f_kinds f_as f_bs f_cs f_conditions f_ranks f_denies f_wants f_rules (u)))) A) args s 0 0 A) (F0 m 40 ls [])) :
    ∀ (x8 : Int32) (y0 : Int32) (y1 : Int32) (f_holds : Nat → Int32), wX51_look_381 K40 x8.toInt y0.toInt y1.toInt (zF f_holds) → ∀ (H : Heap) (locs : List Loc) (ls : Array Slot), kH (dC, dI) cl A s.heap H locs (wX51 ci ad d f_groups f_kinds f_as f_bs f_cs f_conditions f_ranks f_denies f_wants f_rules f_holds) → lv_has ls 13 [(0, .ref (ad 0)), (2, .int x2), (3, .int x3), (4, .int x4), (5, .int x5), (6, .int x6), (7, .int x7), (8, .int x8)] → W p l e ({ frames := 1, cells := 0, slots := 0, locals := 20 } : Room) s m args below meth c H locs 0 0 (MQ below (va_Qv (fun (u : (Nat → Int32)) => post (zF (u))) (kB (dC, dI) cl (tX51 d) A (fun u : (Nat → Int32) => (wX51 ci ad d f_groups f_kinds f_as f_bs f_cs f_conditions f_ranks f_denies f_wants f_rules (u)))) A) args s 0 0 A) (F0 m 381 ls [.int y1, .int y0]) := by
  have hx := X.1.1
  have hb := X.1.2.1
  intro x8 y0 y1 f_holds hw H locs ls hH hl
  unfold wX51_look_381 at hw
  refine lv_iadd hx hb dX51_look_381 ?_
  have e_139 := z_add (z_m (rfl : y0.toInt = _)) (z_m (rfl : y1.toInt = _))
  refine lv_iconst (v := 1) hx hb dX51_look_382 (by decide) ?_
  have hq_141 := hw.1
  have hw := hw.2
  have e_142 := z_x e_139 hq_141
  refine lv_icmp_le (tgt := 390) hx hb dX51_look_383 (by decide) (fun c_140 => ?_) (fun c_140 => ?_)
  · have hw := hw.1 (z_le e_142 (rfl : (1 : Int32).toInt = 1) c_140)
    refine lv_iconst (v := 0) hx hb dX51_look_390 (by decide) ?_
    refine lv_istore (lv' := [(11, .int 0), (0, .ref (ad 0)), (2, .int x2), (3, .int x3), (4, .int x4), (5, .int x5), (6, .int x6), (7, .int x7), (8, .int x8)]) hx hb dX51_look_391 hl (by decide) rfl (fun ls hl => ?_)
    refine lv_aload_n hx hb dX51_look_393 rfl (lv_at hl 1 rfl) ?_
    refine k_get X hH in_X51 0 rfl hc 10 (by decide) q6352 rfl dX51_look_394 ?_
    refine lv_iload hx hb dX51_look_397 (lv_at hl 8 rfl) ?_
    refine lv_iload hx hb dX51_look_399 (lv_at hl 0 rfl) ?_
    have hq_144 := hw.1
    have hw := hw.2
    obtain ⟨f_holds_143, ef_holds_143⟩ : ∃ y : Nat → Int32, y = upd f_holds x8.toNatClampNeg (vp_nar .boolean 0) := ⟨_, rfl⟩
    refine k_zast X hH 9 8 rfl rfl (z_in (rfl : x8.toInt = _) hq_144) dX51_look_401 ef_holds_143 (ws1 := (wX51 ci ad d f_groups f_kinds f_as f_bs f_cs f_conditions f_ranks f_denies f_wants f_rules f_holds_143)) rfl (fun H locs hH => ?_)
    have hw := hw (zF f_holds_143) (by rw [ef_holds_143]; exact z_st (f := f_holds) (rfl : x8.toInt = _) hq_144.1 (z_narZ (rfl : (0 : Int32).toInt = 0) (by decide)))
    have hq_146 := hw.1
    have hw := hw.2
    obtain ⟨x8_145, ex8_145⟩ : ∃ y : Int32, y = x8 + 1 := ⟨_, rfl⟩
    have hw := hw x8_145.toInt (by rw [ex8_145]; exact (z_x (z_add (z_m (rfl : x8.toInt = _)) (z_m (rfl : (1 : Int32).toInt = 1))) hq_146))
    refine lv_iinc (v := x8_145) (lv' := [(8, .int x8_145), (11, .int 0), (0, .ref (ad 0)), (2, .int x2), (3, .int x3), (4, .int x4), (5, .int x5), (6, .int x6), (7, .int x7)]) hx hb dX51_look_402 hl (k := 8) rfl (by rw [ex8_145]; rfl) (by decide) rfl (fun ls hl => ?_)
    refine lv_goto (tgt := 40) hx hb dX51_look_405 (by decide) ?_
    exact hk40 x8_145 f_holds_143 hw _ _ ls hH (lv_sub hl [2, 3, 4, 5, 6, 7, 8, 0] rfl)
  · have hw := hw.2 (z_nle e_142 (rfl : (1 : Int32).toInt = 1) c_140)
    refine lv_iconst (v := 1) hx hb dX51_look_386 (by decide) ?_
    refine lv_goto (tgt := 391) hx hb dX51_look_387 (by decide) ?_
    refine lv_istore (lv' := [(11, .int 1), (0, .ref (ad 0)), (2, .int x2), (3, .int x3), (4, .int x4), (5, .int x5), (6, .int x6), (7, .int x7), (8, .int x8)]) hx hb dX51_look_391 hl (by decide) rfl (fun ls hl => ?_)
    refine lv_aload_n hx hb dX51_look_393 rfl (lv_at hl 1 rfl) ?_
    refine k_get X hH in_X51 0 rfl hc 10 (by decide) q6352 rfl dX51_look_394 ?_
    refine lv_iload hx hb dX51_look_397 (lv_at hl 8 rfl) ?_
    refine lv_iload hx hb dX51_look_399 (lv_at hl 0 rfl) ?_
    have hq_148 := hw.1
    have hw := hw.2
    obtain ⟨f_holds_147, ef_holds_147⟩ : ∃ y : Nat → Int32, y = upd f_holds x8.toNatClampNeg (vp_nar .boolean 1) := ⟨_, rfl⟩
    refine k_zast X hH 9 8 rfl rfl (z_in (rfl : x8.toInt = _) hq_148) dX51_look_401 ef_holds_147 (ws1 := (wX51 ci ad d f_groups f_kinds f_as f_bs f_cs f_conditions f_ranks f_denies f_wants f_rules f_holds_147)) rfl (fun H locs hH => ?_)
    have hw := hw (zF f_holds_147) (by rw [ef_holds_147]; exact z_st (f := f_holds) (rfl : x8.toInt = _) hq_148.1 (z_narZ (rfl : (1 : Int32).toInt = 1) (by decide)))
    have hq_150 := hw.1
    have hw := hw.2
    obtain ⟨x8_149, ex8_149⟩ : ∃ y : Int32, y = x8 + 1 := ⟨_, rfl⟩
    have hw := hw x8_149.toInt (by rw [ex8_149]; exact (z_x (z_add (z_m (rfl : x8.toInt = _)) (z_m (rfl : (1 : Int32).toInt = 1))) hq_150))
    refine lv_iinc (v := x8_149) (lv' := [(8, .int x8_149), (11, .int 1), (0, .ref (ad 0)), (2, .int x2), (3, .int x3), (4, .int x4), (5, .int x5), (6, .int x6), (7, .int x7)]) hx hb dX51_look_402 hl (k := 8) rfl (by rw [ex8_149]; rfl) (by decide) rfl (fun ls hl => ?_)
    refine lv_goto (tgt := 40) hx hb dX51_look_405 (by decide) ?_
    exact hk40 x8_149 f_holds_147 hw _ _ ls hH (lv_sub hl [2, 3, 4, 5, 6, 7, 8, 0] rfl)
set_option maxHeartbeats 4000000 in
theorem atX51_look_350 {p : Program} {l : Launch} {e : Env} {s : State} {m : MethodId} {args : Array Value} {below : List Frame} {meth : Method} {c : Code} {dC : Nat → ClassId} {dI : Nat → Nat → Nat} {cl : List vw_C} {ci : Nat} (hc : cl[ci]? = some (RX51, TX51, 11)) {ad : Nat → Nat} {d : Nat → ClassId} {A : Nat → Prop} {post : (Int → Int) → Prop} {f_groups : Nat → Int32} {f_kinds : Nat → Int32} {f_as : Nat → Int32} {f_bs : Nat → Int32} {f_cs : Nat → Int32} {f_conditions : Int32} {f_ranks : Nat → Int32} {f_denies : Nat → Int32} {f_wants : Nat → Int32} {f_rules : Int32} (X : kX p s m args meth c cX51_look 13 RX51 none (dC, dI) cl (tX51 d)) {K40 : Int → (Int → Int) → Prop} {x2 : Int32} {x3 : Int32} {x4 : Int32} {x5 : Int32} {x6 : Int32} {x7 : Int32}  (hk40 : ∀ (x8 : Int32) (f_holds : Nat → Int32), K40 x8.toInt (zF f_holds) → ∀ (H : Heap) (locs : List Loc) (ls : Array Slot), kH (dC, dI) cl A s.heap H locs (wX51 ci ad d f_groups f_kinds f_as f_bs f_cs f_conditions f_ranks f_denies f_wants f_rules f_holds) → lv_has ls 13 [(0, .ref (ad 0)), (2, .int x2), (3, .int x3), (4, .int x4), (5, .int x5), (6, .int x6), (7, .int x7), (8, .int x8)] → W p l e ({ frames := 1, cells := 0, slots := 0, locals := 20 } : Room) s m args below meth c H locs 0 0 (MQ below (va_Qv (fun (u : (Nat → Int32)) => post (zF (u))) (kB (dC, dI) cl (tX51 d) A (fun u : (Nat → Int32) => (wX51 ci ad d f_groups f_kinds f_as f_bs f_cs f_conditions f_ranks f_denies f_wants f_rules (u)))) A) args s 0 0 A) (F0 m 40 ls [])) :
    ∀ (x8 : Int32) (x10 : Int32) (x12 : Int32) (y0 : Int32) (f_holds : Nat → Int32), wX51_look_350 K40 x8.toInt x10.toInt x12.toInt y0.toInt (zF f_holds) → ∀ (H : Heap) (locs : List Loc) (ls : Array Slot), kH (dC, dI) cl A s.heap H locs (wX51 ci ad d f_groups f_kinds f_as f_bs f_cs f_conditions f_ranks f_denies f_wants f_rules f_holds) → lv_has ls 13 [(0, .ref (ad 0)), (2, .int x2), (3, .int x3), (4, .int x4), (5, .int x5), (6, .int x6), (7, .int x7), (8, .int x8), (10, .int x10), (12, .int x12)] → W p l e ({ frames := 1, cells := 0, slots := 0, locals := 20 } : Room) s m args below meth c H locs 0 0 (MQ below (va_Qv (fun (u : (Nat → Int32)) => post (zF (u))) (kB (dC, dI) cl (tX51 d) A (fun u : (Nat → Int32) => (wX51 ci ad d f_groups f_kinds f_as f_bs f_cs f_conditions f_ranks f_denies f_wants f_rules (u)))) A) args s 0 0 A) (F0 m 350 ls [.int y0]) := by
  have hx := X.1.1
  have hb := X.1.2.1
  intro x8 x10 x12 y0 f_holds hw H locs ls hH hl
  unfold wX51_look_350 at hw
  refine lv_aload_n hx hb dX51_look_350 rfl (lv_at hl 0 rfl) ?_
  refine k_get X hH in_X51 0 rfl hc 10 (by decide) q6352 rfl dX51_look_351 ?_
  refine lv_iload hx hb dX51_look_354 (lv_at hl 8 rfl) ?_
  have hq_132 := hw.1
  have hw := hw.2
  refine k_zald X hH 9 8 rfl rfl (z_in (rfl : x10.toInt = _) hq_132) dX51_look_356 ?_
  have e_133 := z_ld (f := f_holds) (rfl : x10.toInt = _) hq_132.1
  refine lv_if_eq (tgt := 364) hx hb dX51_look_357 (by decide) (fun c_134 => ?_) (fun c_134 => ?_)
  · have hw := hw.1 (z_eq e_133 (rfl : (0 : Int32).toInt = 0) c_134)
    refine lv_iconst (v := 0) hx hb dX51_look_364 (by decide) ?_
    refine lv_iadd hx hb dX51_look_365 ?_
    have e_135 := z_add (z_m (rfl : y0.toInt = _)) (z_m (rfl : (0 : Int32).toInt = 0))
    refine lv_aload_n hx hb dX51_look_366 rfl (lv_at hl 0 rfl) ?_
    refine k_get X hH in_X51 0 rfl hc 10 (by decide) q6352 rfl dX51_look_367 ?_
    refine lv_iload hx hb dX51_look_370 (lv_at hl 9 rfl) ?_
    have hq_136 := hw.1
    have hw := hw.2
    refine k_zald X hH 9 8 rfl rfl (z_in (rfl : x12.toInt = _) hq_136) dX51_look_372 ?_
    have e_137 := z_ld (f := f_holds) (rfl : x12.toInt = _) hq_136.1
    refine lv_if_eq (tgt := 380) hx hb dX51_look_373 (by decide) (fun c_138 => ?_) (fun c_138 => ?_)
    · have hw := hw.1 (z_eq e_137 (rfl : (0 : Int32).toInt = 0) c_138)
      refine lv_iconst (v := 0) hx hb dX51_look_380 (by decide) ?_
      have hq_151 := hw.1
      have hw := hw.2
      have e_152 := z_x e_135 hq_151
      exact atX51_look_381 hc X hk40 x8 (y0 + 0) 0 f_holds (by rw [show (y0 + 0 : Int32).toInt = _ from e_152]; exact hw) _ _ ls hH (lv_sub hl [0, 1, 2, 3, 4, 5, 6, 7] rfl)
    · have hw := hw.2 (z_neq e_137 (rfl : (0 : Int32).toInt = 0) c_138)
      refine lv_iconst (v := 1) hx hb dX51_look_376 (by decide) ?_
      refine lv_goto (tgt := 381) hx hb dX51_look_377 (by decide) ?_
      have hq_153 := hw.1
      have hw := hw.2
      have e_154 := z_x e_135 hq_153
      exact atX51_look_381 hc X hk40 x8 (y0 + 0) 1 f_holds (by rw [show (y0 + 0 : Int32).toInt = _ from e_154]; exact hw) _ _ ls hH (lv_sub hl [0, 1, 2, 3, 4, 5, 6, 7] rfl)
  · have hw := hw.2 (z_neq e_133 (rfl : (0 : Int32).toInt = 0) c_134)
    refine lv_iconst (v := 1) hx hb dX51_look_360 (by decide) ?_
    refine lv_goto (tgt := 365) hx hb dX51_look_361 (by decide) ?_
    refine lv_iadd hx hb dX51_look_365 ?_
    have e_155 := z_add (z_m (rfl : y0.toInt = _)) (z_m (rfl : (1 : Int32).toInt = 1))
    refine lv_aload_n hx hb dX51_look_366 rfl (lv_at hl 0 rfl) ?_
    refine k_get X hH in_X51 0 rfl hc 10 (by decide) q6352 rfl dX51_look_367 ?_
    refine lv_iload hx hb dX51_look_370 (lv_at hl 9 rfl) ?_
    have hq_156 := hw.1
    have hw := hw.2
    refine k_zald X hH 9 8 rfl rfl (z_in (rfl : x12.toInt = _) hq_156) dX51_look_372 ?_
    have e_157 := z_ld (f := f_holds) (rfl : x12.toInt = _) hq_156.1
    refine lv_if_eq (tgt := 380) hx hb dX51_look_373 (by decide) (fun c_158 => ?_) (fun c_158 => ?_)
    · have hw := hw.1 (z_eq e_157 (rfl : (0 : Int32).toInt = 0) c_158)
      refine lv_iconst (v := 0) hx hb dX51_look_380 (by decide) ?_
      have hq_159 := hw.1
      have hw := hw.2
      have e_160 := z_x e_155 hq_159
      exact atX51_look_381 hc X hk40 x8 (y0 + 1) 0 f_holds (by rw [show (y0 + 1 : Int32).toInt = _ from e_160]; exact hw) _ _ ls hH (lv_sub hl [0, 1, 2, 3, 4, 5, 6, 7] rfl)
    · have hw := hw.2 (z_neq e_157 (rfl : (0 : Int32).toInt = 0) c_158)
      refine lv_iconst (v := 1) hx hb dX51_look_376 (by decide) ?_
      refine lv_goto (tgt := 381) hx hb dX51_look_377 (by decide) ?_
      have hq_161 := hw.1
      have hw := hw.2
      have e_162 := z_x e_155 hq_161
      exact atX51_look_381 hc X hk40 x8 (y0 + 1) 1 f_holds (by rw [show (y0 + 1 : Int32).toInt = _ from e_162]; exact hw) _ _ ls hH (lv_sub hl [0, 1, 2, 3, 4, 5, 6, 7] rfl)
set_option maxHeartbeats 4000000 in
theorem atX51_look_40 {p : Program} {l : Launch} {e : Env} {s : State} {m : MethodId} {args : Array Value} {below : List Frame} {meth : Method} {c : Code} {dC : Nat → ClassId} {dI : Nat → Nat → Nat} {cl : List vw_C} {ci : Nat} (hc : cl[ci]? = some (RX51, TX51, 11)) {ad : Nat → Nat} {d : Nat → ClassId} {A : Nat → Prop} {post : (Int → Int) → Prop} {f_groups : Nat → Int32} {f_kinds : Nat → Int32} {f_as : Nat → Int32} {f_bs : Nat → Int32} {f_cs : Nat → Int32} {f_conditions : Int32} {f_ranks : Nat → Int32} {f_denies : Nat → Int32} {f_wants : Nat → Int32} {f_rules : Int32} (X : kX p s m args meth c cX51_look 13 RX51 none (dC, dI) cl (tX51 d)) {K408 : (Int → Int) → Prop} {x2 : Int32} {x3 : Int32} {x4 : Int32} {x5 : Int32} {x6 : Int32} {x7 : Int32}  (hk408 : ∀ (f_holds : Nat → Int32), K408 (zF f_holds) → ∀ (H : Heap) (locs : List Loc) (ls : Array Slot), kH (dC, dI) cl A s.heap H locs (wX51 ci ad d f_groups f_kinds f_as f_bs f_cs f_conditions f_ranks f_denies f_wants f_rules f_holds) → lv_has ls 13 [] → W p l e ({ frames := 1, cells := 0, slots := 0, locals := 20 } : Room) s m args below meth c H locs 0 0 (MQ below (va_Qv (fun (u : (Nat → Int32)) => post (zF (u))) (kB (dC, dI) cl (tX51 d) A (fun u : (Nat → Int32) => (wX51 ci ad d f_groups f_kinds f_as f_bs f_cs f_conditions f_ranks f_denies f_wants f_rules (u)))) A) args s 0 0 A) (F0 m 408 ls [])) :
    ∀ (nn : Nat) (x8 : Int32) (f_holds : Nat → Int32), wX51_look_40 K408 x2.toInt x3.toInt x4.toInt x5.toInt x6.toInt x7.toInt (zF f_groups) (zF f_kinds) (zF f_as) (zF f_bs) (zF f_cs) nn x8.toInt (zF f_holds) → ∀ (H : Heap) (locs : List Loc) (ls : Array Slot), kH (dC, dI) cl A s.heap H locs (wX51 ci ad d f_groups f_kinds f_as f_bs f_cs f_conditions f_ranks f_denies f_wants f_rules f_holds) → lv_has ls 13 [(0, .ref (ad 0)), (2, .int x2), (3, .int x3), (4, .int x4), (5, .int x5), (6, .int x6), (7, .int x7), (8, .int x8)] → W p l e ({ frames := 1, cells := 0, slots := 0, locals := 20 } : Room) s m args below meth c H locs 0 0 (MQ below (va_Qv (fun (u : (Nat → Int32)) => post (zF (u))) (kB (dC, dI) cl (tX51 d) A (fun u : (Nat → Int32) => (wX51 ci ad d f_groups f_kinds f_as f_bs f_cs f_conditions f_ranks f_denies f_wants f_rules (u)))) A) args s 0 0 A) (F0 m 40 ls []) := by
  have hx := X.1.1
  have hb := X.1.2.1
  intro nn
  induction nn with
  | zero =>
    intro x8 f_holds hw
    exact False.elim hw
  | succ n ih =>
    intro x8 f_holds hw H locs ls hH hl
    rw [wX51_look_40] at hw
    refine lv_iload hx hb dX51_look_40 (lv_at hl 7 rfl) ?_
    refine lv_iload_n hx hb dX51_look_42 rfl (lv_at hl 1 rfl) ?_
    refine lv_icmp_ge (tgt := 408) hx hb dX51_look_43 (by decide) (fun c_16 => ?_) (fun c_16 => ?_)
    · have hw := hw.1 (z_le (rfl : x2.toInt = _) (rfl : x8.toInt = _) c_16)
      exact hk408 f_holds hw _ _ ls hH (lv_sub hl [] rfl)
    · have hw := hw.2 (z_nle (rfl : x2.toInt = _) (rfl : x8.toInt = _) c_16)
      refine lv_aload_n hx hb dX51_look_46 rfl (lv_at hl 0 rfl) ?_
      refine k_get X hH in_X51 0 rfl hc 2 (by decide) q6344 rfl dX51_look_47 ?_
      refine lv_iload hx hb dX51_look_50 (lv_at hl 7 rfl) ?_
      have hq_17 := hw.1
      have hw := hw.2
      refine k_iald X hH 3 2 rfl rfl (z_in (rfl : x8.toInt = _) hq_17) dX51_look_52 ?_
      have e_18 := z_ld (f := f_as) (rfl : x8.toInt = _) hq_17.1
      refine lv_topi (fun x9_19 ex9_19 => ?_)
      have hw := hw x9_19.toInt (by rw [ex9_19]; exact e_18)
      refine lv_istore (lv' := [(9, .int x9_19), (0, .ref (ad 0)), (2, .int x2), (3, .int x3), (4, .int x4), (5, .int x5), (6, .int x6), (7, .int x7), (8, .int x8)]) hx hb dX51_look_53 hl (by decide) rfl (fun ls hl => ?_)
      refine lv_aload_n hx hb dX51_look_55 rfl (lv_at hl 1 rfl) ?_
      refine k_get X hH in_X51 0 rfl hc 3 (by decide) q6345 rfl dX51_look_56 ?_
      refine lv_iload hx hb dX51_look_59 (lv_at hl 8 rfl) ?_
      refine k_iald X hH 4 3 rfl rfl (z_in (rfl : x8.toInt = _) hq_17) dX51_look_61 ?_
      have e_20 := z_ld (f := f_bs) (rfl : x8.toInt = _) hq_17.1
      refine lv_topi (fun x10_21 ex10_21 => ?_)
      have hw := hw x10_21.toInt (by rw [ex10_21]; exact e_20)
      refine lv_istore (lv' := [(10, .int x10_21), (9, .int x9_19), (0, .ref (ad 0)), (2, .int x2), (3, .int x3), (4, .int x4), (5, .int x5), (6, .int x6), (7, .int x7), (8, .int x8)]) hx hb dX51_look_62 hl (by decide) rfl (fun ls hl => ?_)
      refine lv_aload_n hx hb dX51_look_64 rfl (lv_at hl 2 rfl) ?_
      refine k_get X hH in_X51 0 rfl hc 1 (by decide) q6343 rfl dX51_look_65 ?_
      refine lv_iload hx hb dX51_look_68 (lv_at hl 9 rfl) ?_
      refine k_iald X hH 2 1 rfl rfl (z_in (rfl : x8.toInt = _) hq_17) dX51_look_70 ?_
      have e_22 := z_ld (f := f_kinds) (rfl : x8.toInt = _) hq_17.1
      refine lv_topi (fun z_23 ez_23 => ?_)
      have hw := hw z_23.toInt (by rw [ez_23]; exact e_22)
      by_cases c_24 : z_23 = 0
      · have hw := hw.1 (z_eq (rfl : z_23.toInt = _) (rfl : (0 : Int32).toInt = 0) c_24)
        refine lv_tableIn (off := 53) (tgt := 124) hx hb dX51_look_71 (by rw [c_24]; decide) (by rw [c_24]; decide) (by rw [c_24]; rfl) (by decide) ?_
        refine lv_iload_n hx hb dX51_look_124 rfl (lv_at hl 4 rfl) ?_
        refine lv_iload hx hb dX51_look_125 (lv_at hl 1 rfl) ?_
        refine lv_icmp_ne (tgt := 134) hx hb dX51_look_127 (by decide) (fun c_25 => ?_) (fun c_25 => ?_)
        · have hw := hw.2 (z_ne (rfl : x3.toInt = _) (rfl : x9_19.toInt = _) c_25)
          refine lv_iconst (v := 0) hx hb dX51_look_134 (by decide) ?_
          refine lv_istore (lv' := [(11, .int 0), (10, .int x10_21), (9, .int x9_19), (0, .ref (ad 0)), (2, .int x2), (3, .int x3), (4, .int x4), (5, .int x5), (6, .int x6), (7, .int x7), (8, .int x8)]) hx hb dX51_look_135 hl (by decide) rfl (fun ls hl => ?_)
          refine lv_goto (tgt := 393) hx hb dX51_look_137 (by decide) ?_
          refine lv_aload_n hx hb dX51_look_393 rfl (lv_at hl 3 rfl) ?_
          refine k_get X hH in_X51 0 rfl hc 10 (by decide) q6352 rfl dX51_look_394 ?_
          refine lv_iload hx hb dX51_look_397 (lv_at hl 10 rfl) ?_
          refine lv_iload hx hb dX51_look_399 (lv_at hl 0 rfl) ?_
          obtain ⟨f_holds_26, ef_holds_26⟩ : ∃ y : Nat → Int32, y = upd f_holds x8.toNatClampNeg (vp_nar .boolean 0) := ⟨_, rfl⟩
          refine k_zast X hH 9 8 rfl rfl (z_in (rfl : x8.toInt = _) hq_17) dX51_look_401 ef_holds_26 (ws1 := (wX51 ci ad d f_groups f_kinds f_as f_bs f_cs f_conditions f_ranks f_denies f_wants f_rules f_holds_26)) rfl (fun H locs hH => ?_)
          have hw := hw (zF f_holds_26) (by rw [ef_holds_26]; exact z_st (f := f_holds) (rfl : x8.toInt = _) hq_17.1 (z_narZ (rfl : (0 : Int32).toInt = 0) (by decide)))
          have hq_28 := hw.1
          have hw := hw.2
          obtain ⟨x8_27, ex8_27⟩ : ∃ y : Int32, y = x8 + 1 := ⟨_, rfl⟩
          have hw := hw x8_27.toInt (by rw [ex8_27]; exact (z_x (z_add (z_m (rfl : x8.toInt = _)) (z_m (rfl : (1 : Int32).toInt = 1))) hq_28))
          refine lv_iinc (v := x8_27) (lv' := [(8, .int x8_27), (11, .int 0), (10, .int x10_21), (9, .int x9_19), (0, .ref (ad 0)), (2, .int x2), (3, .int x3), (4, .int x4), (5, .int x5), (6, .int x6), (7, .int x7)]) hx hb dX51_look_402 hl (k := 10) rfl (by rw [ex8_27]; rfl) (by decide) rfl (fun ls hl => ?_)
          refine lv_goto (tgt := 40) hx hb dX51_look_405 (by decide) ?_
          exact ih x8_27 f_holds_26 hw _ _ ls hH (lv_sub hl [4, 5, 6, 7, 8, 9, 10, 0] rfl)
        · have hw := hw.1 (z_eq (rfl : x3.toInt = _) (rfl : x9_19.toInt = _) c_25)
          refine lv_iconst (v := 1) hx hb dX51_look_130 (by decide) ?_
          refine lv_goto (tgt := 135) hx hb dX51_look_131 (by decide) ?_
          refine lv_istore (lv' := [(11, .int 1), (10, .int x10_21), (9, .int x9_19), (0, .ref (ad 0)), (2, .int x2), (3, .int x3), (4, .int x4), (5, .int x5), (6, .int x6), (7, .int x7), (8, .int x8)]) hx hb dX51_look_135 hl (by decide) rfl (fun ls hl => ?_)
          refine lv_goto (tgt := 393) hx hb dX51_look_137 (by decide) ?_
          refine lv_aload_n hx hb dX51_look_393 rfl (lv_at hl 3 rfl) ?_
          refine k_get X hH in_X51 0 rfl hc 10 (by decide) q6352 rfl dX51_look_394 ?_
          refine lv_iload hx hb dX51_look_397 (lv_at hl 10 rfl) ?_
          refine lv_iload hx hb dX51_look_399 (lv_at hl 0 rfl) ?_
          obtain ⟨f_holds_29, ef_holds_29⟩ : ∃ y : Nat → Int32, y = upd f_holds x8.toNatClampNeg (vp_nar .boolean 1) := ⟨_, rfl⟩
          refine k_zast X hH 9 8 rfl rfl (z_in (rfl : x8.toInt = _) hq_17) dX51_look_401 ef_holds_29 (ws1 := (wX51 ci ad d f_groups f_kinds f_as f_bs f_cs f_conditions f_ranks f_denies f_wants f_rules f_holds_29)) rfl (fun H locs hH => ?_)
          have hw := hw (zF f_holds_29) (by rw [ef_holds_29]; exact z_st (f := f_holds) (rfl : x8.toInt = _) hq_17.1 (z_narZ (rfl : (1 : Int32).toInt = 1) (by decide)))
          have hq_31 := hw.1
          have hw := hw.2
          obtain ⟨x8_30, ex8_30⟩ : ∃ y : Int32, y = x8 + 1 := ⟨_, rfl⟩
          have hw := hw x8_30.toInt (by rw [ex8_30]; exact (z_x (z_add (z_m (rfl : x8.toInt = _)) (z_m (rfl : (1 : Int32).toInt = 1))) hq_31))
          refine lv_iinc (v := x8_30) (lv' := [(8, .int x8_30), (11, .int 1), (10, .int x10_21), (9, .int x9_19), (0, .ref (ad 0)), (2, .int x2), (3, .int x3), (4, .int x4), (5, .int x5), (6, .int x6), (7, .int x7)]) hx hb dX51_look_402 hl (k := 10) rfl (by rw [ex8_30]; rfl) (by decide) rfl (fun ls hl => ?_)
          refine lv_goto (tgt := 40) hx hb dX51_look_405 (by decide) ?_
          exact ih x8_30 f_holds_29 hw _ _ ls hH (lv_sub hl [4, 5, 6, 7, 8, 9, 10, 0] rfl)
      · have hw := hw.2 (z_ne (rfl : z_23.toInt = _) (rfl : (0 : Int32).toInt = 0) c_24)
        by_cases c_32 : z_23 = 1
        · have hw := hw.1 (z_eq (rfl : z_23.toInt = _) (rfl : (1 : Int32).toInt = 1) c_32)
          refine lv_tableIn (off := 69) (tgt := 140) hx hb dX51_look_71 (by rw [c_32]; decide) (by rw [c_32]; decide) (by rw [c_32]; rfl) (by decide) ?_
          refine lv_aload_n hx hb dX51_look_140 rfl (lv_at hl 2 rfl) ?_
          refine k_get X hH in_X51 0 rfl hc 0 (by decide) q6342 rfl dX51_look_141 ?_
          refine lv_iload_n hx hb dX51_look_144 rfl (lv_at hl 4 rfl) ?_
          have hq_33 := hw.1
          have hw := hw.2
          refine k_iald X hH 1 0 rfl rfl (z_in (rfl : x3.toInt = _) hq_33) dX51_look_145 ?_
          have e_34 := z_ld (f := f_groups) (rfl : x3.toInt = _) hq_33.1
          refine lv_iload hx hb dX51_look_146 (lv_at hl 1 rfl) ?_
          refine lv_ishr hx hb dX51_look_148 ?_
          have hq_35 := hw.1
          have hw := hw.2
          have e_36 := z_shrV e_34 (rfl : x9_19.toInt = _) hq_35
          refine lv_iconst (v := 1) hx hb dX51_look_149 (by decide) ?_
          refine lv_iand hx hb dX51_look_150 ?_
          have e_37 := z_mask (z_m e_36) (k := 1) (m := 1) (c := 2) (by decide)
          refine lv_iconst (v := 1) hx hb dX51_look_151 (by decide) ?_
          refine lv_icmp_ne (tgt := 159) hx hb dX51_look_152 (by decide) (fun c_38 => ?_) (fun c_38 => ?_)
          · have hw := hw.2 (z_ne e_37 (rfl : (1 : Int32).toInt = 1) c_38)
            refine lv_iconst (v := 0) hx hb dX51_look_159 (by decide) ?_
            refine lv_istore (lv' := [(11, .int 0), (10, .int x10_21), (9, .int x9_19), (0, .ref (ad 0)), (2, .int x2), (3, .int x3), (4, .int x4), (5, .int x5), (6, .int x6), (7, .int x7), (8, .int x8)]) hx hb dX51_look_160 hl (by decide) rfl (fun ls hl => ?_)
            refine lv_goto (tgt := 393) hx hb dX51_look_162 (by decide) ?_
            refine lv_aload_n hx hb dX51_look_393 rfl (lv_at hl 3 rfl) ?_
            refine k_get X hH in_X51 0 rfl hc 10 (by decide) q6352 rfl dX51_look_394 ?_
            refine lv_iload hx hb dX51_look_397 (lv_at hl 10 rfl) ?_
            refine lv_iload hx hb dX51_look_399 (lv_at hl 0 rfl) ?_
            obtain ⟨f_holds_39, ef_holds_39⟩ : ∃ y : Nat → Int32, y = upd f_holds x8.toNatClampNeg (vp_nar .boolean 0) := ⟨_, rfl⟩
            refine k_zast X hH 9 8 rfl rfl (z_in (rfl : x8.toInt = _) hq_17) dX51_look_401 ef_holds_39 (ws1 := (wX51 ci ad d f_groups f_kinds f_as f_bs f_cs f_conditions f_ranks f_denies f_wants f_rules f_holds_39)) rfl (fun H locs hH => ?_)
            have hw := hw (zF f_holds_39) (by rw [ef_holds_39]; exact z_st (f := f_holds) (rfl : x8.toInt = _) hq_17.1 (z_narZ (rfl : (0 : Int32).toInt = 0) (by decide)))
            have hq_41 := hw.1
            have hw := hw.2
            obtain ⟨x8_40, ex8_40⟩ : ∃ y : Int32, y = x8 + 1 := ⟨_, rfl⟩
            have hw := hw x8_40.toInt (by rw [ex8_40]; exact (z_x (z_add (z_m (rfl : x8.toInt = _)) (z_m (rfl : (1 : Int32).toInt = 1))) hq_41))
            refine lv_iinc (v := x8_40) (lv' := [(8, .int x8_40), (11, .int 0), (10, .int x10_21), (9, .int x9_19), (0, .ref (ad 0)), (2, .int x2), (3, .int x3), (4, .int x4), (5, .int x5), (6, .int x6), (7, .int x7)]) hx hb dX51_look_402 hl (k := 10) rfl (by rw [ex8_40]; rfl) (by decide) rfl (fun ls hl => ?_)
            refine lv_goto (tgt := 40) hx hb dX51_look_405 (by decide) ?_
            exact ih x8_40 f_holds_39 hw _ _ ls hH (lv_sub hl [4, 5, 6, 7, 8, 9, 10, 0] rfl)
          · have hw := hw.1 (z_eq e_37 (rfl : (1 : Int32).toInt = 1) c_38)
            refine lv_iconst (v := 1) hx hb dX51_look_155 (by decide) ?_
            refine lv_goto (tgt := 160) hx hb dX51_look_156 (by decide) ?_
            refine lv_istore (lv' := [(11, .int 1), (10, .int x10_21), (9, .int x9_19), (0, .ref (ad 0)), (2, .int x2), (3, .int x3), (4, .int x4), (5, .int x5), (6, .int x6), (7, .int x7), (8, .int x8)]) hx hb dX51_look_160 hl (by decide) rfl (fun ls hl => ?_)
            refine lv_goto (tgt := 393) hx hb dX51_look_162 (by decide) ?_
            refine lv_aload_n hx hb dX51_look_393 rfl (lv_at hl 3 rfl) ?_
            refine k_get X hH in_X51 0 rfl hc 10 (by decide) q6352 rfl dX51_look_394 ?_
            refine lv_iload hx hb dX51_look_397 (lv_at hl 10 rfl) ?_
            refine lv_iload hx hb dX51_look_399 (lv_at hl 0 rfl) ?_
            obtain ⟨f_holds_42, ef_holds_42⟩ : ∃ y : Nat → Int32, y = upd f_holds x8.toNatClampNeg (vp_nar .boolean 1) := ⟨_, rfl⟩
            refine k_zast X hH 9 8 rfl rfl (z_in (rfl : x8.toInt = _) hq_17) dX51_look_401 ef_holds_42 (ws1 := (wX51 ci ad d f_groups f_kinds f_as f_bs f_cs f_conditions f_ranks f_denies f_wants f_rules f_holds_42)) rfl (fun H locs hH => ?_)
            have hw := hw (zF f_holds_42) (by rw [ef_holds_42]; exact z_st (f := f_holds) (rfl : x8.toInt = _) hq_17.1 (z_narZ (rfl : (1 : Int32).toInt = 1) (by decide)))
            have hq_44 := hw.1
            have hw := hw.2
            obtain ⟨x8_43, ex8_43⟩ : ∃ y : Int32, y = x8 + 1 := ⟨_, rfl⟩
            have hw := hw x8_43.toInt (by rw [ex8_43]; exact (z_x (z_add (z_m (rfl : x8.toInt = _)) (z_m (rfl : (1 : Int32).toInt = 1))) hq_44))
            refine lv_iinc (v := x8_43) (lv' := [(8, .int x8_43), (11, .int 1), (10, .int x10_21), (9, .int x9_19), (0, .ref (ad 0)), (2, .int x2), (3, .int x3), (4, .int x4), (5, .int x5), (6, .int x6), (7, .int x7)]) hx hb dX51_look_402 hl (k := 10) rfl (by rw [ex8_43]; rfl) (by decide) rfl (fun ls hl => ?_)
            refine lv_goto (tgt := 40) hx hb dX51_look_405 (by decide) ?_
            exact ih x8_43 f_holds_42 hw _ _ ls hH (lv_sub hl [4, 5, 6, 7, 8, 9, 10, 0] rfl)
        · have hw := hw.2 (z_ne (rfl : z_23.toInt = _) (rfl : (1 : Int32).toInt = 1) c_32)
          by_cases c_45 : z_23 = 2
          · have hw := hw.1 (z_eq (rfl : z_23.toInt = _) (rfl : (2 : Int32).toInt = 2) c_45)
            refine lv_tableIn (off := 94) (tgt := 165) hx hb dX51_look_71 (by rw [c_45]; decide) (by rw [c_45]; decide) (by rw [c_45]; rfl) (by decide) ?_
            refine lv_iload hx hb dX51_look_165 (lv_at hl 5 rfl) ?_
            refine lv_iload hx hb dX51_look_167 (lv_at hl 1 rfl) ?_
            refine lv_icmp_ne (tgt := 176) hx hb dX51_look_169 (by decide) (fun c_46 => ?_) (fun c_46 => ?_)
            · have hw := hw.2 (z_ne (rfl : x4.toInt = _) (rfl : x9_19.toInt = _) c_46)
              refine lv_iconst (v := 0) hx hb dX51_look_176 (by decide) ?_
              refine lv_istore (lv' := [(11, .int 0), (10, .int x10_21), (9, .int x9_19), (0, .ref (ad 0)), (2, .int x2), (3, .int x3), (4, .int x4), (5, .int x5), (6, .int x6), (7, .int x7), (8, .int x8)]) hx hb dX51_look_177 hl (by decide) rfl (fun ls hl => ?_)
              refine lv_goto (tgt := 393) hx hb dX51_look_179 (by decide) ?_
              refine lv_aload_n hx hb dX51_look_393 rfl (lv_at hl 3 rfl) ?_
              refine k_get X hH in_X51 0 rfl hc 10 (by decide) q6352 rfl dX51_look_394 ?_
              refine lv_iload hx hb dX51_look_397 (lv_at hl 10 rfl) ?_
              refine lv_iload hx hb dX51_look_399 (lv_at hl 0 rfl) ?_
              obtain ⟨f_holds_47, ef_holds_47⟩ : ∃ y : Nat → Int32, y = upd f_holds x8.toNatClampNeg (vp_nar .boolean 0) := ⟨_, rfl⟩
              refine k_zast X hH 9 8 rfl rfl (z_in (rfl : x8.toInt = _) hq_17) dX51_look_401 ef_holds_47 (ws1 := (wX51 ci ad d f_groups f_kinds f_as f_bs f_cs f_conditions f_ranks f_denies f_wants f_rules f_holds_47)) rfl (fun H locs hH => ?_)
              have hw := hw (zF f_holds_47) (by rw [ef_holds_47]; exact z_st (f := f_holds) (rfl : x8.toInt = _) hq_17.1 (z_narZ (rfl : (0 : Int32).toInt = 0) (by decide)))
              have hq_49 := hw.1
              have hw := hw.2
              obtain ⟨x8_48, ex8_48⟩ : ∃ y : Int32, y = x8 + 1 := ⟨_, rfl⟩
              have hw := hw x8_48.toInt (by rw [ex8_48]; exact (z_x (z_add (z_m (rfl : x8.toInt = _)) (z_m (rfl : (1 : Int32).toInt = 1))) hq_49))
              refine lv_iinc (v := x8_48) (lv' := [(8, .int x8_48), (11, .int 0), (10, .int x10_21), (9, .int x9_19), (0, .ref (ad 0)), (2, .int x2), (3, .int x3), (4, .int x4), (5, .int x5), (6, .int x6), (7, .int x7)]) hx hb dX51_look_402 hl (k := 10) rfl (by rw [ex8_48]; rfl) (by decide) rfl (fun ls hl => ?_)
              refine lv_goto (tgt := 40) hx hb dX51_look_405 (by decide) ?_
              exact ih x8_48 f_holds_47 hw _ _ ls hH (lv_sub hl [4, 5, 6, 7, 8, 9, 10, 0] rfl)
            · have hw := hw.1 (z_eq (rfl : x4.toInt = _) (rfl : x9_19.toInt = _) c_46)
              refine lv_iconst (v := 1) hx hb dX51_look_172 (by decide) ?_
              refine lv_goto (tgt := 177) hx hb dX51_look_173 (by decide) ?_
              refine lv_istore (lv' := [(11, .int 1), (10, .int x10_21), (9, .int x9_19), (0, .ref (ad 0)), (2, .int x2), (3, .int x3), (4, .int x4), (5, .int x5), (6, .int x6), (7, .int x7), (8, .int x8)]) hx hb dX51_look_177 hl (by decide) rfl (fun ls hl => ?_)
              refine lv_goto (tgt := 393) hx hb dX51_look_179 (by decide) ?_
              refine lv_aload_n hx hb dX51_look_393 rfl (lv_at hl 3 rfl) ?_
              refine k_get X hH in_X51 0 rfl hc 10 (by decide) q6352 rfl dX51_look_394 ?_
              refine lv_iload hx hb dX51_look_397 (lv_at hl 10 rfl) ?_
              refine lv_iload hx hb dX51_look_399 (lv_at hl 0 rfl) ?_
              obtain ⟨f_holds_50, ef_holds_50⟩ : ∃ y : Nat → Int32, y = upd f_holds x8.toNatClampNeg (vp_nar .boolean 1) := ⟨_, rfl⟩
              refine k_zast X hH 9 8 rfl rfl (z_in (rfl : x8.toInt = _) hq_17) dX51_look_401 ef_holds_50 (ws1 := (wX51 ci ad d f_groups f_kinds f_as f_bs f_cs f_conditions f_ranks f_denies f_wants f_rules f_holds_50)) rfl (fun H locs hH => ?_)
              have hw := hw (zF f_holds_50) (by rw [ef_holds_50]; exact z_st (f := f_holds) (rfl : x8.toInt = _) hq_17.1 (z_narZ (rfl : (1 : Int32).toInt = 1) (by decide)))
              have hq_52 := hw.1
              have hw := hw.2
              obtain ⟨x8_51, ex8_51⟩ : ∃ y : Int32, y = x8 + 1 := ⟨_, rfl⟩
              have hw := hw x8_51.toInt (by rw [ex8_51]; exact (z_x (z_add (z_m (rfl : x8.toInt = _)) (z_m (rfl : (1 : Int32).toInt = 1))) hq_52))
              refine lv_iinc (v := x8_51) (lv' := [(8, .int x8_51), (11, .int 1), (10, .int x10_21), (9, .int x9_19), (0, .ref (ad 0)), (2, .int x2), (3, .int x3), (4, .int x4), (5, .int x5), (6, .int x6), (7, .int x7)]) hx hb dX51_look_402 hl (k := 10) rfl (by rw [ex8_51]; rfl) (by decide) rfl (fun ls hl => ?_)
              refine lv_goto (tgt := 40) hx hb dX51_look_405 (by decide) ?_
              exact ih x8_51 f_holds_50 hw _ _ ls hH (lv_sub hl [4, 5, 6, 7, 8, 9, 10, 0] rfl)
          · have hw := hw.2 (z_ne (rfl : z_23.toInt = _) (rfl : (2 : Int32).toInt = 2) c_45)
            by_cases c_53 : z_23 = 3
            · have hw := hw.1 (z_eq (rfl : z_23.toInt = _) (rfl : (3 : Int32).toInt = 3) c_53)
              refine lv_tableIn (off := 111) (tgt := 182) hx hb dX51_look_71 (by rw [c_53]; decide) (by rw [c_53]; decide) (by rw [c_53]; rfl) (by decide) ?_
              refine lv_iload hx hb dX51_look_182 (lv_at hl 6 rfl) ?_
              refine lv_iload hx hb dX51_look_184 (lv_at hl 1 rfl) ?_
              refine lv_icmp_ne (tgt := 193) hx hb dX51_look_186 (by decide) (fun c_54 => ?_) (fun c_54 => ?_)
              · have hw := hw.2 (z_ne (rfl : x5.toInt = _) (rfl : x9_19.toInt = _) c_54)
                refine lv_iconst (v := 0) hx hb dX51_look_193 (by decide) ?_
                refine lv_istore (lv' := [(11, .int 0), (10, .int x10_21), (9, .int x9_19), (0, .ref (ad 0)), (2, .int x2), (3, .int x3), (4, .int x4), (5, .int x5), (6, .int x6), (7, .int x7), (8, .int x8)]) hx hb dX51_look_194 hl (by decide) rfl (fun ls hl => ?_)
                refine lv_goto (tgt := 393) hx hb dX51_look_196 (by decide) ?_
                refine lv_aload_n hx hb dX51_look_393 rfl (lv_at hl 3 rfl) ?_
                refine k_get X hH in_X51 0 rfl hc 10 (by decide) q6352 rfl dX51_look_394 ?_
                refine lv_iload hx hb dX51_look_397 (lv_at hl 10 rfl) ?_
                refine lv_iload hx hb dX51_look_399 (lv_at hl 0 rfl) ?_
                obtain ⟨f_holds_55, ef_holds_55⟩ : ∃ y : Nat → Int32, y = upd f_holds x8.toNatClampNeg (vp_nar .boolean 0) := ⟨_, rfl⟩
                refine k_zast X hH 9 8 rfl rfl (z_in (rfl : x8.toInt = _) hq_17) dX51_look_401 ef_holds_55 (ws1 := (wX51 ci ad d f_groups f_kinds f_as f_bs f_cs f_conditions f_ranks f_denies f_wants f_rules f_holds_55)) rfl (fun H locs hH => ?_)
                have hw := hw (zF f_holds_55) (by rw [ef_holds_55]; exact z_st (f := f_holds) (rfl : x8.toInt = _) hq_17.1 (z_narZ (rfl : (0 : Int32).toInt = 0) (by decide)))
                have hq_57 := hw.1
                have hw := hw.2
                obtain ⟨x8_56, ex8_56⟩ : ∃ y : Int32, y = x8 + 1 := ⟨_, rfl⟩
                have hw := hw x8_56.toInt (by rw [ex8_56]; exact (z_x (z_add (z_m (rfl : x8.toInt = _)) (z_m (rfl : (1 : Int32).toInt = 1))) hq_57))
                refine lv_iinc (v := x8_56) (lv' := [(8, .int x8_56), (11, .int 0), (10, .int x10_21), (9, .int x9_19), (0, .ref (ad 0)), (2, .int x2), (3, .int x3), (4, .int x4), (5, .int x5), (6, .int x6), (7, .int x7)]) hx hb dX51_look_402 hl (k := 10) rfl (by rw [ex8_56]; rfl) (by decide) rfl (fun ls hl => ?_)
                refine lv_goto (tgt := 40) hx hb dX51_look_405 (by decide) ?_
                exact ih x8_56 f_holds_55 hw _ _ ls hH (lv_sub hl [4, 5, 6, 7, 8, 9, 10, 0] rfl)
              · have hw := hw.1 (z_eq (rfl : x5.toInt = _) (rfl : x9_19.toInt = _) c_54)
                refine lv_iconst (v := 1) hx hb dX51_look_189 (by decide) ?_
                refine lv_goto (tgt := 194) hx hb dX51_look_190 (by decide) ?_
                refine lv_istore (lv' := [(11, .int 1), (10, .int x10_21), (9, .int x9_19), (0, .ref (ad 0)), (2, .int x2), (3, .int x3), (4, .int x4), (5, .int x5), (6, .int x6), (7, .int x7), (8, .int x8)]) hx hb dX51_look_194 hl (by decide) rfl (fun ls hl => ?_)
                refine lv_goto (tgt := 393) hx hb dX51_look_196 (by decide) ?_
                refine lv_aload_n hx hb dX51_look_393 rfl (lv_at hl 3 rfl) ?_
                refine k_get X hH in_X51 0 rfl hc 10 (by decide) q6352 rfl dX51_look_394 ?_
                refine lv_iload hx hb dX51_look_397 (lv_at hl 10 rfl) ?_
                refine lv_iload hx hb dX51_look_399 (lv_at hl 0 rfl) ?_
                obtain ⟨f_holds_58, ef_holds_58⟩ : ∃ y : Nat → Int32, y = upd f_holds x8.toNatClampNeg (vp_nar .boolean 1) := ⟨_, rfl⟩
                refine k_zast X hH 9 8 rfl rfl (z_in (rfl : x8.toInt = _) hq_17) dX51_look_401 ef_holds_58 (ws1 := (wX51 ci ad d f_groups f_kinds f_as f_bs f_cs f_conditions f_ranks f_denies f_wants f_rules f_holds_58)) rfl (fun H locs hH => ?_)
                have hw := hw (zF f_holds_58) (by rw [ef_holds_58]; exact z_st (f := f_holds) (rfl : x8.toInt = _) hq_17.1 (z_narZ (rfl : (1 : Int32).toInt = 1) (by decide)))
                have hq_60 := hw.1
                have hw := hw.2
                obtain ⟨x8_59, ex8_59⟩ : ∃ y : Int32, y = x8 + 1 := ⟨_, rfl⟩
                have hw := hw x8_59.toInt (by rw [ex8_59]; exact (z_x (z_add (z_m (rfl : x8.toInt = _)) (z_m (rfl : (1 : Int32).toInt = 1))) hq_60))
                refine lv_iinc (v := x8_59) (lv' := [(8, .int x8_59), (11, .int 1), (10, .int x10_21), (9, .int x9_19), (0, .ref (ad 0)), (2, .int x2), (3, .int x3), (4, .int x4), (5, .int x5), (6, .int x6), (7, .int x7)]) hx hb dX51_look_402 hl (k := 10) rfl (by rw [ex8_59]; rfl) (by decide) rfl (fun ls hl => ?_)
                refine lv_goto (tgt := 40) hx hb dX51_look_405 (by decide) ?_
                exact ih x8_59 f_holds_58 hw _ _ ls hH (lv_sub hl [4, 5, 6, 7, 8, 9, 10, 0] rfl)
            · have hw := hw.2 (z_ne (rfl : z_23.toInt = _) (rfl : (3 : Int32).toInt = 3) c_53)
              by_cases c_61 : z_23 = 4
              · have hw := hw.1 (z_eq (rfl : z_23.toInt = _) (rfl : (4 : Int32).toInt = 4) c_61)
                refine lv_tableIn (off := 128) (tgt := 199) hx hb dX51_look_71 (by rw [c_61]; decide) (by rw [c_61]; decide) (by rw [c_61]; rfl) (by decide) ?_
                refine lv_iload hx hb dX51_look_199 (lv_at hl 7 rfl) ?_
                refine lv_iload hx hb dX51_look_201 (lv_at hl 1 rfl) ?_
                refine lv_icmp_ne (tgt := 210) hx hb dX51_look_203 (by decide) (fun c_62 => ?_) (fun c_62 => ?_)
                · have hw := hw.2 (z_ne (rfl : x6.toInt = _) (rfl : x9_19.toInt = _) c_62)
                  refine lv_iconst (v := 0) hx hb dX51_look_210 (by decide) ?_
                  refine lv_istore (lv' := [(11, .int 0), (10, .int x10_21), (9, .int x9_19), (0, .ref (ad 0)), (2, .int x2), (3, .int x3), (4, .int x4), (5, .int x5), (6, .int x6), (7, .int x7), (8, .int x8)]) hx hb dX51_look_211 hl (by decide) rfl (fun ls hl => ?_)
                  refine lv_goto (tgt := 393) hx hb dX51_look_213 (by decide) ?_
                  refine lv_aload_n hx hb dX51_look_393 rfl (lv_at hl 3 rfl) ?_
                  refine k_get X hH in_X51 0 rfl hc 10 (by decide) q6352 rfl dX51_look_394 ?_
                  refine lv_iload hx hb dX51_look_397 (lv_at hl 10 rfl) ?_
                  refine lv_iload hx hb dX51_look_399 (lv_at hl 0 rfl) ?_
                  obtain ⟨f_holds_63, ef_holds_63⟩ : ∃ y : Nat → Int32, y = upd f_holds x8.toNatClampNeg (vp_nar .boolean 0) := ⟨_, rfl⟩
                  refine k_zast X hH 9 8 rfl rfl (z_in (rfl : x8.toInt = _) hq_17) dX51_look_401 ef_holds_63 (ws1 := (wX51 ci ad d f_groups f_kinds f_as f_bs f_cs f_conditions f_ranks f_denies f_wants f_rules f_holds_63)) rfl (fun H locs hH => ?_)
                  have hw := hw (zF f_holds_63) (by rw [ef_holds_63]; exact z_st (f := f_holds) (rfl : x8.toInt = _) hq_17.1 (z_narZ (rfl : (0 : Int32).toInt = 0) (by decide)))
                  have hq_65 := hw.1
                  have hw := hw.2
                  obtain ⟨x8_64, ex8_64⟩ : ∃ y : Int32, y = x8 + 1 := ⟨_, rfl⟩
                  have hw := hw x8_64.toInt (by rw [ex8_64]; exact (z_x (z_add (z_m (rfl : x8.toInt = _)) (z_m (rfl : (1 : Int32).toInt = 1))) hq_65))
                  refine lv_iinc (v := x8_64) (lv' := [(8, .int x8_64), (11, .int 0), (10, .int x10_21), (9, .int x9_19), (0, .ref (ad 0)), (2, .int x2), (3, .int x3), (4, .int x4), (5, .int x5), (6, .int x6), (7, .int x7)]) hx hb dX51_look_402 hl (k := 10) rfl (by rw [ex8_64]; rfl) (by decide) rfl (fun ls hl => ?_)
                  refine lv_goto (tgt := 40) hx hb dX51_look_405 (by decide) ?_
                  exact ih x8_64 f_holds_63 hw _ _ ls hH (lv_sub hl [4, 5, 6, 7, 8, 9, 10, 0] rfl)
                · have hw := hw.1 (z_eq (rfl : x6.toInt = _) (rfl : x9_19.toInt = _) c_62)
                  refine lv_iconst (v := 1) hx hb dX51_look_206 (by decide) ?_
                  refine lv_goto (tgt := 211) hx hb dX51_look_207 (by decide) ?_
                  refine lv_istore (lv' := [(11, .int 1), (10, .int x10_21), (9, .int x9_19), (0, .ref (ad 0)), (2, .int x2), (3, .int x3), (4, .int x4), (5, .int x5), (6, .int x6), (7, .int x7), (8, .int x8)]) hx hb dX51_look_211 hl (by decide) rfl (fun ls hl => ?_)
                  refine lv_goto (tgt := 393) hx hb dX51_look_213 (by decide) ?_
                  refine lv_aload_n hx hb dX51_look_393 rfl (lv_at hl 3 rfl) ?_
                  refine k_get X hH in_X51 0 rfl hc 10 (by decide) q6352 rfl dX51_look_394 ?_
                  refine lv_iload hx hb dX51_look_397 (lv_at hl 10 rfl) ?_
                  refine lv_iload hx hb dX51_look_399 (lv_at hl 0 rfl) ?_
                  obtain ⟨f_holds_66, ef_holds_66⟩ : ∃ y : Nat → Int32, y = upd f_holds x8.toNatClampNeg (vp_nar .boolean 1) := ⟨_, rfl⟩
                  refine k_zast X hH 9 8 rfl rfl (z_in (rfl : x8.toInt = _) hq_17) dX51_look_401 ef_holds_66 (ws1 := (wX51 ci ad d f_groups f_kinds f_as f_bs f_cs f_conditions f_ranks f_denies f_wants f_rules f_holds_66)) rfl (fun H locs hH => ?_)
                  have hw := hw (zF f_holds_66) (by rw [ef_holds_66]; exact z_st (f := f_holds) (rfl : x8.toInt = _) hq_17.1 (z_narZ (rfl : (1 : Int32).toInt = 1) (by decide)))
                  have hq_68 := hw.1
                  have hw := hw.2
                  obtain ⟨x8_67, ex8_67⟩ : ∃ y : Int32, y = x8 + 1 := ⟨_, rfl⟩
                  have hw := hw x8_67.toInt (by rw [ex8_67]; exact (z_x (z_add (z_m (rfl : x8.toInt = _)) (z_m (rfl : (1 : Int32).toInt = 1))) hq_68))
                  refine lv_iinc (v := x8_67) (lv' := [(8, .int x8_67), (11, .int 1), (10, .int x10_21), (9, .int x9_19), (0, .ref (ad 0)), (2, .int x2), (3, .int x3), (4, .int x4), (5, .int x5), (6, .int x6), (7, .int x7)]) hx hb dX51_look_402 hl (k := 10) rfl (by rw [ex8_67]; rfl) (by decide) rfl (fun ls hl => ?_)
                  refine lv_goto (tgt := 40) hx hb dX51_look_405 (by decide) ?_
                  exact ih x8_67 f_holds_66 hw _ _ ls hH (lv_sub hl [4, 5, 6, 7, 8, 9, 10, 0] rfl)
              · have hw := hw.2 (z_ne (rfl : z_23.toInt = _) (rfl : (4 : Int32).toInt = 4) c_61)
                by_cases c_69 : z_23 = 5
                · have hw := hw.1 (z_eq (rfl : z_23.toInt = _) (rfl : (5 : Int32).toInt = 5) c_69)
                  refine lv_tableIn (off := 145) (tgt := 216) hx hb dX51_look_71 (by rw [c_69]; decide) (by rw [c_69]; decide) (by rw [c_69]; rfl) (by decide) ?_
                  refine lv_iload hx hb dX51_look_216 (lv_at hl 8 rfl) ?_
                  refine lv_iload hx hb dX51_look_218 (lv_at hl 1 rfl) ?_
                  refine lv_icmp_lt (tgt := 234) hx hb dX51_look_220 (by decide) (fun c_70 => ?_) (fun c_70 => ?_)
                  · have hw := hw.1 (z_lt (rfl : x7.toInt = _) (rfl : x9_19.toInt = _) c_70)
                    refine lv_iconst (v := 0) hx hb dX51_look_234 (by decide) ?_
                    refine lv_istore (lv' := [(11, .int 0), (10, .int x10_21), (9, .int x9_19), (0, .ref (ad 0)), (2, .int x2), (3, .int x3), (4, .int x4), (5, .int x5), (6, .int x6), (7, .int x7), (8, .int x8)]) hx hb dX51_look_235 hl (by decide) rfl (fun ls hl => ?_)
                    refine lv_goto (tgt := 393) hx hb dX51_look_237 (by decide) ?_
                    refine lv_aload_n hx hb dX51_look_393 rfl (lv_at hl 3 rfl) ?_
                    refine k_get X hH in_X51 0 rfl hc 10 (by decide) q6352 rfl dX51_look_394 ?_
                    refine lv_iload hx hb dX51_look_397 (lv_at hl 10 rfl) ?_
                    refine lv_iload hx hb dX51_look_399 (lv_at hl 0 rfl) ?_
                    obtain ⟨f_holds_71, ef_holds_71⟩ : ∃ y : Nat → Int32, y = upd f_holds x8.toNatClampNeg (vp_nar .boolean 0) := ⟨_, rfl⟩
                    refine k_zast X hH 9 8 rfl rfl (z_in (rfl : x8.toInt = _) hq_17) dX51_look_401 ef_holds_71 (ws1 := (wX51 ci ad d f_groups f_kinds f_as f_bs f_cs f_conditions f_ranks f_denies f_wants f_rules f_holds_71)) rfl (fun H locs hH => ?_)
                    have hw := hw (zF f_holds_71) (by rw [ef_holds_71]; exact z_st (f := f_holds) (rfl : x8.toInt = _) hq_17.1 (z_narZ (rfl : (0 : Int32).toInt = 0) (by decide)))
                    have hq_73 := hw.1
                    have hw := hw.2
                    obtain ⟨x8_72, ex8_72⟩ : ∃ y : Int32, y = x8 + 1 := ⟨_, rfl⟩
                    have hw := hw x8_72.toInt (by rw [ex8_72]; exact (z_x (z_add (z_m (rfl : x8.toInt = _)) (z_m (rfl : (1 : Int32).toInt = 1))) hq_73))
                    refine lv_iinc (v := x8_72) (lv' := [(8, .int x8_72), (11, .int 0), (10, .int x10_21), (9, .int x9_19), (0, .ref (ad 0)), (2, .int x2), (3, .int x3), (4, .int x4), (5, .int x5), (6, .int x6), (7, .int x7)]) hx hb dX51_look_402 hl (k := 10) rfl (by rw [ex8_72]; rfl) (by decide) rfl (fun ls hl => ?_)
                    refine lv_goto (tgt := 40) hx hb dX51_look_405 (by decide) ?_
                    exact ih x8_72 f_holds_71 hw _ _ ls hH (lv_sub hl [4, 5, 6, 7, 8, 9, 10, 0] rfl)
                  · have hw := hw.2 (z_nlt (rfl : x7.toInt = _) (rfl : x9_19.toInt = _) c_70)
                    refine lv_iload hx hb dX51_look_223 (lv_at hl 8 rfl) ?_
                    refine lv_iload hx hb dX51_look_225 (lv_at hl 0 rfl) ?_
                    refine lv_icmp_gt (tgt := 234) hx hb dX51_look_227 (by decide) (fun c_74 => ?_) (fun c_74 => ?_)
                    · have hw := hw.1 (z_lt (rfl : x10_21.toInt = _) (rfl : x7.toInt = _) c_74)
                      refine lv_iconst (v := 0) hx hb dX51_look_234 (by decide) ?_
                      refine lv_istore (lv' := [(11, .int 0), (10, .int x10_21), (9, .int x9_19), (0, .ref (ad 0)), (2, .int x2), (3, .int x3), (4, .int x4), (5, .int x5), (6, .int x6), (7, .int x7), (8, .int x8)]) hx hb dX51_look_235 hl (by decide) rfl (fun ls hl => ?_)
                      refine lv_goto (tgt := 393) hx hb dX51_look_237 (by decide) ?_
                      refine lv_aload_n hx hb dX51_look_393 rfl (lv_at hl 3 rfl) ?_
                      refine k_get X hH in_X51 0 rfl hc 10 (by decide) q6352 rfl dX51_look_394 ?_
                      refine lv_iload hx hb dX51_look_397 (lv_at hl 10 rfl) ?_
                      refine lv_iload hx hb dX51_look_399 (lv_at hl 0 rfl) ?_
                      obtain ⟨f_holds_75, ef_holds_75⟩ : ∃ y : Nat → Int32, y = upd f_holds x8.toNatClampNeg (vp_nar .boolean 0) := ⟨_, rfl⟩
                      refine k_zast X hH 9 8 rfl rfl (z_in (rfl : x8.toInt = _) hq_17) dX51_look_401 ef_holds_75 (ws1 := (wX51 ci ad d f_groups f_kinds f_as f_bs f_cs f_conditions f_ranks f_denies f_wants f_rules f_holds_75)) rfl (fun H locs hH => ?_)
                      have hw := hw (zF f_holds_75) (by rw [ef_holds_75]; exact z_st (f := f_holds) (rfl : x8.toInt = _) hq_17.1 (z_narZ (rfl : (0 : Int32).toInt = 0) (by decide)))
                      have hq_77 := hw.1
                      have hw := hw.2
                      obtain ⟨x8_76, ex8_76⟩ : ∃ y : Int32, y = x8 + 1 := ⟨_, rfl⟩
                      have hw := hw x8_76.toInt (by rw [ex8_76]; exact (z_x (z_add (z_m (rfl : x8.toInt = _)) (z_m (rfl : (1 : Int32).toInt = 1))) hq_77))
                      refine lv_iinc (v := x8_76) (lv' := [(8, .int x8_76), (11, .int 0), (10, .int x10_21), (9, .int x9_19), (0, .ref (ad 0)), (2, .int x2), (3, .int x3), (4, .int x4), (5, .int x5), (6, .int x6), (7, .int x7)]) hx hb dX51_look_402 hl (k := 10) rfl (by rw [ex8_76]; rfl) (by decide) rfl (fun ls hl => ?_)
                      refine lv_goto (tgt := 40) hx hb dX51_look_405 (by decide) ?_
                      exact ih x8_76 f_holds_75 hw _ _ ls hH (lv_sub hl [4, 5, 6, 7, 8, 9, 10, 0] rfl)
                    · have hw := hw.2 (z_nlt (rfl : x10_21.toInt = _) (rfl : x7.toInt = _) c_74)
                      refine lv_iconst (v := 1) hx hb dX51_look_230 (by decide) ?_
                      refine lv_goto (tgt := 235) hx hb dX51_look_231 (by decide) ?_
                      refine lv_istore (lv' := [(11, .int 1), (10, .int x10_21), (9, .int x9_19), (0, .ref (ad 0)), (2, .int x2), (3, .int x3), (4, .int x4), (5, .int x5), (6, .int x6), (7, .int x7), (8, .int x8)]) hx hb dX51_look_235 hl (by decide) rfl (fun ls hl => ?_)
                      refine lv_goto (tgt := 393) hx hb dX51_look_237 (by decide) ?_
                      refine lv_aload_n hx hb dX51_look_393 rfl (lv_at hl 3 rfl) ?_
                      refine k_get X hH in_X51 0 rfl hc 10 (by decide) q6352 rfl dX51_look_394 ?_
                      refine lv_iload hx hb dX51_look_397 (lv_at hl 10 rfl) ?_
                      refine lv_iload hx hb dX51_look_399 (lv_at hl 0 rfl) ?_
                      obtain ⟨f_holds_78, ef_holds_78⟩ : ∃ y : Nat → Int32, y = upd f_holds x8.toNatClampNeg (vp_nar .boolean 1) := ⟨_, rfl⟩
                      refine k_zast X hH 9 8 rfl rfl (z_in (rfl : x8.toInt = _) hq_17) dX51_look_401 ef_holds_78 (ws1 := (wX51 ci ad d f_groups f_kinds f_as f_bs f_cs f_conditions f_ranks f_denies f_wants f_rules f_holds_78)) rfl (fun H locs hH => ?_)
                      have hw := hw (zF f_holds_78) (by rw [ef_holds_78]; exact z_st (f := f_holds) (rfl : x8.toInt = _) hq_17.1 (z_narZ (rfl : (1 : Int32).toInt = 1) (by decide)))
                      have hq_80 := hw.1
                      have hw := hw.2
                      obtain ⟨x8_79, ex8_79⟩ : ∃ y : Int32, y = x8 + 1 := ⟨_, rfl⟩
                      have hw := hw x8_79.toInt (by rw [ex8_79]; exact (z_x (z_add (z_m (rfl : x8.toInt = _)) (z_m (rfl : (1 : Int32).toInt = 1))) hq_80))
                      refine lv_iinc (v := x8_79) (lv' := [(8, .int x8_79), (11, .int 1), (10, .int x10_21), (9, .int x9_19), (0, .ref (ad 0)), (2, .int x2), (3, .int x3), (4, .int x4), (5, .int x5), (6, .int x6), (7, .int x7)]) hx hb dX51_look_402 hl (k := 10) rfl (by rw [ex8_79]; rfl) (by decide) rfl (fun ls hl => ?_)
                      refine lv_goto (tgt := 40) hx hb dX51_look_405 (by decide) ?_
                      exact ih x8_79 f_holds_78 hw _ _ ls hH (lv_sub hl [4, 5, 6, 7, 8, 9, 10, 0] rfl)
                · have hw := hw.2 (z_ne (rfl : z_23.toInt = _) (rfl : (5 : Int32).toInt = 5) c_69)
                  by_cases c_81 : z_23 = 6
                  · have hw := hw.1 (z_eq (rfl : z_23.toInt = _) (rfl : (6 : Int32).toInt = 6) c_81)
                    refine lv_tableIn (off := 169) (tgt := 240) hx hb dX51_look_71 (by rw [c_81]; decide) (by rw [c_81]; decide) (by rw [c_81]; rfl) (by decide) ?_
                    refine lv_aload_n hx hb dX51_look_240 rfl (lv_at hl 2 rfl) ?_
                    refine k_get X hH in_X51 0 rfl hc 10 (by decide) q6352 rfl dX51_look_241 ?_
                    refine lv_iload hx hb dX51_look_244 (lv_at hl 1 rfl) ?_
                    have hq_82 := hw.1
                    have hw := hw.2
                    refine k_zald X hH 9 8 rfl rfl (z_in (rfl : x9_19.toInt = _) hq_82) dX51_look_246 ?_
                    have e_83 := z_ld (f := f_holds) (rfl : x9_19.toInt = _) hq_82.1
                    refine lv_if_ne (tgt := 254) hx hb dX51_look_247 (by decide) (fun c_84 => ?_) (fun c_84 => ?_)
                    · have hw := hw.2 (z_ne e_83 (rfl : (0 : Int32).toInt = 0) c_84)
                      refine lv_iconst (v := 0) hx hb dX51_look_254 (by decide) ?_
                      refine lv_istore (lv' := [(11, .int 0), (10, .int x10_21), (9, .int x9_19), (0, .ref (ad 0)), (2, .int x2), (3, .int x3), (4, .int x4), (5, .int x5), (6, .int x6), (7, .int x7), (8, .int x8)]) hx hb dX51_look_255 hl (by decide) rfl (fun ls hl => ?_)
                      refine lv_goto (tgt := 393) hx hb dX51_look_257 (by decide) ?_
                      refine lv_aload_n hx hb dX51_look_393 rfl (lv_at hl 3 rfl) ?_
                      refine k_get X hH in_X51 0 rfl hc 10 (by decide) q6352 rfl dX51_look_394 ?_
                      refine lv_iload hx hb dX51_look_397 (lv_at hl 10 rfl) ?_
                      refine lv_iload hx hb dX51_look_399 (lv_at hl 0 rfl) ?_
                      obtain ⟨f_holds_85, ef_holds_85⟩ : ∃ y : Nat → Int32, y = upd f_holds x8.toNatClampNeg (vp_nar .boolean 0) := ⟨_, rfl⟩
                      refine k_zast X hH 9 8 rfl rfl (z_in (rfl : x8.toInt = _) hq_17) dX51_look_401 ef_holds_85 (ws1 := (wX51 ci ad d f_groups f_kinds f_as f_bs f_cs f_conditions f_ranks f_denies f_wants f_rules f_holds_85)) rfl (fun H locs hH => ?_)
                      have hw := hw (zF f_holds_85) (by rw [ef_holds_85]; exact z_st (f := f_holds) (rfl : x8.toInt = _) hq_17.1 (z_narZ (rfl : (0 : Int32).toInt = 0) (by decide)))
                      have hq_87 := hw.1
                      have hw := hw.2
                      obtain ⟨x8_86, ex8_86⟩ : ∃ y : Int32, y = x8 + 1 := ⟨_, rfl⟩
                      have hw := hw x8_86.toInt (by rw [ex8_86]; exact (z_x (z_add (z_m (rfl : x8.toInt = _)) (z_m (rfl : (1 : Int32).toInt = 1))) hq_87))
                      refine lv_iinc (v := x8_86) (lv' := [(8, .int x8_86), (11, .int 0), (10, .int x10_21), (9, .int x9_19), (0, .ref (ad 0)), (2, .int x2), (3, .int x3), (4, .int x4), (5, .int x5), (6, .int x6), (7, .int x7)]) hx hb dX51_look_402 hl (k := 10) rfl (by rw [ex8_86]; rfl) (by decide) rfl (fun ls hl => ?_)
                      refine lv_goto (tgt := 40) hx hb dX51_look_405 (by decide) ?_
                      exact ih x8_86 f_holds_85 hw _ _ ls hH (lv_sub hl [4, 5, 6, 7, 8, 9, 10, 0] rfl)
                    · have hw := hw.1 (z_eq e_83 (rfl : (0 : Int32).toInt = 0) c_84)
                      refine lv_iconst (v := 1) hx hb dX51_look_250 (by decide) ?_
                      refine lv_goto (tgt := 255) hx hb dX51_look_251 (by decide) ?_
                      refine lv_istore (lv' := [(11, .int 1), (10, .int x10_21), (9, .int x9_19), (0, .ref (ad 0)), (2, .int x2), (3, .int x3), (4, .int x4), (5, .int x5), (6, .int x6), (7, .int x7), (8, .int x8)]) hx hb dX51_look_255 hl (by decide) rfl (fun ls hl => ?_)
                      refine lv_goto (tgt := 393) hx hb dX51_look_257 (by decide) ?_
                      refine lv_aload_n hx hb dX51_look_393 rfl (lv_at hl 3 rfl) ?_
                      refine k_get X hH in_X51 0 rfl hc 10 (by decide) q6352 rfl dX51_look_394 ?_
                      refine lv_iload hx hb dX51_look_397 (lv_at hl 10 rfl) ?_
                      refine lv_iload hx hb dX51_look_399 (lv_at hl 0 rfl) ?_
                      obtain ⟨f_holds_88, ef_holds_88⟩ : ∃ y : Nat → Int32, y = upd f_holds x8.toNatClampNeg (vp_nar .boolean 1) := ⟨_, rfl⟩
                      refine k_zast X hH 9 8 rfl rfl (z_in (rfl : x8.toInt = _) hq_17) dX51_look_401 ef_holds_88 (ws1 := (wX51 ci ad d f_groups f_kinds f_as f_bs f_cs f_conditions f_ranks f_denies f_wants f_rules f_holds_88)) rfl (fun H locs hH => ?_)
                      have hw := hw (zF f_holds_88) (by rw [ef_holds_88]; exact z_st (f := f_holds) (rfl : x8.toInt = _) hq_17.1 (z_narZ (rfl : (1 : Int32).toInt = 1) (by decide)))
                      have hq_90 := hw.1
                      have hw := hw.2
                      obtain ⟨x8_89, ex8_89⟩ : ∃ y : Int32, y = x8 + 1 := ⟨_, rfl⟩
                      have hw := hw x8_89.toInt (by rw [ex8_89]; exact (z_x (z_add (z_m (rfl : x8.toInt = _)) (z_m (rfl : (1 : Int32).toInt = 1))) hq_90))
                      refine lv_iinc (v := x8_89) (lv' := [(8, .int x8_89), (11, .int 1), (10, .int x10_21), (9, .int x9_19), (0, .ref (ad 0)), (2, .int x2), (3, .int x3), (4, .int x4), (5, .int x5), (6, .int x6), (7, .int x7)]) hx hb dX51_look_402 hl (k := 10) rfl (by rw [ex8_89]; rfl) (by decide) rfl (fun ls hl => ?_)
                      refine lv_goto (tgt := 40) hx hb dX51_look_405 (by decide) ?_
                      exact ih x8_89 f_holds_88 hw _ _ ls hH (lv_sub hl [4, 5, 6, 7, 8, 9, 10, 0] rfl)
                  · have hw := hw.2 (z_ne (rfl : z_23.toInt = _) (rfl : (6 : Int32).toInt = 6) c_81)
                    by_cases c_91 : z_23 = 7
                    · have hw := hw.1 (z_eq (rfl : z_23.toInt = _) (rfl : (7 : Int32).toInt = 7) c_91)
                      refine lv_tableIn (off := 189) (tgt := 260) hx hb dX51_look_71 (by rw [c_91]; decide) (by rw [c_91]; decide) (by rw [c_91]; rfl) (by decide) ?_
                      refine lv_aload_n hx hb dX51_look_260 rfl (lv_at hl 2 rfl) ?_
                      refine k_get X hH in_X51 0 rfl hc 10 (by decide) q6352 rfl dX51_look_261 ?_
                      refine lv_iload hx hb dX51_look_264 (lv_at hl 1 rfl) ?_
                      have hq_92 := hw.1
                      have hw := hw.2
                      refine k_zald X hH 9 8 rfl rfl (z_in (rfl : x9_19.toInt = _) hq_92) dX51_look_266 ?_
                      have e_93 := z_ld (f := f_holds) (rfl : x9_19.toInt = _) hq_92.1
                      refine lv_if_eq (tgt := 284) hx hb dX51_look_267 (by decide) (fun c_94 => ?_) (fun c_94 => ?_)
                      · have hw := hw.1 (z_eq e_93 (rfl : (0 : Int32).toInt = 0) c_94)
                        refine lv_iconst (v := 0) hx hb dX51_look_284 (by decide) ?_
                        refine lv_istore (lv' := [(11, .int 0), (10, .int x10_21), (9, .int x9_19), (0, .ref (ad 0)), (2, .int x2), (3, .int x3), (4, .int x4), (5, .int x5), (6, .int x6), (7, .int x7), (8, .int x8)]) hx hb dX51_look_285 hl (by decide) rfl (fun ls hl => ?_)
                        refine lv_goto (tgt := 393) hx hb dX51_look_287 (by decide) ?_
                        refine lv_aload_n hx hb dX51_look_393 rfl (lv_at hl 3 rfl) ?_
                        refine k_get X hH in_X51 0 rfl hc 10 (by decide) q6352 rfl dX51_look_394 ?_
                        refine lv_iload hx hb dX51_look_397 (lv_at hl 10 rfl) ?_
                        refine lv_iload hx hb dX51_look_399 (lv_at hl 0 rfl) ?_
                        obtain ⟨f_holds_95, ef_holds_95⟩ : ∃ y : Nat → Int32, y = upd f_holds x8.toNatClampNeg (vp_nar .boolean 0) := ⟨_, rfl⟩
                        refine k_zast X hH 9 8 rfl rfl (z_in (rfl : x8.toInt = _) hq_17) dX51_look_401 ef_holds_95 (ws1 := (wX51 ci ad d f_groups f_kinds f_as f_bs f_cs f_conditions f_ranks f_denies f_wants f_rules f_holds_95)) rfl (fun H locs hH => ?_)
                        have hw := hw (zF f_holds_95) (by rw [ef_holds_95]; exact z_st (f := f_holds) (rfl : x8.toInt = _) hq_17.1 (z_narZ (rfl : (0 : Int32).toInt = 0) (by decide)))
                        have hq_97 := hw.1
                        have hw := hw.2
                        obtain ⟨x8_96, ex8_96⟩ : ∃ y : Int32, y = x8 + 1 := ⟨_, rfl⟩
                        have hw := hw x8_96.toInt (by rw [ex8_96]; exact (z_x (z_add (z_m (rfl : x8.toInt = _)) (z_m (rfl : (1 : Int32).toInt = 1))) hq_97))
                        refine lv_iinc (v := x8_96) (lv' := [(8, .int x8_96), (11, .int 0), (10, .int x10_21), (9, .int x9_19), (0, .ref (ad 0)), (2, .int x2), (3, .int x3), (4, .int x4), (5, .int x5), (6, .int x6), (7, .int x7)]) hx hb dX51_look_402 hl (k := 10) rfl (by rw [ex8_96]; rfl) (by decide) rfl (fun ls hl => ?_)
                        refine lv_goto (tgt := 40) hx hb dX51_look_405 (by decide) ?_
                        exact ih x8_96 f_holds_95 hw _ _ ls hH (lv_sub hl [4, 5, 6, 7, 8, 9, 10, 0] rfl)
                      · have hw := hw.2 (z_neq e_93 (rfl : (0 : Int32).toInt = 0) c_94)
                        refine lv_aload_n hx hb dX51_look_270 rfl (lv_at hl 2 rfl) ?_
                        refine k_get X hH in_X51 0 rfl hc 10 (by decide) q6352 rfl dX51_look_271 ?_
                        refine lv_iload hx hb dX51_look_274 (lv_at hl 0 rfl) ?_
                        have hq_98 := hw.1
                        have hw := hw.2
                        refine k_zald X hH 9 8 rfl rfl (z_in (rfl : x10_21.toInt = _) hq_98) dX51_look_276 ?_
                        have e_99 := z_ld (f := f_holds) (rfl : x10_21.toInt = _) hq_98.1
                        refine lv_if_eq (tgt := 284) hx hb dX51_look_277 (by decide) (fun c_100 => ?_) (fun c_100 => ?_)
                        · have hw := hw.1 (z_eq e_99 (rfl : (0 : Int32).toInt = 0) c_100)
                          refine lv_iconst (v := 0) hx hb dX51_look_284 (by decide) ?_
                          refine lv_istore (lv' := [(11, .int 0), (10, .int x10_21), (9, .int x9_19), (0, .ref (ad 0)), (2, .int x2), (3, .int x3), (4, .int x4), (5, .int x5), (6, .int x6), (7, .int x7), (8, .int x8)]) hx hb dX51_look_285 hl (by decide) rfl (fun ls hl => ?_)
                          refine lv_goto (tgt := 393) hx hb dX51_look_287 (by decide) ?_
                          refine lv_aload_n hx hb dX51_look_393 rfl (lv_at hl 3 rfl) ?_
                          refine k_get X hH in_X51 0 rfl hc 10 (by decide) q6352 rfl dX51_look_394 ?_
                          refine lv_iload hx hb dX51_look_397 (lv_at hl 10 rfl) ?_
                          refine lv_iload hx hb dX51_look_399 (lv_at hl 0 rfl) ?_
                          obtain ⟨f_holds_101, ef_holds_101⟩ : ∃ y : Nat → Int32, y = upd f_holds x8.toNatClampNeg (vp_nar .boolean 0) := ⟨_, rfl⟩
                          refine k_zast X hH 9 8 rfl rfl (z_in (rfl : x8.toInt = _) hq_17) dX51_look_401 ef_holds_101 (ws1 := (wX51 ci ad d f_groups f_kinds f_as f_bs f_cs f_conditions f_ranks f_denies f_wants f_rules f_holds_101)) rfl (fun H locs hH => ?_)
                          have hw := hw (zF f_holds_101) (by rw [ef_holds_101]; exact z_st (f := f_holds) (rfl : x8.toInt = _) hq_17.1 (z_narZ (rfl : (0 : Int32).toInt = 0) (by decide)))
                          have hq_103 := hw.1
                          have hw := hw.2
                          obtain ⟨x8_102, ex8_102⟩ : ∃ y : Int32, y = x8 + 1 := ⟨_, rfl⟩
                          have hw := hw x8_102.toInt (by rw [ex8_102]; exact (z_x (z_add (z_m (rfl : x8.toInt = _)) (z_m (rfl : (1 : Int32).toInt = 1))) hq_103))
                          refine lv_iinc (v := x8_102) (lv' := [(8, .int x8_102), (11, .int 0), (10, .int x10_21), (9, .int x9_19), (0, .ref (ad 0)), (2, .int x2), (3, .int x3), (4, .int x4), (5, .int x5), (6, .int x6), (7, .int x7)]) hx hb dX51_look_402 hl (k := 10) rfl (by rw [ex8_102]; rfl) (by decide) rfl (fun ls hl => ?_)
                          refine lv_goto (tgt := 40) hx hb dX51_look_405 (by decide) ?_
                          exact ih x8_102 f_holds_101 hw _ _ ls hH (lv_sub hl [4, 5, 6, 7, 8, 9, 10, 0] rfl)
                        · have hw := hw.2 (z_neq e_99 (rfl : (0 : Int32).toInt = 0) c_100)
                          refine lv_iconst (v := 1) hx hb dX51_look_280 (by decide) ?_
                          refine lv_goto (tgt := 285) hx hb dX51_look_281 (by decide) ?_
                          refine lv_istore (lv' := [(11, .int 1), (10, .int x10_21), (9, .int x9_19), (0, .ref (ad 0)), (2, .int x2), (3, .int x3), (4, .int x4), (5, .int x5), (6, .int x6), (7, .int x7), (8, .int x8)]) hx hb dX51_look_285 hl (by decide) rfl (fun ls hl => ?_)
                          refine lv_goto (tgt := 393) hx hb dX51_look_287 (by decide) ?_
                          refine lv_aload_n hx hb dX51_look_393 rfl (lv_at hl 3 rfl) ?_
                          refine k_get X hH in_X51 0 rfl hc 10 (by decide) q6352 rfl dX51_look_394 ?_
                          refine lv_iload hx hb dX51_look_397 (lv_at hl 10 rfl) ?_
                          refine lv_iload hx hb dX51_look_399 (lv_at hl 0 rfl) ?_
                          obtain ⟨f_holds_104, ef_holds_104⟩ : ∃ y : Nat → Int32, y = upd f_holds x8.toNatClampNeg (vp_nar .boolean 1) := ⟨_, rfl⟩
                          refine k_zast X hH 9 8 rfl rfl (z_in (rfl : x8.toInt = _) hq_17) dX51_look_401 ef_holds_104 (ws1 := (wX51 ci ad d f_groups f_kinds f_as f_bs f_cs f_conditions f_ranks f_denies f_wants f_rules f_holds_104)) rfl (fun H locs hH => ?_)
                          have hw := hw (zF f_holds_104) (by rw [ef_holds_104]; exact z_st (f := f_holds) (rfl : x8.toInt = _) hq_17.1 (z_narZ (rfl : (1 : Int32).toInt = 1) (by decide)))
                          have hq_106 := hw.1
                          have hw := hw.2
                          obtain ⟨x8_105, ex8_105⟩ : ∃ y : Int32, y = x8 + 1 := ⟨_, rfl⟩
                          have hw := hw x8_105.toInt (by rw [ex8_105]; exact (z_x (z_add (z_m (rfl : x8.toInt = _)) (z_m (rfl : (1 : Int32).toInt = 1))) hq_106))
                          refine lv_iinc (v := x8_105) (lv' := [(8, .int x8_105), (11, .int 1), (10, .int x10_21), (9, .int x9_19), (0, .ref (ad 0)), (2, .int x2), (3, .int x3), (4, .int x4), (5, .int x5), (6, .int x6), (7, .int x7)]) hx hb dX51_look_402 hl (k := 10) rfl (by rw [ex8_105]; rfl) (by decide) rfl (fun ls hl => ?_)
                          refine lv_goto (tgt := 40) hx hb dX51_look_405 (by decide) ?_
                          exact ih x8_105 f_holds_104 hw _ _ ls hH (lv_sub hl [4, 5, 6, 7, 8, 9, 10, 0] rfl)
                    · have hw := hw.2 (z_ne (rfl : z_23.toInt = _) (rfl : (7 : Int32).toInt = 7) c_91)
                      by_cases c_107 : z_23 = 8
                      · have hw := hw.1 (z_eq (rfl : z_23.toInt = _) (rfl : (8 : Int32).toInt = 8) c_107)
                        refine lv_tableIn (off := 219) (tgt := 290) hx hb dX51_look_71 (by rw [c_107]; decide) (by rw [c_107]; decide) (by rw [c_107]; rfl) (by decide) ?_
                        refine lv_aload_n hx hb dX51_look_290 rfl (lv_at hl 2 rfl) ?_
                        refine k_get X hH in_X51 0 rfl hc 10 (by decide) q6352 rfl dX51_look_291 ?_
                        refine lv_iload hx hb dX51_look_294 (lv_at hl 1 rfl) ?_
                        have hq_108 := hw.1
                        have hw := hw.2
                        refine k_zald X hH 9 8 rfl rfl (z_in (rfl : x9_19.toInt = _) hq_108) dX51_look_296 ?_
                        have e_109 := z_ld (f := f_holds) (rfl : x9_19.toInt = _) hq_108.1
                        refine lv_if_ne (tgt := 310) hx hb dX51_look_297 (by decide) (fun c_110 => ?_) (fun c_110 => ?_)
                        · have hw := hw.2 (z_ne e_109 (rfl : (0 : Int32).toInt = 0) c_110)
                          refine lv_iconst (v := 1) hx hb dX51_look_310 (by decide) ?_
                          refine lv_goto (tgt := 315) hx hb dX51_look_311 (by decide) ?_
                          refine lv_istore (lv' := [(11, .int 1), (10, .int x10_21), (9, .int x9_19), (0, .ref (ad 0)), (2, .int x2), (3, .int x3), (4, .int x4), (5, .int x5), (6, .int x6), (7, .int x7), (8, .int x8)]) hx hb dX51_look_315 hl (by decide) rfl (fun ls hl => ?_)
                          refine lv_goto (tgt := 393) hx hb dX51_look_317 (by decide) ?_
                          refine lv_aload_n hx hb dX51_look_393 rfl (lv_at hl 3 rfl) ?_
                          refine k_get X hH in_X51 0 rfl hc 10 (by decide) q6352 rfl dX51_look_394 ?_
                          refine lv_iload hx hb dX51_look_397 (lv_at hl 10 rfl) ?_
                          refine lv_iload hx hb dX51_look_399 (lv_at hl 0 rfl) ?_
                          obtain ⟨f_holds_111, ef_holds_111⟩ : ∃ y : Nat → Int32, y = upd f_holds x8.toNatClampNeg (vp_nar .boolean 1) := ⟨_, rfl⟩
                          refine k_zast X hH 9 8 rfl rfl (z_in (rfl : x8.toInt = _) hq_17) dX51_look_401 ef_holds_111 (ws1 := (wX51 ci ad d f_groups f_kinds f_as f_bs f_cs f_conditions f_ranks f_denies f_wants f_rules f_holds_111)) rfl (fun H locs hH => ?_)
                          have hw := hw (zF f_holds_111) (by rw [ef_holds_111]; exact z_st (f := f_holds) (rfl : x8.toInt = _) hq_17.1 (z_narZ (rfl : (1 : Int32).toInt = 1) (by decide)))
                          have hq_113 := hw.1
                          have hw := hw.2
                          obtain ⟨x8_112, ex8_112⟩ : ∃ y : Int32, y = x8 + 1 := ⟨_, rfl⟩
                          have hw := hw x8_112.toInt (by rw [ex8_112]; exact (z_x (z_add (z_m (rfl : x8.toInt = _)) (z_m (rfl : (1 : Int32).toInt = 1))) hq_113))
                          refine lv_iinc (v := x8_112) (lv' := [(8, .int x8_112), (11, .int 1), (10, .int x10_21), (9, .int x9_19), (0, .ref (ad 0)), (2, .int x2), (3, .int x3), (4, .int x4), (5, .int x5), (6, .int x6), (7, .int x7)]) hx hb dX51_look_402 hl (k := 10) rfl (by rw [ex8_112]; rfl) (by decide) rfl (fun ls hl => ?_)
                          refine lv_goto (tgt := 40) hx hb dX51_look_405 (by decide) ?_
                          exact ih x8_112 f_holds_111 hw _ _ ls hH (lv_sub hl [4, 5, 6, 7, 8, 9, 10, 0] rfl)
                        · have hw := hw.1 (z_eq e_109 (rfl : (0 : Int32).toInt = 0) c_110)
                          refine lv_aload_n hx hb dX51_look_300 rfl (lv_at hl 2 rfl) ?_
                          refine k_get X hH in_X51 0 rfl hc 10 (by decide) q6352 rfl dX51_look_301 ?_
                          refine lv_iload hx hb dX51_look_304 (lv_at hl 0 rfl) ?_
                          have hq_114 := hw.1
                          have hw := hw.2
                          refine k_zald X hH 9 8 rfl rfl (z_in (rfl : x10_21.toInt = _) hq_114) dX51_look_306 ?_
                          have e_115 := z_ld (f := f_holds) (rfl : x10_21.toInt = _) hq_114.1
                          refine lv_if_eq (tgt := 314) hx hb dX51_look_307 (by decide) (fun c_116 => ?_) (fun c_116 => ?_)
                          · have hw := hw.1 (z_eq e_115 (rfl : (0 : Int32).toInt = 0) c_116)
                            refine lv_iconst (v := 0) hx hb dX51_look_314 (by decide) ?_
                            refine lv_istore (lv' := [(11, .int 0), (10, .int x10_21), (9, .int x9_19), (0, .ref (ad 0)), (2, .int x2), (3, .int x3), (4, .int x4), (5, .int x5), (6, .int x6), (7, .int x7), (8, .int x8)]) hx hb dX51_look_315 hl (by decide) rfl (fun ls hl => ?_)
                            refine lv_goto (tgt := 393) hx hb dX51_look_317 (by decide) ?_
                            refine lv_aload_n hx hb dX51_look_393 rfl (lv_at hl 3 rfl) ?_
                            refine k_get X hH in_X51 0 rfl hc 10 (by decide) q6352 rfl dX51_look_394 ?_
                            refine lv_iload hx hb dX51_look_397 (lv_at hl 10 rfl) ?_
                            refine lv_iload hx hb dX51_look_399 (lv_at hl 0 rfl) ?_
                            obtain ⟨f_holds_117, ef_holds_117⟩ : ∃ y : Nat → Int32, y = upd f_holds x8.toNatClampNeg (vp_nar .boolean 0) := ⟨_, rfl⟩
                            refine k_zast X hH 9 8 rfl rfl (z_in (rfl : x8.toInt = _) hq_17) dX51_look_401 ef_holds_117 (ws1 := (wX51 ci ad d f_groups f_kinds f_as f_bs f_cs f_conditions f_ranks f_denies f_wants f_rules f_holds_117)) rfl (fun H locs hH => ?_)
                            have hw := hw (zF f_holds_117) (by rw [ef_holds_117]; exact z_st (f := f_holds) (rfl : x8.toInt = _) hq_17.1 (z_narZ (rfl : (0 : Int32).toInt = 0) (by decide)))
                            have hq_119 := hw.1
                            have hw := hw.2
                            obtain ⟨x8_118, ex8_118⟩ : ∃ y : Int32, y = x8 + 1 := ⟨_, rfl⟩
                            have hw := hw x8_118.toInt (by rw [ex8_118]; exact (z_x (z_add (z_m (rfl : x8.toInt = _)) (z_m (rfl : (1 : Int32).toInt = 1))) hq_119))
                            refine lv_iinc (v := x8_118) (lv' := [(8, .int x8_118), (11, .int 0), (10, .int x10_21), (9, .int x9_19), (0, .ref (ad 0)), (2, .int x2), (3, .int x3), (4, .int x4), (5, .int x5), (6, .int x6), (7, .int x7)]) hx hb dX51_look_402 hl (k := 10) rfl (by rw [ex8_118]; rfl) (by decide) rfl (fun ls hl => ?_)
                            refine lv_goto (tgt := 40) hx hb dX51_look_405 (by decide) ?_
                            exact ih x8_118 f_holds_117 hw _ _ ls hH (lv_sub hl [4, 5, 6, 7, 8, 9, 10, 0] rfl)
                          · have hw := hw.2 (z_neq e_115 (rfl : (0 : Int32).toInt = 0) c_116)
                            refine lv_iconst (v := 1) hx hb dX51_look_310 (by decide) ?_
                            refine lv_goto (tgt := 315) hx hb dX51_look_311 (by decide) ?_
                            refine lv_istore (lv' := [(11, .int 1), (10, .int x10_21), (9, .int x9_19), (0, .ref (ad 0)), (2, .int x2), (3, .int x3), (4, .int x4), (5, .int x5), (6, .int x6), (7, .int x7), (8, .int x8)]) hx hb dX51_look_315 hl (by decide) rfl (fun ls hl => ?_)
                            refine lv_goto (tgt := 393) hx hb dX51_look_317 (by decide) ?_
                            refine lv_aload_n hx hb dX51_look_393 rfl (lv_at hl 3 rfl) ?_
                            refine k_get X hH in_X51 0 rfl hc 10 (by decide) q6352 rfl dX51_look_394 ?_
                            refine lv_iload hx hb dX51_look_397 (lv_at hl 10 rfl) ?_
                            refine lv_iload hx hb dX51_look_399 (lv_at hl 0 rfl) ?_
                            obtain ⟨f_holds_120, ef_holds_120⟩ : ∃ y : Nat → Int32, y = upd f_holds x8.toNatClampNeg (vp_nar .boolean 1) := ⟨_, rfl⟩
                            refine k_zast X hH 9 8 rfl rfl (z_in (rfl : x8.toInt = _) hq_17) dX51_look_401 ef_holds_120 (ws1 := (wX51 ci ad d f_groups f_kinds f_as f_bs f_cs f_conditions f_ranks f_denies f_wants f_rules f_holds_120)) rfl (fun H locs hH => ?_)
                            have hw := hw (zF f_holds_120) (by rw [ef_holds_120]; exact z_st (f := f_holds) (rfl : x8.toInt = _) hq_17.1 (z_narZ (rfl : (1 : Int32).toInt = 1) (by decide)))
                            have hq_122 := hw.1
                            have hw := hw.2
                            obtain ⟨x8_121, ex8_121⟩ : ∃ y : Int32, y = x8 + 1 := ⟨_, rfl⟩
                            have hw := hw x8_121.toInt (by rw [ex8_121]; exact (z_x (z_add (z_m (rfl : x8.toInt = _)) (z_m (rfl : (1 : Int32).toInt = 1))) hq_122))
                            refine lv_iinc (v := x8_121) (lv' := [(8, .int x8_121), (11, .int 1), (10, .int x10_21), (9, .int x9_19), (0, .ref (ad 0)), (2, .int x2), (3, .int x3), (4, .int x4), (5, .int x5), (6, .int x6), (7, .int x7)]) hx hb dX51_look_402 hl (k := 10) rfl (by rw [ex8_121]; rfl) (by decide) rfl (fun ls hl => ?_)
                            refine lv_goto (tgt := 40) hx hb dX51_look_405 (by decide) ?_
                            exact ih x8_121 f_holds_120 hw _ _ ls hH (lv_sub hl [4, 5, 6, 7, 8, 9, 10, 0] rfl)
                      · have hw := hw.2 (z_ne (rfl : z_23.toInt = _) (rfl : (8 : Int32).toInt = 8) c_107)
                        by_cases c_123 : z_23 = 9
                        · have hw := hw.1 (z_eq (rfl : z_23.toInt = _) (rfl : (9 : Int32).toInt = 9) c_123)
                          refine lv_tableIn (off := 249) (tgt := 320) hx hb dX51_look_71 (by rw [c_123]; decide) (by rw [c_123]; decide) (by rw [c_123]; rfl) (by decide) ?_
                          refine lv_iconst (v := 1) hx hb dX51_look_320 (by decide) ?_
                          refine lv_istore (lv' := [(11, .int 1), (10, .int x10_21), (9, .int x9_19), (0, .ref (ad 0)), (2, .int x2), (3, .int x3), (4, .int x4), (5, .int x5), (6, .int x6), (7, .int x7), (8, .int x8)]) hx hb dX51_look_321 hl (by decide) rfl (fun ls hl => ?_)
                          refine lv_goto (tgt := 393) hx hb dX51_look_323 (by decide) ?_
                          refine lv_aload_n hx hb dX51_look_393 rfl (lv_at hl 3 rfl) ?_
                          refine k_get X hH in_X51 0 rfl hc 10 (by decide) q6352 rfl dX51_look_394 ?_
                          refine lv_iload hx hb dX51_look_397 (lv_at hl 10 rfl) ?_
                          refine lv_iload hx hb dX51_look_399 (lv_at hl 0 rfl) ?_
                          obtain ⟨f_holds_124, ef_holds_124⟩ : ∃ y : Nat → Int32, y = upd f_holds x8.toNatClampNeg (vp_nar .boolean 1) := ⟨_, rfl⟩
                          refine k_zast X hH 9 8 rfl rfl (z_in (rfl : x8.toInt = _) hq_17) dX51_look_401 ef_holds_124 (ws1 := (wX51 ci ad d f_groups f_kinds f_as f_bs f_cs f_conditions f_ranks f_denies f_wants f_rules f_holds_124)) rfl (fun H locs hH => ?_)
                          have hw := hw (zF f_holds_124) (by rw [ef_holds_124]; exact z_st (f := f_holds) (rfl : x8.toInt = _) hq_17.1 (z_narZ (rfl : (1 : Int32).toInt = 1) (by decide)))
                          have hq_126 := hw.1
                          have hw := hw.2
                          obtain ⟨x8_125, ex8_125⟩ : ∃ y : Int32, y = x8 + 1 := ⟨_, rfl⟩
                          have hw := hw x8_125.toInt (by rw [ex8_125]; exact (z_x (z_add (z_m (rfl : x8.toInt = _)) (z_m (rfl : (1 : Int32).toInt = 1))) hq_126))
                          refine lv_iinc (v := x8_125) (lv' := [(8, .int x8_125), (11, .int 1), (10, .int x10_21), (9, .int x9_19), (0, .ref (ad 0)), (2, .int x2), (3, .int x3), (4, .int x4), (5, .int x5), (6, .int x6), (7, .int x7)]) hx hb dX51_look_402 hl (k := 10) rfl (by rw [ex8_125]; rfl) (by decide) rfl (fun ls hl => ?_)
                          refine lv_goto (tgt := 40) hx hb dX51_look_405 (by decide) ?_
                          exact ih x8_125 f_holds_124 hw _ _ ls hH (lv_sub hl [4, 5, 6, 7, 8, 9, 10, 0] rfl)
                        · have hw := hw.2 (z_ne (rfl : z_23.toInt = _) (rfl : (9 : Int32).toInt = 9) c_123)
                          refine lv_tableOut (tgt := 326) hx hb dX51_look_71 (by have qc_24 := k_ne c_24 (k := 0) rfl; have qc_32 := k_ne c_32 (k := 1) rfl; have qc_45 := k_ne c_45 (k := 2) rfl; have qc_53 := k_ne c_53 (k := 3) rfl; have qc_61 := k_ne c_61 (k := 4) rfl; have qc_69 := k_ne c_69 (k := 5) rfl; have qc_81 := k_ne c_81 (k := 6) rfl; have qc_91 := k_ne c_91 (k := 7) rfl; have qc_107 := k_ne c_107 (k := 8) rfl; have qc_123 := k_ne c_123 (k := 9) rfl; omega) (by decide) ?_
                          refine lv_aload_n hx hb dX51_look_326 rfl (lv_at hl 2 rfl) ?_
                          refine k_get X hH in_X51 0 rfl hc 4 (by decide) q6346 rfl dX51_look_327 ?_
                          refine lv_iload hx hb dX51_look_330 (lv_at hl 9 rfl) ?_
                          refine k_iald X hH 5 4 rfl rfl (z_in (rfl : x8.toInt = _) hq_17) dX51_look_332 ?_
                          have e_127 := z_ld (f := f_cs) (rfl : x8.toInt = _) hq_17.1
                          refine lv_topi (fun x12_128 ex12_128 => ?_)
                          have hw := hw x12_128.toInt (by rw [ex12_128]; exact e_127)
                          refine lv_istore (lv' := [(12, .int x12_128), (10, .int x10_21), (9, .int x9_19), (0, .ref (ad 0)), (2, .int x2), (3, .int x3), (4, .int x4), (5, .int x5), (6, .int x6), (7, .int x7), (8, .int x8)]) hx hb dX51_look_333 hl (by decide) rfl (fun ls hl => ?_)
                          refine lv_aload_n hx hb dX51_look_335 rfl (lv_at hl 3 rfl) ?_
                          refine k_get X hH in_X51 0 rfl hc 10 (by decide) q6352 rfl dX51_look_336 ?_
                          refine lv_iload hx hb dX51_look_339 (lv_at hl 2 rfl) ?_
                          have hq_129 := hw.1
                          have hw := hw.2
                          refine k_zald X hH 9 8 rfl rfl (z_in (rfl : x9_19.toInt = _) hq_129) dX51_look_341 ?_
                          have e_130 := z_ld (f := f_holds) (rfl : x9_19.toInt = _) hq_129.1
                          refine lv_if_eq (tgt := 349) hx hb dX51_look_342 (by decide) (fun c_131 => ?_) (fun c_131 => ?_)
                          · have hw := hw.1 (z_eq e_130 (rfl : (0 : Int32).toInt = 0) c_131)
                            refine lv_iconst (v := 0) hx hb dX51_look_349 (by decide) ?_
                            exact atX51_look_350 hc X (fun x8 f_holds hw H locs ls hH hl => ih x8 f_holds hw _ _ ls hH (lv_sub hl [0, 1, 2, 3, 4, 5, 6, 7] rfl)) x8 x10_21 x12_128 0 f_holds hw _ _ ls hH (lv_sub hl [3, 4, 5, 6, 7, 8, 9, 10, 1, 0] rfl)
                          · have hw := hw.2 (z_neq e_130 (rfl : (0 : Int32).toInt = 0) c_131)
                            refine lv_iconst (v := 1) hx hb dX51_look_345 (by decide) ?_
                            refine lv_goto (tgt := 350) hx hb dX51_look_346 (by decide) ?_
                            exact atX51_look_350 hc X (fun x8 f_holds hw H locs ls hH hl => ih x8 f_holds hw _ _ ls hH (lv_sub hl [0, 1, 2, 3, 4, 5, 6, 7] rfl)) x8 x10_21 x12_128 1 f_holds hw _ _ ls hH (lv_sub hl [3, 4, 5, 6, 7, 8, 9, 10, 1, 0] rfl)
set_option maxHeartbeats 4000000 in
theorem walkX51_look {l : Launch} {dC : Nat → ClassId} {dI : Nat → Nat → Nat} {cl : List vw_C} {ci : Nat} (hc : cl[ci]? = some (RX51, TX51, 11)) {ad : Nat → Nat} {d : Nat → ClassId} {sz : Nat} {f_groups : Nat → Int32} {f_kinds : Nat → Int32} {f_as : Nat → Int32} {f_bs : Nat → Int32} {f_cs : Nat → Int32} {f_conditions : Int32} {f_ranks : Nat → Int32} {f_denies : Nat → Int32} {f_wants : Nat → Int32} {f_rules : Int32} {f_holds : Nat → Int32} {x1 : Int32} {x2 : Int32} {post : (Int → Int) → Prop} (hw : wpX51_look post (zF f_groups) (zF f_kinds) (zF f_as) (zF f_bs) (zF f_cs) (zF f_holds) x1.toInt x2.toInt) :
    Met l yX51_look (ws_ yX51_look cX51_look 13 none) ({ frames := 1, cells := 0, slots := 0, locals := 20 } : Room) (kPc (dC, dI) cl (tX51 d) [.ref (ad 0), .int x1, .int x2] sz (wX51 ci ad d f_groups f_kinds f_as f_bs f_cs f_conditions f_ranks f_denies f_wants f_rules f_holds)) (va_Qv (fun (u : (Nat → Int32)) => post (zF (u))) (kB (dC, dI) cl (tX51 d) (va_A (wX51 ci ad d f_groups f_kinds f_as f_bs f_cs f_conditions f_ranks f_denies f_wants f_rules f_holds) sz) (fun u : (Nat → Int32) => (wX51 ci ad d f_groups f_kinds f_as f_bs f_cs f_conditions f_ranks f_denies f_wants f_rules (u)))) (va_A (wX51 ci ad d f_groups f_kinds f_as f_bs f_cs f_conditions f_ranks f_denies f_wants f_rules f_holds) sz)) 0 0 (va_A (wX51 ci ad d f_groups f_kinds f_as f_bs f_cs f_conditions f_ranks f_denies f_wants f_rules f_holds) sz) := by
  refine k_enter (by decide) (Nat.le_of_ble_eq_true rfl) ?_
  intro p e s m below meth c ls X hsz hH hl
  subst hsz
  generalize va_A (wX51 ci ad d f_groups f_kinds f_as f_bs f_cs f_conditions f_ranks f_denies f_wants f_rules f_holds) s.heap.size = A at hH ⊢
  have hx := X.1.1
  have hb := X.1.2.1
  have hl : lv_has ls 13 [(0, .ref (ad 0)), (1, .int x1), (2, .int x2)] := hl
  unfold wpX51_look at hw
  refine lv_iload_n hx hb dX51_look_0 rfl (lv_at hl 1 rfl) ?_
  refine k_i0 hH (k_runS (As := [.int x1]) (rest := []) X hH.1 hH.2.1 X.2.2.2 (walkX51_personOf hc (x0 := x1) (f_groups := f_groups) (f_kinds := f_kinds) (f_as := f_as) (f_bs := f_bs) (f_cs := f_cs) (f_conditions := f_conditions) (f_ranks := f_ranks) (f_denies := f_denies) (f_wants := f_wants) (f_rules := f_rules) (f_holds := f_holds) hw) (va_cwS 1 X.1.2.2.2.2 gX51_53 rfl rfl rfl hX51_personOf ⟨Nat.le_of_ble_eq_true rfl, Nat.le_of_ble_eq_true rfl⟩) rfl hl.1 rfl (Nat.le_of_ble_eq_true rfl) dX51_look_1 ⟨Nat.le_refl 0, Nat.le_refl 0⟩) (fun r_1 _ H locs hw hH => ?_)
  have hH : kH (dC, dI) cl A s.heap H locs (wX51 ci ad d f_groups f_kinds f_as f_bs f_cs f_conditions f_ranks f_denies f_wants f_rules f_holds) := hH
  refine lv_istore_n (lv' := [(3, .int r_1), (0, .ref (ad 0)), (1, .int x1), (2, .int x2)]) hx hb dX51_look_4 rfl hl (by decide) rfl (fun ls hl => ?_)
  refine lv_iload_n hx hb dX51_look_5 rfl (lv_at hl 2 rfl) ?_
  refine lv_sipush (v := 192) hx hb dX51_look_6 (by decide) ?_
  have hq_2 := hw.1
  have hw := hw.2
  refine lv_idiv hx hb dX51_look_9 (by decide) ?_
  have e_3 := z_div (rfl : x1.toInt = _) (rfl : (192 : Int32).toInt = 192) hq_2 (by decide)
  refine lv_iconst (v := 4) hx hb dX51_look_10 (by decide) ?_
  have hq_4 := hw.1
  have hw := hw.2
  refine lv_irem hx hb dX51_look_11 (by decide) ?_
  have e_5 := z_rem e_3 (rfl : (4 : Int32).toInt = 4) hq_4 (by decide)
  refine lv_topi (fun x4_6 ex4_6 => ?_)
  have hw := hw x4_6.toInt (by rw [ex4_6]; exact e_5)
  refine lv_istore (lv' := [(4, .int x4_6), (3, .int r_1), (0, .ref (ad 0)), (1, .int x1), (2, .int x2)]) hx hb dX51_look_12 hl (by decide) rfl (fun ls hl => ?_)
  refine lv_iload_n hx hb dX51_look_14 rfl (lv_at hl 3 rfl) ?_
  refine lv_bipush (v := 32) hx hb dX51_look_15 (by decide) ?_
  refine lv_idiv hx hb dX51_look_17 (by decide) ?_
  have e_7 := z_div (rfl : x1.toInt = _) (rfl : (32 : Int32).toInt = 32) hq_2 (by decide)
  refine lv_bipush (v := 6) hx hb dX51_look_18 (by decide) ?_
  have hq_8 := hw.1
  have hw := hw.2
  refine lv_irem hx hb dX51_look_20 (by decide) ?_
  have e_9 := z_rem e_7 (rfl : (6 : Int32).toInt = 6) hq_8 (by decide)
  refine lv_topi (fun x5_10 ex5_10 => ?_)
  have hw := hw x5_10.toInt (by rw [ex5_10]; exact e_9)
  refine lv_istore (lv' := [(5, .int x5_10), (4, .int x4_6), (3, .int r_1), (0, .ref (ad 0)), (1, .int x1), (2, .int x2)]) hx hb dX51_look_21 hl (by decide) rfl (fun ls hl => ?_)
  refine lv_iload_n hx hb dX51_look_23 rfl (lv_at hl 4 rfl) ?_
  refine lv_bipush (v := 8) hx hb dX51_look_24 (by decide) ?_
  refine lv_idiv hx hb dX51_look_26 (by decide) ?_
  have e_11 := z_div (rfl : x1.toInt = _) (rfl : (8 : Int32).toInt = 8) hq_2 (by decide)
  refine lv_iconst (v := 4) hx hb dX51_look_27 (by decide) ?_
  have hq_12 := hw.1
  have hw := hw.2
  refine lv_irem hx hb dX51_look_28 (by decide) ?_
  have e_13 := z_rem e_11 (rfl : (4 : Int32).toInt = 4) hq_12 (by decide)
  refine lv_topi (fun x6_14 ex6_14 => ?_)
  have hw := hw x6_14.toInt (by rw [ex6_14]; exact e_13)
  refine lv_istore (lv' := [(6, .int x6_14), (5, .int x5_10), (4, .int x4_6), (3, .int r_1), (0, .ref (ad 0)), (1, .int x1), (2, .int x2)]) hx hb dX51_look_29 hl (by decide) rfl (fun ls hl => ?_)
  refine lv_iload_n hx hb dX51_look_31 rfl (lv_at hl 5 rfl) ?_
  refine k_i0 hH (k_runS (As := [.int x1]) (rest := []) X hH.1 hH.2.1 X.2.2.2 (walkX51_versionOf hc (x0 := x1) (f_groups := f_groups) (f_kinds := f_kinds) (f_as := f_as) (f_bs := f_bs) (f_cs := f_cs) (f_conditions := f_conditions) (f_ranks := f_ranks) (f_denies := f_denies) (f_wants := f_wants) (f_rules := f_rules) (f_holds := f_holds) hw) (va_cwS 1 X.1.2.2.2.2 gX51_57 rfl rfl rfl hX51_versionOf ⟨Nat.le_of_ble_eq_true rfl, Nat.le_of_ble_eq_true rfl⟩) rfl hl.1 rfl (Nat.le_of_ble_eq_true rfl) dX51_look_32 ⟨Nat.le_refl 0, Nat.le_refl 0⟩) (fun r_15 _ H locs hw hH => ?_)
  have hH : kH (dC, dI) cl A s.heap H locs (wX51 ci ad d f_groups f_kinds f_as f_bs f_cs f_conditions f_ranks f_denies f_wants f_rules f_holds) := hH
  refine lv_istore (lv' := [(7, .int r_15), (6, .int x6_14), (5, .int x5_10), (4, .int x4_6), (3, .int r_1), (0, .ref (ad 0)), (1, .int x1), (2, .int x2)]) hx hb dX51_look_35 hl (by decide) rfl (fun ls hl => ?_)
  refine lv_iconst (v := 0) hx hb dX51_look_37 (by decide) ?_
  refine lv_istore (lv' := [(8, .int 0), (7, .int r_15), (6, .int x6_14), (5, .int x5_10), (4, .int x4_6), (3, .int r_1), (0, .ref (ad 0)), (1, .int x1), (2, .int x2)]) hx hb dX51_look_38 hl (by decide) rfl (fun ls hl => ?_)
  obtain ⟨fu, hw⟩ := hw
  refine atX51_look_40 hc X ?_ fu 0 f_holds hw _ _ ls hH (lv_sub hl [6, 8, 5, 4, 3, 2, 1, 0] rfl)
  · intro f_holds_163 hw H locs ls hH hl
    exact k_vret X hH (f_holds_163) hw rfl dX51_look_408
set_option maxHeartbeats 4000000 in
theorem atX51_decide_86 {p : Program} {l : Launch} {e : Env} {s : State} {m : MethodId} {args : Array Value} {below : List Frame} {meth : Method} {c : Code} {dC : Nat → ClassId} {dI : Nat → Nat → Nat} {cl : List vw_C} {ci : Nat} (hc : cl[ci]? = some (RX51, TX51, 11)) {ad : Nat → Nat} {d : Nat → ClassId} {A : Nat → Prop} {post : Int → Prop} {f_groups : Nat → Int32} {f_kinds : Nat → Int32} {f_as : Nat → Int32} {f_bs : Nat → Int32} {f_cs : Nat → Int32} {f_conditions : Int32} {f_ranks : Nat → Int32} {f_denies : Nat → Int32} {f_wants : Nat → Int32} {f_rules : Int32} {f_holds : Nat → Int32} (X : kX p s m args meth c cX51_decide 5 RX51 (some .int) (dC, dI) cl (tX51 d)) {K4 : Int → Int → Prop} {x1 : Int32}  (hk4 : ∀ (x2 : Int32) (x3 : Int32), K4 x2.toInt x3.toInt → ∀ (H : Heap) (locs : List Loc) (ls : Array Slot), kH (dC, dI) cl A s.heap H locs (wX51 ci ad d f_groups f_kinds f_as f_bs f_cs f_conditions f_ranks f_denies f_wants f_rules f_holds) → lv_has ls 5 [(0, .ref (ad 0)), (1, .int x1), (2, .int x2), (3, .int x3)] → W p l e ({ frames := 0, cells := 0, slots := 0, locals := 0 } : Room) s m args below meth c H locs 0 0 (MQ below (va_Qi (fun (r : Int32) (_ : Unit) => post r.toInt) (kB (dC, dI) cl (tX51 d) A (fun _ : Unit => (wX51 ci ad d f_groups f_kinds f_as f_bs f_cs f_conditions f_ranks f_denies f_wants f_rules f_holds))) A) args s 0 0 A) (F0 m 4 ls [])) :
    ∀ (x2 : Int32) (x3 : Int32), wX51_decide_86 K4 x2.toInt x3.toInt → ∀ (H : Heap) (locs : List Loc) (ls : Array Slot), kH (dC, dI) cl A s.heap H locs (wX51 ci ad d f_groups f_kinds f_as f_bs f_cs f_conditions f_ranks f_denies f_wants f_rules f_holds) → lv_has ls 5 [(0, .ref (ad 0)), (1, .int x1), (2, .int x2), (3, .int x3)] → W p l e ({ frames := 0, cells := 0, slots := 0, locals := 0 } : Room) s m args below meth c H locs 0 0 (MQ below (va_Qi (fun (r : Int32) (_ : Unit) => post r.toInt) (kB (dC, dI) cl (tX51 d) A (fun _ : Unit => (wX51 ci ad d f_groups f_kinds f_as f_bs f_cs f_conditions f_ranks f_denies f_wants f_rules f_holds))) A) args s 0 0 A) (F0 m 86 ls []) := by
  have hx := X.1.1
  have hb := X.1.2.1
  intro x2 x3 hw H locs ls hH hl
  unfold wX51_decide_86 at hw
  refine lv_iconst (v := 1) hx hb dX51_decide_86 (by decide) ?_
  refine lv_goto (tgt := 91) hx hb dX51_decide_87 (by decide) ?_
  refine lv_istore (lv' := [(4, .int 1), (0, .ref (ad 0)), (1, .int x1), (2, .int x2), (3, .int x3)]) hx hb dX51_decide_91 hl (by decide) rfl (fun ls hl => ?_)
  refine lv_iload hx hb dX51_decide_93 (lv_at hl 0 rfl) ?_
  refine lv_if_eq (tgt := 102) hx hb dX51_decide_95 (by decide) (fun c_11 => ?_) (fun c_11 => ?_)
  · have hw := hw.1 (z_eq (rfl : (1 : Int32).toInt = 1) (rfl : (0 : Int32).toInt = 0) c_11)
    refine lv_iload_n hx hb dX51_decide_102 rfl (lv_at hl 3 rfl) ?_
    refine lv_istore_n (lv' := [(2, .int x2), (4, .int 1), (0, .ref (ad 0)), (1, .int x1), (3, .int x3)]) hx hb dX51_decide_103 rfl hl (by decide) rfl (fun ls hl => ?_)
    have hq_13 := hw.1
    have hw := hw.2
    obtain ⟨x3_12, ex3_12⟩ : ∃ y : Int32, y = x3 + 1 := ⟨_, rfl⟩
    have hw := hw x3_12.toInt (by rw [ex3_12]; exact (z_x (z_add (z_m (rfl : x3.toInt = _)) (z_m (rfl : (1 : Int32).toInt = 1))) hq_13))
    refine lv_iinc (v := x3_12) (lv' := [(3, .int x3_12), (2, .int x2), (4, .int 1), (0, .ref (ad 0)), (1, .int x1)]) hx hb dX51_decide_104 hl (k := 4) rfl (by rw [ex3_12]; rfl) (by decide) rfl (fun ls hl => ?_)
    refine lv_goto (tgt := 4) hx hb dX51_decide_107 (by decide) ?_
    exact hk4 x2 x3_12 hw _ _ ls hH (lv_sub hl [3, 4, 1, 0] rfl)
  · have hw := hw.2 (z_neq (rfl : (1 : Int32).toInt = 1) (rfl : (0 : Int32).toInt = 0) c_11)
    refine lv_iload_n hx hb dX51_decide_98 rfl (lv_at hl 4 rfl) ?_
    refine lv_goto (tgt := 103) hx hb dX51_decide_99 (by decide) ?_
    refine lv_istore_n (lv' := [(2, .int x3), (4, .int 1), (0, .ref (ad 0)), (1, .int x1), (3, .int x3)]) hx hb dX51_decide_103 rfl hl (by decide) rfl (fun ls hl => ?_)
    have hq_15 := hw.1
    have hw := hw.2
    obtain ⟨x3_14, ex3_14⟩ : ∃ y : Int32, y = x3 + 1 := ⟨_, rfl⟩
    have hw := hw x3_14.toInt (by rw [ex3_14]; exact (z_x (z_add (z_m (rfl : x3.toInt = _)) (z_m (rfl : (1 : Int32).toInt = 1))) hq_15))
    refine lv_iinc (v := x3_14) (lv' := [(3, .int x3_14), (2, .int x3), (4, .int 1), (0, .ref (ad 0)), (1, .int x1)]) hx hb dX51_decide_104 hl (k := 4) rfl (by rw [ex3_14]; rfl) (by decide) rfl (fun ls hl => ?_)
    refine lv_goto (tgt := 4) hx hb dX51_decide_107 (by decide) ?_
    exact hk4 x3 x3_14 hw _ _ ls hH (lv_sub hl [3, 4, 1, 0] rfl)
set_option maxHeartbeats 4000000 in
theorem atX51_decide_90 {p : Program} {l : Launch} {e : Env} {s : State} {m : MethodId} {args : Array Value} {below : List Frame} {meth : Method} {c : Code} {dC : Nat → ClassId} {dI : Nat → Nat → Nat} {cl : List vw_C} {ci : Nat} (hc : cl[ci]? = some (RX51, TX51, 11)) {ad : Nat → Nat} {d : Nat → ClassId} {A : Nat → Prop} {post : Int → Prop} {f_groups : Nat → Int32} {f_kinds : Nat → Int32} {f_as : Nat → Int32} {f_bs : Nat → Int32} {f_cs : Nat → Int32} {f_conditions : Int32} {f_ranks : Nat → Int32} {f_denies : Nat → Int32} {f_wants : Nat → Int32} {f_rules : Int32} {f_holds : Nat → Int32} (X : kX p s m args meth c cX51_decide 5 RX51 (some .int) (dC, dI) cl (tX51 d)) {K4 : Int → Int → Prop} {x1 : Int32}  (hk4 : ∀ (x2 : Int32) (x3 : Int32), K4 x2.toInt x3.toInt → ∀ (H : Heap) (locs : List Loc) (ls : Array Slot), kH (dC, dI) cl A s.heap H locs (wX51 ci ad d f_groups f_kinds f_as f_bs f_cs f_conditions f_ranks f_denies f_wants f_rules f_holds) → lv_has ls 5 [(0, .ref (ad 0)), (1, .int x1), (2, .int x2), (3, .int x3)] → W p l e ({ frames := 0, cells := 0, slots := 0, locals := 0 } : Room) s m args below meth c H locs 0 0 (MQ below (va_Qi (fun (r : Int32) (_ : Unit) => post r.toInt) (kB (dC, dI) cl (tX51 d) A (fun _ : Unit => (wX51 ci ad d f_groups f_kinds f_as f_bs f_cs f_conditions f_ranks f_denies f_wants f_rules f_holds))) A) args s 0 0 A) (F0 m 4 ls [])) :
    ∀ (x2 : Int32) (x3 : Int32), wX51_decide_90 K4 x2.toInt x3.toInt → ∀ (H : Heap) (locs : List Loc) (ls : Array Slot), kH (dC, dI) cl A s.heap H locs (wX51 ci ad d f_groups f_kinds f_as f_bs f_cs f_conditions f_ranks f_denies f_wants f_rules f_holds) → lv_has ls 5 [(0, .ref (ad 0)), (1, .int x1), (2, .int x2), (3, .int x3)] → W p l e ({ frames := 0, cells := 0, slots := 0, locals := 0 } : Room) s m args below meth c H locs 0 0 (MQ below (va_Qi (fun (r : Int32) (_ : Unit) => post r.toInt) (kB (dC, dI) cl (tX51 d) A (fun _ : Unit => (wX51 ci ad d f_groups f_kinds f_as f_bs f_cs f_conditions f_ranks f_denies f_wants f_rules f_holds))) A) args s 0 0 A) (F0 m 90 ls []) := by
  have hx := X.1.1
  have hb := X.1.2.1
  intro x2 x3 hw H locs ls hH hl
  unfold wX51_decide_90 at hw
  refine lv_iconst (v := 0) hx hb dX51_decide_90 (by decide) ?_
  refine lv_istore (lv' := [(4, .int 0), (0, .ref (ad 0)), (1, .int x1), (2, .int x2), (3, .int x3)]) hx hb dX51_decide_91 hl (by decide) rfl (fun ls hl => ?_)
  refine lv_iload hx hb dX51_decide_93 (lv_at hl 0 rfl) ?_
  refine lv_if_eq (tgt := 102) hx hb dX51_decide_95 (by decide) (fun c_23 => ?_) (fun c_23 => ?_)
  · have hw := hw.1 (z_eq (rfl : (0 : Int32).toInt = 0) (rfl : (0 : Int32).toInt = 0) c_23)
    refine lv_iload_n hx hb dX51_decide_102 rfl (lv_at hl 3 rfl) ?_
    refine lv_istore_n (lv' := [(2, .int x2), (4, .int 0), (0, .ref (ad 0)), (1, .int x1), (3, .int x3)]) hx hb dX51_decide_103 rfl hl (by decide) rfl (fun ls hl => ?_)
    have hq_25 := hw.1
    have hw := hw.2
    obtain ⟨x3_24, ex3_24⟩ : ∃ y : Int32, y = x3 + 1 := ⟨_, rfl⟩
    have hw := hw x3_24.toInt (by rw [ex3_24]; exact (z_x (z_add (z_m (rfl : x3.toInt = _)) (z_m (rfl : (1 : Int32).toInt = 1))) hq_25))
    refine lv_iinc (v := x3_24) (lv' := [(3, .int x3_24), (2, .int x2), (4, .int 0), (0, .ref (ad 0)), (1, .int x1)]) hx hb dX51_decide_104 hl (k := 4) rfl (by rw [ex3_24]; rfl) (by decide) rfl (fun ls hl => ?_)
    refine lv_goto (tgt := 4) hx hb dX51_decide_107 (by decide) ?_
    exact hk4 x2 x3_24 hw _ _ ls hH (lv_sub hl [3, 4, 1, 0] rfl)
  · have hw := hw.2 (z_neq (rfl : (0 : Int32).toInt = 0) (rfl : (0 : Int32).toInt = 0) c_23)
    refine lv_iload_n hx hb dX51_decide_98 rfl (lv_at hl 4 rfl) ?_
    refine lv_goto (tgt := 103) hx hb dX51_decide_99 (by decide) ?_
    refine lv_istore_n (lv' := [(2, .int x3), (4, .int 0), (0, .ref (ad 0)), (1, .int x1), (3, .int x3)]) hx hb dX51_decide_103 rfl hl (by decide) rfl (fun ls hl => ?_)
    have hq_27 := hw.1
    have hw := hw.2
    obtain ⟨x3_26, ex3_26⟩ : ∃ y : Int32, y = x3 + 1 := ⟨_, rfl⟩
    have hw := hw x3_26.toInt (by rw [ex3_26]; exact (z_x (z_add (z_m (rfl : x3.toInt = _)) (z_m (rfl : (1 : Int32).toInt = 1))) hq_27))
    refine lv_iinc (v := x3_26) (lv' := [(3, .int x3_26), (2, .int x3), (4, .int 0), (0, .ref (ad 0)), (1, .int x1)]) hx hb dX51_decide_104 hl (k := 4) rfl (by rw [ex3_26]; rfl) (by decide) rfl (fun ls hl => ?_)
    refine lv_goto (tgt := 4) hx hb dX51_decide_107 (by decide) ?_
    exact hk4 x3 x3_26 hw _ _ ls hH (lv_sub hl [3, 4, 1, 0] rfl)
set_option maxHeartbeats 4000000 in
theorem atX51_decide_4 {p : Program} {l : Launch} {e : Env} {s : State} {m : MethodId} {args : Array Value} {below : List Frame} {meth : Method} {c : Code} {dC : Nat → ClassId} {dI : Nat → Nat → Nat} {cl : List vw_C} {ci : Nat} (hc : cl[ci]? = some (RX51, TX51, 11)) {ad : Nat → Nat} {d : Nat → ClassId} {A : Nat → Prop} {post : Int → Prop} {f_groups : Nat → Int32} {f_kinds : Nat → Int32} {f_as : Nat → Int32} {f_bs : Nat → Int32} {f_cs : Nat → Int32} {f_conditions : Int32} {f_ranks : Nat → Int32} {f_denies : Nat → Int32} {f_wants : Nat → Int32} {f_rules : Int32} {f_holds : Nat → Int32} (X : kX p s m args meth c cX51_decide 5 RX51 (some .int) (dC, dI) cl (tX51 d)) {K110 : Int → Prop} {x1 : Int32}  (hk110 : ∀ (x2 : Int32), K110 x2.toInt → ∀ (H : Heap) (locs : List Loc) (ls : Array Slot), kH (dC, dI) cl A s.heap H locs (wX51 ci ad d f_groups f_kinds f_as f_bs f_cs f_conditions f_ranks f_denies f_wants f_rules f_holds) → lv_has ls 5 [(2, .int x2)] → W p l e ({ frames := 0, cells := 0, slots := 0, locals := 0 } : Room) s m args below meth c H locs 0 0 (MQ below (va_Qi (fun (r : Int32) (_ : Unit) => post r.toInt) (kB (dC, dI) cl (tX51 d) A (fun _ : Unit => (wX51 ci ad d f_groups f_kinds f_as f_bs f_cs f_conditions f_ranks f_denies f_wants f_rules f_holds))) A) args s 0 0 A) (F0 m 110 ls [])) :
    ∀ (nn : Nat) (x2 : Int32) (x3 : Int32), wX51_decide_4 K110 x1.toInt (zF f_ranks) (zF f_denies) (zF f_wants) f_rules.toInt (zF f_holds) nn x2.toInt x3.toInt → ∀ (H : Heap) (locs : List Loc) (ls : Array Slot), kH (dC, dI) cl A s.heap H locs (wX51 ci ad d f_groups f_kinds f_as f_bs f_cs f_conditions f_ranks f_denies f_wants f_rules f_holds) → lv_has ls 5 [(0, .ref (ad 0)), (1, .int x1), (2, .int x2), (3, .int x3)] → W p l e ({ frames := 0, cells := 0, slots := 0, locals := 0 } : Room) s m args below meth c H locs 0 0 (MQ below (va_Qi (fun (r : Int32) (_ : Unit) => post r.toInt) (kB (dC, dI) cl (tX51 d) A (fun _ : Unit => (wX51 ci ad d f_groups f_kinds f_as f_bs f_cs f_conditions f_ranks f_denies f_wants f_rules f_holds))) A) args s 0 0 A) (F0 m 4 ls []) := by
  have hx := X.1.1
  have hb := X.1.2.1
  intro nn
  induction nn with
  | zero =>
    intro x2 x3 hw
    exact False.elim hw
  | succ n ih =>
    intro x2 x3 hw H locs ls hH hl
    rw [wX51_decide_4] at hw
    refine lv_iload_n hx hb dX51_decide_4 rfl (lv_at hl 3 rfl) ?_
    refine lv_aload_n hx hb dX51_decide_5 rfl (lv_at hl 0 rfl) ?_
    refine k_get X hH in_X51 0 rfl hc 9 (by decide) q6351 rfl dX51_decide_6 ?_
    refine lv_icmp_ge (tgt := 110) hx hb dX51_decide_9 (by decide) (fun c_1 => ?_) (fun c_1 => ?_)
    · have hw := hw.1 (z_le (rfl : f_rules.toInt = _) (rfl : x3.toInt = _) c_1)
      exact hk110 x2 hw _ _ ls hH (lv_sub hl [2] rfl)
    · have hw := hw.2 (z_nle (rfl : f_rules.toInt = _) (rfl : x3.toInt = _) c_1)
      refine lv_iload_n hx hb dX51_decide_12 rfl (lv_at hl 3 rfl) ?_
      refine lv_iload_n hx hb dX51_decide_13 rfl (lv_at hl 1 rfl) ?_
      refine lv_icmp_eq (tgt := 104) hx hb dX51_decide_14 (by decide) (fun c_2 => ?_) (fun c_2 => ?_)
      · have hw := hw.1 (z_eq (rfl : x3.toInt = _) (rfl : x1.toInt = _) c_2)
        have hq_4 := hw.1
        have hw := hw.2
        obtain ⟨x3_3, ex3_3⟩ : ∃ y : Int32, y = x3 + 1 := ⟨_, rfl⟩
        have hw := hw x3_3.toInt (by rw [ex3_3]; exact (z_x (z_add (z_m (rfl : x3.toInt = _)) (z_m (rfl : (1 : Int32).toInt = 1))) hq_4))
        refine lv_iinc (v := x3_3) (lv' := [(3, .int x3_3), (0, .ref (ad 0)), (1, .int x1), (2, .int x2)]) hx hb dX51_decide_104 hl (k := 3) rfl (by rw [ex3_3]; rfl) (by decide) rfl (fun ls hl => ?_)
        refine lv_goto (tgt := 4) hx hb dX51_decide_107 (by decide) ?_
        exact ih x2 x3_3 hw _ _ ls hH (lv_sub hl [1, 2, 3, 0] rfl)
      · have hw := hw.2 (z_neq (rfl : x3.toInt = _) (rfl : x1.toInt = _) c_2)
        refine lv_aload_n hx hb dX51_decide_17 rfl (lv_at hl 0 rfl) ?_
        refine k_get X hH in_X51 0 rfl hc 10 (by decide) q6352 rfl dX51_decide_18 ?_
        refine lv_aload_n hx hb dX51_decide_21 rfl (lv_at hl 0 rfl) ?_
        refine k_get X hH in_X51 0 rfl hc 8 (by decide) q6350 rfl dX51_decide_22 ?_
        refine lv_iload_n hx hb dX51_decide_25 rfl (lv_at hl 3 rfl) ?_
        have hq_5 := hw.1
        have hw := hw.2
        refine k_iald X hH 8 7 rfl rfl (z_in (rfl : x3.toInt = _) hq_5) dX51_decide_26 ?_
        have e_6 := z_ld (f := f_wants) (rfl : x3.toInt = _) hq_5.1
        have hq_7 := hw.1
        have hw := hw.2
        refine k_zald X hH 9 8 rfl rfl (z_in e_6 hq_7) dX51_decide_27 ?_
        have e_8 := z_ld (f := f_holds) e_6 hq_7.1
        refine lv_if_ne (tgt := 34) hx hb dX51_decide_28 (by decide) (fun c_9 => ?_) (fun c_9 => ?_)
        · have hw := hw.2 (z_ne e_8 (rfl : (0 : Int32).toInt = 0) c_9)
          refine lv_iload_n hx hb dX51_decide_34 rfl (lv_at hl 2 rfl) ?_
          refine lv_if_lt (tgt := 86) hx hb dX51_decide_35 (by decide) (fun c_10 => ?_) (fun c_10 => ?_)
          · have hw := hw.1 (z_lt (rfl : x2.toInt = _) (rfl : (0 : Int32).toInt = 0) c_10)
            exact atX51_decide_86 hc X (fun x2 x3 hw H locs ls hH hl => ih x2 x3 hw _ _ ls hH (lv_sub hl [0, 1, 2, 3] rfl)) x2 x3 hw _ _ ls hH (lv_sub hl [0, 1, 2, 3] rfl)
          · have hw := hw.2 (z_nlt (rfl : x2.toInt = _) (rfl : (0 : Int32).toInt = 0) c_10)
            refine lv_aload_n hx hb dX51_decide_38 rfl (lv_at hl 0 rfl) ?_
            refine k_get X hH in_X51 0 rfl hc 6 (by decide) q6348 rfl dX51_decide_39 ?_
            refine lv_iload_n hx hb dX51_decide_42 rfl (lv_at hl 3 rfl) ?_
            refine k_iald X hH 6 5 rfl rfl (z_in (rfl : x3.toInt = _) hq_5) dX51_decide_43 ?_
            have e_16 := z_ld (f := f_ranks) (rfl : x3.toInt = _) hq_5.1
            refine lv_aload_n hx hb dX51_decide_44 rfl (lv_at hl 0 rfl) ?_
            refine k_get X hH in_X51 0 rfl hc 6 (by decide) q6348 rfl dX51_decide_45 ?_
            refine lv_iload_n hx hb dX51_decide_48 rfl (lv_at hl 2 rfl) ?_
            have hq_17 := hw.1
            have hw := hw.2
            refine k_iald X hH 6 5 rfl rfl (z_in (rfl : x2.toInt = _) hq_17) dX51_decide_49 ?_
            have e_18 := z_ld (f := f_ranks) (rfl : x2.toInt = _) hq_17.1
            refine lv_icmp_lt (tgt := 86) hx hb dX51_decide_50 (by decide) (fun c_19 => ?_) (fun c_19 => ?_)
            · have hw := hw.1 (z_lt e_16 e_18 c_19)
              exact atX51_decide_86 hc X (fun x2 x3 hw H locs ls hH hl => ih x2 x3 hw _ _ ls hH (lv_sub hl [0, 1, 2, 3] rfl)) x2 x3 hw _ _ ls hH (lv_sub hl [0, 1, 2, 3] rfl)
            · have hw := hw.2 (z_nlt e_16 e_18 c_19)
              refine lv_aload_n hx hb dX51_decide_53 rfl (lv_at hl 0 rfl) ?_
              refine k_get X hH in_X51 0 rfl hc 6 (by decide) q6348 rfl dX51_decide_54 ?_
              refine lv_iload_n hx hb dX51_decide_57 rfl (lv_at hl 3 rfl) ?_
              refine k_iald X hH 6 5 rfl rfl (z_in (rfl : x3.toInt = _) hq_5) dX51_decide_58 ?_
              have e_20 := z_ld (f := f_ranks) (rfl : x3.toInt = _) hq_5.1
              refine lv_aload_n hx hb dX51_decide_59 rfl (lv_at hl 0 rfl) ?_
              refine k_get X hH in_X51 0 rfl hc 6 (by decide) q6348 rfl dX51_decide_60 ?_
              refine lv_iload_n hx hb dX51_decide_63 rfl (lv_at hl 2 rfl) ?_
              refine k_iald X hH 6 5 rfl rfl (z_in (rfl : x2.toInt = _) hq_17) dX51_decide_64 ?_
              have e_21 := z_ld (f := f_ranks) (rfl : x2.toInt = _) hq_17.1
              refine lv_icmp_ne (tgt := 90) hx hb dX51_decide_65 (by decide) (fun c_22 => ?_) (fun c_22 => ?_)
              · have hw := hw.2 (z_ne e_20 e_21 c_22)
                exact atX51_decide_90 hc X (fun x2 x3 hw H locs ls hH hl => ih x2 x3 hw _ _ ls hH (lv_sub hl [0, 1, 2, 3] rfl)) x2 x3 hw _ _ ls hH (lv_sub hl [0, 1, 2, 3] rfl)
              · have hw := hw.1 (z_eq e_20 e_21 c_22)
                refine lv_aload_n hx hb dX51_decide_68 rfl (lv_at hl 0 rfl) ?_
                refine k_get X hH in_X51 0 rfl hc 7 (by decide) q6349 rfl dX51_decide_69 ?_
                refine lv_iload_n hx hb dX51_decide_72 rfl (lv_at hl 3 rfl) ?_
                refine k_zald X hH 7 6 rfl rfl (z_in (rfl : x3.toInt = _) hq_5) dX51_decide_73 ?_
                have e_28 := z_ld (f := f_denies) (rfl : x3.toInt = _) hq_5.1
                refine lv_if_eq (tgt := 90) hx hb dX51_decide_74 (by decide) (fun c_29 => ?_) (fun c_29 => ?_)
                · have hw := hw.1 (z_eq e_28 (rfl : (0 : Int32).toInt = 0) c_29)
                  exact atX51_decide_90 hc X (fun x2 x3 hw H locs ls hH hl => ih x2 x3 hw _ _ ls hH (lv_sub hl [0, 1, 2, 3] rfl)) x2 x3 hw _ _ ls hH (lv_sub hl [0, 1, 2, 3] rfl)
                · have hw := hw.2 (z_neq e_28 (rfl : (0 : Int32).toInt = 0) c_29)
                  refine lv_aload_n hx hb dX51_decide_77 rfl (lv_at hl 0 rfl) ?_
                  refine k_get X hH in_X51 0 rfl hc 7 (by decide) q6349 rfl dX51_decide_78 ?_
                  refine lv_iload_n hx hb dX51_decide_81 rfl (lv_at hl 2 rfl) ?_
                  refine k_zald X hH 7 6 rfl rfl (z_in (rfl : x2.toInt = _) hq_17) dX51_decide_82 ?_
                  have e_30 := z_ld (f := f_denies) (rfl : x2.toInt = _) hq_17.1
                  refine lv_if_ne (tgt := 90) hx hb dX51_decide_83 (by decide) (fun c_31 => ?_) (fun c_31 => ?_)
                  · have hw := hw.2 (z_ne e_30 (rfl : (0 : Int32).toInt = 0) c_31)
                    exact atX51_decide_90 hc X (fun x2 x3 hw H locs ls hH hl => ih x2 x3 hw _ _ ls hH (lv_sub hl [0, 1, 2, 3] rfl)) x2 x3 hw _ _ ls hH (lv_sub hl [0, 1, 2, 3] rfl)
                  · have hw := hw.1 (z_eq e_30 (rfl : (0 : Int32).toInt = 0) c_31)
                    exact atX51_decide_86 hc X (fun x2 x3 hw H locs ls hH hl => ih x2 x3 hw _ _ ls hH (lv_sub hl [0, 1, 2, 3] rfl)) x2 x3 hw _ _ ls hH (lv_sub hl [0, 1, 2, 3] rfl)
        · have hw := hw.1 (z_eq e_8 (rfl : (0 : Int32).toInt = 0) c_9)
          refine lv_goto (tgt := 104) hx hb dX51_decide_31 (by decide) ?_
          have hq_33 := hw.1
          have hw := hw.2
          obtain ⟨x3_32, ex3_32⟩ : ∃ y : Int32, y = x3 + 1 := ⟨_, rfl⟩
          have hw := hw x3_32.toInt (by rw [ex3_32]; exact (z_x (z_add (z_m (rfl : x3.toInt = _)) (z_m (rfl : (1 : Int32).toInt = 1))) hq_33))
          refine lv_iinc (v := x3_32) (lv' := [(3, .int x3_32), (0, .ref (ad 0)), (1, .int x1), (2, .int x2)]) hx hb dX51_decide_104 hl (k := 3) rfl (by rw [ex3_32]; rfl) (by decide) rfl (fun ls hl => ?_)
          refine lv_goto (tgt := 4) hx hb dX51_decide_107 (by decide) ?_
          exact ih x2 x3_32 hw _ _ ls hH (lv_sub hl [1, 2, 3, 0] rfl)
set_option maxHeartbeats 4000000 in
theorem walkX51_decide {l : Launch} {dC : Nat → ClassId} {dI : Nat → Nat → Nat} {cl : List vw_C} {ci : Nat} (hc : cl[ci]? = some (RX51, TX51, 11)) {ad : Nat → Nat} {d : Nat → ClassId} {sz : Nat} {f_groups : Nat → Int32} {f_kinds : Nat → Int32} {f_as : Nat → Int32} {f_bs : Nat → Int32} {f_cs : Nat → Int32} {f_conditions : Int32} {f_ranks : Nat → Int32} {f_denies : Nat → Int32} {f_wants : Nat → Int32} {f_rules : Int32} {f_holds : Nat → Int32} {x1 : Int32} {post : Int → Prop} (hw : wpX51_decide post (zF f_ranks) (zF f_denies) (zF f_wants) f_rules.toInt (zF f_holds) x1.toInt) :
    Met l yX51_decide (ws_ yX51_decide cX51_decide 5 (some .int)) ({ frames := 0, cells := 0, slots := 0, locals := 0 } : Room) (kPc (dC, dI) cl (tX51 d) [.ref (ad 0), .int x1] sz (wX51 ci ad d f_groups f_kinds f_as f_bs f_cs f_conditions f_ranks f_denies f_wants f_rules f_holds)) (va_Qi (fun (r : Int32) (_ : Unit) => post r.toInt) (kB (dC, dI) cl (tX51 d) (va_A (wX51 ci ad d f_groups f_kinds f_as f_bs f_cs f_conditions f_ranks f_denies f_wants f_rules f_holds) sz) (fun _ : Unit => (wX51 ci ad d f_groups f_kinds f_as f_bs f_cs f_conditions f_ranks f_denies f_wants f_rules f_holds))) (va_A (wX51 ci ad d f_groups f_kinds f_as f_bs f_cs f_conditions f_ranks f_denies f_wants f_rules f_holds) sz)) 0 0 (va_A (wX51 ci ad d f_groups f_kinds f_as f_bs f_cs f_conditions f_ranks f_denies f_wants f_rules f_holds) sz) := by
  refine k_enter (by decide) (Nat.le_of_ble_eq_true rfl) ?_
  intro p e s m below meth c ls X hsz hH hl
  subst hsz
  generalize va_A (wX51 ci ad d f_groups f_kinds f_as f_bs f_cs f_conditions f_ranks f_denies f_wants f_rules f_holds) s.heap.size = A at hH ⊢
  have hx := X.1.1
  have hb := X.1.2.1
  have hl : lv_has ls 5 [(0, .ref (ad 0)), (1, .int x1)] := hl
  unfold wpX51_decide at hw
  refine lv_iconst (v := (-1)) hx hb dX51_decide_0 (by decide) ?_
  refine lv_istore_n (lv' := [(2, .int ((-1))), (0, .ref (ad 0)), (1, .int x1)]) hx hb dX51_decide_1 rfl hl (by decide) rfl (fun ls hl => ?_)
  refine lv_iconst (v := 0) hx hb dX51_decide_2 (by decide) ?_
  refine lv_istore_n (lv' := [(3, .int 0), (2, .int ((-1))), (0, .ref (ad 0)), (1, .int x1)]) hx hb dX51_decide_3 rfl hl (by decide) rfl (fun ls hl => ?_)
  obtain ⟨fu, hw⟩ := hw
  refine atX51_decide_4 hc X ?_ fu (-1) 0 hw _ _ ls hH (lv_sub hl [2, 3, 1, 0] rfl)
  · intro x2_34 hw H locs ls hH hl
    refine lv_iload_n hx hb dX51_decide_110 rfl (lv_at hl 0 rfl) ?_
    exact k_iret (v := x2_34) X hH () hw rfl rfl dX51_decide_111
set_option maxHeartbeats 4000000 in
theorem walkX51_decider {l : Launch} {dC : Nat → ClassId} {dI : Nat → Nat → Nat} {cl : List vw_C} {ci : Nat} (hc : cl[ci]? = some (RX51, TX51, 11)) {ad : Nat → Nat} {d : Nat → ClassId} {sz : Nat} {f_groups : Nat → Int32} {f_kinds : Nat → Int32} {f_as : Nat → Int32} {f_bs : Nat → Int32} {f_cs : Nat → Int32} {f_conditions : Int32} {f_ranks : Nat → Int32} {f_denies : Nat → Int32} {f_wants : Nat → Int32} {f_rules : Int32} {f_holds : Nat → Int32} {x1 : Int32} {x2 : Int32} {post : Int → (Int → Int) → Prop} (hw : wpX51_decider post (zF f_groups) (zF f_kinds) (zF f_as) (zF f_bs) (zF f_cs) f_conditions.toInt (zF f_ranks) (zF f_denies) (zF f_wants) f_rules.toInt (zF f_holds) x1.toInt x2.toInt) :
    Met l yX51_decider (ws_ yX51_decider cX51_decider 3 (some .int)) ({ frames := 2, cells := 0, slots := 0, locals := 52 } : Room) (kPc (dC, dI) cl (tX51 d) [.ref (ad 0), .int x1, .int x2] sz (wX51 ci ad d f_groups f_kinds f_as f_bs f_cs f_conditions f_ranks f_denies f_wants f_rules f_holds)) (va_Qi (fun (r : Int32) (u : (Nat → Int32)) => post r.toInt (zF (u))) (kB (dC, dI) cl (tX51 d) (va_A (wX51 ci ad d f_groups f_kinds f_as f_bs f_cs f_conditions f_ranks f_denies f_wants f_rules f_holds) sz) (fun u : (Nat → Int32) => (wX51 ci ad d f_groups f_kinds f_as f_bs f_cs f_conditions f_ranks f_denies f_wants f_rules (u)))) (va_A (wX51 ci ad d f_groups f_kinds f_as f_bs f_cs f_conditions f_ranks f_denies f_wants f_rules f_holds) sz)) 0 0 (va_A (wX51 ci ad d f_groups f_kinds f_as f_bs f_cs f_conditions f_ranks f_denies f_wants f_rules f_holds) sz) := by
  refine k_enter (by decide) (Nat.le_of_ble_eq_true rfl) ?_
  intro p e s m below meth c ls X hsz hH hl
  subst hsz
  generalize va_A (wX51 ci ad d f_groups f_kinds f_as f_bs f_cs f_conditions f_ranks f_denies f_wants f_rules f_holds) s.heap.size = A at hH ⊢
  have hx := X.1.1
  have hb := X.1.2.1
  have hl : lv_has ls 3 [(0, .ref (ad 0)), (1, .int x1), (2, .int x2)] := hl
  unfold wpX51_decider at hw
  refine lv_aload_n hx hb dX51_decider_0 rfl (lv_at hl 0 rfl) ?_
  refine lv_iload_n hx hb dX51_decider_1 rfl (lv_at hl 1 rfl) ?_
  refine lv_aload_n hx hb dX51_decider_2 rfl (lv_at hl 0 rfl) ?_
  refine k_get X hH in_X51 0 rfl hc 5 (by decide) q6347 rfl dX51_decider_3 ?_
  refine k_v0 hH (k_runV (As := [.int x1, .int f_conditions]) (rest := []) X hH.1 hH.2.1 X.2.2.2 (walkX51_look hc (x1 := x1) (x2 := f_conditions) (f_groups := f_groups) (f_kinds := f_kinds) (f_as := f_as) (f_bs := f_bs) (f_cs := f_cs) (f_conditions := f_conditions) (f_ranks := f_ranks) (f_denies := f_denies) (f_wants := f_wants) (f_rules := f_rules) (f_holds := f_holds) hw) (cwV 2 X.1.2.2.2.2 gX51_60 rfl rfl rfl hX51_look ⟨Nat.le_of_ble_eq_true rfl, Nat.le_of_ble_eq_true rfl⟩) hc (q0 := 0) rfl rfl hl.1 rfl (Nat.le_of_ble_eq_true rfl) dX51_decider_6 ⟨Nat.le_refl 0, Nat.le_refl 0⟩) (fun u H locs hw hH => ?_)
  obtain ⟨f_holds_1, eu⟩ : ∃ z, z = u := ⟨_, rfl⟩
  subst eu
  have hH : kH (dC, dI) cl A s.heap H locs (wX51 ci ad d f_groups f_kinds f_as f_bs f_cs f_conditions f_ranks f_denies f_wants f_rules f_holds_1) := hH
  refine lv_aload_n hx hb dX51_decider_9 rfl (lv_at hl 0 rfl) ?_
  refine lv_iload_n hx hb dX51_decider_10 rfl (lv_at hl 2 rfl) ?_
  refine k_i0 hH (k_runV (As := [.int x2]) (rest := []) X hH.1 hH.2.1 X.2.2.2 (walkX51_decide hc (x1 := x2) (f_groups := f_groups) (f_kinds := f_kinds) (f_as := f_as) (f_bs := f_bs) (f_cs := f_cs) (f_conditions := f_conditions) (f_ranks := f_ranks) (f_denies := f_denies) (f_wants := f_wants) (f_rules := f_rules) (f_holds := f_holds_1) hw) (cwV 1 X.1.2.2.2.2 gX51_64 rfl rfl rfl hX51_decide ⟨Nat.le_of_ble_eq_true rfl, Nat.le_of_ble_eq_true rfl⟩) hc (q0 := 0) rfl rfl hl.1 rfl (Nat.le_of_ble_eq_true rfl) dX51_decider_11 ⟨Nat.le_refl 0, Nat.le_refl 0⟩) (fun r_2 _ H locs hw hH => ?_)
  have hH : kH (dC, dI) cl A s.heap H locs (wX51 ci ad d f_groups f_kinds f_as f_bs f_cs f_conditions f_ranks f_denies f_wants f_rules f_holds_1) := hH
  exact k_iret (v := r_2) X hH (f_holds_1) hw rfl rfl dX51_decider_14
set_option maxHeartbeats 4000000 in
theorem walkX51_may {l : Launch} {dC : Nat → ClassId} {dI : Nat → Nat → Nat} {cl : List vw_C} {ci : Nat} (hc : cl[ci]? = some (RX51, TX51, 11)) {ad : Nat → Nat} {d : Nat → ClassId} {sz : Nat} {f_groups : Nat → Int32} {f_kinds : Nat → Int32} {f_as : Nat → Int32} {f_bs : Nat → Int32} {f_cs : Nat → Int32} {f_conditions : Int32} {f_ranks : Nat → Int32} {f_denies : Nat → Int32} {f_wants : Nat → Int32} {f_rules : Int32} {f_holds : Nat → Int32} {x1 : Int32} {x2 : Int32} {x3 : Int32} {x4 : Int32} {x5 : Int32} {x6 : Int32} {post : Int → (Int → Int) → Prop} (hw : wpX51_may post (zF f_groups) (zF f_kinds) (zF f_as) (zF f_bs) (zF f_cs) f_conditions.toInt (zF f_ranks) (zF f_denies) (zF f_wants) f_rules.toInt (zF f_holds) x1.toInt x2.toInt x3.toInt x4.toInt x5.toInt x6.toInt) :
    Met l yX51_may (ws_ yX51_may cX51_may 8 (some .int)) ({ frames := 3, cells := 0, slots := 0, locals := 74 } : Room) (kPc (dC, dI) cl (tX51 d) [.ref (ad 0), .int x1, .int x2, .int x3, .int x4, .int x5, .int x6] sz (wX51 ci ad d f_groups f_kinds f_as f_bs f_cs f_conditions f_ranks f_denies f_wants f_rules f_holds)) (va_Qi (fun (r : Int32) (u : (Nat → Int32)) => post r.toInt (zF (u))) (kB (dC, dI) cl (tX51 d) (va_A (wX51 ci ad d f_groups f_kinds f_as f_bs f_cs f_conditions f_ranks f_denies f_wants f_rules f_holds) sz) (fun u : (Nat → Int32) => (wX51 ci ad d f_groups f_kinds f_as f_bs f_cs f_conditions f_ranks f_denies f_wants f_rules (u)))) (va_A (wX51 ci ad d f_groups f_kinds f_as f_bs f_cs f_conditions f_ranks f_denies f_wants f_rules f_holds) sz)) 0 0 (va_A (wX51 ci ad d f_groups f_kinds f_as f_bs f_cs f_conditions f_ranks f_denies f_wants f_rules f_holds) sz) := by
  refine k_enter (by decide) (Nat.le_of_ble_eq_true rfl) ?_
  intro p e s m below meth c ls X hsz hH hl
  subst hsz
  generalize va_A (wX51 ci ad d f_groups f_kinds f_as f_bs f_cs f_conditions f_ranks f_denies f_wants f_rules f_holds) s.heap.size = A at hH ⊢
  have hx := X.1.1
  have hb := X.1.2.1
  have hl : lv_has ls 8 [(0, .ref (ad 0)), (1, .int x1), (2, .int x2), (3, .int x3), (4, .int x4), (5, .int x5), (6, .int x6)] := hl
  unfold wpX51_may at hw
  refine lv_iload_n hx hb dX51_may_0 rfl (lv_at hl 1 rfl) ?_
  refine lv_bipush (v := 8) hx hb dX51_may_1 (by decide) ?_
  refine k_i0 hH (k_runS (As := [.int x1, .int 8]) (rest := []) X hH.1 hH.2.1 X.2.2.2 (walkX51_in hc (x0 := x1) (x1 := 8) (f_groups := f_groups) (f_kinds := f_kinds) (f_as := f_as) (f_bs := f_bs) (f_cs := f_cs) (f_conditions := f_conditions) (f_ranks := f_ranks) (f_denies := f_denies) (f_wants := f_wants) (f_rules := f_rules) (f_holds := f_holds) hw) (va_cwS 2 X.1.2.2.2.2 gX51_38 rfl rfl rfl hX51_in ⟨Nat.le_of_ble_eq_true rfl, Nat.le_of_ble_eq_true rfl⟩) rfl hl.1 rfl (Nat.le_of_ble_eq_true rfl) dX51_may_3 ⟨Nat.le_refl 0, Nat.le_refl 0⟩) (fun r_1 _ H locs hw hH => ?_)
  have hH : kH (dC, dI) cl A s.heap H locs (wX51 ci ad d f_groups f_kinds f_as f_bs f_cs f_conditions f_ranks f_denies f_wants f_rules f_holds) := hH
  refine lv_if_eq (tgt := 54) hx hb dX51_may_6 (by decide) (fun c_2 => ?_) (fun c_2 => ?_)
  · have hw := hw.1 (z_eq (rfl : r_1.toInt = _) (rfl : (0 : Int32).toInt = 0) c_2)
    refine lv_iconst (v := (-1)) hx hb dX51_may_54 (by decide) ?_
    exact k_iret (v := (-1)) X hH (f_holds) hw rfl rfl dX51_may_55
  · have hw := hw.2 (z_neq (rfl : r_1.toInt = _) (rfl : (0 : Int32).toInt = 0) c_2)
    refine lv_iload_n hx hb dX51_may_9 rfl (lv_at hl 2 rfl) ?_
    refine lv_iconst (v := 4) hx hb dX51_may_10 (by decide) ?_
    refine k_i0 hH (k_runS (As := [.int x2, .int 4]) (rest := []) X hH.1 hH.2.1 X.2.2.2 (walkX51_in hc (x0 := x2) (x1 := 4) (f_groups := f_groups) (f_kinds := f_kinds) (f_as := f_as) (f_bs := f_bs) (f_cs := f_cs) (f_conditions := f_conditions) (f_ranks := f_ranks) (f_denies := f_denies) (f_wants := f_wants) (f_rules := f_rules) (f_holds := f_holds) hw) (va_cwS 2 X.1.2.2.2.2 gX51_38 rfl rfl rfl hX51_in ⟨Nat.le_of_ble_eq_true rfl, Nat.le_of_ble_eq_true rfl⟩) rfl hl.1 rfl (Nat.le_of_ble_eq_true rfl) dX51_may_11 ⟨Nat.le_refl 0, Nat.le_refl 0⟩) (fun r_3 _ H locs hw hH => ?_)
    have hH : kH (dC, dI) cl A s.heap H locs (wX51 ci ad d f_groups f_kinds f_as f_bs f_cs f_conditions f_ranks f_denies f_wants f_rules f_holds) := hH
    refine lv_if_eq (tgt := 54) hx hb dX51_may_14 (by decide) (fun c_4 => ?_) (fun c_4 => ?_)
    · have hw := hw.1 (z_eq (rfl : r_3.toInt = _) (rfl : (0 : Int32).toInt = 0) c_4)
      refine lv_iconst (v := (-1)) hx hb dX51_may_54 (by decide) ?_
      exact k_iret (v := (-1)) X hH (f_holds) hw rfl rfl dX51_may_55
    · have hw := hw.2 (z_neq (rfl : r_3.toInt = _) (rfl : (0 : Int32).toInt = 0) c_4)
      refine lv_iload_n hx hb dX51_may_17 rfl (lv_at hl 3 rfl) ?_
      refine lv_bipush (v := 6) hx hb dX51_may_18 (by decide) ?_
      refine k_i0 hH (k_runS (As := [.int x3, .int 6]) (rest := []) X hH.1 hH.2.1 X.2.2.2 (walkX51_in hc (x0 := x3) (x1 := 6) (f_groups := f_groups) (f_kinds := f_kinds) (f_as := f_as) (f_bs := f_bs) (f_cs := f_cs) (f_conditions := f_conditions) (f_ranks := f_ranks) (f_denies := f_denies) (f_wants := f_wants) (f_rules := f_rules) (f_holds := f_holds) hw) (va_cwS 2 X.1.2.2.2.2 gX51_38 rfl rfl rfl hX51_in ⟨Nat.le_of_ble_eq_true rfl, Nat.le_of_ble_eq_true rfl⟩) rfl hl.1 rfl (Nat.le_of_ble_eq_true rfl) dX51_may_20 ⟨Nat.le_refl 0, Nat.le_refl 0⟩) (fun r_5 _ H locs hw hH => ?_)
      have hH : kH (dC, dI) cl A s.heap H locs (wX51 ci ad d f_groups f_kinds f_as f_bs f_cs f_conditions f_ranks f_denies f_wants f_rules f_holds) := hH
      refine lv_if_eq (tgt := 54) hx hb dX51_may_23 (by decide) (fun c_6 => ?_) (fun c_6 => ?_)
      · have hw := hw.1 (z_eq (rfl : r_5.toInt = _) (rfl : (0 : Int32).toInt = 0) c_6)
        refine lv_iconst (v := (-1)) hx hb dX51_may_54 (by decide) ?_
        exact k_iret (v := (-1)) X hH (f_holds) hw rfl rfl dX51_may_55
      · have hw := hw.2 (z_neq (rfl : r_5.toInt = _) (rfl : (0 : Int32).toInt = 0) c_6)
        refine lv_iload hx hb dX51_may_26 (lv_at hl 4 rfl) ?_
        refine lv_iconst (v := 4) hx hb dX51_may_28 (by decide) ?_
        refine k_i0 hH (k_runS (As := [.int x4, .int 4]) (rest := []) X hH.1 hH.2.1 X.2.2.2 (walkX51_in hc (x0 := x4) (x1 := 4) (f_groups := f_groups) (f_kinds := f_kinds) (f_as := f_as) (f_bs := f_bs) (f_cs := f_cs) (f_conditions := f_conditions) (f_ranks := f_ranks) (f_denies := f_denies) (f_wants := f_wants) (f_rules := f_rules) (f_holds := f_holds) hw) (va_cwS 2 X.1.2.2.2.2 gX51_38 rfl rfl rfl hX51_in ⟨Nat.le_of_ble_eq_true rfl, Nat.le_of_ble_eq_true rfl⟩) rfl hl.1 rfl (Nat.le_of_ble_eq_true rfl) dX51_may_29 ⟨Nat.le_refl 0, Nat.le_refl 0⟩) (fun r_7 _ H locs hw hH => ?_)
        have hH : kH (dC, dI) cl A s.heap H locs (wX51 ci ad d f_groups f_kinds f_as f_bs f_cs f_conditions f_ranks f_denies f_wants f_rules f_holds) := hH
        refine lv_if_eq (tgt := 54) hx hb dX51_may_32 (by decide) (fun c_8 => ?_) (fun c_8 => ?_)
        · have hw := hw.1 (z_eq (rfl : r_7.toInt = _) (rfl : (0 : Int32).toInt = 0) c_8)
          refine lv_iconst (v := (-1)) hx hb dX51_may_54 (by decide) ?_
          exact k_iret (v := (-1)) X hH (f_holds) hw rfl rfl dX51_may_55
        · have hw := hw.2 (z_neq (rfl : r_7.toInt = _) (rfl : (0 : Int32).toInt = 0) c_8)
          refine lv_iload hx hb dX51_may_35 (lv_at hl 5 rfl) ?_
          refine lv_bipush (v := 8) hx hb dX51_may_37 (by decide) ?_
          refine k_i0 hH (k_runS (As := [.int x5, .int 8]) (rest := []) X hH.1 hH.2.1 X.2.2.2 (walkX51_in hc (x0 := x5) (x1 := 8) (f_groups := f_groups) (f_kinds := f_kinds) (f_as := f_as) (f_bs := f_bs) (f_cs := f_cs) (f_conditions := f_conditions) (f_ranks := f_ranks) (f_denies := f_denies) (f_wants := f_wants) (f_rules := f_rules) (f_holds := f_holds) hw) (va_cwS 2 X.1.2.2.2.2 gX51_38 rfl rfl rfl hX51_in ⟨Nat.le_of_ble_eq_true rfl, Nat.le_of_ble_eq_true rfl⟩) rfl hl.1 rfl (Nat.le_of_ble_eq_true rfl) dX51_may_39 ⟨Nat.le_refl 0, Nat.le_refl 0⟩) (fun r_9 _ H locs hw hH => ?_)
          have hH : kH (dC, dI) cl A s.heap H locs (wX51 ci ad d f_groups f_kinds f_as f_bs f_cs f_conditions f_ranks f_denies f_wants f_rules f_holds) := hH
          refine lv_if_eq (tgt := 54) hx hb dX51_may_42 (by decide) (fun c_10 => ?_) (fun c_10 => ?_)
          · have hw := hw.1 (z_eq (rfl : r_9.toInt = _) (rfl : (0 : Int32).toInt = 0) c_10)
            refine lv_iconst (v := (-1)) hx hb dX51_may_54 (by decide) ?_
            exact k_iret (v := (-1)) X hH (f_holds) hw rfl rfl dX51_may_55
          · have hw := hw.2 (z_neq (rfl : r_9.toInt = _) (rfl : (0 : Int32).toInt = 0) c_10)
            refine lv_iload hx hb dX51_may_45 (lv_at hl 6 rfl) ?_
            refine lv_iconst (v := 2) hx hb dX51_may_47 (by decide) ?_
            refine k_i0 hH (k_runS (As := [.int x6, .int 2]) (rest := []) X hH.1 hH.2.1 X.2.2.2 (walkX51_in hc (x0 := x6) (x1 := 2) (f_groups := f_groups) (f_kinds := f_kinds) (f_as := f_as) (f_bs := f_bs) (f_cs := f_cs) (f_conditions := f_conditions) (f_ranks := f_ranks) (f_denies := f_denies) (f_wants := f_wants) (f_rules := f_rules) (f_holds := f_holds) hw) (va_cwS 2 X.1.2.2.2.2 gX51_38 rfl rfl rfl hX51_in ⟨Nat.le_of_ble_eq_true rfl, Nat.le_of_ble_eq_true rfl⟩) rfl hl.1 rfl (Nat.le_of_ble_eq_true rfl) dX51_may_48 ⟨Nat.le_refl 0, Nat.le_refl 0⟩) (fun r_11 _ H locs hw hH => ?_)
            have hH : kH (dC, dI) cl A s.heap H locs (wX51 ci ad d f_groups f_kinds f_as f_bs f_cs f_conditions f_ranks f_denies f_wants f_rules f_holds) := hH
            refine lv_if_ne (tgt := 56) hx hb dX51_may_51 (by decide) (fun c_12 => ?_) (fun c_12 => ?_)
            · have hw := hw.2 (z_ne (rfl : r_11.toInt = _) (rfl : (0 : Int32).toInt = 0) c_12)
              refine lv_aload_n hx hb dX51_may_56 rfl (lv_at hl 0 rfl) ?_
              refine lv_iload_n hx hb dX51_may_57 rfl (lv_at hl 1 rfl) ?_
              refine lv_iconst (v := 4) hx hb dX51_may_58 (by decide) ?_
              refine lv_imul hx hb dX51_may_59 ?_
              have e_13 := z_mul (z_m (rfl : x1.toInt = _)) (z_m (rfl : (4 : Int32).toInt = 4))
              refine lv_iload_n hx hb dX51_may_60 rfl (lv_at hl 2 rfl) ?_
              refine lv_iadd hx hb dX51_may_61 ?_
              have e_14 := z_add e_13 (z_m (rfl : x2.toInt = _))
              refine lv_bipush (v := 6) hx hb dX51_may_62 (by decide) ?_
              refine lv_imul hx hb dX51_may_64 ?_
              have e_15 := z_mul e_14 (z_m (rfl : (6 : Int32).toInt = 6))
              refine lv_iload_n hx hb dX51_may_65 rfl (lv_at hl 3 rfl) ?_
              refine lv_iadd hx hb dX51_may_66 ?_
              have e_16 := z_add e_15 (z_m (rfl : x3.toInt = _))
              refine lv_iconst (v := 4) hx hb dX51_may_67 (by decide) ?_
              refine lv_imul hx hb dX51_may_68 ?_
              have e_17 := z_mul e_16 (z_m (rfl : (4 : Int32).toInt = 4))
              refine lv_iload hx hb dX51_may_69 (lv_at hl 4 rfl) ?_
              refine lv_iadd hx hb dX51_may_71 ?_
              have e_18 := z_add e_17 (z_m (rfl : x4.toInt = _))
              refine lv_bipush (v := 8) hx hb dX51_may_72 (by decide) ?_
              refine lv_imul hx hb dX51_may_74 ?_
              have e_19 := z_mul e_18 (z_m (rfl : (8 : Int32).toInt = 8))
              refine lv_iload hx hb dX51_may_75 (lv_at hl 5 rfl) ?_
              refine lv_iadd hx hb dX51_may_77 ?_
              have e_20 := z_add e_19 (z_m (rfl : x5.toInt = _))
              refine lv_iconst (v := (-1)) hx hb dX51_may_78 (by decide) ?_
              have hq_21 := hw.1
              have hw := hw.2
              have e_22 := z_x e_20 hq_21
              refine k_i0 hH (k_runV (As := [.int ((((((((x1 * 4) + x2) * 6) + x3) * 4) + x4) * 8) + x5), .int ((-1))]) (rest := []) X hH.1 hH.2.1 X.2.2.2 (walkX51_decider hc (x1 := ((((((((x1 * 4) + x2) * 6) + x3) * 4) + x4) * 8) + x5)) (x2 := (-1)) (f_groups := f_groups) (f_kinds := f_kinds) (f_as := f_as) (f_bs := f_bs) (f_cs := f_cs) (f_conditions := f_conditions) (f_ranks := f_ranks) (f_denies := f_denies) (f_wants := f_wants) (f_rules := f_rules) (f_holds := f_holds) (by rw [show ((((((((x1 * 4) + x2) * 6) + x3) * 4) + x4) * 8) + x5 : Int32).toInt = _ from e_22]; exact hw)) (cwV 2 X.1.2.2.2.2 gX51_67 rfl rfl rfl hX51_decider ⟨Nat.le_of_ble_eq_true rfl, Nat.le_of_ble_eq_true rfl⟩) hc (q0 := 0) rfl rfl hl.1 rfl (Nat.le_of_ble_eq_true rfl) dX51_may_79 ⟨Nat.le_refl 0, Nat.le_refl 0⟩) (fun r_23 u H locs hw hH => ?_)
              obtain ⟨f_holds_24, eu⟩ : ∃ z, z = u := ⟨_, rfl⟩
              subst eu
              have hH : kH (dC, dI) cl A s.heap H locs (wX51 ci ad d f_groups f_kinds f_as f_bs f_cs f_conditions f_ranks f_denies f_wants f_rules f_holds_24) := hH
              refine lv_istore (lv' := [(7, .int r_23), (0, .ref (ad 0)), (1, .int x1), (2, .int x2), (3, .int x3), (4, .int x4), (5, .int x5), (6, .int x6)]) hx hb dX51_may_82 hl (by decide) rfl (fun ls hl => ?_)
              refine lv_iload hx hb dX51_may_84 (lv_at hl 7 rfl) ?_
              refine lv_iconst (v := 1) hx hb dX51_may_86 (by decide) ?_
              refine lv_icmp_ne (tgt := 103) hx hb dX51_may_87 (by decide) (fun c_25 => ?_) (fun c_25 => ?_)
              · have hw := hw.2 (z_ne (rfl : x6.toInt = _) (rfl : (1 : Int32).toInt = 1) c_25)
                refine lv_iload hx hb dX51_may_103 (lv_at hl 0 rfl) ?_
                refine lv_if_lt (tgt := 122) hx hb dX51_may_105 (by decide) (fun c_26 => ?_) (fun c_26 => ?_)
                · have hw := hw.1 (z_lt (rfl : r_23.toInt = _) (rfl : (0 : Int32).toInt = 0) c_26)
                  refine lv_iconst (v := 0) hx hb dX51_may_122 (by decide) ?_
                  exact k_iret (v := 0) X hH (f_holds_24) hw rfl rfl dX51_may_123
                · have hw := hw.2 (z_nlt (rfl : r_23.toInt = _) (rfl : (0 : Int32).toInt = 0) c_26)
                  refine lv_aload_n hx hb dX51_may_108 rfl (lv_at hl 1 rfl) ?_
                  refine k_get X hH in_X51 0 rfl hc 7 (by decide) q6349 rfl dX51_may_109 ?_
                  refine lv_iload hx hb dX51_may_112 (lv_at hl 0 rfl) ?_
                  have hq_27 := hw.1
                  have hw := hw.2
                  refine k_zald X hH 7 6 rfl rfl (z_in (rfl : r_23.toInt = _) hq_27) dX51_may_114 ?_
                  have e_28 := z_ld (f := f_denies) (rfl : r_23.toInt = _) hq_27.1
                  refine lv_if_ne (tgt := 122) hx hb dX51_may_115 (by decide) (fun c_29 => ?_) (fun c_29 => ?_)
                  · have hw := hw.2 (z_ne e_28 (rfl : (0 : Int32).toInt = 0) c_29)
                    refine lv_iconst (v := 0) hx hb dX51_may_122 (by decide) ?_
                    exact k_iret (v := 0) X hH (f_holds_24) hw rfl rfl dX51_may_123
                  · have hw := hw.1 (z_eq e_28 (rfl : (0 : Int32).toInt = 0) c_29)
                    refine lv_iconst (v := 1) hx hb dX51_may_118 (by decide) ?_
                    refine lv_goto (tgt := 123) hx hb dX51_may_119 (by decide) ?_
                    exact k_iret (v := 1) X hH (f_holds_24) hw rfl rfl dX51_may_123
              · have hw := hw.1 (z_eq (rfl : x6.toInt = _) (rfl : (1 : Int32).toInt = 1) c_25)
                refine lv_iload hx hb dX51_may_90 (lv_at hl 0 rfl) ?_
                refine lv_if_ge (tgt := 100) hx hb dX51_may_92 (by decide) (fun c_30 => ?_) (fun c_30 => ?_)
                · have hw := hw.1 (z_le (rfl : (0 : Int32).toInt = 0) (rfl : r_23.toInt = _) c_30)
                  refine lv_iload hx hb dX51_may_100 (lv_at hl 0 rfl) ?_
                  exact k_iret (v := r_23) X hH (f_holds_24) hw rfl rfl dX51_may_102
                · have hw := hw.2 (z_nle (rfl : (0 : Int32).toInt = 0) (rfl : r_23.toInt = _) c_30)
                  refine lv_bipush (v := (-2)) hx hb dX51_may_95 (by decide) ?_
                  refine lv_goto (tgt := 102) hx hb dX51_may_97 (by decide) ?_
                  exact k_iret (v := (-2)) X hH (f_holds_24) hw rfl rfl dX51_may_102
            · have hw := hw.1 (z_eq (rfl : r_11.toInt = _) (rfl : (0 : Int32).toInt = 0) c_12)
              refine lv_iconst (v := (-1)) hx hb dX51_may_54 (by decide) ?_
              exact k_iret (v := (-1)) X hH (f_holds) hw rfl rfl dX51_may_55
set_option maxHeartbeats 4000000 in
theorem atX51_member_39 {p : Program} {l : Launch} {e : Env} {s : State} {m : MethodId} {args : Array Value} {below : List Frame} {meth : Method} {c : Code} {dC : Nat → ClassId} {dI : Nat → Nat → Nat} {cl : List vw_C} {ci : Nat} (hc : cl[ci]? = some (RX51, TX51, 11)) {ad : Nat → Nat} {d : Nat → ClassId} {A : Nat → Prop} {post : Int → (Int → Int) → Prop} {f_kinds : Nat → Int32} {f_as : Nat → Int32} {f_bs : Nat → Int32} {f_cs : Nat → Int32} {f_conditions : Int32} {f_ranks : Nat → Int32} {f_denies : Nat → Int32} {f_wants : Nat → Int32} {f_rules : Int32} {f_holds : Nat → Int32} (X : kX p s m args meth c cX51_member 5 RX51 (some .int) (dC, dI) cl (tX51 d))     :
    ∀ (x1 : Int32) (x2 : Int32) (x3 : Int32) (y0 : Int32) (f_groups : Nat → Int32), wX51_member_39 post x1.toInt x2.toInt x3.toInt y0.toInt (zF f_groups) → ∀ (H : Heap) (locs : List Loc) (ls : Array Slot), kH (dC, dI) cl A s.heap H locs (wX51 ci ad d f_groups f_kinds f_as f_bs f_cs f_conditions f_ranks f_denies f_wants f_rules f_holds) → lv_has ls 5 [(0, .ref (ad 0)), (1, .int x1), (2, .int x2), (3, .int x3)] → W p l e ({ frames := 1, cells := 0, slots := 0, locals := 21 } : Room) s m args below meth c H locs 0 0 (MQ below (va_Qi (fun (r : Int32) (u : (Nat → Int32)) => post r.toInt (zF (u))) (kB (dC, dI) cl (tX51 d) A (fun u : (Nat → Int32) => (wX51 ci ad d (u) f_kinds f_as f_bs f_cs f_conditions f_ranks f_denies f_wants f_rules f_holds))) A) args s 0 0 A) (F0 m 39 ls [.int y0]) := by
  have hx := X.1.1
  have hb := X.1.2.1
  intro x1 x2 x3 y0 f_groups hw H locs ls hH hl
  unfold wX51_member_39 at hw
  refine lv_istore (lv' := [(4, .int y0), (0, .ref (ad 0)), (1, .int x1), (2, .int x2), (3, .int x3)]) hx hb dX51_member_39 hl (by decide) rfl (fun ls hl => ?_)
  refine lv_iload hx hb dX51_member_41 (lv_at hl 0 rfl) ?_
  refine lv_iload_n hx hb dX51_member_43 rfl (lv_at hl 4 rfl) ?_
  refine lv_icmp_ne (tgt := 49) hx hb dX51_member_44 (by decide) (fun c_11 => ?_) (fun c_11 => ?_)
  · have hw := hw.2 (z_ne (rfl : y0.toInt = _) (rfl : x3.toInt = _) c_11)
    refine lv_aload_n hx hb dX51_member_49 rfl (lv_at hl 1 rfl) ?_
    refine k_get X hH in_X51 0 rfl hc 0 (by decide) q6342 rfl dX51_member_50 ?_
    refine lv_iload_n hx hb dX51_member_53 rfl (lv_at hl 2 rfl) ?_
    refine lv_dup2_11 hx hb dX51_member_54 rfl rfl ?_
    have hq_12 := hw.1
    have hw := hw.2
    refine k_iald X hH 1 0 rfl rfl (z_in (rfl : x1.toInt = _) hq_12) dX51_member_55 ?_
    have e_13 := z_ld (f := f_groups) (rfl : x1.toInt = _) hq_12.1
    refine lv_iconst (v := 1) hx hb dX51_member_56 (by decide) ?_
    refine lv_iload_n hx hb dX51_member_57 rfl (lv_at hl 3 rfl) ?_
    refine lv_ishl hx hb dX51_member_58 ?_
    have hq_14 := hw.1
    have hw := hw.2
    have e_15 := z_one (rfl : x2.toInt = _) hq_14
    refine lv_ixor hx hb dX51_member_59 ?_
    have e_16 := z_xor (z_m e_13) (z_m e_15)
    refine lv_topi (fun v_17 ev_17 => ?_)
    have hw := hw v_17.toInt (by rw [ev_17]; exact e_16)
    obtain ⟨f_groups_18, ef_groups_18⟩ : ∃ y : Nat → Int32, y = upd f_groups x1.toNatClampNeg v_17 := ⟨_, rfl⟩
    refine k_iast X hH 1 0 rfl rfl (z_in (rfl : x1.toInt = _) hq_12) dX51_member_60 ef_groups_18 (ws1 := (wX51 ci ad d f_groups_18 f_kinds f_as f_bs f_cs f_conditions f_ranks f_denies f_wants f_rules f_holds)) rfl (fun H locs hH => ?_)
    have hw := hw (zF f_groups_18) (by rw [ef_groups_18]; exact z_st (f := f_groups) (rfl : x1.toInt = _) hq_12.1 (rfl : v_17.toInt = _))
    refine lv_iconst (v := 1) hx hb dX51_member_61 (by decide) ?_
    exact k_iret (v := 1) X hH (f_groups_18) hw rfl rfl dX51_member_62
  · have hw := hw.1 (z_eq (rfl : y0.toInt = _) (rfl : x3.toInt = _) c_11)
    refine lv_iconst (v := 0) hx hb dX51_member_47 (by decide) ?_
    exact k_iret (v := 0) X hH (f_groups) hw rfl rfl dX51_member_48
set_option maxHeartbeats 4000000 in
theorem walkX51_member {l : Launch} {dC : Nat → ClassId} {dI : Nat → Nat → Nat} {cl : List vw_C} {ci : Nat} (hc : cl[ci]? = some (RX51, TX51, 11)) {ad : Nat → Nat} {d : Nat → ClassId} {sz : Nat} {f_groups : Nat → Int32} {f_kinds : Nat → Int32} {f_as : Nat → Int32} {f_bs : Nat → Int32} {f_cs : Nat → Int32} {f_conditions : Int32} {f_ranks : Nat → Int32} {f_denies : Nat → Int32} {f_wants : Nat → Int32} {f_rules : Int32} {f_holds : Nat → Int32} {x1 : Int32} {x2 : Int32} {x3 : Int32} {post : Int → (Int → Int) → Prop} (hw : wpX51_member post (zF f_groups) x1.toInt x2.toInt x3.toInt) :
    Met l yX51_member (ws_ yX51_member cX51_member 5 (some .int)) ({ frames := 1, cells := 0, slots := 0, locals := 21 } : Room) (kPc (dC, dI) cl (tX51 d) [.ref (ad 0), .int x1, .int x2, .int x3] sz (wX51 ci ad d f_groups f_kinds f_as f_bs f_cs f_conditions f_ranks f_denies f_wants f_rules f_holds)) (va_Qi (fun (r : Int32) (u : (Nat → Int32)) => post r.toInt (zF (u))) (kB (dC, dI) cl (tX51 d) (va_A (wX51 ci ad d f_groups f_kinds f_as f_bs f_cs f_conditions f_ranks f_denies f_wants f_rules f_holds) sz) (fun u : (Nat → Int32) => (wX51 ci ad d (u) f_kinds f_as f_bs f_cs f_conditions f_ranks f_denies f_wants f_rules f_holds))) (va_A (wX51 ci ad d f_groups f_kinds f_as f_bs f_cs f_conditions f_ranks f_denies f_wants f_rules f_holds) sz)) 0 0 (va_A (wX51 ci ad d f_groups f_kinds f_as f_bs f_cs f_conditions f_ranks f_denies f_wants f_rules f_holds) sz) := by
  refine k_enter (by decide) (Nat.le_of_ble_eq_true rfl) ?_
  intro p e s m below meth c ls X hsz hH hl
  subst hsz
  generalize va_A (wX51 ci ad d f_groups f_kinds f_as f_bs f_cs f_conditions f_ranks f_denies f_wants f_rules f_holds) s.heap.size = A at hH ⊢
  have hx := X.1.1
  have hb := X.1.2.1
  have hl : lv_has ls 5 [(0, .ref (ad 0)), (1, .int x1), (2, .int x2), (3, .int x3)] := hl
  unfold wpX51_member at hw
  refine lv_iload_n hx hb dX51_member_0 rfl (lv_at hl 1 rfl) ?_
  refine lv_bipush (v := 8) hx hb dX51_member_1 (by decide) ?_
  refine k_i0 hH (k_runS (As := [.int x1, .int 8]) (rest := []) X hH.1 hH.2.1 X.2.2.2 (walkX51_in hc (x0 := x1) (x1 := 8) (f_groups := f_groups) (f_kinds := f_kinds) (f_as := f_as) (f_bs := f_bs) (f_cs := f_cs) (f_conditions := f_conditions) (f_ranks := f_ranks) (f_denies := f_denies) (f_wants := f_wants) (f_rules := f_rules) (f_holds := f_holds) hw) (va_cwS 2 X.1.2.2.2.2 gX51_38 rfl rfl rfl hX51_in ⟨Nat.le_of_ble_eq_true rfl, Nat.le_of_ble_eq_true rfl⟩) rfl hl.1 rfl (Nat.le_of_ble_eq_true rfl) dX51_member_3 ⟨Nat.le_refl 0, Nat.le_refl 0⟩) (fun r_1 _ H locs hw hH => ?_)
  have hH : kH (dC, dI) cl A s.heap H locs (wX51 ci ad d f_groups f_kinds f_as f_bs f_cs f_conditions f_ranks f_denies f_wants f_rules f_holds) := hH
  refine lv_if_eq (tgt := 18) hx hb dX51_member_6 (by decide) (fun c_2 => ?_) (fun c_2 => ?_)
  · have hw := hw.1 (z_eq (rfl : r_1.toInt = _) (rfl : (0 : Int32).toInt = 0) c_2)
    refine lv_iconst (v := (-1)) hx hb dX51_member_18 (by decide) ?_
    exact k_iret (v := (-1)) X hH (f_groups) hw rfl rfl dX51_member_19
  · have hw := hw.2 (z_neq (rfl : r_1.toInt = _) (rfl : (0 : Int32).toInt = 0) c_2)
    refine lv_iload_n hx hb dX51_member_9 rfl (lv_at hl 2 rfl) ?_
    refine lv_bipush (v := 8) hx hb dX51_member_10 (by decide) ?_
    refine k_i0 hH (k_runS (As := [.int x2, .int 8]) (rest := []) X hH.1 hH.2.1 X.2.2.2 (walkX51_in hc (x0 := x2) (x1 := 8) (f_groups := f_groups) (f_kinds := f_kinds) (f_as := f_as) (f_bs := f_bs) (f_cs := f_cs) (f_conditions := f_conditions) (f_ranks := f_ranks) (f_denies := f_denies) (f_wants := f_wants) (f_rules := f_rules) (f_holds := f_holds) hw) (va_cwS 2 X.1.2.2.2.2 gX51_38 rfl rfl rfl hX51_in ⟨Nat.le_of_ble_eq_true rfl, Nat.le_of_ble_eq_true rfl⟩) rfl hl.1 rfl (Nat.le_of_ble_eq_true rfl) dX51_member_12 ⟨Nat.le_refl 0, Nat.le_refl 0⟩) (fun r_3 _ H locs hw hH => ?_)
    have hH : kH (dC, dI) cl A s.heap H locs (wX51 ci ad d f_groups f_kinds f_as f_bs f_cs f_conditions f_ranks f_denies f_wants f_rules f_holds) := hH
    refine lv_if_ne (tgt := 20) hx hb dX51_member_15 (by decide) (fun c_4 => ?_) (fun c_4 => ?_)
    · have hw := hw.2 (z_ne (rfl : r_3.toInt = _) (rfl : (0 : Int32).toInt = 0) c_4)
      refine lv_aload_n hx hb dX51_member_20 rfl (lv_at hl 0 rfl) ?_
      refine k_get X hH in_X51 0 rfl hc 0 (by decide) q6342 rfl dX51_member_21 ?_
      refine lv_iload_n hx hb dX51_member_24 rfl (lv_at hl 1 rfl) ?_
      have hq_5 := hw.1
      have hw := hw.2
      refine k_iald X hH 1 0 rfl rfl (z_in (rfl : x1.toInt = _) hq_5) dX51_member_25 ?_
      have e_6 := z_ld (f := f_groups) (rfl : x1.toInt = _) hq_5.1
      refine lv_iload_n hx hb dX51_member_26 rfl (lv_at hl 2 rfl) ?_
      refine lv_ishr hx hb dX51_member_27 ?_
      have hq_7 := hw.1
      have hw := hw.2
      have e_8 := z_shrV e_6 (rfl : x2.toInt = _) hq_7
      refine lv_iconst (v := 1) hx hb dX51_member_28 (by decide) ?_
      refine lv_iand hx hb dX51_member_29 ?_
      have e_9 := z_mask (z_m e_8) (k := 1) (m := 1) (c := 2) (by decide)
      refine lv_iconst (v := 1) hx hb dX51_member_30 (by decide) ?_
      refine lv_icmp_ne (tgt := 38) hx hb dX51_member_31 (by decide) (fun c_10 => ?_) (fun c_10 => ?_)
      · have hw := hw.2 (z_ne e_9 (rfl : (1 : Int32).toInt = 1) c_10)
        refine lv_iconst (v := 0) hx hb dX51_member_38 (by decide) ?_
        exact atX51_member_39 hc X x1 x2 x3 0 f_groups hw _ _ ls hH (lv_sub hl [0, 1, 2, 3] rfl)
      · have hw := hw.1 (z_eq e_9 (rfl : (1 : Int32).toInt = 1) c_10)
        refine lv_iconst (v := 1) hx hb dX51_member_34 (by decide) ?_
        refine lv_goto (tgt := 39) hx hb dX51_member_35 (by decide) ?_
        exact atX51_member_39 hc X x1 x2 x3 1 f_groups hw _ _ ls hH (lv_sub hl [0, 1, 2, 3] rfl)
    · have hw := hw.1 (z_eq (rfl : r_3.toInt = _) (rfl : (0 : Int32).toInt = 0) c_4)
      refine lv_iconst (v := (-1)) hx hb dX51_member_18 (by decide) ?_
      exact k_iret (v := (-1)) X hH (f_groups) hw rfl rfl dX51_member_19
set_option maxHeartbeats 4000000 in
theorem atX51_fits_118 {p : Program} {l : Launch} {e : Env} {s : State} {m : MethodId} {args : Array Value} {below : List Frame} {meth : Method} {c : Code} {dC : Nat → ClassId} {dI : Nat → Nat → Nat} {cl : List vw_C} {ci : Nat} (hc : cl[ci]? = some (RX51, TX51, 11)) {ad : Nat → Nat} {d : Nat → ClassId} {A : Nat → Prop} {post : Int → Prop} {f_groups : Nat → Int32} {f_kinds : Nat → Int32} {f_as : Nat → Int32} {f_bs : Nat → Int32} {f_cs : Nat → Int32} {f_conditions : Int32} {f_ranks : Nat → Int32} {f_denies : Nat → Int32} {f_wants : Nat → Int32} {f_rules : Int32} {f_holds : Nat → Int32} (X : kX p s m args meth c cX51_fits 5 RX51 (some .boolean) (dC, dI) cl (tX51 d))     :
    ∀ (x2 : Int32) (x3 : Int32), wX51_fits_118 post x2.toInt x3.toInt f_conditions.toInt → ∀ (H : Heap) (locs : List Loc) (ls : Array Slot), kH (dC, dI) cl A s.heap H locs (wX51 ci ad d f_groups f_kinds f_as f_bs f_cs f_conditions f_ranks f_denies f_wants f_rules f_holds) → lv_has ls 5 [(0, .ref (ad 0)), (2, .int x2), (3, .int x3)] → W p l e ({ frames := 1, cells := 0, slots := 0, locals := 21 } : Room) s m args below meth c H locs 0 0 (MQ below (va_Qi (fun (r : Int32) (_ : Unit) => post r.toInt) (kB (dC, dI) cl (tX51 d) A (fun _ : Unit => (wX51 ci ad d f_groups f_kinds f_as f_bs f_cs f_conditions f_ranks f_denies f_wants f_rules f_holds))) A) args s 0 0 A) (F0 m 118 ls []) := by
  have hx := X.1.1
  have hb := X.1.2.1
  intro x2 x3 hw H locs ls hH hl
  unfold wX51_fits_118 at hw
  refine lv_iload_n hx hb dX51_fits_118 rfl (lv_at hl 1 rfl) ?_
  refine lv_aload_n hx hb dX51_fits_119 rfl (lv_at hl 0 rfl) ?_
  refine k_get X hH in_X51 0 rfl hc 5 (by decide) q6347 rfl dX51_fits_120 ?_
  refine k_i0 hH (k_runS (As := [.int x2, .int f_conditions]) (rest := []) X hH.1 hH.2.1 X.2.2.2 (walkX51_in hc (x0 := x2) (x1 := f_conditions) (f_groups := f_groups) (f_kinds := f_kinds) (f_as := f_as) (f_bs := f_bs) (f_cs := f_cs) (f_conditions := f_conditions) (f_ranks := f_ranks) (f_denies := f_denies) (f_wants := f_wants) (f_rules := f_rules) (f_holds := f_holds) hw) (va_cwS 2 X.1.2.2.2.2 gX51_38 rfl rfl rfl hX51_in ⟨Nat.le_of_ble_eq_true rfl, Nat.le_of_ble_eq_true rfl⟩) rfl hl.1 rfl (Nat.le_of_ble_eq_true rfl) dX51_fits_123 ⟨Nat.le_refl 0, Nat.le_refl 0⟩) (fun r_26 _ H locs hw hH => ?_)
  have hH : kH (dC, dI) cl A s.heap H locs (wX51 ci ad d f_groups f_kinds f_as f_bs f_cs f_conditions f_ranks f_denies f_wants f_rules f_holds) := hH
  refine lv_if_eq (tgt := 144) hx hb dX51_fits_126 (by decide) (fun c_27 => ?_) (fun c_27 => ?_)
  · have hw := hw.1 (z_eq (rfl : r_26.toInt = _) (rfl : (0 : Int32).toInt = 0) c_27)
    refine lv_iconst (v := 0) hx hb dX51_fits_144 (by decide) ?_
    exact k_iret (v := 0) X hH () hw rfl rfl dX51_fits_145
  · have hw := hw.2 (z_neq (rfl : r_26.toInt = _) (rfl : (0 : Int32).toInt = 0) c_27)
    refine lv_iload_n hx hb dX51_fits_129 rfl (lv_at hl 2 rfl) ?_
    refine lv_aload_n hx hb dX51_fits_130 rfl (lv_at hl 0 rfl) ?_
    refine k_get X hH in_X51 0 rfl hc 5 (by decide) q6347 rfl dX51_fits_131 ?_
    refine k_i0 hH (k_runS (As := [.int x3, .int f_conditions]) (rest := []) X hH.1 hH.2.1 X.2.2.2 (walkX51_in hc (x0 := x3) (x1 := f_conditions) (f_groups := f_groups) (f_kinds := f_kinds) (f_as := f_as) (f_bs := f_bs) (f_cs := f_cs) (f_conditions := f_conditions) (f_ranks := f_ranks) (f_denies := f_denies) (f_wants := f_wants) (f_rules := f_rules) (f_holds := f_holds) hw) (va_cwS 2 X.1.2.2.2.2 gX51_38 rfl rfl rfl hX51_in ⟨Nat.le_of_ble_eq_true rfl, Nat.le_of_ble_eq_true rfl⟩) rfl hl.1 rfl (Nat.le_of_ble_eq_true rfl) dX51_fits_134 ⟨Nat.le_refl 0, Nat.le_refl 0⟩) (fun r_28 _ H locs hw hH => ?_)
    have hH : kH (dC, dI) cl A s.heap H locs (wX51 ci ad d f_groups f_kinds f_as f_bs f_cs f_conditions f_ranks f_denies f_wants f_rules f_holds) := hH
    refine lv_if_eq (tgt := 144) hx hb dX51_fits_137 (by decide) (fun c_29 => ?_) (fun c_29 => ?_)
    · have hw := hw.1 (z_eq (rfl : r_28.toInt = _) (rfl : (0 : Int32).toInt = 0) c_29)
      refine lv_iconst (v := 0) hx hb dX51_fits_144 (by decide) ?_
      exact k_iret (v := 0) X hH () hw rfl rfl dX51_fits_145
    · have hw := hw.2 (z_neq (rfl : r_28.toInt = _) (rfl : (0 : Int32).toInt = 0) c_29)
      refine lv_iconst (v := 1) hx hb dX51_fits_140 (by decide) ?_
      refine lv_goto (tgt := 145) hx hb dX51_fits_141 (by decide) ?_
      exact k_iret (v := 1) X hH () hw rfl rfl dX51_fits_145
set_option maxHeartbeats 4000000 in
theorem walkX51_fits {l : Launch} {dC : Nat → ClassId} {dI : Nat → Nat → Nat} {cl : List vw_C} {ci : Nat} (hc : cl[ci]? = some (RX51, TX51, 11)) {ad : Nat → Nat} {d : Nat → ClassId} {sz : Nat} {f_groups : Nat → Int32} {f_kinds : Nat → Int32} {f_as : Nat → Int32} {f_bs : Nat → Int32} {f_cs : Nat → Int32} {f_conditions : Int32} {f_ranks : Nat → Int32} {f_denies : Nat → Int32} {f_wants : Nat → Int32} {f_rules : Int32} {f_holds : Nat → Int32} {x1 : Int32} {x2 : Int32} {x3 : Int32} {x4 : Int32} {post : Int → Prop} (hw : wpX51_fits post f_conditions.toInt x1.toInt x2.toInt x3.toInt x4.toInt) :
    Met l yX51_fits (ws_ yX51_fits cX51_fits 5 (some .boolean)) ({ frames := 1, cells := 0, slots := 0, locals := 21 } : Room) (kPc (dC, dI) cl (tX51 d) [.ref (ad 0), .int x1, .int x2, .int x3, .int x4] sz (wX51 ci ad d f_groups f_kinds f_as f_bs f_cs f_conditions f_ranks f_denies f_wants f_rules f_holds)) (va_Qi (fun (r : Int32) (_ : Unit) => post r.toInt) (kB (dC, dI) cl (tX51 d) (va_A (wX51 ci ad d f_groups f_kinds f_as f_bs f_cs f_conditions f_ranks f_denies f_wants f_rules f_holds) sz) (fun _ : Unit => (wX51 ci ad d f_groups f_kinds f_as f_bs f_cs f_conditions f_ranks f_denies f_wants f_rules f_holds))) (va_A (wX51 ci ad d f_groups f_kinds f_as f_bs f_cs f_conditions f_ranks f_denies f_wants f_rules f_holds) sz)) 0 0 (va_A (wX51 ci ad d f_groups f_kinds f_as f_bs f_cs f_conditions f_ranks f_denies f_wants f_rules f_holds) sz) := by
  refine k_enter (by decide) (Nat.le_of_ble_eq_true rfl) ?_
  intro p e s m below meth c ls X hsz hH hl
  subst hsz
  generalize va_A (wX51 ci ad d f_groups f_kinds f_as f_bs f_cs f_conditions f_ranks f_denies f_wants f_rules f_holds) s.heap.size = A at hH ⊢
  have hx := X.1.1
  have hb := X.1.2.1
  have hl : lv_has ls 5 [(0, .ref (ad 0)), (1, .int x1), (2, .int x2), (3, .int x3), (4, .int x4)] := hl
  unfold wpX51_fits at hw
  refine lv_iload_n hx hb dX51_fits_0 rfl (lv_at hl 1 rfl) ?_
  by_cases c_1 : x1 = 0
  · have hw := hw.1 (z_eq (rfl : x1.toInt = _) (rfl : (0 : Int32).toInt = 0) c_1)
    refine lv_tableIn (off := 59) (tgt := 60) hx hb dX51_fits_1 (by rw [c_1]; decide) (by rw [c_1]; decide) (by rw [c_1]; rfl) (by decide) ?_
    refine lv_iload_n hx hb dX51_fits_60 rfl (lv_at hl 2 rfl) ?_
    refine lv_bipush (v := 8) hx hb dX51_fits_61 (by decide) ?_
    refine k_i0 hH (k_runS (As := [.int x2, .int 8]) (rest := []) X hH.1 hH.2.1 X.2.2.2 (walkX51_in hc (x0 := x2) (x1 := 8) (f_groups := f_groups) (f_kinds := f_kinds) (f_as := f_as) (f_bs := f_bs) (f_cs := f_cs) (f_conditions := f_conditions) (f_ranks := f_ranks) (f_denies := f_denies) (f_wants := f_wants) (f_rules := f_rules) (f_holds := f_holds) hw) (va_cwS 2 X.1.2.2.2.2 gX51_38 rfl rfl rfl hX51_in ⟨Nat.le_of_ble_eq_true rfl, Nat.le_of_ble_eq_true rfl⟩) rfl hl.1 rfl (Nat.le_of_ble_eq_true rfl) dX51_fits_63 ⟨Nat.le_refl 0, Nat.le_refl 0⟩) (fun r_2 _ H locs hw hH => ?_)
    have hH : kH (dC, dI) cl A s.heap H locs (wX51 ci ad d f_groups f_kinds f_as f_bs f_cs f_conditions f_ranks f_denies f_wants f_rules f_holds) := hH
    have hq_3 := hw.1
    have hw := hw.2
    exact k_iret (v := r_2) X hH () hw rfl (k_zn (z_boolE (rfl : r_2.toInt = _) hq_3)) dX51_fits_66
  · have hw := hw.2 (z_ne (rfl : x1.toInt = _) (rfl : (0 : Int32).toInt = 0) c_1)
    by_cases c_4 : x1 = 1
    · have hw := hw.1 (z_eq (rfl : x1.toInt = _) (rfl : (1 : Int32).toInt = 1) c_4)
      refine lv_tableIn (off := 59) (tgt := 60) hx hb dX51_fits_1 (by rw [c_4]; decide) (by rw [c_4]; decide) (by rw [c_4]; rfl) (by decide) ?_
      refine lv_iload_n hx hb dX51_fits_60 rfl (lv_at hl 2 rfl) ?_
      refine lv_bipush (v := 8) hx hb dX51_fits_61 (by decide) ?_
      refine k_i0 hH (k_runS (As := [.int x2, .int 8]) (rest := []) X hH.1 hH.2.1 X.2.2.2 (walkX51_in hc (x0 := x2) (x1 := 8) (f_groups := f_groups) (f_kinds := f_kinds) (f_as := f_as) (f_bs := f_bs) (f_cs := f_cs) (f_conditions := f_conditions) (f_ranks := f_ranks) (f_denies := f_denies) (f_wants := f_wants) (f_rules := f_rules) (f_holds := f_holds) hw) (va_cwS 2 X.1.2.2.2.2 gX51_38 rfl rfl rfl hX51_in ⟨Nat.le_of_ble_eq_true rfl, Nat.le_of_ble_eq_true rfl⟩) rfl hl.1 rfl (Nat.le_of_ble_eq_true rfl) dX51_fits_63 ⟨Nat.le_refl 0, Nat.le_refl 0⟩) (fun r_5 _ H locs hw hH => ?_)
      have hH : kH (dC, dI) cl A s.heap H locs (wX51 ci ad d f_groups f_kinds f_as f_bs f_cs f_conditions f_ranks f_denies f_wants f_rules f_holds) := hH
      have hq_6 := hw.1
      have hw := hw.2
      exact k_iret (v := r_5) X hH () hw rfl (k_zn (z_boolE (rfl : r_5.toInt = _) hq_6)) dX51_fits_66
    · have hw := hw.2 (z_ne (rfl : x1.toInt = _) (rfl : (1 : Int32).toInt = 1) c_4)
      by_cases c_7 : x1 = 2
      · have hw := hw.1 (z_eq (rfl : x1.toInt = _) (rfl : (2 : Int32).toInt = 2) c_7)
        refine lv_tableIn (off := 66) (tgt := 67) hx hb dX51_fits_1 (by rw [c_7]; decide) (by rw [c_7]; decide) (by rw [c_7]; rfl) (by decide) ?_
        refine lv_iload_n hx hb dX51_fits_67 rfl (lv_at hl 2 rfl) ?_
        refine lv_iconst (v := 4) hx hb dX51_fits_68 (by decide) ?_
        refine k_i0 hH (k_runS (As := [.int x2, .int 4]) (rest := []) X hH.1 hH.2.1 X.2.2.2 (walkX51_in hc (x0 := x2) (x1 := 4) (f_groups := f_groups) (f_kinds := f_kinds) (f_as := f_as) (f_bs := f_bs) (f_cs := f_cs) (f_conditions := f_conditions) (f_ranks := f_ranks) (f_denies := f_denies) (f_wants := f_wants) (f_rules := f_rules) (f_holds := f_holds) hw) (va_cwS 2 X.1.2.2.2.2 gX51_38 rfl rfl rfl hX51_in ⟨Nat.le_of_ble_eq_true rfl, Nat.le_of_ble_eq_true rfl⟩) rfl hl.1 rfl (Nat.le_of_ble_eq_true rfl) dX51_fits_69 ⟨Nat.le_refl 0, Nat.le_refl 0⟩) (fun r_8 _ H locs hw hH => ?_)
        have hH : kH (dC, dI) cl A s.heap H locs (wX51 ci ad d f_groups f_kinds f_as f_bs f_cs f_conditions f_ranks f_denies f_wants f_rules f_holds) := hH
        have hq_9 := hw.1
        have hw := hw.2
        exact k_iret (v := r_8) X hH () hw rfl (k_zn (z_boolE (rfl : r_8.toInt = _) hq_9)) dX51_fits_72
      · have hw := hw.2 (z_ne (rfl : x1.toInt = _) (rfl : (2 : Int32).toInt = 2) c_7)
        by_cases c_10 : x1 = 3
        · have hw := hw.1 (z_eq (rfl : x1.toInt = _) (rfl : (3 : Int32).toInt = 3) c_10)
          refine lv_tableIn (off := 72) (tgt := 73) hx hb dX51_fits_1 (by rw [c_10]; decide) (by rw [c_10]; decide) (by rw [c_10]; rfl) (by decide) ?_
          refine lv_iload_n hx hb dX51_fits_73 rfl (lv_at hl 2 rfl) ?_
          refine lv_bipush (v := 6) hx hb dX51_fits_74 (by decide) ?_
          refine k_i0 hH (k_runS (As := [.int x2, .int 6]) (rest := []) X hH.1 hH.2.1 X.2.2.2 (walkX51_in hc (x0 := x2) (x1 := 6) (f_groups := f_groups) (f_kinds := f_kinds) (f_as := f_as) (f_bs := f_bs) (f_cs := f_cs) (f_conditions := f_conditions) (f_ranks := f_ranks) (f_denies := f_denies) (f_wants := f_wants) (f_rules := f_rules) (f_holds := f_holds) hw) (va_cwS 2 X.1.2.2.2.2 gX51_38 rfl rfl rfl hX51_in ⟨Nat.le_of_ble_eq_true rfl, Nat.le_of_ble_eq_true rfl⟩) rfl hl.1 rfl (Nat.le_of_ble_eq_true rfl) dX51_fits_76 ⟨Nat.le_refl 0, Nat.le_refl 0⟩) (fun r_11 _ H locs hw hH => ?_)
          have hH : kH (dC, dI) cl A s.heap H locs (wX51 ci ad d f_groups f_kinds f_as f_bs f_cs f_conditions f_ranks f_denies f_wants f_rules f_holds) := hH
          have hq_12 := hw.1
          have hw := hw.2
          exact k_iret (v := r_11) X hH () hw rfl (k_zn (z_boolE (rfl : r_11.toInt = _) hq_12)) dX51_fits_79
        · have hw := hw.2 (z_ne (rfl : x1.toInt = _) (rfl : (3 : Int32).toInt = 3) c_10)
          by_cases c_13 : x1 = 4
          · have hw := hw.1 (z_eq (rfl : x1.toInt = _) (rfl : (4 : Int32).toInt = 4) c_13)
            refine lv_tableIn (off := 66) (tgt := 67) hx hb dX51_fits_1 (by rw [c_13]; decide) (by rw [c_13]; decide) (by rw [c_13]; rfl) (by decide) ?_
            refine lv_iload_n hx hb dX51_fits_67 rfl (lv_at hl 2 rfl) ?_
            refine lv_iconst (v := 4) hx hb dX51_fits_68 (by decide) ?_
            refine k_i0 hH (k_runS (As := [.int x2, .int 4]) (rest := []) X hH.1 hH.2.1 X.2.2.2 (walkX51_in hc (x0 := x2) (x1 := 4) (f_groups := f_groups) (f_kinds := f_kinds) (f_as := f_as) (f_bs := f_bs) (f_cs := f_cs) (f_conditions := f_conditions) (f_ranks := f_ranks) (f_denies := f_denies) (f_wants := f_wants) (f_rules := f_rules) (f_holds := f_holds) hw) (va_cwS 2 X.1.2.2.2.2 gX51_38 rfl rfl rfl hX51_in ⟨Nat.le_of_ble_eq_true rfl, Nat.le_of_ble_eq_true rfl⟩) rfl hl.1 rfl (Nat.le_of_ble_eq_true rfl) dX51_fits_69 ⟨Nat.le_refl 0, Nat.le_refl 0⟩) (fun r_14 _ H locs hw hH => ?_)
            have hH : kH (dC, dI) cl A s.heap H locs (wX51 ci ad d f_groups f_kinds f_as f_bs f_cs f_conditions f_ranks f_denies f_wants f_rules f_holds) := hH
            have hq_15 := hw.1
            have hw := hw.2
            exact k_iret (v := r_14) X hH () hw rfl (k_zn (z_boolE (rfl : r_14.toInt = _) hq_15)) dX51_fits_72
          · have hw := hw.2 (z_ne (rfl : x1.toInt = _) (rfl : (4 : Int32).toInt = 4) c_13)
            by_cases c_16 : x1 = 5
            · have hw := hw.1 (z_eq (rfl : x1.toInt = _) (rfl : (5 : Int32).toInt = 5) c_16)
              refine lv_tableIn (off := 79) (tgt := 80) hx hb dX51_fits_1 (by rw [c_16]; decide) (by rw [c_16]; decide) (by rw [c_16]; rfl) (by decide) ?_
              refine lv_iload_n hx hb dX51_fits_80 rfl (lv_at hl 2 rfl) ?_
              refine lv_bipush (v := 8) hx hb dX51_fits_81 (by decide) ?_
              refine k_i0 hH (k_runS (As := [.int x2, .int 8]) (rest := []) X hH.1 hH.2.1 X.2.2.2 (walkX51_in hc (x0 := x2) (x1 := 8) (f_groups := f_groups) (f_kinds := f_kinds) (f_as := f_as) (f_bs := f_bs) (f_cs := f_cs) (f_conditions := f_conditions) (f_ranks := f_ranks) (f_denies := f_denies) (f_wants := f_wants) (f_rules := f_rules) (f_holds := f_holds) hw) (va_cwS 2 X.1.2.2.2.2 gX51_38 rfl rfl rfl hX51_in ⟨Nat.le_of_ble_eq_true rfl, Nat.le_of_ble_eq_true rfl⟩) rfl hl.1 rfl (Nat.le_of_ble_eq_true rfl) dX51_fits_83 ⟨Nat.le_refl 0, Nat.le_refl 0⟩) (fun r_17 _ H locs hw hH => ?_)
              have hH : kH (dC, dI) cl A s.heap H locs (wX51 ci ad d f_groups f_kinds f_as f_bs f_cs f_conditions f_ranks f_denies f_wants f_rules f_holds) := hH
              refine lv_if_eq (tgt := 107) hx hb dX51_fits_86 (by decide) (fun c_18 => ?_) (fun c_18 => ?_)
              · have hw := hw.1 (z_eq (rfl : r_17.toInt = _) (rfl : (0 : Int32).toInt = 0) c_18)
                refine lv_iconst (v := 0) hx hb dX51_fits_107 (by decide) ?_
                exact k_iret (v := 0) X hH () hw rfl rfl dX51_fits_108
              · have hw := hw.2 (z_neq (rfl : r_17.toInt = _) (rfl : (0 : Int32).toInt = 0) c_18)
                refine lv_iload_n hx hb dX51_fits_89 rfl (lv_at hl 3 rfl) ?_
                refine lv_bipush (v := 8) hx hb dX51_fits_90 (by decide) ?_
                refine k_i0 hH (k_runS (As := [.int x3, .int 8]) (rest := []) X hH.1 hH.2.1 X.2.2.2 (walkX51_in hc (x0 := x3) (x1 := 8) (f_groups := f_groups) (f_kinds := f_kinds) (f_as := f_as) (f_bs := f_bs) (f_cs := f_cs) (f_conditions := f_conditions) (f_ranks := f_ranks) (f_denies := f_denies) (f_wants := f_wants) (f_rules := f_rules) (f_holds := f_holds) hw) (va_cwS 2 X.1.2.2.2.2 gX51_38 rfl rfl rfl hX51_in ⟨Nat.le_of_ble_eq_true rfl, Nat.le_of_ble_eq_true rfl⟩) rfl hl.1 rfl (Nat.le_of_ble_eq_true rfl) dX51_fits_92 ⟨Nat.le_refl 0, Nat.le_refl 0⟩) (fun r_19 _ H locs hw hH => ?_)
                have hH : kH (dC, dI) cl A s.heap H locs (wX51 ci ad d f_groups f_kinds f_as f_bs f_cs f_conditions f_ranks f_denies f_wants f_rules f_holds) := hH
                refine lv_if_eq (tgt := 107) hx hb dX51_fits_95 (by decide) (fun c_20 => ?_) (fun c_20 => ?_)
                · have hw := hw.1 (z_eq (rfl : r_19.toInt = _) (rfl : (0 : Int32).toInt = 0) c_20)
                  refine lv_iconst (v := 0) hx hb dX51_fits_107 (by decide) ?_
                  exact k_iret (v := 0) X hH () hw rfl rfl dX51_fits_108
                · have hw := hw.2 (z_neq (rfl : r_19.toInt = _) (rfl : (0 : Int32).toInt = 0) c_20)
                  refine lv_iload_n hx hb dX51_fits_98 rfl (lv_at hl 2 rfl) ?_
                  refine lv_iload_n hx hb dX51_fits_99 rfl (lv_at hl 3 rfl) ?_
                  refine lv_icmp_gt (tgt := 107) hx hb dX51_fits_100 (by decide) (fun c_21 => ?_) (fun c_21 => ?_)
                  · have hw := hw.1 (z_lt (rfl : x3.toInt = _) (rfl : x2.toInt = _) c_21)
                    refine lv_iconst (v := 0) hx hb dX51_fits_107 (by decide) ?_
                    exact k_iret (v := 0) X hH () hw rfl rfl dX51_fits_108
                  · have hw := hw.2 (z_nlt (rfl : x3.toInt = _) (rfl : x2.toInt = _) c_21)
                    refine lv_iconst (v := 1) hx hb dX51_fits_103 (by decide) ?_
                    refine lv_goto (tgt := 108) hx hb dX51_fits_104 (by decide) ?_
                    exact k_iret (v := 1) X hH () hw rfl rfl dX51_fits_108
            · have hw := hw.2 (z_ne (rfl : x1.toInt = _) (rfl : (5 : Int32).toInt = 5) c_16)
              by_cases c_22 : x1 = 6
              · have hw := hw.1 (z_eq (rfl : x1.toInt = _) (rfl : (6 : Int32).toInt = 6) c_22)
                refine lv_tableIn (off := 108) (tgt := 109) hx hb dX51_fits_1 (by rw [c_22]; decide) (by rw [c_22]; decide) (by rw [c_22]; rfl) (by decide) ?_
                refine lv_iload_n hx hb dX51_fits_109 rfl (lv_at hl 2 rfl) ?_
                refine lv_aload_n hx hb dX51_fits_110 rfl (lv_at hl 0 rfl) ?_
                refine k_get X hH in_X51 0 rfl hc 5 (by decide) q6347 rfl dX51_fits_111 ?_
                refine k_i0 hH (k_runS (As := [.int x2, .int f_conditions]) (rest := []) X hH.1 hH.2.1 X.2.2.2 (walkX51_in hc (x0 := x2) (x1 := f_conditions) (f_groups := f_groups) (f_kinds := f_kinds) (f_as := f_as) (f_bs := f_bs) (f_cs := f_cs) (f_conditions := f_conditions) (f_ranks := f_ranks) (f_denies := f_denies) (f_wants := f_wants) (f_rules := f_rules) (f_holds := f_holds) hw) (va_cwS 2 X.1.2.2.2.2 gX51_38 rfl rfl rfl hX51_in ⟨Nat.le_of_ble_eq_true rfl, Nat.le_of_ble_eq_true rfl⟩) rfl hl.1 rfl (Nat.le_of_ble_eq_true rfl) dX51_fits_114 ⟨Nat.le_refl 0, Nat.le_refl 0⟩) (fun r_23 _ H locs hw hH => ?_)
                have hH : kH (dC, dI) cl A s.heap H locs (wX51 ci ad d f_groups f_kinds f_as f_bs f_cs f_conditions f_ranks f_denies f_wants f_rules f_holds) := hH
                have hq_24 := hw.1
                have hw := hw.2
                exact k_iret (v := r_23) X hH () hw rfl (k_zn (z_boolE (rfl : r_23.toInt = _) hq_24)) dX51_fits_117
              · have hw := hw.2 (z_ne (rfl : x1.toInt = _) (rfl : (6 : Int32).toInt = 6) c_22)
                by_cases c_25 : x1 = 7
                · have hw := hw.1 (z_eq (rfl : x1.toInt = _) (rfl : (7 : Int32).toInt = 7) c_25)
                  refine lv_tableIn (off := 117) (tgt := 118) hx hb dX51_fits_1 (by rw [c_25]; decide) (by rw [c_25]; decide) (by rw [c_25]; rfl) (by decide) ?_
                  exact atX51_fits_118 hc X x2 x3 hw _ _ ls hH (lv_sub hl [0, 2, 3] rfl)
                · have hw := hw.2 (z_ne (rfl : x1.toInt = _) (rfl : (7 : Int32).toInt = 7) c_25)
                  by_cases c_30 : x1 = 8
                  · have hw := hw.1 (z_eq (rfl : x1.toInt = _) (rfl : (8 : Int32).toInt = 8) c_30)
                    refine lv_tableIn (off := 117) (tgt := 118) hx hb dX51_fits_1 (by rw [c_30]; decide) (by rw [c_30]; decide) (by rw [c_30]; rfl) (by decide) ?_
                    exact atX51_fits_118 hc X x2 x3 hw _ _ ls hH (lv_sub hl [0, 2, 3] rfl)
                  · have hw := hw.2 (z_ne (rfl : x1.toInt = _) (rfl : (8 : Int32).toInt = 8) c_30)
                    by_cases c_31 : x1 = 9
                    · have hw := hw.1 (z_eq (rfl : x1.toInt = _) (rfl : (9 : Int32).toInt = 9) c_31)
                      refine lv_tableIn (off := 145) (tgt := 146) hx hb dX51_fits_1 (by rw [c_31]; decide) (by rw [c_31]; decide) (by rw [c_31]; rfl) (by decide) ?_
                      refine lv_iconst (v := 1) hx hb dX51_fits_146 (by decide) ?_
                      exact k_iret (v := 1) X hH () hw rfl rfl dX51_fits_147
                    · have hw := hw.2 (z_ne (rfl : x1.toInt = _) (rfl : (9 : Int32).toInt = 9) c_31)
                      by_cases c_32 : x1 = 10
                      · have hw := hw.1 (z_eq (rfl : x1.toInt = _) (rfl : (10 : Int32).toInt = 10) c_32)
                        refine lv_tableIn (off := 147) (tgt := 148) hx hb dX51_fits_1 (by rw [c_32]; decide) (by rw [c_32]; decide) (by rw [c_32]; rfl) (by decide) ?_
                        refine lv_iload_n hx hb dX51_fits_148 rfl (lv_at hl 2 rfl) ?_
                        refine lv_aload_n hx hb dX51_fits_149 rfl (lv_at hl 0 rfl) ?_
                        refine k_get X hH in_X51 0 rfl hc 5 (by decide) q6347 rfl dX51_fits_150 ?_
                        refine k_i0 hH (k_runS (As := [.int x2, .int f_conditions]) (rest := []) X hH.1 hH.2.1 X.2.2.2 (walkX51_in hc (x0 := x2) (x1 := f_conditions) (f_groups := f_groups) (f_kinds := f_kinds) (f_as := f_as) (f_bs := f_bs) (f_cs := f_cs) (f_conditions := f_conditions) (f_ranks := f_ranks) (f_denies := f_denies) (f_wants := f_wants) (f_rules := f_rules) (f_holds := f_holds) hw) (va_cwS 2 X.1.2.2.2.2 gX51_38 rfl rfl rfl hX51_in ⟨Nat.le_of_ble_eq_true rfl, Nat.le_of_ble_eq_true rfl⟩) rfl hl.1 rfl (Nat.le_of_ble_eq_true rfl) dX51_fits_153 ⟨Nat.le_refl 0, Nat.le_refl 0⟩) (fun r_33 _ H locs hw hH => ?_)
                        have hH : kH (dC, dI) cl A s.heap H locs (wX51 ci ad d f_groups f_kinds f_as f_bs f_cs f_conditions f_ranks f_denies f_wants f_rules f_holds) := hH
                        refine lv_if_eq (tgt := 186) hx hb dX51_fits_156 (by decide) (fun c_34 => ?_) (fun c_34 => ?_)
                        · have hw := hw.1 (z_eq (rfl : r_33.toInt = _) (rfl : (0 : Int32).toInt = 0) c_34)
                          refine lv_iconst (v := 0) hx hb dX51_fits_186 (by decide) ?_
                          exact k_iret (v := 0) X hH () hw rfl rfl dX51_fits_187
                        · have hw := hw.2 (z_neq (rfl : r_33.toInt = _) (rfl : (0 : Int32).toInt = 0) c_34)
                          refine lv_iload_n hx hb dX51_fits_159 rfl (lv_at hl 3 rfl) ?_
                          refine lv_aload_n hx hb dX51_fits_160 rfl (lv_at hl 0 rfl) ?_
                          refine k_get X hH in_X51 0 rfl hc 5 (by decide) q6347 rfl dX51_fits_161 ?_
                          refine k_i0 hH (k_runS (As := [.int x3, .int f_conditions]) (rest := []) X hH.1 hH.2.1 X.2.2.2 (walkX51_in hc (x0 := x3) (x1 := f_conditions) (f_groups := f_groups) (f_kinds := f_kinds) (f_as := f_as) (f_bs := f_bs) (f_cs := f_cs) (f_conditions := f_conditions) (f_ranks := f_ranks) (f_denies := f_denies) (f_wants := f_wants) (f_rules := f_rules) (f_holds := f_holds) hw) (va_cwS 2 X.1.2.2.2.2 gX51_38 rfl rfl rfl hX51_in ⟨Nat.le_of_ble_eq_true rfl, Nat.le_of_ble_eq_true rfl⟩) rfl hl.1 rfl (Nat.le_of_ble_eq_true rfl) dX51_fits_164 ⟨Nat.le_refl 0, Nat.le_refl 0⟩) (fun r_35 _ H locs hw hH => ?_)
                          have hH : kH (dC, dI) cl A s.heap H locs (wX51 ci ad d f_groups f_kinds f_as f_bs f_cs f_conditions f_ranks f_denies f_wants f_rules f_holds) := hH
                          refine lv_if_eq (tgt := 186) hx hb dX51_fits_167 (by decide) (fun c_36 => ?_) (fun c_36 => ?_)
                          · have hw := hw.1 (z_eq (rfl : r_35.toInt = _) (rfl : (0 : Int32).toInt = 0) c_36)
                            refine lv_iconst (v := 0) hx hb dX51_fits_186 (by decide) ?_
                            exact k_iret (v := 0) X hH () hw rfl rfl dX51_fits_187
                          · have hw := hw.2 (z_neq (rfl : r_35.toInt = _) (rfl : (0 : Int32).toInt = 0) c_36)
                            refine lv_iload hx hb dX51_fits_170 (lv_at hl 4 rfl) ?_
                            refine lv_aload_n hx hb dX51_fits_172 rfl (lv_at hl 0 rfl) ?_
                            refine k_get X hH in_X51 0 rfl hc 5 (by decide) q6347 rfl dX51_fits_173 ?_
                            refine k_i0 hH (k_runS (As := [.int x4, .int f_conditions]) (rest := []) X hH.1 hH.2.1 X.2.2.2 (walkX51_in hc (x0 := x4) (x1 := f_conditions) (f_groups := f_groups) (f_kinds := f_kinds) (f_as := f_as) (f_bs := f_bs) (f_cs := f_cs) (f_conditions := f_conditions) (f_ranks := f_ranks) (f_denies := f_denies) (f_wants := f_wants) (f_rules := f_rules) (f_holds := f_holds) hw) (va_cwS 2 X.1.2.2.2.2 gX51_38 rfl rfl rfl hX51_in ⟨Nat.le_of_ble_eq_true rfl, Nat.le_of_ble_eq_true rfl⟩) rfl hl.1 rfl (Nat.le_of_ble_eq_true rfl) dX51_fits_176 ⟨Nat.le_refl 0, Nat.le_refl 0⟩) (fun r_37 _ H locs hw hH => ?_)
                            have hH : kH (dC, dI) cl A s.heap H locs (wX51 ci ad d f_groups f_kinds f_as f_bs f_cs f_conditions f_ranks f_denies f_wants f_rules f_holds) := hH
                            refine lv_if_eq (tgt := 186) hx hb dX51_fits_179 (by decide) (fun c_38 => ?_) (fun c_38 => ?_)
                            · have hw := hw.1 (z_eq (rfl : r_37.toInt = _) (rfl : (0 : Int32).toInt = 0) c_38)
                              refine lv_iconst (v := 0) hx hb dX51_fits_186 (by decide) ?_
                              exact k_iret (v := 0) X hH () hw rfl rfl dX51_fits_187
                            · have hw := hw.2 (z_neq (rfl : r_37.toInt = _) (rfl : (0 : Int32).toInt = 0) c_38)
                              refine lv_iconst (v := 1) hx hb dX51_fits_182 (by decide) ?_
                              refine lv_goto (tgt := 187) hx hb dX51_fits_183 (by decide) ?_
                              exact k_iret (v := 1) X hH () hw rfl rfl dX51_fits_187
                      · have hw := hw.2 (z_ne (rfl : x1.toInt = _) (rfl : (10 : Int32).toInt = 10) c_32)
                        refine lv_tableOut (tgt := 188) hx hb dX51_fits_1 (by have qc_1 := k_ne c_1 (k := 0) rfl; have qc_4 := k_ne c_4 (k := 1) rfl; have qc_7 := k_ne c_7 (k := 2) rfl; have qc_10 := k_ne c_10 (k := 3) rfl; have qc_13 := k_ne c_13 (k := 4) rfl; have qc_16 := k_ne c_16 (k := 5) rfl; have qc_22 := k_ne c_22 (k := 6) rfl; have qc_25 := k_ne c_25 (k := 7) rfl; have qc_30 := k_ne c_30 (k := 8) rfl; have qc_31 := k_ne c_31 (k := 9) rfl; have qc_32 := k_ne c_32 (k := 10) rfl; omega) (by decide) ?_
                        refine lv_iconst (v := 0) hx hb dX51_fits_188 (by decide) ?_
                        exact k_iret (v := 0) X hH () hw rfl rfl dX51_fits_189
set_option maxHeartbeats 4000000 in
theorem walkX51_condition {l : Launch} {dC : Nat → ClassId} {dI : Nat → Nat → Nat} {cl : List vw_C} {ci : Nat} (hc : cl[ci]? = some (RX51, TX51, 11)) {ad : Nat → Nat} {d : Nat → ClassId} {sz : Nat} {f_groups : Nat → Int32} {f_kinds : Nat → Int32} {f_as : Nat → Int32} {f_bs : Nat → Int32} {f_cs : Nat → Int32} {f_conditions : Int32} {f_ranks : Nat → Int32} {f_denies : Nat → Int32} {f_wants : Nat → Int32} {f_rules : Int32} {f_holds : Nat → Int32} {x1 : Int32} {x2 : Int32} {x3 : Int32} {x4 : Int32} {post : Int → (Int → Int) → (Int → Int) → (Int → Int) → (Int → Int) → Int → Prop} (hw : wpX51_condition post (zF f_kinds) (zF f_as) (zF f_bs) (zF f_cs) f_conditions.toInt x1.toInt x2.toInt x3.toInt x4.toInt) :
    Met l yX51_condition (ws_ yX51_condition cX51_condition 5 (some .int)) ({ frames := 2, cells := 0, slots := 0, locals := 45 } : Room) (kPc (dC, dI) cl (tX51 d) [.ref (ad 0), .int x1, .int x2, .int x3, .int x4] sz (wX51 ci ad d f_groups f_kinds f_as f_bs f_cs f_conditions f_ranks f_denies f_wants f_rules f_holds)) (va_Qi (fun (r : Int32) (u : (Nat → Int32) × (Nat → Int32) × (Nat → Int32) × (Nat → Int32) × Int32) => post r.toInt (zF (u.1)) (zF (u.2.1)) (zF (u.2.2.1)) (zF (u.2.2.2.1)) (u.2.2.2.2).toInt) (kB (dC, dI) cl (tX51 d) (va_A (wX51 ci ad d f_groups f_kinds f_as f_bs f_cs f_conditions f_ranks f_denies f_wants f_rules f_holds) sz) (fun u : (Nat → Int32) × (Nat → Int32) × (Nat → Int32) × (Nat → Int32) × Int32 => (wX51 ci ad d f_groups (u.1) (u.2.1) (u.2.2.1) (u.2.2.2.1) (u.2.2.2.2) f_ranks f_denies f_wants f_rules f_holds))) (va_A (wX51 ci ad d f_groups f_kinds f_as f_bs f_cs f_conditions f_ranks f_denies f_wants f_rules f_holds) sz)) 0 0 (va_A (wX51 ci ad d f_groups f_kinds f_as f_bs f_cs f_conditions f_ranks f_denies f_wants f_rules f_holds) sz) := by
  refine k_enter (by decide) (Nat.le_of_ble_eq_true rfl) ?_
  intro p e s m below meth c ls X hsz hH hl
  subst hsz
  generalize va_A (wX51 ci ad d f_groups f_kinds f_as f_bs f_cs f_conditions f_ranks f_denies f_wants f_rules f_holds) s.heap.size = A at hH ⊢
  have hx := X.1.1
  have hb := X.1.2.1
  have hl : lv_has ls 5 [(0, .ref (ad 0)), (1, .int x1), (2, .int x2), (3, .int x3), (4, .int x4)] := hl
  unfold wpX51_condition at hw
  refine lv_aload_n hx hb dX51_condition_0 rfl (lv_at hl 0 rfl) ?_
  refine lv_iload_n hx hb dX51_condition_1 rfl (lv_at hl 1 rfl) ?_
  refine lv_iload_n hx hb dX51_condition_2 rfl (lv_at hl 2 rfl) ?_
  refine lv_iload_n hx hb dX51_condition_3 rfl (lv_at hl 3 rfl) ?_
  refine lv_iload hx hb dX51_condition_4 (lv_at hl 4 rfl) ?_
  refine k_i0 hH (k_runV (As := [.int x1, .int x2, .int x3, .int x4]) (rest := []) X hH.1 hH.2.1 X.2.2.2 (walkX51_fits hc (x1 := x1) (x2 := x2) (x3 := x3) (x4 := x4) (f_groups := f_groups) (f_kinds := f_kinds) (f_as := f_as) (f_bs := f_bs) (f_cs := f_cs) (f_conditions := f_conditions) (f_ranks := f_ranks) (f_denies := f_denies) (f_wants := f_wants) (f_rules := f_rules) (f_holds := f_holds) hw) (cwV 4 X.1.2.2.2.2 gX51_46 rfl rfl rfl hX51_fits ⟨Nat.le_of_ble_eq_true rfl, Nat.le_of_ble_eq_true rfl⟩) hc (q0 := 0) rfl rfl hl.1 rfl (Nat.le_of_ble_eq_true rfl) dX51_condition_6 ⟨Nat.le_refl 0, Nat.le_refl 0⟩) (fun r_1 _ H locs hw hH => ?_)
  have hH : kH (dC, dI) cl A s.heap H locs (wX51 ci ad d f_groups f_kinds f_as f_bs f_cs f_conditions f_ranks f_denies f_wants f_rules f_holds) := hH
  refine lv_if_ne (tgt := 14) hx hb dX51_condition_9 (by decide) (fun c_2 => ?_) (fun c_2 => ?_)
  · have hw := hw.2 (z_ne (rfl : r_1.toInt = _) (rfl : (0 : Int32).toInt = 0) c_2)
    refine lv_aload_n hx hb dX51_condition_14 rfl (lv_at hl 0 rfl) ?_
    refine k_get X hH in_X51 0 rfl hc 5 (by decide) q6347 rfl dX51_condition_15 ?_
    refine lv_bipush (v := 60) hx hb dX51_condition_18 (by decide) ?_
    refine lv_icmp_ne (tgt := 26) hx hb dX51_condition_20 (by decide) (fun c_3 => ?_) (fun c_3 => ?_)
    · have hw := hw.2 (z_ne (rfl : f_conditions.toInt = _) (rfl : (60 : Int32).toInt = 60) c_3)
      refine lv_aload_n hx hb dX51_condition_26 rfl (lv_at hl 0 rfl) ?_
      refine k_get X hH in_X51 0 rfl hc 1 (by decide) q6343 rfl dX51_condition_27 ?_
      refine lv_aload_n hx hb dX51_condition_30 rfl (lv_at hl 0 rfl) ?_
      refine k_get X hH in_X51 0 rfl hc 5 (by decide) q6347 rfl dX51_condition_31 ?_
      refine lv_iload_n hx hb dX51_condition_34 rfl (lv_at hl 1 rfl) ?_
      have hq_5 := hw.1
      have hw := hw.2
      obtain ⟨f_kinds_4, ef_kinds_4⟩ : ∃ y : Nat → Int32, y = upd f_kinds f_conditions.toNatClampNeg x1 := ⟨_, rfl⟩
      refine k_iast X hH 2 1 rfl rfl (z_in (rfl : f_conditions.toInt = _) hq_5) dX51_condition_35 ef_kinds_4 (ws1 := (wX51 ci ad d f_groups f_kinds_4 f_as f_bs f_cs f_conditions f_ranks f_denies f_wants f_rules f_holds)) rfl (fun H locs hH => ?_)
      have hw := hw (zF f_kinds_4) (by rw [ef_kinds_4]; exact z_st (f := f_kinds) (rfl : f_conditions.toInt = _) hq_5.1 (rfl : x1.toInt = _))
      refine lv_aload_n hx hb dX51_condition_36 rfl (lv_at hl 0 rfl) ?_
      refine k_get X hH in_X51 0 rfl hc 2 (by decide) q6344 rfl dX51_condition_37 ?_
      refine lv_aload_n hx hb dX51_condition_40 rfl (lv_at hl 0 rfl) ?_
      refine k_get X hH in_X51 0 rfl hc 5 (by decide) q6347 rfl dX51_condition_41 ?_
      refine lv_iload_n hx hb dX51_condition_44 rfl (lv_at hl 2 rfl) ?_
      obtain ⟨f_as_6, ef_as_6⟩ : ∃ y : Nat → Int32, y = upd f_as f_conditions.toNatClampNeg x2 := ⟨_, rfl⟩
      refine k_iast X hH 3 2 rfl rfl (z_in (rfl : f_conditions.toInt = _) hq_5) dX51_condition_45 ef_as_6 (ws1 := (wX51 ci ad d f_groups f_kinds_4 f_as_6 f_bs f_cs f_conditions f_ranks f_denies f_wants f_rules f_holds)) rfl (fun H locs hH => ?_)
      have hw := hw (zF f_as_6) (by rw [ef_as_6]; exact z_st (f := f_as) (rfl : f_conditions.toInt = _) hq_5.1 (rfl : x2.toInt = _))
      refine lv_aload_n hx hb dX51_condition_46 rfl (lv_at hl 0 rfl) ?_
      refine k_get X hH in_X51 0 rfl hc 3 (by decide) q6345 rfl dX51_condition_47 ?_
      refine lv_aload_n hx hb dX51_condition_50 rfl (lv_at hl 0 rfl) ?_
      refine k_get X hH in_X51 0 rfl hc 5 (by decide) q6347 rfl dX51_condition_51 ?_
      refine lv_iload_n hx hb dX51_condition_54 rfl (lv_at hl 3 rfl) ?_
      obtain ⟨f_bs_7, ef_bs_7⟩ : ∃ y : Nat → Int32, y = upd f_bs f_conditions.toNatClampNeg x3 := ⟨_, rfl⟩
      refine k_iast X hH 4 3 rfl rfl (z_in (rfl : f_conditions.toInt = _) hq_5) dX51_condition_55 ef_bs_7 (ws1 := (wX51 ci ad d f_groups f_kinds_4 f_as_6 f_bs_7 f_cs f_conditions f_ranks f_denies f_wants f_rules f_holds)) rfl (fun H locs hH => ?_)
      have hw := hw (zF f_bs_7) (by rw [ef_bs_7]; exact z_st (f := f_bs) (rfl : f_conditions.toInt = _) hq_5.1 (rfl : x3.toInt = _))
      refine lv_aload_n hx hb dX51_condition_56 rfl (lv_at hl 0 rfl) ?_
      refine k_get X hH in_X51 0 rfl hc 4 (by decide) q6346 rfl dX51_condition_57 ?_
      refine lv_aload_n hx hb dX51_condition_60 rfl (lv_at hl 0 rfl) ?_
      refine k_get X hH in_X51 0 rfl hc 5 (by decide) q6347 rfl dX51_condition_61 ?_
      refine lv_iload hx hb dX51_condition_64 (lv_at hl 4 rfl) ?_
      obtain ⟨f_cs_8, ef_cs_8⟩ : ∃ y : Nat → Int32, y = upd f_cs f_conditions.toNatClampNeg x4 := ⟨_, rfl⟩
      refine k_iast X hH 5 4 rfl rfl (z_in (rfl : f_conditions.toInt = _) hq_5) dX51_condition_66 ef_cs_8 (ws1 := (wX51 ci ad d f_groups f_kinds_4 f_as_6 f_bs_7 f_cs_8 f_conditions f_ranks f_denies f_wants f_rules f_holds)) rfl (fun H locs hH => ?_)
      have hw := hw (zF f_cs_8) (by rw [ef_cs_8]; exact z_st (f := f_cs) (rfl : f_conditions.toInt = _) hq_5.1 (rfl : x4.toInt = _))
      refine lv_aload_n hx hb dX51_condition_67 rfl (lv_at hl 0 rfl) ?_
      refine lv_dup hx hb dX51_condition_68 rfl ?_
      refine k_get X hH in_X51 0 rfl hc 5 (by decide) q6347 rfl dX51_condition_69 ?_
      refine lv_iconst (v := 1) hx hb dX51_condition_72 (by decide) ?_
      refine lv_iadd hx hb dX51_condition_73 ?_
      have e_9 := z_add (z_m (rfl : f_conditions.toInt = _)) (z_m (rfl : (1 : Int32).toInt = 1))
      have hq_10 := hw.1
      have hw := hw.2
      have e_11 := z_x e_9 hq_10
      refine lv_topi (fun f_conditions_12 ef_conditions_12 => ?_)
      have hw := hw f_conditions_12.toInt (by rw [ef_conditions_12]; exact e_11)
      refine k_put X hH in_X51 tyX51_ok nmX51 0 rfl hc 5 (by decide) q6347 rfl (ty := .int) rfl rfl rfl (Nat.le_of_ble_eq_true rfl) dX51_condition_74 (ws1 := (wX51 ci ad d f_groups f_kinds_4 f_as_6 f_bs_7 f_cs_8 f_conditions_12 f_ranks f_denies f_wants f_rules f_holds)) rfl (fun H locs hH => ?_)
      refine lv_aload_n hx hb dX51_condition_77 rfl (lv_at hl 0 rfl) ?_
      refine k_get X hH in_X51 0 rfl hc 5 (by decide) q6347 rfl dX51_condition_78 ?_
      refine lv_iconst (v := 1) hx hb dX51_condition_81 (by decide) ?_
      refine lv_isub hx hb dX51_condition_82 ?_
      have e_13 := z_sub (z_m (rfl : f_conditions_12.toInt = _)) (z_m (rfl : (1 : Int32).toInt = 1))
      have hq_14 := hw.1
      have hw := hw.2
      have e_15 := z_x e_13 hq_14
      exact k_iret (v := f_conditions_12 - 1) X hH (f_kinds_4, f_as_6, f_bs_7, f_cs_8, f_conditions_12) (by rw [show (f_conditions_12 - 1 : Int32).toInt = _ from e_15]; exact hw) rfl rfl dX51_condition_83
    · have hw := hw.1 (z_eq (rfl : f_conditions.toInt = _) (rfl : (60 : Int32).toInt = 60) c_3)
      refine lv_bipush (v := (-3)) hx hb dX51_condition_23 (by decide) ?_
      exact k_iret (v := (-3)) X hH (f_kinds, f_as, f_bs, f_cs, f_conditions) hw rfl rfl dX51_condition_25
  · have hw := hw.1 (z_eq (rfl : r_1.toInt = _) (rfl : (0 : Int32).toInt = 0) c_2)
    refine lv_iconst (v := (-1)) hx hb dX51_condition_12 (by decide) ?_
    exact k_iret (v := (-1)) X hH (f_kinds, f_as, f_bs, f_cs, f_conditions) hw rfl rfl dX51_condition_13
set_option maxHeartbeats 4000000 in
theorem walkX51_rule {l : Launch} {dC : Nat → ClassId} {dI : Nat → Nat → Nat} {cl : List vw_C} {ci : Nat} (hc : cl[ci]? = some (RX51, TX51, 11)) {ad : Nat → Nat} {d : Nat → ClassId} {sz : Nat} {f_groups : Nat → Int32} {f_kinds : Nat → Int32} {f_as : Nat → Int32} {f_bs : Nat → Int32} {f_cs : Nat → Int32} {f_conditions : Int32} {f_ranks : Nat → Int32} {f_denies : Nat → Int32} {f_wants : Nat → Int32} {f_rules : Int32} {f_holds : Nat → Int32} {x1 : Int32} {x2 : Int32} {x3 : Int32} {post : Int → (Int → Int) → (Int → Int) → (Int → Int) → Int → Prop} (hw : wpX51_rule post f_conditions.toInt (zF f_ranks) (zF f_denies) (zF f_wants) f_rules.toInt x1.toInt x2.toInt x3.toInt) :
    Met l yX51_rule (ws_ yX51_rule cX51_rule 4 (some .int)) ({ frames := 1, cells := 0, slots := 0, locals := 21 } : Room) (kPc (dC, dI) cl (tX51 d) [.ref (ad 0), .int x1, .int x2, .int x3] sz (wX51 ci ad d f_groups f_kinds f_as f_bs f_cs f_conditions f_ranks f_denies f_wants f_rules f_holds)) (va_Qi (fun (r : Int32) (u : (Nat → Int32) × (Nat → Int32) × (Nat → Int32) × Int32) => post r.toInt (zF (u.1)) (zF (u.2.1)) (zF (u.2.2.1)) (u.2.2.2).toInt) (kB (dC, dI) cl (tX51 d) (va_A (wX51 ci ad d f_groups f_kinds f_as f_bs f_cs f_conditions f_ranks f_denies f_wants f_rules f_holds) sz) (fun u : (Nat → Int32) × (Nat → Int32) × (Nat → Int32) × Int32 => (wX51 ci ad d f_groups f_kinds f_as f_bs f_cs f_conditions (u.1) (u.2.1) (u.2.2.1) (u.2.2.2) f_holds))) (va_A (wX51 ci ad d f_groups f_kinds f_as f_bs f_cs f_conditions f_ranks f_denies f_wants f_rules f_holds) sz)) 0 0 (va_A (wX51 ci ad d f_groups f_kinds f_as f_bs f_cs f_conditions f_ranks f_denies f_wants f_rules f_holds) sz) := by
  refine k_enter (by decide) (Nat.le_of_ble_eq_true rfl) ?_
  intro p e s m below meth c ls X hsz hH hl
  subst hsz
  generalize va_A (wX51 ci ad d f_groups f_kinds f_as f_bs f_cs f_conditions f_ranks f_denies f_wants f_rules f_holds) s.heap.size = A at hH ⊢
  have hx := X.1.1
  have hb := X.1.2.1
  have hl : lv_has ls 4 [(0, .ref (ad 0)), (1, .int x1), (2, .int x2), (3, .int x3)] := hl
  unfold wpX51_rule at hw
  refine lv_iload_n hx hb dX51_rule_0 rfl (lv_at hl 1 rfl) ?_
  refine lv_bipush (v := 10) hx hb dX51_rule_1 (by decide) ?_
  refine k_i0 hH (k_runS (As := [.int x1, .int 10]) (rest := []) X hH.1 hH.2.1 X.2.2.2 (walkX51_in hc (x0 := x1) (x1 := 10) (f_groups := f_groups) (f_kinds := f_kinds) (f_as := f_as) (f_bs := f_bs) (f_cs := f_cs) (f_conditions := f_conditions) (f_ranks := f_ranks) (f_denies := f_denies) (f_wants := f_wants) (f_rules := f_rules) (f_holds := f_holds) hw) (va_cwS 2 X.1.2.2.2.2 gX51_38 rfl rfl rfl hX51_in ⟨Nat.le_of_ble_eq_true rfl, Nat.le_of_ble_eq_true rfl⟩) rfl hl.1 rfl (Nat.le_of_ble_eq_true rfl) dX51_rule_3 ⟨Nat.le_refl 0, Nat.le_refl 0⟩) (fun r_1 _ H locs hw hH => ?_)
  have hH : kH (dC, dI) cl A s.heap H locs (wX51 ci ad d f_groups f_kinds f_as f_bs f_cs f_conditions f_ranks f_denies f_wants f_rules f_holds) := hH
  refine lv_if_eq (tgt := 20) hx hb dX51_rule_6 (by decide) (fun c_2 => ?_) (fun c_2 => ?_)
  · have hw := hw.1 (z_eq (rfl : r_1.toInt = _) (rfl : (0 : Int32).toInt = 0) c_2)
    refine lv_iconst (v := (-1)) hx hb dX51_rule_20 (by decide) ?_
    exact k_iret (v := (-1)) X hH (f_ranks, f_denies, f_wants, f_rules) hw rfl rfl dX51_rule_21
  · have hw := hw.2 (z_neq (rfl : r_1.toInt = _) (rfl : (0 : Int32).toInt = 0) c_2)
    refine lv_iload_n hx hb dX51_rule_9 rfl (lv_at hl 3 rfl) ?_
    refine lv_aload_n hx hb dX51_rule_10 rfl (lv_at hl 0 rfl) ?_
    refine k_get X hH in_X51 0 rfl hc 5 (by decide) q6347 rfl dX51_rule_11 ?_
    refine k_i0 hH (k_runS (As := [.int x3, .int f_conditions]) (rest := []) X hH.1 hH.2.1 X.2.2.2 (walkX51_in hc (x0 := x3) (x1 := f_conditions) (f_groups := f_groups) (f_kinds := f_kinds) (f_as := f_as) (f_bs := f_bs) (f_cs := f_cs) (f_conditions := f_conditions) (f_ranks := f_ranks) (f_denies := f_denies) (f_wants := f_wants) (f_rules := f_rules) (f_holds := f_holds) hw) (va_cwS 2 X.1.2.2.2.2 gX51_38 rfl rfl rfl hX51_in ⟨Nat.le_of_ble_eq_true rfl, Nat.le_of_ble_eq_true rfl⟩) rfl hl.1 rfl (Nat.le_of_ble_eq_true rfl) dX51_rule_14 ⟨Nat.le_refl 0, Nat.le_refl 0⟩) (fun r_3 _ H locs hw hH => ?_)
    have hH : kH (dC, dI) cl A s.heap H locs (wX51 ci ad d f_groups f_kinds f_as f_bs f_cs f_conditions f_ranks f_denies f_wants f_rules f_holds) := hH
    refine lv_if_ne (tgt := 22) hx hb dX51_rule_17 (by decide) (fun c_4 => ?_) (fun c_4 => ?_)
    · have hw := hw.2 (z_ne (rfl : r_3.toInt = _) (rfl : (0 : Int32).toInt = 0) c_4)
      refine lv_aload_n hx hb dX51_rule_22 rfl (lv_at hl 0 rfl) ?_
      refine k_get X hH in_X51 0 rfl hc 9 (by decide) q6351 rfl dX51_rule_23 ?_
      refine lv_bipush (v := 20) hx hb dX51_rule_26 (by decide) ?_
      refine lv_icmp_ne (tgt := 34) hx hb dX51_rule_28 (by decide) (fun c_5 => ?_) (fun c_5 => ?_)
      · have hw := hw.2 (z_ne (rfl : f_rules.toInt = _) (rfl : (20 : Int32).toInt = 20) c_5)
        refine lv_aload_n hx hb dX51_rule_34 rfl (lv_at hl 0 rfl) ?_
        refine k_get X hH in_X51 0 rfl hc 6 (by decide) q6348 rfl dX51_rule_35 ?_
        refine lv_aload_n hx hb dX51_rule_38 rfl (lv_at hl 0 rfl) ?_
        refine k_get X hH in_X51 0 rfl hc 9 (by decide) q6351 rfl dX51_rule_39 ?_
        refine lv_iload_n hx hb dX51_rule_42 rfl (lv_at hl 1 rfl) ?_
        have hq_7 := hw.1
        have hw := hw.2
        obtain ⟨f_ranks_6, ef_ranks_6⟩ : ∃ y : Nat → Int32, y = upd f_ranks f_rules.toNatClampNeg x1 := ⟨_, rfl⟩
        refine k_iast X hH 6 5 rfl rfl (z_in (rfl : f_rules.toInt = _) hq_7) dX51_rule_43 ef_ranks_6 (ws1 := (wX51 ci ad d f_groups f_kinds f_as f_bs f_cs f_conditions f_ranks_6 f_denies f_wants f_rules f_holds)) rfl (fun H locs hH => ?_)
        have hw := hw (zF f_ranks_6) (by rw [ef_ranks_6]; exact z_st (f := f_ranks) (rfl : f_rules.toInt = _) hq_7.1 (rfl : x1.toInt = _))
        refine lv_aload_n hx hb dX51_rule_44 rfl (lv_at hl 0 rfl) ?_
        refine k_get X hH in_X51 0 rfl hc 7 (by decide) q6349 rfl dX51_rule_45 ?_
        refine lv_aload_n hx hb dX51_rule_48 rfl (lv_at hl 0 rfl) ?_
        refine k_get X hH in_X51 0 rfl hc 9 (by decide) q6351 rfl dX51_rule_49 ?_
        refine lv_iload_n hx hb dX51_rule_52 rfl (lv_at hl 2 rfl) ?_
        have hq_9 := hw.1
        have hw := hw.2
        obtain ⟨f_denies_8, ef_denies_8⟩ : ∃ y : Nat → Int32, y = upd f_denies f_rules.toNatClampNeg (vp_nar .boolean x2) := ⟨_, rfl⟩
        refine k_zast X hH 7 6 rfl rfl (z_in (rfl : f_rules.toInt = _) hq_7) dX51_rule_53 ef_denies_8 (ws1 := (wX51 ci ad d f_groups f_kinds f_as f_bs f_cs f_conditions f_ranks_6 f_denies_8 f_wants f_rules f_holds)) rfl (fun H locs hH => ?_)
        have hw := hw (zF f_denies_8) (by rw [ef_denies_8]; exact z_st (f := f_denies) (rfl : f_rules.toInt = _) hq_7.1 (z_narZ (rfl : x2.toInt = _) hq_9))
        refine lv_aload_n hx hb dX51_rule_54 rfl (lv_at hl 0 rfl) ?_
        refine k_get X hH in_X51 0 rfl hc 8 (by decide) q6350 rfl dX51_rule_55 ?_
        refine lv_aload_n hx hb dX51_rule_58 rfl (lv_at hl 0 rfl) ?_
        refine k_get X hH in_X51 0 rfl hc 9 (by decide) q6351 rfl dX51_rule_59 ?_
        refine lv_iload_n hx hb dX51_rule_62 rfl (lv_at hl 3 rfl) ?_
        obtain ⟨f_wants_10, ef_wants_10⟩ : ∃ y : Nat → Int32, y = upd f_wants f_rules.toNatClampNeg x3 := ⟨_, rfl⟩
        refine k_iast X hH 8 7 rfl rfl (z_in (rfl : f_rules.toInt = _) hq_7) dX51_rule_63 ef_wants_10 (ws1 := (wX51 ci ad d f_groups f_kinds f_as f_bs f_cs f_conditions f_ranks_6 f_denies_8 f_wants_10 f_rules f_holds)) rfl (fun H locs hH => ?_)
        have hw := hw (zF f_wants_10) (by rw [ef_wants_10]; exact z_st (f := f_wants) (rfl : f_rules.toInt = _) hq_7.1 (rfl : x3.toInt = _))
        refine lv_aload_n hx hb dX51_rule_64 rfl (lv_at hl 0 rfl) ?_
        refine lv_dup hx hb dX51_rule_65 rfl ?_
        refine k_get X hH in_X51 0 rfl hc 9 (by decide) q6351 rfl dX51_rule_66 ?_
        refine lv_iconst (v := 1) hx hb dX51_rule_69 (by decide) ?_
        refine lv_iadd hx hb dX51_rule_70 ?_
        have e_11 := z_add (z_m (rfl : f_rules.toInt = _)) (z_m (rfl : (1 : Int32).toInt = 1))
        have hq_12 := hw.1
        have hw := hw.2
        have e_13 := z_x e_11 hq_12
        refine lv_topi (fun f_rules_14 ef_rules_14 => ?_)
        have hw := hw f_rules_14.toInt (by rw [ef_rules_14]; exact e_13)
        refine k_put X hH in_X51 tyX51_ok nmX51 0 rfl hc 9 (by decide) q6351 rfl (ty := .int) rfl rfl rfl (Nat.le_of_ble_eq_true rfl) dX51_rule_71 (ws1 := (wX51 ci ad d f_groups f_kinds f_as f_bs f_cs f_conditions f_ranks_6 f_denies_8 f_wants_10 f_rules_14 f_holds)) rfl (fun H locs hH => ?_)
        refine lv_aload_n hx hb dX51_rule_74 rfl (lv_at hl 0 rfl) ?_
        refine k_get X hH in_X51 0 rfl hc 9 (by decide) q6351 rfl dX51_rule_75 ?_
        refine lv_iconst (v := 1) hx hb dX51_rule_78 (by decide) ?_
        refine lv_isub hx hb dX51_rule_79 ?_
        have e_15 := z_sub (z_m (rfl : f_rules_14.toInt = _)) (z_m (rfl : (1 : Int32).toInt = 1))
        have hq_16 := hw.1
        have hw := hw.2
        have e_17 := z_x e_15 hq_16
        exact k_iret (v := f_rules_14 - 1) X hH (f_ranks_6, f_denies_8, f_wants_10, f_rules_14) (by rw [show (f_rules_14 - 1 : Int32).toInt = _ from e_17]; exact hw) rfl rfl dX51_rule_80
      · have hw := hw.1 (z_eq (rfl : f_rules.toInt = _) (rfl : (20 : Int32).toInt = 20) c_5)
        refine lv_bipush (v := (-3)) hx hb dX51_rule_31 (by decide) ?_
        exact k_iret (v := (-3)) X hH (f_ranks, f_denies, f_wants, f_rules) hw rfl rfl dX51_rule_33
    · have hw := hw.1 (z_eq (rfl : r_3.toInt = _) (rfl : (0 : Int32).toInt = 0) c_4)
      refine lv_iconst (v := (-1)) hx hb dX51_rule_20 (by decide) ?_
      exact k_iret (v := (-1)) X hH (f_ranks, f_denies, f_wants, f_rules) hw rfl rfl dX51_rule_21
set_option maxHeartbeats 4000000 in
theorem atX51_drop_25 {p : Program} {l : Launch} {e : Env} {s : State} {m : MethodId} {args : Array Value} {below : List Frame} {meth : Method} {c : Code} {dC : Nat → ClassId} {dI : Nat → Nat → Nat} {cl : List vw_C} {ci : Nat} (hc : cl[ci]? = some (RX51, TX51, 11)) {ad : Nat → Nat} {d : Nat → ClassId} {A : Nat → Prop} {post : Int → (Int → Int) → (Int → Int) → (Int → Int) → Int → Prop} {f_groups : Nat → Int32} {f_kinds : Nat → Int32} {f_as : Nat → Int32} {f_bs : Nat → Int32} {f_cs : Nat → Int32} {f_conditions : Int32} {f_holds : Nat → Int32} (X : kX p s m args meth c cX51_drop 3 RX51 (some .int) (dC, dI) cl (tX51 d)) {K81 : (Int → Int) → (Int → Int) → (Int → Int) → Prop}  {f_rules : Int32} (hk81 : ∀ (f_ranks : Nat → Int32) (f_denies : Nat → Int32) (f_wants : Nat → Int32), K81 (zF f_ranks) (zF f_denies) (zF f_wants) → ∀ (H : Heap) (locs : List Loc) (ls : Array Slot), kH (dC, dI) cl A s.heap H locs (wX51 ci ad d f_groups f_kinds f_as f_bs f_cs f_conditions f_ranks f_denies f_wants f_rules f_holds) → lv_has ls 3 [(0, .ref (ad 0))] → W p l e ({ frames := 1, cells := 0, slots := 0, locals := 21 } : Room) s m args below meth c H locs 0 0 (MQ below (va_Qi (fun (r : Int32) (u : (Nat → Int32) × (Nat → Int32) × (Nat → Int32) × Int32) => post r.toInt (zF (u.1)) (zF (u.2.1)) (zF (u.2.2.1)) (u.2.2.2).toInt) (kB (dC, dI) cl (tX51 d) A (fun u : (Nat → Int32) × (Nat → Int32) × (Nat → Int32) × Int32 => (wX51 ci ad d f_groups f_kinds f_as f_bs f_cs f_conditions (u.1) (u.2.1) (u.2.2.1) (u.2.2.2) f_holds))) A) args s 0 0 A) (F0 m 81 ls [])) :
    ∀ (nn : Nat) (x2 : Int32) (f_ranks : Nat → Int32) (f_denies : Nat → Int32) (f_wants : Nat → Int32), wX51_drop_25 K81 f_rules.toInt nn x2.toInt (zF f_ranks) (zF f_denies) (zF f_wants) → ∀ (H : Heap) (locs : List Loc) (ls : Array Slot), kH (dC, dI) cl A s.heap H locs (wX51 ci ad d f_groups f_kinds f_as f_bs f_cs f_conditions f_ranks f_denies f_wants f_rules f_holds) → lv_has ls 3 [(0, .ref (ad 0)), (2, .int x2)] → W p l e ({ frames := 1, cells := 0, slots := 0, locals := 21 } : Room) s m args below meth c H locs 0 0 (MQ below (va_Qi (fun (r : Int32) (u : (Nat → Int32) × (Nat → Int32) × (Nat → Int32) × Int32) => post r.toInt (zF (u.1)) (zF (u.2.1)) (zF (u.2.2.1)) (u.2.2.2).toInt) (kB (dC, dI) cl (tX51 d) A (fun u : (Nat → Int32) × (Nat → Int32) × (Nat → Int32) × Int32 => (wX51 ci ad d f_groups f_kinds f_as f_bs f_cs f_conditions (u.1) (u.2.1) (u.2.2.1) (u.2.2.2) f_holds))) A) args s 0 0 A) (F0 m 25 ls []) := by
  have hx := X.1.1
  have hb := X.1.2.1
  intro nn
  induction nn with
  | zero =>
    intro x2 f_ranks f_denies f_wants hw
    exact False.elim hw
  | succ n ih =>
    intro x2 f_ranks f_denies f_wants hw H locs ls hH hl
    rw [wX51_drop_25] at hw
    refine lv_iload_n hx hb dX51_drop_25 rfl (lv_at hl 1 rfl) ?_
    refine lv_aload_n hx hb dX51_drop_26 rfl (lv_at hl 0 rfl) ?_
    refine k_get X hH in_X51 0 rfl hc 9 (by decide) q6351 rfl dX51_drop_27 ?_
    refine lv_icmp_ge (tgt := 81) hx hb dX51_drop_30 (by decide) (fun c_7 => ?_) (fun c_7 => ?_)
    · have hw := hw.1 (z_le (rfl : f_rules.toInt = _) (rfl : x2.toInt = _) c_7)
      exact hk81 f_ranks f_denies f_wants hw _ _ ls hH (lv_sub hl [0] rfl)
    · have hw := hw.2 (z_nle (rfl : f_rules.toInt = _) (rfl : x2.toInt = _) c_7)
      refine lv_aload_n hx hb dX51_drop_33 rfl (lv_at hl 0 rfl) ?_
      refine k_get X hH in_X51 0 rfl hc 6 (by decide) q6348 rfl dX51_drop_34 ?_
      refine lv_iload_n hx hb dX51_drop_37 rfl (lv_at hl 1 rfl) ?_
      refine lv_aload_n hx hb dX51_drop_38 rfl (lv_at hl 0 rfl) ?_
      refine k_get X hH in_X51 0 rfl hc 6 (by decide) q6348 rfl dX51_drop_39 ?_
      refine lv_iload_n hx hb dX51_drop_42 rfl (lv_at hl 1 rfl) ?_
      refine lv_iconst (v := 1) hx hb dX51_drop_43 (by decide) ?_
      refine lv_iadd hx hb dX51_drop_44 ?_
      have e_8 := z_add (z_m (rfl : x2.toInt = _)) (z_m (rfl : (1 : Int32).toInt = 1))
      have hq_9 := hw.1
      have hw := hw.2
      have e_10 := z_xi e_8 hq_9 (by decide)
      refine k_iald X hH 6 5 rfl rfl (z_in e_10 hq_9) dX51_drop_45 ?_
      have e_11 := z_ld (f := f_ranks) e_10 hq_9.1
      refine lv_topi (fun v_12 ev_12 => ?_)
      have hw := hw v_12.toInt (by rw [ev_12]; exact e_11)
      have hq_14 := hw.1
      have hw := hw.2
      obtain ⟨f_ranks_13, ef_ranks_13⟩ : ∃ y : Nat → Int32, y = upd f_ranks x2.toNatClampNeg v_12 := ⟨_, rfl⟩
      refine k_iast X hH 6 5 rfl rfl (z_in (rfl : x2.toInt = _) hq_14) dX51_drop_46 ef_ranks_13 (ws1 := (wX51 ci ad d f_groups f_kinds f_as f_bs f_cs f_conditions f_ranks_13 f_denies f_wants f_rules f_holds)) rfl (fun H locs hH => ?_)
      have hw := hw (zF f_ranks_13) (by rw [ef_ranks_13]; exact z_st (f := f_ranks) (rfl : x2.toInt = _) hq_14.1 (rfl : v_12.toInt = _))
      refine lv_aload_n hx hb dX51_drop_47 rfl (lv_at hl 0 rfl) ?_
      refine k_get X hH in_X51 0 rfl hc 7 (by decide) q6349 rfl dX51_drop_48 ?_
      refine lv_iload_n hx hb dX51_drop_51 rfl (lv_at hl 1 rfl) ?_
      refine lv_aload_n hx hb dX51_drop_52 rfl (lv_at hl 0 rfl) ?_
      refine k_get X hH in_X51 0 rfl hc 7 (by decide) q6349 rfl dX51_drop_53 ?_
      refine lv_iload_n hx hb dX51_drop_56 rfl (lv_at hl 1 rfl) ?_
      refine lv_iconst (v := 1) hx hb dX51_drop_57 (by decide) ?_
      refine lv_iadd hx hb dX51_drop_58 ?_
      have e_15 := z_add (z_m (rfl : x2.toInt = _)) (z_m (rfl : (1 : Int32).toInt = 1))
      have e_16 := z_xi e_15 hq_9 (by decide)
      refine k_zald X hH 7 6 rfl rfl (z_in e_16 hq_9) dX51_drop_59 ?_
      have e_17 := z_ld (f := f_denies) e_16 hq_9.1
      refine lv_topi (fun v_18 ev_18 => ?_)
      have hw := hw v_18.toInt (by rw [ev_18]; exact e_17)
      have hq_20 := hw.1
      have hw := hw.2
      obtain ⟨f_denies_19, ef_denies_19⟩ : ∃ y : Nat → Int32, y = upd f_denies x2.toNatClampNeg (vp_nar .boolean v_18) := ⟨_, rfl⟩
      refine k_zast X hH 7 6 rfl rfl (z_in (rfl : x2.toInt = _) hq_14) dX51_drop_60 ef_denies_19 (ws1 := (wX51 ci ad d f_groups f_kinds f_as f_bs f_cs f_conditions f_ranks_13 f_denies_19 f_wants f_rules f_holds)) rfl (fun H locs hH => ?_)
      have hw := hw (zF f_denies_19) (by rw [ef_denies_19]; exact z_st (f := f_denies) (rfl : x2.toInt = _) hq_14.1 (z_narZ (rfl : v_18.toInt = _) hq_20))
      refine lv_aload_n hx hb dX51_drop_61 rfl (lv_at hl 0 rfl) ?_
      refine k_get X hH in_X51 0 rfl hc 8 (by decide) q6350 rfl dX51_drop_62 ?_
      refine lv_iload_n hx hb dX51_drop_65 rfl (lv_at hl 1 rfl) ?_
      refine lv_aload_n hx hb dX51_drop_66 rfl (lv_at hl 0 rfl) ?_
      refine k_get X hH in_X51 0 rfl hc 8 (by decide) q6350 rfl dX51_drop_67 ?_
      refine lv_iload_n hx hb dX51_drop_70 rfl (lv_at hl 1 rfl) ?_
      refine lv_iconst (v := 1) hx hb dX51_drop_71 (by decide) ?_
      refine lv_iadd hx hb dX51_drop_72 ?_
      have e_21 := z_add (z_m (rfl : x2.toInt = _)) (z_m (rfl : (1 : Int32).toInt = 1))
      have e_22 := z_xi e_21 hq_9 (by decide)
      refine k_iald X hH 8 7 rfl rfl (z_in e_22 hq_9) dX51_drop_73 ?_
      have e_23 := z_ld (f := f_wants) e_22 hq_9.1
      refine lv_topi (fun v_24 ev_24 => ?_)
      have hw := hw v_24.toInt (by rw [ev_24]; exact e_23)
      obtain ⟨f_wants_25, ef_wants_25⟩ : ∃ y : Nat → Int32, y = upd f_wants x2.toNatClampNeg v_24 := ⟨_, rfl⟩
      refine k_iast X hH 8 7 rfl rfl (z_in (rfl : x2.toInt = _) hq_14) dX51_drop_74 ef_wants_25 (ws1 := (wX51 ci ad d f_groups f_kinds f_as f_bs f_cs f_conditions f_ranks_13 f_denies_19 f_wants_25 f_rules f_holds)) rfl (fun H locs hH => ?_)
      have hw := hw (zF f_wants_25) (by rw [ef_wants_25]; exact z_st (f := f_wants) (rfl : x2.toInt = _) hq_14.1 (rfl : v_24.toInt = _))
      have hq_27 := hw.1
      have hw := hw.2
      obtain ⟨x2_26, ex2_26⟩ : ∃ y : Int32, y = x2 + 1 := ⟨_, rfl⟩
      have hw := hw x2_26.toInt (by rw [ex2_26]; exact (z_x (z_add (z_m (rfl : x2.toInt = _)) (z_m (rfl : (1 : Int32).toInt = 1))) hq_27))
      refine lv_iinc (v := x2_26) (lv' := [(2, .int x2_26), (0, .ref (ad 0))]) hx hb dX51_drop_75 hl (k := 1) rfl (by rw [ex2_26]; rfl) (by decide) rfl (fun ls hl => ?_)
      refine lv_goto (tgt := 25) hx hb dX51_drop_78 (by decide) ?_
      exact ih x2_26 f_ranks_13 f_denies_19 f_wants_25 hw _ _ ls hH (lv_sub hl [1, 0] rfl)
set_option maxHeartbeats 4000000 in
theorem walkX51_drop {l : Launch} {dC : Nat → ClassId} {dI : Nat → Nat → Nat} {cl : List vw_C} {ci : Nat} (hc : cl[ci]? = some (RX51, TX51, 11)) {ad : Nat → Nat} {d : Nat → ClassId} {sz : Nat} {f_groups : Nat → Int32} {f_kinds : Nat → Int32} {f_as : Nat → Int32} {f_bs : Nat → Int32} {f_cs : Nat → Int32} {f_conditions : Int32} {f_ranks : Nat → Int32} {f_denies : Nat → Int32} {f_wants : Nat → Int32} {f_rules : Int32} {f_holds : Nat → Int32} {x1 : Int32} {post : Int → (Int → Int) → (Int → Int) → (Int → Int) → Int → Prop} (hw : wpX51_drop post (zF f_ranks) (zF f_denies) (zF f_wants) f_rules.toInt x1.toInt) :
    Met l yX51_drop (ws_ yX51_drop cX51_drop 3 (some .int)) ({ frames := 1, cells := 0, slots := 0, locals := 21 } : Room) (kPc (dC, dI) cl (tX51 d) [.ref (ad 0), .int x1] sz (wX51 ci ad d f_groups f_kinds f_as f_bs f_cs f_conditions f_ranks f_denies f_wants f_rules f_holds)) (va_Qi (fun (r : Int32) (u : (Nat → Int32) × (Nat → Int32) × (Nat → Int32) × Int32) => post r.toInt (zF (u.1)) (zF (u.2.1)) (zF (u.2.2.1)) (u.2.2.2).toInt) (kB (dC, dI) cl (tX51 d) (va_A (wX51 ci ad d f_groups f_kinds f_as f_bs f_cs f_conditions f_ranks f_denies f_wants f_rules f_holds) sz) (fun u : (Nat → Int32) × (Nat → Int32) × (Nat → Int32) × Int32 => (wX51 ci ad d f_groups f_kinds f_as f_bs f_cs f_conditions (u.1) (u.2.1) (u.2.2.1) (u.2.2.2) f_holds))) (va_A (wX51 ci ad d f_groups f_kinds f_as f_bs f_cs f_conditions f_ranks f_denies f_wants f_rules f_holds) sz)) 0 0 (va_A (wX51 ci ad d f_groups f_kinds f_as f_bs f_cs f_conditions f_ranks f_denies f_wants f_rules f_holds) sz) := by
  refine k_enter (by decide) (Nat.le_of_ble_eq_true rfl) ?_
  intro p e s m below meth c ls X hsz hH hl
  subst hsz
  generalize va_A (wX51 ci ad d f_groups f_kinds f_as f_bs f_cs f_conditions f_ranks f_denies f_wants f_rules f_holds) s.heap.size = A at hH ⊢
  have hx := X.1.1
  have hb := X.1.2.1
  have hl : lv_has ls 3 [(0, .ref (ad 0)), (1, .int x1)] := hl
  unfold wpX51_drop at hw
  refine lv_iload_n hx hb dX51_drop_0 rfl (lv_at hl 1 rfl) ?_
  refine lv_aload_n hx hb dX51_drop_1 rfl (lv_at hl 0 rfl) ?_
  refine k_get X hH in_X51 0 rfl hc 9 (by decide) q6351 rfl dX51_drop_2 ?_
  refine k_i0 hH (k_runS (As := [.int x1, .int f_rules]) (rest := []) X hH.1 hH.2.1 X.2.2.2 (walkX51_in hc (x0 := x1) (x1 := f_rules) (f_groups := f_groups) (f_kinds := f_kinds) (f_as := f_as) (f_bs := f_bs) (f_cs := f_cs) (f_conditions := f_conditions) (f_ranks := f_ranks) (f_denies := f_denies) (f_wants := f_wants) (f_rules := f_rules) (f_holds := f_holds) hw) (va_cwS 2 X.1.2.2.2.2 gX51_38 rfl rfl rfl hX51_in ⟨Nat.le_of_ble_eq_true rfl, Nat.le_of_ble_eq_true rfl⟩) rfl hl.1 rfl (Nat.le_of_ble_eq_true rfl) dX51_drop_5 ⟨Nat.le_refl 0, Nat.le_refl 0⟩) (fun r_1 _ H locs hw hH => ?_)
  have hH : kH (dC, dI) cl A s.heap H locs (wX51 ci ad d f_groups f_kinds f_as f_bs f_cs f_conditions f_ranks f_denies f_wants f_rules f_holds) := hH
  refine lv_if_ne (tgt := 13) hx hb dX51_drop_8 (by decide) (fun c_2 => ?_) (fun c_2 => ?_)
  · have hw := hw.2 (z_ne (rfl : r_1.toInt = _) (rfl : (0 : Int32).toInt = 0) c_2)
    refine lv_aload_n hx hb dX51_drop_13 rfl (lv_at hl 0 rfl) ?_
    refine lv_dup hx hb dX51_drop_14 rfl ?_
    refine k_get X hH in_X51 0 rfl hc 9 (by decide) q6351 rfl dX51_drop_15 ?_
    refine lv_iconst (v := 1) hx hb dX51_drop_18 (by decide) ?_
    refine lv_isub hx hb dX51_drop_19 ?_
    have e_3 := z_sub (z_m (rfl : f_rules.toInt = _)) (z_m (rfl : (1 : Int32).toInt = 1))
    have hq_4 := hw.1
    have hw := hw.2
    have e_5 := z_x e_3 hq_4
    refine lv_topi (fun f_rules_6 ef_rules_6 => ?_)
    have hw := hw f_rules_6.toInt (by rw [ef_rules_6]; exact e_5)
    refine k_put X hH in_X51 tyX51_ok nmX51 0 rfl hc 9 (by decide) q6351 rfl (ty := .int) rfl rfl rfl (Nat.le_of_ble_eq_true rfl) dX51_drop_20 (ws1 := (wX51 ci ad d f_groups f_kinds f_as f_bs f_cs f_conditions f_ranks f_denies f_wants f_rules_6 f_holds)) rfl (fun H locs hH => ?_)
    refine lv_iload_n hx hb dX51_drop_23 rfl (lv_at hl 1 rfl) ?_
    refine lv_istore_n (lv' := [(2, .int x1), (0, .ref (ad 0)), (1, .int x1)]) hx hb dX51_drop_24 rfl hl (by decide) rfl (fun ls hl => ?_)
    obtain ⟨fu, hw⟩ := hw
    refine atX51_drop_25 hc X ?_ fu x1 f_ranks f_denies f_wants hw _ _ ls hH (lv_sub hl [1, 0] rfl)
    · intro f_ranks_28 f_denies_29 f_wants_30 hw H locs ls hH hl
      refine lv_aload_n hx hb dX51_drop_81 rfl (lv_at hl 0 rfl) ?_
      refine k_get X hH in_X51 0 rfl hc 9 (by decide) q6351 rfl dX51_drop_82 ?_
      exact k_iret (v := f_rules_6) X hH (f_ranks_28, f_denies_29, f_wants_30, f_rules_6) hw rfl rfl dX51_drop_85
  · have hw := hw.1 (z_eq (rfl : r_1.toInt = _) (rfl : (0 : Int32).toInt = 0) c_2)
    refine lv_iconst (v := (-1)) hx hb dX51_drop_11 (by decide) ?_
    exact k_iret (v := (-1)) X hH (f_ranks, f_denies, f_wants, f_rules) hw rfl rfl dX51_drop_12
set_option maxHeartbeats 4000000 in
theorem walkX51_isHeld {l : Launch} {dC : Nat → ClassId} {dI : Nat → Nat → Nat} {cl : List vw_C} {ci : Nat} (hc : cl[ci]? = some (RX51, TX51, 11)) {ad : Nat → Nat} {d : Nat → ClassId} {sz : Nat} {f_groups : Nat → Int32} {f_kinds : Nat → Int32} {f_as : Nat → Int32} {f_bs : Nat → Int32} {f_cs : Nat → Int32} {f_conditions : Int32} {f_ranks : Nat → Int32} {f_denies : Nat → Int32} {f_wants : Nat → Int32} {f_rules : Int32} {f_holds : Nat → Int32} {x1 : Int32} {x2 : Int32} {post : Int → (Int → Int) → Prop} (hw : wpX51_isHeld post (zF f_groups) (zF f_kinds) (zF f_as) (zF f_bs) (zF f_cs) (zF f_holds) x1.toInt x2.toInt) :
    Met l yX51_isHeld (ws_ yX51_isHeld cX51_isHeld 3 (some .boolean)) ({ frames := 2, cells := 0, slots := 0, locals := 52 } : Room) (kPc (dC, dI) cl (tX51 d) [.ref (ad 0), .int x1, .int x2] sz (wX51 ci ad d f_groups f_kinds f_as f_bs f_cs f_conditions f_ranks f_denies f_wants f_rules f_holds)) (va_Qi (fun (r : Int32) (u : (Nat → Int32)) => post r.toInt (zF (u))) (kB (dC, dI) cl (tX51 d) (va_A (wX51 ci ad d f_groups f_kinds f_as f_bs f_cs f_conditions f_ranks f_denies f_wants f_rules f_holds) sz) (fun u : (Nat → Int32) => (wX51 ci ad d f_groups f_kinds f_as f_bs f_cs f_conditions f_ranks f_denies f_wants f_rules (u)))) (va_A (wX51 ci ad d f_groups f_kinds f_as f_bs f_cs f_conditions f_ranks f_denies f_wants f_rules f_holds) sz)) 0 0 (va_A (wX51 ci ad d f_groups f_kinds f_as f_bs f_cs f_conditions f_ranks f_denies f_wants f_rules f_holds) sz) := by
  refine k_enter (by decide) (Nat.le_of_ble_eq_true rfl) ?_
  intro p e s m below meth c ls X hsz hH hl
  subst hsz
  generalize va_A (wX51 ci ad d f_groups f_kinds f_as f_bs f_cs f_conditions f_ranks f_denies f_wants f_rules f_holds) s.heap.size = A at hH ⊢
  have hx := X.1.1
  have hb := X.1.2.1
  have hl : lv_has ls 3 [(0, .ref (ad 0)), (1, .int x1), (2, .int x2)] := hl
  unfold wpX51_isHeld at hw
  refine lv_aload_n hx hb dX51_isHeld_0 rfl (lv_at hl 0 rfl) ?_
  refine lv_iload_n hx hb dX51_isHeld_1 rfl (lv_at hl 2 rfl) ?_
  refine lv_iload_n hx hb dX51_isHeld_2 rfl (lv_at hl 1 rfl) ?_
  refine lv_iconst (v := 1) hx hb dX51_isHeld_3 (by decide) ?_
  refine lv_iadd hx hb dX51_isHeld_4 ?_
  have e_1 := z_add (z_m (rfl : x1.toInt = _)) (z_m (rfl : (1 : Int32).toInt = 1))
  have hq_2 := hw.1
  have hw := hw.2
  have e_3 := z_x e_1 hq_2
  refine k_v0 hH (k_runV (As := [.int x2, .int (x1 + 1)]) (rest := []) X hH.1 hH.2.1 X.2.2.2 (walkX51_look hc (x1 := x2) (x2 := (x1 + 1)) (f_groups := f_groups) (f_kinds := f_kinds) (f_as := f_as) (f_bs := f_bs) (f_cs := f_cs) (f_conditions := f_conditions) (f_ranks := f_ranks) (f_denies := f_denies) (f_wants := f_wants) (f_rules := f_rules) (f_holds := f_holds) (by rw [show (x1 + 1 : Int32).toInt = _ from e_3]; exact hw)) (cwV 2 X.1.2.2.2.2 gX51_60 rfl rfl rfl hX51_look ⟨Nat.le_of_ble_eq_true rfl, Nat.le_of_ble_eq_true rfl⟩) hc (q0 := 0) rfl rfl hl.1 rfl (Nat.le_of_ble_eq_true rfl) dX51_isHeld_5 ⟨Nat.le_refl 0, Nat.le_refl 0⟩) (fun u H locs hw hH => ?_)
  obtain ⟨f_holds_4, eu⟩ : ∃ z, z = u := ⟨_, rfl⟩
  subst eu
  have hH : kH (dC, dI) cl A s.heap H locs (wX51 ci ad d f_groups f_kinds f_as f_bs f_cs f_conditions f_ranks f_denies f_wants f_rules f_holds_4) := hH
  refine lv_aload_n hx hb dX51_isHeld_8 rfl (lv_at hl 0 rfl) ?_
  refine k_get X hH in_X51 0 rfl hc 10 (by decide) q6352 rfl dX51_isHeld_9 ?_
  refine lv_iload_n hx hb dX51_isHeld_12 rfl (lv_at hl 1 rfl) ?_
  have hq_5 := hw.1
  have hw := hw.2
  refine k_zald X hH 9 8 rfl rfl (z_in (rfl : x1.toInt = _) hq_5) dX51_isHeld_13 ?_
  have e_6 := z_ld (f := f_holds_4) (rfl : x1.toInt = _) hq_5.1
  have hq_7 := hw.1
  have hw := hw.2
  exact k_iret (v := f_holds_4 x1.toNatClampNeg) X hH (f_holds_4) (by rw [show (f_holds_4 x1.toNatClampNeg : Int32).toInt = _ from e_6]; exact hw) rfl (k_zn (z_boolE e_6 hq_7)) dX51_isHeld_14
set_option maxHeartbeats 4000000 in
theorem atX51_asks_17 {p : Program} {l : Launch} {e : Env} {s : State} {m : MethodId} {args : Array Value} {below : List Frame} {meth : Method} {c : Code} {dC : Nat → ClassId} {dI : Nat → Nat → Nat} {cl : List vw_C} {ci : Nat} (hc : cl[ci]? = some (RX51, TX51, 11)) {ad : Nat → Nat} {d : Nat → ClassId} {A : Nat → Prop} {post : Int → (Int → Int) → Prop} {f_groups : Nat → Int32} {f_kinds : Nat → Int32} {f_as : Nat → Int32} {f_bs : Nat → Int32} {f_cs : Nat → Int32} {f_conditions : Int32} {f_ranks : Nat → Int32} {f_denies : Nat → Int32} {f_wants : Nat → Int32} {f_rules : Int32} (X : kX p s m args meth c cX51_asks 4 RX51 (some .int) (dC, dI) cl (tX51 d)) {K47 : Int → (Int → Int) → Prop} {x1 : Int32}  (hk47 : ∀ (x2 : Int32) (f_holds : Nat → Int32), K47 x2.toInt (zF f_holds) → ∀ (H : Heap) (locs : List Loc) (ls : Array Slot), kH (dC, dI) cl A s.heap H locs (wX51 ci ad d f_groups f_kinds f_as f_bs f_cs f_conditions f_ranks f_denies f_wants f_rules f_holds) → lv_has ls 4 [(2, .int x2)] → W p l e ({ frames := 3, cells := 0, slots := 0, locals := 74 } : Room) s m args below meth c H locs 0 0 (MQ below (va_Qi (fun (r : Int32) (u : (Nat → Int32)) => post r.toInt (zF (u))) (kB (dC, dI) cl (tX51 d) A (fun u : (Nat → Int32) => (wX51 ci ad d f_groups f_kinds f_as f_bs f_cs f_conditions f_ranks f_denies f_wants f_rules (u)))) A) args s 0 0 A) (F0 m 47 ls [])) :
    ∀ (nn : Nat) (x2 : Int32) (x3 : Int32) (f_holds : Nat → Int32), wX51_asks_17 K47 x1.toInt (zF f_groups) (zF f_kinds) (zF f_as) (zF f_bs) (zF f_cs) nn x2.toInt x3.toInt (zF f_holds) → ∀ (H : Heap) (locs : List Loc) (ls : Array Slot), kH (dC, dI) cl A s.heap H locs (wX51 ci ad d f_groups f_kinds f_as f_bs f_cs f_conditions f_ranks f_denies f_wants f_rules f_holds) → lv_has ls 4 [(0, .ref (ad 0)), (1, .int x1), (2, .int x2), (3, .int x3)] → W p l e ({ frames := 3, cells := 0, slots := 0, locals := 74 } : Room) s m args below meth c H locs 0 0 (MQ below (va_Qi (fun (r : Int32) (u : (Nat → Int32)) => post r.toInt (zF (u))) (kB (dC, dI) cl (tX51 d) A (fun u : (Nat → Int32) => (wX51 ci ad d f_groups f_kinds f_as f_bs f_cs f_conditions f_ranks f_denies f_wants f_rules (u)))) A) args s 0 0 A) (F0 m 17 ls []) := by
  have hx := X.1.1
  have hb := X.1.2.1
  intro nn
  induction nn with
  | zero =>
    intro x2 x3 f_holds hw
    exact False.elim hw
  | succ n ih =>
    intro x2 x3 f_holds hw H locs ls hH hl
    rw [wX51_asks_17] at hw
    refine lv_iload_n hx hb dX51_asks_17 rfl (lv_at hl 3 rfl) ?_
    refine lv_sipush (v := 6144) hx hb dX51_asks_18 (by decide) ?_
    refine lv_icmp_ge (tgt := 47) hx hb dX51_asks_21 (by decide) (fun c_3 => ?_) (fun c_3 => ?_)
    · have hw := hw.1 (z_le (rfl : (6144 : Int32).toInt = 6144) (rfl : x3.toInt = _) c_3)
      exact hk47 x2 f_holds hw _ _ ls hH (lv_sub hl [2] rfl)
    · have hw := hw.2 (z_nle (rfl : (6144 : Int32).toInt = 6144) (rfl : x3.toInt = _) c_3)
      refine lv_iload_n hx hb dX51_asks_24 rfl (lv_at hl 2 rfl) ?_
      refine lv_aload_n hx hb dX51_asks_25 rfl (lv_at hl 0 rfl) ?_
      refine lv_iload_n hx hb dX51_asks_26 rfl (lv_at hl 1 rfl) ?_
      refine lv_iload_n hx hb dX51_asks_27 rfl (lv_at hl 3 rfl) ?_
      refine k_i0 hH (k_runV (As := [.int x1, .int x3]) (rest := [.int x2]) X hH.1 hH.2.1 X.2.2.2 (walkX51_isHeld hc (x1 := x1) (x2 := x3) (f_groups := f_groups) (f_kinds := f_kinds) (f_as := f_as) (f_bs := f_bs) (f_cs := f_cs) (f_conditions := f_conditions) (f_ranks := f_ranks) (f_denies := f_denies) (f_wants := f_wants) (f_rules := f_rules) (f_holds := f_holds) hw) (cwV 2 X.1.2.2.2.2 gX51_71 rfl rfl rfl hX51_isHeld ⟨Nat.le_of_ble_eq_true rfl, Nat.le_of_ble_eq_true rfl⟩) hc (q0 := 0) rfl rfl hl.1 rfl (Nat.le_of_ble_eq_true rfl) dX51_asks_28 ⟨Nat.le_refl 0, Nat.le_refl 0⟩) (fun r_4 u H locs hw hH => ?_)
      obtain ⟨f_holds_5, eu⟩ : ∃ z, z = u := ⟨_, rfl⟩
      subst eu
      have hH : kH (dC, dI) cl A s.heap H locs (wX51 ci ad d f_groups f_kinds f_as f_bs f_cs f_conditions f_ranks f_denies f_wants f_rules f_holds_5) := hH
      refine lv_if_eq (tgt := 38) hx hb dX51_asks_31 (by decide) (fun c_6 => ?_) (fun c_6 => ?_)
      · have hw := hw.1 (z_eq (rfl : r_4.toInt = _) (rfl : (0 : Int32).toInt = 0) c_6)
        refine lv_iconst (v := 0) hx hb dX51_asks_38 (by decide) ?_
        refine lv_iadd hx hb dX51_asks_39 ?_
        have e_7 := z_add (z_m (rfl : x2.toInt = _)) (z_m (rfl : (0 : Int32).toInt = 0))
        have hq_8 := hw.1
        have hw := hw.2
        have e_9 := z_x e_7 hq_8
        refine lv_topi (fun x2_10 ex2_10 => ?_)
        have hw := hw x2_10.toInt (by rw [ex2_10]; exact e_9)
        refine lv_istore_n (lv' := [(2, .int x2_10), (0, .ref (ad 0)), (1, .int x1), (3, .int x3)]) hx hb dX51_asks_40 rfl hl (by decide) rfl (fun ls hl => ?_)
        have hq_12 := hw.1
        have hw := hw.2
        obtain ⟨x3_11, ex3_11⟩ : ∃ y : Int32, y = x3 + 1 := ⟨_, rfl⟩
        have hw := hw x3_11.toInt (by rw [ex3_11]; exact (z_x (z_add (z_m (rfl : x3.toInt = _)) (z_m (rfl : (1 : Int32).toInt = 1))) hq_12))
        refine lv_iinc (v := x3_11) (lv' := [(3, .int x3_11), (2, .int x2_10), (0, .ref (ad 0)), (1, .int x1)]) hx hb dX51_asks_41 hl (k := 3) rfl (by rw [ex3_11]; rfl) (by decide) rfl (fun ls hl => ?_)
        refine lv_goto (tgt := 17) hx hb dX51_asks_44 (by decide) ?_
        exact ih x2_10 x3_11 f_holds_5 hw _ _ ls hH (lv_sub hl [2, 3, 1, 0] rfl)
      · have hw := hw.2 (z_neq (rfl : r_4.toInt = _) (rfl : (0 : Int32).toInt = 0) c_6)
        refine lv_iconst (v := 1) hx hb dX51_asks_34 (by decide) ?_
        refine lv_goto (tgt := 39) hx hb dX51_asks_35 (by decide) ?_
        refine lv_iadd hx hb dX51_asks_39 ?_
        have e_13 := z_add (z_m (rfl : x2.toInt = _)) (z_m (rfl : (1 : Int32).toInt = 1))
        have hq_14 := hw.1
        have hw := hw.2
        have e_15 := z_x e_13 hq_14
        refine lv_topi (fun x2_16 ex2_16 => ?_)
        have hw := hw x2_16.toInt (by rw [ex2_16]; exact e_15)
        refine lv_istore_n (lv' := [(2, .int x2_16), (0, .ref (ad 0)), (1, .int x1), (3, .int x3)]) hx hb dX51_asks_40 rfl hl (by decide) rfl (fun ls hl => ?_)
        have hq_18 := hw.1
        have hw := hw.2
        obtain ⟨x3_17, ex3_17⟩ : ∃ y : Int32, y = x3 + 1 := ⟨_, rfl⟩
        have hw := hw x3_17.toInt (by rw [ex3_17]; exact (z_x (z_add (z_m (rfl : x3.toInt = _)) (z_m (rfl : (1 : Int32).toInt = 1))) hq_18))
        refine lv_iinc (v := x3_17) (lv' := [(3, .int x3_17), (2, .int x2_16), (0, .ref (ad 0)), (1, .int x1)]) hx hb dX51_asks_41 hl (k := 3) rfl (by rw [ex3_17]; rfl) (by decide) rfl (fun ls hl => ?_)
        refine lv_goto (tgt := 17) hx hb dX51_asks_44 (by decide) ?_
        exact ih x2_16 x3_17 f_holds_5 hw _ _ ls hH (lv_sub hl [2, 3, 1, 0] rfl)
set_option maxHeartbeats 4000000 in
theorem walkX51_asks {l : Launch} {dC : Nat → ClassId} {dI : Nat → Nat → Nat} {cl : List vw_C} {ci : Nat} (hc : cl[ci]? = some (RX51, TX51, 11)) {ad : Nat → Nat} {d : Nat → ClassId} {sz : Nat} {f_groups : Nat → Int32} {f_kinds : Nat → Int32} {f_as : Nat → Int32} {f_bs : Nat → Int32} {f_cs : Nat → Int32} {f_conditions : Int32} {f_ranks : Nat → Int32} {f_denies : Nat → Int32} {f_wants : Nat → Int32} {f_rules : Int32} {f_holds : Nat → Int32} {x1 : Int32} {post : Int → (Int → Int) → Prop} (hw : wpX51_asks post (zF f_groups) (zF f_kinds) (zF f_as) (zF f_bs) (zF f_cs) f_conditions.toInt (zF f_holds) x1.toInt) :
    Met l yX51_asks (ws_ yX51_asks cX51_asks 4 (some .int)) ({ frames := 3, cells := 0, slots := 0, locals := 74 } : Room) (kPc (dC, dI) cl (tX51 d) [.ref (ad 0), .int x1] sz (wX51 ci ad d f_groups f_kinds f_as f_bs f_cs f_conditions f_ranks f_denies f_wants f_rules f_holds)) (va_Qi (fun (r : Int32) (u : (Nat → Int32)) => post r.toInt (zF (u))) (kB (dC, dI) cl (tX51 d) (va_A (wX51 ci ad d f_groups f_kinds f_as f_bs f_cs f_conditions f_ranks f_denies f_wants f_rules f_holds) sz) (fun u : (Nat → Int32) => (wX51 ci ad d f_groups f_kinds f_as f_bs f_cs f_conditions f_ranks f_denies f_wants f_rules (u)))) (va_A (wX51 ci ad d f_groups f_kinds f_as f_bs f_cs f_conditions f_ranks f_denies f_wants f_rules f_holds) sz)) 0 0 (va_A (wX51 ci ad d f_groups f_kinds f_as f_bs f_cs f_conditions f_ranks f_denies f_wants f_rules f_holds) sz) := by
  refine k_enter (by decide) (Nat.le_of_ble_eq_true rfl) ?_
  intro p e s m below meth c ls X hsz hH hl
  subst hsz
  generalize va_A (wX51 ci ad d f_groups f_kinds f_as f_bs f_cs f_conditions f_ranks f_denies f_wants f_rules f_holds) s.heap.size = A at hH ⊢
  have hx := X.1.1
  have hb := X.1.2.1
  have hl : lv_has ls 4 [(0, .ref (ad 0)), (1, .int x1)] := hl
  unfold wpX51_asks at hw
  refine lv_iload_n hx hb dX51_asks_0 rfl (lv_at hl 1 rfl) ?_
  refine lv_aload_n hx hb dX51_asks_1 rfl (lv_at hl 0 rfl) ?_
  refine k_get X hH in_X51 0 rfl hc 5 (by decide) q6347 rfl dX51_asks_2 ?_
  refine k_i0 hH (k_runS (As := [.int x1, .int f_conditions]) (rest := []) X hH.1 hH.2.1 X.2.2.2 (walkX51_in hc (x0 := x1) (x1 := f_conditions) (f_groups := f_groups) (f_kinds := f_kinds) (f_as := f_as) (f_bs := f_bs) (f_cs := f_cs) (f_conditions := f_conditions) (f_ranks := f_ranks) (f_denies := f_denies) (f_wants := f_wants) (f_rules := f_rules) (f_holds := f_holds) hw) (va_cwS 2 X.1.2.2.2.2 gX51_38 rfl rfl rfl hX51_in ⟨Nat.le_of_ble_eq_true rfl, Nat.le_of_ble_eq_true rfl⟩) rfl hl.1 rfl (Nat.le_of_ble_eq_true rfl) dX51_asks_5 ⟨Nat.le_refl 0, Nat.le_refl 0⟩) (fun r_1 _ H locs hw hH => ?_)
  have hH : kH (dC, dI) cl A s.heap H locs (wX51 ci ad d f_groups f_kinds f_as f_bs f_cs f_conditions f_ranks f_denies f_wants f_rules f_holds) := hH
  refine lv_if_ne (tgt := 13) hx hb dX51_asks_8 (by decide) (fun c_2 => ?_) (fun c_2 => ?_)
  · have hw := hw.2 (z_ne (rfl : r_1.toInt = _) (rfl : (0 : Int32).toInt = 0) c_2)
    refine lv_iconst (v := 0) hx hb dX51_asks_13 (by decide) ?_
    refine lv_istore_n (lv' := [(2, .int 0), (0, .ref (ad 0)), (1, .int x1)]) hx hb dX51_asks_14 rfl hl (by decide) rfl (fun ls hl => ?_)
    refine lv_iconst (v := 0) hx hb dX51_asks_15 (by decide) ?_
    refine lv_istore_n (lv' := [(3, .int 0), (2, .int 0), (0, .ref (ad 0)), (1, .int x1)]) hx hb dX51_asks_16 rfl hl (by decide) rfl (fun ls hl => ?_)
    obtain ⟨fu, hw⟩ := hw
    refine atX51_asks_17 hc X ?_ fu 0 0 f_holds hw _ _ ls hH (lv_sub hl [2, 3, 1, 0] rfl)
    · intro x2_19 f_holds_20 hw H locs ls hH hl
      refine lv_iload_n hx hb dX51_asks_47 rfl (lv_at hl 0 rfl) ?_
      exact k_iret (v := x2_19) X hH (f_holds_20) hw rfl rfl dX51_asks_48
  · have hw := hw.1 (z_eq (rfl : r_1.toInt = _) (rfl : (0 : Int32).toInt = 0) c_2)
    refine lv_iconst (v := (-1)) hx hb dX51_asks_11 (by decide) ?_
    exact k_iret (v := (-1)) X hH (f_holds) hw rfl rfl dX51_asks_12
set_option maxHeartbeats 4000000 in
theorem atX51_ask_18 {p : Program} {l : Launch} {e : Env} {s : State} {m : MethodId} {args : Array Value} {below : List Frame} {meth : Method} {c : Code} {dC : Nat → ClassId} {dI : Nat → Nat → Nat} {cl : List vw_C} {ci : Nat} (hc : cl[ci]? = some (RX51, TX51, 11)) {ad : Nat → Nat} {d : Nat → ClassId} {A : Nat → Prop} {post : Int → (Int → Int) → Prop} {f_groups : Nat → Int32} {f_kinds : Nat → Int32} {f_as : Nat → Int32} {f_bs : Nat → Int32} {f_cs : Nat → Int32} {f_conditions : Int32} {f_ranks : Nat → Int32} {f_denies : Nat → Int32} {f_wants : Nat → Int32} {f_rules : Int32} (X : kX p s m args meth c cX51_ask 5 RX51 (some .int) (dC, dI) cl (tX51 d)) {K47 : Int → (Int → Int) → Prop} {K59 : (Int → Int) → Prop} {x1 : Int32} {x2 : Int32}  (hk47 : ∀ (x4 : Int32) (f_holds : Nat → Int32), K47 x4.toInt (zF f_holds) → ∀ (H : Heap) (locs : List Loc) (ls : Array Slot), kH (dC, dI) cl A s.heap H locs (wX51 ci ad d f_groups f_kinds f_as f_bs f_cs f_conditions f_ranks f_denies f_wants f_rules f_holds) → lv_has ls 5 [(4, .int x4)] → W p l e ({ frames := 3, cells := 0, slots := 0, locals := 74 } : Room) s m args below meth c H locs 0 0 (MQ below (va_Qi (fun (r : Int32) (u : (Nat → Int32)) => post r.toInt (zF (u))) (kB (dC, dI) cl (tX51 d) A (fun u : (Nat → Int32) => (wX51 ci ad d f_groups f_kinds f_as f_bs f_cs f_conditions f_ranks f_denies f_wants f_rules (u)))) A) args s 0 0 A) (F0 m 47 ls [])) (hk59 : ∀ (f_holds : Nat → Int32), K59 (zF f_holds) → ∀ (H : Heap) (locs : List Loc) (ls : Array Slot), kH (dC, dI) cl A s.heap H locs (wX51 ci ad d f_groups f_kinds f_as f_bs f_cs f_conditions f_ranks f_denies f_wants f_rules f_holds) → lv_has ls 5 [] → W p l e ({ frames := 3, cells := 0, slots := 0, locals := 74 } : Room) s m args below meth c H locs 0 0 (MQ below (va_Qi (fun (r : Int32) (u : (Nat → Int32)) => post r.toInt (zF (u))) (kB (dC, dI) cl (tX51 d) A (fun u : (Nat → Int32) => (wX51 ci ad d f_groups f_kinds f_as f_bs f_cs f_conditions f_ranks f_denies f_wants f_rules (u)))) A) args s 0 0 A) (F0 m 59 ls [])) :
    ∀ (nn : Nat) (x3 : Int32) (x4 : Int32) (f_holds : Nat → Int32), wX51_ask_18 K47 K59 x1.toInt x2.toInt (zF f_groups) (zF f_kinds) (zF f_as) (zF f_bs) (zF f_cs) nn x3.toInt x4.toInt (zF f_holds) → ∀ (H : Heap) (locs : List Loc) (ls : Array Slot), kH (dC, dI) cl A s.heap H locs (wX51 ci ad d f_groups f_kinds f_as f_bs f_cs f_conditions f_ranks f_denies f_wants f_rules f_holds) → lv_has ls 5 [(0, .ref (ad 0)), (1, .int x1), (2, .int x2), (3, .int x3), (4, .int x4)] → W p l e ({ frames := 3, cells := 0, slots := 0, locals := 74 } : Room) s m args below meth c H locs 0 0 (MQ below (va_Qi (fun (r : Int32) (u : (Nat → Int32)) => post r.toInt (zF (u))) (kB (dC, dI) cl (tX51 d) A (fun u : (Nat → Int32) => (wX51 ci ad d f_groups f_kinds f_as f_bs f_cs f_conditions f_ranks f_denies f_wants f_rules (u)))) A) args s 0 0 A) (F0 m 18 ls []) := by
  have hx := X.1.1
  have hb := X.1.2.1
  intro nn
  induction nn with
  | zero =>
    intro x3 x4 f_holds hw
    exact False.elim hw
  | succ n ih =>
    intro x3 x4 f_holds hw H locs ls hH hl
    rw [wX51_ask_18] at hw
    refine lv_iload hx hb dX51_ask_18 (lv_at hl 4 rfl) ?_
    refine lv_sipush (v := 6144) hx hb dX51_ask_20 (by decide) ?_
    refine lv_icmp_ge (tgt := 59) hx hb dX51_ask_23 (by decide) (fun c_3 => ?_) (fun c_3 => ?_)
    · have hw := hw.1 (z_le (rfl : (6144 : Int32).toInt = 6144) (rfl : x4.toInt = _) c_3)
      exact hk59 f_holds hw _ _ ls hH (lv_sub hl [] rfl)
    · have hw := hw.2 (z_nle (rfl : (6144 : Int32).toInt = 6144) (rfl : x4.toInt = _) c_3)
      refine lv_iload_n hx hb dX51_ask_26 rfl (lv_at hl 2 rfl) ?_
      refine lv_if_lt (tgt := 59) hx hb dX51_ask_27 (by decide) (fun c_4 => ?_) (fun c_4 => ?_)
      · have hw := hw.1 (z_lt (rfl : x2.toInt = _) (rfl : (0 : Int32).toInt = 0) c_4)
        exact hk59 f_holds hw _ _ ls hH (lv_sub hl [] rfl)
      · have hw := hw.2 (z_nlt (rfl : x2.toInt = _) (rfl : (0 : Int32).toInt = 0) c_4)
        refine lv_aload_n hx hb dX51_ask_30 rfl (lv_at hl 0 rfl) ?_
        refine lv_iload_n hx hb dX51_ask_31 rfl (lv_at hl 1 rfl) ?_
        refine lv_iload hx hb dX51_ask_32 (lv_at hl 4 rfl) ?_
        refine k_i0 hH (k_runV (As := [.int x1, .int x4]) (rest := []) X hH.1 hH.2.1 X.2.2.2 (walkX51_isHeld hc (x1 := x1) (x2 := x4) (f_groups := f_groups) (f_kinds := f_kinds) (f_as := f_as) (f_bs := f_bs) (f_cs := f_cs) (f_conditions := f_conditions) (f_ranks := f_ranks) (f_denies := f_denies) (f_wants := f_wants) (f_rules := f_rules) (f_holds := f_holds) hw) (cwV 2 X.1.2.2.2.2 gX51_71 rfl rfl rfl hX51_isHeld ⟨Nat.le_of_ble_eq_true rfl, Nat.le_of_ble_eq_true rfl⟩) hc (q0 := 0) rfl rfl hl.1 rfl (Nat.le_of_ble_eq_true rfl) dX51_ask_34 ⟨Nat.le_refl 0, Nat.le_refl 0⟩) (fun r_5 u H locs hw hH => ?_)
        obtain ⟨f_holds_6, eu⟩ : ∃ z, z = u := ⟨_, rfl⟩
        subst eu
        have hH : kH (dC, dI) cl A s.heap H locs (wX51 ci ad d f_groups f_kinds f_as f_bs f_cs f_conditions f_ranks f_denies f_wants f_rules f_holds_6) := hH
        refine lv_if_ne (tgt := 43) hx hb dX51_ask_37 (by decide) (fun c_7 => ?_) (fun c_7 => ?_)
        · have hw := hw.2 (z_ne (rfl : r_5.toInt = _) (rfl : (0 : Int32).toInt = 0) c_7)
          refine lv_iload_n hx hb dX51_ask_43 rfl (lv_at hl 3 rfl) ?_
          refine lv_if_ne (tgt := 50) hx hb dX51_ask_44 (by decide) (fun c_8 => ?_) (fun c_8 => ?_)
          · have hw := hw.2 (z_ne (rfl : x3.toInt = _) (rfl : (0 : Int32).toInt = 0) c_8)
            have hq_10 := hw.1
            have hw := hw.2
            obtain ⟨x3_9, ex3_9⟩ : ∃ y : Int32, y = x3 + (-1) := ⟨_, rfl⟩
            have hw := hw x3_9.toInt (by rw [ex3_9]; exact (z_x (z_add (z_m (rfl : x3.toInt = _)) (z_m (rfl : ((-1) : Int32).toInt = (-1)))) hq_10))
            refine lv_iinc (v := x3_9) (lv' := [(3, .int x3_9), (0, .ref (ad 0)), (1, .int x1), (2, .int x2), (4, .int x4)]) hx hb dX51_ask_50 hl (k := 3) rfl (by rw [ex3_9]; rfl) (by decide) rfl (fun ls hl => ?_)
            have hq_12 := hw.1
            have hw := hw.2
            obtain ⟨x4_11, ex4_11⟩ : ∃ y : Int32, y = x4 + 1 := ⟨_, rfl⟩
            have hw := hw x4_11.toInt (by rw [ex4_11]; exact (z_x (z_add (z_m (rfl : x4.toInt = _)) (z_m (rfl : (1 : Int32).toInt = 1))) hq_12))
            refine lv_iinc (v := x4_11) (lv' := [(4, .int x4_11), (3, .int x3_9), (0, .ref (ad 0)), (1, .int x1), (2, .int x2)]) hx hb dX51_ask_53 hl (k := 4) rfl (by rw [ex4_11]; rfl) (by decide) rfl (fun ls hl => ?_)
            refine lv_goto (tgt := 18) hx hb dX51_ask_56 (by decide) ?_
            exact ih x3_9 x4_11 f_holds_6 hw _ _ ls hH (lv_sub hl [2, 3, 4, 1, 0] rfl)
          · have hw := hw.1 (z_eq (rfl : x3.toInt = _) (rfl : (0 : Int32).toInt = 0) c_8)
            exact hk47 x4 f_holds_6 hw _ _ ls hH (lv_sub hl [4] rfl)
        · have hw := hw.1 (z_eq (rfl : r_5.toInt = _) (rfl : (0 : Int32).toInt = 0) c_7)
          refine lv_goto (tgt := 53) hx hb dX51_ask_40 (by decide) ?_
          have hq_14 := hw.1
          have hw := hw.2
          obtain ⟨x4_13, ex4_13⟩ : ∃ y : Int32, y = x4 + 1 := ⟨_, rfl⟩
          have hw := hw x4_13.toInt (by rw [ex4_13]; exact (z_x (z_add (z_m (rfl : x4.toInt = _)) (z_m (rfl : (1 : Int32).toInt = 1))) hq_14))
          refine lv_iinc (v := x4_13) (lv' := [(4, .int x4_13), (0, .ref (ad 0)), (1, .int x1), (2, .int x2), (3, .int x3)]) hx hb dX51_ask_53 hl (k := 4) rfl (by rw [ex4_13]; rfl) (by decide) rfl (fun ls hl => ?_)
          refine lv_goto (tgt := 18) hx hb dX51_ask_56 (by decide) ?_
          exact ih x3 x4_13 f_holds_6 hw _ _ ls hH (lv_sub hl [1, 2, 3, 4, 0] rfl)
set_option maxHeartbeats 4000000 in
theorem walkX51_ask {l : Launch} {dC : Nat → ClassId} {dI : Nat → Nat → Nat} {cl : List vw_C} {ci : Nat} (hc : cl[ci]? = some (RX51, TX51, 11)) {ad : Nat → Nat} {d : Nat → ClassId} {sz : Nat} {f_groups : Nat → Int32} {f_kinds : Nat → Int32} {f_as : Nat → Int32} {f_bs : Nat → Int32} {f_cs : Nat → Int32} {f_conditions : Int32} {f_ranks : Nat → Int32} {f_denies : Nat → Int32} {f_wants : Nat → Int32} {f_rules : Int32} {f_holds : Nat → Int32} {x1 : Int32} {x2 : Int32} {post : Int → (Int → Int) → Prop} (hw : wpX51_ask post (zF f_groups) (zF f_kinds) (zF f_as) (zF f_bs) (zF f_cs) f_conditions.toInt (zF f_holds) x1.toInt x2.toInt) :
    Met l yX51_ask (ws_ yX51_ask cX51_ask 5 (some .int)) ({ frames := 3, cells := 0, slots := 0, locals := 74 } : Room) (kPc (dC, dI) cl (tX51 d) [.ref (ad 0), .int x1, .int x2] sz (wX51 ci ad d f_groups f_kinds f_as f_bs f_cs f_conditions f_ranks f_denies f_wants f_rules f_holds)) (va_Qi (fun (r : Int32) (u : (Nat → Int32)) => post r.toInt (zF (u))) (kB (dC, dI) cl (tX51 d) (va_A (wX51 ci ad d f_groups f_kinds f_as f_bs f_cs f_conditions f_ranks f_denies f_wants f_rules f_holds) sz) (fun u : (Nat → Int32) => (wX51 ci ad d f_groups f_kinds f_as f_bs f_cs f_conditions f_ranks f_denies f_wants f_rules (u)))) (va_A (wX51 ci ad d f_groups f_kinds f_as f_bs f_cs f_conditions f_ranks f_denies f_wants f_rules f_holds) sz)) 0 0 (va_A (wX51 ci ad d f_groups f_kinds f_as f_bs f_cs f_conditions f_ranks f_denies f_wants f_rules f_holds) sz) := by
  refine k_enter (by decide) (Nat.le_of_ble_eq_true rfl) ?_
  intro p e s m below meth c ls X hsz hH hl
  subst hsz
  generalize va_A (wX51 ci ad d f_groups f_kinds f_as f_bs f_cs f_conditions f_ranks f_denies f_wants f_rules f_holds) s.heap.size = A at hH ⊢
  have hx := X.1.1
  have hb := X.1.2.1
  have hl : lv_has ls 5 [(0, .ref (ad 0)), (1, .int x1), (2, .int x2)] := hl
  unfold wpX51_ask at hw
  refine lv_iload_n hx hb dX51_ask_0 rfl (lv_at hl 1 rfl) ?_
  refine lv_aload_n hx hb dX51_ask_1 rfl (lv_at hl 0 rfl) ?_
  refine k_get X hH in_X51 0 rfl hc 5 (by decide) q6347 rfl dX51_ask_2 ?_
  refine k_i0 hH (k_runS (As := [.int x1, .int f_conditions]) (rest := []) X hH.1 hH.2.1 X.2.2.2 (walkX51_in hc (x0 := x1) (x1 := f_conditions) (f_groups := f_groups) (f_kinds := f_kinds) (f_as := f_as) (f_bs := f_bs) (f_cs := f_cs) (f_conditions := f_conditions) (f_ranks := f_ranks) (f_denies := f_denies) (f_wants := f_wants) (f_rules := f_rules) (f_holds := f_holds) hw) (va_cwS 2 X.1.2.2.2.2 gX51_38 rfl rfl rfl hX51_in ⟨Nat.le_of_ble_eq_true rfl, Nat.le_of_ble_eq_true rfl⟩) rfl hl.1 rfl (Nat.le_of_ble_eq_true rfl) dX51_ask_5 ⟨Nat.le_refl 0, Nat.le_refl 0⟩) (fun r_1 _ H locs hw hH => ?_)
  have hH : kH (dC, dI) cl A s.heap H locs (wX51 ci ad d f_groups f_kinds f_as f_bs f_cs f_conditions f_ranks f_denies f_wants f_rules f_holds) := hH
  refine lv_if_ne (tgt := 13) hx hb dX51_ask_8 (by decide) (fun c_2 => ?_) (fun c_2 => ?_)
  · have hw := hw.2 (z_ne (rfl : r_1.toInt = _) (rfl : (0 : Int32).toInt = 0) c_2)
    refine lv_iload_n hx hb dX51_ask_13 rfl (lv_at hl 2 rfl) ?_
    refine lv_istore_n (lv' := [(3, .int x2), (0, .ref (ad 0)), (1, .int x1), (2, .int x2)]) hx hb dX51_ask_14 rfl hl (by decide) rfl (fun ls hl => ?_)
    refine lv_iconst (v := 0) hx hb dX51_ask_15 (by decide) ?_
    refine lv_istore (lv' := [(4, .int 0), (3, .int x2), (0, .ref (ad 0)), (1, .int x1), (2, .int x2)]) hx hb dX51_ask_16 hl (by decide) rfl (fun ls hl => ?_)
    obtain ⟨fu, hw⟩ := hw
    refine atX51_ask_18 hc X ?_ ?_ fu x2 0 f_holds hw _ _ ls hH (lv_sub hl [2, 3, 4, 1, 0] rfl)
    · intro x4_15 f_holds_16 hw H locs ls hH hl
      refine lv_iload hx hb dX51_ask_47 (lv_at hl 0 rfl) ?_
      exact k_iret (v := x4_15) X hH (f_holds_16) hw rfl rfl dX51_ask_49
    · intro f_holds_17 hw H locs ls hH hl
      refine lv_bipush (v := (-2)) hx hb dX51_ask_59 (by decide) ?_
      exact k_iret (v := (-2)) X hH (f_holds_17) hw rfl rfl dX51_ask_61
  · have hw := hw.1 (z_eq (rfl : r_1.toInt = _) (rfl : (0 : Int32).toInt = 0) c_2)
    refine lv_iconst (v := (-1)) hx hb dX51_ask_11 (by decide) ?_
    exact k_iret (v := (-1)) X hH (f_holds) hw rfl rfl dX51_ask_12
set_option maxHeartbeats 4000000 in
theorem atX51_within_26 {p : Program} {l : Launch} {e : Env} {s : State} {m : MethodId} {args : Array Value} {below : List Frame} {meth : Method} {c : Code} {dC : Nat → ClassId} {dI : Nat → Nat → Nat} {cl : List vw_C} {ci : Nat} (hc : cl[ci]? = some (RX51, TX51, 11)) {ad : Nat → Nat} {d : Nat → ClassId} {A : Nat → Prop} {post : Int → (Int → Int) → Prop} {f_groups : Nat → Int32} {f_kinds : Nat → Int32} {f_as : Nat → Int32} {f_bs : Nat → Int32} {f_cs : Nat → Int32} {f_conditions : Int32} {f_ranks : Nat → Int32} {f_denies : Nat → Int32} {f_wants : Nat → Int32} {f_rules : Int32} (X : kX p s m args meth c cX51_within 4 RX51 (some .int) (dC, dI) cl (tX51 d)) {K60 : (Int → Int) → Prop} {K68 : (Int → Int) → Prop} {x1 : Int32} {x2 : Int32}  (hk60 : ∀ (f_holds : Nat → Int32), K60 (zF f_holds) → ∀ (H : Heap) (locs : List Loc) (ls : Array Slot), kH (dC, dI) cl A s.heap H locs (wX51 ci ad d f_groups f_kinds f_as f_bs f_cs f_conditions f_ranks f_denies f_wants f_rules f_holds) → lv_has ls 4 [] → W p l e ({ frames := 2, cells := 0, slots := 0, locals := 52 } : Room) s m args below meth c H locs 0 0 (MQ below (va_Qi (fun (r : Int32) (u : (Nat → Int32)) => post r.toInt (zF (u))) (kB (dC, dI) cl (tX51 d) A (fun u : (Nat → Int32) => (wX51 ci ad d f_groups f_kinds f_as f_bs f_cs f_conditions f_ranks f_denies f_wants f_rules (u)))) A) args s 0 0 A) (F0 m 60 ls [])) (hk68 : ∀ (f_holds : Nat → Int32), K68 (zF f_holds) → ∀ (H : Heap) (locs : List Loc) (ls : Array Slot), kH (dC, dI) cl A s.heap H locs (wX51 ci ad d f_groups f_kinds f_as f_bs f_cs f_conditions f_ranks f_denies f_wants f_rules f_holds) → lv_has ls 4 [] → W p l e ({ frames := 2, cells := 0, slots := 0, locals := 52 } : Room) s m args below meth c H locs 0 0 (MQ below (va_Qi (fun (r : Int32) (u : (Nat → Int32)) => post r.toInt (zF (u))) (kB (dC, dI) cl (tX51 d) A (fun u : (Nat → Int32) => (wX51 ci ad d f_groups f_kinds f_as f_bs f_cs f_conditions f_ranks f_denies f_wants f_rules (u)))) A) args s 0 0 A) (F0 m 68 ls [])) :
    ∀ (nn : Nat) (x3 : Int32) (f_holds : Nat → Int32), wX51_within_26 K60 K68 x1.toInt x2.toInt (zF f_groups) (zF f_kinds) (zF f_as) (zF f_bs) (zF f_cs) f_conditions.toInt nn x3.toInt (zF f_holds) → ∀ (H : Heap) (locs : List Loc) (ls : Array Slot), kH (dC, dI) cl A s.heap H locs (wX51 ci ad d f_groups f_kinds f_as f_bs f_cs f_conditions f_ranks f_denies f_wants f_rules f_holds) → lv_has ls 4 [(0, .ref (ad 0)), (1, .int x1), (2, .int x2), (3, .int x3)] → W p l e ({ frames := 2, cells := 0, slots := 0, locals := 52 } : Room) s m args below meth c H locs 0 0 (MQ below (va_Qi (fun (r : Int32) (u : (Nat → Int32)) => post r.toInt (zF (u))) (kB (dC, dI) cl (tX51 d) A (fun u : (Nat → Int32) => (wX51 ci ad d f_groups f_kinds f_as f_bs f_cs f_conditions f_ranks f_denies f_wants f_rules (u)))) A) args s 0 0 A) (F0 m 26 ls []) := by
  have hx := X.1.1
  have hb := X.1.2.1
  intro nn
  induction nn with
  | zero =>
    intro x3 f_holds hw
    exact False.elim hw
  | succ n ih =>
    intro x3 f_holds hw H locs ls hH hl
    rw [wX51_within_26] at hw
    refine lv_iload_n hx hb dX51_within_26 rfl (lv_at hl 3 rfl) ?_
    refine lv_sipush (v := 6144) hx hb dX51_within_27 (by decide) ?_
    refine lv_icmp_ge (tgt := 68) hx hb dX51_within_30 (by decide) (fun c_5 => ?_) (fun c_5 => ?_)
    · have hw := hw.1 (z_le (rfl : (6144 : Int32).toInt = 6144) (rfl : x3.toInt = _) c_5)
      exact hk68 f_holds hw _ _ ls hH (lv_sub hl [] rfl)
    · have hw := hw.2 (z_nle (rfl : (6144 : Int32).toInt = 6144) (rfl : x3.toInt = _) c_5)
      refine lv_aload_n hx hb dX51_within_33 rfl (lv_at hl 0 rfl) ?_
      refine lv_iload_n hx hb dX51_within_34 rfl (lv_at hl 3 rfl) ?_
      refine lv_aload_n hx hb dX51_within_35 rfl (lv_at hl 0 rfl) ?_
      refine k_get X hH in_X51 0 rfl hc 5 (by decide) q6347 rfl dX51_within_36 ?_
      refine k_v0 hH (k_runV (As := [.int x3, .int f_conditions]) (rest := []) X hH.1 hH.2.1 X.2.2.2 (walkX51_look hc (x1 := x3) (x2 := f_conditions) (f_groups := f_groups) (f_kinds := f_kinds) (f_as := f_as) (f_bs := f_bs) (f_cs := f_cs) (f_conditions := f_conditions) (f_ranks := f_ranks) (f_denies := f_denies) (f_wants := f_wants) (f_rules := f_rules) (f_holds := f_holds) hw) (cwV 2 X.1.2.2.2.2 gX51_60 rfl rfl rfl hX51_look ⟨Nat.le_of_ble_eq_true rfl, Nat.le_of_ble_eq_true rfl⟩) hc (q0 := 0) rfl rfl hl.1 rfl (Nat.le_of_ble_eq_true rfl) dX51_within_39 ⟨Nat.le_refl 0, Nat.le_refl 0⟩) (fun u H locs hw hH => ?_)
      obtain ⟨f_holds_6, eu⟩ : ∃ z, z = u := ⟨_, rfl⟩
      subst eu
      have hH : kH (dC, dI) cl A s.heap H locs (wX51 ci ad d f_groups f_kinds f_as f_bs f_cs f_conditions f_ranks f_denies f_wants f_rules f_holds_6) := hH
      refine lv_aload_n hx hb dX51_within_42 rfl (lv_at hl 0 rfl) ?_
      refine k_get X hH in_X51 0 rfl hc 10 (by decide) q6352 rfl dX51_within_43 ?_
      refine lv_iload_n hx hb dX51_within_46 rfl (lv_at hl 1 rfl) ?_
      have hq_7 := hw.1
      have hw := hw.2
      refine k_zald X hH 9 8 rfl rfl (z_in (rfl : x1.toInt = _) hq_7) dX51_within_47 ?_
      have e_8 := z_ld (f := f_holds_6) (rfl : x1.toInt = _) hq_7.1
      refine lv_if_eq (tgt := 62) hx hb dX51_within_48 (by decide) (fun c_9 => ?_) (fun c_9 => ?_)
      · have hw := hw.1 (z_eq e_8 (rfl : (0 : Int32).toInt = 0) c_9)
        have hq_11 := hw.1
        have hw := hw.2
        obtain ⟨x3_10, ex3_10⟩ : ∃ y : Int32, y = x3 + 1 := ⟨_, rfl⟩
        have hw := hw x3_10.toInt (by rw [ex3_10]; exact (z_x (z_add (z_m (rfl : x3.toInt = _)) (z_m (rfl : (1 : Int32).toInt = 1))) hq_11))
        refine lv_iinc (v := x3_10) (lv' := [(3, .int x3_10), (0, .ref (ad 0)), (1, .int x1), (2, .int x2)]) hx hb dX51_within_62 hl (k := 3) rfl (by rw [ex3_10]; rfl) (by decide) rfl (fun ls hl => ?_)
        refine lv_goto (tgt := 26) hx hb dX51_within_65 (by decide) ?_
        exact ih x3_10 f_holds_6 hw _ _ ls hH (lv_sub hl [1, 2, 3, 0] rfl)
      · have hw := hw.2 (z_neq e_8 (rfl : (0 : Int32).toInt = 0) c_9)
        refine lv_aload_n hx hb dX51_within_51 rfl (lv_at hl 0 rfl) ?_
        refine k_get X hH in_X51 0 rfl hc 10 (by decide) q6352 rfl dX51_within_52 ?_
        refine lv_iload_n hx hb dX51_within_55 rfl (lv_at hl 2 rfl) ?_
        have hq_12 := hw.1
        have hw := hw.2
        refine k_zald X hH 9 8 rfl rfl (z_in (rfl : x2.toInt = _) hq_12) dX51_within_56 ?_
        have e_13 := z_ld (f := f_holds_6) (rfl : x2.toInt = _) hq_12.1
        refine lv_if_ne (tgt := 62) hx hb dX51_within_57 (by decide) (fun c_14 => ?_) (fun c_14 => ?_)
        · have hw := hw.2 (z_ne e_13 (rfl : (0 : Int32).toInt = 0) c_14)
          have hq_16 := hw.1
          have hw := hw.2
          obtain ⟨x3_15, ex3_15⟩ : ∃ y : Int32, y = x3 + 1 := ⟨_, rfl⟩
          have hw := hw x3_15.toInt (by rw [ex3_15]; exact (z_x (z_add (z_m (rfl : x3.toInt = _)) (z_m (rfl : (1 : Int32).toInt = 1))) hq_16))
          refine lv_iinc (v := x3_15) (lv' := [(3, .int x3_15), (0, .ref (ad 0)), (1, .int x1), (2, .int x2)]) hx hb dX51_within_62 hl (k := 3) rfl (by rw [ex3_15]; rfl) (by decide) rfl (fun ls hl => ?_)
          refine lv_goto (tgt := 26) hx hb dX51_within_65 (by decide) ?_
          exact ih x3_15 f_holds_6 hw _ _ ls hH (lv_sub hl [1, 2, 3, 0] rfl)
        · have hw := hw.1 (z_eq e_13 (rfl : (0 : Int32).toInt = 0) c_14)
          exact hk60 f_holds_6 hw _ _ ls hH (lv_sub hl [] rfl)
set_option maxHeartbeats 4000000 in
theorem walkX51_within {l : Launch} {dC : Nat → ClassId} {dI : Nat → Nat → Nat} {cl : List vw_C} {ci : Nat} (hc : cl[ci]? = some (RX51, TX51, 11)) {ad : Nat → Nat} {d : Nat → ClassId} {sz : Nat} {f_groups : Nat → Int32} {f_kinds : Nat → Int32} {f_as : Nat → Int32} {f_bs : Nat → Int32} {f_cs : Nat → Int32} {f_conditions : Int32} {f_ranks : Nat → Int32} {f_denies : Nat → Int32} {f_wants : Nat → Int32} {f_rules : Int32} {f_holds : Nat → Int32} {x1 : Int32} {x2 : Int32} {post : Int → (Int → Int) → Prop} (hw : wpX51_within post (zF f_groups) (zF f_kinds) (zF f_as) (zF f_bs) (zF f_cs) f_conditions.toInt (zF f_holds) x1.toInt x2.toInt) :
    Met l yX51_within (ws_ yX51_within cX51_within 4 (some .int)) ({ frames := 2, cells := 0, slots := 0, locals := 52 } : Room) (kPc (dC, dI) cl (tX51 d) [.ref (ad 0), .int x1, .int x2] sz (wX51 ci ad d f_groups f_kinds f_as f_bs f_cs f_conditions f_ranks f_denies f_wants f_rules f_holds)) (va_Qi (fun (r : Int32) (u : (Nat → Int32)) => post r.toInt (zF (u))) (kB (dC, dI) cl (tX51 d) (va_A (wX51 ci ad d f_groups f_kinds f_as f_bs f_cs f_conditions f_ranks f_denies f_wants f_rules f_holds) sz) (fun u : (Nat → Int32) => (wX51 ci ad d f_groups f_kinds f_as f_bs f_cs f_conditions f_ranks f_denies f_wants f_rules (u)))) (va_A (wX51 ci ad d f_groups f_kinds f_as f_bs f_cs f_conditions f_ranks f_denies f_wants f_rules f_holds) sz)) 0 0 (va_A (wX51 ci ad d f_groups f_kinds f_as f_bs f_cs f_conditions f_ranks f_denies f_wants f_rules f_holds) sz) := by
  refine k_enter (by decide) (Nat.le_of_ble_eq_true rfl) ?_
  intro p e s m below meth c ls X hsz hH hl
  subst hsz
  generalize va_A (wX51 ci ad d f_groups f_kinds f_as f_bs f_cs f_conditions f_ranks f_denies f_wants f_rules f_holds) s.heap.size = A at hH ⊢
  have hx := X.1.1
  have hb := X.1.2.1
  have hl : lv_has ls 4 [(0, .ref (ad 0)), (1, .int x1), (2, .int x2)] := hl
  unfold wpX51_within at hw
  refine lv_iload_n hx hb dX51_within_0 rfl (lv_at hl 1 rfl) ?_
  refine lv_aload_n hx hb dX51_within_1 rfl (lv_at hl 0 rfl) ?_
  refine k_get X hH in_X51 0 rfl hc 5 (by decide) q6347 rfl dX51_within_2 ?_
  refine k_i0 hH (k_runS (As := [.int x1, .int f_conditions]) (rest := []) X hH.1 hH.2.1 X.2.2.2 (walkX51_in hc (x0 := x1) (x1 := f_conditions) (f_groups := f_groups) (f_kinds := f_kinds) (f_as := f_as) (f_bs := f_bs) (f_cs := f_cs) (f_conditions := f_conditions) (f_ranks := f_ranks) (f_denies := f_denies) (f_wants := f_wants) (f_rules := f_rules) (f_holds := f_holds) hw) (va_cwS 2 X.1.2.2.2.2 gX51_38 rfl rfl rfl hX51_in ⟨Nat.le_of_ble_eq_true rfl, Nat.le_of_ble_eq_true rfl⟩) rfl hl.1 rfl (Nat.le_of_ble_eq_true rfl) dX51_within_5 ⟨Nat.le_refl 0, Nat.le_refl 0⟩) (fun r_1 _ H locs hw hH => ?_)
  have hH : kH (dC, dI) cl A s.heap H locs (wX51 ci ad d f_groups f_kinds f_as f_bs f_cs f_conditions f_ranks f_denies f_wants f_rules f_holds) := hH
  refine lv_if_eq (tgt := 22) hx hb dX51_within_8 (by decide) (fun c_2 => ?_) (fun c_2 => ?_)
  · have hw := hw.1 (z_eq (rfl : r_1.toInt = _) (rfl : (0 : Int32).toInt = 0) c_2)
    refine lv_iconst (v := (-1)) hx hb dX51_within_22 (by decide) ?_
    exact k_iret (v := (-1)) X hH (f_holds) hw rfl rfl dX51_within_23
  · have hw := hw.2 (z_neq (rfl : r_1.toInt = _) (rfl : (0 : Int32).toInt = 0) c_2)
    refine lv_iload_n hx hb dX51_within_11 rfl (lv_at hl 2 rfl) ?_
    refine lv_aload_n hx hb dX51_within_12 rfl (lv_at hl 0 rfl) ?_
    refine k_get X hH in_X51 0 rfl hc 5 (by decide) q6347 rfl dX51_within_13 ?_
    refine k_i0 hH (k_runS (As := [.int x2, .int f_conditions]) (rest := []) X hH.1 hH.2.1 X.2.2.2 (walkX51_in hc (x0 := x2) (x1 := f_conditions) (f_groups := f_groups) (f_kinds := f_kinds) (f_as := f_as) (f_bs := f_bs) (f_cs := f_cs) (f_conditions := f_conditions) (f_ranks := f_ranks) (f_denies := f_denies) (f_wants := f_wants) (f_rules := f_rules) (f_holds := f_holds) hw) (va_cwS 2 X.1.2.2.2.2 gX51_38 rfl rfl rfl hX51_in ⟨Nat.le_of_ble_eq_true rfl, Nat.le_of_ble_eq_true rfl⟩) rfl hl.1 rfl (Nat.le_of_ble_eq_true rfl) dX51_within_16 ⟨Nat.le_refl 0, Nat.le_refl 0⟩) (fun r_3 _ H locs hw hH => ?_)
    have hH : kH (dC, dI) cl A s.heap H locs (wX51 ci ad d f_groups f_kinds f_as f_bs f_cs f_conditions f_ranks f_denies f_wants f_rules f_holds) := hH
    refine lv_if_ne (tgt := 24) hx hb dX51_within_19 (by decide) (fun c_4 => ?_) (fun c_4 => ?_)
    · have hw := hw.2 (z_ne (rfl : r_3.toInt = _) (rfl : (0 : Int32).toInt = 0) c_4)
      refine lv_iconst (v := 0) hx hb dX51_within_24 (by decide) ?_
      refine lv_istore_n (lv' := [(3, .int 0), (0, .ref (ad 0)), (1, .int x1), (2, .int x2)]) hx hb dX51_within_25 rfl hl (by decide) rfl (fun ls hl => ?_)
      obtain ⟨fu, hw⟩ := hw
      refine atX51_within_26 hc X ?_ ?_ fu 0 f_holds hw _ _ ls hH (lv_sub hl [1, 2, 3, 0] rfl)
      · intro f_holds_17 hw H locs ls hH hl
        refine lv_iconst (v := 0) hx hb dX51_within_60 (by decide) ?_
        exact k_iret (v := 0) X hH (f_holds_17) hw rfl rfl dX51_within_61
      · intro f_holds_18 hw H locs ls hH hl
        refine lv_iconst (v := 1) hx hb dX51_within_68 (by decide) ?_
        exact k_iret (v := 1) X hH (f_holds_18) hw rfl rfl dX51_within_69
    · have hw := hw.1 (z_eq (rfl : r_3.toInt = _) (rfl : (0 : Int32).toInt = 0) c_4)
      refine lv_iconst (v := (-1)) hx hb dX51_within_22 (by decide) ?_
      exact k_iret (v := (-1)) X hH (f_holds) hw rfl rfl dX51_within_23
set_option maxHeartbeats 4000000 in
theorem atX51_decides_17 {p : Program} {l : Launch} {e : Env} {s : State} {m : MethodId} {args : Array Value} {below : List Frame} {meth : Method} {c : Code} {dC : Nat → ClassId} {dI : Nat → Nat → Nat} {cl : List vw_C} {ci : Nat} (hc : cl[ci]? = some (RX51, TX51, 11)) {ad : Nat → Nat} {d : Nat → ClassId} {A : Nat → Prop} {post : Int → (Int → Int) → Prop} {f_groups : Nat → Int32} {f_kinds : Nat → Int32} {f_as : Nat → Int32} {f_bs : Nat → Int32} {f_cs : Nat → Int32} {f_conditions : Int32} {f_ranks : Nat → Int32} {f_denies : Nat → Int32} {f_wants : Nat → Int32} {f_rules : Int32} (X : kX p s m args meth c cX51_decides 4 RX51 (some .int) (dC, dI) cl (tX51 d)) {K48 : Int → (Int → Int) → Prop} {x1 : Int32}  (hk48 : ∀ (x2 : Int32) (f_holds : Nat → Int32), K48 x2.toInt (zF f_holds) → ∀ (H : Heap) (locs : List Loc) (ls : Array Slot), kH (dC, dI) cl A s.heap H locs (wX51 ci ad d f_groups f_kinds f_as f_bs f_cs f_conditions f_ranks f_denies f_wants f_rules f_holds) → lv_has ls 4 [(2, .int x2)] → W p l e ({ frames := 3, cells := 0, slots := 0, locals := 74 } : Room) s m args below meth c H locs 0 0 (MQ below (va_Qi (fun (r : Int32) (u : (Nat → Int32)) => post r.toInt (zF (u))) (kB (dC, dI) cl (tX51 d) A (fun u : (Nat → Int32) => (wX51 ci ad d f_groups f_kinds f_as f_bs f_cs f_conditions f_ranks f_denies f_wants f_rules (u)))) A) args s 0 0 A) (F0 m 48 ls [])) :
    ∀ (nn : Nat) (x2 : Int32) (x3 : Int32) (f_holds : Nat → Int32), wX51_decides_17 K48 x1.toInt (zF f_groups) (zF f_kinds) (zF f_as) (zF f_bs) (zF f_cs) f_conditions.toInt (zF f_ranks) (zF f_denies) (zF f_wants) f_rules.toInt nn x2.toInt x3.toInt (zF f_holds) → ∀ (H : Heap) (locs : List Loc) (ls : Array Slot), kH (dC, dI) cl A s.heap H locs (wX51 ci ad d f_groups f_kinds f_as f_bs f_cs f_conditions f_ranks f_denies f_wants f_rules f_holds) → lv_has ls 4 [(0, .ref (ad 0)), (1, .int x1), (2, .int x2), (3, .int x3)] → W p l e ({ frames := 3, cells := 0, slots := 0, locals := 74 } : Room) s m args below meth c H locs 0 0 (MQ below (va_Qi (fun (r : Int32) (u : (Nat → Int32)) => post r.toInt (zF (u))) (kB (dC, dI) cl (tX51 d) A (fun u : (Nat → Int32) => (wX51 ci ad d f_groups f_kinds f_as f_bs f_cs f_conditions f_ranks f_denies f_wants f_rules (u)))) A) args s 0 0 A) (F0 m 17 ls []) := by
  have hx := X.1.1
  have hb := X.1.2.1
  intro nn
  induction nn with
  | zero =>
    intro x2 x3 f_holds hw
    exact False.elim hw
  | succ n ih =>
    intro x2 x3 f_holds hw H locs ls hH hl
    rw [wX51_decides_17] at hw
    refine lv_iload_n hx hb dX51_decides_17 rfl (lv_at hl 3 rfl) ?_
    refine lv_sipush (v := 6144) hx hb dX51_decides_18 (by decide) ?_
    refine lv_icmp_ge (tgt := 48) hx hb dX51_decides_21 (by decide) (fun c_3 => ?_) (fun c_3 => ?_)
    · have hw := hw.1 (z_le (rfl : (6144 : Int32).toInt = 6144) (rfl : x3.toInt = _) c_3)
      exact hk48 x2 f_holds hw _ _ ls hH (lv_sub hl [2] rfl)
    · have hw := hw.2 (z_nle (rfl : (6144 : Int32).toInt = 6144) (rfl : x3.toInt = _) c_3)
      refine lv_iload_n hx hb dX51_decides_24 rfl (lv_at hl 2 rfl) ?_
      refine lv_aload_n hx hb dX51_decides_25 rfl (lv_at hl 0 rfl) ?_
      refine lv_iload_n hx hb dX51_decides_26 rfl (lv_at hl 3 rfl) ?_
      refine lv_iconst (v := (-1)) hx hb dX51_decides_27 (by decide) ?_
      refine k_i0 hH (k_runV (As := [.int x3, .int ((-1))]) (rest := [.int x2]) X hH.1 hH.2.1 X.2.2.2 (walkX51_decider hc (x1 := x3) (x2 := (-1)) (f_groups := f_groups) (f_kinds := f_kinds) (f_as := f_as) (f_bs := f_bs) (f_cs := f_cs) (f_conditions := f_conditions) (f_ranks := f_ranks) (f_denies := f_denies) (f_wants := f_wants) (f_rules := f_rules) (f_holds := f_holds) hw) (cwV 2 X.1.2.2.2.2 gX51_67 rfl rfl rfl hX51_decider ⟨Nat.le_of_ble_eq_true rfl, Nat.le_of_ble_eq_true rfl⟩) hc (q0 := 0) rfl rfl hl.1 rfl (Nat.le_of_ble_eq_true rfl) dX51_decides_28 ⟨Nat.le_refl 0, Nat.le_refl 0⟩) (fun r_4 u H locs hw hH => ?_)
      obtain ⟨f_holds_5, eu⟩ : ∃ z, z = u := ⟨_, rfl⟩
      subst eu
      have hH : kH (dC, dI) cl A s.heap H locs (wX51 ci ad d f_groups f_kinds f_as f_bs f_cs f_conditions f_ranks f_denies f_wants f_rules f_holds_5) := hH
      refine lv_iload_n hx hb dX51_decides_31 rfl (lv_at hl 1 rfl) ?_
      refine lv_icmp_ne (tgt := 39) hx hb dX51_decides_32 (by decide) (fun c_6 => ?_) (fun c_6 => ?_)
      · have hw := hw.2 (z_ne (rfl : r_4.toInt = _) (rfl : x1.toInt = _) c_6)
        refine lv_iconst (v := 0) hx hb dX51_decides_39 (by decide) ?_
        refine lv_iadd hx hb dX51_decides_40 ?_
        have e_7 := z_add (z_m (rfl : x2.toInt = _)) (z_m (rfl : (0 : Int32).toInt = 0))
        have hq_8 := hw.1
        have hw := hw.2
        have e_9 := z_x e_7 hq_8
        refine lv_topi (fun x2_10 ex2_10 => ?_)
        have hw := hw x2_10.toInt (by rw [ex2_10]; exact e_9)
        refine lv_istore_n (lv' := [(2, .int x2_10), (0, .ref (ad 0)), (1, .int x1), (3, .int x3)]) hx hb dX51_decides_41 rfl hl (by decide) rfl (fun ls hl => ?_)
        have hq_12 := hw.1
        have hw := hw.2
        obtain ⟨x3_11, ex3_11⟩ : ∃ y : Int32, y = x3 + 1 := ⟨_, rfl⟩
        have hw := hw x3_11.toInt (by rw [ex3_11]; exact (z_x (z_add (z_m (rfl : x3.toInt = _)) (z_m (rfl : (1 : Int32).toInt = 1))) hq_12))
        refine lv_iinc (v := x3_11) (lv' := [(3, .int x3_11), (2, .int x2_10), (0, .ref (ad 0)), (1, .int x1)]) hx hb dX51_decides_42 hl (k := 3) rfl (by rw [ex3_11]; rfl) (by decide) rfl (fun ls hl => ?_)
        refine lv_goto (tgt := 17) hx hb dX51_decides_45 (by decide) ?_
        exact ih x2_10 x3_11 f_holds_5 hw _ _ ls hH (lv_sub hl [2, 3, 1, 0] rfl)
      · have hw := hw.1 (z_eq (rfl : r_4.toInt = _) (rfl : x1.toInt = _) c_6)
        refine lv_iconst (v := 1) hx hb dX51_decides_35 (by decide) ?_
        refine lv_goto (tgt := 40) hx hb dX51_decides_36 (by decide) ?_
        refine lv_iadd hx hb dX51_decides_40 ?_
        have e_13 := z_add (z_m (rfl : x2.toInt = _)) (z_m (rfl : (1 : Int32).toInt = 1))
        have hq_14 := hw.1
        have hw := hw.2
        have e_15 := z_x e_13 hq_14
        refine lv_topi (fun x2_16 ex2_16 => ?_)
        have hw := hw x2_16.toInt (by rw [ex2_16]; exact e_15)
        refine lv_istore_n (lv' := [(2, .int x2_16), (0, .ref (ad 0)), (1, .int x1), (3, .int x3)]) hx hb dX51_decides_41 rfl hl (by decide) rfl (fun ls hl => ?_)
        have hq_18 := hw.1
        have hw := hw.2
        obtain ⟨x3_17, ex3_17⟩ : ∃ y : Int32, y = x3 + 1 := ⟨_, rfl⟩
        have hw := hw x3_17.toInt (by rw [ex3_17]; exact (z_x (z_add (z_m (rfl : x3.toInt = _)) (z_m (rfl : (1 : Int32).toInt = 1))) hq_18))
        refine lv_iinc (v := x3_17) (lv' := [(3, .int x3_17), (2, .int x2_16), (0, .ref (ad 0)), (1, .int x1)]) hx hb dX51_decides_42 hl (k := 3) rfl (by rw [ex3_17]; rfl) (by decide) rfl (fun ls hl => ?_)
        refine lv_goto (tgt := 17) hx hb dX51_decides_45 (by decide) ?_
        exact ih x2_16 x3_17 f_holds_5 hw _ _ ls hH (lv_sub hl [2, 3, 1, 0] rfl)
set_option maxHeartbeats 4000000 in
theorem walkX51_decides {l : Launch} {dC : Nat → ClassId} {dI : Nat → Nat → Nat} {cl : List vw_C} {ci : Nat} (hc : cl[ci]? = some (RX51, TX51, 11)) {ad : Nat → Nat} {d : Nat → ClassId} {sz : Nat} {f_groups : Nat → Int32} {f_kinds : Nat → Int32} {f_as : Nat → Int32} {f_bs : Nat → Int32} {f_cs : Nat → Int32} {f_conditions : Int32} {f_ranks : Nat → Int32} {f_denies : Nat → Int32} {f_wants : Nat → Int32} {f_rules : Int32} {f_holds : Nat → Int32} {x1 : Int32} {post : Int → (Int → Int) → Prop} (hw : wpX51_decides post (zF f_groups) (zF f_kinds) (zF f_as) (zF f_bs) (zF f_cs) f_conditions.toInt (zF f_ranks) (zF f_denies) (zF f_wants) f_rules.toInt (zF f_holds) x1.toInt) :
    Met l yX51_decides (ws_ yX51_decides cX51_decides 4 (some .int)) ({ frames := 3, cells := 0, slots := 0, locals := 74 } : Room) (kPc (dC, dI) cl (tX51 d) [.ref (ad 0), .int x1] sz (wX51 ci ad d f_groups f_kinds f_as f_bs f_cs f_conditions f_ranks f_denies f_wants f_rules f_holds)) (va_Qi (fun (r : Int32) (u : (Nat → Int32)) => post r.toInt (zF (u))) (kB (dC, dI) cl (tX51 d) (va_A (wX51 ci ad d f_groups f_kinds f_as f_bs f_cs f_conditions f_ranks f_denies f_wants f_rules f_holds) sz) (fun u : (Nat → Int32) => (wX51 ci ad d f_groups f_kinds f_as f_bs f_cs f_conditions f_ranks f_denies f_wants f_rules (u)))) (va_A (wX51 ci ad d f_groups f_kinds f_as f_bs f_cs f_conditions f_ranks f_denies f_wants f_rules f_holds) sz)) 0 0 (va_A (wX51 ci ad d f_groups f_kinds f_as f_bs f_cs f_conditions f_ranks f_denies f_wants f_rules f_holds) sz) := by
  refine k_enter (by decide) (Nat.le_of_ble_eq_true rfl) ?_
  intro p e s m below meth c ls X hsz hH hl
  subst hsz
  generalize va_A (wX51 ci ad d f_groups f_kinds f_as f_bs f_cs f_conditions f_ranks f_denies f_wants f_rules f_holds) s.heap.size = A at hH ⊢
  have hx := X.1.1
  have hb := X.1.2.1
  have hl : lv_has ls 4 [(0, .ref (ad 0)), (1, .int x1)] := hl
  unfold wpX51_decides at hw
  refine lv_iload_n hx hb dX51_decides_0 rfl (lv_at hl 1 rfl) ?_
  refine lv_aload_n hx hb dX51_decides_1 rfl (lv_at hl 0 rfl) ?_
  refine k_get X hH in_X51 0 rfl hc 9 (by decide) q6351 rfl dX51_decides_2 ?_
  refine k_i0 hH (k_runS (As := [.int x1, .int f_rules]) (rest := []) X hH.1 hH.2.1 X.2.2.2 (walkX51_in hc (x0 := x1) (x1 := f_rules) (f_groups := f_groups) (f_kinds := f_kinds) (f_as := f_as) (f_bs := f_bs) (f_cs := f_cs) (f_conditions := f_conditions) (f_ranks := f_ranks) (f_denies := f_denies) (f_wants := f_wants) (f_rules := f_rules) (f_holds := f_holds) hw) (va_cwS 2 X.1.2.2.2.2 gX51_38 rfl rfl rfl hX51_in ⟨Nat.le_of_ble_eq_true rfl, Nat.le_of_ble_eq_true rfl⟩) rfl hl.1 rfl (Nat.le_of_ble_eq_true rfl) dX51_decides_5 ⟨Nat.le_refl 0, Nat.le_refl 0⟩) (fun r_1 _ H locs hw hH => ?_)
  have hH : kH (dC, dI) cl A s.heap H locs (wX51 ci ad d f_groups f_kinds f_as f_bs f_cs f_conditions f_ranks f_denies f_wants f_rules f_holds) := hH
  refine lv_if_ne (tgt := 13) hx hb dX51_decides_8 (by decide) (fun c_2 => ?_) (fun c_2 => ?_)
  · have hw := hw.2 (z_ne (rfl : r_1.toInt = _) (rfl : (0 : Int32).toInt = 0) c_2)
    refine lv_iconst (v := 0) hx hb dX51_decides_13 (by decide) ?_
    refine lv_istore_n (lv' := [(2, .int 0), (0, .ref (ad 0)), (1, .int x1)]) hx hb dX51_decides_14 rfl hl (by decide) rfl (fun ls hl => ?_)
    refine lv_iconst (v := 0) hx hb dX51_decides_15 (by decide) ?_
    refine lv_istore_n (lv' := [(3, .int 0), (2, .int 0), (0, .ref (ad 0)), (1, .int x1)]) hx hb dX51_decides_16 rfl hl (by decide) rfl (fun ls hl => ?_)
    obtain ⟨fu, hw⟩ := hw
    refine atX51_decides_17 hc X ?_ fu 0 0 f_holds hw _ _ ls hH (lv_sub hl [2, 3, 1, 0] rfl)
    · intro x2_19 f_holds_20 hw H locs ls hH hl
      refine lv_iload_n hx hb dX51_decides_48 rfl (lv_at hl 0 rfl) ?_
      exact k_iret (v := x2_19) X hH (f_holds_20) hw rfl rfl dX51_decides_49
  · have hw := hw.1 (z_eq (rfl : r_1.toInt = _) (rfl : (0 : Int32).toInt = 0) c_2)
    refine lv_iconst (v := (-1)) hx hb dX51_decides_11 (by decide) ?_
    exact k_iret (v := (-1)) X hH (f_holds) hw rfl rfl dX51_decides_12
set_option maxHeartbeats 4000000 in
theorem walkX51_isAllowed {l : Launch} {dC : Nat → ClassId} {dI : Nat → Nat → Nat} {cl : List vw_C} {ci : Nat} (hc : cl[ci]? = some (RX51, TX51, 11)) {ad : Nat → Nat} {d : Nat → ClassId} {sz : Nat} {f_groups : Nat → Int32} {f_kinds : Nat → Int32} {f_as : Nat → Int32} {f_bs : Nat → Int32} {f_cs : Nat → Int32} {f_conditions : Int32} {f_ranks : Nat → Int32} {f_denies : Nat → Int32} {f_wants : Nat → Int32} {f_rules : Int32} {f_holds : Nat → Int32} {x1 : Int32} {x2 : Int32} {post : Int → (Int → Int) → Prop} (hw : wpX51_isAllowed post (zF f_groups) (zF f_kinds) (zF f_as) (zF f_bs) (zF f_cs) f_conditions.toInt (zF f_ranks) (zF f_denies) (zF f_wants) f_rules.toInt (zF f_holds) x1.toInt x2.toInt) :
    Met l yX51_isAllowed (ws_ yX51_isAllowed cX51_isAllowed 4 (some .boolean)) ({ frames := 3, cells := 0, slots := 0, locals := 74 } : Room) (kPc (dC, dI) cl (tX51 d) [.ref (ad 0), .int x1, .int x2] sz (wX51 ci ad d f_groups f_kinds f_as f_bs f_cs f_conditions f_ranks f_denies f_wants f_rules f_holds)) (va_Qi (fun (r : Int32) (u : (Nat → Int32)) => post r.toInt (zF (u))) (kB (dC, dI) cl (tX51 d) (va_A (wX51 ci ad d f_groups f_kinds f_as f_bs f_cs f_conditions f_ranks f_denies f_wants f_rules f_holds) sz) (fun u : (Nat → Int32) => (wX51 ci ad d f_groups f_kinds f_as f_bs f_cs f_conditions f_ranks f_denies f_wants f_rules (u)))) (va_A (wX51 ci ad d f_groups f_kinds f_as f_bs f_cs f_conditions f_ranks f_denies f_wants f_rules f_holds) sz)) 0 0 (va_A (wX51 ci ad d f_groups f_kinds f_as f_bs f_cs f_conditions f_ranks f_denies f_wants f_rules f_holds) sz) := by
  refine k_enter (by decide) (Nat.le_of_ble_eq_true rfl) ?_
  intro p e s m below meth c ls X hsz hH hl
  subst hsz
  generalize va_A (wX51 ci ad d f_groups f_kinds f_as f_bs f_cs f_conditions f_ranks f_denies f_wants f_rules f_holds) s.heap.size = A at hH ⊢
  have hx := X.1.1
  have hb := X.1.2.1
  have hl : lv_has ls 4 [(0, .ref (ad 0)), (1, .int x1), (2, .int x2)] := hl
  unfold wpX51_isAllowed at hw
  refine lv_aload_n hx hb dX51_isAllowed_0 rfl (lv_at hl 0 rfl) ?_
  refine lv_iload_n hx hb dX51_isAllowed_1 rfl (lv_at hl 1 rfl) ?_
  refine lv_iload_n hx hb dX51_isAllowed_2 rfl (lv_at hl 2 rfl) ?_
  refine k_i0 hH (k_runV (As := [.int x1, .int x2]) (rest := []) X hH.1 hH.2.1 X.2.2.2 (walkX51_decider hc (x1 := x1) (x2 := x2) (f_groups := f_groups) (f_kinds := f_kinds) (f_as := f_as) (f_bs := f_bs) (f_cs := f_cs) (f_conditions := f_conditions) (f_ranks := f_ranks) (f_denies := f_denies) (f_wants := f_wants) (f_rules := f_rules) (f_holds := f_holds) hw) (cwV 2 X.1.2.2.2.2 gX51_67 rfl rfl rfl hX51_decider ⟨Nat.le_of_ble_eq_true rfl, Nat.le_of_ble_eq_true rfl⟩) hc (q0 := 0) rfl rfl hl.1 rfl (Nat.le_of_ble_eq_true rfl) dX51_isAllowed_3 ⟨Nat.le_refl 0, Nat.le_refl 0⟩) (fun r_1 u H locs hw hH => ?_)
  obtain ⟨f_holds_2, eu⟩ : ∃ z, z = u := ⟨_, rfl⟩
  subst eu
  have hH : kH (dC, dI) cl A s.heap H locs (wX51 ci ad d f_groups f_kinds f_as f_bs f_cs f_conditions f_ranks f_denies f_wants f_rules f_holds_2) := hH
  refine lv_istore_n (lv' := [(3, .int r_1), (0, .ref (ad 0)), (1, .int x1), (2, .int x2)]) hx hb dX51_isAllowed_6 rfl hl (by decide) rfl (fun ls hl => ?_)
  refine lv_iload_n hx hb dX51_isAllowed_7 rfl (lv_at hl 0 rfl) ?_
  refine lv_if_lt (tgt := 24) hx hb dX51_isAllowed_8 (by decide) (fun c_3 => ?_) (fun c_3 => ?_)
  · have hw := hw.1 (z_lt (rfl : r_1.toInt = _) (rfl : (0 : Int32).toInt = 0) c_3)
    refine lv_iconst (v := 0) hx hb dX51_isAllowed_24 (by decide) ?_
    exact k_iret (v := 0) X hH (f_holds_2) hw rfl rfl dX51_isAllowed_25
  · have hw := hw.2 (z_nlt (rfl : r_1.toInt = _) (rfl : (0 : Int32).toInt = 0) c_3)
    refine lv_aload_n hx hb dX51_isAllowed_11 rfl (lv_at hl 1 rfl) ?_
    refine k_get X hH in_X51 0 rfl hc 7 (by decide) q6349 rfl dX51_isAllowed_12 ?_
    refine lv_iload_n hx hb dX51_isAllowed_15 rfl (lv_at hl 0 rfl) ?_
    have hq_4 := hw.1
    have hw := hw.2
    refine k_zald X hH 7 6 rfl rfl (z_in (rfl : r_1.toInt = _) hq_4) dX51_isAllowed_16 ?_
    have e_5 := z_ld (f := f_denies) (rfl : r_1.toInt = _) hq_4.1
    refine lv_if_ne (tgt := 24) hx hb dX51_isAllowed_17 (by decide) (fun c_6 => ?_) (fun c_6 => ?_)
    · have hw := hw.2 (z_ne e_5 (rfl : (0 : Int32).toInt = 0) c_6)
      refine lv_iconst (v := 0) hx hb dX51_isAllowed_24 (by decide) ?_
      exact k_iret (v := 0) X hH (f_holds_2) hw rfl rfl dX51_isAllowed_25
    · have hw := hw.1 (z_eq e_5 (rfl : (0 : Int32).toInt = 0) c_6)
      refine lv_iconst (v := 1) hx hb dX51_isAllowed_20 (by decide) ?_
      refine lv_goto (tgt := 25) hx hb dX51_isAllowed_21 (by decide) ?_
      exact k_iret (v := 1) X hH (f_holds_2) hw rfl rfl dX51_isAllowed_25
set_option maxHeartbeats 4000000 in
theorem atX51_sees_25 {p : Program} {l : Launch} {e : Env} {s : State} {m : MethodId} {args : Array Value} {below : List Frame} {meth : Method} {c : Code} {dC : Nat → ClassId} {dI : Nat → Nat → Nat} {cl : List vw_C} {ci : Nat} (hc : cl[ci]? = some (RX51, TX51, 11)) {ad : Nat → Nat} {d : Nat → ClassId} {A : Nat → Prop} {post : Int → (Int → Int) → Prop} {f_groups : Nat → Int32} {f_kinds : Nat → Int32} {f_as : Nat → Int32} {f_bs : Nat → Int32} {f_cs : Nat → Int32} {f_conditions : Int32} {f_ranks : Nat → Int32} {f_denies : Nat → Int32} {f_wants : Nat → Int32} {f_rules : Int32} (X : kX p s m args meth c cX51_sees 5 RX51 (some .int) (dC, dI) cl (tX51 d)) {K75 : Int → (Int → Int) → Prop} {x1 : Int32} {x2 : Int32}  (hk75 : ∀ (x3 : Int32) (f_holds : Nat → Int32), K75 x3.toInt (zF f_holds) → ∀ (H : Heap) (locs : List Loc) (ls : Array Slot), kH (dC, dI) cl A s.heap H locs (wX51 ci ad d f_groups f_kinds f_as f_bs f_cs f_conditions f_ranks f_denies f_wants f_rules f_holds) → lv_has ls 5 [(3, .int x3)] → W p l e ({ frames := 4, cells := 0, slots := 0, locals := 97 } : Room) s m args below meth c H locs 0 0 (MQ below (va_Qi (fun (r : Int32) (u : (Nat → Int32)) => post r.toInt (zF (u))) (kB (dC, dI) cl (tX51 d) A (fun u : (Nat → Int32) => (wX51 ci ad d f_groups f_kinds f_as f_bs f_cs f_conditions f_ranks f_denies f_wants f_rules (u)))) A) args s 0 0 A) (F0 m 75 ls [])) :
    ∀ (nn : Nat) (x3 : Int32) (x4 : Int32) (f_holds : Nat → Int32), wX51_sees_25 K75 x1.toInt x2.toInt (zF f_groups) (zF f_kinds) (zF f_as) (zF f_bs) (zF f_cs) f_conditions.toInt (zF f_ranks) (zF f_denies) (zF f_wants) f_rules.toInt nn x3.toInt x4.toInt (zF f_holds) → ∀ (H : Heap) (locs : List Loc) (ls : Array Slot), kH (dC, dI) cl A s.heap H locs (wX51 ci ad d f_groups f_kinds f_as f_bs f_cs f_conditions f_ranks f_denies f_wants f_rules f_holds) → lv_has ls 5 [(0, .ref (ad 0)), (1, .int x1), (2, .int x2), (3, .int x3), (4, .int x4)] → W p l e ({ frames := 4, cells := 0, slots := 0, locals := 97 } : Room) s m args below meth c H locs 0 0 (MQ below (va_Qi (fun (r : Int32) (u : (Nat → Int32)) => post r.toInt (zF (u))) (kB (dC, dI) cl (tX51 d) A (fun u : (Nat → Int32) => (wX51 ci ad d f_groups f_kinds f_as f_bs f_cs f_conditions f_ranks f_denies f_wants f_rules (u)))) A) args s 0 0 A) (F0 m 25 ls []) := by
  have hx := X.1.1
  have hb := X.1.2.1
  intro nn
  induction nn with
  | zero =>
    intro x3 x4 f_holds hw
    exact False.elim hw
  | succ n ih =>
    intro x3 x4 f_holds hw H locs ls hH hl
    rw [wX51_sees_25] at hw
    refine lv_iload hx hb dX51_sees_25 (lv_at hl 4 rfl) ?_
    refine lv_sipush (v := 6144) hx hb dX51_sees_27 (by decide) ?_
    refine lv_icmp_ge (tgt := 75) hx hb dX51_sees_30 (by decide) (fun c_5 => ?_) (fun c_5 => ?_)
    · have hw := hw.1 (z_le (rfl : (6144 : Int32).toInt = 6144) (rfl : x4.toInt = _) c_5)
      exact hk75 x3 f_holds hw _ _ ls hH (lv_sub hl [3] rfl)
    · have hw := hw.2 (z_nle (rfl : (6144 : Int32).toInt = 6144) (rfl : x4.toInt = _) c_5)
      refine lv_iload_n hx hb dX51_sees_33 rfl (lv_at hl 3 rfl) ?_
      refine lv_iload hx hb dX51_sees_34 (lv_at hl 4 rfl) ?_
      refine k_i0 hH (k_runS (As := [.int x4]) (rest := [.int x3]) X hH.1 hH.2.1 X.2.2.2 (walkX51_personOf hc (x0 := x4) (f_groups := f_groups) (f_kinds := f_kinds) (f_as := f_as) (f_bs := f_bs) (f_cs := f_cs) (f_conditions := f_conditions) (f_ranks := f_ranks) (f_denies := f_denies) (f_wants := f_wants) (f_rules := f_rules) (f_holds := f_holds) hw) (va_cwS 1 X.1.2.2.2.2 gX51_53 rfl rfl rfl hX51_personOf ⟨Nat.le_of_ble_eq_true rfl, Nat.le_of_ble_eq_true rfl⟩) rfl hl.1 rfl (Nat.le_of_ble_eq_true rfl) dX51_sees_36 ⟨Nat.le_refl 0, Nat.le_refl 0⟩) (fun r_6 _ H locs hw hH => ?_)
      have hH : kH (dC, dI) cl A s.heap H locs (wX51 ci ad d f_groups f_kinds f_as f_bs f_cs f_conditions f_ranks f_denies f_wants f_rules f_holds) := hH
      refine lv_iload_n hx hb dX51_sees_39 rfl (lv_at hl 1 rfl) ?_
      refine lv_icmp_ne (tgt := 66) hx hb dX51_sees_40 (by decide) (fun c_7 => ?_) (fun c_7 => ?_)
      · have hw := hw.2 (z_ne (rfl : r_6.toInt = _) (rfl : x1.toInt = _) c_7)
        refine lv_iconst (v := 0) hx hb dX51_sees_66 (by decide) ?_
        refine lv_iadd hx hb dX51_sees_67 ?_
        have e_8 := z_add (z_m (rfl : x3.toInt = _)) (z_m (rfl : (0 : Int32).toInt = 0))
        have hq_9 := hw.1
        have hw := hw.2
        have e_10 := z_x e_8 hq_9
        refine lv_topi (fun x3_11 ex3_11 => ?_)
        have hw := hw x3_11.toInt (by rw [ex3_11]; exact e_10)
        refine lv_istore_n (lv' := [(3, .int x3_11), (0, .ref (ad 0)), (1, .int x1), (2, .int x2), (4, .int x4)]) hx hb dX51_sees_68 rfl hl (by decide) rfl (fun ls hl => ?_)
        have hq_13 := hw.1
        have hw := hw.2
        obtain ⟨x4_12, ex4_12⟩ : ∃ y : Int32, y = x4 + 1 := ⟨_, rfl⟩
        have hw := hw x4_12.toInt (by rw [ex4_12]; exact (z_x (z_add (z_m (rfl : x4.toInt = _)) (z_m (rfl : (1 : Int32).toInt = 1))) hq_13))
        refine lv_iinc (v := x4_12) (lv' := [(4, .int x4_12), (3, .int x3_11), (0, .ref (ad 0)), (1, .int x1), (2, .int x2)]) hx hb dX51_sees_69 hl (k := 4) rfl (by rw [ex4_12]; rfl) (by decide) rfl (fun ls hl => ?_)
        refine lv_goto (tgt := 25) hx hb dX51_sees_72 (by decide) ?_
        exact ih x3_11 x4_12 f_holds hw _ _ ls hH (lv_sub hl [2, 3, 4, 1, 0] rfl)
      · have hw := hw.1 (z_eq (rfl : r_6.toInt = _) (rfl : x1.toInt = _) c_7)
        refine lv_iload hx hb dX51_sees_43 (lv_at hl 4 rfl) ?_
        refine k_i0 hH (k_runS (As := [.int x4]) (rest := [.int x3]) X hH.1 hH.2.1 X.2.2.2 (walkX51_versionOf hc (x0 := x4) (f_groups := f_groups) (f_kinds := f_kinds) (f_as := f_as) (f_bs := f_bs) (f_cs := f_cs) (f_conditions := f_conditions) (f_ranks := f_ranks) (f_denies := f_denies) (f_wants := f_wants) (f_rules := f_rules) (f_holds := f_holds) hw) (va_cwS 1 X.1.2.2.2.2 gX51_57 rfl rfl rfl hX51_versionOf ⟨Nat.le_of_ble_eq_true rfl, Nat.le_of_ble_eq_true rfl⟩) rfl hl.1 rfl (Nat.le_of_ble_eq_true rfl) dX51_sees_45 ⟨Nat.le_refl 0, Nat.le_refl 0⟩) (fun r_14 _ H locs hw hH => ?_)
        have hH : kH (dC, dI) cl A s.heap H locs (wX51 ci ad d f_groups f_kinds f_as f_bs f_cs f_conditions f_ranks f_denies f_wants f_rules f_holds) := hH
        refine lv_iload_n hx hb dX51_sees_48 rfl (lv_at hl 2 rfl) ?_
        refine lv_icmp_ne (tgt := 66) hx hb dX51_sees_49 (by decide) (fun c_15 => ?_) (fun c_15 => ?_)
        · have hw := hw.2 (z_ne (rfl : r_14.toInt = _) (rfl : x2.toInt = _) c_15)
          refine lv_iconst (v := 0) hx hb dX51_sees_66 (by decide) ?_
          refine lv_iadd hx hb dX51_sees_67 ?_
          have e_16 := z_add (z_m (rfl : x3.toInt = _)) (z_m (rfl : (0 : Int32).toInt = 0))
          have hq_17 := hw.1
          have hw := hw.2
          have e_18 := z_x e_16 hq_17
          refine lv_topi (fun x3_19 ex3_19 => ?_)
          have hw := hw x3_19.toInt (by rw [ex3_19]; exact e_18)
          refine lv_istore_n (lv' := [(3, .int x3_19), (0, .ref (ad 0)), (1, .int x1), (2, .int x2), (4, .int x4)]) hx hb dX51_sees_68 rfl hl (by decide) rfl (fun ls hl => ?_)
          have hq_21 := hw.1
          have hw := hw.2
          obtain ⟨x4_20, ex4_20⟩ : ∃ y : Int32, y = x4 + 1 := ⟨_, rfl⟩
          have hw := hw x4_20.toInt (by rw [ex4_20]; exact (z_x (z_add (z_m (rfl : x4.toInt = _)) (z_m (rfl : (1 : Int32).toInt = 1))) hq_21))
          refine lv_iinc (v := x4_20) (lv' := [(4, .int x4_20), (3, .int x3_19), (0, .ref (ad 0)), (1, .int x1), (2, .int x2)]) hx hb dX51_sees_69 hl (k := 4) rfl (by rw [ex4_20]; rfl) (by decide) rfl (fun ls hl => ?_)
          refine lv_goto (tgt := 25) hx hb dX51_sees_72 (by decide) ?_
          exact ih x3_19 x4_20 f_holds hw _ _ ls hH (lv_sub hl [2, 3, 4, 1, 0] rfl)
        · have hw := hw.1 (z_eq (rfl : r_14.toInt = _) (rfl : x2.toInt = _) c_15)
          refine lv_aload_n hx hb dX51_sees_52 rfl (lv_at hl 0 rfl) ?_
          refine lv_iload hx hb dX51_sees_53 (lv_at hl 4 rfl) ?_
          refine lv_iconst (v := (-1)) hx hb dX51_sees_55 (by decide) ?_
          refine k_i0 hH (k_runV (As := [.int x4, .int ((-1))]) (rest := [.int x3]) X hH.1 hH.2.1 X.2.2.2 (walkX51_isAllowed hc (x1 := x4) (x2 := (-1)) (f_groups := f_groups) (f_kinds := f_kinds) (f_as := f_as) (f_bs := f_bs) (f_cs := f_cs) (f_conditions := f_conditions) (f_ranks := f_ranks) (f_denies := f_denies) (f_wants := f_wants) (f_rules := f_rules) (f_holds := f_holds) hw) (cwV 2 X.1.2.2.2.2 gX51_74 rfl rfl rfl hX51_isAllowed ⟨Nat.le_of_ble_eq_true rfl, Nat.le_of_ble_eq_true rfl⟩) hc (q0 := 0) rfl rfl hl.1 rfl (Nat.le_of_ble_eq_true rfl) dX51_sees_56 ⟨Nat.le_refl 0, Nat.le_refl 0⟩) (fun r_22 u H locs hw hH => ?_)
          obtain ⟨f_holds_23, eu⟩ : ∃ z, z = u := ⟨_, rfl⟩
          subst eu
          have hH : kH (dC, dI) cl A s.heap H locs (wX51 ci ad d f_groups f_kinds f_as f_bs f_cs f_conditions f_ranks f_denies f_wants f_rules f_holds_23) := hH
          refine lv_if_eq (tgt := 66) hx hb dX51_sees_59 (by decide) (fun c_24 => ?_) (fun c_24 => ?_)
          · have hw := hw.1 (z_eq (rfl : r_22.toInt = _) (rfl : (0 : Int32).toInt = 0) c_24)
            refine lv_iconst (v := 0) hx hb dX51_sees_66 (by decide) ?_
            refine lv_iadd hx hb dX51_sees_67 ?_
            have e_25 := z_add (z_m (rfl : x3.toInt = _)) (z_m (rfl : (0 : Int32).toInt = 0))
            have hq_26 := hw.1
            have hw := hw.2
            have e_27 := z_x e_25 hq_26
            refine lv_topi (fun x3_28 ex3_28 => ?_)
            have hw := hw x3_28.toInt (by rw [ex3_28]; exact e_27)
            refine lv_istore_n (lv' := [(3, .int x3_28), (0, .ref (ad 0)), (1, .int x1), (2, .int x2), (4, .int x4)]) hx hb dX51_sees_68 rfl hl (by decide) rfl (fun ls hl => ?_)
            have hq_30 := hw.1
            have hw := hw.2
            obtain ⟨x4_29, ex4_29⟩ : ∃ y : Int32, y = x4 + 1 := ⟨_, rfl⟩
            have hw := hw x4_29.toInt (by rw [ex4_29]; exact (z_x (z_add (z_m (rfl : x4.toInt = _)) (z_m (rfl : (1 : Int32).toInt = 1))) hq_30))
            refine lv_iinc (v := x4_29) (lv' := [(4, .int x4_29), (3, .int x3_28), (0, .ref (ad 0)), (1, .int x1), (2, .int x2)]) hx hb dX51_sees_69 hl (k := 4) rfl (by rw [ex4_29]; rfl) (by decide) rfl (fun ls hl => ?_)
            refine lv_goto (tgt := 25) hx hb dX51_sees_72 (by decide) ?_
            exact ih x3_28 x4_29 f_holds_23 hw _ _ ls hH (lv_sub hl [2, 3, 4, 1, 0] rfl)
          · have hw := hw.2 (z_neq (rfl : r_22.toInt = _) (rfl : (0 : Int32).toInt = 0) c_24)
            refine lv_iconst (v := 1) hx hb dX51_sees_62 (by decide) ?_
            refine lv_goto (tgt := 67) hx hb dX51_sees_63 (by decide) ?_
            refine lv_iadd hx hb dX51_sees_67 ?_
            have e_31 := z_add (z_m (rfl : x3.toInt = _)) (z_m (rfl : (1 : Int32).toInt = 1))
            have hq_32 := hw.1
            have hw := hw.2
            have e_33 := z_x e_31 hq_32
            refine lv_topi (fun x3_34 ex3_34 => ?_)
            have hw := hw x3_34.toInt (by rw [ex3_34]; exact e_33)
            refine lv_istore_n (lv' := [(3, .int x3_34), (0, .ref (ad 0)), (1, .int x1), (2, .int x2), (4, .int x4)]) hx hb dX51_sees_68 rfl hl (by decide) rfl (fun ls hl => ?_)
            have hq_36 := hw.1
            have hw := hw.2
            obtain ⟨x4_35, ex4_35⟩ : ∃ y : Int32, y = x4 + 1 := ⟨_, rfl⟩
            have hw := hw x4_35.toInt (by rw [ex4_35]; exact (z_x (z_add (z_m (rfl : x4.toInt = _)) (z_m (rfl : (1 : Int32).toInt = 1))) hq_36))
            refine lv_iinc (v := x4_35) (lv' := [(4, .int x4_35), (3, .int x3_34), (0, .ref (ad 0)), (1, .int x1), (2, .int x2)]) hx hb dX51_sees_69 hl (k := 4) rfl (by rw [ex4_35]; rfl) (by decide) rfl (fun ls hl => ?_)
            refine lv_goto (tgt := 25) hx hb dX51_sees_72 (by decide) ?_
            exact ih x3_34 x4_35 f_holds_23 hw _ _ ls hH (lv_sub hl [2, 3, 4, 1, 0] rfl)
set_option maxHeartbeats 4000000 in
theorem walkX51_sees {l : Launch} {dC : Nat → ClassId} {dI : Nat → Nat → Nat} {cl : List vw_C} {ci : Nat} (hc : cl[ci]? = some (RX51, TX51, 11)) {ad : Nat → Nat} {d : Nat → ClassId} {sz : Nat} {f_groups : Nat → Int32} {f_kinds : Nat → Int32} {f_as : Nat → Int32} {f_bs : Nat → Int32} {f_cs : Nat → Int32} {f_conditions : Int32} {f_ranks : Nat → Int32} {f_denies : Nat → Int32} {f_wants : Nat → Int32} {f_rules : Int32} {f_holds : Nat → Int32} {x1 : Int32} {x2 : Int32} {post : Int → (Int → Int) → Prop} (hw : wpX51_sees post (zF f_groups) (zF f_kinds) (zF f_as) (zF f_bs) (zF f_cs) f_conditions.toInt (zF f_ranks) (zF f_denies) (zF f_wants) f_rules.toInt (zF f_holds) x1.toInt x2.toInt) :
    Met l yX51_sees (ws_ yX51_sees cX51_sees 5 (some .int)) ({ frames := 4, cells := 0, slots := 0, locals := 97 } : Room) (kPc (dC, dI) cl (tX51 d) [.ref (ad 0), .int x1, .int x2] sz (wX51 ci ad d f_groups f_kinds f_as f_bs f_cs f_conditions f_ranks f_denies f_wants f_rules f_holds)) (va_Qi (fun (r : Int32) (u : (Nat → Int32)) => post r.toInt (zF (u))) (kB (dC, dI) cl (tX51 d) (va_A (wX51 ci ad d f_groups f_kinds f_as f_bs f_cs f_conditions f_ranks f_denies f_wants f_rules f_holds) sz) (fun u : (Nat → Int32) => (wX51 ci ad d f_groups f_kinds f_as f_bs f_cs f_conditions f_ranks f_denies f_wants f_rules (u)))) (va_A (wX51 ci ad d f_groups f_kinds f_as f_bs f_cs f_conditions f_ranks f_denies f_wants f_rules f_holds) sz)) 0 0 (va_A (wX51 ci ad d f_groups f_kinds f_as f_bs f_cs f_conditions f_ranks f_denies f_wants f_rules f_holds) sz) := by
  refine k_enter (by decide) (Nat.le_of_ble_eq_true rfl) ?_
  intro p e s m below meth c ls X hsz hH hl
  subst hsz
  generalize va_A (wX51 ci ad d f_groups f_kinds f_as f_bs f_cs f_conditions f_ranks f_denies f_wants f_rules f_holds) s.heap.size = A at hH ⊢
  have hx := X.1.1
  have hb := X.1.2.1
  have hl : lv_has ls 5 [(0, .ref (ad 0)), (1, .int x1), (2, .int x2)] := hl
  unfold wpX51_sees at hw
  refine lv_iload_n hx hb dX51_sees_0 rfl (lv_at hl 1 rfl) ?_
  refine lv_bipush (v := 8) hx hb dX51_sees_1 (by decide) ?_
  refine k_i0 hH (k_runS (As := [.int x1, .int 8]) (rest := []) X hH.1 hH.2.1 X.2.2.2 (walkX51_in hc (x0 := x1) (x1 := 8) (f_groups := f_groups) (f_kinds := f_kinds) (f_as := f_as) (f_bs := f_bs) (f_cs := f_cs) (f_conditions := f_conditions) (f_ranks := f_ranks) (f_denies := f_denies) (f_wants := f_wants) (f_rules := f_rules) (f_holds := f_holds) hw) (va_cwS 2 X.1.2.2.2.2 gX51_38 rfl rfl rfl hX51_in ⟨Nat.le_of_ble_eq_true rfl, Nat.le_of_ble_eq_true rfl⟩) rfl hl.1 rfl (Nat.le_of_ble_eq_true rfl) dX51_sees_3 ⟨Nat.le_refl 0, Nat.le_refl 0⟩) (fun r_1 _ H locs hw hH => ?_)
  have hH : kH (dC, dI) cl A s.heap H locs (wX51 ci ad d f_groups f_kinds f_as f_bs f_cs f_conditions f_ranks f_denies f_wants f_rules f_holds) := hH
  refine lv_if_eq (tgt := 18) hx hb dX51_sees_6 (by decide) (fun c_2 => ?_) (fun c_2 => ?_)
  · have hw := hw.1 (z_eq (rfl : r_1.toInt = _) (rfl : (0 : Int32).toInt = 0) c_2)
    refine lv_iconst (v := (-1)) hx hb dX51_sees_18 (by decide) ?_
    exact k_iret (v := (-1)) X hH (f_holds) hw rfl rfl dX51_sees_19
  · have hw := hw.2 (z_neq (rfl : r_1.toInt = _) (rfl : (0 : Int32).toInt = 0) c_2)
    refine lv_iload_n hx hb dX51_sees_9 rfl (lv_at hl 2 rfl) ?_
    refine lv_bipush (v := 8) hx hb dX51_sees_10 (by decide) ?_
    refine k_i0 hH (k_runS (As := [.int x2, .int 8]) (rest := []) X hH.1 hH.2.1 X.2.2.2 (walkX51_in hc (x0 := x2) (x1 := 8) (f_groups := f_groups) (f_kinds := f_kinds) (f_as := f_as) (f_bs := f_bs) (f_cs := f_cs) (f_conditions := f_conditions) (f_ranks := f_ranks) (f_denies := f_denies) (f_wants := f_wants) (f_rules := f_rules) (f_holds := f_holds) hw) (va_cwS 2 X.1.2.2.2.2 gX51_38 rfl rfl rfl hX51_in ⟨Nat.le_of_ble_eq_true rfl, Nat.le_of_ble_eq_true rfl⟩) rfl hl.1 rfl (Nat.le_of_ble_eq_true rfl) dX51_sees_12 ⟨Nat.le_refl 0, Nat.le_refl 0⟩) (fun r_3 _ H locs hw hH => ?_)
    have hH : kH (dC, dI) cl A s.heap H locs (wX51 ci ad d f_groups f_kinds f_as f_bs f_cs f_conditions f_ranks f_denies f_wants f_rules f_holds) := hH
    refine lv_if_ne (tgt := 20) hx hb dX51_sees_15 (by decide) (fun c_4 => ?_) (fun c_4 => ?_)
    · have hw := hw.2 (z_ne (rfl : r_3.toInt = _) (rfl : (0 : Int32).toInt = 0) c_4)
      refine lv_iconst (v := 0) hx hb dX51_sees_20 (by decide) ?_
      refine lv_istore_n (lv' := [(3, .int 0), (0, .ref (ad 0)), (1, .int x1), (2, .int x2)]) hx hb dX51_sees_21 rfl hl (by decide) rfl (fun ls hl => ?_)
      refine lv_iconst (v := 0) hx hb dX51_sees_22 (by decide) ?_
      refine lv_istore (lv' := [(4, .int 0), (3, .int 0), (0, .ref (ad 0)), (1, .int x1), (2, .int x2)]) hx hb dX51_sees_23 hl (by decide) rfl (fun ls hl => ?_)
      obtain ⟨fu, hw⟩ := hw
      refine atX51_sees_25 hc X ?_ fu 0 0 f_holds hw _ _ ls hH (lv_sub hl [2, 3, 4, 1, 0] rfl)
      · intro x3_37 f_holds_38 hw H locs ls hH hl
        refine lv_iload_n hx hb dX51_sees_75 rfl (lv_at hl 0 rfl) ?_
        exact k_iret (v := x3_37) X hH (f_holds_38) hw rfl rfl dX51_sees_76
    · have hw := hw.1 (z_eq (rfl : r_3.toInt = _) (rfl : (0 : Int32).toInt = 0) c_4)
      refine lv_iconst (v := (-1)) hx hb dX51_sees_18 (by decide) ?_
      exact k_iret (v := (-1)) X hH (f_holds) hw rfl rfl dX51_sees_19
set_option maxHeartbeats 4000000 in
theorem atX51_matters_17 {p : Program} {l : Launch} {e : Env} {s : State} {m : MethodId} {args : Array Value} {below : List Frame} {meth : Method} {c : Code} {dC : Nat → ClassId} {dI : Nat → Nat → Nat} {cl : List vw_C} {ci : Nat} (hc : cl[ci]? = some (RX51, TX51, 11)) {ad : Nat → Nat} {d : Nat → ClassId} {A : Nat → Prop} {post : Int → (Int → Int) → Prop} {f_groups : Nat → Int32} {f_kinds : Nat → Int32} {f_as : Nat → Int32} {f_bs : Nat → Int32} {f_cs : Nat → Int32} {f_conditions : Int32} {f_ranks : Nat → Int32} {f_denies : Nat → Int32} {f_wants : Nat → Int32} {f_rules : Int32} (X : kX p s m args meth c cX51_matters 4 RX51 (some .int) (dC, dI) cl (tX51 d)) {K53 : Int → (Int → Int) → Prop} {x1 : Int32}  (hk53 : ∀ (x2 : Int32) (f_holds : Nat → Int32), K53 x2.toInt (zF f_holds) → ∀ (H : Heap) (locs : List Loc) (ls : Array Slot), kH (dC, dI) cl A s.heap H locs (wX51 ci ad d f_groups f_kinds f_as f_bs f_cs f_conditions f_ranks f_denies f_wants f_rules f_holds) → lv_has ls 4 [(2, .int x2)] → W p l e ({ frames := 4, cells := 0, slots := 0, locals := 97 } : Room) s m args below meth c H locs 0 0 (MQ below (va_Qi (fun (r : Int32) (u : (Nat → Int32)) => post r.toInt (zF (u))) (kB (dC, dI) cl (tX51 d) A (fun u : (Nat → Int32) => (wX51 ci ad d f_groups f_kinds f_as f_bs f_cs f_conditions f_ranks f_denies f_wants f_rules (u)))) A) args s 0 0 A) (F0 m 53 ls [])) :
    ∀ (nn : Nat) (x2 : Int32) (x3 : Int32) (f_holds : Nat → Int32), wX51_matters_17 K53 x1.toInt (zF f_groups) (zF f_kinds) (zF f_as) (zF f_bs) (zF f_cs) f_conditions.toInt (zF f_ranks) (zF f_denies) (zF f_wants) f_rules.toInt nn x2.toInt x3.toInt (zF f_holds) → ∀ (H : Heap) (locs : List Loc) (ls : Array Slot), kH (dC, dI) cl A s.heap H locs (wX51 ci ad d f_groups f_kinds f_as f_bs f_cs f_conditions f_ranks f_denies f_wants f_rules f_holds) → lv_has ls 4 [(0, .ref (ad 0)), (1, .int x1), (2, .int x2), (3, .int x3)] → W p l e ({ frames := 4, cells := 0, slots := 0, locals := 97 } : Room) s m args below meth c H locs 0 0 (MQ below (va_Qi (fun (r : Int32) (u : (Nat → Int32)) => post r.toInt (zF (u))) (kB (dC, dI) cl (tX51 d) A (fun u : (Nat → Int32) => (wX51 ci ad d f_groups f_kinds f_as f_bs f_cs f_conditions f_ranks f_denies f_wants f_rules (u)))) A) args s 0 0 A) (F0 m 17 ls []) := by
  have hx := X.1.1
  have hb := X.1.2.1
  intro nn
  induction nn with
  | zero =>
    intro x2 x3 f_holds hw
    exact False.elim hw
  | succ n ih =>
    intro x2 x3 f_holds hw H locs ls hH hl
    rw [wX51_matters_17] at hw
    refine lv_iload_n hx hb dX51_matters_17 rfl (lv_at hl 3 rfl) ?_
    refine lv_sipush (v := 6144) hx hb dX51_matters_18 (by decide) ?_
    refine lv_icmp_ge (tgt := 53) hx hb dX51_matters_21 (by decide) (fun c_3 => ?_) (fun c_3 => ?_)
    · have hw := hw.1 (z_le (rfl : (6144 : Int32).toInt = 6144) (rfl : x3.toInt = _) c_3)
      exact hk53 x2 f_holds hw _ _ ls hH (lv_sub hl [2] rfl)
    · have hw := hw.2 (z_nle (rfl : (6144 : Int32).toInt = 6144) (rfl : x3.toInt = _) c_3)
      refine lv_iload_n hx hb dX51_matters_24 rfl (lv_at hl 2 rfl) ?_
      refine lv_aload_n hx hb dX51_matters_25 rfl (lv_at hl 0 rfl) ?_
      refine lv_iload_n hx hb dX51_matters_26 rfl (lv_at hl 3 rfl) ?_
      refine lv_iconst (v := (-1)) hx hb dX51_matters_27 (by decide) ?_
      refine k_i0 hH (k_runV (As := [.int x3, .int ((-1))]) (rest := [.int x2]) X hH.1 hH.2.1 X.2.2.2 (walkX51_isAllowed hc (x1 := x3) (x2 := (-1)) (f_groups := f_groups) (f_kinds := f_kinds) (f_as := f_as) (f_bs := f_bs) (f_cs := f_cs) (f_conditions := f_conditions) (f_ranks := f_ranks) (f_denies := f_denies) (f_wants := f_wants) (f_rules := f_rules) (f_holds := f_holds) hw) (cwV 2 X.1.2.2.2.2 gX51_74 rfl rfl rfl hX51_isAllowed ⟨Nat.le_of_ble_eq_true rfl, Nat.le_of_ble_eq_true rfl⟩) hc (q0 := 0) rfl rfl hl.1 rfl (Nat.le_of_ble_eq_true rfl) dX51_matters_28 ⟨Nat.le_refl 0, Nat.le_refl 0⟩) (fun r_4 u H locs hw hH => ?_)
      obtain ⟨f_holds_5, eu⟩ : ∃ z, z = u := ⟨_, rfl⟩
      subst eu
      have hH : kH (dC, dI) cl A s.heap H locs (wX51 ci ad d f_groups f_kinds f_as f_bs f_cs f_conditions f_ranks f_denies f_wants f_rules f_holds_5) := hH
      refine lv_aload_n hx hb dX51_matters_31 rfl (lv_at hl 0 rfl) ?_
      refine lv_iload_n hx hb dX51_matters_32 rfl (lv_at hl 3 rfl) ?_
      refine lv_iload_n hx hb dX51_matters_33 rfl (lv_at hl 1 rfl) ?_
      refine k_i0 hH (k_runV (As := [.int x3, .int x1]) (rest := [.int r_4, .int x2]) X hH.1 hH.2.1 X.2.2.2 (walkX51_isAllowed hc (x1 := x3) (x2 := x1) (f_groups := f_groups) (f_kinds := f_kinds) (f_as := f_as) (f_bs := f_bs) (f_cs := f_cs) (f_conditions := f_conditions) (f_ranks := f_ranks) (f_denies := f_denies) (f_wants := f_wants) (f_rules := f_rules) (f_holds := f_holds_5) hw) (cwV 2 X.1.2.2.2.2 gX51_74 rfl rfl rfl hX51_isAllowed ⟨Nat.le_of_ble_eq_true rfl, Nat.le_of_ble_eq_true rfl⟩) hc (q0 := 0) rfl rfl hl.1 rfl (Nat.le_of_ble_eq_true rfl) dX51_matters_34 ⟨Nat.le_refl 0, Nat.le_refl 0⟩) (fun r_6 u H locs hw hH => ?_)
      obtain ⟨f_holds_7, eu⟩ : ∃ z, z = u := ⟨_, rfl⟩
      subst eu
      have hH : kH (dC, dI) cl A s.heap H locs (wX51 ci ad d f_groups f_kinds f_as f_bs f_cs f_conditions f_ranks f_denies f_wants f_rules f_holds_7) := hH
      refine lv_icmp_eq (tgt := 44) hx hb dX51_matters_37 (by decide) (fun c_8 => ?_) (fun c_8 => ?_)
      · have hw := hw.1 (z_eq (rfl : r_4.toInt = _) (rfl : r_6.toInt = _) c_8)
        refine lv_iconst (v := 0) hx hb dX51_matters_44 (by decide) ?_
        refine lv_iadd hx hb dX51_matters_45 ?_
        have e_9 := z_add (z_m (rfl : x2.toInt = _)) (z_m (rfl : (0 : Int32).toInt = 0))
        have hq_10 := hw.1
        have hw := hw.2
        have e_11 := z_x e_9 hq_10
        refine lv_topi (fun x2_12 ex2_12 => ?_)
        have hw := hw x2_12.toInt (by rw [ex2_12]; exact e_11)
        refine lv_istore_n (lv' := [(2, .int x2_12), (0, .ref (ad 0)), (1, .int x1), (3, .int x3)]) hx hb dX51_matters_46 rfl hl (by decide) rfl (fun ls hl => ?_)
        have hq_14 := hw.1
        have hw := hw.2
        obtain ⟨x3_13, ex3_13⟩ : ∃ y : Int32, y = x3 + 1 := ⟨_, rfl⟩
        have hw := hw x3_13.toInt (by rw [ex3_13]; exact (z_x (z_add (z_m (rfl : x3.toInt = _)) (z_m (rfl : (1 : Int32).toInt = 1))) hq_14))
        refine lv_iinc (v := x3_13) (lv' := [(3, .int x3_13), (2, .int x2_12), (0, .ref (ad 0)), (1, .int x1)]) hx hb dX51_matters_47 hl (k := 3) rfl (by rw [ex3_13]; rfl) (by decide) rfl (fun ls hl => ?_)
        refine lv_goto (tgt := 17) hx hb dX51_matters_50 (by decide) ?_
        exact ih x2_12 x3_13 f_holds_7 hw _ _ ls hH (lv_sub hl [2, 3, 1, 0] rfl)
      · have hw := hw.2 (z_neq (rfl : r_4.toInt = _) (rfl : r_6.toInt = _) c_8)
        refine lv_iconst (v := 1) hx hb dX51_matters_40 (by decide) ?_
        refine lv_goto (tgt := 45) hx hb dX51_matters_41 (by decide) ?_
        refine lv_iadd hx hb dX51_matters_45 ?_
        have e_15 := z_add (z_m (rfl : x2.toInt = _)) (z_m (rfl : (1 : Int32).toInt = 1))
        have hq_16 := hw.1
        have hw := hw.2
        have e_17 := z_x e_15 hq_16
        refine lv_topi (fun x2_18 ex2_18 => ?_)
        have hw := hw x2_18.toInt (by rw [ex2_18]; exact e_17)
        refine lv_istore_n (lv' := [(2, .int x2_18), (0, .ref (ad 0)), (1, .int x1), (3, .int x3)]) hx hb dX51_matters_46 rfl hl (by decide) rfl (fun ls hl => ?_)
        have hq_20 := hw.1
        have hw := hw.2
        obtain ⟨x3_19, ex3_19⟩ : ∃ y : Int32, y = x3 + 1 := ⟨_, rfl⟩
        have hw := hw x3_19.toInt (by rw [ex3_19]; exact (z_x (z_add (z_m (rfl : x3.toInt = _)) (z_m (rfl : (1 : Int32).toInt = 1))) hq_20))
        refine lv_iinc (v := x3_19) (lv' := [(3, .int x3_19), (2, .int x2_18), (0, .ref (ad 0)), (1, .int x1)]) hx hb dX51_matters_47 hl (k := 3) rfl (by rw [ex3_19]; rfl) (by decide) rfl (fun ls hl => ?_)
        refine lv_goto (tgt := 17) hx hb dX51_matters_50 (by decide) ?_
        exact ih x2_18 x3_19 f_holds_7 hw _ _ ls hH (lv_sub hl [2, 3, 1, 0] rfl)
set_option maxHeartbeats 4000000 in
theorem walkX51_matters {l : Launch} {dC : Nat → ClassId} {dI : Nat → Nat → Nat} {cl : List vw_C} {ci : Nat} (hc : cl[ci]? = some (RX51, TX51, 11)) {ad : Nat → Nat} {d : Nat → ClassId} {sz : Nat} {f_groups : Nat → Int32} {f_kinds : Nat → Int32} {f_as : Nat → Int32} {f_bs : Nat → Int32} {f_cs : Nat → Int32} {f_conditions : Int32} {f_ranks : Nat → Int32} {f_denies : Nat → Int32} {f_wants : Nat → Int32} {f_rules : Int32} {f_holds : Nat → Int32} {x1 : Int32} {post : Int → (Int → Int) → Prop} (hw : wpX51_matters post (zF f_groups) (zF f_kinds) (zF f_as) (zF f_bs) (zF f_cs) f_conditions.toInt (zF f_ranks) (zF f_denies) (zF f_wants) f_rules.toInt (zF f_holds) x1.toInt) :
    Met l yX51_matters (ws_ yX51_matters cX51_matters 4 (some .int)) ({ frames := 4, cells := 0, slots := 0, locals := 97 } : Room) (kPc (dC, dI) cl (tX51 d) [.ref (ad 0), .int x1] sz (wX51 ci ad d f_groups f_kinds f_as f_bs f_cs f_conditions f_ranks f_denies f_wants f_rules f_holds)) (va_Qi (fun (r : Int32) (u : (Nat → Int32)) => post r.toInt (zF (u))) (kB (dC, dI) cl (tX51 d) (va_A (wX51 ci ad d f_groups f_kinds f_as f_bs f_cs f_conditions f_ranks f_denies f_wants f_rules f_holds) sz) (fun u : (Nat → Int32) => (wX51 ci ad d f_groups f_kinds f_as f_bs f_cs f_conditions f_ranks f_denies f_wants f_rules (u)))) (va_A (wX51 ci ad d f_groups f_kinds f_as f_bs f_cs f_conditions f_ranks f_denies f_wants f_rules f_holds) sz)) 0 0 (va_A (wX51 ci ad d f_groups f_kinds f_as f_bs f_cs f_conditions f_ranks f_denies f_wants f_rules f_holds) sz) := by
  refine k_enter (by decide) (Nat.le_of_ble_eq_true rfl) ?_
  intro p e s m below meth c ls X hsz hH hl
  subst hsz
  generalize va_A (wX51 ci ad d f_groups f_kinds f_as f_bs f_cs f_conditions f_ranks f_denies f_wants f_rules f_holds) s.heap.size = A at hH ⊢
  have hx := X.1.1
  have hb := X.1.2.1
  have hl : lv_has ls 4 [(0, .ref (ad 0)), (1, .int x1)] := hl
  unfold wpX51_matters at hw
  refine lv_iload_n hx hb dX51_matters_0 rfl (lv_at hl 1 rfl) ?_
  refine lv_aload_n hx hb dX51_matters_1 rfl (lv_at hl 0 rfl) ?_
  refine k_get X hH in_X51 0 rfl hc 9 (by decide) q6351 rfl dX51_matters_2 ?_
  refine k_i0 hH (k_runS (As := [.int x1, .int f_rules]) (rest := []) X hH.1 hH.2.1 X.2.2.2 (walkX51_in hc (x0 := x1) (x1 := f_rules) (f_groups := f_groups) (f_kinds := f_kinds) (f_as := f_as) (f_bs := f_bs) (f_cs := f_cs) (f_conditions := f_conditions) (f_ranks := f_ranks) (f_denies := f_denies) (f_wants := f_wants) (f_rules := f_rules) (f_holds := f_holds) hw) (va_cwS 2 X.1.2.2.2.2 gX51_38 rfl rfl rfl hX51_in ⟨Nat.le_of_ble_eq_true rfl, Nat.le_of_ble_eq_true rfl⟩) rfl hl.1 rfl (Nat.le_of_ble_eq_true rfl) dX51_matters_5 ⟨Nat.le_refl 0, Nat.le_refl 0⟩) (fun r_1 _ H locs hw hH => ?_)
  have hH : kH (dC, dI) cl A s.heap H locs (wX51 ci ad d f_groups f_kinds f_as f_bs f_cs f_conditions f_ranks f_denies f_wants f_rules f_holds) := hH
  refine lv_if_ne (tgt := 13) hx hb dX51_matters_8 (by decide) (fun c_2 => ?_) (fun c_2 => ?_)
  · have hw := hw.2 (z_ne (rfl : r_1.toInt = _) (rfl : (0 : Int32).toInt = 0) c_2)
    refine lv_iconst (v := 0) hx hb dX51_matters_13 (by decide) ?_
    refine lv_istore_n (lv' := [(2, .int 0), (0, .ref (ad 0)), (1, .int x1)]) hx hb dX51_matters_14 rfl hl (by decide) rfl (fun ls hl => ?_)
    refine lv_iconst (v := 0) hx hb dX51_matters_15 (by decide) ?_
    refine lv_istore_n (lv' := [(3, .int 0), (2, .int 0), (0, .ref (ad 0)), (1, .int x1)]) hx hb dX51_matters_16 rfl hl (by decide) rfl (fun ls hl => ?_)
    obtain ⟨fu, hw⟩ := hw
    refine atX51_matters_17 hc X ?_ fu 0 0 f_holds hw _ _ ls hH (lv_sub hl [2, 3, 1, 0] rfl)
    · intro x2_21 f_holds_22 hw H locs ls hH hl
      refine lv_iload_n hx hb dX51_matters_53 rfl (lv_at hl 0 rfl) ?_
      exact k_iret (v := x2_21) X hH (f_holds_22) hw rfl rfl dX51_matters_54
  · have hw := hw.1 (z_eq (rfl : r_1.toInt = _) (rfl : (0 : Int32).toInt = 0) c_2)
    refine lv_iconst (v := (-1)) hx hb dX51_matters_11 (by decide) ?_
    exact k_iret (v := (-1)) X hH (f_holds) hw rfl rfl dX51_matters_12
set_option maxHeartbeats 4000000 in
theorem walkX51_wouldDecide {l : Launch} {dC : Nat → ClassId} {dI : Nat → Nat → Nat} {cl : List vw_C} {ci : Nat} (hc : cl[ci]? = some (RX51, TX51, 11)) {ad : Nat → Nat} {d : Nat → ClassId} {sz : Nat} {f_groups : Nat → Int32} {f_kinds : Nat → Int32} {f_as : Nat → Int32} {f_bs : Nat → Int32} {f_cs : Nat → Int32} {f_conditions : Int32} {f_ranks : Nat → Int32} {f_denies : Nat → Int32} {f_wants : Nat → Int32} {f_rules : Int32} {f_holds : Nat → Int32} {x1 : Int32} {x2 : Int32} {x3 : Int32} {x4 : Int32} {post : Int → (Int → Int) → Prop} (hw : wpX51_wouldDecide post (zF f_groups) (zF f_kinds) (zF f_as) (zF f_bs) (zF f_cs) f_conditions.toInt (zF f_ranks) (zF f_denies) (zF f_wants) f_rules.toInt (zF f_holds) x1.toInt x2.toInt x3.toInt x4.toInt) :
    Met l yX51_wouldDecide (ws_ yX51_wouldDecide cX51_wouldDecide 6 (some .boolean)) ({ frames := 3, cells := 0, slots := 0, locals := 74 } : Room) (kPc (dC, dI) cl (tX51 d) [.ref (ad 0), .int x1, .int x2, .int x3, .int x4] sz (wX51 ci ad d f_groups f_kinds f_as f_bs f_cs f_conditions f_ranks f_denies f_wants f_rules f_holds)) (va_Qi (fun (r : Int32) (u : (Nat → Int32)) => post r.toInt (zF (u))) (kB (dC, dI) cl (tX51 d) (va_A (wX51 ci ad d f_groups f_kinds f_as f_bs f_cs f_conditions f_ranks f_denies f_wants f_rules f_holds) sz) (fun u : (Nat → Int32) => (wX51 ci ad d f_groups f_kinds f_as f_bs f_cs f_conditions f_ranks f_denies f_wants f_rules (u)))) (va_A (wX51 ci ad d f_groups f_kinds f_as f_bs f_cs f_conditions f_ranks f_denies f_wants f_rules f_holds) sz)) 0 0 (va_A (wX51 ci ad d f_groups f_kinds f_as f_bs f_cs f_conditions f_ranks f_denies f_wants f_rules f_holds) sz) := by
  refine k_enter (by decide) (Nat.le_of_ble_eq_true rfl) ?_
  intro p e s m below meth c ls X hsz hH hl
  subst hsz
  generalize va_A (wX51 ci ad d f_groups f_kinds f_as f_bs f_cs f_conditions f_ranks f_denies f_wants f_rules f_holds) s.heap.size = A at hH ⊢
  have hx := X.1.1
  have hb := X.1.2.1
  have hl : lv_has ls 6 [(0, .ref (ad 0)), (1, .int x1), (2, .int x2), (3, .int x3), (4, .int x4)] := hl
  unfold wpX51_wouldDecide at hw
  refine lv_aload_n hx hb dX51_wouldDecide_0 rfl (lv_at hl 0 rfl) ?_
  refine lv_iload_n hx hb dX51_wouldDecide_1 rfl (lv_at hl 1 rfl) ?_
  refine lv_iconst (v := (-1)) hx hb dX51_wouldDecide_2 (by decide) ?_
  refine k_i0 hH (k_runV (As := [.int x1, .int ((-1))]) (rest := []) X hH.1 hH.2.1 X.2.2.2 (walkX51_decider hc (x1 := x1) (x2 := (-1)) (f_groups := f_groups) (f_kinds := f_kinds) (f_as := f_as) (f_bs := f_bs) (f_cs := f_cs) (f_conditions := f_conditions) (f_ranks := f_ranks) (f_denies := f_denies) (f_wants := f_wants) (f_rules := f_rules) (f_holds := f_holds) hw) (cwV 2 X.1.2.2.2.2 gX51_67 rfl rfl rfl hX51_decider ⟨Nat.le_of_ble_eq_true rfl, Nat.le_of_ble_eq_true rfl⟩) hc (q0 := 0) rfl rfl hl.1 rfl (Nat.le_of_ble_eq_true rfl) dX51_wouldDecide_3 ⟨Nat.le_refl 0, Nat.le_refl 0⟩) (fun r_1 u H locs hw hH => ?_)
  obtain ⟨f_holds_2, eu⟩ : ∃ z, z = u := ⟨_, rfl⟩
  subst eu
  have hH : kH (dC, dI) cl A s.heap H locs (wX51 ci ad d f_groups f_kinds f_as f_bs f_cs f_conditions f_ranks f_denies f_wants f_rules f_holds_2) := hH
  refine lv_istore (lv' := [(5, .int r_1), (0, .ref (ad 0)), (1, .int x1), (2, .int x2), (3, .int x3), (4, .int x4)]) hx hb dX51_wouldDecide_6 hl (by decide) rfl (fun ls hl => ?_)
  refine lv_aload_n hx hb dX51_wouldDecide_8 rfl (lv_at hl 1 rfl) ?_
  refine k_get X hH in_X51 0 rfl hc 10 (by decide) q6352 rfl dX51_wouldDecide_9 ?_
  refine lv_iload hx hb dX51_wouldDecide_12 (lv_at hl 5 rfl) ?_
  have hq_3 := hw.1
  have hw := hw.2
  refine k_zald X hH 9 8 rfl rfl (z_in (rfl : x4.toInt = _) hq_3) dX51_wouldDecide_14 ?_
  have e_4 := z_ld (f := f_holds_2) (rfl : x4.toInt = _) hq_3.1
  refine lv_if_eq (tgt := 63) hx hb dX51_wouldDecide_15 (by decide) (fun c_5 => ?_) (fun c_5 => ?_)
  · have hw := hw.1 (z_eq e_4 (rfl : (0 : Int32).toInt = 0) c_5)
    refine lv_iconst (v := 0) hx hb dX51_wouldDecide_63 (by decide) ?_
    exact k_iret (v := 0) X hH (f_holds_2) hw rfl rfl dX51_wouldDecide_64
  · have hw := hw.2 (z_neq e_4 (rfl : (0 : Int32).toInt = 0) c_5)
    refine lv_iload hx hb dX51_wouldDecide_18 (lv_at hl 0 rfl) ?_
    refine lv_if_lt (tgt := 59) hx hb dX51_wouldDecide_20 (by decide) (fun c_6 => ?_) (fun c_6 => ?_)
    · have hw := hw.1 (z_lt (rfl : r_1.toInt = _) (rfl : (0 : Int32).toInt = 0) c_6)
      refine lv_iconst (v := 1) hx hb dX51_wouldDecide_59 (by decide) ?_
      refine lv_goto (tgt := 64) hx hb dX51_wouldDecide_60 (by decide) ?_
      exact k_iret (v := 1) X hH (f_holds_2) hw rfl rfl dX51_wouldDecide_64
    · have hw := hw.2 (z_nlt (rfl : r_1.toInt = _) (rfl : (0 : Int32).toInt = 0) c_6)
      refine lv_iload_n hx hb dX51_wouldDecide_23 rfl (lv_at hl 3 rfl) ?_
      refine lv_aload_n hx hb dX51_wouldDecide_24 rfl (lv_at hl 1 rfl) ?_
      refine k_get X hH in_X51 0 rfl hc 6 (by decide) q6348 rfl dX51_wouldDecide_25 ?_
      refine lv_iload hx hb dX51_wouldDecide_28 (lv_at hl 0 rfl) ?_
      have hq_7 := hw.1
      have hw := hw.2
      refine k_iald X hH 6 5 rfl rfl (z_in (rfl : r_1.toInt = _) hq_7) dX51_wouldDecide_30 ?_
      have e_8 := z_ld (f := f_ranks) (rfl : r_1.toInt = _) hq_7.1
      refine lv_icmp_lt (tgt := 59) hx hb dX51_wouldDecide_31 (by decide) (fun c_9 => ?_) (fun c_9 => ?_)
      · have hw := hw.1 (z_lt (rfl : x2.toInt = _) e_8 c_9)
        refine lv_iconst (v := 1) hx hb dX51_wouldDecide_59 (by decide) ?_
        refine lv_goto (tgt := 64) hx hb dX51_wouldDecide_60 (by decide) ?_
        exact k_iret (v := 1) X hH (f_holds_2) hw rfl rfl dX51_wouldDecide_64
      · have hw := hw.2 (z_nlt (rfl : x2.toInt = _) e_8 c_9)
        refine lv_iload_n hx hb dX51_wouldDecide_34 rfl (lv_at hl 3 rfl) ?_
        refine lv_aload_n hx hb dX51_wouldDecide_35 rfl (lv_at hl 1 rfl) ?_
        refine k_get X hH in_X51 0 rfl hc 6 (by decide) q6348 rfl dX51_wouldDecide_36 ?_
        refine lv_iload hx hb dX51_wouldDecide_39 (lv_at hl 0 rfl) ?_
        refine k_iald X hH 6 5 rfl rfl (z_in (rfl : r_1.toInt = _) hq_7) dX51_wouldDecide_41 ?_
        have e_10 := z_ld (f := f_ranks) (rfl : r_1.toInt = _) hq_7.1
        refine lv_icmp_ne (tgt := 63) hx hb dX51_wouldDecide_42 (by decide) (fun c_11 => ?_) (fun c_11 => ?_)
        · have hw := hw.2 (z_ne (rfl : x2.toInt = _) e_10 c_11)
          refine lv_iconst (v := 0) hx hb dX51_wouldDecide_63 (by decide) ?_
          exact k_iret (v := 0) X hH (f_holds_2) hw rfl rfl dX51_wouldDecide_64
        · have hw := hw.1 (z_eq (rfl : x2.toInt = _) e_10 c_11)
          refine lv_iload_n hx hb dX51_wouldDecide_45 rfl (lv_at hl 4 rfl) ?_
          refine lv_if_eq (tgt := 63) hx hb dX51_wouldDecide_46 (by decide) (fun c_12 => ?_) (fun c_12 => ?_)
          · have hw := hw.1 (z_eq (rfl : x3.toInt = _) (rfl : (0 : Int32).toInt = 0) c_12)
            refine lv_iconst (v := 0) hx hb dX51_wouldDecide_63 (by decide) ?_
            exact k_iret (v := 0) X hH (f_holds_2) hw rfl rfl dX51_wouldDecide_64
          · have hw := hw.2 (z_neq (rfl : x3.toInt = _) (rfl : (0 : Int32).toInt = 0) c_12)
            refine lv_aload_n hx hb dX51_wouldDecide_49 rfl (lv_at hl 1 rfl) ?_
            refine k_get X hH in_X51 0 rfl hc 7 (by decide) q6349 rfl dX51_wouldDecide_50 ?_
            refine lv_iload hx hb dX51_wouldDecide_53 (lv_at hl 0 rfl) ?_
            refine k_zald X hH 7 6 rfl rfl (z_in (rfl : r_1.toInt = _) hq_7) dX51_wouldDecide_55 ?_
            have e_13 := z_ld (f := f_denies) (rfl : r_1.toInt = _) hq_7.1
            refine lv_if_ne (tgt := 63) hx hb dX51_wouldDecide_56 (by decide) (fun c_14 => ?_) (fun c_14 => ?_)
            · have hw := hw.2 (z_ne e_13 (rfl : (0 : Int32).toInt = 0) c_14)
              refine lv_iconst (v := 0) hx hb dX51_wouldDecide_63 (by decide) ?_
              exact k_iret (v := 0) X hH (f_holds_2) hw rfl rfl dX51_wouldDecide_64
            · have hw := hw.1 (z_eq e_13 (rfl : (0 : Int32).toInt = 0) c_14)
              refine lv_iconst (v := 1) hx hb dX51_wouldDecide_59 (by decide) ?_
              refine lv_goto (tgt := 64) hx hb dX51_wouldDecide_60 (by decide) ?_
              exact k_iret (v := 1) X hH (f_holds_2) hw rfl rfl dX51_wouldDecide_64
set_option maxHeartbeats 4000000 in
theorem atX51_idle_27 {p : Program} {l : Launch} {e : Env} {s : State} {m : MethodId} {args : Array Value} {below : List Frame} {meth : Method} {c : Code} {dC : Nat → ClassId} {dI : Nat → Nat → Nat} {cl : List vw_C} {ci : Nat} (hc : cl[ci]? = some (RX51, TX51, 11)) {ad : Nat → Nat} {d : Nat → ClassId} {A : Nat → Prop} {post : Int → (Int → Int) → Prop} {f_groups : Nat → Int32} {f_kinds : Nat → Int32} {f_as : Nat → Int32} {f_bs : Nat → Int32} {f_cs : Nat → Int32} {f_conditions : Int32} {f_ranks : Nat → Int32} {f_denies : Nat → Int32} {f_wants : Nat → Int32} {f_rules : Int32} (X : kX p s m args meth c cX51_idle 6 RX51 (some .int) (dC, dI) cl (tX51 d)) {K57 : Int → (Int → Int) → Prop} {x1 : Int32} {x2 : Int32} {x3 : Int32}  (hk57 : ∀ (x4 : Int32) (f_holds : Nat → Int32), K57 x4.toInt (zF f_holds) → ∀ (H : Heap) (locs : List Loc) (ls : Array Slot), kH (dC, dI) cl A s.heap H locs (wX51 ci ad d f_groups f_kinds f_as f_bs f_cs f_conditions f_ranks f_denies f_wants f_rules f_holds) → lv_has ls 6 [(0, .ref (ad 0)), (1, .int x1), (2, .int x2), (3, .int x3), (4, .int x4)] → W p l e ({ frames := 4, cells := 0, slots := 0, locals := 99 } : Room) s m args below meth c H locs 0 0 (MQ below (va_Qi (fun (r : Int32) (u : (Nat → Int32)) => post r.toInt (zF (u))) (kB (dC, dI) cl (tX51 d) A (fun u : (Nat → Int32) => (wX51 ci ad d f_groups f_kinds f_as f_bs f_cs f_conditions f_ranks f_denies f_wants f_rules (u)))) A) args s 0 0 A) (F0 m 57 ls [])) :
    ∀ (nn : Nat) (x4 : Int32) (x5 : Int32) (f_holds : Nat → Int32), wX51_idle_27 K57 x1.toInt x2.toInt x3.toInt (zF f_groups) (zF f_kinds) (zF f_as) (zF f_bs) (zF f_cs) f_conditions.toInt (zF f_ranks) (zF f_denies) (zF f_wants) f_rules.toInt nn x4.toInt x5.toInt (zF f_holds) → ∀ (H : Heap) (locs : List Loc) (ls : Array Slot), kH (dC, dI) cl A s.heap H locs (wX51 ci ad d f_groups f_kinds f_as f_bs f_cs f_conditions f_ranks f_denies f_wants f_rules f_holds) → lv_has ls 6 [(0, .ref (ad 0)), (1, .int x1), (2, .int x2), (3, .int x3), (4, .int x4), (5, .int x5)] → W p l e ({ frames := 4, cells := 0, slots := 0, locals := 99 } : Room) s m args below meth c H locs 0 0 (MQ below (va_Qi (fun (r : Int32) (u : (Nat → Int32)) => post r.toInt (zF (u))) (kB (dC, dI) cl (tX51 d) A (fun u : (Nat → Int32) => (wX51 ci ad d f_groups f_kinds f_as f_bs f_cs f_conditions f_ranks f_denies f_wants f_rules (u)))) A) args s 0 0 A) (F0 m 27 ls []) := by
  have hx := X.1.1
  have hb := X.1.2.1
  intro nn
  induction nn with
  | zero =>
    intro x4 x5 f_holds hw
    exact False.elim hw
  | succ n ih =>
    intro x4 x5 f_holds hw H locs ls hH hl
    rw [wX51_idle_27] at hw
    refine lv_iload hx hb dX51_idle_27 (lv_at hl 5 rfl) ?_
    refine lv_sipush (v := 6144) hx hb dX51_idle_29 (by decide) ?_
    refine lv_icmp_ge (tgt := 57) hx hb dX51_idle_32 (by decide) (fun c_4 => ?_) (fun c_4 => ?_)
    · have hw := hw.1 (z_le (rfl : (6144 : Int32).toInt = 6144) (rfl : x5.toInt = _) c_4)
      exact hk57 x4 f_holds hw _ _ ls hH (lv_sub hl [0, 1, 2, 3, 4] rfl)
    · have hw := hw.2 (z_nle (rfl : (6144 : Int32).toInt = 6144) (rfl : x5.toInt = _) c_4)
      refine lv_iload hx hb dX51_idle_35 (lv_at hl 4 rfl) ?_
      refine lv_if_ne (tgt := 57) hx hb dX51_idle_37 (by decide) (fun c_5 => ?_) (fun c_5 => ?_)
      · have hw := hw.2 (z_ne (rfl : x4.toInt = _) (rfl : (0 : Int32).toInt = 0) c_5)
        exact hk57 x4 f_holds hw _ _ ls hH (lv_sub hl [0, 1, 2, 3, 4] rfl)
      · have hw := hw.1 (z_eq (rfl : x4.toInt = _) (rfl : (0 : Int32).toInt = 0) c_5)
        refine lv_aload_n hx hb dX51_idle_40 rfl (lv_at hl 0 rfl) ?_
        refine lv_iload hx hb dX51_idle_41 (lv_at hl 5 rfl) ?_
        refine lv_iload_n hx hb dX51_idle_43 rfl (lv_at hl 3 rfl) ?_
        refine lv_iload_n hx hb dX51_idle_44 rfl (lv_at hl 1 rfl) ?_
        refine lv_iload_n hx hb dX51_idle_45 rfl (lv_at hl 2 rfl) ?_
        refine k_i0 hH (k_runV (As := [.int x5, .int x3, .int x1, .int x2]) (rest := []) X hH.1 hH.2.1 X.2.2.2 (walkX51_wouldDecide hc (x1 := x5) (x2 := x3) (x3 := x1) (x4 := x2) (f_groups := f_groups) (f_kinds := f_kinds) (f_as := f_as) (f_bs := f_bs) (f_cs := f_cs) (f_conditions := f_conditions) (f_ranks := f_ranks) (f_denies := f_denies) (f_wants := f_wants) (f_rules := f_rules) (f_holds := f_holds) hw) (cwV 4 X.1.2.2.2.2 gX51_77 rfl rfl rfl hX51_wouldDecide ⟨Nat.le_of_ble_eq_true rfl, Nat.le_of_ble_eq_true rfl⟩) hc (q0 := 0) rfl rfl hl.1 rfl (Nat.le_of_ble_eq_true rfl) dX51_idle_46 ⟨Nat.le_refl 0, Nat.le_refl 0⟩) (fun r_6 u H locs hw hH => ?_)
        obtain ⟨f_holds_7, eu⟩ : ∃ z, z = u := ⟨_, rfl⟩
        subst eu
        have hH : kH (dC, dI) cl A s.heap H locs (wX51 ci ad d f_groups f_kinds f_as f_bs f_cs f_conditions f_ranks f_denies f_wants f_rules f_holds_7) := hH
        refine lv_istore (lv' := [(4, .int r_6), (0, .ref (ad 0)), (1, .int x1), (2, .int x2), (3, .int x3), (5, .int x5)]) hx hb dX51_idle_49 hl (by decide) rfl (fun ls hl => ?_)
        have hq_9 := hw.1
        have hw := hw.2
        obtain ⟨x5_8, ex5_8⟩ : ∃ y : Int32, y = x5 + 1 := ⟨_, rfl⟩
        have hw := hw x5_8.toInt (by rw [ex5_8]; exact (z_x (z_add (z_m (rfl : x5.toInt = _)) (z_m (rfl : (1 : Int32).toInt = 1))) hq_9))
        refine lv_iinc (v := x5_8) (lv' := [(5, .int x5_8), (4, .int r_6), (0, .ref (ad 0)), (1, .int x1), (2, .int x2), (3, .int x3)]) hx hb dX51_idle_51 hl (k := 5) rfl (by rw [ex5_8]; rfl) (by decide) rfl (fun ls hl => ?_)
        refine lv_goto (tgt := 27) hx hb dX51_idle_54 (by decide) ?_
        exact ih r_6 x5_8 f_holds_7 hw _ _ ls hH (lv_sub hl [2, 3, 4, 5, 1, 0] rfl)
set_option maxHeartbeats 4000000 in
theorem atX51_idle_15 {p : Program} {l : Launch} {e : Env} {s : State} {m : MethodId} {args : Array Value} {below : List Frame} {meth : Method} {c : Code} {dC : Nat → ClassId} {dI : Nat → Nat → Nat} {cl : List vw_C} {ci : Nat} (hc : cl[ci]? = some (RX51, TX51, 11)) {ad : Nat → Nat} {d : Nat → ClassId} {A : Nat → Prop} {post : Int → (Int → Int) → Prop} {f_groups : Nat → Int32} {f_kinds : Nat → Int32} {f_as : Nat → Int32} {f_bs : Nat → Int32} {f_cs : Nat → Int32} {f_conditions : Int32} {f_ranks : Nat → Int32} {f_denies : Nat → Int32} {f_wants : Nat → Int32} {f_rules : Int32} (X : kX p s m args meth c cX51_idle 6 RX51 (some .int) (dC, dI) cl (tX51 d)) {K62 : Int → (Int → Int) → Prop} {K70 : (Int → Int) → Prop} {x1 : Int32} {x2 : Int32}  (hk62 : ∀ (x3 : Int32) (f_holds : Nat → Int32), K62 x3.toInt (zF f_holds) → ∀ (H : Heap) (locs : List Loc) (ls : Array Slot), kH (dC, dI) cl A s.heap H locs (wX51 ci ad d f_groups f_kinds f_as f_bs f_cs f_conditions f_ranks f_denies f_wants f_rules f_holds) → lv_has ls 6 [(3, .int x3)] → W p l e ({ frames := 4, cells := 0, slots := 0, locals := 99 } : Room) s m args below meth c H locs 0 0 (MQ below (va_Qi (fun (r : Int32) (u : (Nat → Int32)) => post r.toInt (zF (u))) (kB (dC, dI) cl (tX51 d) A (fun u : (Nat → Int32) => (wX51 ci ad d f_groups f_kinds f_as f_bs f_cs f_conditions f_ranks f_denies f_wants f_rules (u)))) A) args s 0 0 A) (F0 m 62 ls [])) (hk70 : ∀ (f_holds : Nat → Int32), K70 (zF f_holds) → ∀ (H : Heap) (locs : List Loc) (ls : Array Slot), kH (dC, dI) cl A s.heap H locs (wX51 ci ad d f_groups f_kinds f_as f_bs f_cs f_conditions f_ranks f_denies f_wants f_rules f_holds) → lv_has ls 6 [] → W p l e ({ frames := 4, cells := 0, slots := 0, locals := 99 } : Room) s m args below meth c H locs 0 0 (MQ below (va_Qi (fun (r : Int32) (u : (Nat → Int32)) => post r.toInt (zF (u))) (kB (dC, dI) cl (tX51 d) A (fun u : (Nat → Int32) => (wX51 ci ad d f_groups f_kinds f_as f_bs f_cs f_conditions f_ranks f_denies f_wants f_rules (u)))) A) args s 0 0 A) (F0 m 70 ls [])) :
    ∀ (nn : Nat) (x3 : Int32) (f_holds : Nat → Int32), wX51_idle_15 K62 K70 x1.toInt x2.toInt (zF f_groups) (zF f_kinds) (zF f_as) (zF f_bs) (zF f_cs) f_conditions.toInt (zF f_ranks) (zF f_denies) (zF f_wants) f_rules.toInt nn x3.toInt (zF f_holds) → ∀ (H : Heap) (locs : List Loc) (ls : Array Slot), kH (dC, dI) cl A s.heap H locs (wX51 ci ad d f_groups f_kinds f_as f_bs f_cs f_conditions f_ranks f_denies f_wants f_rules f_holds) → lv_has ls 6 [(0, .ref (ad 0)), (1, .int x1), (2, .int x2), (3, .int x3)] → W p l e ({ frames := 4, cells := 0, slots := 0, locals := 99 } : Room) s m args below meth c H locs 0 0 (MQ below (va_Qi (fun (r : Int32) (u : (Nat → Int32)) => post r.toInt (zF (u))) (kB (dC, dI) cl (tX51 d) A (fun u : (Nat → Int32) => (wX51 ci ad d f_groups f_kinds f_as f_bs f_cs f_conditions f_ranks f_denies f_wants f_rules (u)))) A) args s 0 0 A) (F0 m 15 ls []) := by
  have hx := X.1.1
  have hb := X.1.2.1
  intro nn
  induction nn with
  | zero =>
    intro x3 f_holds hw
    exact False.elim hw
  | succ n ih =>
    intro x3 f_holds hw H locs ls hH hl
    rw [wX51_idle_15] at hw
    refine lv_iload_n hx hb dX51_idle_15 rfl (lv_at hl 3 rfl) ?_
    refine lv_bipush (v := 10) hx hb dX51_idle_16 (by decide) ?_
    refine lv_icmp_ge (tgt := 70) hx hb dX51_idle_18 (by decide) (fun c_3 => ?_) (fun c_3 => ?_)
    · have hw := hw.1 (z_le (rfl : (10 : Int32).toInt = 10) (rfl : x3.toInt = _) c_3)
      exact hk70 f_holds hw _ _ ls hH (lv_sub hl [] rfl)
    · have hw := hw.2 (z_nle (rfl : (10 : Int32).toInt = 10) (rfl : x3.toInt = _) c_3)
      refine lv_iconst (v := 0) hx hb dX51_idle_21 (by decide) ?_
      refine lv_istore (lv' := [(4, .int 0), (0, .ref (ad 0)), (1, .int x1), (2, .int x2), (3, .int x3)]) hx hb dX51_idle_22 hl (by decide) rfl (fun ls hl => ?_)
      refine lv_iconst (v := 0) hx hb dX51_idle_24 (by decide) ?_
      refine lv_istore (lv' := [(5, .int 0), (4, .int 0), (0, .ref (ad 0)), (1, .int x1), (2, .int x2), (3, .int x3)]) hx hb dX51_idle_25 hl (by decide) rfl (fun ls hl => ?_)
      obtain ⟨fu, hw⟩ := hw
      refine atX51_idle_27 hc X ?_ fu 0 0 f_holds hw _ _ ls hH (lv_sub hl [2, 3, 4, 5, 1, 0] rfl)
      · intro x4_10 f_holds_11 hw H locs ls hH hl
        refine lv_iload hx hb dX51_idle_57 (lv_at hl 4 rfl) ?_
        refine lv_if_ne (tgt := 64) hx hb dX51_idle_59 (by decide) (fun c_12 => ?_) (fun c_12 => ?_)
        · have hw := hw.2 (z_ne (rfl : x4_10.toInt = _) (rfl : (0 : Int32).toInt = 0) c_12)
          have hq_14 := hw.1
          have hw := hw.2
          obtain ⟨x3_13, ex3_13⟩ : ∃ y : Int32, y = x3 + 1 := ⟨_, rfl⟩
          have hw := hw x3_13.toInt (by rw [ex3_13]; exact (z_x (z_add (z_m (rfl : x3.toInt = _)) (z_m (rfl : (1 : Int32).toInt = 1))) hq_14))
          refine lv_iinc (v := x3_13) (lv' := [(3, .int x3_13), (0, .ref (ad 0)), (1, .int x1), (2, .int x2), (4, .int x4_10)]) hx hb dX51_idle_64 hl (k := 3) rfl (by rw [ex3_13]; rfl) (by decide) rfl (fun ls hl => ?_)
          refine lv_goto (tgt := 15) hx hb dX51_idle_67 (by decide) ?_
          exact ih x3_13 f_holds_11 hw _ _ ls hH (lv_sub hl [1, 2, 3, 0] rfl)
        · have hw := hw.1 (z_eq (rfl : x4_10.toInt = _) (rfl : (0 : Int32).toInt = 0) c_12)
          exact hk62 x3 f_holds_11 hw _ _ ls hH (lv_sub hl [3] rfl)
set_option maxHeartbeats 4000000 in
theorem walkX51_idle {l : Launch} {dC : Nat → ClassId} {dI : Nat → Nat → Nat} {cl : List vw_C} {ci : Nat} (hc : cl[ci]? = some (RX51, TX51, 11)) {ad : Nat → Nat} {d : Nat → ClassId} {sz : Nat} {f_groups : Nat → Int32} {f_kinds : Nat → Int32} {f_as : Nat → Int32} {f_bs : Nat → Int32} {f_cs : Nat → Int32} {f_conditions : Int32} {f_ranks : Nat → Int32} {f_denies : Nat → Int32} {f_wants : Nat → Int32} {f_rules : Int32} {f_holds : Nat → Int32} {x1 : Int32} {x2 : Int32} {post : Int → (Int → Int) → Prop} (hw : wpX51_idle post (zF f_groups) (zF f_kinds) (zF f_as) (zF f_bs) (zF f_cs) f_conditions.toInt (zF f_ranks) (zF f_denies) (zF f_wants) f_rules.toInt (zF f_holds) x1.toInt x2.toInt) :
    Met l yX51_idle (ws_ yX51_idle cX51_idle 6 (some .int)) ({ frames := 4, cells := 0, slots := 0, locals := 99 } : Room) (kPc (dC, dI) cl (tX51 d) [.ref (ad 0), .int x1, .int x2] sz (wX51 ci ad d f_groups f_kinds f_as f_bs f_cs f_conditions f_ranks f_denies f_wants f_rules f_holds)) (va_Qi (fun (r : Int32) (u : (Nat → Int32)) => post r.toInt (zF (u))) (kB (dC, dI) cl (tX51 d) (va_A (wX51 ci ad d f_groups f_kinds f_as f_bs f_cs f_conditions f_ranks f_denies f_wants f_rules f_holds) sz) (fun u : (Nat → Int32) => (wX51 ci ad d f_groups f_kinds f_as f_bs f_cs f_conditions f_ranks f_denies f_wants f_rules (u)))) (va_A (wX51 ci ad d f_groups f_kinds f_as f_bs f_cs f_conditions f_ranks f_denies f_wants f_rules f_holds) sz)) 0 0 (va_A (wX51 ci ad d f_groups f_kinds f_as f_bs f_cs f_conditions f_ranks f_denies f_wants f_rules f_holds) sz) := by
  refine k_enter (by decide) (Nat.le_of_ble_eq_true rfl) ?_
  intro p e s m below meth c ls X hsz hH hl
  subst hsz
  generalize va_A (wX51 ci ad d f_groups f_kinds f_as f_bs f_cs f_conditions f_ranks f_denies f_wants f_rules f_holds) s.heap.size = A at hH ⊢
  have hx := X.1.1
  have hb := X.1.2.1
  have hl : lv_has ls 6 [(0, .ref (ad 0)), (1, .int x1), (2, .int x2)] := hl
  unfold wpX51_idle at hw
  refine lv_iload_n hx hb dX51_idle_0 rfl (lv_at hl 2 rfl) ?_
  refine lv_aload_n hx hb dX51_idle_1 rfl (lv_at hl 0 rfl) ?_
  refine k_get X hH in_X51 0 rfl hc 5 (by decide) q6347 rfl dX51_idle_2 ?_
  refine k_i0 hH (k_runS (As := [.int x2, .int f_conditions]) (rest := []) X hH.1 hH.2.1 X.2.2.2 (walkX51_in hc (x0 := x2) (x1 := f_conditions) (f_groups := f_groups) (f_kinds := f_kinds) (f_as := f_as) (f_bs := f_bs) (f_cs := f_cs) (f_conditions := f_conditions) (f_ranks := f_ranks) (f_denies := f_denies) (f_wants := f_wants) (f_rules := f_rules) (f_holds := f_holds) hw) (va_cwS 2 X.1.2.2.2.2 gX51_38 rfl rfl rfl hX51_in ⟨Nat.le_of_ble_eq_true rfl, Nat.le_of_ble_eq_true rfl⟩) rfl hl.1 rfl (Nat.le_of_ble_eq_true rfl) dX51_idle_5 ⟨Nat.le_refl 0, Nat.le_refl 0⟩) (fun r_1 _ H locs hw hH => ?_)
  have hH : kH (dC, dI) cl A s.heap H locs (wX51 ci ad d f_groups f_kinds f_as f_bs f_cs f_conditions f_ranks f_denies f_wants f_rules f_holds) := hH
  refine lv_if_ne (tgt := 13) hx hb dX51_idle_8 (by decide) (fun c_2 => ?_) (fun c_2 => ?_)
  · have hw := hw.2 (z_ne (rfl : r_1.toInt = _) (rfl : (0 : Int32).toInt = 0) c_2)
    refine lv_iconst (v := 0) hx hb dX51_idle_13 (by decide) ?_
    refine lv_istore_n (lv' := [(3, .int 0), (0, .ref (ad 0)), (1, .int x1), (2, .int x2)]) hx hb dX51_idle_14 rfl hl (by decide) rfl (fun ls hl => ?_)
    obtain ⟨fu, hw⟩ := hw
    refine atX51_idle_15 hc X ?_ ?_ fu 0 f_holds hw _ _ ls hH (lv_sub hl [1, 2, 3, 0] rfl)
    · intro x3_15 f_holds_16 hw H locs ls hH hl
      refine lv_iload_n hx hb dX51_idle_62 rfl (lv_at hl 0 rfl) ?_
      exact k_iret (v := x3_15) X hH (f_holds_16) hw rfl rfl dX51_idle_63
    · intro f_holds_17 hw H locs ls hH hl
      refine lv_bipush (v := 10) hx hb dX51_idle_70 (by decide) ?_
      exact k_iret (v := 10) X hH (f_holds_17) hw rfl rfl dX51_idle_72
  · have hw := hw.1 (z_eq (rfl : r_1.toInt = _) (rfl : (0 : Int32).toInt = 0) c_2)
    refine lv_iconst (v := (-1)) hx hb dX51_idle_11 (by decide) ?_
    exact k_iret (v := (-1)) X hH (f_holds) hw rfl rfl dX51_idle_12
set_option maxHeartbeats 4000000 in
theorem atX51_apart_22 {p : Program} {l : Launch} {e : Env} {s : State} {m : MethodId} {args : Array Value} {below : List Frame} {meth : Method} {c : Code} {dC : Nat → ClassId} {dI : Nat → Nat → Nat} {cl : List vw_C} {ci : Nat} (hc : cl[ci]? = some (RX51, TX51, 11)) {ad : Nat → Nat} {d : Nat → ClassId} {A : Nat → Prop} {post : Int → (Int → Int) → Prop} {f_groups : Nat → Int32} {f_kinds : Nat → Int32} {f_as : Nat → Int32} {f_bs : Nat → Int32} {f_cs : Nat → Int32} {f_conditions : Int32} {f_ranks : Nat → Int32} {f_denies : Nat → Int32} {f_wants : Nat → Int32} {f_rules : Int32} (X : kX p s m args meth c cX51_apart 4 RX51 (some .int) (dC, dI) cl (tX51 d)) {K56 : Int → (Int → Int) → Prop} {K70 : (Int → Int) → Prop} {x1 : Int32} {x2 : Int32}  (hk56 : ∀ (x3 : Int32) (f_holds : Nat → Int32), K56 x3.toInt (zF f_holds) → ∀ (H : Heap) (locs : List Loc) (ls : Array Slot), kH (dC, dI) cl A s.heap H locs (wX51 ci ad d f_groups f_kinds f_as f_bs f_cs f_conditions f_ranks f_denies f_wants f_rules f_holds) → lv_has ls 4 [(1, .int x1), (3, .int x3)] → W p l e ({ frames := 4, cells := 0, slots := 0, locals := 97 } : Room) s m args below meth c H locs 0 0 (MQ below (va_Qi (fun (r : Int32) (u : (Nat → Int32)) => post r.toInt (zF (u))) (kB (dC, dI) cl (tX51 d) A (fun u : (Nat → Int32) => (wX51 ci ad d f_groups f_kinds f_as f_bs f_cs f_conditions f_ranks f_denies f_wants f_rules (u)))) A) args s 0 0 A) (F0 m 56 ls [])) (hk70 : ∀ (f_holds : Nat → Int32), K70 (zF f_holds) → ∀ (H : Heap) (locs : List Loc) (ls : Array Slot), kH (dC, dI) cl A s.heap H locs (wX51 ci ad d f_groups f_kinds f_as f_bs f_cs f_conditions f_ranks f_denies f_wants f_rules f_holds) → lv_has ls 4 [] → W p l e ({ frames := 4, cells := 0, slots := 0, locals := 97 } : Room) s m args below meth c H locs 0 0 (MQ below (va_Qi (fun (r : Int32) (u : (Nat → Int32)) => post r.toInt (zF (u))) (kB (dC, dI) cl (tX51 d) A (fun u : (Nat → Int32) => (wX51 ci ad d f_groups f_kinds f_as f_bs f_cs f_conditions f_ranks f_denies f_wants f_rules (u)))) A) args s 0 0 A) (F0 m 70 ls [])) :
    ∀ (nn : Nat) (x3 : Int32) (f_holds : Nat → Int32), wX51_apart_22 K56 K70 x1.toInt x2.toInt (zF f_groups) (zF f_kinds) (zF f_as) (zF f_bs) (zF f_cs) f_conditions.toInt (zF f_ranks) (zF f_denies) (zF f_wants) f_rules.toInt nn x3.toInt (zF f_holds) → ∀ (H : Heap) (locs : List Loc) (ls : Array Slot), kH (dC, dI) cl A s.heap H locs (wX51 ci ad d f_groups f_kinds f_as f_bs f_cs f_conditions f_ranks f_denies f_wants f_rules f_holds) → lv_has ls 4 [(0, .ref (ad 0)), (1, .int x1), (2, .int x2), (3, .int x3)] → W p l e ({ frames := 4, cells := 0, slots := 0, locals := 97 } : Room) s m args below meth c H locs 0 0 (MQ below (va_Qi (fun (r : Int32) (u : (Nat → Int32)) => post r.toInt (zF (u))) (kB (dC, dI) cl (tX51 d) A (fun u : (Nat → Int32) => (wX51 ci ad d f_groups f_kinds f_as f_bs f_cs f_conditions f_ranks f_denies f_wants f_rules (u)))) A) args s 0 0 A) (F0 m 22 ls []) := by
  have hx := X.1.1
  have hb := X.1.2.1
  intro nn
  induction nn with
  | zero =>
    intro x3 f_holds hw
    exact False.elim hw
  | succ n ih =>
    intro x3 f_holds hw H locs ls hH hl
    rw [wX51_apart_22] at hw
    refine lv_iload_n hx hb dX51_apart_22 rfl (lv_at hl 3 rfl) ?_
    refine lv_sipush (v := 768) hx hb dX51_apart_23 (by decide) ?_
    refine lv_icmp_ge (tgt := 70) hx hb dX51_apart_26 (by decide) (fun c_5 => ?_) (fun c_5 => ?_)
    · have hw := hw.1 (z_le (rfl : (768 : Int32).toInt = 768) (rfl : x3.toInt = _) c_5)
      exact hk70 f_holds hw _ _ ls hH (lv_sub hl [] rfl)
    · have hw := hw.2 (z_nle (rfl : (768 : Int32).toInt = 768) (rfl : x3.toInt = _) c_5)
      refine lv_aload_n hx hb dX51_apart_29 rfl (lv_at hl 0 rfl) ?_
      refine lv_sipush (v := 768) hx hb dX51_apart_30 (by decide) ?_
      refine lv_iload_n hx hb dX51_apart_33 rfl (lv_at hl 1 rfl) ?_
      refine lv_imul hx hb dX51_apart_34 ?_
      have e_6 := z_mul (z_m (rfl : (768 : Int32).toInt = 768)) (z_m (rfl : x1.toInt = _))
      refine lv_iload_n hx hb dX51_apart_35 rfl (lv_at hl 3 rfl) ?_
      refine lv_iadd hx hb dX51_apart_36 ?_
      have e_7 := z_add e_6 (z_m (rfl : x3.toInt = _))
      refine lv_iconst (v := (-1)) hx hb dX51_apart_37 (by decide) ?_
      have hq_8 := hw.1
      have hw := hw.2
      have e_9 := z_x e_7 hq_8
      refine k_i0 hH (k_runV (As := [.int ((768 * x1) + x3), .int ((-1))]) (rest := []) X hH.1 hH.2.1 X.2.2.2 (walkX51_isAllowed hc (x1 := ((768 * x1) + x3)) (x2 := (-1)) (f_groups := f_groups) (f_kinds := f_kinds) (f_as := f_as) (f_bs := f_bs) (f_cs := f_cs) (f_conditions := f_conditions) (f_ranks := f_ranks) (f_denies := f_denies) (f_wants := f_wants) (f_rules := f_rules) (f_holds := f_holds) (by rw [show ((768 * x1) + x3 : Int32).toInt = _ from e_9]; exact hw)) (cwV 2 X.1.2.2.2.2 gX51_74 rfl rfl rfl hX51_isAllowed ⟨Nat.le_of_ble_eq_true rfl, Nat.le_of_ble_eq_true rfl⟩) hc (q0 := 0) rfl rfl hl.1 rfl (Nat.le_of_ble_eq_true rfl) dX51_apart_38 ⟨Nat.le_refl 0, Nat.le_refl 0⟩) (fun r_10 u H locs hw hH => ?_)
      obtain ⟨f_holds_11, eu⟩ : ∃ z, z = u := ⟨_, rfl⟩
      subst eu
      have hH : kH (dC, dI) cl A s.heap H locs (wX51 ci ad d f_groups f_kinds f_as f_bs f_cs f_conditions f_ranks f_denies f_wants f_rules f_holds_11) := hH
      refine lv_aload_n hx hb dX51_apart_41 rfl (lv_at hl 0 rfl) ?_
      refine lv_sipush (v := 768) hx hb dX51_apart_42 (by decide) ?_
      refine lv_iload_n hx hb dX51_apart_45 rfl (lv_at hl 2 rfl) ?_
      refine lv_imul hx hb dX51_apart_46 ?_
      have e_12 := z_mul (z_m (rfl : (768 : Int32).toInt = 768)) (z_m (rfl : x2.toInt = _))
      refine lv_iload_n hx hb dX51_apart_47 rfl (lv_at hl 3 rfl) ?_
      refine lv_iadd hx hb dX51_apart_48 ?_
      have e_13 := z_add e_12 (z_m (rfl : x3.toInt = _))
      refine lv_iconst (v := (-1)) hx hb dX51_apart_49 (by decide) ?_
      have hq_14 := hw.1
      have hw := hw.2
      have e_15 := z_x e_13 hq_14
      refine k_i0 hH (k_runV (As := [.int ((768 * x2) + x3), .int ((-1))]) (rest := [.int r_10]) X hH.1 hH.2.1 X.2.2.2 (walkX51_isAllowed hc (x1 := ((768 * x2) + x3)) (x2 := (-1)) (f_groups := f_groups) (f_kinds := f_kinds) (f_as := f_as) (f_bs := f_bs) (f_cs := f_cs) (f_conditions := f_conditions) (f_ranks := f_ranks) (f_denies := f_denies) (f_wants := f_wants) (f_rules := f_rules) (f_holds := f_holds_11) (by rw [show ((768 * x2) + x3 : Int32).toInt = _ from e_15]; exact hw)) (cwV 2 X.1.2.2.2.2 gX51_74 rfl rfl rfl hX51_isAllowed ⟨Nat.le_of_ble_eq_true rfl, Nat.le_of_ble_eq_true rfl⟩) hc (q0 := 0) rfl rfl hl.1 rfl (Nat.le_of_ble_eq_true rfl) dX51_apart_50 ⟨Nat.le_refl 0, Nat.le_refl 0⟩) (fun r_16 u H locs hw hH => ?_)
      obtain ⟨f_holds_17, eu⟩ : ∃ z, z = u := ⟨_, rfl⟩
      subst eu
      have hH : kH (dC, dI) cl A s.heap H locs (wX51 ci ad d f_groups f_kinds f_as f_bs f_cs f_conditions f_ranks f_denies f_wants f_rules f_holds_17) := hH
      refine lv_icmp_eq (tgt := 64) hx hb dX51_apart_53 (by decide) (fun c_18 => ?_) (fun c_18 => ?_)
      · have hw := hw.1 (z_eq (rfl : r_10.toInt = _) (rfl : r_16.toInt = _) c_18)
        have hq_20 := hw.1
        have hw := hw.2
        obtain ⟨x3_19, ex3_19⟩ : ∃ y : Int32, y = x3 + 1 := ⟨_, rfl⟩
        have hw := hw x3_19.toInt (by rw [ex3_19]; exact (z_x (z_add (z_m (rfl : x3.toInt = _)) (z_m (rfl : (1 : Int32).toInt = 1))) hq_20))
        refine lv_iinc (v := x3_19) (lv' := [(3, .int x3_19), (0, .ref (ad 0)), (1, .int x1), (2, .int x2)]) hx hb dX51_apart_64 hl (k := 3) rfl (by rw [ex3_19]; rfl) (by decide) rfl (fun ls hl => ?_)
        refine lv_goto (tgt := 22) hx hb dX51_apart_67 (by decide) ?_
        exact ih x3_19 f_holds_17 hw _ _ ls hH (lv_sub hl [1, 2, 3, 0] rfl)
      · have hw := hw.2 (z_neq (rfl : r_10.toInt = _) (rfl : r_16.toInt = _) c_18)
        exact hk56 x3 f_holds_17 hw _ _ ls hH (lv_sub hl [1, 3] rfl)
set_option maxHeartbeats 4000000 in
theorem walkX51_apart {l : Launch} {dC : Nat → ClassId} {dI : Nat → Nat → Nat} {cl : List vw_C} {ci : Nat} (hc : cl[ci]? = some (RX51, TX51, 11)) {ad : Nat → Nat} {d : Nat → ClassId} {sz : Nat} {f_groups : Nat → Int32} {f_kinds : Nat → Int32} {f_as : Nat → Int32} {f_bs : Nat → Int32} {f_cs : Nat → Int32} {f_conditions : Int32} {f_ranks : Nat → Int32} {f_denies : Nat → Int32} {f_wants : Nat → Int32} {f_rules : Int32} {f_holds : Nat → Int32} {x1 : Int32} {x2 : Int32} {post : Int → (Int → Int) → Prop} (hw : wpX51_apart post (zF f_groups) (zF f_kinds) (zF f_as) (zF f_bs) (zF f_cs) f_conditions.toInt (zF f_ranks) (zF f_denies) (zF f_wants) f_rules.toInt (zF f_holds) x1.toInt x2.toInt) :
    Met l yX51_apart (ws_ yX51_apart cX51_apart 4 (some .int)) ({ frames := 4, cells := 0, slots := 0, locals := 97 } : Room) (kPc (dC, dI) cl (tX51 d) [.ref (ad 0), .int x1, .int x2] sz (wX51 ci ad d f_groups f_kinds f_as f_bs f_cs f_conditions f_ranks f_denies f_wants f_rules f_holds)) (va_Qi (fun (r : Int32) (u : (Nat → Int32)) => post r.toInt (zF (u))) (kB (dC, dI) cl (tX51 d) (va_A (wX51 ci ad d f_groups f_kinds f_as f_bs f_cs f_conditions f_ranks f_denies f_wants f_rules f_holds) sz) (fun u : (Nat → Int32) => (wX51 ci ad d f_groups f_kinds f_as f_bs f_cs f_conditions f_ranks f_denies f_wants f_rules (u)))) (va_A (wX51 ci ad d f_groups f_kinds f_as f_bs f_cs f_conditions f_ranks f_denies f_wants f_rules f_holds) sz)) 0 0 (va_A (wX51 ci ad d f_groups f_kinds f_as f_bs f_cs f_conditions f_ranks f_denies f_wants f_rules f_holds) sz) := by
  refine k_enter (by decide) (Nat.le_of_ble_eq_true rfl) ?_
  intro p e s m below meth c ls X hsz hH hl
  subst hsz
  generalize va_A (wX51 ci ad d f_groups f_kinds f_as f_bs f_cs f_conditions f_ranks f_denies f_wants f_rules f_holds) s.heap.size = A at hH ⊢
  have hx := X.1.1
  have hb := X.1.2.1
  have hl : lv_has ls 4 [(0, .ref (ad 0)), (1, .int x1), (2, .int x2)] := hl
  unfold wpX51_apart at hw
  refine lv_iload_n hx hb dX51_apart_0 rfl (lv_at hl 1 rfl) ?_
  refine lv_bipush (v := 8) hx hb dX51_apart_1 (by decide) ?_
  refine k_i0 hH (k_runS (As := [.int x1, .int 8]) (rest := []) X hH.1 hH.2.1 X.2.2.2 (walkX51_in hc (x0 := x1) (x1 := 8) (f_groups := f_groups) (f_kinds := f_kinds) (f_as := f_as) (f_bs := f_bs) (f_cs := f_cs) (f_conditions := f_conditions) (f_ranks := f_ranks) (f_denies := f_denies) (f_wants := f_wants) (f_rules := f_rules) (f_holds := f_holds) hw) (va_cwS 2 X.1.2.2.2.2 gX51_38 rfl rfl rfl hX51_in ⟨Nat.le_of_ble_eq_true rfl, Nat.le_of_ble_eq_true rfl⟩) rfl hl.1 rfl (Nat.le_of_ble_eq_true rfl) dX51_apart_3 ⟨Nat.le_refl 0, Nat.le_refl 0⟩) (fun r_1 _ H locs hw hH => ?_)
  have hH : kH (dC, dI) cl A s.heap H locs (wX51 ci ad d f_groups f_kinds f_as f_bs f_cs f_conditions f_ranks f_denies f_wants f_rules f_holds) := hH
  refine lv_if_eq (tgt := 18) hx hb dX51_apart_6 (by decide) (fun c_2 => ?_) (fun c_2 => ?_)
  · have hw := hw.1 (z_eq (rfl : r_1.toInt = _) (rfl : (0 : Int32).toInt = 0) c_2)
    refine lv_iconst (v := (-1)) hx hb dX51_apart_18 (by decide) ?_
    exact k_iret (v := (-1)) X hH (f_holds) hw rfl rfl dX51_apart_19
  · have hw := hw.2 (z_neq (rfl : r_1.toInt = _) (rfl : (0 : Int32).toInt = 0) c_2)
    refine lv_iload_n hx hb dX51_apart_9 rfl (lv_at hl 2 rfl) ?_
    refine lv_bipush (v := 8) hx hb dX51_apart_10 (by decide) ?_
    refine k_i0 hH (k_runS (As := [.int x2, .int 8]) (rest := []) X hH.1 hH.2.1 X.2.2.2 (walkX51_in hc (x0 := x2) (x1 := 8) (f_groups := f_groups) (f_kinds := f_kinds) (f_as := f_as) (f_bs := f_bs) (f_cs := f_cs) (f_conditions := f_conditions) (f_ranks := f_ranks) (f_denies := f_denies) (f_wants := f_wants) (f_rules := f_rules) (f_holds := f_holds) hw) (va_cwS 2 X.1.2.2.2.2 gX51_38 rfl rfl rfl hX51_in ⟨Nat.le_of_ble_eq_true rfl, Nat.le_of_ble_eq_true rfl⟩) rfl hl.1 rfl (Nat.le_of_ble_eq_true rfl) dX51_apart_12 ⟨Nat.le_refl 0, Nat.le_refl 0⟩) (fun r_3 _ H locs hw hH => ?_)
    have hH : kH (dC, dI) cl A s.heap H locs (wX51 ci ad d f_groups f_kinds f_as f_bs f_cs f_conditions f_ranks f_denies f_wants f_rules f_holds) := hH
    refine lv_if_ne (tgt := 20) hx hb dX51_apart_15 (by decide) (fun c_4 => ?_) (fun c_4 => ?_)
    · have hw := hw.2 (z_ne (rfl : r_3.toInt = _) (rfl : (0 : Int32).toInt = 0) c_4)
      refine lv_iconst (v := 0) hx hb dX51_apart_20 (by decide) ?_
      refine lv_istore_n (lv' := [(3, .int 0), (0, .ref (ad 0)), (1, .int x1), (2, .int x2)]) hx hb dX51_apart_21 rfl hl (by decide) rfl (fun ls hl => ?_)
      obtain ⟨fu, hw⟩ := hw
      refine atX51_apart_22 hc X ?_ ?_ fu 0 f_holds hw _ _ ls hH (lv_sub hl [1, 2, 3, 0] rfl)
      · intro x3_21 f_holds_22 hw H locs ls hH hl
        refine lv_sipush (v := 768) hx hb dX51_apart_56 (by decide) ?_
        refine lv_iload_n hx hb dX51_apart_59 rfl (lv_at hl 0 rfl) ?_
        refine lv_imul hx hb dX51_apart_60 ?_
        have e_23 := z_mul (z_m (rfl : (768 : Int32).toInt = 768)) (z_m (rfl : x1.toInt = _))
        refine lv_iload_n hx hb dX51_apart_61 rfl (lv_at hl 1 rfl) ?_
        refine lv_iadd hx hb dX51_apart_62 ?_
        have e_24 := z_add e_23 (z_m (rfl : x3_21.toInt = _))
        have hq_25 := hw.1
        have hw := hw.2
        have e_26 := z_x e_24 hq_25
        exact k_iret (v := (768 * x1) + x3_21) X hH (f_holds_22) (by rw [show ((768 * x1) + x3_21 : Int32).toInt = _ from e_26]; exact hw) rfl rfl dX51_apart_63
      · intro f_holds_27 hw H locs ls hH hl
        refine lv_bipush (v := (-2)) hx hb dX51_apart_70 (by decide) ?_
        exact k_iret (v := (-2)) X hH (f_holds_27) hw rfl rfl dX51_apart_72
    · have hw := hw.1 (z_eq (rfl : r_3.toInt = _) (rfl : (0 : Int32).toInt = 0) c_4)
      refine lv_iconst (v := (-1)) hx hb dX51_apart_18 (by decide) ?_
      exact k_iret (v := (-1)) X hH (f_holds) hw rfl rfl dX51_apart_19
set_option maxHeartbeats 4000000 in
theorem atX51_allowed_4 {p : Program} {l : Launch} {e : Env} {s : State} {m : MethodId} {args : Array Value} {below : List Frame} {meth : Method} {c : Code} {dC : Nat → ClassId} {dI : Nat → Nat → Nat} {cl : List vw_C} {ci : Nat} (hc : cl[ci]? = some (RX51, TX51, 11)) {ad : Nat → Nat} {d : Nat → ClassId} {A : Nat → Prop} {post : Int → (Int → Int) → Prop} {f_groups : Nat → Int32} {f_kinds : Nat → Int32} {f_as : Nat → Int32} {f_bs : Nat → Int32} {f_cs : Nat → Int32} {f_conditions : Int32} {f_ranks : Nat → Int32} {f_denies : Nat → Int32} {f_wants : Nat → Int32} {f_rules : Int32} (X : kX p s m args meth c cX51_allowed 3 RX51 (some .int) (dC, dI) cl (tX51 d)) {K34 : Int → (Int → Int) → Prop}   (hk34 : ∀ (x1 : Int32) (f_holds : Nat → Int32), K34 x1.toInt (zF f_holds) → ∀ (H : Heap) (locs : List Loc) (ls : Array Slot), kH (dC, dI) cl A s.heap H locs (wX51 ci ad d f_groups f_kinds f_as f_bs f_cs f_conditions f_ranks f_denies f_wants f_rules f_holds) → lv_has ls 3 [(1, .int x1)] → W p l e ({ frames := 4, cells := 0, slots := 0, locals := 97 } : Room) s m args below meth c H locs 0 0 (MQ below (va_Qi (fun (r : Int32) (u : (Nat → Int32)) => post r.toInt (zF (u))) (kB (dC, dI) cl (tX51 d) A (fun u : (Nat → Int32) => (wX51 ci ad d f_groups f_kinds f_as f_bs f_cs f_conditions f_ranks f_denies f_wants f_rules (u)))) A) args s 0 0 A) (F0 m 34 ls [])) :
    ∀ (nn : Nat) (x1 : Int32) (x2 : Int32) (f_holds : Nat → Int32), wX51_allowed_4 K34 (zF f_groups) (zF f_kinds) (zF f_as) (zF f_bs) (zF f_cs) f_conditions.toInt (zF f_ranks) (zF f_denies) (zF f_wants) f_rules.toInt nn x1.toInt x2.toInt (zF f_holds) → ∀ (H : Heap) (locs : List Loc) (ls : Array Slot), kH (dC, dI) cl A s.heap H locs (wX51 ci ad d f_groups f_kinds f_as f_bs f_cs f_conditions f_ranks f_denies f_wants f_rules f_holds) → lv_has ls 3 [(0, .ref (ad 0)), (1, .int x1), (2, .int x2)] → W p l e ({ frames := 4, cells := 0, slots := 0, locals := 97 } : Room) s m args below meth c H locs 0 0 (MQ below (va_Qi (fun (r : Int32) (u : (Nat → Int32)) => post r.toInt (zF (u))) (kB (dC, dI) cl (tX51 d) A (fun u : (Nat → Int32) => (wX51 ci ad d f_groups f_kinds f_as f_bs f_cs f_conditions f_ranks f_denies f_wants f_rules (u)))) A) args s 0 0 A) (F0 m 4 ls []) := by
  have hx := X.1.1
  have hb := X.1.2.1
  intro nn
  induction nn with
  | zero =>
    intro x1 x2 f_holds hw
    exact False.elim hw
  | succ n ih =>
    intro x1 x2 f_holds hw H locs ls hH hl
    rw [wX51_allowed_4] at hw
    refine lv_iload_n hx hb dX51_allowed_4 rfl (lv_at hl 2 rfl) ?_
    refine lv_sipush (v := 6144) hx hb dX51_allowed_5 (by decide) ?_
    refine lv_icmp_ge (tgt := 34) hx hb dX51_allowed_8 (by decide) (fun c_1 => ?_) (fun c_1 => ?_)
    · have hw := hw.1 (z_le (rfl : (6144 : Int32).toInt = 6144) (rfl : x2.toInt = _) c_1)
      exact hk34 x1 f_holds hw _ _ ls hH (lv_sub hl [1] rfl)
    · have hw := hw.2 (z_nle (rfl : (6144 : Int32).toInt = 6144) (rfl : x2.toInt = _) c_1)
      refine lv_iload_n hx hb dX51_allowed_11 rfl (lv_at hl 1 rfl) ?_
      refine lv_aload_n hx hb dX51_allowed_12 rfl (lv_at hl 0 rfl) ?_
      refine lv_iload_n hx hb dX51_allowed_13 rfl (lv_at hl 2 rfl) ?_
      refine lv_iconst (v := (-1)) hx hb dX51_allowed_14 (by decide) ?_
      refine k_i0 hH (k_runV (As := [.int x2, .int ((-1))]) (rest := [.int x1]) X hH.1 hH.2.1 X.2.2.2 (walkX51_isAllowed hc (x1 := x2) (x2 := (-1)) (f_groups := f_groups) (f_kinds := f_kinds) (f_as := f_as) (f_bs := f_bs) (f_cs := f_cs) (f_conditions := f_conditions) (f_ranks := f_ranks) (f_denies := f_denies) (f_wants := f_wants) (f_rules := f_rules) (f_holds := f_holds) hw) (cwV 2 X.1.2.2.2.2 gX51_74 rfl rfl rfl hX51_isAllowed ⟨Nat.le_of_ble_eq_true rfl, Nat.le_of_ble_eq_true rfl⟩) hc (q0 := 0) rfl rfl hl.1 rfl (Nat.le_of_ble_eq_true rfl) dX51_allowed_15 ⟨Nat.le_refl 0, Nat.le_refl 0⟩) (fun r_2 u H locs hw hH => ?_)
      obtain ⟨f_holds_3, eu⟩ : ∃ z, z = u := ⟨_, rfl⟩
      subst eu
      have hH : kH (dC, dI) cl A s.heap H locs (wX51 ci ad d f_groups f_kinds f_as f_bs f_cs f_conditions f_ranks f_denies f_wants f_rules f_holds_3) := hH
      refine lv_if_eq (tgt := 25) hx hb dX51_allowed_18 (by decide) (fun c_4 => ?_) (fun c_4 => ?_)
      · have hw := hw.1 (z_eq (rfl : r_2.toInt = _) (rfl : (0 : Int32).toInt = 0) c_4)
        refine lv_iconst (v := 0) hx hb dX51_allowed_25 (by decide) ?_
        refine lv_iadd hx hb dX51_allowed_26 ?_
        have e_5 := z_add (z_m (rfl : x1.toInt = _)) (z_m (rfl : (0 : Int32).toInt = 0))
        have hq_6 := hw.1
        have hw := hw.2
        have e_7 := z_x e_5 hq_6
        refine lv_topi (fun x1_8 ex1_8 => ?_)
        have hw := hw x1_8.toInt (by rw [ex1_8]; exact e_7)
        refine lv_istore_n (lv' := [(1, .int x1_8), (0, .ref (ad 0)), (2, .int x2)]) hx hb dX51_allowed_27 rfl hl (by decide) rfl (fun ls hl => ?_)
        have hq_10 := hw.1
        have hw := hw.2
        obtain ⟨x2_9, ex2_9⟩ : ∃ y : Int32, y = x2 + 1 := ⟨_, rfl⟩
        have hw := hw x2_9.toInt (by rw [ex2_9]; exact (z_x (z_add (z_m (rfl : x2.toInt = _)) (z_m (rfl : (1 : Int32).toInt = 1))) hq_10))
        refine lv_iinc (v := x2_9) (lv' := [(2, .int x2_9), (1, .int x1_8), (0, .ref (ad 0))]) hx hb dX51_allowed_28 hl (k := 2) rfl (by rw [ex2_9]; rfl) (by decide) rfl (fun ls hl => ?_)
        refine lv_goto (tgt := 4) hx hb dX51_allowed_31 (by decide) ?_
        exact ih x1_8 x2_9 f_holds_3 hw _ _ ls hH (lv_sub hl [2, 1, 0] rfl)
      · have hw := hw.2 (z_neq (rfl : r_2.toInt = _) (rfl : (0 : Int32).toInt = 0) c_4)
        refine lv_iconst (v := 1) hx hb dX51_allowed_21 (by decide) ?_
        refine lv_goto (tgt := 26) hx hb dX51_allowed_22 (by decide) ?_
        refine lv_iadd hx hb dX51_allowed_26 ?_
        have e_11 := z_add (z_m (rfl : x1.toInt = _)) (z_m (rfl : (1 : Int32).toInt = 1))
        have hq_12 := hw.1
        have hw := hw.2
        have e_13 := z_x e_11 hq_12
        refine lv_topi (fun x1_14 ex1_14 => ?_)
        have hw := hw x1_14.toInt (by rw [ex1_14]; exact e_13)
        refine lv_istore_n (lv' := [(1, .int x1_14), (0, .ref (ad 0)), (2, .int x2)]) hx hb dX51_allowed_27 rfl hl (by decide) rfl (fun ls hl => ?_)
        have hq_16 := hw.1
        have hw := hw.2
        obtain ⟨x2_15, ex2_15⟩ : ∃ y : Int32, y = x2 + 1 := ⟨_, rfl⟩
        have hw := hw x2_15.toInt (by rw [ex2_15]; exact (z_x (z_add (z_m (rfl : x2.toInt = _)) (z_m (rfl : (1 : Int32).toInt = 1))) hq_16))
        refine lv_iinc (v := x2_15) (lv' := [(2, .int x2_15), (1, .int x1_14), (0, .ref (ad 0))]) hx hb dX51_allowed_28 hl (k := 2) rfl (by rw [ex2_15]; rfl) (by decide) rfl (fun ls hl => ?_)
        refine lv_goto (tgt := 4) hx hb dX51_allowed_31 (by decide) ?_
        exact ih x1_14 x2_15 f_holds_3 hw _ _ ls hH (lv_sub hl [2, 1, 0] rfl)
set_option maxHeartbeats 4000000 in
theorem walkX51_allowed {l : Launch} {dC : Nat → ClassId} {dI : Nat → Nat → Nat} {cl : List vw_C} {ci : Nat} (hc : cl[ci]? = some (RX51, TX51, 11)) {ad : Nat → Nat} {d : Nat → ClassId} {sz : Nat} {f_groups : Nat → Int32} {f_kinds : Nat → Int32} {f_as : Nat → Int32} {f_bs : Nat → Int32} {f_cs : Nat → Int32} {f_conditions : Int32} {f_ranks : Nat → Int32} {f_denies : Nat → Int32} {f_wants : Nat → Int32} {f_rules : Int32} {f_holds : Nat → Int32}  {post : Int → (Int → Int) → Prop} (hw : wpX51_allowed post (zF f_groups) (zF f_kinds) (zF f_as) (zF f_bs) (zF f_cs) f_conditions.toInt (zF f_ranks) (zF f_denies) (zF f_wants) f_rules.toInt (zF f_holds) ) :
    Met l yX51_allowed (ws_ yX51_allowed cX51_allowed 3 (some .int)) ({ frames := 4, cells := 0, slots := 0, locals := 97 } : Room) (kPc (dC, dI) cl (tX51 d) [.ref (ad 0)] sz (wX51 ci ad d f_groups f_kinds f_as f_bs f_cs f_conditions f_ranks f_denies f_wants f_rules f_holds)) (va_Qi (fun (r : Int32) (u : (Nat → Int32)) => post r.toInt (zF (u))) (kB (dC, dI) cl (tX51 d) (va_A (wX51 ci ad d f_groups f_kinds f_as f_bs f_cs f_conditions f_ranks f_denies f_wants f_rules f_holds) sz) (fun u : (Nat → Int32) => (wX51 ci ad d f_groups f_kinds f_as f_bs f_cs f_conditions f_ranks f_denies f_wants f_rules (u)))) (va_A (wX51 ci ad d f_groups f_kinds f_as f_bs f_cs f_conditions f_ranks f_denies f_wants f_rules f_holds) sz)) 0 0 (va_A (wX51 ci ad d f_groups f_kinds f_as f_bs f_cs f_conditions f_ranks f_denies f_wants f_rules f_holds) sz) := by
  refine k_enter (by decide) (Nat.le_of_ble_eq_true rfl) ?_
  intro p e s m below meth c ls X hsz hH hl
  subst hsz
  generalize va_A (wX51 ci ad d f_groups f_kinds f_as f_bs f_cs f_conditions f_ranks f_denies f_wants f_rules f_holds) s.heap.size = A at hH ⊢
  have hx := X.1.1
  have hb := X.1.2.1
  have hl : lv_has ls 3 [(0, .ref (ad 0))] := hl
  unfold wpX51_allowed at hw
  refine lv_iconst (v := 0) hx hb dX51_allowed_0 (by decide) ?_
  refine lv_istore_n (lv' := [(1, .int 0), (0, .ref (ad 0))]) hx hb dX51_allowed_1 rfl hl (by decide) rfl (fun ls hl => ?_)
  refine lv_iconst (v := 0) hx hb dX51_allowed_2 (by decide) ?_
  refine lv_istore_n (lv' := [(2, .int 0), (1, .int 0), (0, .ref (ad 0))]) hx hb dX51_allowed_3 rfl hl (by decide) rfl (fun ls hl => ?_)
  obtain ⟨fu, hw⟩ := hw
  refine atX51_allowed_4 hc X ?_ fu 0 0 f_holds hw _ _ ls hH (lv_sub hl [2, 1, 0] rfl)
  · intro x1_17 f_holds_18 hw H locs ls hH hl
    refine lv_iload_n hx hb dX51_allowed_34 rfl (lv_at hl 0 rfl) ?_
    exact k_iret (v := x1_17) X hH (f_holds_18) hw rfl rfl dX51_allowed_35
set_option maxHeartbeats 4000000 in
theorem walkX51_conditions {l : Launch} {dC : Nat → ClassId} {dI : Nat → Nat → Nat} {cl : List vw_C} {ci : Nat} (hc : cl[ci]? = some (RX51, TX51, 11)) {ad : Nat → Nat} {d : Nat → ClassId} {sz : Nat} {f_groups : Nat → Int32} {f_kinds : Nat → Int32} {f_as : Nat → Int32} {f_bs : Nat → Int32} {f_cs : Nat → Int32} {f_conditions : Int32} {f_ranks : Nat → Int32} {f_denies : Nat → Int32} {f_wants : Nat → Int32} {f_rules : Int32} {f_holds : Nat → Int32}  {post : Int → Prop} (hw : wpX51_conditions post f_conditions.toInt ) :
    Met l yX51_conditions (ws_ yX51_conditions cX51_conditions 1 (some .int)) ({ frames := 0, cells := 0, slots := 0, locals := 0 } : Room) (kPc (dC, dI) cl (tX51 d) [.ref (ad 0)] sz (wX51 ci ad d f_groups f_kinds f_as f_bs f_cs f_conditions f_ranks f_denies f_wants f_rules f_holds)) (va_Qi (fun (r : Int32) (_ : Unit) => post r.toInt) (kB (dC, dI) cl (tX51 d) (va_A (wX51 ci ad d f_groups f_kinds f_as f_bs f_cs f_conditions f_ranks f_denies f_wants f_rules f_holds) sz) (fun _ : Unit => (wX51 ci ad d f_groups f_kinds f_as f_bs f_cs f_conditions f_ranks f_denies f_wants f_rules f_holds))) (va_A (wX51 ci ad d f_groups f_kinds f_as f_bs f_cs f_conditions f_ranks f_denies f_wants f_rules f_holds) sz)) 0 0 (va_A (wX51 ci ad d f_groups f_kinds f_as f_bs f_cs f_conditions f_ranks f_denies f_wants f_rules f_holds) sz) := by
  refine k_enter (by decide) (Nat.le_of_ble_eq_true rfl) ?_
  intro p e s m below meth c ls X hsz hH hl
  subst hsz
  generalize va_A (wX51 ci ad d f_groups f_kinds f_as f_bs f_cs f_conditions f_ranks f_denies f_wants f_rules f_holds) s.heap.size = A at hH ⊢
  have hx := X.1.1
  have hb := X.1.2.1
  have hl : lv_has ls 1 [(0, .ref (ad 0))] := hl
  unfold wpX51_conditions at hw
  refine lv_aload_n hx hb dX51_conditions_0 rfl (lv_at hl 0 rfl) ?_
  refine k_get X hH in_X51 0 rfl hc 5 (by decide) q6347 rfl dX51_conditions_1 ?_
  exact k_iret (v := f_conditions) X hH () hw rfl rfl dX51_conditions_4
set_option maxHeartbeats 4000000 in
theorem walkX51_rules {l : Launch} {dC : Nat → ClassId} {dI : Nat → Nat → Nat} {cl : List vw_C} {ci : Nat} (hc : cl[ci]? = some (RX51, TX51, 11)) {ad : Nat → Nat} {d : Nat → ClassId} {sz : Nat} {f_groups : Nat → Int32} {f_kinds : Nat → Int32} {f_as : Nat → Int32} {f_bs : Nat → Int32} {f_cs : Nat → Int32} {f_conditions : Int32} {f_ranks : Nat → Int32} {f_denies : Nat → Int32} {f_wants : Nat → Int32} {f_rules : Int32} {f_holds : Nat → Int32}  {post : Int → Prop} (hw : wpX51_rules post f_rules.toInt ) :
    Met l yX51_rules (ws_ yX51_rules cX51_rules 1 (some .int)) ({ frames := 0, cells := 0, slots := 0, locals := 0 } : Room) (kPc (dC, dI) cl (tX51 d) [.ref (ad 0)] sz (wX51 ci ad d f_groups f_kinds f_as f_bs f_cs f_conditions f_ranks f_denies f_wants f_rules f_holds)) (va_Qi (fun (r : Int32) (_ : Unit) => post r.toInt) (kB (dC, dI) cl (tX51 d) (va_A (wX51 ci ad d f_groups f_kinds f_as f_bs f_cs f_conditions f_ranks f_denies f_wants f_rules f_holds) sz) (fun _ : Unit => (wX51 ci ad d f_groups f_kinds f_as f_bs f_cs f_conditions f_ranks f_denies f_wants f_rules f_holds))) (va_A (wX51 ci ad d f_groups f_kinds f_as f_bs f_cs f_conditions f_ranks f_denies f_wants f_rules f_holds) sz)) 0 0 (va_A (wX51 ci ad d f_groups f_kinds f_as f_bs f_cs f_conditions f_ranks f_denies f_wants f_rules f_holds) sz) := by
  refine k_enter (by decide) (Nat.le_of_ble_eq_true rfl) ?_
  intro p e s m below meth c ls X hsz hH hl
  subst hsz
  generalize va_A (wX51 ci ad d f_groups f_kinds f_as f_bs f_cs f_conditions f_ranks f_denies f_wants f_rules f_holds) s.heap.size = A at hH ⊢
  have hx := X.1.1
  have hb := X.1.2.1
  have hl : lv_has ls 1 [(0, .ref (ad 0))] := hl
  unfold wpX51_rules at hw
  refine lv_aload_n hx hb dX51_rules_0 rfl (lv_at hl 0 rfl) ?_
  refine k_get X hH in_X51 0 rfl hc 9 (by decide) q6351 rfl dX51_rules_1 ?_
  exact k_iret (v := f_rules) X hH () hw rfl rfl dX51_rules_4
