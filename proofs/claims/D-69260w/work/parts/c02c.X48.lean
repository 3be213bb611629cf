/-! KnowHouseModel$VersionTransModel (printed by tools/zgen.py) -/
set_option maxRecDepth 100000
set_option maxHeartbeats 4000000 in
theorem walkX48_latest {l : Launch} {dC : Nat → ClassId} {dI : Nat → Nat → Nat} {cl : List vw_C} {ci : Nat} (hc : cl[ci]? = some (RX48, TX48, 27)) {ad : Nat → Nat} {d : Nat → ClassId} {sz : Nat} {f_rowTriples : Nat → Int32} {f_rowVersions : Nat → Int32} {f_rowTells : Nat → Int32} {f_rows : Int32} {f_latest : Int32} {f_pins : Nat → Int32} {f_writers : Nat → Int32} {f_sees : Nat → Int32} {f_states : Nat → Int32} {f_notes : Nat → Int32} {f_wrote : Nat → Int32} {f_waitsFor : Nat → Int32} {f_waitTriples : Nat → Int32} {f_waitTells : Nat → Int32} {f_since : Nat → Int32} {f_clock : Int32} {f_count : Int32} {f_holders : Nat → Int32} {f_queue : Nat → Int32} {f_queueFrom : Int32} {f_queueTo : Int32} {f_ring : Nat → Int32} {f_ringSize : Int32} {f_failures : Nat → Int32} {f_refusals : Nat → Int32} {f_thrown : Int32} {f_best : Nat → Int32}  {post : Int → Int → Prop} (hw : wpX48_latest post f_latest.toInt ) :
    Met l yX48_latest (ws_ yX48_latest cX48_latest 1 (some .int)) ({ frames := 0, cells := 0, slots := 0, locals := 0 } : Room) (kPc (dC, dI) cl (tX48 d) [.ref (ad 0)] sz (wX48 ci ad d f_rowTriples f_rowVersions f_rowTells f_rows f_latest f_pins f_writers f_sees f_states f_notes f_wrote f_waitsFor f_waitTriples f_waitTells f_since f_clock f_count f_holders f_queue f_queueFrom f_queueTo f_ring f_ringSize f_failures f_refusals f_thrown f_best)) (va_Qi (fun (r : Int32) (u : Int32) => post r.toInt (u).toInt) (kB (dC, dI) cl (tX48 d) (va_A (wX48 ci ad d f_rowTriples f_rowVersions f_rowTells f_rows f_latest f_pins f_writers f_sees f_states f_notes f_wrote f_waitsFor f_waitTriples f_waitTells f_since f_clock f_count f_holders f_queue f_queueFrom f_queueTo f_ring f_ringSize f_failures f_refusals f_thrown f_best) sz) (fun u : Int32 => (wX48 ci ad d f_rowTriples f_rowVersions f_rowTells f_rows f_latest f_pins f_writers f_sees f_states f_notes f_wrote f_waitsFor f_waitTriples f_waitTells f_since f_clock f_count f_holders f_queue f_queueFrom f_queueTo f_ring f_ringSize f_failures f_refusals (u) f_best))) (va_A (wX48 ci ad d f_rowTriples f_rowVersions f_rowTells f_rows f_latest f_pins f_writers f_sees f_states f_notes f_wrote f_waitsFor f_waitTriples f_waitTells f_since f_clock f_count f_holders f_queue f_queueFrom f_queueTo f_ring f_ringSize f_failures f_refusals f_thrown f_best) sz)) 0 0 (va_A (wX48 ci ad d f_rowTriples f_rowVersions f_rowTells f_rows f_latest f_pins f_writers f_sees f_states f_notes f_wrote f_waitsFor f_waitTriples f_waitTells f_since f_clock f_count f_holders f_queue f_queueFrom f_queueTo f_ring f_ringSize f_failures f_refusals f_thrown f_best) sz) := by
  refine k_enter (by decide) (Nat.le_of_ble_eq_true rfl) ?_
  intro p e s m below meth c ls X hsz hH hl
  subst hsz
  generalize va_A (wX48 ci ad d f_rowTriples f_rowVersions f_rowTells f_rows f_latest f_pins f_writers f_sees f_states f_notes f_wrote f_waitsFor f_waitTriples f_waitTells f_since f_clock f_count f_holders f_queue f_queueFrom f_queueTo f_ring f_ringSize f_failures f_refusals f_thrown f_best) s.heap.size = A at hH ⊢
  have hx := X.1.1
  have hb := X.1.2.1
  have hl : lv_has ls 1 [(0, .ref (ad 0))] := hl
  unfold wpX48_latest at hw
  refine lv_aload_n hx hb dX48_latest_0 rfl (lv_at hl 0 rfl) ?_
  refine lv_iconst (v := 0) hx hb dX48_latest_1 (by decide) ?_
  refine k_put X hH in_X48 tyX48_ok nmX48 0 rfl hc 25 (by decide) q6097 rfl (ty := .int) rfl rfl rfl (Nat.le_of_ble_eq_true rfl) dX48_latest_2 (ws1 := (wX48 ci ad d f_rowTriples f_rowVersions f_rowTells f_rows f_latest f_pins f_writers f_sees f_states f_notes f_wrote f_waitsFor f_waitTriples f_waitTells f_since f_clock f_count f_holders f_queue f_queueFrom f_queueTo f_ring f_ringSize f_failures f_refusals 0 f_best)) rfl (fun H locs hH => ?_)
  refine lv_aload_n hx hb dX48_latest_5 rfl (lv_at hl 0 rfl) ?_
  refine k_get X hH in_X48 0 rfl hc 4 (by decide) q6076 rfl dX48_latest_6 ?_
  exact k_iret (v := f_latest) X hH (0) hw rfl rfl dX48_latest_9
set_option maxHeartbeats 4000000 in
theorem walkX48_start {l : Launch} {dC : Nat → ClassId} {dI : Nat → Nat → Nat} {cl : List vw_C} {ci : Nat} (hc : cl[ci]? = some (RX48, TX48, 27)) {ad : Nat → Nat} {d : Nat → ClassId} {sz : Nat} {f_rowTriples : Nat → Int32} {f_rowVersions : Nat → Int32} {f_rowTells : Nat → Int32} {f_rows : Int32} {f_latest : Int32} {f_pins : Nat → Int32} {f_writers : Nat → Int32} {f_sees : Nat → Int32} {f_states : Nat → Int32} {f_notes : Nat → Int32} {f_wrote : Nat → Int32} {f_waitsFor : Nat → Int32} {f_waitTriples : Nat → Int32} {f_waitTells : Nat → Int32} {f_since : Nat → Int32} {f_clock : Int32} {f_count : Int32} {f_holders : Nat → Int32} {f_queue : Nat → Int32} {f_queueFrom : Int32} {f_queueTo : Int32} {f_ring : Nat → Int32} {f_ringSize : Int32} {f_failures : Nat → Int32} {f_refusals : Nat → Int32} {f_thrown : Int32} {f_best : Nat → Int32} {x1 : Int32} {x2 : Int32} {post : Int → (Int → Int) → (Int → Int) → (Int → Int) → (Int → Int) → Int → Prop} (hw : wpX48_start post (zF f_writers) (zF f_sees) (zF f_states) (zF f_waitsFor) f_count.toInt x1.toInt x2.toInt) :
    Met l yX48_start (ws_ yX48_start cX48_start 3 (some .int)) ({ frames := 0, cells := 0, slots := 0, locals := 0 } : Room) (kPc (dC, dI) cl (tX48 d) [.ref (ad 0), .int x1, .int x2] sz (wX48 ci ad d f_rowTriples f_rowVersions f_rowTells f_rows f_latest f_pins f_writers f_sees f_states f_notes f_wrote f_waitsFor f_waitTriples f_waitTells f_since f_clock f_count f_holders f_queue f_queueFrom f_queueTo f_ring f_ringSize f_failures f_refusals f_thrown f_best)) (va_Qi (fun (r : Int32) (u : (Nat → Int32) × (Nat → Int32) × (Nat → Int32) × (Nat → Int32) × Int32) => post r.toInt (zF (u.1)) (zF (u.2.1)) (zF (u.2.2.1)) (zF (u.2.2.2.1)) (u.2.2.2.2).toInt) (kB (dC, dI) cl (tX48 d) (va_A (wX48 ci ad d f_rowTriples f_rowVersions f_rowTells f_rows f_latest f_pins f_writers f_sees f_states f_notes f_wrote f_waitsFor f_waitTriples f_waitTells f_since f_clock f_count f_holders f_queue f_queueFrom f_queueTo f_ring f_ringSize f_failures f_refusals f_thrown f_best) sz) (fun u : (Nat → Int32) × (Nat → Int32) × (Nat → Int32) × (Nat → Int32) × Int32 => (wX48 ci ad d f_rowTriples f_rowVersions f_rowTells f_rows f_latest f_pins (u.1) (u.2.1) (u.2.2.1) f_notes f_wrote (u.2.2.2.1) f_waitTriples f_waitTells f_since f_clock (u.2.2.2.2) f_holders f_queue f_queueFrom f_queueTo f_ring f_ringSize f_failures f_refusals f_thrown f_best))) (va_A (wX48 ci ad d f_rowTriples f_rowVersions f_rowTells f_rows f_latest f_pins f_writers f_sees f_states f_notes f_wrote f_waitsFor f_waitTriples f_waitTells f_since f_clock f_count f_holders f_queue f_queueFrom f_queueTo f_ring f_ringSize f_failures f_refusals f_thrown f_best) sz)) 0 0 (va_A (wX48 ci ad d f_rowTriples f_rowVersions f_rowTells f_rows f_latest f_pins f_writers f_sees f_states f_notes f_wrote f_waitsFor f_waitTriples f_waitTells f_since f_clock f_count f_holders f_queue f_queueFrom f_queueTo f_ring f_ringSize f_failures f_refusals f_thrown f_best) sz) := by
  refine k_enter (by decide) (Nat.le_of_ble_eq_true rfl) ?_
  intro p e s m below meth c ls X hsz hH hl
  subst hsz
  generalize va_A (wX48 ci ad d f_rowTriples f_rowVersions f_rowTells f_rows f_latest f_pins f_writers f_sees f_states f_notes f_wrote f_waitsFor f_waitTriples f_waitTells f_since f_clock f_count f_holders f_queue f_queueFrom f_queueTo f_ring f_ringSize f_failures f_refusals f_thrown f_best) s.heap.size = A at hH ⊢
  have hx := X.1.1
  have hb := X.1.2.1
  have hl : lv_has ls 3 [(0, .ref (ad 0)), (1, .int x1), (2, .int x2)] := hl
  unfold wpX48_start at hw
  refine lv_aload_n hx hb dX48_start_0 rfl (lv_at hl 0 rfl) ?_
  refine k_get X hH in_X48 0 rfl hc 6 (by decide) q6078 rfl dX48_start_1 ?_
  refine lv_aload_n hx hb dX48_start_4 rfl (lv_at hl 0 rfl) ?_
  refine k_get X hH in_X48 0 rfl hc 16 (by decide) q6088 rfl dX48_start_5 ?_
  refine lv_iload_n hx hb dX48_start_8 rfl (lv_at hl 1 rfl) ?_
  have hq_2 := hw.1
  have hw := hw.2
  have hq_3 := hw.1
  have hw := hw.2
  obtain ⟨f_writers_1, ef_writers_1⟩ : ∃ y : Nat → Int32, y = upd f_writers f_count.toNatClampNeg (vp_nar .boolean x1) := ⟨_, rfl⟩
  refine k_zast X hH 5 4 rfl rfl (z_in (rfl : f_count.toInt = _) hq_2) dX48_start_9 ef_writers_1 (ws1 := (wX48 ci ad d f_rowTriples f_rowVersions f_rowTells f_rows f_latest f_pins f_writers_1 f_sees f_states f_notes f_wrote f_waitsFor f_waitTriples f_waitTells f_since f_clock f_count f_holders f_queue f_queueFrom f_queueTo f_ring f_ringSize f_failures f_refusals f_thrown f_best)) rfl (fun H locs hH => ?_)
  have hw := hw (zF f_writers_1) (by rw [ef_writers_1]; exact z_st (f := f_writers) (rfl : f_count.toInt = _) hq_2.1 (z_narZ (rfl : x1.toInt = _) hq_3))
  refine lv_aload_n hx hb dX48_start_10 rfl (lv_at hl 0 rfl) ?_
  refine k_get X hH in_X48 0 rfl hc 7 (by decide) q6079 rfl dX48_start_11 ?_
  refine lv_aload_n hx hb dX48_start_14 rfl (lv_at hl 0 rfl) ?_
  refine k_get X hH in_X48 0 rfl hc 16 (by decide) q6088 rfl dX48_start_15 ?_
  refine lv_iload_n hx hb dX48_start_18 rfl (lv_at hl 2 rfl) ?_
  obtain ⟨f_sees_4, ef_sees_4⟩ : ∃ y : Nat → Int32, y = upd f_sees f_count.toNatClampNeg x2 := ⟨_, rfl⟩
  refine k_iast X hH 6 5 rfl rfl (z_in (rfl : f_count.toInt = _) hq_2) dX48_start_19 ef_sees_4 (ws1 := (wX48 ci ad d f_rowTriples f_rowVersions f_rowTells f_rows f_latest f_pins f_writers_1 f_sees_4 f_states f_notes f_wrote f_waitsFor f_waitTriples f_waitTells f_since f_clock f_count f_holders f_queue f_queueFrom f_queueTo f_ring f_ringSize f_failures f_refusals f_thrown f_best)) rfl (fun H locs hH => ?_)
  have hw := hw (zF f_sees_4) (by rw [ef_sees_4]; exact z_st (f := f_sees) (rfl : f_count.toInt = _) hq_2.1 (rfl : x2.toInt = _))
  refine lv_aload_n hx hb dX48_start_20 rfl (lv_at hl 0 rfl) ?_
  refine k_get X hH in_X48 0 rfl hc 8 (by decide) q6080 rfl dX48_start_21 ?_
  refine lv_aload_n hx hb dX48_start_24 rfl (lv_at hl 0 rfl) ?_
  refine k_get X hH in_X48 0 rfl hc 16 (by decide) q6088 rfl dX48_start_25 ?_
  refine lv_iconst (v := 0) hx hb dX48_start_28 (by decide) ?_
  obtain ⟨f_states_5, ef_states_5⟩ : ∃ y : Nat → Int32, y = upd f_states f_count.toNatClampNeg 0 := ⟨_, rfl⟩
  refine k_iast X hH 7 6 rfl rfl (z_in (rfl : f_count.toInt = _) hq_2) dX48_start_29 ef_states_5 (ws1 := (wX48 ci ad d f_rowTriples f_rowVersions f_rowTells f_rows f_latest f_pins f_writers_1 f_sees_4 f_states_5 f_notes f_wrote f_waitsFor f_waitTriples f_waitTells f_since f_clock f_count f_holders f_queue f_queueFrom f_queueTo f_ring f_ringSize f_failures f_refusals f_thrown f_best)) rfl (fun H locs hH => ?_)
  have hw := hw (zF f_states_5) (by rw [ef_states_5]; exact z_st (f := f_states) (rfl : f_count.toInt = _) hq_2.1 (rfl : (0 : Int32).toInt = 0))
  refine lv_aload_n hx hb dX48_start_30 rfl (lv_at hl 0 rfl) ?_
  refine k_get X hH in_X48 0 rfl hc 11 (by decide) q6083 rfl dX48_start_31 ?_
  refine lv_aload_n hx hb dX48_start_34 rfl (lv_at hl 0 rfl) ?_
  refine k_get X hH in_X48 0 rfl hc 16 (by decide) q6088 rfl dX48_start_35 ?_
  refine lv_iconst (v := (-1)) hx hb dX48_start_38 (by decide) ?_
  obtain ⟨f_waitsFor_6, ef_waitsFor_6⟩ : ∃ y : Nat → Int32, y = upd f_waitsFor f_count.toNatClampNeg (-1) := ⟨_, rfl⟩
  refine k_iast X hH 10 9 rfl rfl (z_in (rfl : f_count.toInt = _) hq_2) dX48_start_39 ef_waitsFor_6 (ws1 := (wX48 ci ad d f_rowTriples f_rowVersions f_rowTells f_rows f_latest f_pins f_writers_1 f_sees_4 f_states_5 f_notes f_wrote f_waitsFor_6 f_waitTriples f_waitTells f_since f_clock f_count f_holders f_queue f_queueFrom f_queueTo f_ring f_ringSize f_failures f_refusals f_thrown f_best)) rfl (fun H locs hH => ?_)
  have hw := hw (zF f_waitsFor_6) (by rw [ef_waitsFor_6]; exact z_st (f := f_waitsFor) (rfl : f_count.toInt = _) hq_2.1 (rfl : ((-1) : Int32).toInt = (-1)))
  refine lv_aload_n hx hb dX48_start_40 rfl (lv_at hl 0 rfl) ?_
  refine lv_dup hx hb dX48_start_41 rfl ?_
  refine k_get X hH in_X48 0 rfl hc 16 (by decide) q6088 rfl dX48_start_42 ?_
  refine lv_iconst (v := 1) hx hb dX48_start_45 (by decide) ?_
  refine lv_iadd hx hb dX48_start_46 ?_
  have e_7 := z_add (z_m (rfl : f_count.toInt = _)) (z_m (rfl : (1 : Int32).toInt = 1))
  have hq_8 := hw.1
  have hw := hw.2
  have e_9 := z_x e_7 hq_8
  refine lv_topi (fun f_count_10 ef_count_10 => ?_)
  have hw := hw f_count_10.toInt (by rw [ef_count_10]; exact e_9)
  refine k_put X hH in_X48 tyX48_ok nmX48 0 rfl hc 16 (by decide) q6088 rfl (ty := .int) rfl rfl rfl (Nat.le_of_ble_eq_true rfl) dX48_start_47 (ws1 := (wX48 ci ad d f_rowTriples f_rowVersions f_rowTells f_rows f_latest f_pins f_writers_1 f_sees_4 f_states_5 f_notes f_wrote f_waitsFor_6 f_waitTriples f_waitTells f_since f_clock f_count_10 f_holders f_queue f_queueFrom f_queueTo f_ring f_ringSize f_failures f_refusals f_thrown f_best)) rfl (fun H locs hH => ?_)
  refine lv_aload_n hx hb dX48_start_50 rfl (lv_at hl 0 rfl) ?_
  refine k_get X hH in_X48 0 rfl hc 16 (by decide) q6088 rfl dX48_start_51 ?_
  refine lv_iconst (v := 1) hx hb dX48_start_54 (by decide) ?_
  refine lv_isub hx hb dX48_start_55 ?_
  have e_11 := z_sub (z_m (rfl : f_count_10.toInt = _)) (z_m (rfl : (1 : Int32).toInt = 1))
  have hq_12 := hw.1
  have hw := hw.2
  have e_13 := z_x e_11 hq_12
  exact k_iret (v := f_count_10 - 1) X hH (f_writers_1, f_sees_4, f_states_5, f_waitsFor_6, f_count_10) (by rw [show (f_count_10 - 1 : Int32).toInt = _ from e_13]; exact hw) rfl rfl dX48_start_56
set_option maxHeartbeats 4000000 in
theorem walkX48_begin {l : Launch} {dC : Nat → ClassId} {dI : Nat → Nat → Nat} {cl : List vw_C} {ci : Nat} (hc : cl[ci]? = some (RX48, TX48, 27)) {ad : Nat → Nat} {d : Nat → ClassId} {sz : Nat} {f_rowTriples : Nat → Int32} {f_rowVersions : Nat → Int32} {f_rowTells : Nat → Int32} {f_rows : Int32} {f_latest : Int32} {f_pins : Nat → Int32} {f_writers : Nat → Int32} {f_sees : Nat → Int32} {f_states : Nat → Int32} {f_notes : Nat → Int32} {f_wrote : Nat → Int32} {f_waitsFor : Nat → Int32} {f_waitTriples : Nat → Int32} {f_waitTells : Nat → Int32} {f_since : Nat → Int32} {f_clock : Int32} {f_count : Int32} {f_holders : Nat → Int32} {f_queue : Nat → Int32} {f_queueFrom : Int32} {f_queueTo : Int32} {f_ring : Nat → Int32} {f_ringSize : Int32} {f_failures : Nat → Int32} {f_refusals : Nat → Int32} {f_thrown : Int32} {f_best : Nat → Int32}  {post : Int → (Int → Int) → (Int → Int) → (Int → Int) → (Int → Int) → Int → Int → Prop} (hw : wpX48_begin post f_latest.toInt (zF f_writers) (zF f_sees) (zF f_states) (zF f_waitsFor) f_count.toInt ) :
    Met l yX48_begin (ws_ yX48_begin cX48_begin 1 (some .int)) ({ frames := 1, cells := 0, slots := 0, locals := 22 } : Room) (kPc (dC, dI) cl (tX48 d) [.ref (ad 0)] sz (wX48 ci ad d f_rowTriples f_rowVersions f_rowTells f_rows f_latest f_pins f_writers f_sees f_states f_notes f_wrote f_waitsFor f_waitTriples f_waitTells f_since f_clock f_count f_holders f_queue f_queueFrom f_queueTo f_ring f_ringSize f_failures f_refusals f_thrown f_best)) (va_Qi (fun (r : Int32) (u : (Nat → Int32) × (Nat → Int32) × (Nat → Int32) × (Nat → Int32) × Int32 × Int32) => post r.toInt (zF (u.1)) (zF (u.2.1)) (zF (u.2.2.1)) (zF (u.2.2.2.1)) (u.2.2.2.2.1).toInt (u.2.2.2.2.2).toInt) (kB (dC, dI) cl (tX48 d) (va_A (wX48 ci ad d f_rowTriples f_rowVersions f_rowTells f_rows f_latest f_pins f_writers f_sees f_states f_notes f_wrote f_waitsFor f_waitTriples f_waitTells f_since f_clock f_count f_holders f_queue f_queueFrom f_queueTo f_ring f_ringSize f_failures f_refusals f_thrown f_best) sz) (fun u : (Nat → Int32) × (Nat → Int32) × (Nat → Int32) × (Nat → Int32) × Int32 × Int32 => (wX48 ci ad d f_rowTriples f_rowVersions f_rowTells f_rows f_latest f_pins (u.1) (u.2.1) (u.2.2.1) f_notes f_wrote (u.2.2.2.1) f_waitTriples f_waitTells f_since f_clock (u.2.2.2.2.1) f_holders f_queue f_queueFrom f_queueTo f_ring f_ringSize f_failures f_refusals (u.2.2.2.2.2) f_best))) (va_A (wX48 ci ad d f_rowTriples f_rowVersions f_rowTells f_rows f_latest f_pins f_writers f_sees f_states f_notes f_wrote f_waitsFor f_waitTriples f_waitTells f_since f_clock f_count f_holders f_queue f_queueFrom f_queueTo f_ring f_ringSize f_failures f_refusals f_thrown f_best) sz)) 0 0 (va_A (wX48 ci ad d f_rowTriples f_rowVersions f_rowTells f_rows f_latest f_pins f_writers f_sees f_states f_notes f_wrote f_waitsFor f_waitTriples f_waitTells f_since f_clock f_count f_holders f_queue f_queueFrom f_queueTo f_ring f_ringSize f_failures f_refusals f_thrown f_best) sz) := by
  refine k_enter (by decide) (Nat.le_of_ble_eq_true rfl) ?_
  intro p e s m below meth c ls X hsz hH hl
  subst hsz
  generalize va_A (wX48 ci ad d f_rowTriples f_rowVersions f_rowTells f_rows f_latest f_pins f_writers f_sees f_states f_notes f_wrote f_waitsFor f_waitTriples f_waitTells f_since f_clock f_count f_holders f_queue f_queueFrom f_queueTo f_ring f_ringSize f_failures f_refusals f_thrown f_best) s.heap.size = A at hH ⊢
  have hx := X.1.1
  have hb := X.1.2.1
  have hl : lv_has ls 1 [(0, .ref (ad 0))] := hl
  unfold wpX48_begin at hw
  refine lv_aload_n hx hb dX48_begin_0 rfl (lv_at hl 0 rfl) ?_
  refine lv_aload_n hx hb dX48_begin_1 rfl (lv_at hl 0 rfl) ?_
  refine k_get X hH in_X48 0 rfl hc 16 (by decide) q6088 rfl dX48_begin_2 ?_
  refine lv_bipush (v := 60) hx hb dX48_begin_5 (by decide) ?_
  refine lv_icmp_ge (tgt := 14) hx hb dX48_begin_7 (by decide) (fun c_1 => ?_) (fun c_1 => ?_)
  · have hw := hw.1 (z_le (rfl : (60 : Int32).toInt = 60) (rfl : f_count.toInt = _) c_1)
    refine lv_iconst (v := 1) hx hb dX48_begin_14 (by decide) ?_
    refine k_put X hH in_X48 tyX48_ok nmX48 0 rfl hc 25 (by decide) q6097 rfl (ty := .int) rfl rfl rfl (Nat.le_of_ble_eq_true rfl) dX48_begin_15 (ws1 := (wX48 ci ad d f_rowTriples f_rowVersions f_rowTells f_rows f_latest f_pins f_writers f_sees f_states f_notes f_wrote f_waitsFor f_waitTriples f_waitTells f_since f_clock f_count f_holders f_queue f_queueFrom f_queueTo f_ring f_ringSize f_failures f_refusals 1 f_best)) rfl (fun H locs hH => ?_)
    refine lv_aload_n hx hb dX48_begin_18 rfl (lv_at hl 0 rfl) ?_
    refine k_get X hH in_X48 0 rfl hc 25 (by decide) q6097 rfl dX48_begin_19 ?_
    refine lv_if_ne (tgt := 37) hx hb dX48_begin_22 (by decide) (fun c_2 => ?_) (fun c_2 => ?_)
    · have hw := hw.2 (z_ne (rfl : (1 : Int32).toInt = 1) (rfl : (0 : Int32).toInt = 0) c_2)
      refine lv_iconst (v := 0) hx hb dX48_begin_37 (by decide) ?_
      exact k_iret (v := 0) X hH (f_writers, f_sees, f_states, f_waitsFor, f_count, 1) hw rfl rfl dX48_begin_38
    · have hw := hw.1 (z_eq (rfl : (1 : Int32).toInt = 1) (rfl : (0 : Int32).toInt = 0) c_2)
      refine lv_aload_n hx hb dX48_begin_25 rfl (lv_at hl 0 rfl) ?_
      refine lv_iconst (v := 1) hx hb dX48_begin_26 (by decide) ?_
      refine lv_aload_n hx hb dX48_begin_27 rfl (lv_at hl 0 rfl) ?_
      refine k_get X hH in_X48 0 rfl hc 4 (by decide) q6076 rfl dX48_begin_28 ?_
      refine k_i0 hH (k_runV (As := [.int 1, .int f_latest]) (rest := []) X hH.1 hH.2.1 X.2.2.2 (walkX48_start hc (x1 := 1) (x2 := f_latest) (f_rowTriples := f_rowTriples) (f_rowVersions := f_rowVersions) (f_rowTells := f_rowTells) (f_rows := f_rows) (f_latest := f_latest) (f_pins := f_pins) (f_writers := f_writers) (f_sees := f_sees) (f_states := f_states) (f_notes := f_notes) (f_wrote := f_wrote) (f_waitsFor := f_waitsFor) (f_waitTriples := f_waitTriples) (f_waitTells := f_waitTells) (f_since := f_since) (f_clock := f_clock) (f_count := f_count) (f_holders := f_holders) (f_queue := f_queue) (f_queueFrom := f_queueFrom) (f_queueTo := f_queueTo) (f_ring := f_ring) (f_ringSize := f_ringSize) (f_failures := f_failures) (f_refusals := f_refusals) (f_thrown := 1) (f_best := f_best) hw) (cwV 2 X.1.2.2.2.2 gX48_107 rfl rfl rfl hX48_start ⟨Nat.le_of_ble_eq_true rfl, Nat.le_of_ble_eq_true rfl⟩) hc (q0 := 0) rfl rfl hl.1 rfl (Nat.le_of_ble_eq_true rfl) dX48_begin_31 ⟨Nat.le_refl 0, Nat.le_refl 0⟩) (fun r_3 u H locs hw hH => ?_)
      obtain ⟨f_writers_4, f_sees_5, f_states_6, f_waitsFor_7, f_count_8⟩ := u
      have hH : kH (dC, dI) cl A s.heap H locs (wX48 ci ad d f_rowTriples f_rowVersions f_rowTells f_rows f_latest f_pins f_writers_4 f_sees_5 f_states_6 f_notes f_wrote f_waitsFor_7 f_waitTriples f_waitTells f_since f_clock f_count_8 f_holders f_queue f_queueFrom f_queueTo f_ring f_ringSize f_failures f_refusals 1 f_best) := hH
      refine lv_goto (tgt := 38) hx hb dX48_begin_34 (by decide) ?_
      exact k_iret (v := r_3) X hH (f_writers_4, f_sees_5, f_states_6, f_waitsFor_7, f_count_8, 1) hw rfl rfl dX48_begin_38
  · have hw := hw.2 (z_nle (rfl : (60 : Int32).toInt = 60) (rfl : f_count.toInt = _) c_1)
    refine lv_iconst (v := 0) hx hb dX48_begin_10 (by decide) ?_
    refine lv_goto (tgt := 15) hx hb dX48_begin_11 (by decide) ?_
    refine k_put X hH in_X48 tyX48_ok nmX48 0 rfl hc 25 (by decide) q6097 rfl (ty := .int) rfl rfl rfl (Nat.le_of_ble_eq_true rfl) dX48_begin_15 (ws1 := (wX48 ci ad d f_rowTriples f_rowVersions f_rowTells f_rows f_latest f_pins f_writers f_sees f_states f_notes f_wrote f_waitsFor f_waitTriples f_waitTells f_since f_clock f_count f_holders f_queue f_queueFrom f_queueTo f_ring f_ringSize f_failures f_refusals 0 f_best)) rfl (fun H locs hH => ?_)
    refine lv_aload_n hx hb dX48_begin_18 rfl (lv_at hl 0 rfl) ?_
    refine k_get X hH in_X48 0 rfl hc 25 (by decide) q6097 rfl dX48_begin_19 ?_
    refine lv_if_ne (tgt := 37) hx hb dX48_begin_22 (by decide) (fun c_9 => ?_) (fun c_9 => ?_)
    · have hw := hw.2 (z_ne (rfl : (0 : Int32).toInt = 0) (rfl : (0 : Int32).toInt = 0) c_9)
      refine lv_iconst (v := 0) hx hb dX48_begin_37 (by decide) ?_
      exact k_iret (v := 0) X hH (f_writers, f_sees, f_states, f_waitsFor, f_count, 0) hw rfl rfl dX48_begin_38
    · have hw := hw.1 (z_eq (rfl : (0 : Int32).toInt = 0) (rfl : (0 : Int32).toInt = 0) c_9)
      refine lv_aload_n hx hb dX48_begin_25 rfl (lv_at hl 0 rfl) ?_
      refine lv_iconst (v := 1) hx hb dX48_begin_26 (by decide) ?_
      refine lv_aload_n hx hb dX48_begin_27 rfl (lv_at hl 0 rfl) ?_
      refine k_get X hH in_X48 0 rfl hc 4 (by decide) q6076 rfl dX48_begin_28 ?_
      refine k_i0 hH (k_runV (As := [.int 1, .int f_latest]) (rest := []) X hH.1 hH.2.1 X.2.2.2 (walkX48_start hc (x1 := 1) (x2 := f_latest) (f_rowTriples := f_rowTriples) (f_rowVersions := f_rowVersions) (f_rowTells := f_rowTells) (f_rows := f_rows) (f_latest := f_latest) (f_pins := f_pins) (f_writers := f_writers) (f_sees := f_sees) (f_states := f_states) (f_notes := f_notes) (f_wrote := f_wrote) (f_waitsFor := f_waitsFor) (f_waitTriples := f_waitTriples) (f_waitTells := f_waitTells) (f_since := f_since) (f_clock := f_clock) (f_count := f_count) (f_holders := f_holders) (f_queue := f_queue) (f_queueFrom := f_queueFrom) (f_queueTo := f_queueTo) (f_ring := f_ring) (f_ringSize := f_ringSize) (f_failures := f_failures) (f_refusals := f_refusals) (f_thrown := 0) (f_best := f_best) hw) (cwV 2 X.1.2.2.2.2 gX48_107 rfl rfl rfl hX48_start ⟨Nat.le_of_ble_eq_true rfl, Nat.le_of_ble_eq_true rfl⟩) hc (q0 := 0) rfl rfl hl.1 rfl (Nat.le_of_ble_eq_true rfl) dX48_begin_31 ⟨Nat.le_refl 0, Nat.le_refl 0⟩) (fun r_10 u H locs hw hH => ?_)
      obtain ⟨f_writers_11, f_sees_12, f_states_13, f_waitsFor_14, f_count_15⟩ := u
      have hH : kH (dC, dI) cl A s.heap H locs (wX48 ci ad d f_rowTriples f_rowVersions f_rowTells f_rows f_latest f_pins f_writers_11 f_sees_12 f_states_13 f_notes f_wrote f_waitsFor_14 f_waitTriples f_waitTells f_since f_clock f_count_15 f_holders f_queue f_queueFrom f_queueTo f_ring f_ringSize f_failures f_refusals 0 f_best) := hH
      refine lv_goto (tgt := 38) hx hb dX48_begin_34 (by decide) ?_
      exact k_iret (v := r_10) X hH (f_writers_11, f_sees_12, f_states_13, f_waitsFor_14, f_count_15, 0) hw rfl rfl dX48_begin_38
set_option maxHeartbeats 4000000 in
theorem walkX48_thrown {l : Launch} {dC : Nat → ClassId} {dI : Nat → Nat → Nat} {cl : List vw_C} {ci : Nat} (hc : cl[ci]? = some (RX48, TX48, 27)) {ad : Nat → Nat} {d : Nat → ClassId} {sz : Nat} {f_rowTriples : Nat → Int32} {f_rowVersions : Nat → Int32} {f_rowTells : Nat → Int32} {f_rows : Int32} {f_latest : Int32} {f_pins : Nat → Int32} {f_writers : Nat → Int32} {f_sees : Nat → Int32} {f_states : Nat → Int32} {f_notes : Nat → Int32} {f_wrote : Nat → Int32} {f_waitsFor : Nat → Int32} {f_waitTriples : Nat → Int32} {f_waitTells : Nat → Int32} {f_since : Nat → Int32} {f_clock : Int32} {f_count : Int32} {f_holders : Nat → Int32} {f_queue : Nat → Int32} {f_queueFrom : Int32} {f_queueTo : Int32} {f_ring : Nat → Int32} {f_ringSize : Int32} {f_failures : Nat → Int32} {f_refusals : Nat → Int32} {f_thrown : Int32} {f_best : Nat → Int32}  {post : Int → Prop} (hw : wpX48_thrown post f_thrown.toInt ) :
    Met l yX48_thrown (ws_ yX48_thrown cX48_thrown 1 (some .int)) ({ frames := 0, cells := 0, slots := 0, locals := 0 } : Room) (kPc (dC, dI) cl (tX48 d) [.ref (ad 0)] sz (wX48 ci ad d f_rowTriples f_rowVersions f_rowTells f_rows f_latest f_pins f_writers f_sees f_states f_notes f_wrote f_waitsFor f_waitTriples f_waitTells f_since f_clock f_count f_holders f_queue f_queueFrom f_queueTo f_ring f_ringSize f_failures f_refusals f_thrown f_best)) (va_Qi (fun (r : Int32) (_ : Unit) => post r.toInt) (kB (dC, dI) cl (tX48 d) (va_A (wX48 ci ad d f_rowTriples f_rowVersions f_rowTells f_rows f_latest f_pins f_writers f_sees f_states f_notes f_wrote f_waitsFor f_waitTriples f_waitTells f_since f_clock f_count f_holders f_queue f_queueFrom f_queueTo f_ring f_ringSize f_failures f_refusals f_thrown f_best) sz) (fun _ : Unit => (wX48 ci ad d f_rowTriples f_rowVersions f_rowTells f_rows f_latest f_pins f_writers f_sees f_states f_notes f_wrote f_waitsFor f_waitTriples f_waitTells f_since f_clock f_count f_holders f_queue f_queueFrom f_queueTo f_ring f_ringSize f_failures f_refusals f_thrown f_best))) (va_A (wX48 ci ad d f_rowTriples f_rowVersions f_rowTells f_rows f_latest f_pins f_writers f_sees f_states f_notes f_wrote f_waitsFor f_waitTriples f_waitTells f_since f_clock f_count f_holders f_queue f_queueFrom f_queueTo f_ring f_ringSize f_failures f_refusals f_thrown f_best) sz)) 0 0 (va_A (wX48 ci ad d f_rowTriples f_rowVersions f_rowTells f_rows f_latest f_pins f_writers f_sees f_states f_notes f_wrote f_waitsFor f_waitTriples f_waitTells f_since f_clock f_count f_holders f_queue f_queueFrom f_queueTo f_ring f_ringSize f_failures f_refusals f_thrown f_best) sz) := by
  refine k_enter (by decide) (Nat.le_of_ble_eq_true rfl) ?_
  intro p e s m below meth c ls X hsz hH hl
  subst hsz
  generalize va_A (wX48 ci ad d f_rowTriples f_rowVersions f_rowTells f_rows f_latest f_pins f_writers f_sees f_states f_notes f_wrote f_waitsFor f_waitTriples f_waitTells f_since f_clock f_count f_holders f_queue f_queueFrom f_queueTo f_ring f_ringSize f_failures f_refusals f_thrown f_best) s.heap.size = A at hH ⊢
  have hx := X.1.1
  have hb := X.1.2.1
  have hl : lv_has ls 1 [(0, .ref (ad 0))] := hl
  unfold wpX48_thrown at hw
  refine lv_aload_n hx hb dX48_thrown_0 rfl (lv_at hl 0 rfl) ?_
  refine k_get X hH in_X48 0 rfl hc 25 (by decide) q6097 rfl dX48_thrown_1 ?_
  exact k_iret (v := f_thrown) X hH () hw rfl rfl dX48_thrown_4
set_option maxHeartbeats 4000000 in
theorem walkX48_isTransaction {l : Launch} {dC : Nat → ClassId} {dI : Nat → Nat → Nat} {cl : List vw_C} {ci : Nat} (hc : cl[ci]? = some (RX48, TX48, 27)) {ad : Nat → Nat} {d : Nat → ClassId} {sz : Nat} {f_rowTriples : Nat → Int32} {f_rowVersions : Nat → Int32} {f_rowTells : Nat → Int32} {f_rows : Int32} {f_latest : Int32} {f_pins : Nat → Int32} {f_writers : Nat → Int32} {f_sees : Nat → Int32} {f_states : Nat → Int32} {f_notes : Nat → Int32} {f_wrote : Nat → Int32} {f_waitsFor : Nat → Int32} {f_waitTriples : Nat → Int32} {f_waitTells : Nat → Int32} {f_since : Nat → Int32} {f_clock : Int32} {f_count : Int32} {f_holders : Nat → Int32} {f_queue : Nat → Int32} {f_queueFrom : Int32} {f_queueTo : Int32} {f_ring : Nat → Int32} {f_ringSize : Int32} {f_failures : Nat → Int32} {f_refusals : Nat → Int32} {f_thrown : Int32} {f_best : Nat → Int32} {x1 : Int32} {post : Int → Prop} (hw : wpX48_isTransaction post f_count.toInt x1.toInt) :
    Met l yX48_isTransaction (ws_ yX48_isTransaction cX48_isTransaction 2 (some .boolean)) ({ frames := 0, cells := 0, slots := 0, locals := 0 } : Room) (kPc (dC, dI) cl (tX48 d) [.ref (ad 0), .int x1] sz (wX48 ci ad d f_rowTriples f_rowVersions f_rowTells f_rows f_latest f_pins f_writers f_sees f_states f_notes f_wrote f_waitsFor f_waitTriples f_waitTells f_since f_clock f_count f_holders f_queue f_queueFrom f_queueTo f_ring f_ringSize f_failures f_refusals f_thrown f_best)) (va_Qi (fun (r : Int32) (_ : Unit) => post r.toInt) (kB (dC, dI) cl (tX48 d) (va_A (wX48 ci ad d f_rowTriples f_rowVersions f_rowTells f_rows f_latest f_pins f_writers f_sees f_states f_notes f_wrote f_waitsFor f_waitTriples f_waitTells f_since f_clock f_count f_holders f_queue f_queueFrom f_queueTo f_ring f_ringSize f_failures f_refusals f_thrown f_best) sz) (fun _ : Unit => (wX48 ci ad d f_rowTriples f_rowVersions f_rowTells f_rows f_latest f_pins f_writers f_sees f_states f_notes f_wrote f_waitsFor f_waitTriples f_waitTells f_since f_clock f_count f_holders f_queue f_queueFrom f_queueTo f_ring f_ringSize f_failures f_refusals f_thrown f_best))) (va_A (wX48 ci ad d f_rowTriples f_rowVersions f_rowTells f_rows f_latest f_pins f_writers f_sees f_states f_notes f_wrote f_waitsFor f_waitTriples f_waitTells f_since f_clock f_count f_holders f_queue f_queueFrom f_queueTo f_ring f_ringSize f_failures f_refusals f_thrown f_best) sz)) 0 0 (va_A (wX48 ci ad d f_rowTriples f_rowVersions f_rowTells f_rows f_latest f_pins f_writers f_sees f_states f_notes f_wrote f_waitsFor f_waitTriples f_waitTells f_since f_clock f_count f_holders f_queue f_queueFrom f_queueTo f_ring f_ringSize f_failures f_refusals f_thrown f_best) sz) := by
  refine k_enter (by decide) (Nat.le_of_ble_eq_true rfl) ?_
  intro p e s m below meth c ls X hsz hH hl
  subst hsz
  generalize va_A (wX48 ci ad d f_rowTriples f_rowVersions f_rowTells f_rows f_latest f_pins f_writers f_sees f_states f_notes f_wrote f_waitsFor f_waitTriples f_waitTells f_since f_clock f_count f_holders f_queue f_queueFrom f_queueTo f_ring f_ringSize f_failures f_refusals f_thrown f_best) s.heap.size = A at hH ⊢
  have hx := X.1.1
  have hb := X.1.2.1
  have hl : lv_has ls 2 [(0, .ref (ad 0)), (1, .int x1)] := hl
  unfold wpX48_isTransaction at hw
  refine lv_iload_n hx hb dX48_isTransaction_0 rfl (lv_at hl 1 rfl) ?_
  refine lv_if_lt (tgt := 16) hx hb dX48_isTransaction_1 (by decide) (fun c_1 => ?_) (fun c_1 => ?_)
  · have hw := hw.1 (z_lt (rfl : x1.toInt = _) (rfl : (0 : Int32).toInt = 0) c_1)
    refine lv_iconst (v := 0) hx hb dX48_isTransaction_16 (by decide) ?_
    exact k_iret (v := 0) X hH () hw rfl rfl dX48_isTransaction_17
  · have hw := hw.2 (z_nlt (rfl : x1.toInt = _) (rfl : (0 : Int32).toInt = 0) c_1)
    refine lv_iload_n hx hb dX48_isTransaction_4 rfl (lv_at hl 1 rfl) ?_
    refine lv_aload_n hx hb dX48_isTransaction_5 rfl (lv_at hl 0 rfl) ?_
    refine k_get X hH in_X48 0 rfl hc 16 (by decide) q6088 rfl dX48_isTransaction_6 ?_
    refine lv_icmp_ge (tgt := 16) hx hb dX48_isTransaction_9 (by decide) (fun c_2 => ?_) (fun c_2 => ?_)
    · have hw := hw.1 (z_le (rfl : f_count.toInt = _) (rfl : x1.toInt = _) c_2)
      refine lv_iconst (v := 0) hx hb dX48_isTransaction_16 (by decide) ?_
      exact k_iret (v := 0) X hH () hw rfl rfl dX48_isTransaction_17
    · have hw := hw.2 (z_nle (rfl : f_count.toInt = _) (rfl : x1.toInt = _) c_2)
      refine lv_iconst (v := 1) hx hb dX48_isTransaction_12 (by decide) ?_
      refine lv_goto (tgt := 17) hx hb dX48_isTransaction_13 (by decide) ?_
      exact k_iret (v := 1) X hH () hw rfl rfl dX48_isTransaction_17
set_option maxHeartbeats 4000000 in
theorem walkX48_isTriple {l : Launch} {dC : Nat → ClassId} {dI : Nat → Nat → Nat} {cl : List vw_C} {ci : Nat} (hc : cl[ci]? = some (RX48, TX48, 27)) {ad : Nat → Nat} {d : Nat → ClassId} {sz : Nat} {f_rowTriples : Nat → Int32} {f_rowVersions : Nat → Int32} {f_rowTells : Nat → Int32} {f_rows : Int32} {f_latest : Int32} {f_pins : Nat → Int32} {f_writers : Nat → Int32} {f_sees : Nat → Int32} {f_states : Nat → Int32} {f_notes : Nat → Int32} {f_wrote : Nat → Int32} {f_waitsFor : Nat → Int32} {f_waitTriples : Nat → Int32} {f_waitTells : Nat → Int32} {f_since : Nat → Int32} {f_clock : Int32} {f_count : Int32} {f_holders : Nat → Int32} {f_queue : Nat → Int32} {f_queueFrom : Int32} {f_queueTo : Int32} {f_ring : Nat → Int32} {f_ringSize : Int32} {f_failures : Nat → Int32} {f_refusals : Nat → Int32} {f_thrown : Int32} {f_best : Nat → Int32} {x0 : Int32} {post : Int → Prop} (hw : wpX48_isTriple post  x0.toInt) :
    Met l yX48_isTriple (ws_ yX48_isTriple cX48_isTriple 1 (some .boolean)) ({ frames := 0, cells := 0, slots := 0, locals := 0 } : Room) (kPc (dC, dI) cl (tX48 d) [.int x0] sz (wX48 ci ad d f_rowTriples f_rowVersions f_rowTells f_rows f_latest f_pins f_writers f_sees f_states f_notes f_wrote f_waitsFor f_waitTriples f_waitTells f_since f_clock f_count f_holders f_queue f_queueFrom f_queueTo f_ring f_ringSize f_failures f_refusals f_thrown f_best)) (va_Qi (fun (r : Int32) (_ : Unit) => post r.toInt) (kB (dC, dI) cl (tX48 d) (va_A (wX48 ci ad d f_rowTriples f_rowVersions f_rowTells f_rows f_latest f_pins f_writers f_sees f_states f_notes f_wrote f_waitsFor f_waitTriples f_waitTells f_since f_clock f_count f_holders f_queue f_queueFrom f_queueTo f_ring f_ringSize f_failures f_refusals f_thrown f_best) sz) (fun _ : Unit => (wX48 ci ad d f_rowTriples f_rowVersions f_rowTells f_rows f_latest f_pins f_writers f_sees f_states f_notes f_wrote f_waitsFor f_waitTriples f_waitTells f_since f_clock f_count f_holders f_queue f_queueFrom f_queueTo f_ring f_ringSize f_failures f_refusals f_thrown f_best))) (va_A (wX48 ci ad d f_rowTriples f_rowVersions f_rowTells f_rows f_latest f_pins f_writers f_sees f_states f_notes f_wrote f_waitsFor f_waitTriples f_waitTells f_since f_clock f_count f_holders f_queue f_queueFrom f_queueTo f_ring f_ringSize f_failures f_refusals f_thrown f_best) sz)) 0 0 (va_A (wX48 ci ad d f_rowTriples f_rowVersions f_rowTells f_rows f_latest f_pins f_writers f_sees f_states f_notes f_wrote f_waitsFor f_waitTriples f_waitTells f_since f_clock f_count f_holders f_queue f_queueFrom f_queueTo f_ring f_ringSize f_failures f_refusals f_thrown f_best) sz) := by
  refine k_enter (by decide) (Nat.le_of_ble_eq_true rfl) ?_
  intro p e s m below meth c ls X hsz hH hl
  subst hsz
  generalize va_A (wX48 ci ad d f_rowTriples f_rowVersions f_rowTells f_rows f_latest f_pins f_writers f_sees f_states f_notes f_wrote f_waitsFor f_waitTriples f_waitTells f_since f_clock f_count f_holders f_queue f_queueFrom f_queueTo f_ring f_ringSize f_failures f_refusals f_thrown f_best) s.heap.size = A at hH ⊢
  have hx := X.1.1
  have hb := X.1.2.1
  have hl : lv_has ls 1 [(0, .int x0)] := hl
  unfold wpX48_isTriple at hw
  refine lv_iload_n hx hb dX48_isTriple_0 rfl (lv_at hl 0 rfl) ?_
  refine lv_if_lt (tgt := 15) hx hb dX48_isTriple_1 (by decide) (fun c_1 => ?_) (fun c_1 => ?_)
  · have hw := hw.1 (z_lt (rfl : x0.toInt = _) (rfl : (0 : Int32).toInt = 0) c_1)
    refine lv_iconst (v := 0) hx hb dX48_isTriple_15 (by decide) ?_
    exact k_iret (v := 0) X hH () hw rfl rfl dX48_isTriple_16
  · have hw := hw.2 (z_nlt (rfl : x0.toInt = _) (rfl : (0 : Int32).toInt = 0) c_1)
    refine lv_iload_n hx hb dX48_isTriple_4 rfl (lv_at hl 0 rfl) ?_
    refine lv_sipush (v := 200) hx hb dX48_isTriple_5 (by decide) ?_
    refine lv_icmp_ge (tgt := 15) hx hb dX48_isTriple_8 (by decide) (fun c_2 => ?_) (fun c_2 => ?_)
    · have hw := hw.1 (z_le (rfl : (200 : Int32).toInt = 200) (rfl : x0.toInt = _) c_2)
      refine lv_iconst (v := 0) hx hb dX48_isTriple_15 (by decide) ?_
      exact k_iret (v := 0) X hH () hw rfl rfl dX48_isTriple_16
    · have hw := hw.2 (z_nle (rfl : (200 : Int32).toInt = 200) (rfl : x0.toInt = _) c_2)
      refine lv_iconst (v := 1) hx hb dX48_isTriple_11 (by decide) ?_
      refine lv_goto (tgt := 16) hx hb dX48_isTriple_12 (by decide) ?_
      exact k_iret (v := 1) X hH () hw rfl rfl dX48_isTriple_16
set_option maxHeartbeats 4000000 in
theorem walkX48_canWrite {l : Launch} {dC : Nat → ClassId} {dI : Nat → Nat → Nat} {cl : List vw_C} {ci : Nat} (hc : cl[ci]? = some (RX48, TX48, 27)) {ad : Nat → Nat} {d : Nat → ClassId} {sz : Nat} {f_rowTriples : Nat → Int32} {f_rowVersions : Nat → Int32} {f_rowTells : Nat → Int32} {f_rows : Int32} {f_latest : Int32} {f_pins : Nat → Int32} {f_writers : Nat → Int32} {f_sees : Nat → Int32} {f_states : Nat → Int32} {f_notes : Nat → Int32} {f_wrote : Nat → Int32} {f_waitsFor : Nat → Int32} {f_waitTriples : Nat → Int32} {f_waitTells : Nat → Int32} {f_since : Nat → Int32} {f_clock : Int32} {f_count : Int32} {f_holders : Nat → Int32} {f_queue : Nat → Int32} {f_queueFrom : Int32} {f_queueTo : Int32} {f_ring : Nat → Int32} {f_ringSize : Int32} {f_failures : Nat → Int32} {f_refusals : Nat → Int32} {f_thrown : Int32} {f_best : Nat → Int32} {x1 : Int32} {post : Int → Prop} (hw : wpX48_canWrite post (zF f_writers) (zF f_states) x1.toInt) :
    Met l yX48_canWrite (ws_ yX48_canWrite cX48_canWrite 2 (some .boolean)) ({ frames := 0, cells := 0, slots := 0, locals := 0 } : Room) (kPc (dC, dI) cl (tX48 d) [.ref (ad 0), .int x1] sz (wX48 ci ad d f_rowTriples f_rowVersions f_rowTells f_rows f_latest f_pins f_writers f_sees f_states f_notes f_wrote f_waitsFor f_waitTriples f_waitTells f_since f_clock f_count f_holders f_queue f_queueFrom f_queueTo f_ring f_ringSize f_failures f_refusals f_thrown f_best)) (va_Qi (fun (r : Int32) (_ : Unit) => post r.toInt) (kB (dC, dI) cl (tX48 d) (va_A (wX48 ci ad d f_rowTriples f_rowVersions f_rowTells f_rows f_latest f_pins f_writers f_sees f_states f_notes f_wrote f_waitsFor f_waitTriples f_waitTells f_since f_clock f_count f_holders f_queue f_queueFrom f_queueTo f_ring f_ringSize f_failures f_refusals f_thrown f_best) sz) (fun _ : Unit => (wX48 ci ad d f_rowTriples f_rowVersions f_rowTells f_rows f_latest f_pins f_writers f_sees f_states f_notes f_wrote f_waitsFor f_waitTriples f_waitTells f_since f_clock f_count f_holders f_queue f_queueFrom f_queueTo f_ring f_ringSize f_failures f_refusals f_thrown f_best))) (va_A (wX48 ci ad d f_rowTriples f_rowVersions f_rowTells f_rows f_latest f_pins f_writers f_sees f_states f_notes f_wrote f_waitsFor f_waitTriples f_waitTells f_since f_clock f_count f_holders f_queue f_queueFrom f_queueTo f_ring f_ringSize f_failures f_refusals f_thrown f_best) sz)) 0 0 (va_A (wX48 ci ad d f_rowTriples f_rowVersions f_rowTells f_rows f_latest f_pins f_writers f_sees f_states f_notes f_wrote f_waitsFor f_waitTriples f_waitTells f_since f_clock f_count f_holders f_queue f_queueFrom f_queueTo f_ring f_ringSize f_failures f_refusals f_thrown f_best) sz) := by
  refine k_enter (by decide) (Nat.le_of_ble_eq_true rfl) ?_
  intro p e s m below meth c ls X hsz hH hl
  subst hsz
  generalize va_A (wX48 ci ad d f_rowTriples f_rowVersions f_rowTells f_rows f_latest f_pins f_writers f_sees f_states f_notes f_wrote f_waitsFor f_waitTriples f_waitTells f_since f_clock f_count f_holders f_queue f_queueFrom f_queueTo f_ring f_ringSize f_failures f_refusals f_thrown f_best) s.heap.size = A at hH ⊢
  have hx := X.1.1
  have hb := X.1.2.1
  have hl : lv_has ls 2 [(0, .ref (ad 0)), (1, .int x1)] := hl
  unfold wpX48_canWrite at hw
  refine lv_aload_n hx hb dX48_canWrite_0 rfl (lv_at hl 0 rfl) ?_
  refine k_get X hH in_X48 0 rfl hc 8 (by decide) q6080 rfl dX48_canWrite_1 ?_
  refine lv_iload_n hx hb dX48_canWrite_4 rfl (lv_at hl 1 rfl) ?_
  have hq_1 := hw.1
  have hw := hw.2
  refine k_iald X hH 7 6 rfl rfl (z_in (rfl : x1.toInt = _) hq_1) dX48_canWrite_5 ?_
  have e_2 := z_ld (f := f_states) (rfl : x1.toInt = _) hq_1.1
  refine lv_if_ne (tgt := 22) hx hb dX48_canWrite_6 (by decide) (fun c_3 => ?_) (fun c_3 => ?_)
  · have hw := hw.2 (z_ne e_2 (rfl : (0 : Int32).toInt = 0) c_3)
    refine lv_iconst (v := 0) hx hb dX48_canWrite_22 (by decide) ?_
    exact k_iret (v := 0) X hH () hw rfl rfl dX48_canWrite_23
  · have hw := hw.1 (z_eq e_2 (rfl : (0 : Int32).toInt = 0) c_3)
    refine lv_aload_n hx hb dX48_canWrite_9 rfl (lv_at hl 0 rfl) ?_
    refine k_get X hH in_X48 0 rfl hc 6 (by decide) q6078 rfl dX48_canWrite_10 ?_
    refine lv_iload_n hx hb dX48_canWrite_13 rfl (lv_at hl 1 rfl) ?_
    refine k_zald X hH 5 4 rfl rfl (z_in (rfl : x1.toInt = _) hq_1) dX48_canWrite_14 ?_
    have e_4 := z_ld (f := f_writers) (rfl : x1.toInt = _) hq_1.1
    refine lv_if_eq (tgt := 22) hx hb dX48_canWrite_15 (by decide) (fun c_5 => ?_) (fun c_5 => ?_)
    · have hw := hw.1 (z_eq e_4 (rfl : (0 : Int32).toInt = 0) c_5)
      refine lv_iconst (v := 0) hx hb dX48_canWrite_22 (by decide) ?_
      exact k_iret (v := 0) X hH () hw rfl rfl dX48_canWrite_23
    · have hw := hw.2 (z_neq e_4 (rfl : (0 : Int32).toInt = 0) c_5)
      refine lv_iconst (v := 1) hx hb dX48_canWrite_18 (by decide) ?_
      refine lv_goto (tgt := 23) hx hb dX48_canWrite_19 (by decide) ?_
      exact k_iret (v := 1) X hH () hw rfl rfl dX48_canWrite_23
set_option maxHeartbeats 4000000 in
theorem walkX48_fails {l : Launch} {dC : Nat → ClassId} {dI : Nat → Nat → Nat} {cl : List vw_C} {ci : Nat} (hc : cl[ci]? = some (RX48, TX48, 27)) {ad : Nat → Nat} {d : Nat → ClassId} {sz : Nat} {f_rowTriples : Nat → Int32} {f_rowVersions : Nat → Int32} {f_rowTells : Nat → Int32} {f_rows : Int32} {f_latest : Int32} {f_pins : Nat → Int32} {f_writers : Nat → Int32} {f_sees : Nat → Int32} {f_states : Nat → Int32} {f_notes : Nat → Int32} {f_wrote : Nat → Int32} {f_waitsFor : Nat → Int32} {f_waitTriples : Nat → Int32} {f_waitTells : Nat → Int32} {f_since : Nat → Int32} {f_clock : Int32} {f_count : Int32} {f_holders : Nat → Int32} {f_queue : Nat → Int32} {f_queueFrom : Int32} {f_queueTo : Int32} {f_ring : Nat → Int32} {f_ringSize : Int32} {f_failures : Nat → Int32} {f_refusals : Nat → Int32} {f_thrown : Int32} {f_best : Nat → Int32} {x1 : Int32} {x2 : Int32} {post : Int → Int → Prop} (hw : wpX48_fails post  x1.toInt x2.toInt) :
    Met l yX48_fails (ws_ yX48_fails cX48_fails 3 (some .boolean)) ({ frames := 0, cells := 0, slots := 0, locals := 0 } : Room) (kPc (dC, dI) cl (tX48 d) [.ref (ad 0), .int x1, .int x2] sz (wX48 ci ad d f_rowTriples f_rowVersions f_rowTells f_rows f_latest f_pins f_writers f_sees f_states f_notes f_wrote f_waitsFor f_waitTriples f_waitTells f_since f_clock f_count f_holders f_queue f_queueFrom f_queueTo f_ring f_ringSize f_failures f_refusals f_thrown f_best)) (va_Qi (fun (r : Int32) (u : Int32) => post r.toInt (u).toInt) (kB (dC, dI) cl (tX48 d) (va_A (wX48 ci ad d f_rowTriples f_rowVersions f_rowTells f_rows f_latest f_pins f_writers f_sees f_states f_notes f_wrote f_waitsFor f_waitTriples f_waitTells f_since f_clock f_count f_holders f_queue f_queueFrom f_queueTo f_ring f_ringSize f_failures f_refusals f_thrown f_best) sz) (fun u : Int32 => (wX48 ci ad d f_rowTriples f_rowVersions f_rowTells f_rows f_latest f_pins f_writers f_sees f_states f_notes f_wrote f_waitsFor f_waitTriples f_waitTells f_since f_clock f_count f_holders f_queue f_queueFrom f_queueTo f_ring f_ringSize f_failures f_refusals (u) f_best))) (va_A (wX48 ci ad d f_rowTriples f_rowVersions f_rowTells f_rows f_latest f_pins f_writers f_sees f_states f_notes f_wrote f_waitsFor f_waitTriples f_waitTells f_since f_clock f_count f_holders f_queue f_queueFrom f_queueTo f_ring f_ringSize f_failures f_refusals f_thrown f_best) sz)) 0 0 (va_A (wX48 ci ad d f_rowTriples f_rowVersions f_rowTells f_rows f_latest f_pins f_writers f_sees f_states f_notes f_wrote f_waitsFor f_waitTriples f_waitTells f_since f_clock f_count f_holders f_queue f_queueFrom f_queueTo f_ring f_ringSize f_failures f_refusals f_thrown f_best) sz) := by
  refine k_enter (by decide) (Nat.le_of_ble_eq_true rfl) ?_
  intro p e s m below meth c ls X hsz hH hl
  subst hsz
  generalize va_A (wX48 ci ad d f_rowTriples f_rowVersions f_rowTells f_rows f_latest f_pins f_writers f_sees f_states f_notes f_wrote f_waitsFor f_waitTriples f_waitTells f_since f_clock f_count f_holders f_queue f_queueFrom f_queueTo f_ring f_ringSize f_failures f_refusals f_thrown f_best) s.heap.size = A at hH ⊢
  have hx := X.1.1
  have hb := X.1.2.1
  have hl : lv_has ls 3 [(0, .ref (ad 0)), (1, .int x1), (2, .int x2)] := hl
  unfold wpX48_fails at hw
  refine lv_aload_n hx hb dX48_fails_0 rfl (lv_at hl 0 rfl) ?_
  refine lv_iload_n hx hb dX48_fails_1 rfl (lv_at hl 1 rfl) ?_
  refine lv_if_ne (tgt := 9) hx hb dX48_fails_2 (by decide) (fun c_1 => ?_) (fun c_1 => ?_)
  · have hw := hw.2 (z_ne (rfl : x1.toInt = _) (rfl : (0 : Int32).toInt = 0) c_1)
    refine lv_iload_n hx hb dX48_fails_9 rfl (lv_at hl 2 rfl) ?_
    refine lv_if_ne (tgt := 17) hx hb dX48_fails_10 (by decide) (fun c_2 => ?_) (fun c_2 => ?_)
    · have hw := hw.2 (z_ne (rfl : x2.toInt = _) (rfl : (0 : Int32).toInt = 0) c_2)
      refine lv_iconst (v := 0) hx hb dX48_fails_17 (by decide) ?_
      refine k_put X hH in_X48 tyX48_ok nmX48 0 rfl hc 25 (by decide) q6097 rfl (ty := .int) rfl rfl rfl (Nat.le_of_ble_eq_true rfl) dX48_fails_18 (ws1 := (wX48 ci ad d f_rowTriples f_rowVersions f_rowTells f_rows f_latest f_pins f_writers f_sees f_states f_notes f_wrote f_waitsFor f_waitTriples f_waitTells f_since f_clock f_count f_holders f_queue f_queueFrom f_queueTo f_ring f_ringSize f_failures f_refusals 0 f_best)) rfl (fun H locs hH => ?_)
      refine lv_aload_n hx hb dX48_fails_21 rfl (lv_at hl 0 rfl) ?_
      refine k_get X hH in_X48 0 rfl hc 25 (by decide) q6097 rfl dX48_fails_22 ?_
      refine lv_if_eq (tgt := 32) hx hb dX48_fails_25 (by decide) (fun c_3 => ?_) (fun c_3 => ?_)
      · have hw := hw.1 (z_eq (rfl : (0 : Int32).toInt = 0) (rfl : (0 : Int32).toInt = 0) c_3)
        refine lv_iconst (v := 0) hx hb dX48_fails_32 (by decide) ?_
        exact k_iret (v := 0) X hH (0) hw rfl rfl dX48_fails_33
      · have hw := hw.2 (z_neq (rfl : (0 : Int32).toInt = 0) (rfl : (0 : Int32).toInt = 0) c_3)
        refine lv_iconst (v := 1) hx hb dX48_fails_28 (by decide) ?_
        refine lv_goto (tgt := 33) hx hb dX48_fails_29 (by decide) ?_
        exact k_iret (v := 1) X hH (0) hw rfl rfl dX48_fails_33
    · have hw := hw.1 (z_eq (rfl : x2.toInt = _) (rfl : (0 : Int32).toInt = 0) c_2)
      refine lv_iconst (v := 2) hx hb dX48_fails_13 (by decide) ?_
      refine lv_goto (tgt := 18) hx hb dX48_fails_14 (by decide) ?_
      refine k_put X hH in_X48 tyX48_ok nmX48 0 rfl hc 25 (by decide) q6097 rfl (ty := .int) rfl rfl rfl (Nat.le_of_ble_eq_true rfl) dX48_fails_18 (ws1 := (wX48 ci ad d f_rowTriples f_rowVersions f_rowTells f_rows f_latest f_pins f_writers f_sees f_states f_notes f_wrote f_waitsFor f_waitTriples f_waitTells f_since f_clock f_count f_holders f_queue f_queueFrom f_queueTo f_ring f_ringSize f_failures f_refusals 2 f_best)) rfl (fun H locs hH => ?_)
      refine lv_aload_n hx hb dX48_fails_21 rfl (lv_at hl 0 rfl) ?_
      refine k_get X hH in_X48 0 rfl hc 25 (by decide) q6097 rfl dX48_fails_22 ?_
      refine lv_if_eq (tgt := 32) hx hb dX48_fails_25 (by decide) (fun c_4 => ?_) (fun c_4 => ?_)
      · have hw := hw.1 (z_eq (rfl : (2 : Int32).toInt = 2) (rfl : (0 : Int32).toInt = 0) c_4)
        refine lv_iconst (v := 0) hx hb dX48_fails_32 (by decide) ?_
        exact k_iret (v := 0) X hH (2) hw rfl rfl dX48_fails_33
      · have hw := hw.2 (z_neq (rfl : (2 : Int32).toInt = 2) (rfl : (0 : Int32).toInt = 0) c_4)
        refine lv_iconst (v := 1) hx hb dX48_fails_28 (by decide) ?_
        refine lv_goto (tgt := 33) hx hb dX48_fails_29 (by decide) ?_
        exact k_iret (v := 1) X hH (2) hw rfl rfl dX48_fails_33
  · have hw := hw.1 (z_eq (rfl : x1.toInt = _) (rfl : (0 : Int32).toInt = 0) c_1)
    refine lv_iconst (v := 1) hx hb dX48_fails_5 (by decide) ?_
    refine lv_goto (tgt := 18) hx hb dX48_fails_6 (by decide) ?_
    refine k_put X hH in_X48 tyX48_ok nmX48 0 rfl hc 25 (by decide) q6097 rfl (ty := .int) rfl rfl rfl (Nat.le_of_ble_eq_true rfl) dX48_fails_18 (ws1 := (wX48 ci ad d f_rowTriples f_rowVersions f_rowTells f_rows f_latest f_pins f_writers f_sees f_states f_notes f_wrote f_waitsFor f_waitTriples f_waitTells f_since f_clock f_count f_holders f_queue f_queueFrom f_queueTo f_ring f_ringSize f_failures f_refusals 1 f_best)) rfl (fun H locs hH => ?_)
    refine lv_aload_n hx hb dX48_fails_21 rfl (lv_at hl 0 rfl) ?_
    refine k_get X hH in_X48 0 rfl hc 25 (by decide) q6097 rfl dX48_fails_22 ?_
    refine lv_if_eq (tgt := 32) hx hb dX48_fails_25 (by decide) (fun c_5 => ?_) (fun c_5 => ?_)
    · have hw := hw.1 (z_eq (rfl : (1 : Int32).toInt = 1) (rfl : (0 : Int32).toInt = 0) c_5)
      refine lv_iconst (v := 0) hx hb dX48_fails_32 (by decide) ?_
      exact k_iret (v := 0) X hH (1) hw rfl rfl dX48_fails_33
    · have hw := hw.2 (z_neq (rfl : (1 : Int32).toInt = 1) (rfl : (0 : Int32).toInt = 0) c_5)
      refine lv_iconst (v := 1) hx hb dX48_fails_28 (by decide) ?_
      refine lv_goto (tgt := 33) hx hb dX48_fails_29 (by decide) ?_
      exact k_iret (v := 1) X hH (1) hw rfl rfl dX48_fails_33
set_option maxHeartbeats 4000000 in
theorem atX48_hasAbove_2 {p : Program} {l : Launch} {e : Env} {s : State} {m : MethodId} {args : Array Value} {below : List Frame} {meth : Method} {c : Code} {dC : Nat → ClassId} {dI : Nat → Nat → Nat} {cl : List vw_C} {ci : Nat} (hc : cl[ci]? = some (RX48, TX48, 27)) {ad : Nat → Nat} {d : Nat → ClassId} {A : Nat → Prop} {post : Int → Prop} {f_rowTriples : Nat → Int32} {f_rowVersions : Nat → Int32} {f_rowTells : Nat → Int32} {f_rows : Int32} {f_latest : Int32} {f_pins : Nat → Int32} {f_writers : Nat → Int32} {f_sees : Nat → Int32} {f_states : Nat → Int32} {f_notes : Nat → Int32} {f_wrote : Nat → Int32} {f_waitsFor : Nat → Int32} {f_waitTriples : Nat → Int32} {f_waitTells : Nat → Int32} {f_since : Nat → Int32} {f_clock : Int32} {f_count : Int32} {f_holders : Nat → Int32} {f_queue : Nat → Int32} {f_queueFrom : Int32} {f_queueTo : Int32} {f_ring : Nat → Int32} {f_ringSize : Int32} {f_failures : Nat → Int32} {f_refusals : Nat → Int32} {f_thrown : Int32} {f_best : Nat → Int32} (X : kX p s m args meth c cX48_hasAbove 4 RX48 (some .boolean) (dC, dI) cl (tX48 d)) {K30 : Prop} {K38 : Prop} {x1 : Int32} {x2 : Int32}  (hk30 : K30  → ∀ (H : Heap) (locs : List Loc) (ls : Array Slot), kH (dC, dI) cl A s.heap H locs (wX48 ci ad d f_rowTriples f_rowVersions f_rowTells f_rows f_latest f_pins f_writers f_sees f_states f_notes f_wrote f_waitsFor f_waitTriples f_waitTells f_since f_clock f_count f_holders f_queue f_queueFrom f_queueTo f_ring f_ringSize f_failures f_refusals f_thrown f_best) → lv_has ls 4 [] → W p l e ({ frames := 0, cells := 0, slots := 0, locals := 0 } : Room) s m args below meth c H locs 0 0 (MQ below (va_Qi (fun (r : Int32) (_ : Unit) => post r.toInt) (kB (dC, dI) cl (tX48 d) A (fun _ : Unit => (wX48 ci ad d f_rowTriples f_rowVersions f_rowTells f_rows f_latest f_pins f_writers f_sees f_states f_notes f_wrote f_waitsFor f_waitTriples f_waitTells f_since f_clock f_count f_holders f_queue f_queueFrom f_queueTo f_ring f_ringSize f_failures f_refusals f_thrown f_best))) A) args s 0 0 A) (F0 m 30 ls [])) (hk38 : K38  → ∀ (H : Heap) (locs : List Loc) (ls : Array Slot), kH (dC, dI) cl A s.heap H locs (wX48 ci ad d f_rowTriples f_rowVersions f_rowTells f_rows f_latest f_pins f_writers f_sees f_states f_notes f_wrote f_waitsFor f_waitTriples f_waitTells f_since f_clock f_count f_holders f_queue f_queueFrom f_queueTo f_ring f_ringSize f_failures f_refusals f_thrown f_best) → lv_has ls 4 [] → W p l e ({ frames := 0, cells := 0, slots := 0, locals := 0 } : Room) s m args below meth c H locs 0 0 (MQ below (va_Qi (fun (r : Int32) (_ : Unit) => post r.toInt) (kB (dC, dI) cl (tX48 d) A (fun _ : Unit => (wX48 ci ad d f_rowTriples f_rowVersions f_rowTells f_rows f_latest f_pins f_writers f_sees f_states f_notes f_wrote f_waitsFor f_waitTriples f_waitTells f_since f_clock f_count f_holders f_queue f_queueFrom f_queueTo f_ring f_ringSize f_failures f_refusals f_thrown f_best))) A) args s 0 0 A) (F0 m 38 ls [])) :
    ∀ (nn : Nat) (x3 : Int32), wX48_hasAbove_2 K30 K38 x1.toInt x2.toInt (zF f_rowTriples) (zF f_rowVersions) f_rows.toInt nn x3.toInt → ∀ (H : Heap) (locs : List Loc) (ls : Array Slot), kH (dC, dI) cl A s.heap H locs (wX48 ci ad d f_rowTriples f_rowVersions f_rowTells f_rows f_latest f_pins f_writers f_sees f_states f_notes f_wrote f_waitsFor f_waitTriples f_waitTells f_since f_clock f_count f_holders f_queue f_queueFrom f_queueTo f_ring f_ringSize f_failures f_refusals f_thrown f_best) → lv_has ls 4 [(0, .ref (ad 0)), (1, .int x1), (2, .int x2), (3, .int x3)] → W p l e ({ frames := 0, cells := 0, slots := 0, locals := 0 } : Room) s m args below meth c H locs 0 0 (MQ below (va_Qi (fun (r : Int32) (_ : Unit) => post r.toInt) (kB (dC, dI) cl (tX48 d) A (fun _ : Unit => (wX48 ci ad d f_rowTriples f_rowVersions f_rowTells f_rows f_latest f_pins f_writers f_sees f_states f_notes f_wrote f_waitsFor f_waitTriples f_waitTells f_since f_clock f_count f_holders f_queue f_queueFrom f_queueTo f_ring f_ringSize f_failures f_refusals f_thrown f_best))) A) args s 0 0 A) (F0 m 2 ls []) := by
  have hx := X.1.1
  have hb := X.1.2.1
  intro nn
  induction nn with
  | zero =>
    intro x3 hw
    exact False.elim hw
  | succ n ih =>
    intro x3 hw H locs ls hH hl
    rw [wX48_hasAbove_2] at hw
    refine lv_iload_n hx hb dX48_hasAbove_2 rfl (lv_at hl 3 rfl) ?_
    refine lv_aload_n hx hb dX48_hasAbove_3 rfl (lv_at hl 0 rfl) ?_
    refine k_get X hH in_X48 0 rfl hc 3 (by decide) q6075 rfl dX48_hasAbove_4 ?_
    refine lv_icmp_ge (tgt := 38) hx hb dX48_hasAbove_7 (by decide) (fun c_1 => ?_) (fun c_1 => ?_)
    · have hw := hw.1 (z_le (rfl : f_rows.toInt = _) (rfl : x3.toInt = _) c_1)
      exact hk38  hw _ _ ls hH (lv_sub hl [] rfl)
    · have hw := hw.2 (z_nle (rfl : f_rows.toInt = _) (rfl : x3.toInt = _) c_1)
      refine lv_aload_n hx hb dX48_hasAbove_10 rfl (lv_at hl 0 rfl) ?_
      refine k_get X hH in_X48 0 rfl hc 0 (by decide) q6072 rfl dX48_hasAbove_11 ?_
      refine lv_iload_n hx hb dX48_hasAbove_14 rfl (lv_at hl 3 rfl) ?_
      have hq_2 := hw.1
      have hw := hw.2
      refine k_iald X hH 1 0 rfl rfl (z_in (rfl : x3.toInt = _) hq_2) dX48_hasAbove_15 ?_
      have e_3 := z_ld (f := f_rowTriples) (rfl : x3.toInt = _) hq_2.1
      refine lv_iload_n hx hb dX48_hasAbove_16 rfl (lv_at hl 1 rfl) ?_
      refine lv_icmp_ne (tgt := 32) hx hb dX48_hasAbove_17 (by decide) (fun c_4 => ?_) (fun c_4 => ?_)
      · have hw := hw.2 (z_ne e_3 (rfl : x1.toInt = _) c_4)
        have hq_6 := hw.1
        have hw := hw.2
        obtain ⟨x3_5, ex3_5⟩ : ∃ y : Int32, y = x3 + 1 := ⟨_, rfl⟩
        have hw := hw x3_5.toInt (by rw [ex3_5]; exact (z_x (z_add (z_m (rfl : x3.toInt = _)) (z_m (rfl : (1 : Int32).toInt = 1))) hq_6))
        refine lv_iinc (v := x3_5) (lv' := [(3, .int x3_5), (0, .ref (ad 0)), (1, .int x1), (2, .int x2)]) hx hb dX48_hasAbove_32 hl (k := 3) rfl (by rw [ex3_5]; rfl) (by decide) rfl (fun ls hl => ?_)
        refine lv_goto (tgt := 2) hx hb dX48_hasAbove_35 (by decide) ?_
        exact ih x3_5 hw _ _ ls hH (lv_sub hl [1, 2, 3, 0] rfl)
      · have hw := hw.1 (z_eq e_3 (rfl : x1.toInt = _) c_4)
        refine lv_aload_n hx hb dX48_hasAbove_20 rfl (lv_at hl 0 rfl) ?_
        refine k_get X hH in_X48 0 rfl hc 1 (by decide) q6073 rfl dX48_hasAbove_21 ?_
        refine lv_iload_n hx hb dX48_hasAbove_24 rfl (lv_at hl 3 rfl) ?_
        refine k_iald X hH 2 1 rfl rfl (z_in (rfl : x3.toInt = _) hq_2) dX48_hasAbove_25 ?_
        have e_7 := z_ld (f := f_rowVersions) (rfl : x3.toInt = _) hq_2.1
        refine lv_iload_n hx hb dX48_hasAbove_26 rfl (lv_at hl 2 rfl) ?_
        refine lv_icmp_le (tgt := 32) hx hb dX48_hasAbove_27 (by decide) (fun c_8 => ?_) (fun c_8 => ?_)
        · have hw := hw.1 (z_le e_7 (rfl : x2.toInt = _) c_8)
          have hq_10 := hw.1
          have hw := hw.2
          obtain ⟨x3_9, ex3_9⟩ : ∃ y : Int32, y = x3 + 1 := ⟨_, rfl⟩
          have hw := hw x3_9.toInt (by rw [ex3_9]; exact (z_x (z_add (z_m (rfl : x3.toInt = _)) (z_m (rfl : (1 : Int32).toInt = 1))) hq_10))
          refine lv_iinc (v := x3_9) (lv' := [(3, .int x3_9), (0, .ref (ad 0)), (1, .int x1), (2, .int x2)]) hx hb dX48_hasAbove_32 hl (k := 3) rfl (by rw [ex3_9]; rfl) (by decide) rfl (fun ls hl => ?_)
          refine lv_goto (tgt := 2) hx hb dX48_hasAbove_35 (by decide) ?_
          exact ih x3_9 hw _ _ ls hH (lv_sub hl [1, 2, 3, 0] rfl)
        · have hw := hw.2 (z_nle e_7 (rfl : x2.toInt = _) c_8)
          exact hk30  hw _ _ ls hH (lv_sub hl [] rfl)
set_option maxHeartbeats 4000000 in
theorem walkX48_hasAbove {l : Launch} {dC : Nat → ClassId} {dI : Nat → Nat → Nat} {cl : List vw_C} {ci : Nat} (hc : cl[ci]? = some (RX48, TX48, 27)) {ad : Nat → Nat} {d : Nat → ClassId} {sz : Nat} {f_rowTriples : Nat → Int32} {f_rowVersions : Nat → Int32} {f_rowTells : Nat → Int32} {f_rows : Int32} {f_latest : Int32} {f_pins : Nat → Int32} {f_writers : Nat → Int32} {f_sees : Nat → Int32} {f_states : Nat → Int32} {f_notes : Nat → Int32} {f_wrote : Nat → Int32} {f_waitsFor : Nat → Int32} {f_waitTriples : Nat → Int32} {f_waitTells : Nat → Int32} {f_since : Nat → Int32} {f_clock : Int32} {f_count : Int32} {f_holders : Nat → Int32} {f_queue : Nat → Int32} {f_queueFrom : Int32} {f_queueTo : Int32} {f_ring : Nat → Int32} {f_ringSize : Int32} {f_failures : Nat → Int32} {f_refusals : Nat → Int32} {f_thrown : Int32} {f_best : Nat → Int32} {x1 : Int32} {x2 : Int32} {post : Int → Prop} (hw : wpX48_hasAbove post (zF f_rowTriples) (zF f_rowVersions) f_rows.toInt x1.toInt x2.toInt) :
    Met l yX48_hasAbove (ws_ yX48_hasAbove cX48_hasAbove 4 (some .boolean)) ({ frames := 0, cells := 0, slots := 0, locals := 0 } : Room) (kPc (dC, dI) cl (tX48 d) [.ref (ad 0), .int x1, .int x2] sz (wX48 ci ad d f_rowTriples f_rowVersions f_rowTells f_rows f_latest f_pins f_writers f_sees f_states f_notes f_wrote f_waitsFor f_waitTriples f_waitTells f_since f_clock f_count f_holders f_queue f_queueFrom f_queueTo f_ring f_ringSize f_failures f_refusals f_thrown f_best)) (va_Qi (fun (r : Int32) (_ : Unit) => post r.toInt) (kB (dC, dI) cl (tX48 d) (va_A (wX48 ci ad d f_rowTriples f_rowVersions f_rowTells f_rows f_latest f_pins f_writers f_sees f_states f_notes f_wrote f_waitsFor f_waitTriples f_waitTells f_since f_clock f_count f_holders f_queue f_queueFrom f_queueTo f_ring f_ringSize f_failures f_refusals f_thrown f_best) sz) (fun _ : Unit => (wX48 ci ad d f_rowTriples f_rowVersions f_rowTells f_rows f_latest f_pins f_writers f_sees f_states f_notes f_wrote f_waitsFor f_waitTriples f_waitTells f_since f_clock f_count f_holders f_queue f_queueFrom f_queueTo f_ring f_ringSize f_failures f_refusals f_thrown f_best))) (va_A (wX48 ci ad d f_rowTriples f_rowVersions f_rowTells f_rows f_latest f_pins f_writers f_sees f_states f_notes f_wrote f_waitsFor f_waitTriples f_waitTells f_since f_clock f_count f_holders f_queue f_queueFrom f_queueTo f_ring f_ringSize f_failures f_refusals f_thrown f_best) sz)) 0 0 (va_A (wX48 ci ad d f_rowTriples f_rowVersions f_rowTells f_rows f_latest f_pins f_writers f_sees f_states f_notes f_wrote f_waitsFor f_waitTriples f_waitTells f_since f_clock f_count f_holders f_queue f_queueFrom f_queueTo f_ring f_ringSize f_failures f_refusals f_thrown f_best) sz) := by
  refine k_enter (by decide) (Nat.le_of_ble_eq_true rfl) ?_
  intro p e s m below meth c ls X hsz hH hl
  subst hsz
  generalize va_A (wX48 ci ad d f_rowTriples f_rowVersions f_rowTells f_rows f_latest f_pins f_writers f_sees f_states f_notes f_wrote f_waitsFor f_waitTriples f_waitTells f_since f_clock f_count f_holders f_queue f_queueFrom f_queueTo f_ring f_ringSize f_failures f_refusals f_thrown f_best) s.heap.size = A at hH ⊢
  have hx := X.1.1
  have hb := X.1.2.1
  have hl : lv_has ls 4 [(0, .ref (ad 0)), (1, .int x1), (2, .int x2)] := hl
  unfold wpX48_hasAbove at hw
  refine lv_iconst (v := 0) hx hb dX48_hasAbove_0 (by decide) ?_
  refine lv_istore_n (lv' := [(3, .int 0), (0, .ref (ad 0)), (1, .int x1), (2, .int x2)]) hx hb dX48_hasAbove_1 rfl hl (by decide) rfl (fun ls hl => ?_)
  obtain ⟨fu, hw⟩ := hw
  refine atX48_hasAbove_2 hc X ?_ ?_ fu 0 hw _ _ ls hH (lv_sub hl [1, 2, 3, 0] rfl)
  · intro hw H locs ls hH hl
    refine lv_iconst (v := 1) hx hb dX48_hasAbove_30 (by decide) ?_
    exact k_iret (v := 1) X hH () hw rfl rfl dX48_hasAbove_31
  · intro hw H locs ls hH hl
    refine lv_iconst (v := 0) hx hb dX48_hasAbove_38 (by decide) ?_
    exact k_iret (v := 0) X hH () hw rfl rfl dX48_hasAbove_39
set_option maxHeartbeats 4000000 in
theorem atX48_end_9 {p : Program} {l : Launch} {e : Env} {s : State} {m : MethodId} {args : Array Value} {below : List Frame} {meth : Method} {c : Code} {dC : Nat → ClassId} {dI : Nat → Nat → Nat} {cl : List vw_C} {ci : Nat} (hc : cl[ci]? = some (RX48, TX48, 27)) {ad : Nat → Nat} {d : Nat → ClassId} {A : Nat → Prop} {post : (Int → Int) → (Int → Int) → (Int → Int) → Int → Prop} {f_rowTriples : Nat → Int32} {f_rowVersions : Nat → Int32} {f_rowTells : Nat → Int32} {f_rows : Int32} {f_latest : Int32} {f_pins : Nat → Int32} {f_writers : Nat → Int32} {f_sees : Nat → Int32} {f_notes : Nat → Int32} {f_wrote : Nat → Int32} {f_waitsFor : Nat → Int32} {f_waitTriples : Nat → Int32} {f_waitTells : Nat → Int32} {f_since : Nat → Int32} {f_clock : Int32} {f_count : Int32} {f_queueFrom : Int32} {f_ring : Nat → Int32} {f_ringSize : Int32} {f_failures : Nat → Int32} {f_refusals : Nat → Int32} {f_thrown : Int32} {f_best : Nat → Int32} (X : kX p s m args meth c cX48_end 7 RX48 none (dC, dI) cl (tX48 d)) {K39 : (Int → Int) → Prop} {x1 : Int32} {f_states : Nat → Int32} {f_queue : Nat → Int32} {f_queueTo : Int32} (hk39 : ∀ (f_holders : Nat → Int32), K39 (zF f_holders) → ∀ (H : Heap) (locs : List Loc) (ls : Array Slot), kH (dC, dI) cl A s.heap H locs (wX48 ci ad d f_rowTriples f_rowVersions f_rowTells f_rows f_latest f_pins f_writers f_sees f_states f_notes f_wrote f_waitsFor f_waitTriples f_waitTells f_since f_clock f_count f_holders f_queue f_queueFrom f_queueTo f_ring f_ringSize f_failures f_refusals f_thrown f_best) → lv_has ls 7 [(0, .ref (ad 0)), (1, .int x1)] → W p l e ({ frames := 0, cells := 0, slots := 0, locals := 0 } : Room) s m args below meth c H locs 0 0 (MQ below (va_Qv (fun (u : (Nat → Int32) × (Nat → Int32) × (Nat → Int32) × Int32) => post (zF (u.1)) (zF (u.2.1)) (zF (u.2.2.1)) (u.2.2.2).toInt) (kB (dC, dI) cl (tX48 d) A (fun u : (Nat → Int32) × (Nat → Int32) × (Nat → Int32) × Int32 => (wX48 ci ad d f_rowTriples f_rowVersions f_rowTells f_rows f_latest f_pins f_writers f_sees (u.1) f_notes f_wrote f_waitsFor f_waitTriples f_waitTells f_since f_clock f_count (u.2.1) (u.2.2.1) f_queueFrom (u.2.2.2) f_ring f_ringSize f_failures f_refusals f_thrown f_best))) A) args s 0 0 A) (F0 m 39 ls [])) :
    ∀ (nn : Nat) (x3 : Int32) (f_holders : Nat → Int32), wX48_end_9 K39 x1.toInt nn x3.toInt (zF f_holders) → ∀ (H : Heap) (locs : List Loc) (ls : Array Slot), kH (dC, dI) cl A s.heap H locs (wX48 ci ad d f_rowTriples f_rowVersions f_rowTells f_rows f_latest f_pins f_writers f_sees f_states f_notes f_wrote f_waitsFor f_waitTriples f_waitTells f_since f_clock f_count f_holders f_queue f_queueFrom f_queueTo f_ring f_ringSize f_failures f_refusals f_thrown f_best) → lv_has ls 7 [(0, .ref (ad 0)), (1, .int x1), (3, .int x3)] → W p l e ({ frames := 0, cells := 0, slots := 0, locals := 0 } : Room) s m args below meth c H locs 0 0 (MQ below (va_Qv (fun (u : (Nat → Int32) × (Nat → Int32) × (Nat → Int32) × Int32) => post (zF (u.1)) (zF (u.2.1)) (zF (u.2.2.1)) (u.2.2.2).toInt) (kB (dC, dI) cl (tX48 d) A (fun u : (Nat → Int32) × (Nat → Int32) × (Nat → Int32) × Int32 => (wX48 ci ad d f_rowTriples f_rowVersions f_rowTells f_rows f_latest f_pins f_writers f_sees (u.1) f_notes f_wrote f_waitsFor f_waitTriples f_waitTells f_since f_clock f_count (u.2.1) (u.2.2.1) f_queueFrom (u.2.2.2) f_ring f_ringSize f_failures f_refusals f_thrown f_best))) A) args s 0 0 A) (F0 m 9 ls []) := by
  have hx := X.1.1
  have hb := X.1.2.1
  intro nn
  induction nn with
  | zero =>
    intro x3 f_holders hw
    exact False.elim hw
  | succ n ih =>
    intro x3 f_holders hw H locs ls hH hl
    rw [wX48_end_9] at hw
    refine lv_iload_n hx hb dX48_end_9 rfl (lv_at hl 2 rfl) ?_
    refine lv_sipush (v := 200) hx hb dX48_end_10 (by decide) ?_
    refine lv_icmp_ge (tgt := 39) hx hb dX48_end_13 (by decide) (fun c_3 => ?_) (fun c_3 => ?_)
    · have hw := hw.1 (z_le (rfl : (200 : Int32).toInt = 200) (rfl : x3.toInt = _) c_3)
      exact hk39 f_holders hw _ _ ls hH (lv_sub hl [0, 1] rfl)
    · have hw := hw.2 (z_nle (rfl : (200 : Int32).toInt = 200) (rfl : x3.toInt = _) c_3)
      refine lv_aload_n hx hb dX48_end_16 rfl (lv_at hl 0 rfl) ?_
      refine k_get X hH in_X48 0 rfl hc 17 (by decide) q6089 rfl dX48_end_17 ?_
      refine lv_iload_n hx hb dX48_end_20 rfl (lv_at hl 2 rfl) ?_
      have hq_4 := hw.1
      have hw := hw.2
      refine k_iald X hH 14 13 rfl rfl (z_in (rfl : x3.toInt = _) hq_4) dX48_end_21 ?_
      have e_5 := z_ld (f := f_holders) (rfl : x3.toInt = _) hq_4.1
      refine lv_iload_n hx hb dX48_end_22 rfl (lv_at hl 1 rfl) ?_
      refine lv_icmp_ne (tgt := 33) hx hb dX48_end_23 (by decide) (fun c_6 => ?_) (fun c_6 => ?_)
      · have hw := hw.2 (z_ne e_5 (rfl : x1.toInt = _) c_6)
        have hq_8 := hw.1
        have hw := hw.2
        obtain ⟨x3_7, ex3_7⟩ : ∃ y : Int32, y = x3 + 1 := ⟨_, rfl⟩
        have hw := hw x3_7.toInt (by rw [ex3_7]; exact (z_x (z_add (z_m (rfl : x3.toInt = _)) (z_m (rfl : (1 : Int32).toInt = 1))) hq_8))
        refine lv_iinc (v := x3_7) (lv' := [(3, .int x3_7), (0, .ref (ad 0)), (1, .int x1)]) hx hb dX48_end_33 hl (k := 2) rfl (by rw [ex3_7]; rfl) (by decide) rfl (fun ls hl => ?_)
        refine lv_goto (tgt := 9) hx hb dX48_end_36 (by decide) ?_
        exact ih x3_7 f_holders hw _ _ ls hH (lv_sub hl [1, 2, 0] rfl)
      · have hw := hw.1 (z_eq e_5 (rfl : x1.toInt = _) c_6)
        refine lv_aload_n hx hb dX48_end_26 rfl (lv_at hl 0 rfl) ?_
        refine k_get X hH in_X48 0 rfl hc 17 (by decide) q6089 rfl dX48_end_27 ?_
        refine lv_iload_n hx hb dX48_end_30 rfl (lv_at hl 2 rfl) ?_
        refine lv_iconst (v := (-1)) hx hb dX48_end_31 (by decide) ?_
        obtain ⟨f_holders_9, ef_holders_9⟩ : ∃ y : Nat → Int32, y = upd f_holders x3.toNatClampNeg (-1) := ⟨_, rfl⟩
        refine k_iast X hH 14 13 rfl rfl (z_in (rfl : x3.toInt = _) hq_4) dX48_end_32 ef_holders_9 (ws1 := (wX48 ci ad d f_rowTriples f_rowVersions f_rowTells f_rows f_latest f_pins f_writers f_sees f_states f_notes f_wrote f_waitsFor f_waitTriples f_waitTells f_since f_clock f_count f_holders_9 f_queue f_queueFrom f_queueTo f_ring f_ringSize f_failures f_refusals f_thrown f_best)) rfl (fun H locs hH => ?_)
        have hw := hw (zF f_holders_9) (by rw [ef_holders_9]; exact z_st (f := f_holders) (rfl : x3.toInt = _) hq_4.1 (rfl : ((-1) : Int32).toInt = (-1)))
        have hq_11 := hw.1
        have hw := hw.2
        obtain ⟨x3_10, ex3_10⟩ : ∃ y : Int32, y = x3 + 1 := ⟨_, rfl⟩
        have hw := hw x3_10.toInt (by rw [ex3_10]; exact (z_x (z_add (z_m (rfl : x3.toInt = _)) (z_m (rfl : (1 : Int32).toInt = 1))) hq_11))
        refine lv_iinc (v := x3_10) (lv' := [(3, .int x3_10), (0, .ref (ad 0)), (1, .int x1)]) hx hb dX48_end_33 hl (k := 2) rfl (by rw [ex3_10]; rfl) (by decide) rfl (fun ls hl => ?_)
        refine lv_goto (tgt := 9) hx hb dX48_end_36 (by decide) ?_
        exact ih x3_10 f_holders_9 hw _ _ ls hH (lv_sub hl [1, 2, 0] rfl)
set_option maxHeartbeats 4000000 in
theorem atX48_end_55 {p : Program} {l : Launch} {e : Env} {s : State} {m : MethodId} {args : Array Value} {below : List Frame} {meth : Method} {c : Code} {dC : Nat → ClassId} {dI : Nat → Nat → Nat} {cl : List vw_C} {ci : Nat} (hc : cl[ci]? = some (RX48, TX48, 27)) {ad : Nat → Nat} {d : Nat → ClassId} {A : Nat → Prop} {post : (Int → Int) → (Int → Int) → (Int → Int) → Int → Prop} {f_rowTriples : Nat → Int32} {f_rowVersions : Nat → Int32} {f_rowTells : Nat → Int32} {f_rows : Int32} {f_latest : Int32} {f_pins : Nat → Int32} {f_writers : Nat → Int32} {f_sees : Nat → Int32} {f_notes : Nat → Int32} {f_wrote : Nat → Int32} {f_waitsFor : Nat → Int32} {f_waitTriples : Nat → Int32} {f_waitTells : Nat → Int32} {f_since : Nat → Int32} {f_clock : Int32} {f_count : Int32} {f_queueFrom : Int32} {f_ring : Nat → Int32} {f_ringSize : Int32} {f_failures : Nat → Int32} {f_refusals : Nat → Int32} {f_thrown : Int32} {f_best : Nat → Int32} (X : kX p s m args meth c cX48_end 7 RX48 none (dC, dI) cl (tX48 d)) {K129 : Int → Prop} {x1 : Int32} {x3 : Int32} {f_states : Nat → Int32} {f_holders : Nat → Int32} {f_queue : Nat → Int32} {f_queueTo : Int32} (hk129 : ∀ (x5 : Int32), K129 x5.toInt → ∀ (H : Heap) (locs : List Loc) (ls : Array Slot), kH (dC, dI) cl A s.heap H locs (wX48 ci ad d f_rowTriples f_rowVersions f_rowTells f_rows f_latest f_pins f_writers f_sees f_states f_notes f_wrote f_waitsFor f_waitTriples f_waitTells f_since f_clock f_count f_holders f_queue f_queueFrom f_queueTo f_ring f_ringSize f_failures f_refusals f_thrown f_best) → lv_has ls 7 [(0, .ref (ad 0)), (1, .int x1), (3, .int x3), (5, .int x5)] → W p l e ({ frames := 0, cells := 0, slots := 0, locals := 0 } : Room) s m args below meth c H locs 0 0 (MQ below (va_Qv (fun (u : (Nat → Int32) × (Nat → Int32) × (Nat → Int32) × Int32) => post (zF (u.1)) (zF (u.2.1)) (zF (u.2.2.1)) (u.2.2.2).toInt) (kB (dC, dI) cl (tX48 d) A (fun u : (Nat → Int32) × (Nat → Int32) × (Nat → Int32) × Int32 => (wX48 ci ad d f_rowTriples f_rowVersions f_rowTells f_rows f_latest f_pins f_writers f_sees (u.1) f_notes f_wrote f_waitsFor f_waitTriples f_waitTells f_since f_clock f_count (u.2.1) (u.2.2.1) f_queueFrom (u.2.2.2) f_ring f_ringSize f_failures f_refusals f_thrown f_best))) A) args s 0 0 A) (F0 m 129 ls [])) :
    ∀ (nn : Nat) (x5 : Int32) (x6 : Int32), wX48_end_55 K129 x1.toInt x3.toInt (zF f_states) (zF f_waitsFor) (zF f_since) f_count.toInt nn x5.toInt x6.toInt → ∀ (H : Heap) (locs : List Loc) (ls : Array Slot), kH (dC, dI) cl A s.heap H locs (wX48 ci ad d f_rowTriples f_rowVersions f_rowTells f_rows f_latest f_pins f_writers f_sees f_states f_notes f_wrote f_waitsFor f_waitTriples f_waitTells f_since f_clock f_count f_holders f_queue f_queueFrom f_queueTo f_ring f_ringSize f_failures f_refusals f_thrown f_best) → lv_has ls 7 [(0, .ref (ad 0)), (1, .int x1), (3, .int x3), (5, .int x5), (6, .int x6)] → W p l e ({ frames := 0, cells := 0, slots := 0, locals := 0 } : Room) s m args below meth c H locs 0 0 (MQ below (va_Qv (fun (u : (Nat → Int32) × (Nat → Int32) × (Nat → Int32) × Int32) => post (zF (u.1)) (zF (u.2.1)) (zF (u.2.2.1)) (u.2.2.2).toInt) (kB (dC, dI) cl (tX48 d) A (fun u : (Nat → Int32) × (Nat → Int32) × (Nat → Int32) × Int32 => (wX48 ci ad d f_rowTriples f_rowVersions f_rowTells f_rows f_latest f_pins f_writers f_sees (u.1) f_notes f_wrote f_waitsFor f_waitTriples f_waitTells f_since f_clock f_count (u.2.1) (u.2.2.1) f_queueFrom (u.2.2.2) f_ring f_ringSize f_failures f_refusals f_thrown f_best))) A) args s 0 0 A) (F0 m 55 ls []) := by
  have hx := X.1.1
  have hb := X.1.2.1
  intro nn
  induction nn with
  | zero =>
    intro x5 x6 hw
    exact False.elim hw
  | succ n ih =>
    intro x5 x6 hw H locs ls hH hl
    rw [wX48_end_55] at hw
    refine lv_iload hx hb dX48_end_55 (lv_at hl 4 rfl) ?_
    refine lv_aload_n hx hb dX48_end_57 rfl (lv_at hl 0 rfl) ?_
    refine k_get X hH in_X48 0 rfl hc 16 (by decide) q6088 rfl dX48_end_58 ?_
    refine lv_icmp_ge (tgt := 129) hx hb dX48_end_61 (by decide) (fun c_14 => ?_) (fun c_14 => ?_)
    · have hw := hw.1 (z_le (rfl : f_count.toInt = _) (rfl : x6.toInt = _) c_14)
      exact hk129 x5 hw _ _ ls hH (lv_sub hl [0, 1, 2, 3] rfl)
    · have hw := hw.2 (z_nle (rfl : f_count.toInt = _) (rfl : x6.toInt = _) c_14)
      refine lv_aload_n hx hb dX48_end_64 rfl (lv_at hl 0 rfl) ?_
      refine k_get X hH in_X48 0 rfl hc 8 (by decide) q6080 rfl dX48_end_65 ?_
      refine lv_iload hx hb dX48_end_68 (lv_at hl 4 rfl) ?_
      have hq_15 := hw.1
      have hw := hw.2
      refine k_iald X hH 7 6 rfl rfl (z_in (rfl : x6.toInt = _) hq_15) dX48_end_70 ?_
      have e_16 := z_ld (f := f_states) (rfl : x6.toInt = _) hq_15.1
      refine lv_iconst (v := 1) hx hb dX48_end_71 (by decide) ?_
      refine lv_icmp_ne (tgt := 123) hx hb dX48_end_72 (by decide) (fun c_17 => ?_) (fun c_17 => ?_)
      · have hw := hw.2 (z_ne e_16 (rfl : (1 : Int32).toInt = 1) c_17)
        have hq_19 := hw.1
        have hw := hw.2
        obtain ⟨x6_18, ex6_18⟩ : ∃ y : Int32, y = x6 + 1 := ⟨_, rfl⟩
        have hw := hw x6_18.toInt (by rw [ex6_18]; exact (z_x (z_add (z_m (rfl : x6.toInt = _)) (z_m (rfl : (1 : Int32).toInt = 1))) hq_19))
        refine lv_iinc (v := x6_18) (lv' := [(6, .int x6_18), (0, .ref (ad 0)), (1, .int x1), (3, .int x3), (5, .int x5)]) hx hb dX48_end_123 hl (k := 4) rfl (by rw [ex6_18]; rfl) (by decide) rfl (fun ls hl => ?_)
        refine lv_goto (tgt := 55) hx hb dX48_end_126 (by decide) ?_
        exact ih x5 x6_18 hw _ _ ls hH (lv_sub hl [1, 2, 3, 4, 0] rfl)
      · have hw := hw.1 (z_eq e_16 (rfl : (1 : Int32).toInt = 1) c_17)
        refine lv_aload_n hx hb dX48_end_75 rfl (lv_at hl 0 rfl) ?_
        refine k_get X hH in_X48 0 rfl hc 11 (by decide) q6083 rfl dX48_end_76 ?_
        refine lv_iload hx hb dX48_end_79 (lv_at hl 4 rfl) ?_
        refine k_iald X hH 10 9 rfl rfl (z_in (rfl : x6.toInt = _) hq_15) dX48_end_81 ?_
        have e_20 := z_ld (f := f_waitsFor) (rfl : x6.toInt = _) hq_15.1
        refine lv_iload_n hx hb dX48_end_82 rfl (lv_at hl 1 rfl) ?_
        refine lv_icmp_ne (tgt := 123) hx hb dX48_end_83 (by decide) (fun c_21 => ?_) (fun c_21 => ?_)
        · have hw := hw.2 (z_ne e_20 (rfl : x1.toInt = _) c_21)
          have hq_23 := hw.1
          have hw := hw.2
          obtain ⟨x6_22, ex6_22⟩ : ∃ y : Int32, y = x6 + 1 := ⟨_, rfl⟩
          have hw := hw x6_22.toInt (by rw [ex6_22]; exact (z_x (z_add (z_m (rfl : x6.toInt = _)) (z_m (rfl : (1 : Int32).toInt = 1))) hq_23))
          refine lv_iinc (v := x6_22) (lv' := [(6, .int x6_22), (0, .ref (ad 0)), (1, .int x1), (3, .int x3), (5, .int x5)]) hx hb dX48_end_123 hl (k := 4) rfl (by rw [ex6_22]; rfl) (by decide) rfl (fun ls hl => ?_)
          refine lv_goto (tgt := 55) hx hb dX48_end_126 (by decide) ?_
          exact ih x5 x6_22 hw _ _ ls hH (lv_sub hl [1, 2, 3, 4, 0] rfl)
        · have hw := hw.1 (z_eq e_20 (rfl : x1.toInt = _) c_21)
          refine lv_aload_n hx hb dX48_end_86 rfl (lv_at hl 0 rfl) ?_
          refine k_get X hH in_X48 0 rfl hc 14 (by decide) q6086 rfl dX48_end_87 ?_
          refine lv_iload hx hb dX48_end_90 (lv_at hl 4 rfl) ?_
          refine k_iald X hH 13 12 rfl rfl (z_in (rfl : x6.toInt = _) hq_15) dX48_end_92 ?_
          have e_24 := z_ld (f := f_since) (rfl : x6.toInt = _) hq_15.1
          refine lv_iload_n hx hb dX48_end_93 rfl (lv_at hl 2 rfl) ?_
          refine lv_icmp_le (tgt := 123) hx hb dX48_end_94 (by decide) (fun c_25 => ?_) (fun c_25 => ?_)
          · have hw := hw.1 (z_le e_24 (rfl : x3.toInt = _) c_25)
            have hq_27 := hw.1
            have hw := hw.2
            obtain ⟨x6_26, ex6_26⟩ : ∃ y : Int32, y = x6 + 1 := ⟨_, rfl⟩
            have hw := hw x6_26.toInt (by rw [ex6_26]; exact (z_x (z_add (z_m (rfl : x6.toInt = _)) (z_m (rfl : (1 : Int32).toInt = 1))) hq_27))
            refine lv_iinc (v := x6_26) (lv' := [(6, .int x6_26), (0, .ref (ad 0)), (1, .int x1), (3, .int x3), (5, .int x5)]) hx hb dX48_end_123 hl (k := 4) rfl (by rw [ex6_26]; rfl) (by decide) rfl (fun ls hl => ?_)
            refine lv_goto (tgt := 55) hx hb dX48_end_126 (by decide) ?_
            exact ih x5 x6_26 hw _ _ ls hH (lv_sub hl [1, 2, 3, 4, 0] rfl)
          · have hw := hw.2 (z_nle e_24 (rfl : x3.toInt = _) c_25)
            refine lv_iload hx hb dX48_end_97 (lv_at hl 3 rfl) ?_
            refine lv_if_lt (tgt := 119) hx hb dX48_end_99 (by decide) (fun c_28 => ?_) (fun c_28 => ?_)
            · have hw := hw.1 (z_lt (rfl : x5.toInt = _) (rfl : (0 : Int32).toInt = 0) c_28)
              refine lv_iload hx hb dX48_end_119 (lv_at hl 4 rfl) ?_
              refine lv_istore (lv' := [(5, .int x6), (0, .ref (ad 0)), (1, .int x1), (3, .int x3), (6, .int x6)]) hx hb dX48_end_121 hl (by decide) rfl (fun ls hl => ?_)
              have hq_30 := hw.1
              have hw := hw.2
              obtain ⟨x6_29, ex6_29⟩ : ∃ y : Int32, y = x6 + 1 := ⟨_, rfl⟩
              have hw := hw x6_29.toInt (by rw [ex6_29]; exact (z_x (z_add (z_m (rfl : x6.toInt = _)) (z_m (rfl : (1 : Int32).toInt = 1))) hq_30))
              refine lv_iinc (v := x6_29) (lv' := [(6, .int x6_29), (5, .int x6), (0, .ref (ad 0)), (1, .int x1), (3, .int x3)]) hx hb dX48_end_123 hl (k := 4) rfl (by rw [ex6_29]; rfl) (by decide) rfl (fun ls hl => ?_)
              refine lv_goto (tgt := 55) hx hb dX48_end_126 (by decide) ?_
              exact ih x6 x6_29 hw _ _ ls hH (lv_sub hl [2, 3, 4, 1, 0] rfl)
            · have hw := hw.2 (z_nlt (rfl : x5.toInt = _) (rfl : (0 : Int32).toInt = 0) c_28)
              refine lv_aload_n hx hb dX48_end_102 rfl (lv_at hl 0 rfl) ?_
              refine k_get X hH in_X48 0 rfl hc 14 (by decide) q6086 rfl dX48_end_103 ?_
              refine lv_iload hx hb dX48_end_106 (lv_at hl 4 rfl) ?_
              refine k_iald X hH 13 12 rfl rfl (z_in (rfl : x6.toInt = _) hq_15) dX48_end_108 ?_
              have e_31 := z_ld (f := f_since) (rfl : x6.toInt = _) hq_15.1
              refine lv_aload_n hx hb dX48_end_109 rfl (lv_at hl 0 rfl) ?_
              refine k_get X hH in_X48 0 rfl hc 14 (by decide) q6086 rfl dX48_end_110 ?_
              refine lv_iload hx hb dX48_end_113 (lv_at hl 3 rfl) ?_
              have hq_32 := hw.1
              have hw := hw.2
              refine k_iald X hH 13 12 rfl rfl (z_in (rfl : x5.toInt = _) hq_32) dX48_end_115 ?_
              have e_33 := z_ld (f := f_since) (rfl : x5.toInt = _) hq_32.1
              refine lv_icmp_ge (tgt := 123) hx hb dX48_end_116 (by decide) (fun c_34 => ?_) (fun c_34 => ?_)
              · have hw := hw.1 (z_le e_33 e_31 c_34)
                have hq_36 := hw.1
                have hw := hw.2
                obtain ⟨x6_35, ex6_35⟩ : ∃ y : Int32, y = x6 + 1 := ⟨_, rfl⟩
                have hw := hw x6_35.toInt (by rw [ex6_35]; exact (z_x (z_add (z_m (rfl : x6.toInt = _)) (z_m (rfl : (1 : Int32).toInt = 1))) hq_36))
                refine lv_iinc (v := x6_35) (lv' := [(6, .int x6_35), (0, .ref (ad 0)), (1, .int x1), (3, .int x3), (5, .int x5)]) hx hb dX48_end_123 hl (k := 4) rfl (by rw [ex6_35]; rfl) (by decide) rfl (fun ls hl => ?_)
                refine lv_goto (tgt := 55) hx hb dX48_end_126 (by decide) ?_
                exact ih x5 x6_35 hw _ _ ls hH (lv_sub hl [1, 2, 3, 4, 0] rfl)
              · have hw := hw.2 (z_nle e_33 e_31 c_34)
                refine lv_iload hx hb dX48_end_119 (lv_at hl 4 rfl) ?_
                refine lv_istore (lv' := [(5, .int x6), (0, .ref (ad 0)), (1, .int x1), (3, .int x3), (6, .int x6)]) hx hb dX48_end_121 hl (by decide) rfl (fun ls hl => ?_)
                have hq_38 := hw.1
                have hw := hw.2
                obtain ⟨x6_37, ex6_37⟩ : ∃ y : Int32, y = x6 + 1 := ⟨_, rfl⟩
                have hw := hw x6_37.toInt (by rw [ex6_37]; exact (z_x (z_add (z_m (rfl : x6.toInt = _)) (z_m (rfl : (1 : Int32).toInt = 1))) hq_38))
                refine lv_iinc (v := x6_37) (lv' := [(6, .int x6_37), (5, .int x6), (0, .ref (ad 0)), (1, .int x1), (3, .int x3)]) hx hb dX48_end_123 hl (k := 4) rfl (by rw [ex6_37]; rfl) (by decide) rfl (fun ls hl => ?_)
                refine lv_goto (tgt := 55) hx hb dX48_end_126 (by decide) ?_
                exact ih x6 x6_37 hw _ _ ls hH (lv_sub hl [2, 3, 4, 1, 0] rfl)
set_option maxHeartbeats 4000000 in
theorem atX48_end_139 {p : Program} {l : Launch} {e : Env} {s : State} {m : MethodId} {args : Array Value} {below : List Frame} {meth : Method} {c : Code} {dC : Nat → ClassId} {dI : Nat → Nat → Nat} {cl : List vw_C} {ci : Nat} (hc : cl[ci]? = some (RX48, TX48, 27)) {ad : Nat → Nat} {d : Nat → ClassId} {A : Nat → Prop} {post : (Int → Int) → (Int → Int) → (Int → Int) → Int → Prop} {f_rowTriples : Nat → Int32} {f_rowVersions : Nat → Int32} {f_rowTells : Nat → Int32} {f_rows : Int32} {f_latest : Int32} {f_pins : Nat → Int32} {f_writers : Nat → Int32} {f_sees : Nat → Int32} {f_notes : Nat → Int32} {f_wrote : Nat → Int32} {f_waitsFor : Nat → Int32} {f_waitTriples : Nat → Int32} {f_waitTells : Nat → Int32} {f_since : Nat → Int32} {f_clock : Int32} {f_count : Int32} {f_queueFrom : Int32} {f_ring : Nat → Int32} {f_ringSize : Int32} {f_failures : Nat → Int32} {f_refusals : Nat → Int32} {f_thrown : Int32} {f_best : Nat → Int32} (X : kX p s m args meth c cX48_end 7 RX48 none (dC, dI) cl (tX48 d)) {K44 : Int → Int → (Int → Int) → Int → Prop} {x1 : Int32} {f_states : Nat → Int32} {f_holders : Nat → Int32} (hk44 : ∀ (x3 : Int32) (x4 : Int32) (f_queue : Nat → Int32) (f_queueTo : Int32), K44 x3.toInt x4.toInt (zF f_queue) f_queueTo.toInt → ∀ (H : Heap) (locs : List Loc) (ls : Array Slot), kH (dC, dI) cl A s.heap H locs (wX48 ci ad d f_rowTriples f_rowVersions f_rowTells f_rows f_latest f_pins f_writers f_sees f_states f_notes f_wrote f_waitsFor f_waitTriples f_waitTells f_since f_clock f_count f_holders f_queue f_queueFrom f_queueTo f_ring f_ringSize f_failures f_refusals f_thrown f_best) → lv_has ls 7 [(0, .ref (ad 0)), (1, .int x1), (3, .int x3), (4, .int x4)] → W p l e ({ frames := 0, cells := 0, slots := 0, locals := 0 } : Room) s m args below meth c H locs 0 0 (MQ below (va_Qv (fun (u : (Nat → Int32) × (Nat → Int32) × (Nat → Int32) × Int32) => post (zF (u.1)) (zF (u.2.1)) (zF (u.2.2.1)) (u.2.2.2).toInt) (kB (dC, dI) cl (tX48 d) A (fun u : (Nat → Int32) × (Nat → Int32) × (Nat → Int32) × Int32 => (wX48 ci ad d f_rowTriples f_rowVersions f_rowTells f_rows f_latest f_pins f_writers f_sees (u.1) f_notes f_wrote f_waitsFor f_waitTriples f_waitTells f_since f_clock f_count (u.2.1) (u.2.2.1) f_queueFrom (u.2.2.2) f_ring f_ringSize f_failures f_refusals f_thrown f_best))) A) args s 0 0 A) (F0 m 44 ls [])) :
    ∀ (x3 : Int32) (x5 : Int32) (y0 : Int32) (f_queue : Nat → Int32) (f_queueTo : Int32), wX48_end_139 K44 x3.toInt x5.toInt y0.toInt (zF f_since) (zF f_queue) f_queueTo.toInt → ∀ (H : Heap) (locs : List Loc) (ls : Array Slot), kH (dC, dI) cl A s.heap H locs (wX48 ci ad d f_rowTriples f_rowVersions f_rowTells f_rows f_latest f_pins f_writers f_sees f_states f_notes f_wrote f_waitsFor f_waitTriples f_waitTells f_since f_clock f_count f_holders f_queue f_queueFrom f_queueTo f_ring f_ringSize f_failures f_refusals f_thrown f_best) → lv_has ls 7 [(0, .ref (ad 0)), (1, .int x1), (3, .int x3), (5, .int x5)] → W p l e ({ frames := 0, cells := 0, slots := 0, locals := 0 } : Room) s m args below meth c H locs 0 0 (MQ below (va_Qv (fun (u : (Nat → Int32) × (Nat → Int32) × (Nat → Int32) × Int32) => post (zF (u.1)) (zF (u.2.1)) (zF (u.2.2.1)) (u.2.2.2).toInt) (kB (dC, dI) cl (tX48 d) A (fun u : (Nat → Int32) × (Nat → Int32) × (Nat → Int32) × Int32 => (wX48 ci ad d f_rowTriples f_rowVersions f_rowTells f_rows f_latest f_pins f_writers f_sees (u.1) f_notes f_wrote f_waitsFor f_waitTriples f_waitTells f_since f_clock f_count (u.2.1) (u.2.2.1) f_queueFrom (u.2.2.2) f_ring f_ringSize f_failures f_refusals f_thrown f_best))) A) args s 0 0 A) (F0 m 139 ls [.int y0]) := by
  have hx := X.1.1
  have hb := X.1.2.1
  intro x3 x5 y0 f_queue f_queueTo hw H locs ls hH hl
  unfold wX48_end_139 at hw
  refine lv_istore (lv' := [(4, .int y0), (0, .ref (ad 0)), (1, .int x1), (3, .int x3), (5, .int x5)]) hx hb dX48_end_139 hl (by decide) rfl (fun ls hl => ?_)
  refine lv_iload hx hb dX48_end_141 (lv_at hl 0 rfl) ?_
  refine lv_if_ne (tgt := 149) hx hb dX48_end_143 (by decide) (fun c_41 => ?_) (fun c_41 => ?_)
  · have hw := hw.2 (z_ne (rfl : y0.toInt = _) (rfl : (0 : Int32).toInt = 0) c_41)
    refine lv_aload_n hx hb dX48_end_149 rfl (lv_at hl 1 rfl) ?_
    refine k_get X hH in_X48 0 rfl hc 14 (by decide) q6086 rfl dX48_end_150 ?_
    refine lv_iload hx hb dX48_end_153 (lv_at hl 4 rfl) ?_
    have hq_42 := hw.1
    have hw := hw.2
    refine k_iald X hH 13 12 rfl rfl (z_in (rfl : x5.toInt = _) hq_42) dX48_end_155 ?_
    have e_43 := z_ld (f := f_since) (rfl : x5.toInt = _) hq_42.1
    refine lv_topi (fun x3_44 ex3_44 => ?_)
    have hw := hw x3_44.toInt (by rw [ex3_44]; exact e_43)
    refine lv_istore_n (lv' := [(3, .int x3_44), (4, .int y0), (0, .ref (ad 0)), (1, .int x1), (5, .int x5)]) hx hb dX48_end_156 rfl hl (by decide) rfl (fun ls hl => ?_)
    refine lv_aload_n hx hb dX48_end_157 rfl (lv_at hl 2 rfl) ?_
    refine k_get X hH in_X48 0 rfl hc 18 (by decide) q6090 rfl dX48_end_158 ?_
    refine lv_aload_n hx hb dX48_end_161 rfl (lv_at hl 2 rfl) ?_
    refine k_get X hH in_X48 0 rfl hc 20 (by decide) q6092 rfl dX48_end_162 ?_
    refine lv_iload hx hb dX48_end_165 (lv_at hl 4 rfl) ?_
    have hq_46 := hw.1
    have hw := hw.2
    obtain ⟨f_queue_45, ef_queue_45⟩ : ∃ y : Nat → Int32, y = upd f_queue f_queueTo.toNatClampNeg x5 := ⟨_, rfl⟩
    refine k_iast X hH 15 14 rfl rfl (z_in (rfl : f_queueTo.toInt = _) hq_46) dX48_end_167 ef_queue_45 (ws1 := (wX48 ci ad d f_rowTriples f_rowVersions f_rowTells f_rows f_latest f_pins f_writers f_sees f_states f_notes f_wrote f_waitsFor f_waitTriples f_waitTells f_since f_clock f_count f_holders f_queue_45 f_queueFrom f_queueTo f_ring f_ringSize f_failures f_refusals f_thrown f_best)) rfl (fun H locs hH => ?_)
    have hw := hw (zF f_queue_45) (by rw [ef_queue_45]; exact z_st (f := f_queue) (rfl : f_queueTo.toInt = _) hq_46.1 (rfl : x5.toInt = _))
    refine lv_aload_n hx hb dX48_end_168 rfl (lv_at hl 2 rfl) ?_
    refine lv_dup hx hb dX48_end_169 rfl ?_
    refine k_get X hH in_X48 0 rfl hc 20 (by decide) q6092 rfl dX48_end_170 ?_
    refine lv_iconst (v := 1) hx hb dX48_end_173 (by decide) ?_
    refine lv_iadd hx hb dX48_end_174 ?_
    have e_47 := z_add (z_m (rfl : f_queueTo.toInt = _)) (z_m (rfl : (1 : Int32).toInt = 1))
    have hq_48 := hw.1
    have hw := hw.2
    have e_49 := z_x e_47 hq_48
    refine lv_topi (fun f_queueTo_50 ef_queueTo_50 => ?_)
    have hw := hw f_queueTo_50.toInt (by rw [ef_queueTo_50]; exact e_49)
    refine k_put X hH in_X48 tyX48_ok nmX48 0 rfl hc 20 (by decide) q6092 rfl (ty := .int) rfl rfl rfl (Nat.le_of_ble_eq_true rfl) dX48_end_175 (ws1 := (wX48 ci ad d f_rowTriples f_rowVersions f_rowTells f_rows f_latest f_pins f_writers f_sees f_states f_notes f_wrote f_waitsFor f_waitTriples f_waitTells f_since f_clock f_count f_holders f_queue_45 f_queueFrom f_queueTo_50 f_ring f_ringSize f_failures f_refusals f_thrown f_best)) rfl (fun H locs hH => ?_)
    refine lv_goto (tgt := 44) hx hb dX48_end_178 (by decide) ?_
    exact hk44 x3_44 y0 f_queue_45 f_queueTo_50 hw _ _ ls hH (lv_sub hl [2, 3, 0, 1] rfl)
  · have hw := hw.1 (z_eq (rfl : y0.toInt = _) (rfl : (0 : Int32).toInt = 0) c_41)
    refine lv_goto (tgt := 44) hx hb dX48_end_146 (by decide) ?_
    exact hk44 x3 y0 f_queue f_queueTo hw _ _ ls hH (lv_sub hl [1, 2, 3, 0] rfl)
set_option maxHeartbeats 4000000 in
theorem atX48_end_44 {p : Program} {l : Launch} {e : Env} {s : State} {m : MethodId} {args : Array Value} {below : List Frame} {meth : Method} {c : Code} {dC : Nat → ClassId} {dI : Nat → Nat → Nat} {cl : List vw_C} {ci : Nat} (hc : cl[ci]? = some (RX48, TX48, 27)) {ad : Nat → Nat} {d : Nat → ClassId} {A : Nat → Prop} {post : (Int → Int) → (Int → Int) → (Int → Int) → Int → Prop} {f_rowTriples : Nat → Int32} {f_rowVersions : Nat → Int32} {f_rowTells : Nat → Int32} {f_rows : Int32} {f_latest : Int32} {f_pins : Nat → Int32} {f_writers : Nat → Int32} {f_sees : Nat → Int32} {f_notes : Nat → Int32} {f_wrote : Nat → Int32} {f_waitsFor : Nat → Int32} {f_waitTriples : Nat → Int32} {f_waitTells : Nat → Int32} {f_since : Nat → Int32} {f_clock : Int32} {f_count : Int32} {f_queueFrom : Int32} {f_ring : Nat → Int32} {f_ringSize : Int32} {f_failures : Nat → Int32} {f_refusals : Nat → Int32} {f_thrown : Int32} {f_best : Nat → Int32} (X : kX p s m args meth c cX48_end 7 RX48 none (dC, dI) cl (tX48 d)) {K181 : (Int → Int) → Int → Prop} {x1 : Int32} {f_states : Nat → Int32} {f_holders : Nat → Int32} (hk181 : ∀ (f_queue : Nat → Int32) (f_queueTo : Int32), K181 (zF f_queue) f_queueTo.toInt → ∀ (H : Heap) (locs : List Loc) (ls : Array Slot), kH (dC, dI) cl A s.heap H locs (wX48 ci ad d f_rowTriples f_rowVersions f_rowTells f_rows f_latest f_pins f_writers f_sees f_states f_notes f_wrote f_waitsFor f_waitTriples f_waitTells f_since f_clock f_count f_holders f_queue f_queueFrom f_queueTo f_ring f_ringSize f_failures f_refusals f_thrown f_best) → lv_has ls 7 [] → W p l e ({ frames := 0, cells := 0, slots := 0, locals := 0 } : Room) s m args below meth c H locs 0 0 (MQ below (va_Qv (fun (u : (Nat → Int32) × (Nat → Int32) × (Nat → Int32) × Int32) => post (zF (u.1)) (zF (u.2.1)) (zF (u.2.2.1)) (u.2.2.2).toInt) (kB (dC, dI) cl (tX48 d) A (fun u : (Nat → Int32) × (Nat → Int32) × (Nat → Int32) × Int32 => (wX48 ci ad d f_rowTriples f_rowVersions f_rowTells f_rows f_latest f_pins f_writers f_sees (u.1) f_notes f_wrote f_waitsFor f_waitTriples f_waitTells f_since f_clock f_count (u.2.1) (u.2.2.1) f_queueFrom (u.2.2.2) f_ring f_ringSize f_failures f_refusals f_thrown f_best))) A) args s 0 0 A) (F0 m 181 ls [])) :
    ∀ (nn : Nat) (x3 : Int32) (x4 : Int32) (f_queue : Nat → Int32) (f_queueTo : Int32), wX48_end_44 K181 x1.toInt (zF f_states) (zF f_waitsFor) (zF f_since) f_count.toInt nn x3.toInt x4.toInt (zF f_queue) f_queueTo.toInt → ∀ (H : Heap) (locs : List Loc) (ls : Array Slot), kH (dC, dI) cl A s.heap H locs (wX48 ci ad d f_rowTriples f_rowVersions f_rowTells f_rows f_latest f_pins f_writers f_sees f_states f_notes f_wrote f_waitsFor f_waitTriples f_waitTells f_since f_clock f_count f_holders f_queue f_queueFrom f_queueTo f_ring f_ringSize f_failures f_refusals f_thrown f_best) → lv_has ls 7 [(0, .ref (ad 0)), (1, .int x1), (3, .int x3), (4, .int x4)] → W p l e ({ frames := 0, cells := 0, slots := 0, locals := 0 } : Room) s m args below meth c H locs 0 0 (MQ below (va_Qv (fun (u : (Nat → Int32) × (Nat → Int32) × (Nat → Int32) × Int32) => post (zF (u.1)) (zF (u.2.1)) (zF (u.2.2.1)) (u.2.2.2).toInt) (kB (dC, dI) cl (tX48 d) A (fun u : (Nat → Int32) × (Nat → Int32) × (Nat → Int32) × Int32 => (wX48 ci ad d f_rowTriples f_rowVersions f_rowTells f_rows f_latest f_pins f_writers f_sees (u.1) f_notes f_wrote f_waitsFor f_waitTriples f_waitTells f_since f_clock f_count (u.2.1) (u.2.2.1) f_queueFrom (u.2.2.2) f_ring f_ringSize f_failures f_refusals f_thrown f_best))) A) args s 0 0 A) (F0 m 44 ls []) := by
  have hx := X.1.1
  have hb := X.1.2.1
  intro nn
  induction nn with
  | zero =>
    intro x3 x4 f_queue f_queueTo hw
    exact False.elim hw
  | succ n ih =>
    intro x3 x4 f_queue f_queueTo hw H locs ls hH hl
    rw [wX48_end_44] at hw
    refine lv_iload hx hb dX48_end_44 (lv_at hl 3 rfl) ?_
    refine lv_if_eq (tgt := 181) hx hb dX48_end_46 (by decide) (fun c_13 => ?_) (fun c_13 => ?_)
    · have hw := hw.1 (z_eq (rfl : x4.toInt = _) (rfl : (0 : Int32).toInt = 0) c_13)
      exact hk181 f_queue f_queueTo hw _ _ ls hH (lv_sub hl [] rfl)
    · have hw := hw.2 (z_neq (rfl : x4.toInt = _) (rfl : (0 : Int32).toInt = 0) c_13)
      refine lv_iconst (v := (-1)) hx hb dX48_end_49 (by decide) ?_
      refine lv_istore (lv' := [(5, .int ((-1))), (0, .ref (ad 0)), (1, .int x1), (3, .int x3), (4, .int x4)]) hx hb dX48_end_50 hl (by decide) rfl (fun ls hl => ?_)
      refine lv_iconst (v := 0) hx hb dX48_end_52 (by decide) ?_
      refine lv_istore (lv' := [(6, .int 0), (5, .int ((-1))), (0, .ref (ad 0)), (1, .int x1), (3, .int x3), (4, .int x4)]) hx hb dX48_end_53 hl (by decide) rfl (fun ls hl => ?_)
      obtain ⟨fu, hw⟩ := hw
      refine atX48_end_55 hc X ?_ fu (-1) 0 hw _ _ ls hH (lv_sub hl [2, 3, 4, 1, 0] rfl)
      · intro x5_39 hw H locs ls hH hl
        refine lv_iload hx hb dX48_end_129 (lv_at hl 3 rfl) ?_
        refine lv_if_lt (tgt := 138) hx hb dX48_end_131 (by decide) (fun c_40 => ?_) (fun c_40 => ?_)
        · have hw := hw.1 (z_lt (rfl : x5_39.toInt = _) (rfl : (0 : Int32).toInt = 0) c_40)
          refine lv_iconst (v := 0) hx hb dX48_end_138 (by decide) ?_
          exact atX48_end_139 hc X (fun x3 x4 f_queue f_queueTo hw H locs ls hH hl => ih x3 x4 f_queue f_queueTo hw _ _ ls hH (lv_sub hl [0, 1, 2, 3] rfl)) x3 x5_39 0 f_queue f_queueTo hw _ _ ls hH (lv_sub hl [0, 1, 2, 3] rfl)
        · have hw := hw.2 (z_nlt (rfl : x5_39.toInt = _) (rfl : (0 : Int32).toInt = 0) c_40)
          refine lv_iconst (v := 1) hx hb dX48_end_134 (by decide) ?_
          refine lv_goto (tgt := 139) hx hb dX48_end_135 (by decide) ?_
          exact atX48_end_139 hc X (fun x3 x4 f_queue f_queueTo hw H locs ls hH hl => ih x3 x4 f_queue f_queueTo hw _ _ ls hH (lv_sub hl [0, 1, 2, 3] rfl)) x3 x5_39 1 f_queue f_queueTo hw _ _ ls hH (lv_sub hl [0, 1, 2, 3] rfl)
set_option maxHeartbeats 4000000 in
theorem walkX48_end {l : Launch} {dC : Nat → ClassId} {dI : Nat → Nat → Nat} {cl : List vw_C} {ci : Nat} (hc : cl[ci]? = some (RX48, TX48, 27)) {ad : Nat → Nat} {d : Nat → ClassId} {sz : Nat} {f_rowTriples : Nat → Int32} {f_rowVersions : Nat → Int32} {f_rowTells : Nat → Int32} {f_rows : Int32} {f_latest : Int32} {f_pins : Nat → Int32} {f_writers : Nat → Int32} {f_sees : Nat → Int32} {f_states : Nat → Int32} {f_notes : Nat → Int32} {f_wrote : Nat → Int32} {f_waitsFor : Nat → Int32} {f_waitTriples : Nat → Int32} {f_waitTells : Nat → Int32} {f_since : Nat → Int32} {f_clock : Int32} {f_count : Int32} {f_holders : Nat → Int32} {f_queue : Nat → Int32} {f_queueFrom : Int32} {f_queueTo : Int32} {f_ring : Nat → Int32} {f_ringSize : Int32} {f_failures : Nat → Int32} {f_refusals : Nat → Int32} {f_thrown : Int32} {f_best : Nat → Int32} {x1 : Int32} {x2 : Int32} {post : (Int → Int) → (Int → Int) → (Int → Int) → Int → Prop} (hw : wpX48_end post (zF f_states) (zF f_waitsFor) (zF f_since) f_count.toInt (zF f_holders) (zF f_queue) f_queueTo.toInt x1.toInt x2.toInt) :
    Met l yX48_end (ws_ yX48_end cX48_end 7 none) ({ frames := 0, cells := 0, slots := 0, locals := 0 } : Room) (kPc (dC, dI) cl (tX48 d) [.ref (ad 0), .int x1, .int x2] sz (wX48 ci ad d f_rowTriples f_rowVersions f_rowTells f_rows f_latest f_pins f_writers f_sees f_states f_notes f_wrote f_waitsFor f_waitTriples f_waitTells f_since f_clock f_count f_holders f_queue f_queueFrom f_queueTo f_ring f_ringSize f_failures f_refusals f_thrown f_best)) (va_Qv (fun (u : (Nat → Int32) × (Nat → Int32) × (Nat → Int32) × Int32) => post (zF (u.1)) (zF (u.2.1)) (zF (u.2.2.1)) (u.2.2.2).toInt) (kB (dC, dI) cl (tX48 d) (va_A (wX48 ci ad d f_rowTriples f_rowVersions f_rowTells f_rows f_latest f_pins f_writers f_sees f_states f_notes f_wrote f_waitsFor f_waitTriples f_waitTells f_since f_clock f_count f_holders f_queue f_queueFrom f_queueTo f_ring f_ringSize f_failures f_refusals f_thrown f_best) sz) (fun u : (Nat → Int32) × (Nat → Int32) × (Nat → Int32) × Int32 => (wX48 ci ad d f_rowTriples f_rowVersions f_rowTells f_rows f_latest f_pins f_writers f_sees (u.1) f_notes f_wrote f_waitsFor f_waitTriples f_waitTells f_since f_clock f_count (u.2.1) (u.2.2.1) f_queueFrom (u.2.2.2) f_ring f_ringSize f_failures f_refusals f_thrown f_best))) (va_A (wX48 ci ad d f_rowTriples f_rowVersions f_rowTells f_rows f_latest f_pins f_writers f_sees f_states f_notes f_wrote f_waitsFor f_waitTriples f_waitTells f_since f_clock f_count f_holders f_queue f_queueFrom f_queueTo f_ring f_ringSize f_failures f_refusals f_thrown f_best) sz)) 0 0 (va_A (wX48 ci ad d f_rowTriples f_rowVersions f_rowTells f_rows f_latest f_pins f_writers f_sees f_states f_notes f_wrote f_waitsFor f_waitTriples f_waitTells f_since f_clock f_count f_holders f_queue f_queueFrom f_queueTo f_ring f_ringSize f_failures f_refusals f_thrown f_best) sz) := by
  refine k_enter (by decide) (Nat.le_of_ble_eq_true rfl) ?_
  intro p e s m below meth c ls X hsz hH hl
  subst hsz
  generalize va_A (wX48 ci ad d f_rowTriples f_rowVersions f_rowTells f_rows f_latest f_pins f_writers f_sees f_states f_notes f_wrote f_waitsFor f_waitTriples f_waitTells f_since f_clock f_count f_holders f_queue f_queueFrom f_queueTo f_ring f_ringSize f_failures f_refusals f_thrown f_best) s.heap.size = A at hH ⊢
  have hx := X.1.1
  have hb := X.1.2.1
  have hl : lv_has ls 7 [(0, .ref (ad 0)), (1, .int x1), (2, .int x2)] := hl
  unfold wpX48_end at hw
  refine lv_aload_n hx hb dX48_end_0 rfl (lv_at hl 0 rfl) ?_
  refine k_get X hH in_X48 0 rfl hc 8 (by decide) q6080 rfl dX48_end_1 ?_
  refine lv_iload_n hx hb dX48_end_4 rfl (lv_at hl 1 rfl) ?_
  refine lv_iload_n hx hb dX48_end_5 rfl (lv_at hl 2 rfl) ?_
  have hq_2 := hw.1
  have hw := hw.2
  obtain ⟨f_states_1, ef_states_1⟩ : ∃ y : Nat → Int32, y = upd f_states x1.toNatClampNeg x2 := ⟨_, rfl⟩
  refine k_iast X hH 7 6 rfl rfl (z_in (rfl : x1.toInt = _) hq_2) dX48_end_6 ef_states_1 (ws1 := (wX48 ci ad d f_rowTriples f_rowVersions f_rowTells f_rows f_latest f_pins f_writers f_sees f_states_1 f_notes f_wrote f_waitsFor f_waitTriples f_waitTells f_since f_clock f_count f_holders f_queue f_queueFrom f_queueTo f_ring f_ringSize f_failures f_refusals f_thrown f_best)) rfl (fun H locs hH => ?_)
  have hw := hw (zF f_states_1) (by rw [ef_states_1]; exact z_st (f := f_states) (rfl : x1.toInt = _) hq_2.1 (rfl : x2.toInt = _))
  refine lv_iconst (v := 0) hx hb dX48_end_7 (by decide) ?_
  refine lv_istore_n (lv' := [(3, .int 0), (0, .ref (ad 0)), (1, .int x1), (2, .int x2)]) hx hb dX48_end_8 rfl hl (by decide) rfl (fun ls hl => ?_)
  obtain ⟨fu, hw⟩ := hw
  refine atX48_end_9 hc X ?_ fu 0 f_holders hw _ _ ls hH (lv_sub hl [1, 2, 0] rfl)
  · intro f_holders_12 hw H locs ls hH hl
    refine lv_iconst (v := (-1)) hx hb dX48_end_39 (by decide) ?_
    refine lv_istore_n (lv' := [(3, .int ((-1))), (0, .ref (ad 0)), (1, .int x1)]) hx hb dX48_end_40 rfl hl (by decide) rfl (fun ls hl => ?_)
    refine lv_iconst (v := 1) hx hb dX48_end_41 (by decide) ?_
    refine lv_istore (lv' := [(4, .int 1), (3, .int ((-1))), (0, .ref (ad 0)), (1, .int x1)]) hx hb dX48_end_42 hl (by decide) rfl (fun ls hl => ?_)
    obtain ⟨fu, hw⟩ := hw
    refine atX48_end_44 hc X ?_ fu (-1) 1 f_queue f_queueTo hw _ _ ls hH (lv_sub hl [2, 3, 1, 0] rfl)
    · intro f_queue_51 f_queueTo_52 hw H locs ls hH hl
      exact k_vret X hH (f_states_1, f_holders_12, f_queue_51, f_queueTo_52) hw rfl dX48_end_181
set_option maxHeartbeats 4000000 in
theorem atX48_takeRing_22 {p : Program} {l : Launch} {e : Env} {s : State} {m : MethodId} {args : Array Value} {below : List Frame} {meth : Method} {c : Code} {dC : Nat → ClassId} {dI : Nat → Nat → Nat} {cl : List vw_C} {ci : Nat} (hc : cl[ci]? = some (RX48, TX48, 27)) {ad : Nat → Nat} {d : Nat → ClassId} {A : Nat → Prop} {post : (Int → Int) → (Int → Int) → (Int → Int) → Int → (Int → Int) → Int → Prop} {f_rowTriples : Nat → Int32} {f_rowVersions : Nat → Int32} {f_rowTells : Nat → Int32} {f_rows : Int32} {f_latest : Int32} {f_pins : Nat → Int32} {f_writers : Nat → Int32} {f_sees : Nat → Int32} {f_notes : Nat → Int32} {f_wrote : Nat → Int32} {f_waitsFor : Nat → Int32} {f_waitTriples : Nat → Int32} {f_waitTells : Nat → Int32} {f_since : Nat → Int32} {f_clock : Int32} {f_count : Int32} {f_queueFrom : Int32} {f_failures : Nat → Int32} {f_refusals : Nat → Int32} {f_thrown : Int32} {f_best : Nat → Int32} (X : kX p s m args meth c cX48_takeRing 6 RX48 none (dC, dI) cl (tX48 d)) {K62 : Int → (Int → Int) → Prop} {x2 : Int32} {x3 : Int32} {x4 : Int32} {f_states : Nat → Int32} {f_holders : Nat → Int32} {f_queue : Nat → Int32} {f_queueTo : Int32} {f_ringSize : Int32} (hk62 : ∀ (x5 : Int32) (f_ring : Nat → Int32), K62 x5.toInt (zF f_ring) → ∀ (H : Heap) (locs : List Loc) (ls : Array Slot), kH (dC, dI) cl A s.heap H locs (wX48 ci ad d f_rowTriples f_rowVersions f_rowTells f_rows f_latest f_pins f_writers f_sees f_states f_notes f_wrote f_waitsFor f_waitTriples f_waitTells f_since f_clock f_count f_holders f_queue f_queueFrom f_queueTo f_ring f_ringSize f_failures f_refusals f_thrown f_best) → lv_has ls 6 [(0, .ref (ad 0)), (2, .int x2), (3, .int x3), (4, .int x4), (5, .int x5)] → W p l e ({ frames := 1, cells := 0, slots := 0, locals := 26 } : Room) s m args below meth c H locs 0 0 (MQ below (va_Qv (fun (u : (Nat → Int32) × (Nat → Int32) × (Nat → Int32) × Int32 × (Nat → Int32) × Int32) => post (zF (u.1)) (zF (u.2.1)) (zF (u.2.2.1)) (u.2.2.2.1).toInt (zF (u.2.2.2.2.1)) (u.2.2.2.2.2).toInt) (kB (dC, dI) cl (tX48 d) A (fun u : (Nat → Int32) × (Nat → Int32) × (Nat → Int32) × Int32 × (Nat → Int32) × Int32 => (wX48 ci ad d f_rowTriples f_rowVersions f_rowTells f_rows f_latest f_pins f_writers f_sees (u.1) f_notes f_wrote f_waitsFor f_waitTriples f_waitTells f_since f_clock f_count (u.2.1) (u.2.2.1) f_queueFrom (u.2.2.2.1) (u.2.2.2.2.1) (u.2.2.2.2.2) f_failures f_refusals f_thrown f_best))) A) args s 0 0 A) (F0 m 62 ls [])) :
    ∀ (nn : Nat) (x5 : Int32) (f_ring : Nat → Int32), wX48_takeRing_22 K62 x3.toInt nn x5.toInt (zF f_ring) → ∀ (H : Heap) (locs : List Loc) (ls : Array Slot), kH (dC, dI) cl A s.heap H locs (wX48 ci ad d f_rowTriples f_rowVersions f_rowTells f_rows f_latest f_pins f_writers f_sees f_states f_notes f_wrote f_waitsFor f_waitTriples f_waitTells f_since f_clock f_count f_holders f_queue f_queueFrom f_queueTo f_ring f_ringSize f_failures f_refusals f_thrown f_best) → lv_has ls 6 [(0, .ref (ad 0)), (2, .int x2), (3, .int x3), (4, .int x4), (5, .int x5)] → W p l e ({ frames := 1, cells := 0, slots := 0, locals := 26 } : Room) s m args below meth c H locs 0 0 (MQ below (va_Qv (fun (u : (Nat → Int32) × (Nat → Int32) × (Nat → Int32) × Int32 × (Nat → Int32) × Int32) => post (zF (u.1)) (zF (u.2.1)) (zF (u.2.2.1)) (u.2.2.2.1).toInt (zF (u.2.2.2.2.1)) (u.2.2.2.2.2).toInt) (kB (dC, dI) cl (tX48 d) A (fun u : (Nat → Int32) × (Nat → Int32) × (Nat → Int32) × Int32 × (Nat → Int32) × Int32 => (wX48 ci ad d f_rowTriples f_rowVersions f_rowTells f_rows f_latest f_pins f_writers f_sees (u.1) f_notes f_wrote f_waitsFor f_waitTriples f_waitTells f_since f_clock f_count (u.2.1) (u.2.2.1) f_queueFrom (u.2.2.2.1) (u.2.2.2.2.1) (u.2.2.2.2.2) f_failures f_refusals f_thrown f_best))) A) args s 0 0 A) (F0 m 22 ls []) := by
  have hx := X.1.1
  have hb := X.1.2.1
  intro nn
  induction nn with
  | zero =>
    intro x5 f_ring hw
    exact False.elim hw
  | succ n ih =>
    intro x5 f_ring hw H locs ls hH hl
    rw [wX48_takeRing_22] at hw
    refine lv_iload hx hb dX48_takeRing_22 (lv_at hl 4 rfl) ?_
    refine lv_if_le (tgt := 62) hx hb dX48_takeRing_24 (by decide) (fun c_2 => ?_) (fun c_2 => ?_)
    · have hw := hw.1 (z_le (rfl : x5.toInt = _) (rfl : (0 : Int32).toInt = 0) c_2)
      exact hk62 x5 f_ring hw _ _ ls hH (lv_sub hl [0, 1, 2, 3, 4] rfl)
    · have hw := hw.2 (z_nle (rfl : x5.toInt = _) (rfl : (0 : Int32).toInt = 0) c_2)
      refine lv_aload_n hx hb dX48_takeRing_27 rfl (lv_at hl 0 rfl) ?_
      refine k_get X hH in_X48 0 rfl hc 21 (by decide) q6093 rfl dX48_takeRing_28 ?_
      refine lv_iload hx hb dX48_takeRing_31 (lv_at hl 4 rfl) ?_
      refine lv_iconst (v := 1) hx hb dX48_takeRing_33 (by decide) ?_
      refine lv_isub hx hb dX48_takeRing_34 ?_
      have e_3 := z_sub (z_m (rfl : x5.toInt = _)) (z_m (rfl : (1 : Int32).toInt = 1))
      have hq_4 := hw.1
      have hw := hw.2
      have e_5 := z_xi e_3 hq_4 (by decide)
      refine k_iald X hH 16 15 rfl rfl (z_in e_5 hq_4) dX48_takeRing_35 ?_
      have e_6 := z_ld (f := f_ring) e_5 hq_4.1
      refine lv_iload_n hx hb dX48_takeRing_36 rfl (lv_at hl 2 rfl) ?_
      refine lv_icmp_le (tgt := 62) hx hb dX48_takeRing_37 (by decide) (fun c_7 => ?_) (fun c_7 => ?_)
      · have hw := hw.1 (z_le e_6 (rfl : x3.toInt = _) c_7)
        exact hk62 x5 f_ring hw _ _ ls hH (lv_sub hl [0, 1, 2, 3, 4] rfl)
      · have hw := hw.2 (z_nle e_6 (rfl : x3.toInt = _) c_7)
        refine lv_aload_n hx hb dX48_takeRing_40 rfl (lv_at hl 0 rfl) ?_
        refine k_get X hH in_X48 0 rfl hc 21 (by decide) q6093 rfl dX48_takeRing_41 ?_
        refine lv_iload hx hb dX48_takeRing_44 (lv_at hl 4 rfl) ?_
        refine lv_aload_n hx hb dX48_takeRing_46 rfl (lv_at hl 0 rfl) ?_
        refine k_get X hH in_X48 0 rfl hc 21 (by decide) q6093 rfl dX48_takeRing_47 ?_
        refine lv_iload hx hb dX48_takeRing_50 (lv_at hl 4 rfl) ?_
        refine lv_iconst (v := 1) hx hb dX48_takeRing_52 (by decide) ?_
        refine lv_isub hx hb dX48_takeRing_53 ?_
        have e_8 := z_sub (z_m (rfl : x5.toInt = _)) (z_m (rfl : (1 : Int32).toInt = 1))
        have e_9 := z_xi e_8 hq_4 (by decide)
        refine k_iald X hH 16 15 rfl rfl (z_in e_9 hq_4) dX48_takeRing_54 ?_
        have e_10 := z_ld (f := f_ring) e_9 hq_4.1
        refine lv_topi (fun v_11 ev_11 => ?_)
        have hw := hw v_11.toInt (by rw [ev_11]; exact e_10)
        have hq_13 := hw.1
        have hw := hw.2
        obtain ⟨f_ring_12, ef_ring_12⟩ : ∃ y : Nat → Int32, y = upd f_ring x5.toNatClampNeg v_11 := ⟨_, rfl⟩
        refine k_iast X hH 16 15 rfl rfl (z_in (rfl : x5.toInt = _) hq_13) dX48_takeRing_55 ef_ring_12 (ws1 := (wX48 ci ad d f_rowTriples f_rowVersions f_rowTells f_rows f_latest f_pins f_writers f_sees f_states f_notes f_wrote f_waitsFor f_waitTriples f_waitTells f_since f_clock f_count f_holders f_queue f_queueFrom f_queueTo f_ring_12 f_ringSize f_failures f_refusals f_thrown f_best)) rfl (fun H locs hH => ?_)
        have hw := hw (zF f_ring_12) (by rw [ef_ring_12]; exact z_st (f := f_ring) (rfl : x5.toInt = _) hq_13.1 (rfl : v_11.toInt = _))
        have hq_15 := hw.1
        have hw := hw.2
        obtain ⟨x5_14, ex5_14⟩ : ∃ y : Int32, y = x5 + (-1) := ⟨_, rfl⟩
        have hw := hw x5_14.toInt (by rw [ex5_14]; exact (z_x (z_add (z_m (rfl : x5.toInt = _)) (z_m (rfl : ((-1) : Int32).toInt = (-1)))) hq_15))
        refine lv_iinc (v := x5_14) (lv' := [(5, .int x5_14), (0, .ref (ad 0)), (2, .int x2), (3, .int x3), (4, .int x4)]) hx hb dX48_takeRing_56 hl (k := 4) rfl (by rw [ex5_14]; rfl) (by decide) rfl (fun ls hl => ?_)
        refine lv_goto (tgt := 22) hx hb dX48_takeRing_59 (by decide) ?_
        exact ih x5_14 f_ring_12 hw _ _ ls hH (lv_sub hl [1, 2, 3, 4, 0] rfl)
set_option maxHeartbeats 4000000 in
theorem atX48_takeRing_62 {p : Program} {l : Launch} {e : Env} {s : State} {m : MethodId} {args : Array Value} {below : List Frame} {meth : Method} {c : Code} {dC : Nat → ClassId} {dI : Nat → Nat → Nat} {cl : List vw_C} {ci : Nat} (hc : cl[ci]? = some (RX48, TX48, 27)) {ad : Nat → Nat} {d : Nat → ClassId} {A : Nat → Prop} {post : (Int → Int) → (Int → Int) → (Int → Int) → Int → (Int → Int) → Int → Prop} {f_rowTriples : Nat → Int32} {f_rowVersions : Nat → Int32} {f_rowTells : Nat → Int32} {f_rows : Int32} {f_latest : Int32} {f_pins : Nat → Int32} {f_writers : Nat → Int32} {f_sees : Nat → Int32} {f_notes : Nat → Int32} {f_wrote : Nat → Int32} {f_waitsFor : Nat → Int32} {f_waitTriples : Nat → Int32} {f_waitTells : Nat → Int32} {f_since : Nat → Int32} {f_clock : Int32} {f_count : Int32} {f_queueFrom : Int32} {f_failures : Nat → Int32} {f_refusals : Nat → Int32} {f_thrown : Int32} {f_best : Nat → Int32} (X : kX p s m args meth c cX48_takeRing 6 RX48 none (dC, dI) cl (tX48 d)) {K10 : Int → Int → (Int → Int) → Int → Prop} {x2 : Int32} {f_states : Nat → Int32} {f_holders : Nat → Int32} {f_queue : Nat → Int32} {f_queueTo : Int32} (hk10 : ∀ (x3 : Int32) (x4 : Int32) (f_ring : Nat → Int32) (f_ringSize : Int32), K10 x3.toInt x4.toInt (zF f_ring) f_ringSize.toInt → ∀ (H : Heap) (locs : List Loc) (ls : Array Slot), kH (dC, dI) cl A s.heap H locs (wX48 ci ad d f_rowTriples f_rowVersions f_rowTells f_rows f_latest f_pins f_writers f_sees f_states f_notes f_wrote f_waitsFor f_waitTriples f_waitTells f_since f_clock f_count f_holders f_queue f_queueFrom f_queueTo f_ring f_ringSize f_failures f_refusals f_thrown f_best) → lv_has ls 6 [(0, .ref (ad 0)), (2, .int x2), (3, .int x3), (4, .int x4)] → W p l e ({ frames := 1, cells := 0, slots := 0, locals := 26 } : Room) s m args below meth c H locs 0 0 (MQ below (va_Qv (fun (u : (Nat → Int32) × (Nat → Int32) × (Nat → Int32) × Int32 × (Nat → Int32) × Int32) => post (zF (u.1)) (zF (u.2.1)) (zF (u.2.2.1)) (u.2.2.2.1).toInt (zF (u.2.2.2.2.1)) (u.2.2.2.2.2).toInt) (kB (dC, dI) cl (tX48 d) A (fun u : (Nat → Int32) × (Nat → Int32) × (Nat → Int32) × Int32 × (Nat → Int32) × Int32 => (wX48 ci ad d f_rowTriples f_rowVersions f_rowTells f_rows f_latest f_pins f_writers f_sees (u.1) f_notes f_wrote f_waitsFor f_waitTriples f_waitTells f_since f_clock f_count (u.2.1) (u.2.2.1) f_queueFrom (u.2.2.2.1) (u.2.2.2.2.1) (u.2.2.2.2.2) f_failures f_refusals f_thrown f_best))) A) args s 0 0 A) (F0 m 10 ls [])) :
    ∀ (x3 : Int32) (x4 : Int32) (x5 : Int32) (f_ring : Nat → Int32) (f_ringSize : Int32), wX48_takeRing_62 K10 x3.toInt x4.toInt x5.toInt (zF f_waitsFor) (zF f_ring) f_ringSize.toInt → ∀ (H : Heap) (locs : List Loc) (ls : Array Slot), kH (dC, dI) cl A s.heap H locs (wX48 ci ad d f_rowTriples f_rowVersions f_rowTells f_rows f_latest f_pins f_writers f_sees f_states f_notes f_wrote f_waitsFor f_waitTriples f_waitTells f_since f_clock f_count f_holders f_queue f_queueFrom f_queueTo f_ring f_ringSize f_failures f_refusals f_thrown f_best) → lv_has ls 6 [(0, .ref (ad 0)), (2, .int x2), (3, .int x3), (4, .int x4), (5, .int x5)] → W p l e ({ frames := 1, cells := 0, slots := 0, locals := 26 } : Room) s m args below meth c H locs 0 0 (MQ below (va_Qv (fun (u : (Nat → Int32) × (Nat → Int32) × (Nat → Int32) × Int32 × (Nat → Int32) × Int32) => post (zF (u.1)) (zF (u.2.1)) (zF (u.2.2.1)) (u.2.2.2.1).toInt (zF (u.2.2.2.2.1)) (u.2.2.2.2.2).toInt) (kB (dC, dI) cl (tX48 d) A (fun u : (Nat → Int32) × (Nat → Int32) × (Nat → Int32) × Int32 × (Nat → Int32) × Int32 => (wX48 ci ad d f_rowTriples f_rowVersions f_rowTells f_rows f_latest f_pins f_writers f_sees (u.1) f_notes f_wrote f_waitsFor f_waitTriples f_waitTells f_since f_clock f_count (u.2.1) (u.2.2.1) f_queueFrom (u.2.2.2.1) (u.2.2.2.2.1) (u.2.2.2.2.2) f_failures f_refusals f_thrown f_best))) A) args s 0 0 A) (F0 m 62 ls []) := by
  have hx := X.1.1
  have hb := X.1.2.1
  intro x3 x4 x5 f_ring f_ringSize hw H locs ls hH hl
  unfold wX48_takeRing_62 at hw
  refine lv_aload_n hx hb dX48_takeRing_62 rfl (lv_at hl 0 rfl) ?_
  refine k_get X hH in_X48 0 rfl hc 21 (by decide) q6093 rfl dX48_takeRing_63 ?_
  refine lv_iload hx hb dX48_takeRing_66 (lv_at hl 4 rfl) ?_
  refine lv_iload_n hx hb dX48_takeRing_68 rfl (lv_at hl 2 rfl) ?_
  have hq_19 := hw.1
  have hw := hw.2
  obtain ⟨f_ring_18, ef_ring_18⟩ : ∃ y : Nat → Int32, y = upd f_ring x5.toNatClampNeg x3 := ⟨_, rfl⟩
  refine k_iast X hH 16 15 rfl rfl (z_in (rfl : x5.toInt = _) hq_19) dX48_takeRing_69 ef_ring_18 (ws1 := (wX48 ci ad d f_rowTriples f_rowVersions f_rowTells f_rows f_latest f_pins f_writers f_sees f_states f_notes f_wrote f_waitsFor f_waitTriples f_waitTells f_since f_clock f_count f_holders f_queue f_queueFrom f_queueTo f_ring_18 f_ringSize f_failures f_refusals f_thrown f_best)) rfl (fun H locs hH => ?_)
  have hw := hw (zF f_ring_18) (by rw [ef_ring_18]; exact z_st (f := f_ring) (rfl : x5.toInt = _) hq_19.1 (rfl : x3.toInt = _))
  refine lv_aload_n hx hb dX48_takeRing_70 rfl (lv_at hl 0 rfl) ?_
  refine lv_dup hx hb dX48_takeRing_71 rfl ?_
  refine k_get X hH in_X48 0 rfl hc 22 (by decide) q6094 rfl dX48_takeRing_72 ?_
  refine lv_iconst (v := 1) hx hb dX48_takeRing_75 (by decide) ?_
  refine lv_iadd hx hb dX48_takeRing_76 ?_
  have e_20 := z_add (z_m (rfl : f_ringSize.toInt = _)) (z_m (rfl : (1 : Int32).toInt = 1))
  have hq_21 := hw.1
  have hw := hw.2
  have e_22 := z_x e_20 hq_21
  refine lv_topi (fun f_ringSize_23 ef_ringSize_23 => ?_)
  have hw := hw f_ringSize_23.toInt (by rw [ef_ringSize_23]; exact e_22)
  refine k_put X hH in_X48 tyX48_ok nmX48 0 rfl hc 22 (by decide) q6094 rfl (ty := .int) rfl rfl rfl (Nat.le_of_ble_eq_true rfl) dX48_takeRing_77 (ws1 := (wX48 ci ad d f_rowTriples f_rowVersions f_rowTells f_rows f_latest f_pins f_writers f_sees f_states f_notes f_wrote f_waitsFor f_waitTriples f_waitTells f_since f_clock f_count f_holders f_queue f_queueFrom f_queueTo f_ring_18 f_ringSize_23 f_failures f_refusals f_thrown f_best)) rfl (fun H locs hH => ?_)
  refine lv_aload_n hx hb dX48_takeRing_80 rfl (lv_at hl 0 rfl) ?_
  refine k_get X hH in_X48 0 rfl hc 11 (by decide) q6083 rfl dX48_takeRing_81 ?_
  refine lv_iload_n hx hb dX48_takeRing_84 rfl (lv_at hl 2 rfl) ?_
  have hq_24 := hw.1
  have hw := hw.2
  refine k_iald X hH 10 9 rfl rfl (z_in (rfl : x3.toInt = _) hq_24) dX48_takeRing_85 ?_
  have e_25 := z_ld (f := f_waitsFor) (rfl : x3.toInt = _) hq_24.1
  refine lv_topi (fun x3_26 ex3_26 => ?_)
  have hw := hw x3_26.toInt (by rw [ex3_26]; exact e_25)
  refine lv_istore_n (lv' := [(3, .int x3_26), (0, .ref (ad 0)), (2, .int x2), (4, .int x4), (5, .int x5)]) hx hb dX48_takeRing_86 rfl hl (by decide) rfl (fun ls hl => ?_)
  have hq_28 := hw.1
  have hw := hw.2
  obtain ⟨x4_27, ex4_27⟩ : ∃ y : Int32, y = x4 + 1 := ⟨_, rfl⟩
  have hw := hw x4_27.toInt (by rw [ex4_27]; exact (z_x (z_add (z_m (rfl : x4.toInt = _)) (z_m (rfl : (1 : Int32).toInt = 1))) hq_28))
  refine lv_iinc (v := x4_27) (lv' := [(4, .int x4_27), (3, .int x3_26), (0, .ref (ad 0)), (2, .int x2), (5, .int x5)]) hx hb dX48_takeRing_87 hl (k := 3) rfl (by rw [ex4_27]; rfl) (by decide) rfl (fun ls hl => ?_)
  refine lv_goto (tgt := 10) hx hb dX48_takeRing_90 (by decide) ?_
  exact hk10 x3_26 x4_27 f_ring_18 f_ringSize_23 hw _ _ ls hH (lv_sub hl [2, 3, 1, 0] rfl)
set_option maxHeartbeats 4000000 in
theorem atX48_takeRing_10 {p : Program} {l : Launch} {e : Env} {s : State} {m : MethodId} {args : Array Value} {below : List Frame} {meth : Method} {c : Code} {dC : Nat → ClassId} {dI : Nat → Nat → Nat} {cl : List vw_C} {ci : Nat} (hc : cl[ci]? = some (RX48, TX48, 27)) {ad : Nat → Nat} {d : Nat → ClassId} {A : Nat → Prop} {post : (Int → Int) → (Int → Int) → (Int → Int) → Int → (Int → Int) → Int → Prop} {f_rowTriples : Nat → Int32} {f_rowVersions : Nat → Int32} {f_rowTells : Nat → Int32} {f_rows : Int32} {f_latest : Int32} {f_pins : Nat → Int32} {f_writers : Nat → Int32} {f_sees : Nat → Int32} {f_notes : Nat → Int32} {f_wrote : Nat → Int32} {f_waitsFor : Nat → Int32} {f_waitTriples : Nat → Int32} {f_waitTells : Nat → Int32} {f_since : Nat → Int32} {f_clock : Int32} {f_count : Int32} {f_queueFrom : Int32} {f_failures : Nat → Int32} {f_refusals : Nat → Int32} {f_thrown : Int32} {f_best : Nat → Int32} (X : kX p s m args meth c cX48_takeRing 6 RX48 none (dC, dI) cl (tX48 d)) {K93 : (Int → Int) → Int → Prop} {x2 : Int32} {f_states : Nat → Int32} {f_holders : Nat → Int32} {f_queue : Nat → Int32} {f_queueTo : Int32} (hk93 : ∀ (f_ring : Nat → Int32) (f_ringSize : Int32), K93 (zF f_ring) f_ringSize.toInt → ∀ (H : Heap) (locs : List Loc) (ls : Array Slot), kH (dC, dI) cl A s.heap H locs (wX48 ci ad d f_rowTriples f_rowVersions f_rowTells f_rows f_latest f_pins f_writers f_sees f_states f_notes f_wrote f_waitsFor f_waitTriples f_waitTells f_since f_clock f_count f_holders f_queue f_queueFrom f_queueTo f_ring f_ringSize f_failures f_refusals f_thrown f_best) → lv_has ls 6 [(0, .ref (ad 0)), (2, .int x2)] → W p l e ({ frames := 1, cells := 0, slots := 0, locals := 26 } : Room) s m args below meth c H locs 0 0 (MQ below (va_Qv (fun (u : (Nat → Int32) × (Nat → Int32) × (Nat → Int32) × Int32 × (Nat → Int32) × Int32) => post (zF (u.1)) (zF (u.2.1)) (zF (u.2.2.1)) (u.2.2.2.1).toInt (zF (u.2.2.2.2.1)) (u.2.2.2.2.2).toInt) (kB (dC, dI) cl (tX48 d) A (fun u : (Nat → Int32) × (Nat → Int32) × (Nat → Int32) × Int32 × (Nat → Int32) × Int32 => (wX48 ci ad d f_rowTriples f_rowVersions f_rowTells f_rows f_latest f_pins f_writers f_sees (u.1) f_notes f_wrote f_waitsFor f_waitTriples f_waitTells f_since f_clock f_count (u.2.1) (u.2.2.1) f_queueFrom (u.2.2.2.1) (u.2.2.2.2.1) (u.2.2.2.2.2) f_failures f_refusals f_thrown f_best))) A) args s 0 0 A) (F0 m 93 ls [])) :
    ∀ (nn : Nat) (x3 : Int32) (x4 : Int32) (f_ring : Nat → Int32) (f_ringSize : Int32), wX48_takeRing_10 K93 x2.toInt (zF f_waitsFor) nn x3.toInt x4.toInt (zF f_ring) f_ringSize.toInt → ∀ (H : Heap) (locs : List Loc) (ls : Array Slot), kH (dC, dI) cl A s.heap H locs (wX48 ci ad d f_rowTriples f_rowVersions f_rowTells f_rows f_latest f_pins f_writers f_sees f_states f_notes f_wrote f_waitsFor f_waitTriples f_waitTells f_since f_clock f_count f_holders f_queue f_queueFrom f_queueTo f_ring f_ringSize f_failures f_refusals f_thrown f_best) → lv_has ls 6 [(0, .ref (ad 0)), (2, .int x2), (3, .int x3), (4, .int x4)] → W p l e ({ frames := 1, cells := 0, slots := 0, locals := 26 } : Room) s m args below meth c H locs 0 0 (MQ below (va_Qv (fun (u : (Nat → Int32) × (Nat → Int32) × (Nat → Int32) × Int32 × (Nat → Int32) × Int32) => post (zF (u.1)) (zF (u.2.1)) (zF (u.2.2.1)) (u.2.2.2.1).toInt (zF (u.2.2.2.2.1)) (u.2.2.2.2.2).toInt) (kB (dC, dI) cl (tX48 d) A (fun u : (Nat → Int32) × (Nat → Int32) × (Nat → Int32) × Int32 × (Nat → Int32) × Int32 => (wX48 ci ad d f_rowTriples f_rowVersions f_rowTells f_rows f_latest f_pins f_writers f_sees (u.1) f_notes f_wrote f_waitsFor f_waitTriples f_waitTells f_since f_clock f_count (u.2.1) (u.2.2.1) f_queueFrom (u.2.2.2.1) (u.2.2.2.2.1) (u.2.2.2.2.2) f_failures f_refusals f_thrown f_best))) A) args s 0 0 A) (F0 m 10 ls []) := by
  have hx := X.1.1
  have hb := X.1.2.1
  intro nn
  induction nn with
  | zero =>
    intro x3 x4 f_ring f_ringSize hw
    exact False.elim hw
  | succ n ih =>
    intro x3 x4 f_ring f_ringSize hw H locs ls hH hl
    rw [wX48_takeRing_10] at hw
    refine lv_iload hx hb dX48_takeRing_10 (lv_at hl 3 rfl) ?_
    refine lv_iload_n hx hb dX48_takeRing_12 rfl (lv_at hl 1 rfl) ?_
    refine lv_icmp_ge (tgt := 93) hx hb dX48_takeRing_13 (by decide) (fun c_1 => ?_) (fun c_1 => ?_)
    · have hw := hw.1 (z_le (rfl : x2.toInt = _) (rfl : x4.toInt = _) c_1)
      exact hk93 f_ring f_ringSize hw _ _ ls hH (lv_sub hl [0, 1] rfl)
    · have hw := hw.2 (z_nle (rfl : x2.toInt = _) (rfl : x4.toInt = _) c_1)
      refine lv_aload_n hx hb dX48_takeRing_16 rfl (lv_at hl 0 rfl) ?_
      refine k_get X hH in_X48 0 rfl hc 22 (by decide) q6094 rfl dX48_takeRing_17 ?_
      refine lv_istore (lv' := [(5, .int f_ringSize), (0, .ref (ad 0)), (2, .int x2), (3, .int x3), (4, .int x4)]) hx hb dX48_takeRing_20 hl (by decide) rfl (fun ls hl => ?_)
      obtain ⟨fu, hw⟩ := hw
      refine atX48_takeRing_22 hc X ?_ fu f_ringSize f_ring hw _ _ ls hH (lv_sub hl [1, 2, 3, 4, 0] rfl)
      · intro x5_16 f_ring_17 hw H locs ls hH hl
        exact atX48_takeRing_62 hc X (fun x3 x4 f_ring f_ringSize hw H locs ls hH hl => ih x3 x4 f_ring f_ringSize hw _ _ ls hH (lv_sub hl [0, 1, 2, 3] rfl)) x3 x4 x5_16 f_ring_17 f_ringSize hw _ _ ls hH (lv_sub hl [0, 1, 2, 3, 4] rfl)
set_option maxHeartbeats 4000000 in
theorem walkX48_takeRing {l : Launch} {dC : Nat → ClassId} {dI : Nat → Nat → Nat} {cl : List vw_C} {ci : Nat} (hc : cl[ci]? = some (RX48, TX48, 27)) {ad : Nat → Nat} {d : Nat → ClassId} {sz : Nat} {f_rowTriples : Nat → Int32} {f_rowVersions : Nat → Int32} {f_rowTells : Nat → Int32} {f_rows : Int32} {f_latest : Int32} {f_pins : Nat → Int32} {f_writers : Nat → Int32} {f_sees : Nat → Int32} {f_states : Nat → Int32} {f_notes : Nat → Int32} {f_wrote : Nat → Int32} {f_waitsFor : Nat → Int32} {f_waitTriples : Nat → Int32} {f_waitTells : Nat → Int32} {f_since : Nat → Int32} {f_clock : Int32} {f_count : Int32} {f_holders : Nat → Int32} {f_queue : Nat → Int32} {f_queueFrom : Int32} {f_queueTo : Int32} {f_ring : Nat → Int32} {f_ringSize : Int32} {f_failures : Nat → Int32} {f_refusals : Nat → Int32} {f_thrown : Int32} {f_best : Nat → Int32} {x1 : Int32} {x2 : Int32} {post : (Int → Int) → (Int → Int) → (Int → Int) → Int → (Int → Int) → Int → Prop} (hw : wpX48_takeRing post (zF f_states) (zF f_waitsFor) (zF f_since) f_count.toInt (zF f_holders) (zF f_queue) f_queueTo.toInt (zF f_ring) x1.toInt x2.toInt) :
    Met l yX48_takeRing (ws_ yX48_takeRing cX48_takeRing 6 none) ({ frames := 1, cells := 0, slots := 0, locals := 26 } : Room) (kPc (dC, dI) cl (tX48 d) [.ref (ad 0), .int x1, .int x2] sz (wX48 ci ad d f_rowTriples f_rowVersions f_rowTells f_rows f_latest f_pins f_writers f_sees f_states f_notes f_wrote f_waitsFor f_waitTriples f_waitTells f_since f_clock f_count f_holders f_queue f_queueFrom f_queueTo f_ring f_ringSize f_failures f_refusals f_thrown f_best)) (va_Qv (fun (u : (Nat → Int32) × (Nat → Int32) × (Nat → Int32) × Int32 × (Nat → Int32) × Int32) => post (zF (u.1)) (zF (u.2.1)) (zF (u.2.2.1)) (u.2.2.2.1).toInt (zF (u.2.2.2.2.1)) (u.2.2.2.2.2).toInt) (kB (dC, dI) cl (tX48 d) (va_A (wX48 ci ad d f_rowTriples f_rowVersions f_rowTells f_rows f_latest f_pins f_writers f_sees f_states f_notes f_wrote f_waitsFor f_waitTriples f_waitTells f_since f_clock f_count f_holders f_queue f_queueFrom f_queueTo f_ring f_ringSize f_failures f_refusals f_thrown f_best) sz) (fun u : (Nat → Int32) × (Nat → Int32) × (Nat → Int32) × Int32 × (Nat → Int32) × Int32 => (wX48 ci ad d f_rowTriples f_rowVersions f_rowTells f_rows f_latest f_pins f_writers f_sees (u.1) f_notes f_wrote f_waitsFor f_waitTriples f_waitTells f_since f_clock f_count (u.2.1) (u.2.2.1) f_queueFrom (u.2.2.2.1) (u.2.2.2.2.1) (u.2.2.2.2.2) f_failures f_refusals f_thrown f_best))) (va_A (wX48 ci ad d f_rowTriples f_rowVersions f_rowTells f_rows f_latest f_pins f_writers f_sees f_states f_notes f_wrote f_waitsFor f_waitTriples f_waitTells f_since f_clock f_count f_holders f_queue f_queueFrom f_queueTo f_ring f_ringSize f_failures f_refusals f_thrown f_best) sz)) 0 0 (va_A (wX48 ci ad d f_rowTriples f_rowVersions f_rowTells f_rows f_latest f_pins f_writers f_sees f_states f_notes f_wrote f_waitsFor f_waitTriples f_waitTells f_since f_clock f_count f_holders f_queue f_queueFrom f_queueTo f_ring f_ringSize f_failures f_refusals f_thrown f_best) sz) := by
  refine k_enter (by decide) (Nat.le_of_ble_eq_true rfl) ?_
  intro p e s m below meth c ls X hsz hH hl
  subst hsz
  generalize va_A (wX48 ci ad d f_rowTriples f_rowVersions f_rowTells f_rows f_latest f_pins f_writers f_sees f_states f_notes f_wrote f_waitsFor f_waitTriples f_waitTells f_since f_clock f_count f_holders f_queue f_queueFrom f_queueTo f_ring f_ringSize f_failures f_refusals f_thrown f_best) s.heap.size = A at hH ⊢
  have hx := X.1.1
  have hb := X.1.2.1
  have hl : lv_has ls 6 [(0, .ref (ad 0)), (1, .int x1), (2, .int x2)] := hl
  unfold wpX48_takeRing at hw
  refine lv_aload_n hx hb dX48_takeRing_0 rfl (lv_at hl 0 rfl) ?_
  refine lv_iconst (v := 0) hx hb dX48_takeRing_1 (by decide) ?_
  refine k_put X hH in_X48 tyX48_ok nmX48 0 rfl hc 22 (by decide) q6094 rfl (ty := .int) rfl rfl rfl (Nat.le_of_ble_eq_true rfl) dX48_takeRing_2 (ws1 := (wX48 ci ad d f_rowTriples f_rowVersions f_rowTells f_rows f_latest f_pins f_writers f_sees f_states f_notes f_wrote f_waitsFor f_waitTriples f_waitTells f_since f_clock f_count f_holders f_queue f_queueFrom f_queueTo f_ring 0 f_failures f_refusals f_thrown f_best)) rfl (fun H locs hH => ?_)
  refine lv_iload_n hx hb dX48_takeRing_5 rfl (lv_at hl 1 rfl) ?_
  refine lv_istore_n (lv' := [(3, .int x1), (0, .ref (ad 0)), (1, .int x1), (2, .int x2)]) hx hb dX48_takeRing_6 rfl hl (by decide) rfl (fun ls hl => ?_)
  refine lv_iconst (v := 0) hx hb dX48_takeRing_7 (by decide) ?_
  refine lv_istore (lv' := [(4, .int 0), (3, .int x1), (0, .ref (ad 0)), (1, .int x1), (2, .int x2)]) hx hb dX48_takeRing_8 hl (by decide) rfl (fun ls hl => ?_)
  obtain ⟨fu, hw⟩ := hw
  refine atX48_takeRing_10 hc X ?_ fu x1 0 f_ring 0 hw _ _ ls hH (lv_sub hl [2, 4, 1, 0] rfl)
  · intro f_ring_29 f_ringSize_30 hw H locs ls hH hl
    refine lv_aload_n hx hb dX48_takeRing_93 rfl (lv_at hl 0 rfl) ?_
    refine lv_aload_n hx hb dX48_takeRing_94 rfl (lv_at hl 0 rfl) ?_
    refine k_get X hH in_X48 0 rfl hc 21 (by decide) q6093 rfl dX48_takeRing_95 ?_
    refine lv_iload_n hx hb dX48_takeRing_98 rfl (lv_at hl 1 rfl) ?_
    refine lv_iconst (v := 1) hx hb dX48_takeRing_99 (by decide) ?_
    refine lv_isub hx hb dX48_takeRing_100 ?_
    have e_31 := z_sub (z_m (rfl : x2.toInt = _)) (z_m (rfl : (1 : Int32).toInt = 1))
    have hq_32 := hw.1
    have hw := hw.2
    have e_33 := z_xi e_31 hq_32 (by decide)
    refine k_iald X hH 16 15 rfl rfl (z_in e_33 hq_32) dX48_takeRing_101 ?_
    have e_34 := z_ld (f := f_ring_29) e_33 hq_32.1
    refine lv_iconst (v := 4) hx hb dX48_takeRing_102 (by decide) ?_
    refine k_v0 hH (k_runV (As := [.int (f_ring_29 (x2 - 1).toNatClampNeg), .int 4]) (rest := []) X hH.1 hH.2.1 X.2.2.2 (walkX48_end hc (x1 := (f_ring_29 (x2 - 1).toNatClampNeg)) (x2 := 4) (f_rowTriples := f_rowTriples) (f_rowVersions := f_rowVersions) (f_rowTells := f_rowTells) (f_rows := f_rows) (f_latest := f_latest) (f_pins := f_pins) (f_writers := f_writers) (f_sees := f_sees) (f_states := f_states) (f_notes := f_notes) (f_wrote := f_wrote) (f_waitsFor := f_waitsFor) (f_waitTriples := f_waitTriples) (f_waitTells := f_waitTells) (f_since := f_since) (f_clock := f_clock) (f_count := f_count) (f_holders := f_holders) (f_queue := f_queue) (f_queueFrom := f_queueFrom) (f_queueTo := f_queueTo) (f_ring := f_ring_29) (f_ringSize := f_ringSize_30) (f_failures := f_failures) (f_refusals := f_refusals) (f_thrown := f_thrown) (f_best := f_best) (by rw [show (f_ring_29 (x2 - 1).toNatClampNeg : Int32).toInt = _ from e_34]; exact hw)) (cwV 2 X.1.2.2.2.2 gX48_141 rfl rfl rfl hX48_end ⟨Nat.le_of_ble_eq_true rfl, Nat.le_of_ble_eq_true rfl⟩) hc (q0 := 0) rfl rfl hl.1 rfl (Nat.le_of_ble_eq_true rfl) dX48_takeRing_103 ⟨Nat.le_refl 0, Nat.le_refl 0⟩) (fun u H locs hw hH => ?_)
    obtain ⟨f_states_35, f_holders_36, f_queue_37, f_queueTo_38⟩ := u
    have hH : kH (dC, dI) cl A s.heap H locs (wX48 ci ad d f_rowTriples f_rowVersions f_rowTells f_rows f_latest f_pins f_writers f_sees f_states_35 f_notes f_wrote f_waitsFor f_waitTriples f_waitTells f_since f_clock f_count f_holders_36 f_queue_37 f_queueFrom f_queueTo_38 f_ring_29 f_ringSize_30 f_failures f_refusals f_thrown f_best) := hH
    exact k_vret X hH (f_states_35, f_holders_36, f_queue_37, f_queueTo_38, f_ring_29, f_ringSize_30) hw rfl dX48_takeRing_106
set_option maxHeartbeats 4000000 in
theorem atX48_lookForRing_4 {p : Program} {l : Launch} {e : Env} {s : State} {m : MethodId} {args : Array Value} {below : List Frame} {meth : Method} {c : Code} {dC : Nat → ClassId} {dI : Nat → Nat → Nat} {cl : List vw_C} {ci : Nat} (hc : cl[ci]? = some (RX48, TX48, 27)) {ad : Nat → Nat} {d : Nat → ClassId} {A : Nat → Prop} {post : (Int → Int) → (Int → Int) → (Int → Int) → Int → (Int → Int) → Int → Prop} {f_rowTriples : Nat → Int32} {f_rowVersions : Nat → Int32} {f_rowTells : Nat → Int32} {f_rows : Int32} {f_latest : Int32} {f_pins : Nat → Int32} {f_writers : Nat → Int32} {f_sees : Nat → Int32} {f_notes : Nat → Int32} {f_wrote : Nat → Int32} {f_waitsFor : Nat → Int32} {f_waitTriples : Nat → Int32} {f_waitTells : Nat → Int32} {f_since : Nat → Int32} {f_clock : Int32} {f_count : Int32} {f_queueFrom : Int32} {f_failures : Nat → Int32} {f_refusals : Nat → Int32} {f_thrown : Int32} {f_best : Nat → Int32} (X : kX p s m args meth c cX48_lookForRing 4 RX48 none (dC, dI) cl (tX48 d)) {K35 : Int → Prop} {K42 : Prop} {x1 : Int32} {f_states : Nat → Int32} {f_holders : Nat → Int32} {f_queue : Nat → Int32} {f_queueTo : Int32} {f_ring : Nat → Int32} {f_ringSize : Int32} (hk35 : ∀ (x2 : Int32), K35 x2.toInt → ∀ (H : Heap) (locs : List Loc) (ls : Array Slot), kH (dC, dI) cl A s.heap H locs (wX48 ci ad d f_rowTriples f_rowVersions f_rowTells f_rows f_latest f_pins f_writers f_sees f_states f_notes f_wrote f_waitsFor f_waitTriples f_waitTells f_since f_clock f_count f_holders f_queue f_queueFrom f_queueTo f_ring f_ringSize f_failures f_refusals f_thrown f_best) → lv_has ls 4 [(0, .ref (ad 0)), (1, .int x1), (2, .int x2)] → W p l e ({ frames := 2, cells := 0, slots := 0, locals := 51 } : Room) s m args below meth c H locs 0 0 (MQ below (va_Qv (fun (u : (Nat → Int32) × (Nat → Int32) × (Nat → Int32) × Int32 × (Nat → Int32) × Int32) => post (zF (u.1)) (zF (u.2.1)) (zF (u.2.2.1)) (u.2.2.2.1).toInt (zF (u.2.2.2.2.1)) (u.2.2.2.2.2).toInt) (kB (dC, dI) cl (tX48 d) A (fun u : (Nat → Int32) × (Nat → Int32) × (Nat → Int32) × Int32 × (Nat → Int32) × Int32 => (wX48 ci ad d f_rowTriples f_rowVersions f_rowTells f_rows f_latest f_pins f_writers f_sees (u.1) f_notes f_wrote f_waitsFor f_waitTriples f_waitTells f_since f_clock f_count (u.2.1) (u.2.2.1) f_queueFrom (u.2.2.2.1) (u.2.2.2.2.1) (u.2.2.2.2.2) f_failures f_refusals f_thrown f_best))) A) args s 0 0 A) (F0 m 35 ls [])) (hk42 : K42  → ∀ (H : Heap) (locs : List Loc) (ls : Array Slot), kH (dC, dI) cl A s.heap H locs (wX48 ci ad d f_rowTriples f_rowVersions f_rowTells f_rows f_latest f_pins f_writers f_sees f_states f_notes f_wrote f_waitsFor f_waitTriples f_waitTells f_since f_clock f_count f_holders f_queue f_queueFrom f_queueTo f_ring f_ringSize f_failures f_refusals f_thrown f_best) → lv_has ls 4 [] → W p l e ({ frames := 2, cells := 0, slots := 0, locals := 51 } : Room) s m args below meth c H locs 0 0 (MQ below (va_Qv (fun (u : (Nat → Int32) × (Nat → Int32) × (Nat → Int32) × Int32 × (Nat → Int32) × Int32) => post (zF (u.1)) (zF (u.2.1)) (zF (u.2.2.1)) (u.2.2.2.1).toInt (zF (u.2.2.2.2.1)) (u.2.2.2.2.2).toInt) (kB (dC, dI) cl (tX48 d) A (fun u : (Nat → Int32) × (Nat → Int32) × (Nat → Int32) × Int32 × (Nat → Int32) × Int32 => (wX48 ci ad d f_rowTriples f_rowVersions f_rowTells f_rows f_latest f_pins f_writers f_sees (u.1) f_notes f_wrote f_waitsFor f_waitTriples f_waitTells f_since f_clock f_count (u.2.1) (u.2.2.1) f_queueFrom (u.2.2.2.1) (u.2.2.2.2.1) (u.2.2.2.2.2) f_failures f_refusals f_thrown f_best))) A) args s 0 0 A) (F0 m 42 ls [])) :
    ∀ (nn : Nat) (x2 : Int32) (x3 : Int32), wX48_lookForRing_4 K35 K42 x1.toInt (zF f_states) (zF f_waitsFor) nn x2.toInt x3.toInt → ∀ (H : Heap) (locs : List Loc) (ls : Array Slot), kH (dC, dI) cl A s.heap H locs (wX48 ci ad d f_rowTriples f_rowVersions f_rowTells f_rows f_latest f_pins f_writers f_sees f_states f_notes f_wrote f_waitsFor f_waitTriples f_waitTells f_since f_clock f_count f_holders f_queue f_queueFrom f_queueTo f_ring f_ringSize f_failures f_refusals f_thrown f_best) → lv_has ls 4 [(0, .ref (ad 0)), (1, .int x1), (2, .int x2), (3, .int x3)] → W p l e ({ frames := 2, cells := 0, slots := 0, locals := 51 } : Room) s m args below meth c H locs 0 0 (MQ below (va_Qv (fun (u : (Nat → Int32) × (Nat → Int32) × (Nat → Int32) × Int32 × (Nat → Int32) × Int32) => post (zF (u.1)) (zF (u.2.1)) (zF (u.2.2.1)) (u.2.2.2.1).toInt (zF (u.2.2.2.2.1)) (u.2.2.2.2.2).toInt) (kB (dC, dI) cl (tX48 d) A (fun u : (Nat → Int32) × (Nat → Int32) × (Nat → Int32) × Int32 × (Nat → Int32) × Int32 => (wX48 ci ad d f_rowTriples f_rowVersions f_rowTells f_rows f_latest f_pins f_writers f_sees (u.1) f_notes f_wrote f_waitsFor f_waitTriples f_waitTells f_since f_clock f_count (u.2.1) (u.2.2.1) f_queueFrom (u.2.2.2.1) (u.2.2.2.2.1) (u.2.2.2.2.2) f_failures f_refusals f_thrown f_best))) A) args s 0 0 A) (F0 m 4 ls []) := by
  have hx := X.1.1
  have hb := X.1.2.1
  intro nn
  induction nn with
  | zero =>
    intro x2 x3 hw
    exact False.elim hw
  | succ n ih =>
    intro x2 x3 hw H locs ls hH hl
    rw [wX48_lookForRing_4] at hw
    refine lv_aload_n hx hb dX48_lookForRing_4 rfl (lv_at hl 0 rfl) ?_
    refine k_get X hH in_X48 0 rfl hc 8 (by decide) q6080 rfl dX48_lookForRing_5 ?_
    refine lv_iload_n hx hb dX48_lookForRing_8 rfl (lv_at hl 3 rfl) ?_
    have hq_1 := hw.1
    have hw := hw.2
    refine k_iald X hH 7 6 rfl rfl (z_in (rfl : x3.toInt = _) hq_1) dX48_lookForRing_9 ?_
    have e_2 := z_ld (f := f_states) (rfl : x3.toInt = _) hq_1.1
    refine lv_iconst (v := 1) hx hb dX48_lookForRing_10 (by decide) ?_
    refine lv_icmp_ne (tgt := 42) hx hb dX48_lookForRing_11 (by decide) (fun c_3 => ?_) (fun c_3 => ?_)
    · have hw := hw.2 (z_ne e_2 (rfl : (1 : Int32).toInt = 1) c_3)
      exact hk42  hw _ _ ls hH (lv_sub hl [] rfl)
    · have hw := hw.1 (z_eq e_2 (rfl : (1 : Int32).toInt = 1) c_3)
      refine lv_iload_n hx hb dX48_lookForRing_14 rfl (lv_at hl 2 rfl) ?_
      refine lv_bipush (v := 60) hx hb dX48_lookForRing_15 (by decide) ?_
      refine lv_icmp_ge (tgt := 42) hx hb dX48_lookForRing_17 (by decide) (fun c_4 => ?_) (fun c_4 => ?_)
      · have hw := hw.1 (z_le (rfl : (60 : Int32).toInt = 60) (rfl : x2.toInt = _) c_4)
        exact hk42  hw _ _ ls hH (lv_sub hl [] rfl)
      · have hw := hw.2 (z_nle (rfl : (60 : Int32).toInt = 60) (rfl : x2.toInt = _) c_4)
        refine lv_aload_n hx hb dX48_lookForRing_20 rfl (lv_at hl 0 rfl) ?_
        refine k_get X hH in_X48 0 rfl hc 11 (by decide) q6083 rfl dX48_lookForRing_21 ?_
        refine lv_iload_n hx hb dX48_lookForRing_24 rfl (lv_at hl 3 rfl) ?_
        refine k_iald X hH 10 9 rfl rfl (z_in (rfl : x3.toInt = _) hq_1) dX48_lookForRing_25 ?_
        have e_5 := z_ld (f := f_waitsFor) (rfl : x3.toInt = _) hq_1.1
        refine lv_topi (fun x3_6 ex3_6 => ?_)
        have hw := hw x3_6.toInt (by rw [ex3_6]; exact e_5)
        refine lv_istore_n (lv' := [(3, .int x3_6), (0, .ref (ad 0)), (1, .int x1), (2, .int x2)]) hx hb dX48_lookForRing_26 rfl hl (by decide) rfl (fun ls hl => ?_)
        have hq_8 := hw.1
        have hw := hw.2
        obtain ⟨x2_7, ex2_7⟩ : ∃ y : Int32, y = x2 + 1 := ⟨_, rfl⟩
        have hw := hw x2_7.toInt (by rw [ex2_7]; exact (z_x (z_add (z_m (rfl : x2.toInt = _)) (z_m (rfl : (1 : Int32).toInt = 1))) hq_8))
        refine lv_iinc (v := x2_7) (lv' := [(2, .int x2_7), (3, .int x3_6), (0, .ref (ad 0)), (1, .int x1)]) hx hb dX48_lookForRing_27 hl (k := 3) rfl (by rw [ex2_7]; rfl) (by decide) rfl (fun ls hl => ?_)
        refine lv_iload_n hx hb dX48_lookForRing_30 rfl (lv_at hl 1 rfl) ?_
        refine lv_iload_n hx hb dX48_lookForRing_31 rfl (lv_at hl 3 rfl) ?_
        refine lv_icmp_ne (tgt := 4) hx hb dX48_lookForRing_32 (by decide) (fun c_9 => ?_) (fun c_9 => ?_)
        · have hw := hw.2 (z_ne (rfl : x3_6.toInt = _) (rfl : x1.toInt = _) c_9)
          exact ih x2_7 x3_6 hw _ _ ls hH (lv_sub hl [2, 3, 0, 1] rfl)
        · have hw := hw.1 (z_eq (rfl : x3_6.toInt = _) (rfl : x1.toInt = _) c_9)
          exact hk35 x2_7 hw _ _ ls hH (lv_sub hl [2, 3, 0] rfl)
set_option maxHeartbeats 4000000 in
theorem walkX48_lookForRing {l : Launch} {dC : Nat → ClassId} {dI : Nat → Nat → Nat} {cl : List vw_C} {ci : Nat} (hc : cl[ci]? = some (RX48, TX48, 27)) {ad : Nat → Nat} {d : Nat → ClassId} {sz : Nat} {f_rowTriples : Nat → Int32} {f_rowVersions : Nat → Int32} {f_rowTells : Nat → Int32} {f_rows : Int32} {f_latest : Int32} {f_pins : Nat → Int32} {f_writers : Nat → Int32} {f_sees : Nat → Int32} {f_states : Nat → Int32} {f_notes : Nat → Int32} {f_wrote : Nat → Int32} {f_waitsFor : Nat → Int32} {f_waitTriples : Nat → Int32} {f_waitTells : Nat → Int32} {f_since : Nat → Int32} {f_clock : Int32} {f_count : Int32} {f_holders : Nat → Int32} {f_queue : Nat → Int32} {f_queueFrom : Int32} {f_queueTo : Int32} {f_ring : Nat → Int32} {f_ringSize : Int32} {f_failures : Nat → Int32} {f_refusals : Nat → Int32} {f_thrown : Int32} {f_best : Nat → Int32} {x1 : Int32} {post : (Int → Int) → (Int → Int) → (Int → Int) → Int → (Int → Int) → Int → Prop} (hw : wpX48_lookForRing post (zF f_states) (zF f_waitsFor) (zF f_since) f_count.toInt (zF f_holders) (zF f_queue) f_queueTo.toInt (zF f_ring) f_ringSize.toInt x1.toInt) :
    Met l yX48_lookForRing (ws_ yX48_lookForRing cX48_lookForRing 4 none) ({ frames := 2, cells := 0, slots := 0, locals := 51 } : Room) (kPc (dC, dI) cl (tX48 d) [.ref (ad 0), .int x1] sz (wX48 ci ad d f_rowTriples f_rowVersions f_rowTells f_rows f_latest f_pins f_writers f_sees f_states f_notes f_wrote f_waitsFor f_waitTriples f_waitTells f_since f_clock f_count f_holders f_queue f_queueFrom f_queueTo f_ring f_ringSize f_failures f_refusals f_thrown f_best)) (va_Qv (fun (u : (Nat → Int32) × (Nat → Int32) × (Nat → Int32) × Int32 × (Nat → Int32) × Int32) => post (zF (u.1)) (zF (u.2.1)) (zF (u.2.2.1)) (u.2.2.2.1).toInt (zF (u.2.2.2.2.1)) (u.2.2.2.2.2).toInt) (kB (dC, dI) cl (tX48 d) (va_A (wX48 ci ad d f_rowTriples f_rowVersions f_rowTells f_rows f_latest f_pins f_writers f_sees f_states f_notes f_wrote f_waitsFor f_waitTriples f_waitTells f_since f_clock f_count f_holders f_queue f_queueFrom f_queueTo f_ring f_ringSize f_failures f_refusals f_thrown f_best) sz) (fun u : (Nat → Int32) × (Nat → Int32) × (Nat → Int32) × Int32 × (Nat → Int32) × Int32 => (wX48 ci ad d f_rowTriples f_rowVersions f_rowTells f_rows f_latest f_pins f_writers f_sees (u.1) f_notes f_wrote f_waitsFor f_waitTriples f_waitTells f_since f_clock f_count (u.2.1) (u.2.2.1) f_queueFrom (u.2.2.2.1) (u.2.2.2.2.1) (u.2.2.2.2.2) f_failures f_refusals f_thrown f_best))) (va_A (wX48 ci ad d f_rowTriples f_rowVersions f_rowTells f_rows f_latest f_pins f_writers f_sees f_states f_notes f_wrote f_waitsFor f_waitTriples f_waitTells f_since f_clock f_count f_holders f_queue f_queueFrom f_queueTo f_ring f_ringSize f_failures f_refusals f_thrown f_best) sz)) 0 0 (va_A (wX48 ci ad d f_rowTriples f_rowVersions f_rowTells f_rows f_latest f_pins f_writers f_sees f_states f_notes f_wrote f_waitsFor f_waitTriples f_waitTells f_since f_clock f_count f_holders f_queue f_queueFrom f_queueTo f_ring f_ringSize f_failures f_refusals f_thrown f_best) sz) := by
  refine k_enter (by decide) (Nat.le_of_ble_eq_true rfl) ?_
  intro p e s m below meth c ls X hsz hH hl
  subst hsz
  generalize va_A (wX48 ci ad d f_rowTriples f_rowVersions f_rowTells f_rows f_latest f_pins f_writers f_sees f_states f_notes f_wrote f_waitsFor f_waitTriples f_waitTells f_since f_clock f_count f_holders f_queue f_queueFrom f_queueTo f_ring f_ringSize f_failures f_refusals f_thrown f_best) s.heap.size = A at hH ⊢
  have hx := X.1.1
  have hb := X.1.2.1
  have hl : lv_has ls 4 [(0, .ref (ad 0)), (1, .int x1)] := hl
  unfold wpX48_lookForRing at hw
  refine lv_iconst (v := 0) hx hb dX48_lookForRing_0 (by decide) ?_
  refine lv_istore_n (lv' := [(2, .int 0), (0, .ref (ad 0)), (1, .int x1)]) hx hb dX48_lookForRing_1 rfl hl (by decide) rfl (fun ls hl => ?_)
  refine lv_iload_n hx hb dX48_lookForRing_2 rfl (lv_at hl 2 rfl) ?_
  refine lv_istore_n (lv' := [(3, .int x1), (2, .int 0), (0, .ref (ad 0)), (1, .int x1)]) hx hb dX48_lookForRing_3 rfl hl (by decide) rfl (fun ls hl => ?_)
  obtain ⟨fu, hw⟩ := hw
  refine atX48_lookForRing_4 hc X ?_ ?_ fu 0 x1 hw _ _ ls hH (lv_sub hl [2, 3, 1, 0] rfl)
  · intro x2_10 hw H locs ls hH hl
    refine lv_aload_n hx hb dX48_lookForRing_35 rfl (lv_at hl 0 rfl) ?_
    refine lv_iload_n hx hb dX48_lookForRing_36 rfl (lv_at hl 1 rfl) ?_
    refine lv_iload_n hx hb dX48_lookForRing_37 rfl (lv_at hl 2 rfl) ?_
    refine k_v0 hH (k_runV (As := [.int x1, .int x2_10]) (rest := []) X hH.1 hH.2.1 X.2.2.2 (walkX48_takeRing hc (x1 := x1) (x2 := x2_10) (f_rowTriples := f_rowTriples) (f_rowVersions := f_rowVersions) (f_rowTells := f_rowTells) (f_rows := f_rows) (f_latest := f_latest) (f_pins := f_pins) (f_writers := f_writers) (f_sees := f_sees) (f_states := f_states) (f_notes := f_notes) (f_wrote := f_wrote) (f_waitsFor := f_waitsFor) (f_waitTriples := f_waitTriples) (f_waitTells := f_waitTells) (f_since := f_since) (f_clock := f_clock) (f_count := f_count) (f_holders := f_holders) (f_queue := f_queue) (f_queueFrom := f_queueFrom) (f_queueTo := f_queueTo) (f_ring := f_ring) (f_ringSize := f_ringSize) (f_failures := f_failures) (f_refusals := f_refusals) (f_thrown := f_thrown) (f_best := f_best) hw) (cwV 2 X.1.2.2.2.2 gX48_134 rfl rfl rfl hX48_takeRing ⟨Nat.le_of_ble_eq_true rfl, Nat.le_of_ble_eq_true rfl⟩) hc (q0 := 0) rfl rfl hl.1 rfl (Nat.le_of_ble_eq_true rfl) dX48_lookForRing_38 ⟨Nat.le_refl 0, Nat.le_refl 0⟩) (fun u H locs hw hH => ?_)
    obtain ⟨f_states_11, f_holders_12, f_queue_13, f_queueTo_14, f_ring_15, f_ringSize_16⟩ := u
    have hH : kH (dC, dI) cl A s.heap H locs (wX48 ci ad d f_rowTriples f_rowVersions f_rowTells f_rows f_latest f_pins f_writers f_sees f_states_11 f_notes f_wrote f_waitsFor f_waitTriples f_waitTells f_since f_clock f_count f_holders_12 f_queue_13 f_queueFrom f_queueTo_14 f_ring_15 f_ringSize_16 f_failures f_refusals f_thrown f_best) := hH
    exact k_vret X hH (f_states_11, f_holders_12, f_queue_13, f_queueTo_14, f_ring_15, f_ringSize_16) hw rfl dX48_lookForRing_41
  · intro hw H locs ls hH hl
    exact k_vret X hH (f_states, f_holders, f_queue, f_queueTo, f_ring, f_ringSize) hw rfl dX48_lookForRing_42
set_option maxHeartbeats 4000000 in
theorem atX48_write_124 {p : Program} {l : Launch} {e : Env} {s : State} {m : MethodId} {args : Array Value} {below : List Frame} {meth : Method} {c : Code} {dC : Nat → ClassId} {dI : Nat → Nat → Nat} {cl : List vw_C} {ci : Nat} (hc : cl[ci]? = some (RX48, TX48, 27)) {ad : Nat → Nat} {d : Nat → ClassId} {A : Nat → Prop} {post : (Int → Int) → (Int → Int) → (Int → Int) → (Int → Int) → (Int → Int) → (Int → Int) → Int → (Int → Int) → (Int → Int) → Int → (Int → Int) → Int → (Int → Int) → Prop} {f_rowTriples : Nat → Int32} {f_rowVersions : Nat → Int32} {f_rowTells : Nat → Int32} {f_rows : Int32} {f_latest : Int32} {f_pins : Nat → Int32} {f_writers : Nat → Int32} {f_sees : Nat → Int32} {f_notes : Nat → Int32} {f_count : Int32} {f_queueFrom : Int32} {f_refusals : Nat → Int32} {f_thrown : Int32} {f_best : Nat → Int32} (X : kX p s m args meth c cX48_write 4 RX48 none (dC, dI) cl (tX48 d))     :
    ∀ (x1 : Int32) (x2 : Int32) (x3 : Int32) (f_states : Nat → Int32) (f_wrote : Nat → Int32) (f_waitsFor : Nat → Int32) (f_waitTriples : Nat → Int32) (f_waitTells : Nat → Int32) (f_since : Nat → Int32) (f_clock : Int32) (f_holders : Nat → Int32) (f_queue : Nat → Int32) (f_queueTo : Int32) (f_ring : Nat → Int32) (f_ringSize : Int32) (f_failures : Nat → Int32), wX48_write_124 post x1.toInt x2.toInt x3.toInt (zF f_states) (zF f_wrote) (zF f_waitsFor) (zF f_waitTriples) (zF f_waitTells) (zF f_since) f_clock.toInt (zF f_holders) (zF f_queue) f_queueTo.toInt (zF f_ring) f_ringSize.toInt (zF f_failures) → ∀ (H : Heap) (locs : List Loc) (ls : Array Slot), kH (dC, dI) cl A s.heap H locs (wX48 ci ad d f_rowTriples f_rowVersions f_rowTells f_rows f_latest f_pins f_writers f_sees f_states f_notes f_wrote f_waitsFor f_waitTriples f_waitTells f_since f_clock f_count f_holders f_queue f_queueFrom f_queueTo f_ring f_ringSize f_failures f_refusals f_thrown f_best) → lv_has ls 4 [(0, .ref (ad 0)), (1, .int x1), (2, .int x2), (3, .int x3)] → W p l e ({ frames := 3, cells := 0, slots := 0, locals := 74 } : Room) s m args below meth c H locs 0 0 (MQ below (va_Qv (fun (u : (Nat → Int32) × (Nat → Int32) × (Nat → Int32) × (Nat → Int32) × (Nat → Int32) × (Nat → Int32) × Int32 × (Nat → Int32) × (Nat → Int32) × Int32 × (Nat → Int32) × Int32 × (Nat → Int32)) => post (zF (u.1)) (zF (u.2.1)) (zF (u.2.2.1)) (zF (u.2.2.2.1)) (zF (u.2.2.2.2.1)) (zF (u.2.2.2.2.2.1)) (u.2.2.2.2.2.2.1).toInt (zF (u.2.2.2.2.2.2.2.1)) (zF (u.2.2.2.2.2.2.2.2.1)) (u.2.2.2.2.2.2.2.2.2.1).toInt (zF (u.2.2.2.2.2.2.2.2.2.2.1)) (u.2.2.2.2.2.2.2.2.2.2.2.1).toInt (zF (u.2.2.2.2.2.2.2.2.2.2.2.2))) (kB (dC, dI) cl (tX48 d) A (fun u : (Nat → Int32) × (Nat → Int32) × (Nat → Int32) × (Nat → Int32) × (Nat → Int32) × (Nat → Int32) × Int32 × (Nat → Int32) × (Nat → Int32) × Int32 × (Nat → Int32) × Int32 × (Nat → Int32) => (wX48 ci ad d f_rowTriples f_rowVersions f_rowTells f_rows f_latest f_pins f_writers f_sees (u.1) f_notes (u.2.1) (u.2.2.1) (u.2.2.2.1) (u.2.2.2.2.1) (u.2.2.2.2.2.1) (u.2.2.2.2.2.2.1) f_count (u.2.2.2.2.2.2.2.1) (u.2.2.2.2.2.2.2.2.1) f_queueFrom (u.2.2.2.2.2.2.2.2.2.1) (u.2.2.2.2.2.2.2.2.2.2.1) (u.2.2.2.2.2.2.2.2.2.2.2.1) (u.2.2.2.2.2.2.2.2.2.2.2.2) f_refusals f_thrown f_best))) A) args s 0 0 A) (F0 m 124 ls []) := by
  have hx := X.1.1
  have hb := X.1.2.1
  intro x1 x2 x3 f_states f_wrote f_waitsFor f_waitTriples f_waitTells f_since f_clock f_holders f_queue f_queueTo f_ring f_ringSize f_failures hw H locs ls hH hl
  unfold wX48_write_124 at hw
  refine lv_aload_n hx hb dX48_write_124 rfl (lv_at hl 0 rfl) ?_
  refine k_get X hH in_X48 0 rfl hc 17 (by decide) q6089 rfl dX48_write_125 ?_
  refine lv_iload_n hx hb dX48_write_128 rfl (lv_at hl 2 rfl) ?_
  refine lv_iload_n hx hb dX48_write_129 rfl (lv_at hl 1 rfl) ?_
  have hq_11 := hw.1
  have hw := hw.2
  obtain ⟨f_holders_10, ef_holders_10⟩ : ∃ y : Nat → Int32, y = upd f_holders x2.toNatClampNeg x1 := ⟨_, rfl⟩
  refine k_iast X hH 14 13 rfl rfl (z_in (rfl : x2.toInt = _) hq_11) dX48_write_130 ef_holders_10 (ws1 := (wX48 ci ad d f_rowTriples f_rowVersions f_rowTells f_rows f_latest f_pins f_writers f_sees f_states f_notes f_wrote f_waitsFor f_waitTriples f_waitTells f_since f_clock f_count f_holders_10 f_queue f_queueFrom f_queueTo f_ring f_ringSize f_failures f_refusals f_thrown f_best)) rfl (fun H locs hH => ?_)
  have hw := hw (zF f_holders_10) (by rw [ef_holders_10]; exact z_st (f := f_holders) (rfl : x2.toInt = _) hq_11.1 (rfl : x1.toInt = _))
  refine lv_aload_n hx hb dX48_write_131 rfl (lv_at hl 0 rfl) ?_
  refine k_get X hH in_X48 0 rfl hc 10 (by decide) q6082 rfl dX48_write_132 ?_
  refine lv_sipush (v := 200) hx hb dX48_write_135 (by decide) ?_
  refine lv_iload_n hx hb dX48_write_138 rfl (lv_at hl 1 rfl) ?_
  refine lv_imul hx hb dX48_write_139 ?_
  have e_12 := z_mul (z_m (rfl : (200 : Int32).toInt = 200)) (z_m (rfl : x1.toInt = _))
  refine lv_iload_n hx hb dX48_write_140 rfl (lv_at hl 2 rfl) ?_
  refine lv_iadd hx hb dX48_write_141 ?_
  have e_13 := z_add e_12 (z_m (rfl : x2.toInt = _))
  refine lv_iload_n hx hb dX48_write_142 rfl (lv_at hl 3 rfl) ?_
  refine lv_if_eq (tgt := 150) hx hb dX48_write_143 (by decide) (fun c_14 => ?_) (fun c_14 => ?_)
  · have hw := hw.1 (z_eq (rfl : x3.toInt = _) (rfl : (0 : Int32).toInt = 0) c_14)
    refine lv_iconst (v := 1) hx hb dX48_write_150 (by decide) ?_
    have hq_16 := hw.1
    have hw := hw.2
    have e_17 := z_xi e_13 hq_16 (by decide)
    obtain ⟨f_wrote_15, ef_wrote_15⟩ : ∃ y : Nat → Int32, y = upd f_wrote ((200 * x1) + x2).toNatClampNeg 1 := ⟨_, rfl⟩
    refine k_iast X hH 9 8 rfl rfl (z_in e_17 hq_16) dX48_write_151 ef_wrote_15 (ws1 := (wX48 ci ad d f_rowTriples f_rowVersions f_rowTells f_rows f_latest f_pins f_writers f_sees f_states f_notes f_wrote_15 f_waitsFor f_waitTriples f_waitTells f_since f_clock f_count f_holders_10 f_queue f_queueFrom f_queueTo f_ring f_ringSize f_failures f_refusals f_thrown f_best)) rfl (fun H locs hH => ?_)
    have hw := hw (zF f_wrote_15) (by rw [ef_wrote_15]; exact z_st (f := f_wrote) e_17 hq_16.1 (rfl : (1 : Int32).toInt = 1))
    exact k_vret X hH (f_states, f_wrote_15, f_waitsFor, f_waitTriples, f_waitTells, f_since, f_clock, f_holders_10, f_queue, f_queueTo, f_ring, f_ringSize, f_failures) hw rfl dX48_write_152
  · have hw := hw.2 (z_neq (rfl : x3.toInt = _) (rfl : (0 : Int32).toInt = 0) c_14)
    refine lv_iconst (v := 2) hx hb dX48_write_146 (by decide) ?_
    refine lv_goto (tgt := 151) hx hb dX48_write_147 (by decide) ?_
    have hq_19 := hw.1
    have hw := hw.2
    have e_20 := z_xi e_13 hq_19 (by decide)
    obtain ⟨f_wrote_18, ef_wrote_18⟩ : ∃ y : Nat → Int32, y = upd f_wrote ((200 * x1) + x2).toNatClampNeg 2 := ⟨_, rfl⟩
    refine k_iast X hH 9 8 rfl rfl (z_in e_20 hq_19) dX48_write_151 ef_wrote_18 (ws1 := (wX48 ci ad d f_rowTriples f_rowVersions f_rowTells f_rows f_latest f_pins f_writers f_sees f_states f_notes f_wrote_18 f_waitsFor f_waitTriples f_waitTells f_since f_clock f_count f_holders_10 f_queue f_queueFrom f_queueTo f_ring f_ringSize f_failures f_refusals f_thrown f_best)) rfl (fun H locs hH => ?_)
    have hw := hw (zF f_wrote_18) (by rw [ef_wrote_18]; exact z_st (f := f_wrote) e_20 hq_19.1 (rfl : (2 : Int32).toInt = 2))
    exact k_vret X hH (f_states, f_wrote_18, f_waitsFor, f_waitTriples, f_waitTells, f_since, f_clock, f_holders_10, f_queue, f_queueTo, f_ring, f_ringSize, f_failures) hw rfl dX48_write_152
set_option maxHeartbeats 4000000 in
theorem walkX48_write {l : Launch} {dC : Nat → ClassId} {dI : Nat → Nat → Nat} {cl : List vw_C} {ci : Nat} (hc : cl[ci]? = some (RX48, TX48, 27)) {ad : Nat → Nat} {d : Nat → ClassId} {sz : Nat} {f_rowTriples : Nat → Int32} {f_rowVersions : Nat → Int32} {f_rowTells : Nat → Int32} {f_rows : Int32} {f_latest : Int32} {f_pins : Nat → Int32} {f_writers : Nat → Int32} {f_sees : Nat → Int32} {f_states : Nat → Int32} {f_notes : Nat → Int32} {f_wrote : Nat → Int32} {f_waitsFor : Nat → Int32} {f_waitTriples : Nat → Int32} {f_waitTells : Nat → Int32} {f_since : Nat → Int32} {f_clock : Int32} {f_count : Int32} {f_holders : Nat → Int32} {f_queue : Nat → Int32} {f_queueFrom : Int32} {f_queueTo : Int32} {f_ring : Nat → Int32} {f_ringSize : Int32} {f_failures : Nat → Int32} {f_refusals : Nat → Int32} {f_thrown : Int32} {f_best : Nat → Int32} {x1 : Int32} {x2 : Int32} {x3 : Int32} {post : (Int → Int) → (Int → Int) → (Int → Int) → (Int → Int) → (Int → Int) → (Int → Int) → Int → (Int → Int) → (Int → Int) → Int → (Int → Int) → Int → (Int → Int) → Prop} (hw : wpX48_write post (zF f_rowTriples) (zF f_rowVersions) f_rows.toInt (zF f_sees) (zF f_states) (zF f_wrote) (zF f_waitsFor) (zF f_waitTriples) (zF f_waitTells) (zF f_since) f_clock.toInt f_count.toInt (zF f_holders) (zF f_queue) f_queueTo.toInt (zF f_ring) f_ringSize.toInt (zF f_failures) x1.toInt x2.toInt x3.toInt) :
    Met l yX48_write (ws_ yX48_write cX48_write 4 none) ({ frames := 3, cells := 0, slots := 0, locals := 74 } : Room) (kPc (dC, dI) cl (tX48 d) [.ref (ad 0), .int x1, .int x2, .int x3] sz (wX48 ci ad d f_rowTriples f_rowVersions f_rowTells f_rows f_latest f_pins f_writers f_sees f_states f_notes f_wrote f_waitsFor f_waitTriples f_waitTells f_since f_clock f_count f_holders f_queue f_queueFrom f_queueTo f_ring f_ringSize f_failures f_refusals f_thrown f_best)) (va_Qv (fun (u : (Nat → Int32) × (Nat → Int32) × (Nat → Int32) × (Nat → Int32) × (Nat → Int32) × (Nat → Int32) × Int32 × (Nat → Int32) × (Nat → Int32) × Int32 × (Nat → Int32) × Int32 × (Nat → Int32)) => post (zF (u.1)) (zF (u.2.1)) (zF (u.2.2.1)) (zF (u.2.2.2.1)) (zF (u.2.2.2.2.1)) (zF (u.2.2.2.2.2.1)) (u.2.2.2.2.2.2.1).toInt (zF (u.2.2.2.2.2.2.2.1)) (zF (u.2.2.2.2.2.2.2.2.1)) (u.2.2.2.2.2.2.2.2.2.1).toInt (zF (u.2.2.2.2.2.2.2.2.2.2.1)) (u.2.2.2.2.2.2.2.2.2.2.2.1).toInt (zF (u.2.2.2.2.2.2.2.2.2.2.2.2))) (kB (dC, dI) cl (tX48 d) (va_A (wX48 ci ad d f_rowTriples f_rowVersions f_rowTells f_rows f_latest f_pins f_writers f_sees f_states f_notes f_wrote f_waitsFor f_waitTriples f_waitTells f_since f_clock f_count f_holders f_queue f_queueFrom f_queueTo f_ring f_ringSize f_failures f_refusals f_thrown f_best) sz) (fun u : (Nat → Int32) × (Nat → Int32) × (Nat → Int32) × (Nat → Int32) × (Nat → Int32) × (Nat → Int32) × Int32 × (Nat → Int32) × (Nat → Int32) × Int32 × (Nat → Int32) × Int32 × (Nat → Int32) => (wX48 ci ad d f_rowTriples f_rowVersions f_rowTells f_rows f_latest f_pins f_writers f_sees (u.1) f_notes (u.2.1) (u.2.2.1) (u.2.2.2.1) (u.2.2.2.2.1) (u.2.2.2.2.2.1) (u.2.2.2.2.2.2.1) f_count (u.2.2.2.2.2.2.2.1) (u.2.2.2.2.2.2.2.2.1) f_queueFrom (u.2.2.2.2.2.2.2.2.2.1) (u.2.2.2.2.2.2.2.2.2.2.1) (u.2.2.2.2.2.2.2.2.2.2.2.1) (u.2.2.2.2.2.2.2.2.2.2.2.2) f_refusals f_thrown f_best))) (va_A (wX48 ci ad d f_rowTriples f_rowVersions f_rowTells f_rows f_latest f_pins f_writers f_sees f_states f_notes f_wrote f_waitsFor f_waitTriples f_waitTells f_since f_clock f_count f_holders f_queue f_queueFrom f_queueTo f_ring f_ringSize f_failures f_refusals f_thrown f_best) sz)) 0 0 (va_A (wX48 ci ad d f_rowTriples f_rowVersions f_rowTells f_rows f_latest f_pins f_writers f_sees f_states f_notes f_wrote f_waitsFor f_waitTriples f_waitTells f_since f_clock f_count f_holders f_queue f_queueFrom f_queueTo f_ring f_ringSize f_failures f_refusals f_thrown f_best) sz) := by
  refine k_enter (by decide) (Nat.le_of_ble_eq_true rfl) ?_
  intro p e s m below meth c ls X hsz hH hl
  subst hsz
  generalize va_A (wX48 ci ad d f_rowTriples f_rowVersions f_rowTells f_rows f_latest f_pins f_writers f_sees f_states f_notes f_wrote f_waitsFor f_waitTriples f_waitTells f_since f_clock f_count f_holders f_queue f_queueFrom f_queueTo f_ring f_ringSize f_failures f_refusals f_thrown f_best) s.heap.size = A at hH ⊢
  have hx := X.1.1
  have hb := X.1.2.1
  have hl : lv_has ls 4 [(0, .ref (ad 0)), (1, .int x1), (2, .int x2), (3, .int x3)] := hl
  unfold wpX48_write at hw
  refine lv_aload_n hx hb dX48_write_0 rfl (lv_at hl 0 rfl) ?_
  refine k_get X hH in_X48 0 rfl hc 11 (by decide) q6083 rfl dX48_write_1 ?_
  refine lv_iload_n hx hb dX48_write_4 rfl (lv_at hl 1 rfl) ?_
  refine lv_iconst (v := (-1)) hx hb dX48_write_5 (by decide) ?_
  have hq_2 := hw.1
  have hw := hw.2
  obtain ⟨f_waitsFor_1, ef_waitsFor_1⟩ : ∃ y : Nat → Int32, y = upd f_waitsFor x1.toNatClampNeg (-1) := ⟨_, rfl⟩
  refine k_iast X hH 10 9 rfl rfl (z_in (rfl : x1.toInt = _) hq_2) dX48_write_6 ef_waitsFor_1 (ws1 := (wX48 ci ad d f_rowTriples f_rowVersions f_rowTells f_rows f_latest f_pins f_writers f_sees f_states f_notes f_wrote f_waitsFor_1 f_waitTriples f_waitTells f_since f_clock f_count f_holders f_queue f_queueFrom f_queueTo f_ring f_ringSize f_failures f_refusals f_thrown f_best)) rfl (fun H locs hH => ?_)
  have hw := hw (zF f_waitsFor_1) (by rw [ef_waitsFor_1]; exact z_st (f := f_waitsFor) (rfl : x1.toInt = _) hq_2.1 (rfl : ((-1) : Int32).toInt = (-1)))
  refine lv_aload_n hx hb dX48_write_7 rfl (lv_at hl 0 rfl) ?_
  refine k_get X hH in_X48 0 rfl hc 8 (by decide) q6080 rfl dX48_write_8 ?_
  refine lv_iload_n hx hb dX48_write_11 rfl (lv_at hl 1 rfl) ?_
  refine lv_iconst (v := 0) hx hb dX48_write_12 (by decide) ?_
  obtain ⟨f_states_3, ef_states_3⟩ : ∃ y : Nat → Int32, y = upd f_states x1.toNatClampNeg 0 := ⟨_, rfl⟩
  refine k_iast X hH 7 6 rfl rfl (z_in (rfl : x1.toInt = _) hq_2) dX48_write_13 ef_states_3 (ws1 := (wX48 ci ad d f_rowTriples f_rowVersions f_rowTells f_rows f_latest f_pins f_writers f_sees f_states_3 f_notes f_wrote f_waitsFor_1 f_waitTriples f_waitTells f_since f_clock f_count f_holders f_queue f_queueFrom f_queueTo f_ring f_ringSize f_failures f_refusals f_thrown f_best)) rfl (fun H locs hH => ?_)
  have hw := hw (zF f_states_3) (by rw [ef_states_3]; exact z_st (f := f_states) (rfl : x1.toInt = _) hq_2.1 (rfl : (0 : Int32).toInt = 0))
  refine lv_aload_n hx hb dX48_write_14 rfl (lv_at hl 0 rfl) ?_
  refine lv_iload_n hx hb dX48_write_15 rfl (lv_at hl 2 rfl) ?_
  refine lv_aload_n hx hb dX48_write_16 rfl (lv_at hl 0 rfl) ?_
  refine k_get X hH in_X48 0 rfl hc 7 (by decide) q6079 rfl dX48_write_17 ?_
  refine lv_iload_n hx hb dX48_write_20 rfl (lv_at hl 1 rfl) ?_
  refine k_iald X hH 6 5 rfl rfl (z_in (rfl : x1.toInt = _) hq_2) dX48_write_21 ?_
  have e_4 := z_ld (f := f_sees) (rfl : x1.toInt = _) hq_2.1
  refine k_i0 hH (k_runV (As := [.int x2, .int (f_sees x1.toNatClampNeg)]) (rest := []) X hH.1 hH.2.1 X.2.2.2 (walkX48_hasAbove hc (x1 := x2) (x2 := (f_sees x1.toNatClampNeg)) (f_rowTriples := f_rowTriples) (f_rowVersions := f_rowVersions) (f_rowTells := f_rowTells) (f_rows := f_rows) (f_latest := f_latest) (f_pins := f_pins) (f_writers := f_writers) (f_sees := f_sees) (f_states := f_states_3) (f_notes := f_notes) (f_wrote := f_wrote) (f_waitsFor := f_waitsFor_1) (f_waitTriples := f_waitTriples) (f_waitTells := f_waitTells) (f_since := f_since) (f_clock := f_clock) (f_count := f_count) (f_holders := f_holders) (f_queue := f_queue) (f_queueFrom := f_queueFrom) (f_queueTo := f_queueTo) (f_ring := f_ring) (f_ringSize := f_ringSize) (f_failures := f_failures) (f_refusals := f_refusals) (f_thrown := f_thrown) (f_best := f_best) (by rw [show (f_sees x1.toNatClampNeg : Int32).toInt = _ from e_4]; exact hw)) (cwV 2 X.1.2.2.2.2 gX48_124 rfl rfl rfl hX48_hasAbove ⟨Nat.le_of_ble_eq_true rfl, Nat.le_of_ble_eq_true rfl⟩) hc (q0 := 0) rfl rfl hl.1 rfl (Nat.le_of_ble_eq_true rfl) dX48_write_22 ⟨Nat.le_refl 0, Nat.le_refl 0⟩) (fun r_5 _ H locs hw hH => ?_)
  have hH : kH (dC, dI) cl A s.heap H locs (wX48 ci ad d f_rowTriples f_rowVersions f_rowTells f_rows f_latest f_pins f_writers f_sees f_states_3 f_notes f_wrote f_waitsFor_1 f_waitTriples f_waitTells f_since f_clock f_count f_holders f_queue f_queueFrom f_queueTo f_ring f_ringSize f_failures f_refusals f_thrown f_best) := hH
  refine lv_if_eq (tgt := 46) hx hb dX48_write_25 (by decide) (fun c_6 => ?_) (fun c_6 => ?_)
  · have hw := hw.1 (z_eq (rfl : r_5.toInt = _) (rfl : (0 : Int32).toInt = 0) c_6)
    refine lv_aload_n hx hb dX48_write_46 rfl (lv_at hl 0 rfl) ?_
    refine k_get X hH in_X48 0 rfl hc 17 (by decide) q6089 rfl dX48_write_47 ?_
    refine lv_iload_n hx hb dX48_write_50 rfl (lv_at hl 2 rfl) ?_
    have hq_7 := hw.1
    have hw := hw.2
    refine k_iald X hH 14 13 rfl rfl (z_in (rfl : x2.toInt = _) hq_7) dX48_write_51 ?_
    have e_8 := z_ld (f := f_holders) (rfl : x2.toInt = _) hq_7.1
    refine lv_if_lt (tgt := 124) hx hb dX48_write_52 (by decide) (fun c_9 => ?_) (fun c_9 => ?_)
    · have hw := hw.1 (z_lt e_8 (rfl : (0 : Int32).toInt = 0) c_9)
      exact atX48_write_124 hc X x1 x2 x3 f_states_3 f_wrote f_waitsFor_1 f_waitTriples f_waitTells f_since f_clock f_holders f_queue f_queueTo f_ring f_ringSize f_failures hw _ _ ls hH (lv_sub hl [0, 1, 2, 3] rfl)
    · have hw := hw.2 (z_nlt e_8 (rfl : (0 : Int32).toInt = 0) c_9)
      refine lv_aload_n hx hb dX48_write_55 rfl (lv_at hl 0 rfl) ?_
      refine k_get X hH in_X48 0 rfl hc 17 (by decide) q6089 rfl dX48_write_56 ?_
      refine lv_iload_n hx hb dX48_write_59 rfl (lv_at hl 2 rfl) ?_
      refine k_iald X hH 14 13 rfl rfl (z_in (rfl : x2.toInt = _) hq_7) dX48_write_60 ?_
      have e_21 := z_ld (f := f_holders) (rfl : x2.toInt = _) hq_7.1
      refine lv_iload_n hx hb dX48_write_61 rfl (lv_at hl 1 rfl) ?_
      refine lv_icmp_eq (tgt := 124) hx hb dX48_write_62 (by decide) (fun c_22 => ?_) (fun c_22 => ?_)
      · have hw := hw.1 (z_eq e_21 (rfl : x1.toInt = _) c_22)
        exact atX48_write_124 hc X x1 x2 x3 f_states_3 f_wrote f_waitsFor_1 f_waitTriples f_waitTells f_since f_clock f_holders f_queue f_queueTo f_ring f_ringSize f_failures hw _ _ ls hH (lv_sub hl [0, 1, 2, 3] rfl)
      · have hw := hw.2 (z_neq e_21 (rfl : x1.toInt = _) c_22)
        refine lv_aload_n hx hb dX48_write_65 rfl (lv_at hl 0 rfl) ?_
        refine k_get X hH in_X48 0 rfl hc 8 (by decide) q6080 rfl dX48_write_66 ?_
        refine lv_iload_n hx hb dX48_write_69 rfl (lv_at hl 1 rfl) ?_
        refine lv_iconst (v := 1) hx hb dX48_write_70 (by decide) ?_
        obtain ⟨f_states_23, ef_states_23⟩ : ∃ y : Nat → Int32, y = upd f_states_3 x1.toNatClampNeg 1 := ⟨_, rfl⟩
        refine k_iast X hH 7 6 rfl rfl (z_in (rfl : x1.toInt = _) hq_2) dX48_write_71 ef_states_23 (ws1 := (wX48 ci ad d f_rowTriples f_rowVersions f_rowTells f_rows f_latest f_pins f_writers f_sees f_states_23 f_notes f_wrote f_waitsFor_1 f_waitTriples f_waitTells f_since f_clock f_count f_holders f_queue f_queueFrom f_queueTo f_ring f_ringSize f_failures f_refusals f_thrown f_best)) rfl (fun H locs hH => ?_)
        have hw := hw (zF f_states_23) (by rw [ef_states_23]; exact z_st (f := f_states_3) (rfl : x1.toInt = _) hq_2.1 (rfl : (1 : Int32).toInt = 1))
        refine lv_aload_n hx hb dX48_write_72 rfl (lv_at hl 0 rfl) ?_
        refine k_get X hH in_X48 0 rfl hc 11 (by decide) q6083 rfl dX48_write_73 ?_
        refine lv_iload_n hx hb dX48_write_76 rfl (lv_at hl 1 rfl) ?_
        refine lv_aload_n hx hb dX48_write_77 rfl (lv_at hl 0 rfl) ?_
        refine k_get X hH in_X48 0 rfl hc 17 (by decide) q6089 rfl dX48_write_78 ?_
        refine lv_iload_n hx hb dX48_write_81 rfl (lv_at hl 2 rfl) ?_
        refine k_iald X hH 14 13 rfl rfl (z_in (rfl : x2.toInt = _) hq_7) dX48_write_82 ?_
        have e_24 := z_ld (f := f_holders) (rfl : x2.toInt = _) hq_7.1
        refine lv_topi (fun v_25 ev_25 => ?_)
        have hw := hw v_25.toInt (by rw [ev_25]; exact e_24)
        obtain ⟨f_waitsFor_26, ef_waitsFor_26⟩ : ∃ y : Nat → Int32, y = upd f_waitsFor_1 x1.toNatClampNeg v_25 := ⟨_, rfl⟩
        refine k_iast X hH 10 9 rfl rfl (z_in (rfl : x1.toInt = _) hq_2) dX48_write_83 ef_waitsFor_26 (ws1 := (wX48 ci ad d f_rowTriples f_rowVersions f_rowTells f_rows f_latest f_pins f_writers f_sees f_states_23 f_notes f_wrote f_waitsFor_26 f_waitTriples f_waitTells f_since f_clock f_count f_holders f_queue f_queueFrom f_queueTo f_ring f_ringSize f_failures f_refusals f_thrown f_best)) rfl (fun H locs hH => ?_)
        have hw := hw (zF f_waitsFor_26) (by rw [ef_waitsFor_26]; exact z_st (f := f_waitsFor_1) (rfl : x1.toInt = _) hq_2.1 (rfl : v_25.toInt = _))
        refine lv_aload_n hx hb dX48_write_84 rfl (lv_at hl 0 rfl) ?_
        refine k_get X hH in_X48 0 rfl hc 12 (by decide) q6084 rfl dX48_write_85 ?_
        refine lv_iload_n hx hb dX48_write_88 rfl (lv_at hl 1 rfl) ?_
        refine lv_iload_n hx hb dX48_write_89 rfl (lv_at hl 2 rfl) ?_
        obtain ⟨f_waitTriples_27, ef_waitTriples_27⟩ : ∃ y : Nat → Int32, y = upd f_waitTriples x1.toNatClampNeg x2 := ⟨_, rfl⟩
        refine k_iast X hH 11 10 rfl rfl (z_in (rfl : x1.toInt = _) hq_2) dX48_write_90 ef_waitTriples_27 (ws1 := (wX48 ci ad d f_rowTriples f_rowVersions f_rowTells f_rows f_latest f_pins f_writers f_sees f_states_23 f_notes f_wrote f_waitsFor_26 f_waitTriples_27 f_waitTells f_since f_clock f_count f_holders f_queue f_queueFrom f_queueTo f_ring f_ringSize f_failures f_refusals f_thrown f_best)) rfl (fun H locs hH => ?_)
        have hw := hw (zF f_waitTriples_27) (by rw [ef_waitTriples_27]; exact z_st (f := f_waitTriples) (rfl : x1.toInt = _) hq_2.1 (rfl : x2.toInt = _))
        refine lv_aload_n hx hb dX48_write_91 rfl (lv_at hl 0 rfl) ?_
        refine k_get X hH in_X48 0 rfl hc 13 (by decide) q6085 rfl dX48_write_92 ?_
        refine lv_iload_n hx hb dX48_write_95 rfl (lv_at hl 1 rfl) ?_
        refine lv_iload_n hx hb dX48_write_96 rfl (lv_at hl 3 rfl) ?_
        have hq_29 := hw.1
        have hw := hw.2
        obtain ⟨f_waitTells_28, ef_waitTells_28⟩ : ∃ y : Nat → Int32, y = upd f_waitTells x1.toNatClampNeg (vp_nar .boolean x3) := ⟨_, rfl⟩
        refine k_zast X hH 12 11 rfl rfl (z_in (rfl : x1.toInt = _) hq_2) dX48_write_97 ef_waitTells_28 (ws1 := (wX48 ci ad d f_rowTriples f_rowVersions f_rowTells f_rows f_latest f_pins f_writers f_sees f_states_23 f_notes f_wrote f_waitsFor_26 f_waitTriples_27 f_waitTells_28 f_since f_clock f_count f_holders f_queue f_queueFrom f_queueTo f_ring f_ringSize f_failures f_refusals f_thrown f_best)) rfl (fun H locs hH => ?_)
        have hw := hw (zF f_waitTells_28) (by rw [ef_waitTells_28]; exact z_st (f := f_waitTells) (rfl : x1.toInt = _) hq_2.1 (z_narZ (rfl : x3.toInt = _) hq_29))
        refine lv_aload_n hx hb dX48_write_98 rfl (lv_at hl 0 rfl) ?_
        refine k_get X hH in_X48 0 rfl hc 14 (by decide) q6086 rfl dX48_write_99 ?_
        refine lv_iload_n hx hb dX48_write_102 rfl (lv_at hl 1 rfl) ?_
        refine lv_aload_n hx hb dX48_write_103 rfl (lv_at hl 0 rfl) ?_
        refine k_get X hH in_X48 0 rfl hc 15 (by decide) q6087 rfl dX48_write_104 ?_
        obtain ⟨f_since_30, ef_since_30⟩ : ∃ y : Nat → Int32, y = upd f_since x1.toNatClampNeg f_clock := ⟨_, rfl⟩
        refine k_iast X hH 13 12 rfl rfl (z_in (rfl : x1.toInt = _) hq_2) dX48_write_107 ef_since_30 (ws1 := (wX48 ci ad d f_rowTriples f_rowVersions f_rowTells f_rows f_latest f_pins f_writers f_sees f_states_23 f_notes f_wrote f_waitsFor_26 f_waitTriples_27 f_waitTells_28 f_since_30 f_clock f_count f_holders f_queue f_queueFrom f_queueTo f_ring f_ringSize f_failures f_refusals f_thrown f_best)) rfl (fun H locs hH => ?_)
        have hw := hw (zF f_since_30) (by rw [ef_since_30]; exact z_st (f := f_since) (rfl : x1.toInt = _) hq_2.1 (rfl : f_clock.toInt = _))
        refine lv_aload_n hx hb dX48_write_108 rfl (lv_at hl 0 rfl) ?_
        refine lv_dup hx hb dX48_write_109 rfl ?_
        refine k_get X hH in_X48 0 rfl hc 15 (by decide) q6087 rfl dX48_write_110 ?_
        refine lv_iconst (v := 1) hx hb dX48_write_113 (by decide) ?_
        refine lv_iadd hx hb dX48_write_114 ?_
        have e_31 := z_add (z_m (rfl : f_clock.toInt = _)) (z_m (rfl : (1 : Int32).toInt = 1))
        have hq_32 := hw.1
        have hw := hw.2
        have e_33 := z_x e_31 hq_32
        refine lv_topi (fun f_clock_34 ef_clock_34 => ?_)
        have hw := hw f_clock_34.toInt (by rw [ef_clock_34]; exact e_33)
        refine k_put X hH in_X48 tyX48_ok nmX48 0 rfl hc 15 (by decide) q6087 rfl (ty := .int) rfl rfl rfl (Nat.le_of_ble_eq_true rfl) dX48_write_115 (ws1 := (wX48 ci ad d f_rowTriples f_rowVersions f_rowTells f_rows f_latest f_pins f_writers f_sees f_states_23 f_notes f_wrote f_waitsFor_26 f_waitTriples_27 f_waitTells_28 f_since_30 f_clock_34 f_count f_holders f_queue f_queueFrom f_queueTo f_ring f_ringSize f_failures f_refusals f_thrown f_best)) rfl (fun H locs hH => ?_)
        refine lv_aload_n hx hb dX48_write_118 rfl (lv_at hl 0 rfl) ?_
        refine lv_iload_n hx hb dX48_write_119 rfl (lv_at hl 1 rfl) ?_
        refine k_v0 hH (k_runV (As := [.int x1]) (rest := []) X hH.1 hH.2.1 X.2.2.2 (walkX48_lookForRing hc (x1 := x1) (f_rowTriples := f_rowTriples) (f_rowVersions := f_rowVersions) (f_rowTells := f_rowTells) (f_rows := f_rows) (f_latest := f_latest) (f_pins := f_pins) (f_writers := f_writers) (f_sees := f_sees) (f_states := f_states_23) (f_notes := f_notes) (f_wrote := f_wrote) (f_waitsFor := f_waitsFor_26) (f_waitTriples := f_waitTriples_27) (f_waitTells := f_waitTells_28) (f_since := f_since_30) (f_clock := f_clock_34) (f_count := f_count) (f_holders := f_holders) (f_queue := f_queue) (f_queueFrom := f_queueFrom) (f_queueTo := f_queueTo) (f_ring := f_ring) (f_ringSize := f_ringSize) (f_failures := f_failures) (f_refusals := f_refusals) (f_thrown := f_thrown) (f_best := f_best) hw) (cwV 1 X.1.2.2.2.2 gX48_130 rfl rfl rfl hX48_lookForRing ⟨Nat.le_of_ble_eq_true rfl, Nat.le_of_ble_eq_true rfl⟩) hc (q0 := 0) rfl rfl hl.1 rfl (Nat.le_of_ble_eq_true rfl) dX48_write_120 ⟨Nat.le_refl 0, Nat.le_refl 0⟩) (fun u H locs hw hH => ?_)
        obtain ⟨f_states_35, f_holders_36, f_queue_37, f_queueTo_38, f_ring_39, f_ringSize_40⟩ := u
        have hH : kH (dC, dI) cl A s.heap H locs (wX48 ci ad d f_rowTriples f_rowVersions f_rowTells f_rows f_latest f_pins f_writers f_sees f_states_35 f_notes f_wrote f_waitsFor_26 f_waitTriples_27 f_waitTells_28 f_since_30 f_clock_34 f_count f_holders_36 f_queue_37 f_queueFrom f_queueTo_38 f_ring_39 f_ringSize_40 f_failures f_refusals f_thrown f_best) := hH
        exact k_vret X hH (f_states_35, f_wrote, f_waitsFor_26, f_waitTriples_27, f_waitTells_28, f_since_30, f_clock_34, f_holders_36, f_queue_37, f_queueTo_38, f_ring_39, f_ringSize_40, f_failures) hw rfl dX48_write_123
  · have hw := hw.2 (z_neq (rfl : r_5.toInt = _) (rfl : (0 : Int32).toInt = 0) c_6)
    refine lv_aload_n hx hb dX48_write_28 rfl (lv_at hl 0 rfl) ?_
    refine k_get X hH in_X48 0 rfl hc 8 (by decide) q6080 rfl dX48_write_29 ?_
    refine lv_iload_n hx hb dX48_write_32 rfl (lv_at hl 1 rfl) ?_
    refine lv_iconst (v := 2) hx hb dX48_write_33 (by decide) ?_
    obtain ⟨f_states_41, ef_states_41⟩ : ∃ y : Nat → Int32, y = upd f_states_3 x1.toNatClampNeg 2 := ⟨_, rfl⟩
    refine k_iast X hH 7 6 rfl rfl (z_in (rfl : x1.toInt = _) hq_2) dX48_write_34 ef_states_41 (ws1 := (wX48 ci ad d f_rowTriples f_rowVersions f_rowTells f_rows f_latest f_pins f_writers f_sees f_states_41 f_notes f_wrote f_waitsFor_1 f_waitTriples f_waitTells f_since f_clock f_count f_holders f_queue f_queueFrom f_queueTo f_ring f_ringSize f_failures f_refusals f_thrown f_best)) rfl (fun H locs hH => ?_)
    have hw := hw (zF f_states_41) (by rw [ef_states_41]; exact z_st (f := f_states_3) (rfl : x1.toInt = _) hq_2.1 (rfl : (2 : Int32).toInt = 2))
    refine lv_aload_n hx hb dX48_write_35 rfl (lv_at hl 0 rfl) ?_
    refine k_get X hH in_X48 0 rfl hc 23 (by decide) q6095 rfl dX48_write_36 ?_
    refine lv_iload_n hx hb dX48_write_39 rfl (lv_at hl 2 rfl) ?_
    refine lv_dup2_11 hx hb dX48_write_40 rfl rfl ?_
    have hq_42 := hw.1
    have hw := hw.2
    refine k_iald X hH 17 16 rfl rfl (z_in (rfl : x2.toInt = _) hq_42) dX48_write_41 ?_
    have e_43 := z_ld (f := f_failures) (rfl : x2.toInt = _) hq_42.1
    refine lv_iconst (v := 1) hx hb dX48_write_42 (by decide) ?_
    refine lv_iadd hx hb dX48_write_43 ?_
    have e_44 := z_add (z_m e_43) (z_m (rfl : (1 : Int32).toInt = 1))
    have hq_45 := hw.1
    have hw := hw.2
    have e_46 := z_x e_44 hq_45
    refine lv_topi (fun v_47 ev_47 => ?_)
    have hw := hw v_47.toInt (by rw [ev_47]; exact e_46)
    obtain ⟨f_failures_48, ef_failures_48⟩ : ∃ y : Nat → Int32, y = upd f_failures x2.toNatClampNeg v_47 := ⟨_, rfl⟩
    refine k_iast X hH 17 16 rfl rfl (z_in (rfl : x2.toInt = _) hq_42) dX48_write_44 ef_failures_48 (ws1 := (wX48 ci ad d f_rowTriples f_rowVersions f_rowTells f_rows f_latest f_pins f_writers f_sees f_states_41 f_notes f_wrote f_waitsFor_1 f_waitTriples f_waitTells f_since f_clock f_count f_holders f_queue f_queueFrom f_queueTo f_ring f_ringSize f_failures_48 f_refusals f_thrown f_best)) rfl (fun H locs hH => ?_)
    have hw := hw (zF f_failures_48) (by rw [ef_failures_48]; exact z_st (f := f_failures) (rfl : x2.toInt = _) hq_42.1 (rfl : v_47.toInt = _))
    exact k_vret X hH (f_states_41, f_wrote, f_waitsFor_1, f_waitTriples, f_waitTells, f_since, f_clock, f_holders, f_queue, f_queueTo, f_ring, f_ringSize, f_failures_48) hw rfl dX48_write_45
set_option maxHeartbeats 4000000 in
theorem atX48_goOn_0 {p : Program} {l : Launch} {e : Env} {s : State} {m : MethodId} {args : Array Value} {below : List Frame} {meth : Method} {c : Code} {dC : Nat → ClassId} {dI : Nat → Nat → Nat} {cl : List vw_C} {ci : Nat} (hc : cl[ci]? = some (RX48, TX48, 27)) {ad : Nat → Nat} {d : Nat → ClassId} {A : Nat → Prop} {post : (Int → Int) → (Int → Int) → (Int → Int) → (Int → Int) → (Int → Int) → (Int → Int) → Int → (Int → Int) → (Int → Int) → Int → Int → (Int → Int) → Int → (Int → Int) → Prop} {f_rowTriples : Nat → Int32} {f_rowVersions : Nat → Int32} {f_rowTells : Nat → Int32} {f_rows : Int32} {f_latest : Int32} {f_pins : Nat → Int32} {f_writers : Nat → Int32} {f_sees : Nat → Int32} {f_notes : Nat → Int32} {f_count : Int32} {f_refusals : Nat → Int32} {f_thrown : Int32} {f_best : Nat → Int32} (X : kX p s m args meth c cX48_goOn 2 RX48 none (dC, dI) cl (tX48 d)) {K61 : (Int → Int) → (Int → Int) → (Int → Int) → (Int → Int) → (Int → Int) → (Int → Int) → Int → (Int → Int) → (Int → Int) → Int → Int → (Int → Int) → Int → (Int → Int) → Prop}   (hk61 : ∀ (f_states : Nat → Int32) (f_wrote : Nat → Int32) (f_waitsFor : Nat → Int32) (f_waitTriples : Nat → Int32) (f_waitTells : Nat → Int32) (f_since : Nat → Int32) (f_clock : Int32) (f_holders : Nat → Int32) (f_queue : Nat → Int32) (f_queueFrom : Int32) (f_queueTo : Int32) (f_ring : Nat → Int32) (f_ringSize : Int32) (f_failures : Nat → Int32), K61 (zF f_states) (zF f_wrote) (zF f_waitsFor) (zF f_waitTriples) (zF f_waitTells) (zF f_since) f_clock.toInt (zF f_holders) (zF f_queue) f_queueFrom.toInt f_queueTo.toInt (zF f_ring) f_ringSize.toInt (zF f_failures) → ∀ (H : Heap) (locs : List Loc) (ls : Array Slot), kH (dC, dI) cl A s.heap H locs (wX48 ci ad d f_rowTriples f_rowVersions f_rowTells f_rows f_latest f_pins f_writers f_sees f_states f_notes f_wrote f_waitsFor f_waitTriples f_waitTells f_since f_clock f_count f_holders f_queue f_queueFrom f_queueTo f_ring f_ringSize f_failures f_refusals f_thrown f_best) → lv_has ls 2 [(0, .ref (ad 0))] → W p l e ({ frames := 4, cells := 0, slots := 0, locals := 97 } : Room) s m args below meth c H locs 0 0 (MQ below (va_Qv (fun (u : (Nat → Int32) × (Nat → Int32) × (Nat → Int32) × (Nat → Int32) × (Nat → Int32) × (Nat → Int32) × Int32 × (Nat → Int32) × (Nat → Int32) × Int32 × Int32 × (Nat → Int32) × Int32 × (Nat → Int32)) => post (zF (u.1)) (zF (u.2.1)) (zF (u.2.2.1)) (zF (u.2.2.2.1)) (zF (u.2.2.2.2.1)) (zF (u.2.2.2.2.2.1)) (u.2.2.2.2.2.2.1).toInt (zF (u.2.2.2.2.2.2.2.1)) (zF (u.2.2.2.2.2.2.2.2.1)) (u.2.2.2.2.2.2.2.2.2.1).toInt (u.2.2.2.2.2.2.2.2.2.2.1).toInt (zF (u.2.2.2.2.2.2.2.2.2.2.2.1)) (u.2.2.2.2.2.2.2.2.2.2.2.2.1).toInt (zF (u.2.2.2.2.2.2.2.2.2.2.2.2.2))) (kB (dC, dI) cl (tX48 d) A (fun u : (Nat → Int32) × (Nat → Int32) × (Nat → Int32) × (Nat → Int32) × (Nat → Int32) × (Nat → Int32) × Int32 × (Nat → Int32) × (Nat → Int32) × Int32 × Int32 × (Nat → Int32) × Int32 × (Nat → Int32) => (wX48 ci ad d f_rowTriples f_rowVersions f_rowTells f_rows f_latest f_pins f_writers f_sees (u.1) f_notes (u.2.1) (u.2.2.1) (u.2.2.2.1) (u.2.2.2.2.1) (u.2.2.2.2.2.1) (u.2.2.2.2.2.2.1) f_count (u.2.2.2.2.2.2.2.1) (u.2.2.2.2.2.2.2.2.1) (u.2.2.2.2.2.2.2.2.2.1) (u.2.2.2.2.2.2.2.2.2.2.1) (u.2.2.2.2.2.2.2.2.2.2.2.1) (u.2.2.2.2.2.2.2.2.2.2.2.2.1) (u.2.2.2.2.2.2.2.2.2.2.2.2.2) f_refusals f_thrown f_best))) A) args s 0 0 A) (F0 m 61 ls [])) :
    ∀ (nn : Nat) (f_states : Nat → Int32) (f_wrote : Nat → Int32) (f_waitsFor : Nat → Int32) (f_waitTriples : Nat → Int32) (f_waitTells : Nat → Int32) (f_since : Nat → Int32) (f_clock : Int32) (f_holders : Nat → Int32) (f_queue : Nat → Int32) (f_queueFrom : Int32) (f_queueTo : Int32) (f_ring : Nat → Int32) (f_ringSize : Int32) (f_failures : Nat → Int32), wX48_goOn_0 K61 (zF f_rowTriples) (zF f_rowVersions) f_rows.toInt (zF f_sees) f_count.toInt nn (zF f_states) (zF f_wrote) (zF f_waitsFor) (zF f_waitTriples) (zF f_waitTells) (zF f_since) f_clock.toInt (zF f_holders) (zF f_queue) f_queueFrom.toInt f_queueTo.toInt (zF f_ring) f_ringSize.toInt (zF f_failures) → ∀ (H : Heap) (locs : List Loc) (ls : Array Slot), kH (dC, dI) cl A s.heap H locs (wX48 ci ad d f_rowTriples f_rowVersions f_rowTells f_rows f_latest f_pins f_writers f_sees f_states f_notes f_wrote f_waitsFor f_waitTriples f_waitTells f_since f_clock f_count f_holders f_queue f_queueFrom f_queueTo f_ring f_ringSize f_failures f_refusals f_thrown f_best) → lv_has ls 2 [(0, .ref (ad 0))] → W p l e ({ frames := 4, cells := 0, slots := 0, locals := 97 } : Room) s m args below meth c H locs 0 0 (MQ below (va_Qv (fun (u : (Nat → Int32) × (Nat → Int32) × (Nat → Int32) × (Nat → Int32) × (Nat → Int32) × (Nat → Int32) × Int32 × (Nat → Int32) × (Nat → Int32) × Int32 × Int32 × (Nat → Int32) × Int32 × (Nat → Int32)) => post (zF (u.1)) (zF (u.2.1)) (zF (u.2.2.1)) (zF (u.2.2.2.1)) (zF (u.2.2.2.2.1)) (zF (u.2.2.2.2.2.1)) (u.2.2.2.2.2.2.1).toInt (zF (u.2.2.2.2.2.2.2.1)) (zF (u.2.2.2.2.2.2.2.2.1)) (u.2.2.2.2.2.2.2.2.2.1).toInt (u.2.2.2.2.2.2.2.2.2.2.1).toInt (zF (u.2.2.2.2.2.2.2.2.2.2.2.1)) (u.2.2.2.2.2.2.2.2.2.2.2.2.1).toInt (zF (u.2.2.2.2.2.2.2.2.2.2.2.2.2))) (kB (dC, dI) cl (tX48 d) A (fun u : (Nat → Int32) × (Nat → Int32) × (Nat → Int32) × (Nat → Int32) × (Nat → Int32) × (Nat → Int32) × Int32 × (Nat → Int32) × (Nat → Int32) × Int32 × Int32 × (Nat → Int32) × Int32 × (Nat → Int32) => (wX48 ci ad d f_rowTriples f_rowVersions f_rowTells f_rows f_latest f_pins f_writers f_sees (u.1) f_notes (u.2.1) (u.2.2.1) (u.2.2.2.1) (u.2.2.2.2.1) (u.2.2.2.2.2.1) (u.2.2.2.2.2.2.1) f_count (u.2.2.2.2.2.2.2.1) (u.2.2.2.2.2.2.2.2.1) (u.2.2.2.2.2.2.2.2.2.1) (u.2.2.2.2.2.2.2.2.2.2.1) (u.2.2.2.2.2.2.2.2.2.2.2.1) (u.2.2.2.2.2.2.2.2.2.2.2.2.1) (u.2.2.2.2.2.2.2.2.2.2.2.2.2) f_refusals f_thrown f_best))) A) args s 0 0 A) (F0 m 0 ls []) := by
  have hx := X.1.1
  have hb := X.1.2.1
  intro nn
  induction nn with
  | zero =>
    intro f_states f_wrote f_waitsFor f_waitTriples f_waitTells f_since f_clock f_holders f_queue f_queueFrom f_queueTo f_ring f_ringSize f_failures hw
    exact False.elim hw
  | succ n ih =>
    intro f_states f_wrote f_waitsFor f_waitTriples f_waitTells f_since f_clock f_holders f_queue f_queueFrom f_queueTo f_ring f_ringSize f_failures hw H locs ls hH hl
    rw [wX48_goOn_0] at hw
    refine lv_aload_n hx hb dX48_goOn_0 rfl (lv_at hl 0 rfl) ?_
    refine k_get X hH in_X48 0 rfl hc 19 (by decide) q6091 rfl dX48_goOn_1 ?_
    refine lv_aload_n hx hb dX48_goOn_4 rfl (lv_at hl 0 rfl) ?_
    refine k_get X hH in_X48 0 rfl hc 20 (by decide) q6092 rfl dX48_goOn_5 ?_
    refine lv_icmp_ge (tgt := 61) hx hb dX48_goOn_8 (by decide) (fun c_1 => ?_) (fun c_1 => ?_)
    · have hw := hw.1 (z_le (rfl : f_queueTo.toInt = _) (rfl : f_queueFrom.toInt = _) c_1)
      exact hk61 f_states f_wrote f_waitsFor f_waitTriples f_waitTells f_since f_clock f_holders f_queue f_queueFrom f_queueTo f_ring f_ringSize f_failures hw _ _ ls hH (lv_sub hl [0] rfl)
    · have hw := hw.2 (z_nle (rfl : f_queueTo.toInt = _) (rfl : f_queueFrom.toInt = _) c_1)
      refine lv_aload_n hx hb dX48_goOn_11 rfl (lv_at hl 0 rfl) ?_
      refine k_get X hH in_X48 0 rfl hc 18 (by decide) q6090 rfl dX48_goOn_12 ?_
      refine lv_aload_n hx hb dX48_goOn_15 rfl (lv_at hl 0 rfl) ?_
      refine k_get X hH in_X48 0 rfl hc 19 (by decide) q6091 rfl dX48_goOn_16 ?_
      have hq_2 := hw.1
      have hw := hw.2
      refine k_iald X hH 15 14 rfl rfl (z_in (rfl : f_queueFrom.toInt = _) hq_2) dX48_goOn_19 ?_
      have e_3 := z_ld (f := f_queue) (rfl : f_queueFrom.toInt = _) hq_2.1
      refine lv_topi (fun x1_4 ex1_4 => ?_)
      have hw := hw x1_4.toInt (by rw [ex1_4]; exact e_3)
      refine lv_istore_n (lv' := [(1, .int x1_4), (0, .ref (ad 0))]) hx hb dX48_goOn_20 rfl hl (by decide) rfl (fun ls hl => ?_)
      refine lv_aload_n hx hb dX48_goOn_21 rfl (lv_at hl 1 rfl) ?_
      refine lv_dup hx hb dX48_goOn_22 rfl ?_
      refine k_get X hH in_X48 0 rfl hc 19 (by decide) q6091 rfl dX48_goOn_23 ?_
      refine lv_iconst (v := 1) hx hb dX48_goOn_26 (by decide) ?_
      refine lv_iadd hx hb dX48_goOn_27 ?_
      have e_5 := z_add (z_m (rfl : f_queueFrom.toInt = _)) (z_m (rfl : (1 : Int32).toInt = 1))
      have hq_6 := hw.1
      have hw := hw.2
      have e_7 := z_x e_5 hq_6
      refine lv_topi (fun f_queueFrom_8 ef_queueFrom_8 => ?_)
      have hw := hw f_queueFrom_8.toInt (by rw [ef_queueFrom_8]; exact e_7)
      refine k_put X hH in_X48 tyX48_ok nmX48 0 rfl hc 19 (by decide) q6091 rfl (ty := .int) rfl rfl rfl (Nat.le_of_ble_eq_true rfl) dX48_goOn_28 (ws1 := (wX48 ci ad d f_rowTriples f_rowVersions f_rowTells f_rows f_latest f_pins f_writers f_sees f_states f_notes f_wrote f_waitsFor f_waitTriples f_waitTells f_since f_clock f_count f_holders f_queue f_queueFrom_8 f_queueTo f_ring f_ringSize f_failures f_refusals f_thrown f_best)) rfl (fun H locs hH => ?_)
      refine lv_aload_n hx hb dX48_goOn_31 rfl (lv_at hl 1 rfl) ?_
      refine k_get X hH in_X48 0 rfl hc 8 (by decide) q6080 rfl dX48_goOn_32 ?_
      refine lv_iload_n hx hb dX48_goOn_35 rfl (lv_at hl 0 rfl) ?_
      have hq_9 := hw.1
      have hw := hw.2
      refine k_iald X hH 7 6 rfl rfl (z_in (rfl : x1_4.toInt = _) hq_9) dX48_goOn_36 ?_
      have e_10 := z_ld (f := f_states) (rfl : x1_4.toInt = _) hq_9.1
      refine lv_iconst (v := 1) hx hb dX48_goOn_37 (by decide) ?_
      refine lv_icmp_ne (tgt := 58) hx hb dX48_goOn_38 (by decide) (fun c_11 => ?_) (fun c_11 => ?_)
      · have hw := hw.2 (z_ne e_10 (rfl : (1 : Int32).toInt = 1) c_11)
        refine lv_goto (tgt := 0) hx hb dX48_goOn_58 (by decide) ?_
        exact ih f_states f_wrote f_waitsFor f_waitTriples f_waitTells f_since f_clock f_holders f_queue f_queueFrom_8 f_queueTo f_ring f_ringSize f_failures hw _ _ ls hH (lv_sub hl [1] rfl)
      · have hw := hw.1 (z_eq e_10 (rfl : (1 : Int32).toInt = 1) c_11)
        refine lv_aload_n hx hb dX48_goOn_41 rfl (lv_at hl 1 rfl) ?_
        refine lv_iload_n hx hb dX48_goOn_42 rfl (lv_at hl 0 rfl) ?_
        refine lv_aload_n hx hb dX48_goOn_43 rfl (lv_at hl 1 rfl) ?_
        refine k_get X hH in_X48 0 rfl hc 12 (by decide) q6084 rfl dX48_goOn_44 ?_
        refine lv_iload_n hx hb dX48_goOn_47 rfl (lv_at hl 0 rfl) ?_
        refine k_iald X hH 11 10 rfl rfl (z_in (rfl : x1_4.toInt = _) hq_9) dX48_goOn_48 ?_
        have e_12 := z_ld (f := f_waitTriples) (rfl : x1_4.toInt = _) hq_9.1
        refine lv_aload_n hx hb dX48_goOn_49 rfl (lv_at hl 1 rfl) ?_
        refine k_get X hH in_X48 0 rfl hc 13 (by decide) q6085 rfl dX48_goOn_50 ?_
        refine lv_iload_n hx hb dX48_goOn_53 rfl (lv_at hl 0 rfl) ?_
        refine k_zald X hH 12 11 rfl rfl (z_in (rfl : x1_4.toInt = _) hq_9) dX48_goOn_54 ?_
        have e_13 := z_ld (f := f_waitTells) (rfl : x1_4.toInt = _) hq_9.1
        refine k_v0 hH (k_runV (As := [.int x1_4, .int (f_waitTriples x1_4.toNatClampNeg), .int (f_waitTells x1_4.toNatClampNeg)]) (rest := []) X hH.1 hH.2.1 X.2.2.2 (walkX48_write hc (x1 := x1_4) (x2 := (f_waitTriples x1_4.toNatClampNeg)) (x3 := (f_waitTells x1_4.toNatClampNeg)) (f_rowTriples := f_rowTriples) (f_rowVersions := f_rowVersions) (f_rowTells := f_rowTells) (f_rows := f_rows) (f_latest := f_latest) (f_pins := f_pins) (f_writers := f_writers) (f_sees := f_sees) (f_states := f_states) (f_notes := f_notes) (f_wrote := f_wrote) (f_waitsFor := f_waitsFor) (f_waitTriples := f_waitTriples) (f_waitTells := f_waitTells) (f_since := f_since) (f_clock := f_clock) (f_count := f_count) (f_holders := f_holders) (f_queue := f_queue) (f_queueFrom := f_queueFrom_8) (f_queueTo := f_queueTo) (f_ring := f_ring) (f_ringSize := f_ringSize) (f_failures := f_failures) (f_refusals := f_refusals) (f_thrown := f_thrown) (f_best := f_best) (by rw [show (f_waitTriples x1_4.toNatClampNeg : Int32).toInt = _ from e_12, show (f_waitTells x1_4.toNatClampNeg : Int32).toInt = _ from e_13]; exact hw)) (cwV 3 X.1.2.2.2.2 gX48_117 rfl rfl rfl hX48_write ⟨Nat.le_of_ble_eq_true rfl, Nat.le_of_ble_eq_true rfl⟩) hc (q0 := 0) rfl rfl hl.1 rfl (Nat.le_of_ble_eq_true rfl) dX48_goOn_55 ⟨Nat.le_refl 0, Nat.le_refl 0⟩) (fun u H locs hw hH => ?_)
        obtain ⟨f_states_14, f_wrote_15, f_waitsFor_16, f_waitTriples_17, f_waitTells_18, f_since_19, f_clock_20, f_holders_21, f_queue_22, f_queueTo_23, f_ring_24, f_ringSize_25, f_failures_26⟩ := u
        have hH : kH (dC, dI) cl A s.heap H locs (wX48 ci ad d f_rowTriples f_rowVersions f_rowTells f_rows f_latest f_pins f_writers f_sees f_states_14 f_notes f_wrote_15 f_waitsFor_16 f_waitTriples_17 f_waitTells_18 f_since_19 f_clock_20 f_count f_holders_21 f_queue_22 f_queueFrom_8 f_queueTo_23 f_ring_24 f_ringSize_25 f_failures_26 f_refusals f_thrown f_best) := hH
        refine lv_goto (tgt := 0) hx hb dX48_goOn_58 (by decide) ?_
        exact ih f_states_14 f_wrote_15 f_waitsFor_16 f_waitTriples_17 f_waitTells_18 f_since_19 f_clock_20 f_holders_21 f_queue_22 f_queueFrom_8 f_queueTo_23 f_ring_24 f_ringSize_25 f_failures_26 hw _ _ ls hH (lv_sub hl [1] rfl)
set_option maxHeartbeats 4000000 in
theorem walkX48_goOn {l : Launch} {dC : Nat → ClassId} {dI : Nat → Nat → Nat} {cl : List vw_C} {ci : Nat} (hc : cl[ci]? = some (RX48, TX48, 27)) {ad : Nat → Nat} {d : Nat → ClassId} {sz : Nat} {f_rowTriples : Nat → Int32} {f_rowVersions : Nat → Int32} {f_rowTells : Nat → Int32} {f_rows : Int32} {f_latest : Int32} {f_pins : Nat → Int32} {f_writers : Nat → Int32} {f_sees : Nat → Int32} {f_states : Nat → Int32} {f_notes : Nat → Int32} {f_wrote : Nat → Int32} {f_waitsFor : Nat → Int32} {f_waitTriples : Nat → Int32} {f_waitTells : Nat → Int32} {f_since : Nat → Int32} {f_clock : Int32} {f_count : Int32} {f_holders : Nat → Int32} {f_queue : Nat → Int32} {f_queueFrom : Int32} {f_queueTo : Int32} {f_ring : Nat → Int32} {f_ringSize : Int32} {f_failures : Nat → Int32} {f_refusals : Nat → Int32} {f_thrown : Int32} {f_best : Nat → Int32}  {post : (Int → Int) → (Int → Int) → (Int → Int) → (Int → Int) → (Int → Int) → (Int → Int) → Int → (Int → Int) → (Int → Int) → Int → Int → (Int → Int) → Int → (Int → Int) → Prop} (hw : wpX48_goOn post (zF f_rowTriples) (zF f_rowVersions) f_rows.toInt (zF f_sees) (zF f_states) (zF f_wrote) (zF f_waitsFor) (zF f_waitTriples) (zF f_waitTells) (zF f_since) f_clock.toInt f_count.toInt (zF f_holders) (zF f_queue) f_queueFrom.toInt f_queueTo.toInt (zF f_ring) f_ringSize.toInt (zF f_failures) ) :
    Met l yX48_goOn (ws_ yX48_goOn cX48_goOn 2 none) ({ frames := 4, cells := 0, slots := 0, locals := 97 } : Room) (kPc (dC, dI) cl (tX48 d) [.ref (ad 0)] sz (wX48 ci ad d f_rowTriples f_rowVersions f_rowTells f_rows f_latest f_pins f_writers f_sees f_states f_notes f_wrote f_waitsFor f_waitTriples f_waitTells f_since f_clock f_count f_holders f_queue f_queueFrom f_queueTo f_ring f_ringSize f_failures f_refusals f_thrown f_best)) (va_Qv (fun (u : (Nat → Int32) × (Nat → Int32) × (Nat → Int32) × (Nat → Int32) × (Nat → Int32) × (Nat → Int32) × Int32 × (Nat → Int32) × (Nat → Int32) × Int32 × Int32 × (Nat → Int32) × Int32 × (Nat → Int32)) => post (zF (u.1)) (zF (u.2.1)) (zF (u.2.2.1)) (zF (u.2.2.2.1)) (zF (u.2.2.2.2.1)) (zF (u.2.2.2.2.2.1)) (u.2.2.2.2.2.2.1).toInt (zF (u.2.2.2.2.2.2.2.1)) (zF (u.2.2.2.2.2.2.2.2.1)) (u.2.2.2.2.2.2.2.2.2.1).toInt (u.2.2.2.2.2.2.2.2.2.2.1).toInt (zF (u.2.2.2.2.2.2.2.2.2.2.2.1)) (u.2.2.2.2.2.2.2.2.2.2.2.2.1).toInt (zF (u.2.2.2.2.2.2.2.2.2.2.2.2.2))) (kB (dC, dI) cl (tX48 d) (va_A (wX48 ci ad d f_rowTriples f_rowVersions f_rowTells f_rows f_latest f_pins f_writers f_sees f_states f_notes f_wrote f_waitsFor f_waitTriples f_waitTells f_since f_clock f_count f_holders f_queue f_queueFrom f_queueTo f_ring f_ringSize f_failures f_refusals f_thrown f_best) sz) (fun u : (Nat → Int32) × (Nat → Int32) × (Nat → Int32) × (Nat → Int32) × (Nat → Int32) × (Nat → Int32) × Int32 × (Nat → Int32) × (Nat → Int32) × Int32 × Int32 × (Nat → Int32) × Int32 × (Nat → Int32) => (wX48 ci ad d f_rowTriples f_rowVersions f_rowTells f_rows f_latest f_pins f_writers f_sees (u.1) f_notes (u.2.1) (u.2.2.1) (u.2.2.2.1) (u.2.2.2.2.1) (u.2.2.2.2.2.1) (u.2.2.2.2.2.2.1) f_count (u.2.2.2.2.2.2.2.1) (u.2.2.2.2.2.2.2.2.1) (u.2.2.2.2.2.2.2.2.2.1) (u.2.2.2.2.2.2.2.2.2.2.1) (u.2.2.2.2.2.2.2.2.2.2.2.1) (u.2.2.2.2.2.2.2.2.2.2.2.2.1) (u.2.2.2.2.2.2.2.2.2.2.2.2.2) f_refusals f_thrown f_best))) (va_A (wX48 ci ad d f_rowTriples f_rowVersions f_rowTells f_rows f_latest f_pins f_writers f_sees f_states f_notes f_wrote f_waitsFor f_waitTriples f_waitTells f_since f_clock f_count f_holders f_queue f_queueFrom f_queueTo f_ring f_ringSize f_failures f_refusals f_thrown f_best) sz)) 0 0 (va_A (wX48 ci ad d f_rowTriples f_rowVersions f_rowTells f_rows f_latest f_pins f_writers f_sees f_states f_notes f_wrote f_waitsFor f_waitTriples f_waitTells f_since f_clock f_count f_holders f_queue f_queueFrom f_queueTo f_ring f_ringSize f_failures f_refusals f_thrown f_best) sz) := by
  refine k_enter (by decide) (Nat.le_of_ble_eq_true rfl) ?_
  intro p e s m below meth c ls X hsz hH hl
  subst hsz
  generalize va_A (wX48 ci ad d f_rowTriples f_rowVersions f_rowTells f_rows f_latest f_pins f_writers f_sees f_states f_notes f_wrote f_waitsFor f_waitTriples f_waitTells f_since f_clock f_count f_holders f_queue f_queueFrom f_queueTo f_ring f_ringSize f_failures f_refusals f_thrown f_best) s.heap.size = A at hH ⊢
  have hx := X.1.1
  have hb := X.1.2.1
  have hl : lv_has ls 2 [(0, .ref (ad 0))] := hl
  unfold wpX48_goOn at hw
  obtain ⟨fu, hw⟩ := hw
  refine atX48_goOn_0 hc X ?_ fu f_states f_wrote f_waitsFor f_waitTriples f_waitTells f_since f_clock f_holders f_queue f_queueFrom f_queueTo f_ring f_ringSize f_failures hw _ _ ls hH (lv_sub hl [0] rfl)
  · intro f_states_27 f_wrote_28 f_waitsFor_29 f_waitTriples_30 f_waitTells_31 f_since_32 f_clock_33 f_holders_34 f_queue_35 f_queueFrom_36 f_queueTo_37 f_ring_38 f_ringSize_39 f_failures_40 hw H locs ls hH hl
    refine lv_aload_n hx hb dX48_goOn_61 rfl (lv_at hl 0 rfl) ?_
    refine lv_iconst (v := 0) hx hb dX48_goOn_62 (by decide) ?_
    refine k_put X hH in_X48 tyX48_ok nmX48 0 rfl hc 19 (by decide) q6091 rfl (ty := .int) rfl rfl rfl (Nat.le_of_ble_eq_true rfl) dX48_goOn_63 (ws1 := (wX48 ci ad d f_rowTriples f_rowVersions f_rowTells f_rows f_latest f_pins f_writers f_sees f_states_27 f_notes f_wrote_28 f_waitsFor_29 f_waitTriples_30 f_waitTells_31 f_since_32 f_clock_33 f_count f_holders_34 f_queue_35 0 f_queueTo_37 f_ring_38 f_ringSize_39 f_failures_40 f_refusals f_thrown f_best)) rfl (fun H locs hH => ?_)
    refine lv_aload_n hx hb dX48_goOn_66 rfl (lv_at hl 0 rfl) ?_
    refine lv_iconst (v := 0) hx hb dX48_goOn_67 (by decide) ?_
    refine k_put X hH in_X48 tyX48_ok nmX48 0 rfl hc 20 (by decide) q6092 rfl (ty := .int) rfl rfl rfl (Nat.le_of_ble_eq_true rfl) dX48_goOn_68 (ws1 := (wX48 ci ad d f_rowTriples f_rowVersions f_rowTells f_rows f_latest f_pins f_writers f_sees f_states_27 f_notes f_wrote_28 f_waitsFor_29 f_waitTriples_30 f_waitTells_31 f_since_32 f_clock_33 f_count f_holders_34 f_queue_35 0 0 f_ring_38 f_ringSize_39 f_failures_40 f_refusals f_thrown f_best)) rfl (fun H locs hH => ?_)
    exact k_vret X hH (f_states_27, f_wrote_28, f_waitsFor_29, f_waitTriples_30, f_waitTells_31, f_since_32, f_clock_33, f_holders_34, f_queue_35, 0, 0, f_ring_38, f_ringSize_39, f_failures_40) hw rfl dX48_goOn_71
set_option maxHeartbeats 4000000 in
theorem atX48_put_43 {p : Program} {l : Launch} {e : Env} {s : State} {m : MethodId} {args : Array Value} {below : List Frame} {meth : Method} {c : Code} {dC : Nat → ClassId} {dI : Nat → Nat → Nat} {cl : List vw_C} {ci : Nat} (hc : cl[ci]? = some (RX48, TX48, 27)) {ad : Nat → Nat} {d : Nat → ClassId} {A : Nat → Prop} {post : Int → (Int → Int) → (Int → Int) → (Int → Int) → (Int → Int) → (Int → Int) → (Int → Int) → Int → (Int → Int) → (Int → Int) → Int → Int → (Int → Int) → Int → (Int → Int) → Int → Prop} {f_rowTriples : Nat → Int32} {f_rowVersions : Nat → Int32} {f_rowTells : Nat → Int32} {f_rows : Int32} {f_latest : Int32} {f_pins : Nat → Int32} {f_writers : Nat → Int32} {f_sees : Nat → Int32} {f_notes : Nat → Int32} {f_count : Int32} {f_refusals : Nat → Int32} {f_best : Nat → Int32} (X : kX p s m args meth c cX48_put 6 RX48 (some .int) (dC, dI) cl (tX48 d))     :
    ∀ (x1 : Int32) (x2 : Int32) (x3 : Int32) (y1 : Int32) (y2 : Int32) (f_states : Nat → Int32) (f_wrote : Nat → Int32) (f_waitsFor : Nat → Int32) (f_waitTriples : Nat → Int32) (f_waitTells : Nat → Int32) (f_since : Nat → Int32) (f_clock : Int32) (f_holders : Nat → Int32) (f_queue : Nat → Int32) (f_queueFrom : Int32) (f_queueTo : Int32) (f_ring : Nat → Int32) (f_ringSize : Int32) (f_failures : Nat → Int32) (f_thrown : Int32), wX48_put_43 post x1.toInt x2.toInt x3.toInt y1.toInt y2.toInt (zF f_rowTriples) (zF f_rowVersions) f_rows.toInt (zF f_sees) (zF f_states) (zF f_wrote) (zF f_waitsFor) (zF f_waitTriples) (zF f_waitTells) (zF f_since) f_clock.toInt f_count.toInt (zF f_holders) (zF f_queue) f_queueFrom.toInt f_queueTo.toInt (zF f_ring) f_ringSize.toInt (zF f_failures) → ∀ (H : Heap) (locs : List Loc) (ls : Array Slot), kH (dC, dI) cl A s.heap H locs (wX48 ci ad d f_rowTriples f_rowVersions f_rowTells f_rows f_latest f_pins f_writers f_sees f_states f_notes f_wrote f_waitsFor f_waitTriples f_waitTells f_since f_clock f_count f_holders f_queue f_queueFrom f_queueTo f_ring f_ringSize f_failures f_refusals f_thrown f_best) → lv_has ls 6 [(0, .ref (ad 0)), (1, .int x1), (2, .int x2), (3, .int x3)] → W p l e ({ frames := 5, cells := 0, slots := 0, locals := 118 } : Room) s m args below meth c H locs 0 0 (MQ below (va_Qi (fun (r : Int32) (u : (Nat → Int32) × (Nat → Int32) × (Nat → Int32) × (Nat → Int32) × (Nat → Int32) × (Nat → Int32) × Int32 × (Nat → Int32) × (Nat → Int32) × Int32 × Int32 × (Nat → Int32) × Int32 × (Nat → Int32) × Int32) => post r.toInt (zF (u.1)) (zF (u.2.1)) (zF (u.2.2.1)) (zF (u.2.2.2.1)) (zF (u.2.2.2.2.1)) (zF (u.2.2.2.2.2.1)) (u.2.2.2.2.2.2.1).toInt (zF (u.2.2.2.2.2.2.2.1)) (zF (u.2.2.2.2.2.2.2.2.1)) (u.2.2.2.2.2.2.2.2.2.1).toInt (u.2.2.2.2.2.2.2.2.2.2.1).toInt (zF (u.2.2.2.2.2.2.2.2.2.2.2.1)) (u.2.2.2.2.2.2.2.2.2.2.2.2.1).toInt (zF (u.2.2.2.2.2.2.2.2.2.2.2.2.2.1)) (u.2.2.2.2.2.2.2.2.2.2.2.2.2.2).toInt) (kB (dC, dI) cl (tX48 d) A (fun u : (Nat → Int32) × (Nat → Int32) × (Nat → Int32) × (Nat → Int32) × (Nat → Int32) × (Nat → Int32) × Int32 × (Nat → Int32) × (Nat → Int32) × Int32 × Int32 × (Nat → Int32) × Int32 × (Nat → Int32) × Int32 => (wX48 ci ad d f_rowTriples f_rowVersions f_rowTells f_rows f_latest f_pins f_writers f_sees (u.1) f_notes (u.2.1) (u.2.2.1) (u.2.2.2.1) (u.2.2.2.2.1) (u.2.2.2.2.2.1) (u.2.2.2.2.2.2.1) f_count (u.2.2.2.2.2.2.2.1) (u.2.2.2.2.2.2.2.2.1) (u.2.2.2.2.2.2.2.2.2.1) (u.2.2.2.2.2.2.2.2.2.2.1) (u.2.2.2.2.2.2.2.2.2.2.2.1) (u.2.2.2.2.2.2.2.2.2.2.2.2.1) (u.2.2.2.2.2.2.2.2.2.2.2.2.2.1) f_refusals (u.2.2.2.2.2.2.2.2.2.2.2.2.2.2) f_best))) A) args s 0 0 A) (F0 m 43 ls [.int y2, .int y1, .ref (ad 0)]) := by
  have hx := X.1.1
  have hb := X.1.2.1
  intro x1 x2 x3 y1 y2 f_states f_wrote f_waitsFor f_waitTriples f_waitTells f_since f_clock f_holders f_queue f_queueFrom f_queueTo f_ring f_ringSize f_failures f_thrown hw H locs ls hH hl
  unfold wX48_put_43 at hw
  refine k_i0 hH (k_runV (As := [.int y1, .int y2]) (rest := []) X hH.1 hH.2.1 X.2.2.2 (walkX48_fails hc (x1 := y1) (x2 := y2) (f_rowTriples := f_rowTriples) (f_rowVersions := f_rowVersions) (f_rowTells := f_rowTells) (f_rows := f_rows) (f_latest := f_latest) (f_pins := f_pins) (f_writers := f_writers) (f_sees := f_sees) (f_states := f_states) (f_notes := f_notes) (f_wrote := f_wrote) (f_waitsFor := f_waitsFor) (f_waitTriples := f_waitTriples) (f_waitTells := f_waitTells) (f_since := f_since) (f_clock := f_clock) (f_count := f_count) (f_holders := f_holders) (f_queue := f_queue) (f_queueFrom := f_queueFrom) (f_queueTo := f_queueTo) (f_ring := f_ring) (f_ringSize := f_ringSize) (f_failures := f_failures) (f_refusals := f_refusals) (f_thrown := f_thrown) (f_best := f_best) hw) (cwV 2 X.1.2.2.2.2 gX48_99 rfl rfl rfl hX48_fails ⟨Nat.le_of_ble_eq_true rfl, Nat.le_of_ble_eq_true rfl⟩) hc (q0 := 0) rfl rfl hl.1 rfl (Nat.le_of_ble_eq_true rfl) dX48_put_43 ⟨Nat.le_refl 0, Nat.le_refl 0⟩) (fun r_4 u H locs hw hH => ?_)
  obtain ⟨f_thrown_5, eu⟩ : ∃ z, z = u := ⟨_, rfl⟩
  subst eu
  have hH : kH (dC, dI) cl A s.heap H locs (wX48 ci ad d f_rowTriples f_rowVersions f_rowTells f_rows f_latest f_pins f_writers f_sees f_states f_notes f_wrote f_waitsFor f_waitTriples f_waitTells f_since f_clock f_count f_holders f_queue f_queueFrom f_queueTo f_ring f_ringSize f_failures f_refusals f_thrown_5 f_best) := hH
  refine lv_if_eq (tgt := 51) hx hb dX48_put_46 (by decide) (fun c_6 => ?_) (fun c_6 => ?_)
  · have hw := hw.1 (z_eq (rfl : r_4.toInt = _) (rfl : (0 : Int32).toInt = 0) c_6)
    refine lv_aload_n hx hb dX48_put_51 rfl (lv_at hl 0 rfl) ?_
    refine lv_iload_n hx hb dX48_put_52 rfl (lv_at hl 1 rfl) ?_
    refine lv_iload_n hx hb dX48_put_53 rfl (lv_at hl 2 rfl) ?_
    refine lv_iload_n hx hb dX48_put_54 rfl (lv_at hl 3 rfl) ?_
    refine k_v0 hH (k_runV (As := [.int x1, .int x2, .int x3]) (rest := []) X hH.1 hH.2.1 X.2.2.2 (walkX48_write hc (x1 := x1) (x2 := x2) (x3 := x3) (f_rowTriples := f_rowTriples) (f_rowVersions := f_rowVersions) (f_rowTells := f_rowTells) (f_rows := f_rows) (f_latest := f_latest) (f_pins := f_pins) (f_writers := f_writers) (f_sees := f_sees) (f_states := f_states) (f_notes := f_notes) (f_wrote := f_wrote) (f_waitsFor := f_waitsFor) (f_waitTriples := f_waitTriples) (f_waitTells := f_waitTells) (f_since := f_since) (f_clock := f_clock) (f_count := f_count) (f_holders := f_holders) (f_queue := f_queue) (f_queueFrom := f_queueFrom) (f_queueTo := f_queueTo) (f_ring := f_ring) (f_ringSize := f_ringSize) (f_failures := f_failures) (f_refusals := f_refusals) (f_thrown := f_thrown_5) (f_best := f_best) hw) (cwV 3 X.1.2.2.2.2 gX48_117 rfl rfl rfl hX48_write ⟨Nat.le_of_ble_eq_true rfl, Nat.le_of_ble_eq_true rfl⟩) hc (q0 := 0) rfl rfl hl.1 rfl (Nat.le_of_ble_eq_true rfl) dX48_put_55 ⟨Nat.le_refl 0, Nat.le_refl 0⟩) (fun u H locs hw hH => ?_)
    obtain ⟨f_states_7, f_wrote_8, f_waitsFor_9, f_waitTriples_10, f_waitTells_11, f_since_12, f_clock_13, f_holders_14, f_queue_15, f_queueTo_16, f_ring_17, f_ringSize_18, f_failures_19⟩ := u
    have hH : kH (dC, dI) cl A s.heap H locs (wX48 ci ad d f_rowTriples f_rowVersions f_rowTells f_rows f_latest f_pins f_writers f_sees f_states_7 f_notes f_wrote_8 f_waitsFor_9 f_waitTriples_10 f_waitTells_11 f_since_12 f_clock_13 f_count f_holders_14 f_queue_15 f_queueFrom f_queueTo_16 f_ring_17 f_ringSize_18 f_failures_19 f_refusals f_thrown_5 f_best) := hH
    refine lv_aload_n hx hb dX48_put_58 rfl (lv_at hl 0 rfl) ?_
    refine k_v0 hH (k_runV (As := []) (rest := []) X hH.1 hH.2.1 X.2.2.2 (walkX48_goOn hc (f_rowTriples := f_rowTriples) (f_rowVersions := f_rowVersions) (f_rowTells := f_rowTells) (f_rows := f_rows) (f_latest := f_latest) (f_pins := f_pins) (f_writers := f_writers) (f_sees := f_sees) (f_states := f_states_7) (f_notes := f_notes) (f_wrote := f_wrote_8) (f_waitsFor := f_waitsFor_9) (f_waitTriples := f_waitTriples_10) (f_waitTells := f_waitTells_11) (f_since := f_since_12) (f_clock := f_clock_13) (f_count := f_count) (f_holders := f_holders_14) (f_queue := f_queue_15) (f_queueFrom := f_queueFrom) (f_queueTo := f_queueTo_16) (f_ring := f_ring_17) (f_ringSize := f_ringSize_18) (f_failures := f_failures_19) (f_refusals := f_refusals) (f_thrown := f_thrown_5) (f_best := f_best) hw) (cwV 0 X.1.2.2.2.2 gX48_121 rfl rfl rfl hX48_goOn ⟨Nat.le_of_ble_eq_true rfl, Nat.le_of_ble_eq_true rfl⟩) hc (q0 := 0) rfl rfl hl.1 rfl (Nat.le_of_ble_eq_true rfl) dX48_put_59 ⟨Nat.le_refl 0, Nat.le_refl 0⟩) (fun u H locs hw hH => ?_)
    obtain ⟨f_states_20, f_wrote_21, f_waitsFor_22, f_waitTriples_23, f_waitTells_24, f_since_25, f_clock_26, f_holders_27, f_queue_28, f_queueFrom_29, f_queueTo_30, f_ring_31, f_ringSize_32, f_failures_33⟩ := u
    have hH : kH (dC, dI) cl A s.heap H locs (wX48 ci ad d f_rowTriples f_rowVersions f_rowTells f_rows f_latest f_pins f_writers f_sees f_states_20 f_notes f_wrote_21 f_waitsFor_22 f_waitTriples_23 f_waitTells_24 f_since_25 f_clock_26 f_count f_holders_27 f_queue_28 f_queueFrom_29 f_queueTo_30 f_ring_31 f_ringSize_32 f_failures_33 f_refusals f_thrown_5 f_best) := hH
    refine lv_aload_n hx hb dX48_put_62 rfl (lv_at hl 0 rfl) ?_
    refine k_get X hH in_X48 0 rfl hc 8 (by decide) q6080 rfl dX48_put_63 ?_
    refine lv_iload_n hx hb dX48_put_66 rfl (lv_at hl 1 rfl) ?_
    have hq_34 := hw.1
    have hw := hw.2
    refine k_iald X hH 7 6 rfl rfl (z_in (rfl : x1.toInt = _) hq_34) dX48_put_67 ?_
    have e_35 := z_ld (f := f_states_20) (rfl : x1.toInt = _) hq_34.1
    refine lv_topi (fun x5_36 ex5_36 => ?_)
    have hw := hw x5_36.toInt (by rw [ex5_36]; exact e_35)
    refine lv_istore (lv' := [(5, .int x5_36), (0, .ref (ad 0)), (1, .int x1), (2, .int x2), (3, .int x3)]) hx hb dX48_put_68 hl (by decide) rfl (fun ls hl => ?_)
    refine lv_iload hx hb dX48_put_70 (lv_at hl 0 rfl) ?_
    refine lv_if_ne (tgt := 79) hx hb dX48_put_72 (by decide) (fun c_37 => ?_) (fun c_37 => ?_)
    · have hw := hw.2 (z_ne (rfl : x5_36.toInt = _) (rfl : (0 : Int32).toInt = 0) c_37)
      refine lv_iload hx hb dX48_put_79 (lv_at hl 0 rfl) ?_
      refine lv_iconst (v := 1) hx hb dX48_put_81 (by decide) ?_
      refine lv_icmp_ne (tgt := 89) hx hb dX48_put_82 (by decide) (fun c_38 => ?_) (fun c_38 => ?_)
      · have hw := hw.2 (z_ne (rfl : x5_36.toInt = _) (rfl : (1 : Int32).toInt = 1) c_38)
        refine lv_iload hx hb dX48_put_89 (lv_at hl 0 rfl) ?_
        refine lv_iconst (v := 2) hx hb dX48_put_91 (by decide) ?_
        refine lv_icmp_ne (tgt := 99) hx hb dX48_put_92 (by decide) (fun c_39 => ?_) (fun c_39 => ?_)
        · have hw := hw.2 (z_ne (rfl : x5_36.toInt = _) (rfl : (2 : Int32).toInt = 2) c_39)
          refine lv_bipush (v := (-2)) hx hb dX48_put_99 (by decide) ?_
          exact k_iret (v := (-2)) X hH (f_states_20, f_wrote_21, f_waitsFor_22, f_waitTriples_23, f_waitTells_24, f_since_25, f_clock_26, f_holders_27, f_queue_28, f_queueFrom_29, f_queueTo_30, f_ring_31, f_ringSize_32, f_failures_33, f_thrown_5) hw rfl rfl dX48_put_101
        · have hw := hw.1 (z_eq (rfl : x5_36.toInt = _) (rfl : (2 : Int32).toInt = 2) c_39)
          refine lv_iconst (v := (-1)) hx hb dX48_put_95 (by decide) ?_
          refine lv_goto (tgt := 101) hx hb dX48_put_96 (by decide) ?_
          exact k_iret (v := (-1)) X hH (f_states_20, f_wrote_21, f_waitsFor_22, f_waitTriples_23, f_waitTells_24, f_since_25, f_clock_26, f_holders_27, f_queue_28, f_queueFrom_29, f_queueTo_30, f_ring_31, f_ringSize_32, f_failures_33, f_thrown_5) hw rfl rfl dX48_put_101
      · have hw := hw.1 (z_eq (rfl : x5_36.toInt = _) (rfl : (1 : Int32).toInt = 1) c_38)
        refine lv_iconst (v := 0) hx hb dX48_put_85 (by decide) ?_
        refine lv_goto (tgt := 101) hx hb dX48_put_86 (by decide) ?_
        exact k_iret (v := 0) X hH (f_states_20, f_wrote_21, f_waitsFor_22, f_waitTriples_23, f_waitTells_24, f_since_25, f_clock_26, f_holders_27, f_queue_28, f_queueFrom_29, f_queueTo_30, f_ring_31, f_ringSize_32, f_failures_33, f_thrown_5) hw rfl rfl dX48_put_101
    · have hw := hw.1 (z_eq (rfl : x5_36.toInt = _) (rfl : (0 : Int32).toInt = 0) c_37)
      refine lv_iconst (v := 1) hx hb dX48_put_75 (by decide) ?_
      refine lv_goto (tgt := 101) hx hb dX48_put_76 (by decide) ?_
      exact k_iret (v := 1) X hH (f_states_20, f_wrote_21, f_waitsFor_22, f_waitTriples_23, f_waitTells_24, f_since_25, f_clock_26, f_holders_27, f_queue_28, f_queueFrom_29, f_queueTo_30, f_ring_31, f_ringSize_32, f_failures_33, f_thrown_5) hw rfl rfl dX48_put_101
  · have hw := hw.2 (z_neq (rfl : r_4.toInt = _) (rfl : (0 : Int32).toInt = 0) c_6)
    refine lv_iconst (v := 0) hx hb dX48_put_49 (by decide) ?_
    exact k_iret (v := 0) X hH (f_states, f_wrote, f_waitsFor, f_waitTriples, f_waitTells, f_since, f_clock, f_holders, f_queue, f_queueFrom, f_queueTo, f_ring, f_ringSize, f_failures, f_thrown_5) hw rfl rfl dX48_put_50
set_option maxHeartbeats 4000000 in
theorem atX48_put_20 {p : Program} {l : Launch} {e : Env} {s : State} {m : MethodId} {args : Array Value} {below : List Frame} {meth : Method} {c : Code} {dC : Nat → ClassId} {dI : Nat → Nat → Nat} {cl : List vw_C} {ci : Nat} (hc : cl[ci]? = some (RX48, TX48, 27)) {ad : Nat → Nat} {d : Nat → ClassId} {A : Nat → Prop} {post : Int → (Int → Int) → (Int → Int) → (Int → Int) → (Int → Int) → (Int → Int) → (Int → Int) → Int → (Int → Int) → (Int → Int) → Int → Int → (Int → Int) → Int → (Int → Int) → Int → Prop} {f_rowTriples : Nat → Int32} {f_rowVersions : Nat → Int32} {f_rowTells : Nat → Int32} {f_rows : Int32} {f_latest : Int32} {f_pins : Nat → Int32} {f_writers : Nat → Int32} {f_sees : Nat → Int32} {f_notes : Nat → Int32} {f_count : Int32} {f_refusals : Nat → Int32} {f_best : Nat → Int32} (X : kX p s m args meth c cX48_put 6 RX48 (some .int) (dC, dI) cl (tX48 d))     :
    ∀ (x1 : Int32) (x2 : Int32) (x3 : Int32) (y0 : Int32) (f_states : Nat → Int32) (f_wrote : Nat → Int32) (f_waitsFor : Nat → Int32) (f_waitTriples : Nat → Int32) (f_waitTells : Nat → Int32) (f_since : Nat → Int32) (f_clock : Int32) (f_holders : Nat → Int32) (f_queue : Nat → Int32) (f_queueFrom : Int32) (f_queueTo : Int32) (f_ring : Nat → Int32) (f_ringSize : Int32) (f_failures : Nat → Int32) (f_thrown : Int32), wX48_put_20 post x1.toInt x2.toInt x3.toInt y0.toInt (zF f_rowTriples) (zF f_rowVersions) f_rows.toInt (zF f_writers) (zF f_sees) (zF f_states) (zF f_wrote) (zF f_waitsFor) (zF f_waitTriples) (zF f_waitTells) (zF f_since) f_clock.toInt f_count.toInt (zF f_holders) (zF f_queue) f_queueFrom.toInt f_queueTo.toInt (zF f_ring) f_ringSize.toInt (zF f_failures) → ∀ (H : Heap) (locs : List Loc) (ls : Array Slot), kH (dC, dI) cl A s.heap H locs (wX48 ci ad d f_rowTriples f_rowVersions f_rowTells f_rows f_latest f_pins f_writers f_sees f_states f_notes f_wrote f_waitsFor f_waitTriples f_waitTells f_since f_clock f_count f_holders f_queue f_queueFrom f_queueTo f_ring f_ringSize f_failures f_refusals f_thrown f_best) → lv_has ls 6 [(0, .ref (ad 0)), (1, .int x1), (2, .int x2), (3, .int x3)] → W p l e ({ frames := 5, cells := 0, slots := 0, locals := 118 } : Room) s m args below meth c H locs 0 0 (MQ below (va_Qi (fun (r : Int32) (u : (Nat → Int32) × (Nat → Int32) × (Nat → Int32) × (Nat → Int32) × (Nat → Int32) × (Nat → Int32) × Int32 × (Nat → Int32) × (Nat → Int32) × Int32 × Int32 × (Nat → Int32) × Int32 × (Nat → Int32) × Int32) => post r.toInt (zF (u.1)) (zF (u.2.1)) (zF (u.2.2.1)) (zF (u.2.2.2.1)) (zF (u.2.2.2.2.1)) (zF (u.2.2.2.2.2.1)) (u.2.2.2.2.2.2.1).toInt (zF (u.2.2.2.2.2.2.2.1)) (zF (u.2.2.2.2.2.2.2.2.1)) (u.2.2.2.2.2.2.2.2.2.1).toInt (u.2.2.2.2.2.2.2.2.2.2.1).toInt (zF (u.2.2.2.2.2.2.2.2.2.2.2.1)) (u.2.2.2.2.2.2.2.2.2.2.2.2.1).toInt (zF (u.2.2.2.2.2.2.2.2.2.2.2.2.2.1)) (u.2.2.2.2.2.2.2.2.2.2.2.2.2.2).toInt) (kB (dC, dI) cl (tX48 d) A (fun u : (Nat → Int32) × (Nat → Int32) × (Nat → Int32) × (Nat → Int32) × (Nat → Int32) × (Nat → Int32) × Int32 × (Nat → Int32) × (Nat → Int32) × Int32 × Int32 × (Nat → Int32) × Int32 × (Nat → Int32) × Int32 => (wX48 ci ad d f_rowTriples f_rowVersions f_rowTells f_rows f_latest f_pins f_writers f_sees (u.1) f_notes (u.2.1) (u.2.2.1) (u.2.2.2.1) (u.2.2.2.2.1) (u.2.2.2.2.2.1) (u.2.2.2.2.2.2.1) f_count (u.2.2.2.2.2.2.2.1) (u.2.2.2.2.2.2.2.2.1) (u.2.2.2.2.2.2.2.2.2.1) (u.2.2.2.2.2.2.2.2.2.2.1) (u.2.2.2.2.2.2.2.2.2.2.2.1) (u.2.2.2.2.2.2.2.2.2.2.2.2.1) (u.2.2.2.2.2.2.2.2.2.2.2.2.2.1) f_refusals (u.2.2.2.2.2.2.2.2.2.2.2.2.2.2) f_best))) A) args s 0 0 A) (F0 m 20 ls [.int y0]) := by
  have hx := X.1.1
  have hb := X.1.2.1
  intro x1 x2 x3 y0 f_states f_wrote f_waitsFor f_waitTriples f_waitTells f_since f_clock f_holders f_queue f_queueFrom f_queueTo f_ring f_ringSize f_failures f_thrown hw H locs ls hH hl
  unfold wX48_put_20 at hw
  refine lv_istore (lv' := [(4, .int y0), (0, .ref (ad 0)), (1, .int x1), (2, .int x2), (3, .int x3)]) hx hb dX48_put_20 hl (by decide) rfl (fun ls hl => ?_)
  refine lv_aload_n hx hb dX48_put_22 rfl (lv_at hl 1 rfl) ?_
  refine lv_iload hx hb dX48_put_23 (lv_at hl 0 rfl) ?_
  refine lv_iload hx hb dX48_put_25 (lv_at hl 0 rfl) ?_
  refine lv_if_eq (tgt := 42) hx hb dX48_put_27 (by decide) (fun c_3 => ?_) (fun c_3 => ?_)
  · have hw := hw.1 (z_eq (rfl : y0.toInt = _) (rfl : (0 : Int32).toInt = 0) c_3)
    refine lv_iconst (v := 0) hx hb dX48_put_42 (by decide) ?_
    exact atX48_put_43 hc X x1 x2 x3 y0 0 f_states f_wrote f_waitsFor f_waitTriples f_waitTells f_since f_clock f_holders f_queue f_queueFrom f_queueTo f_ring f_ringSize f_failures f_thrown hw _ _ ls hH (lv_sub hl [1, 2, 3, 4] rfl)
  · have hw := hw.2 (z_neq (rfl : y0.toInt = _) (rfl : (0 : Int32).toInt = 0) c_3)
    refine lv_aload_n hx hb dX48_put_30 rfl (lv_at hl 1 rfl) ?_
    refine lv_iload_n hx hb dX48_put_31 rfl (lv_at hl 2 rfl) ?_
    refine k_i0 hH (k_runV (As := [.int x1]) (rest := [.int y0, .ref (ad 0)]) X hH.1 hH.2.1 X.2.2.2 (walkX48_canWrite hc (x1 := x1) (f_rowTriples := f_rowTriples) (f_rowVersions := f_rowVersions) (f_rowTells := f_rowTells) (f_rows := f_rows) (f_latest := f_latest) (f_pins := f_pins) (f_writers := f_writers) (f_sees := f_sees) (f_states := f_states) (f_notes := f_notes) (f_wrote := f_wrote) (f_waitsFor := f_waitsFor) (f_waitTriples := f_waitTriples) (f_waitTells := f_waitTells) (f_since := f_since) (f_clock := f_clock) (f_count := f_count) (f_holders := f_holders) (f_queue := f_queue) (f_queueFrom := f_queueFrom) (f_queueTo := f_queueTo) (f_ring := f_ring) (f_ringSize := f_ringSize) (f_failures := f_failures) (f_refusals := f_refusals) (f_thrown := f_thrown) (f_best := f_best) hw) (cwV 1 X.1.2.2.2.2 gX48_114 rfl rfl rfl hX48_canWrite ⟨Nat.le_of_ble_eq_true rfl, Nat.le_of_ble_eq_true rfl⟩) hc (q0 := 0) rfl rfl hl.1 rfl (Nat.le_of_ble_eq_true rfl) dX48_put_32 ⟨Nat.le_refl 0, Nat.le_refl 0⟩) (fun r_40 _ H locs hw hH => ?_)
    have hH : kH (dC, dI) cl A s.heap H locs (wX48 ci ad d f_rowTriples f_rowVersions f_rowTells f_rows f_latest f_pins f_writers f_sees f_states f_notes f_wrote f_waitsFor f_waitTriples f_waitTells f_since f_clock f_count f_holders f_queue f_queueFrom f_queueTo f_ring f_ringSize f_failures f_refusals f_thrown f_best) := hH
    refine lv_if_eq (tgt := 42) hx hb dX48_put_35 (by decide) (fun c_41 => ?_) (fun c_41 => ?_)
    · have hw := hw.1 (z_eq (rfl : r_40.toInt = _) (rfl : (0 : Int32).toInt = 0) c_41)
      refine lv_iconst (v := 0) hx hb dX48_put_42 (by decide) ?_
      exact atX48_put_43 hc X x1 x2 x3 y0 0 f_states f_wrote f_waitsFor f_waitTriples f_waitTells f_since f_clock f_holders f_queue f_queueFrom f_queueTo f_ring f_ringSize f_failures f_thrown hw _ _ ls hH (lv_sub hl [1, 2, 3, 4] rfl)
    · have hw := hw.2 (z_neq (rfl : r_40.toInt = _) (rfl : (0 : Int32).toInt = 0) c_41)
      refine lv_iconst (v := 1) hx hb dX48_put_38 (by decide) ?_
      refine lv_goto (tgt := 43) hx hb dX48_put_39 (by decide) ?_
      exact atX48_put_43 hc X x1 x2 x3 y0 1 f_states f_wrote f_waitsFor f_waitTriples f_waitTells f_since f_clock f_holders f_queue f_queueFrom f_queueTo f_ring f_ringSize f_failures f_thrown hw _ _ ls hH (lv_sub hl [1, 2, 3, 4] rfl)
set_option maxHeartbeats 4000000 in
theorem walkX48_put {l : Launch} {dC : Nat → ClassId} {dI : Nat → Nat → Nat} {cl : List vw_C} {ci : Nat} (hc : cl[ci]? = some (RX48, TX48, 27)) {ad : Nat → Nat} {d : Nat → ClassId} {sz : Nat} {f_rowTriples : Nat → Int32} {f_rowVersions : Nat → Int32} {f_rowTells : Nat → Int32} {f_rows : Int32} {f_latest : Int32} {f_pins : Nat → Int32} {f_writers : Nat → Int32} {f_sees : Nat → Int32} {f_states : Nat → Int32} {f_notes : Nat → Int32} {f_wrote : Nat → Int32} {f_waitsFor : Nat → Int32} {f_waitTriples : Nat → Int32} {f_waitTells : Nat → Int32} {f_since : Nat → Int32} {f_clock : Int32} {f_count : Int32} {f_holders : Nat → Int32} {f_queue : Nat → Int32} {f_queueFrom : Int32} {f_queueTo : Int32} {f_ring : Nat → Int32} {f_ringSize : Int32} {f_failures : Nat → Int32} {f_refusals : Nat → Int32} {f_thrown : Int32} {f_best : Nat → Int32} {x1 : Int32} {x2 : Int32} {x3 : Int32} {post : Int → (Int → Int) → (Int → Int) → (Int → Int) → (Int → Int) → (Int → Int) → (Int → Int) → Int → (Int → Int) → (Int → Int) → Int → Int → (Int → Int) → Int → (Int → Int) → Int → Prop} (hw : wpX48_put post (zF f_rowTriples) (zF f_rowVersions) f_rows.toInt (zF f_writers) (zF f_sees) (zF f_states) (zF f_wrote) (zF f_waitsFor) (zF f_waitTriples) (zF f_waitTells) (zF f_since) f_clock.toInt f_count.toInt (zF f_holders) (zF f_queue) f_queueFrom.toInt f_queueTo.toInt (zF f_ring) f_ringSize.toInt (zF f_failures) x1.toInt x2.toInt x3.toInt) :
    Met l yX48_put (ws_ yX48_put cX48_put 6 (some .int)) ({ frames := 5, cells := 0, slots := 0, locals := 118 } : Room) (kPc (dC, dI) cl (tX48 d) [.ref (ad 0), .int x1, .int x2, .int x3] sz (wX48 ci ad d f_rowTriples f_rowVersions f_rowTells f_rows f_latest f_pins f_writers f_sees f_states f_notes f_wrote f_waitsFor f_waitTriples f_waitTells f_since f_clock f_count f_holders f_queue f_queueFrom f_queueTo f_ring f_ringSize f_failures f_refusals f_thrown f_best)) (va_Qi (fun (r : Int32) (u : (Nat → Int32) × (Nat → Int32) × (Nat → Int32) × (Nat → Int32) × (Nat → Int32) × (Nat → Int32) × Int32 × (Nat → Int32) × (Nat → Int32) × Int32 × Int32 × (Nat → Int32) × Int32 × (Nat → Int32) × Int32) => post r.toInt (zF (u.1)) (zF (u.2.1)) (zF (u.2.2.1)) (zF (u.2.2.2.1)) (zF (u.2.2.2.2.1)) (zF (u.2.2.2.2.2.1)) (u.2.2.2.2.2.2.1).toInt (zF (u.2.2.2.2.2.2.2.1)) (zF (u.2.2.2.2.2.2.2.2.1)) (u.2.2.2.2.2.2.2.2.2.1).toInt (u.2.2.2.2.2.2.2.2.2.2.1).toInt (zF (u.2.2.2.2.2.2.2.2.2.2.2.1)) (u.2.2.2.2.2.2.2.2.2.2.2.2.1).toInt (zF (u.2.2.2.2.2.2.2.2.2.2.2.2.2.1)) (u.2.2.2.2.2.2.2.2.2.2.2.2.2.2).toInt) (kB (dC, dI) cl (tX48 d) (va_A (wX48 ci ad d f_rowTriples f_rowVersions f_rowTells f_rows f_latest f_pins f_writers f_sees f_states f_notes f_wrote f_waitsFor f_waitTriples f_waitTells f_since f_clock f_count f_holders f_queue f_queueFrom f_queueTo f_ring f_ringSize f_failures f_refusals f_thrown f_best) sz) (fun u : (Nat → Int32) × (Nat → Int32) × (Nat → Int32) × (Nat → Int32) × (Nat → Int32) × (Nat → Int32) × Int32 × (Nat → Int32) × (Nat → Int32) × Int32 × Int32 × (Nat → Int32) × Int32 × (Nat → Int32) × Int32 => (wX48 ci ad d f_rowTriples f_rowVersions f_rowTells f_rows f_latest f_pins f_writers f_sees (u.1) f_notes (u.2.1) (u.2.2.1) (u.2.2.2.1) (u.2.2.2.2.1) (u.2.2.2.2.2.1) (u.2.2.2.2.2.2.1) f_count (u.2.2.2.2.2.2.2.1) (u.2.2.2.2.2.2.2.2.1) (u.2.2.2.2.2.2.2.2.2.1) (u.2.2.2.2.2.2.2.2.2.2.1) (u.2.2.2.2.2.2.2.2.2.2.2.1) (u.2.2.2.2.2.2.2.2.2.2.2.2.1) (u.2.2.2.2.2.2.2.2.2.2.2.2.2.1) f_refusals (u.2.2.2.2.2.2.2.2.2.2.2.2.2.2) f_best))) (va_A (wX48 ci ad d f_rowTriples f_rowVersions f_rowTells f_rows f_latest f_pins f_writers f_sees f_states f_notes f_wrote f_waitsFor f_waitTriples f_waitTells f_since f_clock f_count f_holders f_queue f_queueFrom f_queueTo f_ring f_ringSize f_failures f_refusals f_thrown f_best) sz)) 0 0 (va_A (wX48 ci ad d f_rowTriples f_rowVersions f_rowTells f_rows f_latest f_pins f_writers f_sees f_states f_notes f_wrote f_waitsFor f_waitTriples f_waitTells f_since f_clock f_count f_holders f_queue f_queueFrom f_queueTo f_ring f_ringSize f_failures f_refusals f_thrown f_best) sz) := by
  refine k_enter (by decide) (Nat.le_of_ble_eq_true rfl) ?_
  intro p e s m below meth c ls X hsz hH hl
  subst hsz
  generalize va_A (wX48 ci ad d f_rowTriples f_rowVersions f_rowTells f_rows f_latest f_pins f_writers f_sees f_states f_notes f_wrote f_waitsFor f_waitTriples f_waitTells f_since f_clock f_count f_holders f_queue f_queueFrom f_queueTo f_ring f_ringSize f_failures f_refusals f_thrown f_best) s.heap.size = A at hH ⊢
  have hx := X.1.1
  have hb := X.1.2.1
  have hl : lv_has ls 6 [(0, .ref (ad 0)), (1, .int x1), (2, .int x2), (3, .int x3)] := hl
  unfold wpX48_put at hw
  refine lv_aload_n hx hb dX48_put_0 rfl (lv_at hl 0 rfl) ?_
  refine lv_iload_n hx hb dX48_put_1 rfl (lv_at hl 1 rfl) ?_
  refine k_i0 hH (k_runV (As := [.int x1]) (rest := []) X hH.1 hH.2.1 X.2.2.2 (walkX48_isTransaction hc (x1 := x1) (f_rowTriples := f_rowTriples) (f_rowVersions := f_rowVersions) (f_rowTells := f_rowTells) (f_rows := f_rows) (f_latest := f_latest) (f_pins := f_pins) (f_writers := f_writers) (f_sees := f_sees) (f_states := f_states) (f_notes := f_notes) (f_wrote := f_wrote) (f_waitsFor := f_waitsFor) (f_waitTriples := f_waitTriples) (f_waitTells := f_waitTells) (f_since := f_since) (f_clock := f_clock) (f_count := f_count) (f_holders := f_holders) (f_queue := f_queue) (f_queueFrom := f_queueFrom) (f_queueTo := f_queueTo) (f_ring := f_ring) (f_ringSize := f_ringSize) (f_failures := f_failures) (f_refusals := f_refusals) (f_thrown := f_thrown) (f_best := f_best) hw) (cwV 1 X.1.2.2.2.2 gX48_111 rfl rfl rfl hX48_isTransaction ⟨Nat.le_of_ble_eq_true rfl, Nat.le_of_ble_eq_true rfl⟩) hc (q0 := 0) rfl rfl hl.1 rfl (Nat.le_of_ble_eq_true rfl) dX48_put_2 ⟨Nat.le_refl 0, Nat.le_refl 0⟩) (fun r_1 _ H locs hw hH => ?_)
  have hH : kH (dC, dI) cl A s.heap H locs (wX48 ci ad d f_rowTriples f_rowVersions f_rowTells f_rows f_latest f_pins f_writers f_sees f_states f_notes f_wrote f_waitsFor f_waitTriples f_waitTells f_since f_clock f_count f_holders f_queue f_queueFrom f_queueTo f_ring f_ringSize f_failures f_refusals f_thrown f_best) := hH
  refine lv_if_eq (tgt := 19) hx hb dX48_put_5 (by decide) (fun c_2 => ?_) (fun c_2 => ?_)
  · have hw := hw.1 (z_eq (rfl : r_1.toInt = _) (rfl : (0 : Int32).toInt = 0) c_2)
    refine lv_iconst (v := 0) hx hb dX48_put_19 (by decide) ?_
    exact atX48_put_20 hc X x1 x2 x3 0 f_states f_wrote f_waitsFor f_waitTriples f_waitTells f_since f_clock f_holders f_queue f_queueFrom f_queueTo f_ring f_ringSize f_failures f_thrown hw _ _ ls hH (lv_sub hl [0, 1, 2, 3] rfl)
  · have hw := hw.2 (z_neq (rfl : r_1.toInt = _) (rfl : (0 : Int32).toInt = 0) c_2)
    refine lv_iload_n hx hb dX48_put_8 rfl (lv_at hl 2 rfl) ?_
    refine k_i0 hH (k_runS (As := [.int x2]) (rest := []) X hH.1 hH.2.1 X.2.2.2 (walkX48_isTriple hc (x0 := x2) (f_rowTriples := f_rowTriples) (f_rowVersions := f_rowVersions) (f_rowTells := f_rowTells) (f_rows := f_rows) (f_latest := f_latest) (f_pins := f_pins) (f_writers := f_writers) (f_sees := f_sees) (f_states := f_states) (f_notes := f_notes) (f_wrote := f_wrote) (f_waitsFor := f_waitsFor) (f_waitTriples := f_waitTriples) (f_waitTells := f_waitTells) (f_since := f_since) (f_clock := f_clock) (f_count := f_count) (f_holders := f_holders) (f_queue := f_queue) (f_queueFrom := f_queueFrom) (f_queueTo := f_queueTo) (f_ring := f_ring) (f_ringSize := f_ringSize) (f_failures := f_failures) (f_refusals := f_refusals) (f_thrown := f_thrown) (f_best := f_best) hw) (va_cwS 1 X.1.2.2.2.2 gX48_96 rfl rfl rfl hX48_isTriple ⟨Nat.le_of_ble_eq_true rfl, Nat.le_of_ble_eq_true rfl⟩) rfl hl.1 rfl (Nat.le_of_ble_eq_true rfl) dX48_put_9 ⟨Nat.le_refl 0, Nat.le_refl 0⟩) (fun r_42 _ H locs hw hH => ?_)
    have hH : kH (dC, dI) cl A s.heap H locs (wX48 ci ad d f_rowTriples f_rowVersions f_rowTells f_rows f_latest f_pins f_writers f_sees f_states f_notes f_wrote f_waitsFor f_waitTriples f_waitTells f_since f_clock f_count f_holders f_queue f_queueFrom f_queueTo f_ring f_ringSize f_failures f_refusals f_thrown f_best) := hH
    refine lv_if_eq (tgt := 19) hx hb dX48_put_12 (by decide) (fun c_43 => ?_) (fun c_43 => ?_)
    · have hw := hw.1 (z_eq (rfl : r_42.toInt = _) (rfl : (0 : Int32).toInt = 0) c_43)
      refine lv_iconst (v := 0) hx hb dX48_put_19 (by decide) ?_
      exact atX48_put_20 hc X x1 x2 x3 0 f_states f_wrote f_waitsFor f_waitTriples f_waitTells f_since f_clock f_holders f_queue f_queueFrom f_queueTo f_ring f_ringSize f_failures f_thrown hw _ _ ls hH (lv_sub hl [0, 1, 2, 3] rfl)
    · have hw := hw.2 (z_neq (rfl : r_42.toInt = _) (rfl : (0 : Int32).toInt = 0) c_43)
      refine lv_iconst (v := 1) hx hb dX48_put_15 (by decide) ?_
      refine lv_goto (tgt := 20) hx hb dX48_put_16 (by decide) ?_
      exact atX48_put_20 hc X x1 x2 x3 1 f_states f_wrote f_waitsFor f_waitTriples f_waitTells f_since f_clock f_holders f_queue f_queueFrom f_queueTo f_ring f_ringSize f_failures f_thrown hw _ _ ls hH (lv_sub hl [0, 1, 2, 3] rfl)
set_option maxHeartbeats 4000000 in
theorem walkX48_isLive {l : Launch} {dC : Nat → ClassId} {dI : Nat → Nat → Nat} {cl : List vw_C} {ci : Nat} (hc : cl[ci]? = some (RX48, TX48, 27)) {ad : Nat → Nat} {d : Nat → ClassId} {sz : Nat} {f_rowTriples : Nat → Int32} {f_rowVersions : Nat → Int32} {f_rowTells : Nat → Int32} {f_rows : Int32} {f_latest : Int32} {f_pins : Nat → Int32} {f_writers : Nat → Int32} {f_sees : Nat → Int32} {f_states : Nat → Int32} {f_notes : Nat → Int32} {f_wrote : Nat → Int32} {f_waitsFor : Nat → Int32} {f_waitTriples : Nat → Int32} {f_waitTells : Nat → Int32} {f_since : Nat → Int32} {f_clock : Int32} {f_count : Int32} {f_holders : Nat → Int32} {f_queue : Nat → Int32} {f_queueFrom : Int32} {f_queueTo : Int32} {f_ring : Nat → Int32} {f_ringSize : Int32} {f_failures : Nat → Int32} {f_refusals : Nat → Int32} {f_thrown : Int32} {f_best : Nat → Int32} {x1 : Int32} {post : Int → Prop} (hw : wpX48_isLive post (zF f_states) x1.toInt) :
    Met l yX48_isLive (ws_ yX48_isLive cX48_isLive 2 (some .boolean)) ({ frames := 0, cells := 0, slots := 0, locals := 0 } : Room) (kPc (dC, dI) cl (tX48 d) [.ref (ad 0), .int x1] sz (wX48 ci ad d f_rowTriples f_rowVersions f_rowTells f_rows f_latest f_pins f_writers f_sees f_states f_notes f_wrote f_waitsFor f_waitTriples f_waitTells f_since f_clock f_count f_holders f_queue f_queueFrom f_queueTo f_ring f_ringSize f_failures f_refusals f_thrown f_best)) (va_Qi (fun (r : Int32) (_ : Unit) => post r.toInt) (kB (dC, dI) cl (tX48 d) (va_A (wX48 ci ad d f_rowTriples f_rowVersions f_rowTells f_rows f_latest f_pins f_writers f_sees f_states f_notes f_wrote f_waitsFor f_waitTriples f_waitTells f_since f_clock f_count f_holders f_queue f_queueFrom f_queueTo f_ring f_ringSize f_failures f_refusals f_thrown f_best) sz) (fun _ : Unit => (wX48 ci ad d f_rowTriples f_rowVersions f_rowTells f_rows f_latest f_pins f_writers f_sees f_states f_notes f_wrote f_waitsFor f_waitTriples f_waitTells f_since f_clock f_count f_holders f_queue f_queueFrom f_queueTo f_ring f_ringSize f_failures f_refusals f_thrown f_best))) (va_A (wX48 ci ad d f_rowTriples f_rowVersions f_rowTells f_rows f_latest f_pins f_writers f_sees f_states f_notes f_wrote f_waitsFor f_waitTriples f_waitTells f_since f_clock f_count f_holders f_queue f_queueFrom f_queueTo f_ring f_ringSize f_failures f_refusals f_thrown f_best) sz)) 0 0 (va_A (wX48 ci ad d f_rowTriples f_rowVersions f_rowTells f_rows f_latest f_pins f_writers f_sees f_states f_notes f_wrote f_waitsFor f_waitTriples f_waitTells f_since f_clock f_count f_holders f_queue f_queueFrom f_queueTo f_ring f_ringSize f_failures f_refusals f_thrown f_best) sz) := by
  refine k_enter (by decide) (Nat.le_of_ble_eq_true rfl) ?_
  intro p e s m below meth c ls X hsz hH hl
  subst hsz
  generalize va_A (wX48 ci ad d f_rowTriples f_rowVersions f_rowTells f_rows f_latest f_pins f_writers f_sees f_states f_notes f_wrote f_waitsFor f_waitTriples f_waitTells f_since f_clock f_count f_holders f_queue f_queueFrom f_queueTo f_ring f_ringSize f_failures f_refusals f_thrown f_best) s.heap.size = A at hH ⊢
  have hx := X.1.1
  have hb := X.1.2.1
  have hl : lv_has ls 2 [(0, .ref (ad 0)), (1, .int x1)] := hl
  unfold wpX48_isLive at hw
  refine lv_aload_n hx hb dX48_isLive_0 rfl (lv_at hl 0 rfl) ?_
  refine k_get X hH in_X48 0 rfl hc 8 (by decide) q6080 rfl dX48_isLive_1 ?_
  refine lv_iload_n hx hb dX48_isLive_4 rfl (lv_at hl 1 rfl) ?_
  have hq_1 := hw.1
  have hw := hw.2
  refine k_iald X hH 7 6 rfl rfl (z_in (rfl : x1.toInt = _) hq_1) dX48_isLive_5 ?_
  have e_2 := z_ld (f := f_states) (rfl : x1.toInt = _) hq_1.1
  refine lv_iconst (v := 3) hx hb dX48_isLive_6 (by decide) ?_
  refine lv_icmp_ge (tgt := 14) hx hb dX48_isLive_7 (by decide) (fun c_3 => ?_) (fun c_3 => ?_)
  · have hw := hw.1 (z_le (rfl : (3 : Int32).toInt = 3) e_2 c_3)
    refine lv_iconst (v := 0) hx hb dX48_isLive_14 (by decide) ?_
    exact k_iret (v := 0) X hH () hw rfl rfl dX48_isLive_15
  · have hw := hw.2 (z_nle (rfl : (3 : Int32).toInt = 3) e_2 c_3)
    refine lv_iconst (v := 1) hx hb dX48_isLive_10 (by decide) ?_
    refine lv_goto (tgt := 15) hx hb dX48_isLive_11 (by decide) ?_
    exact k_iret (v := 1) X hH () hw rfl rfl dX48_isLive_15
set_option maxHeartbeats 4000000 in
theorem atX48_writes_4 {p : Program} {l : Launch} {e : Env} {s : State} {m : MethodId} {args : Array Value} {below : List Frame} {meth : Method} {c : Code} {dC : Nat → ClassId} {dI : Nat → Nat → Nat} {cl : List vw_C} {ci : Nat} (hc : cl[ci]? = some (RX48, TX48, 27)) {ad : Nat → Nat} {d : Nat → ClassId} {A : Nat → Prop} {post : Int → Prop} {f_rowTriples : Nat → Int32} {f_rowVersions : Nat → Int32} {f_rowTells : Nat → Int32} {f_rows : Int32} {f_latest : Int32} {f_pins : Nat → Int32} {f_writers : Nat → Int32} {f_sees : Nat → Int32} {f_states : Nat → Int32} {f_notes : Nat → Int32} {f_wrote : Nat → Int32} {f_waitsFor : Nat → Int32} {f_waitTriples : Nat → Int32} {f_waitTells : Nat → Int32} {f_since : Nat → Int32} {f_clock : Int32} {f_count : Int32} {f_holders : Nat → Int32} {f_queue : Nat → Int32} {f_queueFrom : Int32} {f_queueTo : Int32} {f_ring : Nat → Int32} {f_ringSize : Int32} {f_failures : Nat → Int32} {f_refusals : Nat → Int32} {f_thrown : Int32} {f_best : Nat → Int32} (X : kX p s m args meth c cX48_writes 4 RX48 (some .int) (dC, dI) cl (tX48 d)) {K40 : Int → Prop} {x1 : Int32}  (hk40 : ∀ (x2 : Int32), K40 x2.toInt → ∀ (H : Heap) (locs : List Loc) (ls : Array Slot), kH (dC, dI) cl A s.heap H locs (wX48 ci ad d f_rowTriples f_rowVersions f_rowTells f_rows f_latest f_pins f_writers f_sees f_states f_notes f_wrote f_waitsFor f_waitTriples f_waitTells f_since f_clock f_count f_holders f_queue f_queueFrom f_queueTo f_ring f_ringSize f_failures f_refusals f_thrown f_best) → lv_has ls 4 [(2, .int x2)] → W p l e ({ frames := 0, cells := 0, slots := 0, locals := 0 } : Room) s m args below meth c H locs 0 0 (MQ below (va_Qi (fun (r : Int32) (_ : Unit) => post r.toInt) (kB (dC, dI) cl (tX48 d) A (fun _ : Unit => (wX48 ci ad d f_rowTriples f_rowVersions f_rowTells f_rows f_latest f_pins f_writers f_sees f_states f_notes f_wrote f_waitsFor f_waitTriples f_waitTells f_since f_clock f_count f_holders f_queue f_queueFrom f_queueTo f_ring f_ringSize f_failures f_refusals f_thrown f_best))) A) args s 0 0 A) (F0 m 40 ls [])) :
    ∀ (nn : Nat) (x2 : Int32) (x3 : Int32), wX48_writes_4 K40 x1.toInt (zF f_wrote) nn x2.toInt x3.toInt → ∀ (H : Heap) (locs : List Loc) (ls : Array Slot), kH (dC, dI) cl A s.heap H locs (wX48 ci ad d f_rowTriples f_rowVersions f_rowTells f_rows f_latest f_pins f_writers f_sees f_states f_notes f_wrote f_waitsFor f_waitTriples f_waitTells f_since f_clock f_count f_holders f_queue f_queueFrom f_queueTo f_ring f_ringSize f_failures f_refusals f_thrown f_best) → lv_has ls 4 [(0, .ref (ad 0)), (1, .int x1), (2, .int x2), (3, .int x3)] → W p l e ({ frames := 0, cells := 0, slots := 0, locals := 0 } : Room) s m args below meth c H locs 0 0 (MQ below (va_Qi (fun (r : Int32) (_ : Unit) => post r.toInt) (kB (dC, dI) cl (tX48 d) A (fun _ : Unit => (wX48 ci ad d f_rowTriples f_rowVersions f_rowTells f_rows f_latest f_pins f_writers f_sees f_states f_notes f_wrote f_waitsFor f_waitTriples f_waitTells f_since f_clock f_count f_holders f_queue f_queueFrom f_queueTo f_ring f_ringSize f_failures f_refusals f_thrown f_best))) A) args s 0 0 A) (F0 m 4 ls []) := by
  have hx := X.1.1
  have hb := X.1.2.1
  intro nn
  induction nn with
  | zero =>
    intro x2 x3 hw
    exact False.elim hw
  | succ n ih =>
    intro x2 x3 hw H locs ls hH hl
    rw [wX48_writes_4] at hw
    refine lv_iload_n hx hb dX48_writes_4 rfl (lv_at hl 3 rfl) ?_
    refine lv_sipush (v := 200) hx hb dX48_writes_5 (by decide) ?_
    refine lv_icmp_ge (tgt := 40) hx hb dX48_writes_8 (by decide) (fun c_1 => ?_) (fun c_1 => ?_)
    · have hw := hw.1 (z_le (rfl : (200 : Int32).toInt = 200) (rfl : x3.toInt = _) c_1)
      exact hk40 x2 hw _ _ ls hH (lv_sub hl [2] rfl)
    · have hw := hw.2 (z_nle (rfl : (200 : Int32).toInt = 200) (rfl : x3.toInt = _) c_1)
      refine lv_iload_n hx hb dX48_writes_11 rfl (lv_at hl 2 rfl) ?_
      refine lv_aload_n hx hb dX48_writes_12 rfl (lv_at hl 0 rfl) ?_
      refine k_get X hH in_X48 0 rfl hc 10 (by decide) q6082 rfl dX48_writes_13 ?_
      refine lv_sipush (v := 200) hx hb dX48_writes_16 (by decide) ?_
      refine lv_iload_n hx hb dX48_writes_19 rfl (lv_at hl 1 rfl) ?_
      refine lv_imul hx hb dX48_writes_20 ?_
      have e_2 := z_mul (z_m (rfl : (200 : Int32).toInt = 200)) (z_m (rfl : x1.toInt = _))
      refine lv_iload_n hx hb dX48_writes_21 rfl (lv_at hl 3 rfl) ?_
      refine lv_iadd hx hb dX48_writes_22 ?_
      have e_3 := z_add e_2 (z_m (rfl : x3.toInt = _))
      have hq_4 := hw.1
      have hw := hw.2
      have e_5 := z_xi e_3 hq_4 (by decide)
      refine k_iald X hH 9 8 rfl rfl (z_in e_5 hq_4) dX48_writes_23 ?_
      have e_6 := z_ld (f := f_wrote) e_5 hq_4.1
      refine lv_if_le (tgt := 31) hx hb dX48_writes_24 (by decide) (fun c_7 => ?_) (fun c_7 => ?_)
      · have hw := hw.1 (z_le e_6 (rfl : (0 : Int32).toInt = 0) c_7)
        refine lv_iconst (v := 0) hx hb dX48_writes_31 (by decide) ?_
        refine lv_iadd hx hb dX48_writes_32 ?_
        have e_8 := z_add (z_m (rfl : x2.toInt = _)) (z_m (rfl : (0 : Int32).toInt = 0))
        have hq_9 := hw.1
        have hw := hw.2
        have e_10 := z_x e_8 hq_9
        refine lv_topi (fun x2_11 ex2_11 => ?_)
        have hw := hw x2_11.toInt (by rw [ex2_11]; exact e_10)
        refine lv_istore_n (lv' := [(2, .int x2_11), (0, .ref (ad 0)), (1, .int x1), (3, .int x3)]) hx hb dX48_writes_33 rfl hl (by decide) rfl (fun ls hl => ?_)
        have hq_13 := hw.1
        have hw := hw.2
        obtain ⟨x3_12, ex3_12⟩ : ∃ y : Int32, y = x3 + 1 := ⟨_, rfl⟩
        have hw := hw x3_12.toInt (by rw [ex3_12]; exact (z_x (z_add (z_m (rfl : x3.toInt = _)) (z_m (rfl : (1 : Int32).toInt = 1))) hq_13))
        refine lv_iinc (v := x3_12) (lv' := [(3, .int x3_12), (2, .int x2_11), (0, .ref (ad 0)), (1, .int x1)]) hx hb dX48_writes_34 hl (k := 3) rfl (by rw [ex3_12]; rfl) (by decide) rfl (fun ls hl => ?_)
        refine lv_goto (tgt := 4) hx hb dX48_writes_37 (by decide) ?_
        exact ih x2_11 x3_12 hw _ _ ls hH (lv_sub hl [2, 3, 1, 0] rfl)
      · have hw := hw.2 (z_nle e_6 (rfl : (0 : Int32).toInt = 0) c_7)
        refine lv_iconst (v := 1) hx hb dX48_writes_27 (by decide) ?_
        refine lv_goto (tgt := 32) hx hb dX48_writes_28 (by decide) ?_
        refine lv_iadd hx hb dX48_writes_32 ?_
        have e_14 := z_add (z_m (rfl : x2.toInt = _)) (z_m (rfl : (1 : Int32).toInt = 1))
        have hq_15 := hw.1
        have hw := hw.2
        have e_16 := z_x e_14 hq_15
        refine lv_topi (fun x2_17 ex2_17 => ?_)
        have hw := hw x2_17.toInt (by rw [ex2_17]; exact e_16)
        refine lv_istore_n (lv' := [(2, .int x2_17), (0, .ref (ad 0)), (1, .int x1), (3, .int x3)]) hx hb dX48_writes_33 rfl hl (by decide) rfl (fun ls hl => ?_)
        have hq_19 := hw.1
        have hw := hw.2
        obtain ⟨x3_18, ex3_18⟩ : ∃ y : Int32, y = x3 + 1 := ⟨_, rfl⟩
        have hw := hw x3_18.toInt (by rw [ex3_18]; exact (z_x (z_add (z_m (rfl : x3.toInt = _)) (z_m (rfl : (1 : Int32).toInt = 1))) hq_19))
        refine lv_iinc (v := x3_18) (lv' := [(3, .int x3_18), (2, .int x2_17), (0, .ref (ad 0)), (1, .int x1)]) hx hb dX48_writes_34 hl (k := 3) rfl (by rw [ex3_18]; rfl) (by decide) rfl (fun ls hl => ?_)
        refine lv_goto (tgt := 4) hx hb dX48_writes_37 (by decide) ?_
        exact ih x2_17 x3_18 hw _ _ ls hH (lv_sub hl [2, 3, 1, 0] rfl)
set_option maxHeartbeats 4000000 in
theorem walkX48_writes {l : Launch} {dC : Nat → ClassId} {dI : Nat → Nat → Nat} {cl : List vw_C} {ci : Nat} (hc : cl[ci]? = some (RX48, TX48, 27)) {ad : Nat → Nat} {d : Nat → ClassId} {sz : Nat} {f_rowTriples : Nat → Int32} {f_rowVersions : Nat → Int32} {f_rowTells : Nat → Int32} {f_rows : Int32} {f_latest : Int32} {f_pins : Nat → Int32} {f_writers : Nat → Int32} {f_sees : Nat → Int32} {f_states : Nat → Int32} {f_notes : Nat → Int32} {f_wrote : Nat → Int32} {f_waitsFor : Nat → Int32} {f_waitTriples : Nat → Int32} {f_waitTells : Nat → Int32} {f_since : Nat → Int32} {f_clock : Int32} {f_count : Int32} {f_holders : Nat → Int32} {f_queue : Nat → Int32} {f_queueFrom : Int32} {f_queueTo : Int32} {f_ring : Nat → Int32} {f_ringSize : Int32} {f_failures : Nat → Int32} {f_refusals : Nat → Int32} {f_thrown : Int32} {f_best : Nat → Int32} {x1 : Int32} {post : Int → Prop} (hw : wpX48_writes post (zF f_wrote) x1.toInt) :
    Met l yX48_writes (ws_ yX48_writes cX48_writes 4 (some .int)) ({ frames := 0, cells := 0, slots := 0, locals := 0 } : Room) (kPc (dC, dI) cl (tX48 d) [.ref (ad 0), .int x1] sz (wX48 ci ad d f_rowTriples f_rowVersions f_rowTells f_rows f_latest f_pins f_writers f_sees f_states f_notes f_wrote f_waitsFor f_waitTriples f_waitTells f_since f_clock f_count f_holders f_queue f_queueFrom f_queueTo f_ring f_ringSize f_failures f_refusals f_thrown f_best)) (va_Qi (fun (r : Int32) (_ : Unit) => post r.toInt) (kB (dC, dI) cl (tX48 d) (va_A (wX48 ci ad d f_rowTriples f_rowVersions f_rowTells f_rows f_latest f_pins f_writers f_sees f_states f_notes f_wrote f_waitsFor f_waitTriples f_waitTells f_since f_clock f_count f_holders f_queue f_queueFrom f_queueTo f_ring f_ringSize f_failures f_refusals f_thrown f_best) sz) (fun _ : Unit => (wX48 ci ad d f_rowTriples f_rowVersions f_rowTells f_rows f_latest f_pins f_writers f_sees f_states f_notes f_wrote f_waitsFor f_waitTriples f_waitTells f_since f_clock f_count f_holders f_queue f_queueFrom f_queueTo f_ring f_ringSize f_failures f_refusals f_thrown f_best))) (va_A (wX48 ci ad d f_rowTriples f_rowVersions f_rowTells f_rows f_latest f_pins f_writers f_sees f_states f_notes f_wrote f_waitsFor f_waitTriples f_waitTells f_since f_clock f_count f_holders f_queue f_queueFrom f_queueTo f_ring f_ringSize f_failures f_refusals f_thrown f_best) sz)) 0 0 (va_A (wX48 ci ad d f_rowTriples f_rowVersions f_rowTells f_rows f_latest f_pins f_writers f_sees f_states f_notes f_wrote f_waitsFor f_waitTriples f_waitTells f_since f_clock f_count f_holders f_queue f_queueFrom f_queueTo f_ring f_ringSize f_failures f_refusals f_thrown f_best) sz) := by
  refine k_enter (by decide) (Nat.le_of_ble_eq_true rfl) ?_
  intro p e s m below meth c ls X hsz hH hl
  subst hsz
  generalize va_A (wX48 ci ad d f_rowTriples f_rowVersions f_rowTells f_rows f_latest f_pins f_writers f_sees f_states f_notes f_wrote f_waitsFor f_waitTriples f_waitTells f_since f_clock f_count f_holders f_queue f_queueFrom f_queueTo f_ring f_ringSize f_failures f_refusals f_thrown f_best) s.heap.size = A at hH ⊢
  have hx := X.1.1
  have hb := X.1.2.1
  have hl : lv_has ls 4 [(0, .ref (ad 0)), (1, .int x1)] := hl
  unfold wpX48_writes at hw
  refine lv_iconst (v := 0) hx hb dX48_writes_0 (by decide) ?_
  refine lv_istore_n (lv' := [(2, .int 0), (0, .ref (ad 0)), (1, .int x1)]) hx hb dX48_writes_1 rfl hl (by decide) rfl (fun ls hl => ?_)
  refine lv_iconst (v := 0) hx hb dX48_writes_2 (by decide) ?_
  refine lv_istore_n (lv' := [(3, .int 0), (2, .int 0), (0, .ref (ad 0)), (1, .int x1)]) hx hb dX48_writes_3 rfl hl (by decide) rfl (fun ls hl => ?_)
  obtain ⟨fu, hw⟩ := hw
  refine atX48_writes_4 hc X ?_ fu 0 0 hw _ _ ls hH (lv_sub hl [2, 3, 1, 0] rfl)
  · intro x2_20 hw H locs ls hH hl
    refine lv_iload_n hx hb dX48_writes_40 rfl (lv_at hl 0 rfl) ?_
    exact k_iret (v := x2_20) X hH () hw rfl rfl dX48_writes_41
set_option maxHeartbeats 4000000 in
theorem atX48_abort_24 {p : Program} {l : Launch} {e : Env} {s : State} {m : MethodId} {args : Array Value} {below : List Frame} {meth : Method} {c : Code} {dC : Nat → ClassId} {dI : Nat → Nat → Nat} {cl : List vw_C} {ci : Nat} (hc : cl[ci]? = some (RX48, TX48, 27)) {ad : Nat → Nat} {d : Nat → ClassId} {A : Nat → Prop} {post : Int → (Int → Int) → (Int → Int) → (Int → Int) → (Int → Int) → (Int → Int) → (Int → Int) → Int → (Int → Int) → (Int → Int) → Int → Int → (Int → Int) → Int → (Int → Int) → Int → Prop} {f_rowTriples : Nat → Int32} {f_rowVersions : Nat → Int32} {f_rowTells : Nat → Int32} {f_rows : Int32} {f_latest : Int32} {f_pins : Nat → Int32} {f_writers : Nat → Int32} {f_sees : Nat → Int32} {f_notes : Nat → Int32} {f_count : Int32} {f_refusals : Nat → Int32} {f_best : Nat → Int32} (X : kX p s m args meth c cX48_abort 3 RX48 (some .int) (dC, dI) cl (tX48 d))     :
    ∀ (x1 : Int32) (y1 : Int32) (f_states : Nat → Int32) (f_wrote : Nat → Int32) (f_waitsFor : Nat → Int32) (f_waitTriples : Nat → Int32) (f_waitTells : Nat → Int32) (f_since : Nat → Int32) (f_clock : Int32) (f_holders : Nat → Int32) (f_queue : Nat → Int32) (f_queueFrom : Int32) (f_queueTo : Int32) (f_ring : Nat → Int32) (f_ringSize : Int32) (f_failures : Nat → Int32) (f_thrown : Int32), wX48_abort_24 post x1.toInt y1.toInt (zF f_rowTriples) (zF f_rowVersions) f_rows.toInt (zF f_sees) (zF f_states) (zF f_wrote) (zF f_waitsFor) (zF f_waitTriples) (zF f_waitTells) (zF f_since) f_clock.toInt f_count.toInt (zF f_holders) (zF f_queue) f_queueFrom.toInt f_queueTo.toInt (zF f_ring) f_ringSize.toInt (zF f_failures) → ∀ (H : Heap) (locs : List Loc) (ls : Array Slot), kH (dC, dI) cl A s.heap H locs (wX48 ci ad d f_rowTriples f_rowVersions f_rowTells f_rows f_latest f_pins f_writers f_sees f_states f_notes f_wrote f_waitsFor f_waitTriples f_waitTells f_since f_clock f_count f_holders f_queue f_queueFrom f_queueTo f_ring f_ringSize f_failures f_refusals f_thrown f_best) → lv_has ls 3 [(0, .ref (ad 0)), (1, .int x1)] → W p l e ({ frames := 5, cells := 0, slots := 0, locals := 118 } : Room) s m args below meth c H locs 0 0 (MQ below (va_Qi (fun (r : Int32) (u : (Nat → Int32) × (Nat → Int32) × (Nat → Int32) × (Nat → Int32) × (Nat → Int32) × (Nat → Int32) × Int32 × (Nat → Int32) × (Nat → Int32) × Int32 × Int32 × (Nat → Int32) × Int32 × (Nat → Int32) × Int32) => post r.toInt (zF (u.1)) (zF (u.2.1)) (zF (u.2.2.1)) (zF (u.2.2.2.1)) (zF (u.2.2.2.2.1)) (zF (u.2.2.2.2.2.1)) (u.2.2.2.2.2.2.1).toInt (zF (u.2.2.2.2.2.2.2.1)) (zF (u.2.2.2.2.2.2.2.2.1)) (u.2.2.2.2.2.2.2.2.2.1).toInt (u.2.2.2.2.2.2.2.2.2.2.1).toInt (zF (u.2.2.2.2.2.2.2.2.2.2.2.1)) (u.2.2.2.2.2.2.2.2.2.2.2.2.1).toInt (zF (u.2.2.2.2.2.2.2.2.2.2.2.2.2.1)) (u.2.2.2.2.2.2.2.2.2.2.2.2.2.2).toInt) (kB (dC, dI) cl (tX48 d) A (fun u : (Nat → Int32) × (Nat → Int32) × (Nat → Int32) × (Nat → Int32) × (Nat → Int32) × (Nat → Int32) × Int32 × (Nat → Int32) × (Nat → Int32) × Int32 × Int32 × (Nat → Int32) × Int32 × (Nat → Int32) × Int32 => (wX48 ci ad d f_rowTriples f_rowVersions f_rowTells f_rows f_latest f_pins f_writers f_sees (u.1) f_notes (u.2.1) (u.2.2.1) (u.2.2.2.1) (u.2.2.2.2.1) (u.2.2.2.2.2.1) (u.2.2.2.2.2.2.1) f_count (u.2.2.2.2.2.2.2.1) (u.2.2.2.2.2.2.2.2.1) (u.2.2.2.2.2.2.2.2.2.1) (u.2.2.2.2.2.2.2.2.2.2.1) (u.2.2.2.2.2.2.2.2.2.2.2.1) (u.2.2.2.2.2.2.2.2.2.2.2.2.1) (u.2.2.2.2.2.2.2.2.2.2.2.2.2.1) f_refusals (u.2.2.2.2.2.2.2.2.2.2.2.2.2.2) f_best))) A) args s 0 0 A) (F0 m 24 ls [.int y1, .ref (ad 0)]) := by
  have hx := X.1.1
  have hb := X.1.2.1
  intro x1 y1 f_states f_wrote f_waitsFor f_waitTriples f_waitTells f_since f_clock f_holders f_queue f_queueFrom f_queueTo f_ring f_ringSize f_failures f_thrown hw H locs ls hH hl
  unfold wX48_abort_24 at hw
  refine lv_iconst (v := 0) hx hb dX48_abort_24 (by decide) ?_
  refine k_i0 hH (k_runV (As := [.int y1, .int 0]) (rest := []) X hH.1 hH.2.1 X.2.2.2 (walkX48_fails hc (x1 := y1) (x2 := 0) (f_rowTriples := f_rowTriples) (f_rowVersions := f_rowVersions) (f_rowTells := f_rowTells) (f_rows := f_rows) (f_latest := f_latest) (f_pins := f_pins) (f_writers := f_writers) (f_sees := f_sees) (f_states := f_states) (f_notes := f_notes) (f_wrote := f_wrote) (f_waitsFor := f_waitsFor) (f_waitTriples := f_waitTriples) (f_waitTells := f_waitTells) (f_since := f_since) (f_clock := f_clock) (f_count := f_count) (f_holders := f_holders) (f_queue := f_queue) (f_queueFrom := f_queueFrom) (f_queueTo := f_queueTo) (f_ring := f_ring) (f_ringSize := f_ringSize) (f_failures := f_failures) (f_refusals := f_refusals) (f_thrown := f_thrown) (f_best := f_best) hw) (cwV 2 X.1.2.2.2.2 gX48_99 rfl rfl rfl hX48_fails ⟨Nat.le_of_ble_eq_true rfl, Nat.le_of_ble_eq_true rfl⟩) hc (q0 := 0) rfl rfl hl.1 rfl (Nat.le_of_ble_eq_true rfl) dX48_abort_25 ⟨Nat.le_refl 0, Nat.le_refl 0⟩) (fun r_3 u H locs hw hH => ?_)
  obtain ⟨f_thrown_4, eu⟩ : ∃ z, z = u := ⟨_, rfl⟩
  subst eu
  have hH : kH (dC, dI) cl A s.heap H locs (wX48 ci ad d f_rowTriples f_rowVersions f_rowTells f_rows f_latest f_pins f_writers f_sees f_states f_notes f_wrote f_waitsFor f_waitTriples f_waitTells f_since f_clock f_count f_holders f_queue f_queueFrom f_queueTo f_ring f_ringSize f_failures f_refusals f_thrown_4 f_best) := hH
  refine lv_if_eq (tgt := 33) hx hb dX48_abort_28 (by decide) (fun c_5 => ?_) (fun c_5 => ?_)
  · have hw := hw.1 (z_eq (rfl : r_3.toInt = _) (rfl : (0 : Int32).toInt = 0) c_5)
    refine lv_aload_n hx hb dX48_abort_33 rfl (lv_at hl 0 rfl) ?_
    refine lv_iload_n hx hb dX48_abort_34 rfl (lv_at hl 1 rfl) ?_
    refine lv_iconst (v := 4) hx hb dX48_abort_35 (by decide) ?_
    refine k_v0 hH (k_runV (As := [.int x1, .int 4]) (rest := []) X hH.1 hH.2.1 X.2.2.2 (walkX48_end hc (x1 := x1) (x2 := 4) (f_rowTriples := f_rowTriples) (f_rowVersions := f_rowVersions) (f_rowTells := f_rowTells) (f_rows := f_rows) (f_latest := f_latest) (f_pins := f_pins) (f_writers := f_writers) (f_sees := f_sees) (f_states := f_states) (f_notes := f_notes) (f_wrote := f_wrote) (f_waitsFor := f_waitsFor) (f_waitTriples := f_waitTriples) (f_waitTells := f_waitTells) (f_since := f_since) (f_clock := f_clock) (f_count := f_count) (f_holders := f_holders) (f_queue := f_queue) (f_queueFrom := f_queueFrom) (f_queueTo := f_queueTo) (f_ring := f_ring) (f_ringSize := f_ringSize) (f_failures := f_failures) (f_refusals := f_refusals) (f_thrown := f_thrown_4) (f_best := f_best) hw) (cwV 2 X.1.2.2.2.2 gX48_141 rfl rfl rfl hX48_end ⟨Nat.le_of_ble_eq_true rfl, Nat.le_of_ble_eq_true rfl⟩) hc (q0 := 0) rfl rfl hl.1 rfl (Nat.le_of_ble_eq_true rfl) dX48_abort_36 ⟨Nat.le_refl 0, Nat.le_refl 0⟩) (fun u H locs hw hH => ?_)
    obtain ⟨f_states_6, f_holders_7, f_queue_8, f_queueTo_9⟩ := u
    have hH : kH (dC, dI) cl A s.heap H locs (wX48 ci ad d f_rowTriples f_rowVersions f_rowTells f_rows f_latest f_pins f_writers f_sees f_states_6 f_notes f_wrote f_waitsFor f_waitTriples f_waitTells f_since f_clock f_count f_holders_7 f_queue_8 f_queueFrom f_queueTo_9 f_ring f_ringSize f_failures f_refusals f_thrown_4 f_best) := hH
    refine lv_aload_n hx hb dX48_abort_39 rfl (lv_at hl 0 rfl) ?_
    refine k_v0 hH (k_runV (As := []) (rest := []) X hH.1 hH.2.1 X.2.2.2 (walkX48_goOn hc (f_rowTriples := f_rowTriples) (f_rowVersions := f_rowVersions) (f_rowTells := f_rowTells) (f_rows := f_rows) (f_latest := f_latest) (f_pins := f_pins) (f_writers := f_writers) (f_sees := f_sees) (f_states := f_states_6) (f_notes := f_notes) (f_wrote := f_wrote) (f_waitsFor := f_waitsFor) (f_waitTriples := f_waitTriples) (f_waitTells := f_waitTells) (f_since := f_since) (f_clock := f_clock) (f_count := f_count) (f_holders := f_holders_7) (f_queue := f_queue_8) (f_queueFrom := f_queueFrom) (f_queueTo := f_queueTo_9) (f_ring := f_ring) (f_ringSize := f_ringSize) (f_failures := f_failures) (f_refusals := f_refusals) (f_thrown := f_thrown_4) (f_best := f_best) hw) (cwV 0 X.1.2.2.2.2 gX48_121 rfl rfl rfl hX48_goOn ⟨Nat.le_of_ble_eq_true rfl, Nat.le_of_ble_eq_true rfl⟩) hc (q0 := 0) rfl rfl hl.1 rfl (Nat.le_of_ble_eq_true rfl) dX48_abort_40 ⟨Nat.le_refl 0, Nat.le_refl 0⟩) (fun u H locs hw hH => ?_)
    obtain ⟨f_states_10, f_wrote_11, f_waitsFor_12, f_waitTriples_13, f_waitTells_14, f_since_15, f_clock_16, f_holders_17, f_queue_18, f_queueFrom_19, f_queueTo_20, f_ring_21, f_ringSize_22, f_failures_23⟩ := u
    have hH : kH (dC, dI) cl A s.heap H locs (wX48 ci ad d f_rowTriples f_rowVersions f_rowTells f_rows f_latest f_pins f_writers f_sees f_states_10 f_notes f_wrote_11 f_waitsFor_12 f_waitTriples_13 f_waitTells_14 f_since_15 f_clock_16 f_count f_holders_17 f_queue_18 f_queueFrom_19 f_queueTo_20 f_ring_21 f_ringSize_22 f_failures_23 f_refusals f_thrown_4 f_best) := hH
    refine lv_aload_n hx hb dX48_abort_43 rfl (lv_at hl 0 rfl) ?_
    refine lv_iload_n hx hb dX48_abort_44 rfl (lv_at hl 1 rfl) ?_
    refine k_i0 hH (k_runV (As := [.int x1]) (rest := []) X hH.1 hH.2.1 X.2.2.2 (walkX48_writes hc (x1 := x1) (f_rowTriples := f_rowTriples) (f_rowVersions := f_rowVersions) (f_rowTells := f_rowTells) (f_rows := f_rows) (f_latest := f_latest) (f_pins := f_pins) (f_writers := f_writers) (f_sees := f_sees) (f_states := f_states_10) (f_notes := f_notes) (f_wrote := f_wrote_11) (f_waitsFor := f_waitsFor_12) (f_waitTriples := f_waitTriples_13) (f_waitTells := f_waitTells_14) (f_since := f_since_15) (f_clock := f_clock_16) (f_count := f_count) (f_holders := f_holders_17) (f_queue := f_queue_18) (f_queueFrom := f_queueFrom_19) (f_queueTo := f_queueTo_20) (f_ring := f_ring_21) (f_ringSize := f_ringSize_22) (f_failures := f_failures_23) (f_refusals := f_refusals) (f_thrown := f_thrown_4) (f_best := f_best) hw) (cwV 1 X.1.2.2.2.2 gX48_150 rfl rfl rfl hX48_writes ⟨Nat.le_of_ble_eq_true rfl, Nat.le_of_ble_eq_true rfl⟩) hc (q0 := 0) rfl rfl hl.1 rfl (Nat.le_of_ble_eq_true rfl) dX48_abort_45 ⟨Nat.le_refl 0, Nat.le_refl 0⟩) (fun r_24 _ H locs hw hH => ?_)
    have hH : kH (dC, dI) cl A s.heap H locs (wX48 ci ad d f_rowTriples f_rowVersions f_rowTells f_rows f_latest f_pins f_writers f_sees f_states_10 f_notes f_wrote_11 f_waitsFor_12 f_waitTriples_13 f_waitTells_14 f_since_15 f_clock_16 f_count f_holders_17 f_queue_18 f_queueFrom_19 f_queueTo_20 f_ring_21 f_ringSize_22 f_failures_23 f_refusals f_thrown_4 f_best) := hH
    exact k_iret (v := r_24) X hH (f_states_10, f_wrote_11, f_waitsFor_12, f_waitTriples_13, f_waitTells_14, f_since_15, f_clock_16, f_holders_17, f_queue_18, f_queueFrom_19, f_queueTo_20, f_ring_21, f_ringSize_22, f_failures_23, f_thrown_4) hw rfl rfl dX48_abort_48
  · have hw := hw.2 (z_neq (rfl : r_3.toInt = _) (rfl : (0 : Int32).toInt = 0) c_5)
    refine lv_iconst (v := 0) hx hb dX48_abort_31 (by decide) ?_
    exact k_iret (v := 0) X hH (f_states, f_wrote, f_waitsFor, f_waitTriples, f_waitTells, f_since, f_clock, f_holders, f_queue, f_queueFrom, f_queueTo, f_ring, f_ringSize, f_failures, f_thrown_4) hw rfl rfl dX48_abort_32
set_option maxHeartbeats 4000000 in
theorem walkX48_abort {l : Launch} {dC : Nat → ClassId} {dI : Nat → Nat → Nat} {cl : List vw_C} {ci : Nat} (hc : cl[ci]? = some (RX48, TX48, 27)) {ad : Nat → Nat} {d : Nat → ClassId} {sz : Nat} {f_rowTriples : Nat → Int32} {f_rowVersions : Nat → Int32} {f_rowTells : Nat → Int32} {f_rows : Int32} {f_latest : Int32} {f_pins : Nat → Int32} {f_writers : Nat → Int32} {f_sees : Nat → Int32} {f_states : Nat → Int32} {f_notes : Nat → Int32} {f_wrote : Nat → Int32} {f_waitsFor : Nat → Int32} {f_waitTriples : Nat → Int32} {f_waitTells : Nat → Int32} {f_since : Nat → Int32} {f_clock : Int32} {f_count : Int32} {f_holders : Nat → Int32} {f_queue : Nat → Int32} {f_queueFrom : Int32} {f_queueTo : Int32} {f_ring : Nat → Int32} {f_ringSize : Int32} {f_failures : Nat → Int32} {f_refusals : Nat → Int32} {f_thrown : Int32} {f_best : Nat → Int32} {x1 : Int32} {post : Int → (Int → Int) → (Int → Int) → (Int → Int) → (Int → Int) → (Int → Int) → (Int → Int) → Int → (Int → Int) → (Int → Int) → Int → Int → (Int → Int) → Int → (Int → Int) → Int → Prop} (hw : wpX48_abort post (zF f_rowTriples) (zF f_rowVersions) f_rows.toInt (zF f_sees) (zF f_states) (zF f_wrote) (zF f_waitsFor) (zF f_waitTriples) (zF f_waitTells) (zF f_since) f_clock.toInt f_count.toInt (zF f_holders) (zF f_queue) f_queueFrom.toInt f_queueTo.toInt (zF f_ring) f_ringSize.toInt (zF f_failures) x1.toInt) :
    Met l yX48_abort (ws_ yX48_abort cX48_abort 3 (some .int)) ({ frames := 5, cells := 0, slots := 0, locals := 118 } : Room) (kPc (dC, dI) cl (tX48 d) [.ref (ad 0), .int x1] sz (wX48 ci ad d f_rowTriples f_rowVersions f_rowTells f_rows f_latest f_pins f_writers f_sees f_states f_notes f_wrote f_waitsFor f_waitTriples f_waitTells f_since f_clock f_count f_holders f_queue f_queueFrom f_queueTo f_ring f_ringSize f_failures f_refusals f_thrown f_best)) (va_Qi (fun (r : Int32) (u : (Nat → Int32) × (Nat → Int32) × (Nat → Int32) × (Nat → Int32) × (Nat → Int32) × (Nat → Int32) × Int32 × (Nat → Int32) × (Nat → Int32) × Int32 × Int32 × (Nat → Int32) × Int32 × (Nat → Int32) × Int32) => post r.toInt (zF (u.1)) (zF (u.2.1)) (zF (u.2.2.1)) (zF (u.2.2.2.1)) (zF (u.2.2.2.2.1)) (zF (u.2.2.2.2.2.1)) (u.2.2.2.2.2.2.1).toInt (zF (u.2.2.2.2.2.2.2.1)) (zF (u.2.2.2.2.2.2.2.2.1)) (u.2.2.2.2.2.2.2.2.2.1).toInt (u.2.2.2.2.2.2.2.2.2.2.1).toInt (zF (u.2.2.2.2.2.2.2.2.2.2.2.1)) (u.2.2.2.2.2.2.2.2.2.2.2.2.1).toInt (zF (u.2.2.2.2.2.2.2.2.2.2.2.2.2.1)) (u.2.2.2.2.2.2.2.2.2.2.2.2.2.2).toInt) (kB (dC, dI) cl (tX48 d) (va_A (wX48 ci ad d f_rowTriples f_rowVersions f_rowTells f_rows f_latest f_pins f_writers f_sees f_states f_notes f_wrote f_waitsFor f_waitTriples f_waitTells f_since f_clock f_count f_holders f_queue f_queueFrom f_queueTo f_ring f_ringSize f_failures f_refusals f_thrown f_best) sz) (fun u : (Nat → Int32) × (Nat → Int32) × (Nat → Int32) × (Nat → Int32) × (Nat → Int32) × (Nat → Int32) × Int32 × (Nat → Int32) × (Nat → Int32) × Int32 × Int32 × (Nat → Int32) × Int32 × (Nat → Int32) × Int32 => (wX48 ci ad d f_rowTriples f_rowVersions f_rowTells f_rows f_latest f_pins f_writers f_sees (u.1) f_notes (u.2.1) (u.2.2.1) (u.2.2.2.1) (u.2.2.2.2.1) (u.2.2.2.2.2.1) (u.2.2.2.2.2.2.1) f_count (u.2.2.2.2.2.2.2.1) (u.2.2.2.2.2.2.2.2.1) (u.2.2.2.2.2.2.2.2.2.1) (u.2.2.2.2.2.2.2.2.2.2.1) (u.2.2.2.2.2.2.2.2.2.2.2.1) (u.2.2.2.2.2.2.2.2.2.2.2.2.1) (u.2.2.2.2.2.2.2.2.2.2.2.2.2.1) f_refusals (u.2.2.2.2.2.2.2.2.2.2.2.2.2.2) f_best))) (va_A (wX48 ci ad d f_rowTriples f_rowVersions f_rowTells f_rows f_latest f_pins f_writers f_sees f_states f_notes f_wrote f_waitsFor f_waitTriples f_waitTells f_since f_clock f_count f_holders f_queue f_queueFrom f_queueTo f_ring f_ringSize f_failures f_refusals f_thrown f_best) sz)) 0 0 (va_A (wX48 ci ad d f_rowTriples f_rowVersions f_rowTells f_rows f_latest f_pins f_writers f_sees f_states f_notes f_wrote f_waitsFor f_waitTriples f_waitTells f_since f_clock f_count f_holders f_queue f_queueFrom f_queueTo f_ring f_ringSize f_failures f_refusals f_thrown f_best) sz) := by
  refine k_enter (by decide) (Nat.le_of_ble_eq_true rfl) ?_
  intro p e s m below meth c ls X hsz hH hl
  subst hsz
  generalize va_A (wX48 ci ad d f_rowTriples f_rowVersions f_rowTells f_rows f_latest f_pins f_writers f_sees f_states f_notes f_wrote f_waitsFor f_waitTriples f_waitTells f_since f_clock f_count f_holders f_queue f_queueFrom f_queueTo f_ring f_ringSize f_failures f_refusals f_thrown f_best) s.heap.size = A at hH ⊢
  have hx := X.1.1
  have hb := X.1.2.1
  have hl : lv_has ls 3 [(0, .ref (ad 0)), (1, .int x1)] := hl
  unfold wpX48_abort at hw
  refine lv_aload_n hx hb dX48_abort_0 rfl (lv_at hl 0 rfl) ?_
  refine lv_iload_n hx hb dX48_abort_1 rfl (lv_at hl 1 rfl) ?_
  refine k_i0 hH (k_runV (As := [.int x1]) (rest := []) X hH.1 hH.2.1 X.2.2.2 (walkX48_isTransaction hc (x1 := x1) (f_rowTriples := f_rowTriples) (f_rowVersions := f_rowVersions) (f_rowTells := f_rowTells) (f_rows := f_rows) (f_latest := f_latest) (f_pins := f_pins) (f_writers := f_writers) (f_sees := f_sees) (f_states := f_states) (f_notes := f_notes) (f_wrote := f_wrote) (f_waitsFor := f_waitsFor) (f_waitTriples := f_waitTriples) (f_waitTells := f_waitTells) (f_since := f_since) (f_clock := f_clock) (f_count := f_count) (f_holders := f_holders) (f_queue := f_queue) (f_queueFrom := f_queueFrom) (f_queueTo := f_queueTo) (f_ring := f_ring) (f_ringSize := f_ringSize) (f_failures := f_failures) (f_refusals := f_refusals) (f_thrown := f_thrown) (f_best := f_best) hw) (cwV 1 X.1.2.2.2.2 gX48_111 rfl rfl rfl hX48_isTransaction ⟨Nat.le_of_ble_eq_true rfl, Nat.le_of_ble_eq_true rfl⟩) hc (q0 := 0) rfl rfl hl.1 rfl (Nat.le_of_ble_eq_true rfl) dX48_abort_2 ⟨Nat.le_refl 0, Nat.le_refl 0⟩) (fun r_1 _ H locs hw hH => ?_)
  have hH : kH (dC, dI) cl A s.heap H locs (wX48 ci ad d f_rowTriples f_rowVersions f_rowTells f_rows f_latest f_pins f_writers f_sees f_states f_notes f_wrote f_waitsFor f_waitTriples f_waitTells f_since f_clock f_count f_holders f_queue f_queueFrom f_queueTo f_ring f_ringSize f_failures f_refusals f_thrown f_best) := hH
  refine lv_istore_n (lv' := [(2, .int r_1), (0, .ref (ad 0)), (1, .int x1)]) hx hb dX48_abort_5 rfl hl (by decide) rfl (fun ls hl => ?_)
  refine lv_aload_n hx hb dX48_abort_6 rfl (lv_at hl 1 rfl) ?_
  refine lv_iload_n hx hb dX48_abort_7 rfl (lv_at hl 0 rfl) ?_
  refine lv_iload_n hx hb dX48_abort_8 rfl (lv_at hl 0 rfl) ?_
  refine lv_if_eq (tgt := 24) hx hb dX48_abort_9 (by decide) (fun c_2 => ?_) (fun c_2 => ?_)
  · have hw := hw.1 (z_eq (rfl : r_1.toInt = _) (rfl : (0 : Int32).toInt = 0) c_2)
    exact atX48_abort_24 hc X x1 r_1 f_states f_wrote f_waitsFor f_waitTriples f_waitTells f_since f_clock f_holders f_queue f_queueFrom f_queueTo f_ring f_ringSize f_failures f_thrown hw _ _ ls hH (lv_sub hl [1, 2] rfl)
  · have hw := hw.2 (z_neq (rfl : r_1.toInt = _) (rfl : (0 : Int32).toInt = 0) c_2)
    refine lv_aload_n hx hb dX48_abort_12 rfl (lv_at hl 1 rfl) ?_
    refine lv_iload_n hx hb dX48_abort_13 rfl (lv_at hl 2 rfl) ?_
    refine k_i0 hH (k_runV (As := [.int x1]) (rest := [.int r_1, .ref (ad 0)]) X hH.1 hH.2.1 X.2.2.2 (walkX48_isLive hc (x1 := x1) (f_rowTriples := f_rowTriples) (f_rowVersions := f_rowVersions) (f_rowTells := f_rowTells) (f_rows := f_rows) (f_latest := f_latest) (f_pins := f_pins) (f_writers := f_writers) (f_sees := f_sees) (f_states := f_states) (f_notes := f_notes) (f_wrote := f_wrote) (f_waitsFor := f_waitsFor) (f_waitTriples := f_waitTriples) (f_waitTells := f_waitTells) (f_since := f_since) (f_clock := f_clock) (f_count := f_count) (f_holders := f_holders) (f_queue := f_queue) (f_queueFrom := f_queueFrom) (f_queueTo := f_queueTo) (f_ring := f_ring) (f_ringSize := f_ringSize) (f_failures := f_failures) (f_refusals := f_refusals) (f_thrown := f_thrown) (f_best := f_best) hw) (cwV 1 X.1.2.2.2.2 gX48_89 rfl rfl rfl hX48_isLive ⟨Nat.le_of_ble_eq_true rfl, Nat.le_of_ble_eq_true rfl⟩) hc (q0 := 0) rfl rfl hl.1 rfl (Nat.le_of_ble_eq_true rfl) dX48_abort_14 ⟨Nat.le_refl 0, Nat.le_refl 0⟩) (fun r_25 _ H locs hw hH => ?_)
    have hH : kH (dC, dI) cl A s.heap H locs (wX48 ci ad d f_rowTriples f_rowVersions f_rowTells f_rows f_latest f_pins f_writers f_sees f_states f_notes f_wrote f_waitsFor f_waitTriples f_waitTells f_since f_clock f_count f_holders f_queue f_queueFrom f_queueTo f_ring f_ringSize f_failures f_refusals f_thrown f_best) := hH
    refine lv_if_eq (tgt := 24) hx hb dX48_abort_17 (by decide) (fun c_26 => ?_) (fun c_26 => ?_)
    · have hw := hw.1 (z_eq (rfl : r_25.toInt = _) (rfl : (0 : Int32).toInt = 0) c_26)
      exact atX48_abort_24 hc X x1 r_1 f_states f_wrote f_waitsFor f_waitTriples f_waitTells f_since f_clock f_holders f_queue f_queueFrom f_queueTo f_ring f_ringSize f_failures f_thrown hw _ _ ls hH (lv_sub hl [1, 2] rfl)
    · have hw := hw.2 (z_neq (rfl : r_25.toInt = _) (rfl : (0 : Int32).toInt = 0) c_26)
      refine lv_iconst (v := 1) hx hb dX48_abort_20 (by decide) ?_
      refine lv_goto (tgt := 25) hx hb dX48_abort_21 (by decide) ?_
      refine k_i0 hH (k_runV (As := [.int r_1, .int 1]) (rest := []) X hH.1 hH.2.1 X.2.2.2 (walkX48_fails hc (x1 := r_1) (x2 := 1) (f_rowTriples := f_rowTriples) (f_rowVersions := f_rowVersions) (f_rowTells := f_rowTells) (f_rows := f_rows) (f_latest := f_latest) (f_pins := f_pins) (f_writers := f_writers) (f_sees := f_sees) (f_states := f_states) (f_notes := f_notes) (f_wrote := f_wrote) (f_waitsFor := f_waitsFor) (f_waitTriples := f_waitTriples) (f_waitTells := f_waitTells) (f_since := f_since) (f_clock := f_clock) (f_count := f_count) (f_holders := f_holders) (f_queue := f_queue) (f_queueFrom := f_queueFrom) (f_queueTo := f_queueTo) (f_ring := f_ring) (f_ringSize := f_ringSize) (f_failures := f_failures) (f_refusals := f_refusals) (f_thrown := f_thrown) (f_best := f_best) hw) (cwV 2 X.1.2.2.2.2 gX48_99 rfl rfl rfl hX48_fails ⟨Nat.le_of_ble_eq_true rfl, Nat.le_of_ble_eq_true rfl⟩) hc (q0 := 0) rfl rfl hl.1 rfl (Nat.le_of_ble_eq_true rfl) dX48_abort_25 ⟨Nat.le_refl 0, Nat.le_refl 0⟩) (fun r_27 u H locs hw hH => ?_)
      obtain ⟨f_thrown_28, eu⟩ : ∃ z, z = u := ⟨_, rfl⟩
      subst eu
      have hH : kH (dC, dI) cl A s.heap H locs (wX48 ci ad d f_rowTriples f_rowVersions f_rowTells f_rows f_latest f_pins f_writers f_sees f_states f_notes f_wrote f_waitsFor f_waitTriples f_waitTells f_since f_clock f_count f_holders f_queue f_queueFrom f_queueTo f_ring f_ringSize f_failures f_refusals f_thrown_28 f_best) := hH
      refine lv_if_eq (tgt := 33) hx hb dX48_abort_28 (by decide) (fun c_29 => ?_) (fun c_29 => ?_)
      · have hw := hw.1 (z_eq (rfl : r_27.toInt = _) (rfl : (0 : Int32).toInt = 0) c_29)
        refine lv_aload_n hx hb dX48_abort_33 rfl (lv_at hl 1 rfl) ?_
        refine lv_iload_n hx hb dX48_abort_34 rfl (lv_at hl 2 rfl) ?_
        refine lv_iconst (v := 4) hx hb dX48_abort_35 (by decide) ?_
        refine k_v0 hH (k_runV (As := [.int x1, .int 4]) (rest := []) X hH.1 hH.2.1 X.2.2.2 (walkX48_end hc (x1 := x1) (x2 := 4) (f_rowTriples := f_rowTriples) (f_rowVersions := f_rowVersions) (f_rowTells := f_rowTells) (f_rows := f_rows) (f_latest := f_latest) (f_pins := f_pins) (f_writers := f_writers) (f_sees := f_sees) (f_states := f_states) (f_notes := f_notes) (f_wrote := f_wrote) (f_waitsFor := f_waitsFor) (f_waitTriples := f_waitTriples) (f_waitTells := f_waitTells) (f_since := f_since) (f_clock := f_clock) (f_count := f_count) (f_holders := f_holders) (f_queue := f_queue) (f_queueFrom := f_queueFrom) (f_queueTo := f_queueTo) (f_ring := f_ring) (f_ringSize := f_ringSize) (f_failures := f_failures) (f_refusals := f_refusals) (f_thrown := f_thrown_28) (f_best := f_best) hw) (cwV 2 X.1.2.2.2.2 gX48_141 rfl rfl rfl hX48_end ⟨Nat.le_of_ble_eq_true rfl, Nat.le_of_ble_eq_true rfl⟩) hc (q0 := 0) rfl rfl hl.1 rfl (Nat.le_of_ble_eq_true rfl) dX48_abort_36 ⟨Nat.le_refl 0, Nat.le_refl 0⟩) (fun u H locs hw hH => ?_)
        obtain ⟨f_states_30, f_holders_31, f_queue_32, f_queueTo_33⟩ := u
        have hH : kH (dC, dI) cl A s.heap H locs (wX48 ci ad d f_rowTriples f_rowVersions f_rowTells f_rows f_latest f_pins f_writers f_sees f_states_30 f_notes f_wrote f_waitsFor f_waitTriples f_waitTells f_since f_clock f_count f_holders_31 f_queue_32 f_queueFrom f_queueTo_33 f_ring f_ringSize f_failures f_refusals f_thrown_28 f_best) := hH
        refine lv_aload_n hx hb dX48_abort_39 rfl (lv_at hl 1 rfl) ?_
        refine k_v0 hH (k_runV (As := []) (rest := []) X hH.1 hH.2.1 X.2.2.2 (walkX48_goOn hc (f_rowTriples := f_rowTriples) (f_rowVersions := f_rowVersions) (f_rowTells := f_rowTells) (f_rows := f_rows) (f_latest := f_latest) (f_pins := f_pins) (f_writers := f_writers) (f_sees := f_sees) (f_states := f_states_30) (f_notes := f_notes) (f_wrote := f_wrote) (f_waitsFor := f_waitsFor) (f_waitTriples := f_waitTriples) (f_waitTells := f_waitTells) (f_since := f_since) (f_clock := f_clock) (f_count := f_count) (f_holders := f_holders_31) (f_queue := f_queue_32) (f_queueFrom := f_queueFrom) (f_queueTo := f_queueTo_33) (f_ring := f_ring) (f_ringSize := f_ringSize) (f_failures := f_failures) (f_refusals := f_refusals) (f_thrown := f_thrown_28) (f_best := f_best) hw) (cwV 0 X.1.2.2.2.2 gX48_121 rfl rfl rfl hX48_goOn ⟨Nat.le_of_ble_eq_true rfl, Nat.le_of_ble_eq_true rfl⟩) hc (q0 := 0) rfl rfl hl.1 rfl (Nat.le_of_ble_eq_true rfl) dX48_abort_40 ⟨Nat.le_refl 0, Nat.le_refl 0⟩) (fun u H locs hw hH => ?_)
        obtain ⟨f_states_34, f_wrote_35, f_waitsFor_36, f_waitTriples_37, f_waitTells_38, f_since_39, f_clock_40, f_holders_41, f_queue_42, f_queueFrom_43, f_queueTo_44, f_ring_45, f_ringSize_46, f_failures_47⟩ := u
        have hH : kH (dC, dI) cl A s.heap H locs (wX48 ci ad d f_rowTriples f_rowVersions f_rowTells f_rows f_latest f_pins f_writers f_sees f_states_34 f_notes f_wrote_35 f_waitsFor_36 f_waitTriples_37 f_waitTells_38 f_since_39 f_clock_40 f_count f_holders_41 f_queue_42 f_queueFrom_43 f_queueTo_44 f_ring_45 f_ringSize_46 f_failures_47 f_refusals f_thrown_28 f_best) := hH
        refine lv_aload_n hx hb dX48_abort_43 rfl (lv_at hl 1 rfl) ?_
        refine lv_iload_n hx hb dX48_abort_44 rfl (lv_at hl 2 rfl) ?_
        refine k_i0 hH (k_runV (As := [.int x1]) (rest := []) X hH.1 hH.2.1 X.2.2.2 (walkX48_writes hc (x1 := x1) (f_rowTriples := f_rowTriples) (f_rowVersions := f_rowVersions) (f_rowTells := f_rowTells) (f_rows := f_rows) (f_latest := f_latest) (f_pins := f_pins) (f_writers := f_writers) (f_sees := f_sees) (f_states := f_states_34) (f_notes := f_notes) (f_wrote := f_wrote_35) (f_waitsFor := f_waitsFor_36) (f_waitTriples := f_waitTriples_37) (f_waitTells := f_waitTells_38) (f_since := f_since_39) (f_clock := f_clock_40) (f_count := f_count) (f_holders := f_holders_41) (f_queue := f_queue_42) (f_queueFrom := f_queueFrom_43) (f_queueTo := f_queueTo_44) (f_ring := f_ring_45) (f_ringSize := f_ringSize_46) (f_failures := f_failures_47) (f_refusals := f_refusals) (f_thrown := f_thrown_28) (f_best := f_best) hw) (cwV 1 X.1.2.2.2.2 gX48_150 rfl rfl rfl hX48_writes ⟨Nat.le_of_ble_eq_true rfl, Nat.le_of_ble_eq_true rfl⟩) hc (q0 := 0) rfl rfl hl.1 rfl (Nat.le_of_ble_eq_true rfl) dX48_abort_45 ⟨Nat.le_refl 0, Nat.le_refl 0⟩) (fun r_48 _ H locs hw hH => ?_)
        have hH : kH (dC, dI) cl A s.heap H locs (wX48 ci ad d f_rowTriples f_rowVersions f_rowTells f_rows f_latest f_pins f_writers f_sees f_states_34 f_notes f_wrote_35 f_waitsFor_36 f_waitTriples_37 f_waitTells_38 f_since_39 f_clock_40 f_count f_holders_41 f_queue_42 f_queueFrom_43 f_queueTo_44 f_ring_45 f_ringSize_46 f_failures_47 f_refusals f_thrown_28 f_best) := hH
        exact k_iret (v := r_48) X hH (f_states_34, f_wrote_35, f_waitsFor_36, f_waitTriples_37, f_waitTells_38, f_since_39, f_clock_40, f_holders_41, f_queue_42, f_queueFrom_43, f_queueTo_44, f_ring_45, f_ringSize_46, f_failures_47, f_thrown_28) hw rfl rfl dX48_abort_48
      · have hw := hw.2 (z_neq (rfl : r_27.toInt = _) (rfl : (0 : Int32).toInt = 0) c_29)
        refine lv_iconst (v := 0) hx hb dX48_abort_31 (by decide) ?_
        exact k_iret (v := 0) X hH (f_states, f_wrote, f_waitsFor, f_waitTriples, f_waitTells, f_since, f_clock, f_holders, f_queue, f_queueFrom, f_queueTo, f_ring, f_ringSize, f_failures, f_thrown_28) hw rfl rfl dX48_abort_32
set_option maxHeartbeats 4000000 in
theorem atX48_changed_28 {p : Program} {l : Launch} {e : Env} {s : State} {m : MethodId} {args : Array Value} {below : List Frame} {meth : Method} {c : Code} {dC : Nat → ClassId} {dI : Nat → Nat → Nat} {cl : List vw_C} {ci : Nat} (hc : cl[ci]? = some (RX48, TX48, 27)) {ad : Nat → Nat} {d : Nat → ClassId} {A : Nat → Prop} {post : Int → Prop} {f_rowTriples : Nat → Int32} {f_rowVersions : Nat → Int32} {f_rowTells : Nat → Int32} {f_rows : Int32} {f_latest : Int32} {f_pins : Nat → Int32} {f_writers : Nat → Int32} {f_sees : Nat → Int32} {f_states : Nat → Int32} {f_notes : Nat → Int32} {f_wrote : Nat → Int32} {f_waitsFor : Nat → Int32} {f_waitTriples : Nat → Int32} {f_waitTells : Nat → Int32} {f_since : Nat → Int32} {f_clock : Int32} {f_count : Int32} {f_holders : Nat → Int32} {f_queue : Nat → Int32} {f_queueFrom : Int32} {f_queueTo : Int32} {f_ring : Nat → Int32} {f_ringSize : Int32} {f_failures : Nat → Int32} {f_refusals : Nat → Int32} {f_thrown : Int32} {f_best : Nat → Int32} (X : kX p s m args meth c cX48_changed 4 RX48 (some .int) (dC, dI) cl (tX48 d)) {K53 : Prop} {K61 : Prop} {x1 : Int32} {x2 : Int32}  (hk53 : K53  → ∀ (H : Heap) (locs : List Loc) (ls : Array Slot), kH (dC, dI) cl A s.heap H locs (wX48 ci ad d f_rowTriples f_rowVersions f_rowTells f_rows f_latest f_pins f_writers f_sees f_states f_notes f_wrote f_waitsFor f_waitTriples f_waitTells f_since f_clock f_count f_holders f_queue f_queueFrom f_queueTo f_ring f_ringSize f_failures f_refusals f_thrown f_best) → lv_has ls 4 [(2, .int x2)] → W p l e ({ frames := 1, cells := 0, slots := 0, locals := 23 } : Room) s m args below meth c H locs 0 0 (MQ below (va_Qi (fun (r : Int32) (_ : Unit) => post r.toInt) (kB (dC, dI) cl (tX48 d) A (fun _ : Unit => (wX48 ci ad d f_rowTriples f_rowVersions f_rowTells f_rows f_latest f_pins f_writers f_sees f_states f_notes f_wrote f_waitsFor f_waitTriples f_waitTells f_since f_clock f_count f_holders f_queue f_queueFrom f_queueTo f_ring f_ringSize f_failures f_refusals f_thrown f_best))) A) args s 0 0 A) (F0 m 53 ls [])) (hk61 : K61  → ∀ (H : Heap) (locs : List Loc) (ls : Array Slot), kH (dC, dI) cl A s.heap H locs (wX48 ci ad d f_rowTriples f_rowVersions f_rowTells f_rows f_latest f_pins f_writers f_sees f_states f_notes f_wrote f_waitsFor f_waitTriples f_waitTells f_since f_clock f_count f_holders f_queue f_queueFrom f_queueTo f_ring f_ringSize f_failures f_refusals f_thrown f_best) → lv_has ls 4 [(0, .ref (ad 0)), (1, .int x1), (2, .int x2)] → W p l e ({ frames := 1, cells := 0, slots := 0, locals := 23 } : Room) s m args below meth c H locs 0 0 (MQ below (va_Qi (fun (r : Int32) (_ : Unit) => post r.toInt) (kB (dC, dI) cl (tX48 d) A (fun _ : Unit => (wX48 ci ad d f_rowTriples f_rowVersions f_rowTells f_rows f_latest f_pins f_writers f_sees f_states f_notes f_wrote f_waitsFor f_waitTriples f_waitTells f_since f_clock f_count f_holders f_queue f_queueFrom f_queueTo f_ring f_ringSize f_failures f_refusals f_thrown f_best))) A) args s 0 0 A) (F0 m 61 ls [])) :
    ∀ (nn : Nat) (x3 : Int32), wX48_changed_28 K53 K61 x1.toInt x2.toInt (zF f_rowTriples) (zF f_rowVersions) f_rows.toInt (zF f_sees) nn x3.toInt → ∀ (H : Heap) (locs : List Loc) (ls : Array Slot), kH (dC, dI) cl A s.heap H locs (wX48 ci ad d f_rowTriples f_rowVersions f_rowTells f_rows f_latest f_pins f_writers f_sees f_states f_notes f_wrote f_waitsFor f_waitTriples f_waitTells f_since f_clock f_count f_holders f_queue f_queueFrom f_queueTo f_ring f_ringSize f_failures f_refusals f_thrown f_best) → lv_has ls 4 [(0, .ref (ad 0)), (1, .int x1), (2, .int x2), (3, .int x3)] → W p l e ({ frames := 1, cells := 0, slots := 0, locals := 23 } : Room) s m args below meth c H locs 0 0 (MQ below (va_Qi (fun (r : Int32) (_ : Unit) => post r.toInt) (kB (dC, dI) cl (tX48 d) A (fun _ : Unit => (wX48 ci ad d f_rowTriples f_rowVersions f_rowTells f_rows f_latest f_pins f_writers f_sees f_states f_notes f_wrote f_waitsFor f_waitTriples f_waitTells f_since f_clock f_count f_holders f_queue f_queueFrom f_queueTo f_ring f_ringSize f_failures f_refusals f_thrown f_best))) A) args s 0 0 A) (F0 m 28 ls []) := by
  have hx := X.1.1
  have hb := X.1.2.1
  intro nn
  induction nn with
  | zero =>
    intro x3 hw
    exact False.elim hw
  | succ n ih =>
    intro x3 hw H locs ls hH hl
    rw [wX48_changed_28] at hw
    refine lv_iload_n hx hb dX48_changed_28 rfl (lv_at hl 3 rfl) ?_
    refine lv_bipush (v := 50) hx hb dX48_changed_29 (by decide) ?_
    refine lv_iload_n hx hb dX48_changed_31 rfl (lv_at hl 2 rfl) ?_
    refine lv_imul hx hb dX48_changed_32 ?_
    have e_12 := z_mul (z_m (rfl : (50 : Int32).toInt = 50)) (z_m (rfl : x2.toInt = _))
    refine lv_bipush (v := 50) hx hb dX48_changed_33 (by decide) ?_
    refine lv_iadd hx hb dX48_changed_35 ?_
    have e_13 := z_add e_12 (z_m (rfl : (50 : Int32).toInt = 50))
    have hq_15 := hw.1
    have hw := hw.2
    have e_16 := z_x e_13 hq_15
    refine lv_icmp_ge (tgt := 61) hx hb dX48_changed_36 (by decide) (fun c_14 => ?_) (fun c_14 => ?_)
    · have hw := hw.1 (z_le e_16 (rfl : x3.toInt = _) c_14)
      exact hk61  hw _ _ ls hH (lv_sub hl [0, 1, 2] rfl)
    · have hw := hw.2 (z_nle e_16 (rfl : x3.toInt = _) c_14)
      refine lv_aload_n hx hb dX48_changed_39 rfl (lv_at hl 0 rfl) ?_
      refine lv_iload_n hx hb dX48_changed_40 rfl (lv_at hl 3 rfl) ?_
      refine lv_aload_n hx hb dX48_changed_41 rfl (lv_at hl 0 rfl) ?_
      refine k_get X hH in_X48 0 rfl hc 7 (by decide) q6079 rfl dX48_changed_42 ?_
      refine lv_iload_n hx hb dX48_changed_45 rfl (lv_at hl 1 rfl) ?_
      have hq_17 := hw.1
      have hw := hw.2
      refine k_iald X hH 6 5 rfl rfl (z_in (rfl : x1.toInt = _) hq_17) dX48_changed_46 ?_
      have e_18 := z_ld (f := f_sees) (rfl : x1.toInt = _) hq_17.1
      refine k_i0 hH (k_runV (As := [.int x3, .int (f_sees x1.toNatClampNeg)]) (rest := []) X hH.1 hH.2.1 X.2.2.2 (walkX48_hasAbove hc (x1 := x3) (x2 := (f_sees x1.toNatClampNeg)) (f_rowTriples := f_rowTriples) (f_rowVersions := f_rowVersions) (f_rowTells := f_rowTells) (f_rows := f_rows) (f_latest := f_latest) (f_pins := f_pins) (f_writers := f_writers) (f_sees := f_sees) (f_states := f_states) (f_notes := f_notes) (f_wrote := f_wrote) (f_waitsFor := f_waitsFor) (f_waitTriples := f_waitTriples) (f_waitTells := f_waitTells) (f_since := f_since) (f_clock := f_clock) (f_count := f_count) (f_holders := f_holders) (f_queue := f_queue) (f_queueFrom := f_queueFrom) (f_queueTo := f_queueTo) (f_ring := f_ring) (f_ringSize := f_ringSize) (f_failures := f_failures) (f_refusals := f_refusals) (f_thrown := f_thrown) (f_best := f_best) (by rw [show (f_sees x1.toNatClampNeg : Int32).toInt = _ from e_18]; exact hw)) (cwV 2 X.1.2.2.2.2 gX48_124 rfl rfl rfl hX48_hasAbove ⟨Nat.le_of_ble_eq_true rfl, Nat.le_of_ble_eq_true rfl⟩) hc (q0 := 0) rfl rfl hl.1 rfl (Nat.le_of_ble_eq_true rfl) dX48_changed_47 ⟨Nat.le_refl 0, Nat.le_refl 0⟩) (fun r_19 _ H locs hw hH => ?_)
      have hH : kH (dC, dI) cl A s.heap H locs (wX48 ci ad d f_rowTriples f_rowVersions f_rowTells f_rows f_latest f_pins f_writers f_sees f_states f_notes f_wrote f_waitsFor f_waitTriples f_waitTells f_since f_clock f_count f_holders f_queue f_queueFrom f_queueTo f_ring f_ringSize f_failures f_refusals f_thrown f_best) := hH
      refine lv_if_eq (tgt := 55) hx hb dX48_changed_50 (by decide) (fun c_20 => ?_) (fun c_20 => ?_)
      · have hw := hw.1 (z_eq (rfl : r_19.toInt = _) (rfl : (0 : Int32).toInt = 0) c_20)
        have hq_22 := hw.1
        have hw := hw.2
        obtain ⟨x3_21, ex3_21⟩ : ∃ y : Int32, y = x3 + 1 := ⟨_, rfl⟩
        have hw := hw x3_21.toInt (by rw [ex3_21]; exact (z_x (z_add (z_m (rfl : x3.toInt = _)) (z_m (rfl : (1 : Int32).toInt = 1))) hq_22))
        refine lv_iinc (v := x3_21) (lv' := [(3, .int x3_21), (0, .ref (ad 0)), (1, .int x1), (2, .int x2)]) hx hb dX48_changed_55 hl (k := 3) rfl (by rw [ex3_21]; rfl) (by decide) rfl (fun ls hl => ?_)
        refine lv_goto (tgt := 28) hx hb dX48_changed_58 (by decide) ?_
        exact ih x3_21 hw _ _ ls hH (lv_sub hl [1, 2, 3, 0] rfl)
      · have hw := hw.2 (z_neq (rfl : r_19.toInt = _) (rfl : (0 : Int32).toInt = 0) c_20)
        exact hk53  hw _ _ ls hH (lv_sub hl [2] rfl)
set_option maxHeartbeats 4000000 in
theorem atX48_changed_2 {p : Program} {l : Launch} {e : Env} {s : State} {m : MethodId} {args : Array Value} {below : List Frame} {meth : Method} {c : Code} {dC : Nat → ClassId} {dI : Nat → Nat → Nat} {cl : List vw_C} {ci : Nat} (hc : cl[ci]? = some (RX48, TX48, 27)) {ad : Nat → Nat} {d : Nat → ClassId} {A : Nat → Prop} {post : Int → Prop} {f_rowTriples : Nat → Int32} {f_rowVersions : Nat → Int32} {f_rowTells : Nat → Int32} {f_rows : Int32} {f_latest : Int32} {f_pins : Nat → Int32} {f_writers : Nat → Int32} {f_sees : Nat → Int32} {f_states : Nat → Int32} {f_notes : Nat → Int32} {f_wrote : Nat → Int32} {f_waitsFor : Nat → Int32} {f_waitTriples : Nat → Int32} {f_waitTells : Nat → Int32} {f_since : Nat → Int32} {f_clock : Int32} {f_count : Int32} {f_holders : Nat → Int32} {f_queue : Nat → Int32} {f_queueFrom : Int32} {f_queueTo : Int32} {f_ring : Nat → Int32} {f_ringSize : Int32} {f_failures : Nat → Int32} {f_refusals : Nat → Int32} {f_thrown : Int32} {f_best : Nat → Int32} (X : kX p s m args meth c cX48_changed 4 RX48 (some .int) (dC, dI) cl (tX48 d)) {K53 : Int → Prop} {K67 : Prop} {x1 : Int32}  (hk53 : ∀ (x2 : Int32), K53 x2.toInt → ∀ (H : Heap) (locs : List Loc) (ls : Array Slot), kH (dC, dI) cl A s.heap H locs (wX48 ci ad d f_rowTriples f_rowVersions f_rowTells f_rows f_latest f_pins f_writers f_sees f_states f_notes f_wrote f_waitsFor f_waitTriples f_waitTells f_since f_clock f_count f_holders f_queue f_queueFrom f_queueTo f_ring f_ringSize f_failures f_refusals f_thrown f_best) → lv_has ls 4 [(2, .int x2)] → W p l e ({ frames := 1, cells := 0, slots := 0, locals := 23 } : Room) s m args below meth c H locs 0 0 (MQ below (va_Qi (fun (r : Int32) (_ : Unit) => post r.toInt) (kB (dC, dI) cl (tX48 d) A (fun _ : Unit => (wX48 ci ad d f_rowTriples f_rowVersions f_rowTells f_rows f_latest f_pins f_writers f_sees f_states f_notes f_wrote f_waitsFor f_waitTriples f_waitTells f_since f_clock f_count f_holders f_queue f_queueFrom f_queueTo f_ring f_ringSize f_failures f_refusals f_thrown f_best))) A) args s 0 0 A) (F0 m 53 ls [])) (hk67 : K67  → ∀ (H : Heap) (locs : List Loc) (ls : Array Slot), kH (dC, dI) cl A s.heap H locs (wX48 ci ad d f_rowTriples f_rowVersions f_rowTells f_rows f_latest f_pins f_writers f_sees f_states f_notes f_wrote f_waitsFor f_waitTriples f_waitTells f_since f_clock f_count f_holders f_queue f_queueFrom f_queueTo f_ring f_ringSize f_failures f_refusals f_thrown f_best) → lv_has ls 4 [] → W p l e ({ frames := 1, cells := 0, slots := 0, locals := 23 } : Room) s m args below meth c H locs 0 0 (MQ below (va_Qi (fun (r : Int32) (_ : Unit) => post r.toInt) (kB (dC, dI) cl (tX48 d) A (fun _ : Unit => (wX48 ci ad d f_rowTriples f_rowVersions f_rowTells f_rows f_latest f_pins f_writers f_sees f_states f_notes f_wrote f_waitsFor f_waitTriples f_waitTells f_since f_clock f_count f_holders f_queue f_queueFrom f_queueTo f_ring f_ringSize f_failures f_refusals f_thrown f_best))) A) args s 0 0 A) (F0 m 67 ls [])) :
    ∀ (nn : Nat) (x2 : Int32), wX48_changed_2 K53 K67 x1.toInt (zF f_rowTriples) (zF f_rowVersions) f_rows.toInt (zF f_sees) (zF f_notes) nn x2.toInt → ∀ (H : Heap) (locs : List Loc) (ls : Array Slot), kH (dC, dI) cl A s.heap H locs (wX48 ci ad d f_rowTriples f_rowVersions f_rowTells f_rows f_latest f_pins f_writers f_sees f_states f_notes f_wrote f_waitsFor f_waitTriples f_waitTells f_since f_clock f_count f_holders f_queue f_queueFrom f_queueTo f_ring f_ringSize f_failures f_refusals f_thrown f_best) → lv_has ls 4 [(0, .ref (ad 0)), (1, .int x1), (2, .int x2)] → W p l e ({ frames := 1, cells := 0, slots := 0, locals := 23 } : Room) s m args below meth c H locs 0 0 (MQ below (va_Qi (fun (r : Int32) (_ : Unit) => post r.toInt) (kB (dC, dI) cl (tX48 d) A (fun _ : Unit => (wX48 ci ad d f_rowTriples f_rowVersions f_rowTells f_rows f_latest f_pins f_writers f_sees f_states f_notes f_wrote f_waitsFor f_waitTriples f_waitTells f_since f_clock f_count f_holders f_queue f_queueFrom f_queueTo f_ring f_ringSize f_failures f_refusals f_thrown f_best))) A) args s 0 0 A) (F0 m 2 ls []) := by
  have hx := X.1.1
  have hb := X.1.2.1
  intro nn
  induction nn with
  | zero =>
    intro x2 hw
    exact False.elim hw
  | succ n ih =>
    intro x2 hw H locs ls hH hl
    rw [wX48_changed_2] at hw
    refine lv_iload_n hx hb dX48_changed_2 rfl (lv_at hl 2 rfl) ?_
    refine lv_iconst (v := 4) hx hb dX48_changed_3 (by decide) ?_
    refine lv_icmp_ge (tgt := 67) hx hb dX48_changed_4 (by decide) (fun c_1 => ?_) (fun c_1 => ?_)
    · have hw := hw.1 (z_le (rfl : (4 : Int32).toInt = 4) (rfl : x2.toInt = _) c_1)
      exact hk67  hw _ _ ls hH (lv_sub hl [] rfl)
    · have hw := hw.2 (z_nle (rfl : (4 : Int32).toInt = 4) (rfl : x2.toInt = _) c_1)
      refine lv_aload_n hx hb dX48_changed_7 rfl (lv_at hl 0 rfl) ?_
      refine k_get X hH in_X48 0 rfl hc 9 (by decide) q6081 rfl dX48_changed_8 ?_
      refine lv_iload_n hx hb dX48_changed_11 rfl (lv_at hl 1 rfl) ?_
      have hq_2 := hw.1
      have hw := hw.2
      refine k_iald X hH 8 7 rfl rfl (z_in (rfl : x1.toInt = _) hq_2) dX48_changed_12 ?_
      have e_3 := z_ld (f := f_notes) (rfl : x1.toInt = _) hq_2.1
      refine lv_iload_n hx hb dX48_changed_13 rfl (lv_at hl 2 rfl) ?_
      refine lv_ishr hx hb dX48_changed_14 ?_
      have hq_4 := hw.1
      have hw := hw.2
      have e_5 := z_shrV e_3 (rfl : x2.toInt = _) hq_4
      refine lv_iconst (v := 1) hx hb dX48_changed_15 (by decide) ?_
      refine lv_iand hx hb dX48_changed_16 ?_
      have e_6 := z_mask (z_m e_5) (k := 1) (m := 1) (c := 2) (by decide)
      refine lv_if_ne (tgt := 23) hx hb dX48_changed_17 (by decide) (fun c_7 => ?_) (fun c_7 => ?_)
      · have hw := hw.2 (z_ne e_6 (rfl : (0 : Int32).toInt = 0) c_7)
        refine lv_bipush (v := 50) hx hb dX48_changed_23 (by decide) ?_
        refine lv_iload_n hx hb dX48_changed_25 rfl (lv_at hl 2 rfl) ?_
        refine lv_imul hx hb dX48_changed_26 ?_
        have e_8 := z_mul (z_m (rfl : (50 : Int32).toInt = 50)) (z_m (rfl : x2.toInt = _))
        have hq_9 := hw.1
        have hw := hw.2
        have e_10 := z_x e_8 hq_9
        refine lv_topi (fun x3_11 ex3_11 => ?_)
        have hw := hw x3_11.toInt (by rw [ex3_11]; exact e_10)
        refine lv_istore_n (lv' := [(3, .int x3_11), (0, .ref (ad 0)), (1, .int x1), (2, .int x2)]) hx hb dX48_changed_27 rfl hl (by decide) rfl (fun ls hl => ?_)
        obtain ⟨fu, hw⟩ := hw
        refine atX48_changed_28 hc X ?_ ?_ fu x3_11 hw _ _ ls hH (lv_sub hl [1, 2, 3, 0] rfl)
        · intro hw H locs ls hH hl
          exact hk53 x2 hw _ _ ls hH (lv_sub hl [0] rfl)
        · intro hw H locs ls hH hl
          have hq_24 := hw.1
          have hw := hw.2
          obtain ⟨x2_23, ex2_23⟩ : ∃ y : Int32, y = x2 + 1 := ⟨_, rfl⟩
          have hw := hw x2_23.toInt (by rw [ex2_23]; exact (z_x (z_add (z_m (rfl : x2.toInt = _)) (z_m (rfl : (1 : Int32).toInt = 1))) hq_24))
          refine lv_iinc (v := x2_23) (lv' := [(2, .int x2_23), (0, .ref (ad 0)), (1, .int x1)]) hx hb dX48_changed_61 hl (k := 2) rfl (by rw [ex2_23]; rfl) (by decide) rfl (fun ls hl => ?_)
          refine lv_goto (tgt := 2) hx hb dX48_changed_64 (by decide) ?_
          exact ih x2_23 hw _ _ ls hH (lv_sub hl [1, 2, 0] rfl)
      · have hw := hw.1 (z_eq e_6 (rfl : (0 : Int32).toInt = 0) c_7)
        refine lv_goto (tgt := 61) hx hb dX48_changed_20 (by decide) ?_
        have hq_26 := hw.1
        have hw := hw.2
        obtain ⟨x2_25, ex2_25⟩ : ∃ y : Int32, y = x2 + 1 := ⟨_, rfl⟩
        have hw := hw x2_25.toInt (by rw [ex2_25]; exact (z_x (z_add (z_m (rfl : x2.toInt = _)) (z_m (rfl : (1 : Int32).toInt = 1))) hq_26))
        refine lv_iinc (v := x2_25) (lv' := [(2, .int x2_25), (0, .ref (ad 0)), (1, .int x1)]) hx hb dX48_changed_61 hl (k := 2) rfl (by rw [ex2_25]; rfl) (by decide) rfl (fun ls hl => ?_)
        refine lv_goto (tgt := 2) hx hb dX48_changed_64 (by decide) ?_
        exact ih x2_25 hw _ _ ls hH (lv_sub hl [1, 2, 0] rfl)
set_option maxHeartbeats 4000000 in
theorem walkX48_changed {l : Launch} {dC : Nat → ClassId} {dI : Nat → Nat → Nat} {cl : List vw_C} {ci : Nat} (hc : cl[ci]? = some (RX48, TX48, 27)) {ad : Nat → Nat} {d : Nat → ClassId} {sz : Nat} {f_rowTriples : Nat → Int32} {f_rowVersions : Nat → Int32} {f_rowTells : Nat → Int32} {f_rows : Int32} {f_latest : Int32} {f_pins : Nat → Int32} {f_writers : Nat → Int32} {f_sees : Nat → Int32} {f_states : Nat → Int32} {f_notes : Nat → Int32} {f_wrote : Nat → Int32} {f_waitsFor : Nat → Int32} {f_waitTriples : Nat → Int32} {f_waitTells : Nat → Int32} {f_since : Nat → Int32} {f_clock : Int32} {f_count : Int32} {f_holders : Nat → Int32} {f_queue : Nat → Int32} {f_queueFrom : Int32} {f_queueTo : Int32} {f_ring : Nat → Int32} {f_ringSize : Int32} {f_failures : Nat → Int32} {f_refusals : Nat → Int32} {f_thrown : Int32} {f_best : Nat → Int32} {x1 : Int32} {post : Int → Prop} (hw : wpX48_changed post (zF f_rowTriples) (zF f_rowVersions) f_rows.toInt (zF f_sees) (zF f_notes) x1.toInt) :
    Met l yX48_changed (ws_ yX48_changed cX48_changed 4 (some .int)) ({ frames := 1, cells := 0, slots := 0, locals := 23 } : Room) (kPc (dC, dI) cl (tX48 d) [.ref (ad 0), .int x1] sz (wX48 ci ad d f_rowTriples f_rowVersions f_rowTells f_rows f_latest f_pins f_writers f_sees f_states f_notes f_wrote f_waitsFor f_waitTriples f_waitTells f_since f_clock f_count f_holders f_queue f_queueFrom f_queueTo f_ring f_ringSize f_failures f_refusals f_thrown f_best)) (va_Qi (fun (r : Int32) (_ : Unit) => post r.toInt) (kB (dC, dI) cl (tX48 d) (va_A (wX48 ci ad d f_rowTriples f_rowVersions f_rowTells f_rows f_latest f_pins f_writers f_sees f_states f_notes f_wrote f_waitsFor f_waitTriples f_waitTells f_since f_clock f_count f_holders f_queue f_queueFrom f_queueTo f_ring f_ringSize f_failures f_refusals f_thrown f_best) sz) (fun _ : Unit => (wX48 ci ad d f_rowTriples f_rowVersions f_rowTells f_rows f_latest f_pins f_writers f_sees f_states f_notes f_wrote f_waitsFor f_waitTriples f_waitTells f_since f_clock f_count f_holders f_queue f_queueFrom f_queueTo f_ring f_ringSize f_failures f_refusals f_thrown f_best))) (va_A (wX48 ci ad d f_rowTriples f_rowVersions f_rowTells f_rows f_latest f_pins f_writers f_sees f_states f_notes f_wrote f_waitsFor f_waitTriples f_waitTells f_since f_clock f_count f_holders f_queue f_queueFrom f_queueTo f_ring f_ringSize f_failures f_refusals f_thrown f_best) sz)) 0 0 (va_A (wX48 ci ad d f_rowTriples f_rowVersions f_rowTells f_rows f_latest f_pins f_writers f_sees f_states f_notes f_wrote f_waitsFor f_waitTriples f_waitTells f_since f_clock f_count f_holders f_queue f_queueFrom f_queueTo f_ring f_ringSize f_failures f_refusals f_thrown f_best) sz) := by
  refine k_enter (by decide) (Nat.le_of_ble_eq_true rfl) ?_
  intro p e s m below meth c ls X hsz hH hl
  subst hsz
  generalize va_A (wX48 ci ad d f_rowTriples f_rowVersions f_rowTells f_rows f_latest f_pins f_writers f_sees f_states f_notes f_wrote f_waitsFor f_waitTriples f_waitTells f_since f_clock f_count f_holders f_queue f_queueFrom f_queueTo f_ring f_ringSize f_failures f_refusals f_thrown f_best) s.heap.size = A at hH ⊢
  have hx := X.1.1
  have hb := X.1.2.1
  have hl : lv_has ls 4 [(0, .ref (ad 0)), (1, .int x1)] := hl
  unfold wpX48_changed at hw
  refine lv_iconst (v := 0) hx hb dX48_changed_0 (by decide) ?_
  refine lv_istore_n (lv' := [(2, .int 0), (0, .ref (ad 0)), (1, .int x1)]) hx hb dX48_changed_1 rfl hl (by decide) rfl (fun ls hl => ?_)
  obtain ⟨fu, hw⟩ := hw
  refine atX48_changed_2 hc X ?_ ?_ fu 0 hw _ _ ls hH (lv_sub hl [1, 2, 0] rfl)
  · intro x2_27 hw H locs ls hH hl
    refine lv_iload_n hx hb dX48_changed_53 rfl (lv_at hl 0 rfl) ?_
    exact k_iret (v := x2_27) X hH () hw rfl rfl dX48_changed_54
  · intro hw H locs ls hH hl
    refine lv_iconst (v := (-1)) hx hb dX48_changed_67 (by decide) ?_
    exact k_iret (v := (-1)) X hH () hw rfl rfl dX48_changed_68
set_option maxHeartbeats 4000000 in
theorem atX48_rowOf_5 {p : Program} {l : Launch} {e : Env} {s : State} {m : MethodId} {args : Array Value} {below : List Frame} {meth : Method} {c : Code} {dC : Nat → ClassId} {dI : Nat → Nat → Nat} {cl : List vw_C} {ci : Nat} (hc : cl[ci]? = some (RX48, TX48, 27)) {ad : Nat → Nat} {d : Nat → ClassId} {A : Nat → Prop} {post : Int → Prop} {f_rowTriples : Nat → Int32} {f_rowVersions : Nat → Int32} {f_rowTells : Nat → Int32} {f_rows : Int32} {f_latest : Int32} {f_pins : Nat → Int32} {f_writers : Nat → Int32} {f_sees : Nat → Int32} {f_states : Nat → Int32} {f_notes : Nat → Int32} {f_wrote : Nat → Int32} {f_waitsFor : Nat → Int32} {f_waitTriples : Nat → Int32} {f_waitTells : Nat → Int32} {f_since : Nat → Int32} {f_clock : Int32} {f_count : Int32} {f_holders : Nat → Int32} {f_queue : Nat → Int32} {f_queueFrom : Int32} {f_queueTo : Int32} {f_ring : Nat → Int32} {f_ringSize : Int32} {f_failures : Nat → Int32} {f_refusals : Nat → Int32} {f_thrown : Int32} {f_best : Nat → Int32} (X : kX p s m args meth c cX48_rowOf 5 RX48 (some .int) (dC, dI) cl (tX48 d)) {K65 : Int → Prop} {x1 : Int32} {x2 : Int32}  (hk65 : ∀ (x3 : Int32), K65 x3.toInt → ∀ (H : Heap) (locs : List Loc) (ls : Array Slot), kH (dC, dI) cl A s.heap H locs (wX48 ci ad d f_rowTriples f_rowVersions f_rowTells f_rows f_latest f_pins f_writers f_sees f_states f_notes f_wrote f_waitsFor f_waitTriples f_waitTells f_since f_clock f_count f_holders f_queue f_queueFrom f_queueTo f_ring f_ringSize f_failures f_refusals f_thrown f_best) → lv_has ls 5 [(3, .int x3)] → W p l e ({ frames := 0, cells := 0, slots := 0, locals := 0 } : Room) s m args below meth c H locs 0 0 (MQ below (va_Qi (fun (r : Int32) (_ : Unit) => post r.toInt) (kB (dC, dI) cl (tX48 d) A (fun _ : Unit => (wX48 ci ad d f_rowTriples f_rowVersions f_rowTells f_rows f_latest f_pins f_writers f_sees f_states f_notes f_wrote f_waitsFor f_waitTriples f_waitTells f_since f_clock f_count f_holders f_queue f_queueFrom f_queueTo f_ring f_ringSize f_failures f_refusals f_thrown f_best))) A) args s 0 0 A) (F0 m 65 ls [])) :
    ∀ (nn : Nat) (x3 : Int32) (x4 : Int32), wX48_rowOf_5 K65 x1.toInt x2.toInt (zF f_rowTriples) (zF f_rowVersions) f_rows.toInt nn x3.toInt x4.toInt → ∀ (H : Heap) (locs : List Loc) (ls : Array Slot), kH (dC, dI) cl A s.heap H locs (wX48 ci ad d f_rowTriples f_rowVersions f_rowTells f_rows f_latest f_pins f_writers f_sees f_states f_notes f_wrote f_waitsFor f_waitTriples f_waitTells f_since f_clock f_count f_holders f_queue f_queueFrom f_queueTo f_ring f_ringSize f_failures f_refusals f_thrown f_best) → lv_has ls 5 [(0, .ref (ad 0)), (1, .int x1), (2, .int x2), (3, .int x3), (4, .int x4)] → W p l e ({ frames := 0, cells := 0, slots := 0, locals := 0 } : Room) s m args below meth c H locs 0 0 (MQ below (va_Qi (fun (r : Int32) (_ : Unit) => post r.toInt) (kB (dC, dI) cl (tX48 d) A (fun _ : Unit => (wX48 ci ad d f_rowTriples f_rowVersions f_rowTells f_rows f_latest f_pins f_writers f_sees f_states f_notes f_wrote f_waitsFor f_waitTriples f_waitTells f_since f_clock f_count f_holders f_queue f_queueFrom f_queueTo f_ring f_ringSize f_failures f_refusals f_thrown f_best))) A) args s 0 0 A) (F0 m 5 ls []) := by
  have hx := X.1.1
  have hb := X.1.2.1
  intro nn
  induction nn with
  | zero =>
    intro x3 x4 hw
    exact False.elim hw
  | succ n ih =>
    intro x3 x4 hw H locs ls hH hl
    rw [wX48_rowOf_5] at hw
    refine lv_iload hx hb dX48_rowOf_5 (lv_at hl 4 rfl) ?_
    refine lv_aload_n hx hb dX48_rowOf_7 rfl (lv_at hl 0 rfl) ?_
    refine k_get X hH in_X48 0 rfl hc 3 (by decide) q6075 rfl dX48_rowOf_8 ?_
    refine lv_icmp_ge (tgt := 65) hx hb dX48_rowOf_11 (by decide) (fun c_1 => ?_) (fun c_1 => ?_)
    · have hw := hw.1 (z_le (rfl : f_rows.toInt = _) (rfl : x4.toInt = _) c_1)
      exact hk65 x3 hw _ _ ls hH (lv_sub hl [3] rfl)
    · have hw := hw.2 (z_nle (rfl : f_rows.toInt = _) (rfl : x4.toInt = _) c_1)
      refine lv_aload_n hx hb dX48_rowOf_14 rfl (lv_at hl 0 rfl) ?_
      refine k_get X hH in_X48 0 rfl hc 0 (by decide) q6072 rfl dX48_rowOf_15 ?_
      refine lv_iload hx hb dX48_rowOf_18 (lv_at hl 4 rfl) ?_
      have hq_2 := hw.1
      have hw := hw.2
      refine k_iald X hH 1 0 rfl rfl (z_in (rfl : x4.toInt = _) hq_2) dX48_rowOf_20 ?_
      have e_3 := z_ld (f := f_rowTriples) (rfl : x4.toInt = _) hq_2.1
      refine lv_iload_n hx hb dX48_rowOf_21 rfl (lv_at hl 1 rfl) ?_
      refine lv_icmp_ne (tgt := 59) hx hb dX48_rowOf_22 (by decide) (fun c_4 => ?_) (fun c_4 => ?_)
      · have hw := hw.2 (z_ne e_3 (rfl : x1.toInt = _) c_4)
        have hq_6 := hw.1
        have hw := hw.2
        obtain ⟨x4_5, ex4_5⟩ : ∃ y : Int32, y = x4 + 1 := ⟨_, rfl⟩
        have hw := hw x4_5.toInt (by rw [ex4_5]; exact (z_x (z_add (z_m (rfl : x4.toInt = _)) (z_m (rfl : (1 : Int32).toInt = 1))) hq_6))
        refine lv_iinc (v := x4_5) (lv' := [(4, .int x4_5), (0, .ref (ad 0)), (1, .int x1), (2, .int x2), (3, .int x3)]) hx hb dX48_rowOf_59 hl (k := 4) rfl (by rw [ex4_5]; rfl) (by decide) rfl (fun ls hl => ?_)
        refine lv_goto (tgt := 5) hx hb dX48_rowOf_62 (by decide) ?_
        exact ih x3 x4_5 hw _ _ ls hH (lv_sub hl [1, 2, 3, 4, 0] rfl)
      · have hw := hw.1 (z_eq e_3 (rfl : x1.toInt = _) c_4)
        refine lv_aload_n hx hb dX48_rowOf_25 rfl (lv_at hl 0 rfl) ?_
        refine k_get X hH in_X48 0 rfl hc 1 (by decide) q6073 rfl dX48_rowOf_26 ?_
        refine lv_iload hx hb dX48_rowOf_29 (lv_at hl 4 rfl) ?_
        refine k_iald X hH 2 1 rfl rfl (z_in (rfl : x4.toInt = _) hq_2) dX48_rowOf_31 ?_
        have e_7 := z_ld (f := f_rowVersions) (rfl : x4.toInt = _) hq_2.1
        refine lv_iload_n hx hb dX48_rowOf_32 rfl (lv_at hl 2 rfl) ?_
        refine lv_icmp_gt (tgt := 59) hx hb dX48_rowOf_33 (by decide) (fun c_8 => ?_) (fun c_8 => ?_)
        · have hw := hw.1 (z_lt (rfl : x2.toInt = _) e_7 c_8)
          have hq_10 := hw.1
          have hw := hw.2
          obtain ⟨x4_9, ex4_9⟩ : ∃ y : Int32, y = x4 + 1 := ⟨_, rfl⟩
          have hw := hw x4_9.toInt (by rw [ex4_9]; exact (z_x (z_add (z_m (rfl : x4.toInt = _)) (z_m (rfl : (1 : Int32).toInt = 1))) hq_10))
          refine lv_iinc (v := x4_9) (lv' := [(4, .int x4_9), (0, .ref (ad 0)), (1, .int x1), (2, .int x2), (3, .int x3)]) hx hb dX48_rowOf_59 hl (k := 4) rfl (by rw [ex4_9]; rfl) (by decide) rfl (fun ls hl => ?_)
          refine lv_goto (tgt := 5) hx hb dX48_rowOf_62 (by decide) ?_
          exact ih x3 x4_9 hw _ _ ls hH (lv_sub hl [1, 2, 3, 4, 0] rfl)
        · have hw := hw.2 (z_nlt (rfl : x2.toInt = _) e_7 c_8)
          refine lv_iload_n hx hb dX48_rowOf_36 rfl (lv_at hl 3 rfl) ?_
          refine lv_if_lt (tgt := 56) hx hb dX48_rowOf_37 (by decide) (fun c_11 => ?_) (fun c_11 => ?_)
          · have hw := hw.1 (z_lt (rfl : x3.toInt = _) (rfl : (0 : Int32).toInt = 0) c_11)
            refine lv_iload hx hb dX48_rowOf_56 (lv_at hl 4 rfl) ?_
            refine lv_istore_n (lv' := [(3, .int x4), (0, .ref (ad 0)), (1, .int x1), (2, .int x2), (4, .int x4)]) hx hb dX48_rowOf_58 rfl hl (by decide) rfl (fun ls hl => ?_)
            have hq_13 := hw.1
            have hw := hw.2
            obtain ⟨x4_12, ex4_12⟩ : ∃ y : Int32, y = x4 + 1 := ⟨_, rfl⟩
            have hw := hw x4_12.toInt (by rw [ex4_12]; exact (z_x (z_add (z_m (rfl : x4.toInt = _)) (z_m (rfl : (1 : Int32).toInt = 1))) hq_13))
            refine lv_iinc (v := x4_12) (lv' := [(4, .int x4_12), (3, .int x4), (0, .ref (ad 0)), (1, .int x1), (2, .int x2)]) hx hb dX48_rowOf_59 hl (k := 4) rfl (by rw [ex4_12]; rfl) (by decide) rfl (fun ls hl => ?_)
            refine lv_goto (tgt := 5) hx hb dX48_rowOf_62 (by decide) ?_
            exact ih x4 x4_12 hw _ _ ls hH (lv_sub hl [2, 3, 4, 1, 0] rfl)
          · have hw := hw.2 (z_nlt (rfl : x3.toInt = _) (rfl : (0 : Int32).toInt = 0) c_11)
            refine lv_aload_n hx hb dX48_rowOf_40 rfl (lv_at hl 0 rfl) ?_
            refine k_get X hH in_X48 0 rfl hc 1 (by decide) q6073 rfl dX48_rowOf_41 ?_
            refine lv_iload hx hb dX48_rowOf_44 (lv_at hl 4 rfl) ?_
            refine k_iald X hH 2 1 rfl rfl (z_in (rfl : x4.toInt = _) hq_2) dX48_rowOf_46 ?_
            have e_14 := z_ld (f := f_rowVersions) (rfl : x4.toInt = _) hq_2.1
            refine lv_aload_n hx hb dX48_rowOf_47 rfl (lv_at hl 0 rfl) ?_
            refine k_get X hH in_X48 0 rfl hc 1 (by decide) q6073 rfl dX48_rowOf_48 ?_
            refine lv_iload_n hx hb dX48_rowOf_51 rfl (lv_at hl 3 rfl) ?_
            have hq_15 := hw.1
            have hw := hw.2
            refine k_iald X hH 2 1 rfl rfl (z_in (rfl : x3.toInt = _) hq_15) dX48_rowOf_52 ?_
            have e_16 := z_ld (f := f_rowVersions) (rfl : x3.toInt = _) hq_15.1
            refine lv_icmp_le (tgt := 59) hx hb dX48_rowOf_53 (by decide) (fun c_17 => ?_) (fun c_17 => ?_)
            · have hw := hw.1 (z_le e_14 e_16 c_17)
              have hq_19 := hw.1
              have hw := hw.2
              obtain ⟨x4_18, ex4_18⟩ : ∃ y : Int32, y = x4 + 1 := ⟨_, rfl⟩
              have hw := hw x4_18.toInt (by rw [ex4_18]; exact (z_x (z_add (z_m (rfl : x4.toInt = _)) (z_m (rfl : (1 : Int32).toInt = 1))) hq_19))
              refine lv_iinc (v := x4_18) (lv' := [(4, .int x4_18), (0, .ref (ad 0)), (1, .int x1), (2, .int x2), (3, .int x3)]) hx hb dX48_rowOf_59 hl (k := 4) rfl (by rw [ex4_18]; rfl) (by decide) rfl (fun ls hl => ?_)
              refine lv_goto (tgt := 5) hx hb dX48_rowOf_62 (by decide) ?_
              exact ih x3 x4_18 hw _ _ ls hH (lv_sub hl [1, 2, 3, 4, 0] rfl)
            · have hw := hw.2 (z_nle e_14 e_16 c_17)
              refine lv_iload hx hb dX48_rowOf_56 (lv_at hl 4 rfl) ?_
              refine lv_istore_n (lv' := [(3, .int x4), (0, .ref (ad 0)), (1, .int x1), (2, .int x2), (4, .int x4)]) hx hb dX48_rowOf_58 rfl hl (by decide) rfl (fun ls hl => ?_)
              have hq_21 := hw.1
              have hw := hw.2
              obtain ⟨x4_20, ex4_20⟩ : ∃ y : Int32, y = x4 + 1 := ⟨_, rfl⟩
              have hw := hw x4_20.toInt (by rw [ex4_20]; exact (z_x (z_add (z_m (rfl : x4.toInt = _)) (z_m (rfl : (1 : Int32).toInt = 1))) hq_21))
              refine lv_iinc (v := x4_20) (lv' := [(4, .int x4_20), (3, .int x4), (0, .ref (ad 0)), (1, .int x1), (2, .int x2)]) hx hb dX48_rowOf_59 hl (k := 4) rfl (by rw [ex4_20]; rfl) (by decide) rfl (fun ls hl => ?_)
              refine lv_goto (tgt := 5) hx hb dX48_rowOf_62 (by decide) ?_
              exact ih x4 x4_20 hw _ _ ls hH (lv_sub hl [2, 3, 4, 1, 0] rfl)
set_option maxHeartbeats 4000000 in
theorem walkX48_rowOf {l : Launch} {dC : Nat → ClassId} {dI : Nat → Nat → Nat} {cl : List vw_C} {ci : Nat} (hc : cl[ci]? = some (RX48, TX48, 27)) {ad : Nat → Nat} {d : Nat → ClassId} {sz : Nat} {f_rowTriples : Nat → Int32} {f_rowVersions : Nat → Int32} {f_rowTells : Nat → Int32} {f_rows : Int32} {f_latest : Int32} {f_pins : Nat → Int32} {f_writers : Nat → Int32} {f_sees : Nat → Int32} {f_states : Nat → Int32} {f_notes : Nat → Int32} {f_wrote : Nat → Int32} {f_waitsFor : Nat → Int32} {f_waitTriples : Nat → Int32} {f_waitTells : Nat → Int32} {f_since : Nat → Int32} {f_clock : Int32} {f_count : Int32} {f_holders : Nat → Int32} {f_queue : Nat → Int32} {f_queueFrom : Int32} {f_queueTo : Int32} {f_ring : Nat → Int32} {f_ringSize : Int32} {f_failures : Nat → Int32} {f_refusals : Nat → Int32} {f_thrown : Int32} {f_best : Nat → Int32} {x1 : Int32} {x2 : Int32} {post : Int → Prop} (hw : wpX48_rowOf post (zF f_rowTriples) (zF f_rowVersions) f_rows.toInt x1.toInt x2.toInt) :
    Met l yX48_rowOf (ws_ yX48_rowOf cX48_rowOf 5 (some .int)) ({ frames := 0, cells := 0, slots := 0, locals := 0 } : Room) (kPc (dC, dI) cl (tX48 d) [.ref (ad 0), .int x1, .int x2] sz (wX48 ci ad d f_rowTriples f_rowVersions f_rowTells f_rows f_latest f_pins f_writers f_sees f_states f_notes f_wrote f_waitsFor f_waitTriples f_waitTells f_since f_clock f_count f_holders f_queue f_queueFrom f_queueTo f_ring f_ringSize f_failures f_refusals f_thrown f_best)) (va_Qi (fun (r : Int32) (_ : Unit) => post r.toInt) (kB (dC, dI) cl (tX48 d) (va_A (wX48 ci ad d f_rowTriples f_rowVersions f_rowTells f_rows f_latest f_pins f_writers f_sees f_states f_notes f_wrote f_waitsFor f_waitTriples f_waitTells f_since f_clock f_count f_holders f_queue f_queueFrom f_queueTo f_ring f_ringSize f_failures f_refusals f_thrown f_best) sz) (fun _ : Unit => (wX48 ci ad d f_rowTriples f_rowVersions f_rowTells f_rows f_latest f_pins f_writers f_sees f_states f_notes f_wrote f_waitsFor f_waitTriples f_waitTells f_since f_clock f_count f_holders f_queue f_queueFrom f_queueTo f_ring f_ringSize f_failures f_refusals f_thrown f_best))) (va_A (wX48 ci ad d f_rowTriples f_rowVersions f_rowTells f_rows f_latest f_pins f_writers f_sees f_states f_notes f_wrote f_waitsFor f_waitTriples f_waitTells f_since f_clock f_count f_holders f_queue f_queueFrom f_queueTo f_ring f_ringSize f_failures f_refusals f_thrown f_best) sz)) 0 0 (va_A (wX48 ci ad d f_rowTriples f_rowVersions f_rowTells f_rows f_latest f_pins f_writers f_sees f_states f_notes f_wrote f_waitsFor f_waitTriples f_waitTells f_since f_clock f_count f_holders f_queue f_queueFrom f_queueTo f_ring f_ringSize f_failures f_refusals f_thrown f_best) sz) := by
  refine k_enter (by decide) (Nat.le_of_ble_eq_true rfl) ?_
  intro p e s m below meth c ls X hsz hH hl
  subst hsz
  generalize va_A (wX48 ci ad d f_rowTriples f_rowVersions f_rowTells f_rows f_latest f_pins f_writers f_sees f_states f_notes f_wrote f_waitsFor f_waitTriples f_waitTells f_since f_clock f_count f_holders f_queue f_queueFrom f_queueTo f_ring f_ringSize f_failures f_refusals f_thrown f_best) s.heap.size = A at hH ⊢
  have hx := X.1.1
  have hb := X.1.2.1
  have hl : lv_has ls 5 [(0, .ref (ad 0)), (1, .int x1), (2, .int x2)] := hl
  unfold wpX48_rowOf at hw
  refine lv_iconst (v := (-1)) hx hb dX48_rowOf_0 (by decide) ?_
  refine lv_istore_n (lv' := [(3, .int ((-1))), (0, .ref (ad 0)), (1, .int x1), (2, .int x2)]) hx hb dX48_rowOf_1 rfl hl (by decide) rfl (fun ls hl => ?_)
  refine lv_iconst (v := 0) hx hb dX48_rowOf_2 (by decide) ?_
  refine lv_istore (lv' := [(4, .int 0), (3, .int ((-1))), (0, .ref (ad 0)), (1, .int x1), (2, .int x2)]) hx hb dX48_rowOf_3 hl (by decide) rfl (fun ls hl => ?_)
  obtain ⟨fu, hw⟩ := hw
  refine atX48_rowOf_5 hc X ?_ fu (-1) 0 hw _ _ ls hH (lv_sub hl [2, 3, 4, 1, 0] rfl)
  · intro x3_22 hw H locs ls hH hl
    refine lv_iload_n hx hb dX48_rowOf_65 rfl (lv_at hl 0 rfl) ?_
    exact k_iret (v := x3_22) X hH () hw rfl rfl dX48_rowOf_66
set_option maxHeartbeats 4000000 in
theorem walkX48_isThere {l : Launch} {dC : Nat → ClassId} {dI : Nat → Nat → Nat} {cl : List vw_C} {ci : Nat} (hc : cl[ci]? = some (RX48, TX48, 27)) {ad : Nat → Nat} {d : Nat → ClassId} {sz : Nat} {f_rowTriples : Nat → Int32} {f_rowVersions : Nat → Int32} {f_rowTells : Nat → Int32} {f_rows : Int32} {f_latest : Int32} {f_pins : Nat → Int32} {f_writers : Nat → Int32} {f_sees : Nat → Int32} {f_states : Nat → Int32} {f_notes : Nat → Int32} {f_wrote : Nat → Int32} {f_waitsFor : Nat → Int32} {f_waitTriples : Nat → Int32} {f_waitTells : Nat → Int32} {f_since : Nat → Int32} {f_clock : Int32} {f_count : Int32} {f_holders : Nat → Int32} {f_queue : Nat → Int32} {f_queueFrom : Int32} {f_queueTo : Int32} {f_ring : Nat → Int32} {f_ringSize : Int32} {f_failures : Nat → Int32} {f_refusals : Nat → Int32} {f_thrown : Int32} {f_best : Nat → Int32} {x1 : Int32} {x2 : Int32} {post : Int → Prop} (hw : wpX48_isThere post (zF f_rowTriples) (zF f_rowVersions) (zF f_rowTells) f_rows.toInt x1.toInt x2.toInt) :
    Met l yX48_isThere (ws_ yX48_isThere cX48_isThere 4 (some .boolean)) ({ frames := 1, cells := 0, slots := 0, locals := 24 } : Room) (kPc (dC, dI) cl (tX48 d) [.ref (ad 0), .int x1, .int x2] sz (wX48 ci ad d f_rowTriples f_rowVersions f_rowTells f_rows f_latest f_pins f_writers f_sees f_states f_notes f_wrote f_waitsFor f_waitTriples f_waitTells f_since f_clock f_count f_holders f_queue f_queueFrom f_queueTo f_ring f_ringSize f_failures f_refusals f_thrown f_best)) (va_Qi (fun (r : Int32) (_ : Unit) => post r.toInt) (kB (dC, dI) cl (tX48 d) (va_A (wX48 ci ad d f_rowTriples f_rowVersions f_rowTells f_rows f_latest f_pins f_writers f_sees f_states f_notes f_wrote f_waitsFor f_waitTriples f_waitTells f_since f_clock f_count f_holders f_queue f_queueFrom f_queueTo f_ring f_ringSize f_failures f_refusals f_thrown f_best) sz) (fun _ : Unit => (wX48 ci ad d f_rowTriples f_rowVersions f_rowTells f_rows f_latest f_pins f_writers f_sees f_states f_notes f_wrote f_waitsFor f_waitTriples f_waitTells f_since f_clock f_count f_holders f_queue f_queueFrom f_queueTo f_ring f_ringSize f_failures f_refusals f_thrown f_best))) (va_A (wX48 ci ad d f_rowTriples f_rowVersions f_rowTells f_rows f_latest f_pins f_writers f_sees f_states f_notes f_wrote f_waitsFor f_waitTriples f_waitTells f_since f_clock f_count f_holders f_queue f_queueFrom f_queueTo f_ring f_ringSize f_failures f_refusals f_thrown f_best) sz)) 0 0 (va_A (wX48 ci ad d f_rowTriples f_rowVersions f_rowTells f_rows f_latest f_pins f_writers f_sees f_states f_notes f_wrote f_waitsFor f_waitTriples f_waitTells f_since f_clock f_count f_holders f_queue f_queueFrom f_queueTo f_ring f_ringSize f_failures f_refusals f_thrown f_best) sz) := by
  refine k_enter (by decide) (Nat.le_of_ble_eq_true rfl) ?_
  intro p e s m below meth c ls X hsz hH hl
  subst hsz
  generalize va_A (wX48 ci ad d f_rowTriples f_rowVersions f_rowTells f_rows f_latest f_pins f_writers f_sees f_states f_notes f_wrote f_waitsFor f_waitTriples f_waitTells f_since f_clock f_count f_holders f_queue f_queueFrom f_queueTo f_ring f_ringSize f_failures f_refusals f_thrown f_best) s.heap.size = A at hH ⊢
  have hx := X.1.1
  have hb := X.1.2.1
  have hl : lv_has ls 4 [(0, .ref (ad 0)), (1, .int x1), (2, .int x2)] := hl
  unfold wpX48_isThere at hw
  refine lv_aload_n hx hb dX48_isThere_0 rfl (lv_at hl 0 rfl) ?_
  refine lv_iload_n hx hb dX48_isThere_1 rfl (lv_at hl 1 rfl) ?_
  refine lv_iload_n hx hb dX48_isThere_2 rfl (lv_at hl 2 rfl) ?_
  refine k_i0 hH (k_runV (As := [.int x1, .int x2]) (rest := []) X hH.1 hH.2.1 X.2.2.2 (walkX48_rowOf hc (x1 := x1) (x2 := x2) (f_rowTriples := f_rowTriples) (f_rowVersions := f_rowVersions) (f_rowTells := f_rowTells) (f_rows := f_rows) (f_latest := f_latest) (f_pins := f_pins) (f_writers := f_writers) (f_sees := f_sees) (f_states := f_states) (f_notes := f_notes) (f_wrote := f_wrote) (f_waitsFor := f_waitsFor) (f_waitTriples := f_waitTriples) (f_waitTells := f_waitTells) (f_since := f_since) (f_clock := f_clock) (f_count := f_count) (f_holders := f_holders) (f_queue := f_queue) (f_queueFrom := f_queueFrom) (f_queueTo := f_queueTo) (f_ring := f_ring) (f_ringSize := f_ringSize) (f_failures := f_failures) (f_refusals := f_refusals) (f_thrown := f_thrown) (f_best := f_best) hw) (cwV 2 X.1.2.2.2.2 gX48_85 rfl rfl rfl hX48_rowOf ⟨Nat.le_of_ble_eq_true rfl, Nat.le_of_ble_eq_true rfl⟩) hc (q0 := 0) rfl rfl hl.1 rfl (Nat.le_of_ble_eq_true rfl) dX48_isThere_3 ⟨Nat.le_refl 0, Nat.le_refl 0⟩) (fun r_1 _ H locs hw hH => ?_)
  have hH : kH (dC, dI) cl A s.heap H locs (wX48 ci ad d f_rowTriples f_rowVersions f_rowTells f_rows f_latest f_pins f_writers f_sees f_states f_notes f_wrote f_waitsFor f_waitTriples f_waitTells f_since f_clock f_count f_holders f_queue f_queueFrom f_queueTo f_ring f_ringSize f_failures f_refusals f_thrown f_best) := hH
  refine lv_istore_n (lv' := [(3, .int r_1), (0, .ref (ad 0)), (1, .int x1), (2, .int x2)]) hx hb dX48_isThere_6 rfl hl (by decide) rfl (fun ls hl => ?_)
  refine lv_iload_n hx hb dX48_isThere_7 rfl (lv_at hl 0 rfl) ?_
  refine lv_if_lt (tgt := 24) hx hb dX48_isThere_8 (by decide) (fun c_2 => ?_) (fun c_2 => ?_)
  · have hw := hw.1 (z_lt (rfl : r_1.toInt = _) (rfl : (0 : Int32).toInt = 0) c_2)
    refine lv_iconst (v := 0) hx hb dX48_isThere_24 (by decide) ?_
    exact k_iret (v := 0) X hH () hw rfl rfl dX48_isThere_25
  · have hw := hw.2 (z_nlt (rfl : r_1.toInt = _) (rfl : (0 : Int32).toInt = 0) c_2)
    refine lv_aload_n hx hb dX48_isThere_11 rfl (lv_at hl 1 rfl) ?_
    refine k_get X hH in_X48 0 rfl hc 2 (by decide) q6074 rfl dX48_isThere_12 ?_
    refine lv_iload_n hx hb dX48_isThere_15 rfl (lv_at hl 0 rfl) ?_
    have hq_3 := hw.1
    have hw := hw.2
    refine k_zald X hH 3 2 rfl rfl (z_in (rfl : r_1.toInt = _) hq_3) dX48_isThere_16 ?_
    have e_4 := z_ld (f := f_rowTells) (rfl : r_1.toInt = _) hq_3.1
    refine lv_if_eq (tgt := 24) hx hb dX48_isThere_17 (by decide) (fun c_5 => ?_) (fun c_5 => ?_)
    · have hw := hw.1 (z_eq e_4 (rfl : (0 : Int32).toInt = 0) c_5)
      refine lv_iconst (v := 0) hx hb dX48_isThere_24 (by decide) ?_
      exact k_iret (v := 0) X hH () hw rfl rfl dX48_isThere_25
    · have hw := hw.2 (z_neq e_4 (rfl : (0 : Int32).toInt = 0) c_5)
      refine lv_iconst (v := 1) hx hb dX48_isThere_20 (by decide) ?_
      refine lv_goto (tgt := 25) hx hb dX48_isThere_21 (by decide) ?_
      exact k_iret (v := 1) X hH () hw rfl rfl dX48_isThere_25
set_option maxHeartbeats 4000000 in
theorem atX48_commit_63 {p : Program} {l : Launch} {e : Env} {s : State} {m : MethodId} {args : Array Value} {below : List Frame} {meth : Method} {c : Code} {dC : Nat → ClassId} {dI : Nat → Nat → Nat} {cl : List vw_C} {ci : Nat} (hc : cl[ci]? = some (RX48, TX48, 27)) {ad : Nat → Nat} {d : Nat → ClassId} {A : Nat → Prop} {post : Int → (Int → Int) → (Int → Int) → (Int → Int) → Int → Int → (Int → Int) → (Int → Int) → (Int → Int) → (Int → Int) → (Int → Int) → (Int → Int) → Int → (Int → Int) → (Int → Int) → Int → Int → (Int → Int) → Int → (Int → Int) → (Int → Int) → Int → Prop} {f_pins : Nat → Int32} {f_writers : Nat → Int32} {f_sees : Nat → Int32} {f_notes : Nat → Int32} {f_count : Int32} {f_best : Nat → Int32} (X : kX p s m args meth c cX48_commit 8 RX48 (some .int) (dC, dI) cl (tX48 d))     :
    ∀ (x1 : Int32) (x3 : Int32) (f_rowTriples : Nat → Int32) (f_rowVersions : Nat → Int32) (f_rowTells : Nat → Int32) (f_rows : Int32) (f_latest : Int32) (f_states : Nat → Int32) (f_wrote : Nat → Int32) (f_waitsFor : Nat → Int32) (f_waitTriples : Nat → Int32) (f_waitTells : Nat → Int32) (f_since : Nat → Int32) (f_clock : Int32) (f_holders : Nat → Int32) (f_queue : Nat → Int32) (f_queueFrom : Int32) (f_queueTo : Int32) (f_ring : Nat → Int32) (f_ringSize : Int32) (f_failures : Nat → Int32) (f_refusals : Nat → Int32) (f_thrown : Int32), wX48_commit_63 post x1.toInt x3.toInt (zF f_rowTriples) (zF f_rowVersions) (zF f_rowTells) f_rows.toInt f_latest.toInt (zF f_sees) (zF f_states) (zF f_wrote) (zF f_waitsFor) (zF f_waitTriples) (zF f_waitTells) (zF f_since) f_clock.toInt f_count.toInt (zF f_holders) (zF f_queue) f_queueFrom.toInt f_queueTo.toInt (zF f_ring) f_ringSize.toInt (zF f_failures) (zF f_refusals) f_thrown.toInt → ∀ (H : Heap) (locs : List Loc) (ls : Array Slot), kH (dC, dI) cl A s.heap H locs (wX48 ci ad d f_rowTriples f_rowVersions f_rowTells f_rows f_latest f_pins f_writers f_sees f_states f_notes f_wrote f_waitsFor f_waitTriples f_waitTells f_since f_clock f_count f_holders f_queue f_queueFrom f_queueTo f_ring f_ringSize f_failures f_refusals f_thrown f_best) → lv_has ls 8 [(0, .ref (ad 0)), (1, .int x1), (3, .int x3)] → W p l e ({ frames := 5, cells := 0, slots := 0, locals := 118 } : Room) s m args below meth c H locs 0 0 (MQ below (va_Qi (fun (r : Int32) (u : (Nat → Int32) × (Nat → Int32) × (Nat → Int32) × Int32 × Int32 × (Nat → Int32) × (Nat → Int32) × (Nat → Int32) × (Nat → Int32) × (Nat → Int32) × (Nat → Int32) × Int32 × (Nat → Int32) × (Nat → Int32) × Int32 × Int32 × (Nat → Int32) × Int32 × (Nat → Int32) × (Nat → Int32) × Int32) => post r.toInt (zF (u.1)) (zF (u.2.1)) (zF (u.2.2.1)) (u.2.2.2.1).toInt (u.2.2.2.2.1).toInt (zF (u.2.2.2.2.2.1)) (zF (u.2.2.2.2.2.2.1)) (zF (u.2.2.2.2.2.2.2.1)) (zF (u.2.2.2.2.2.2.2.2.1)) (zF (u.2.2.2.2.2.2.2.2.2.1)) (zF (u.2.2.2.2.2.2.2.2.2.2.1)) (u.2.2.2.2.2.2.2.2.2.2.2.1).toInt (zF (u.2.2.2.2.2.2.2.2.2.2.2.2.1)) (zF (u.2.2.2.2.2.2.2.2.2.2.2.2.2.1)) (u.2.2.2.2.2.2.2.2.2.2.2.2.2.2.1).toInt (u.2.2.2.2.2.2.2.2.2.2.2.2.2.2.2.1).toInt (zF (u.2.2.2.2.2.2.2.2.2.2.2.2.2.2.2.2.1)) (u.2.2.2.2.2.2.2.2.2.2.2.2.2.2.2.2.2.1).toInt (zF (u.2.2.2.2.2.2.2.2.2.2.2.2.2.2.2.2.2.2.1)) (zF (u.2.2.2.2.2.2.2.2.2.2.2.2.2.2.2.2.2.2.2.1)) (u.2.2.2.2.2.2.2.2.2.2.2.2.2.2.2.2.2.2.2.2).toInt) (kB (dC, dI) cl (tX48 d) A (fun u : (Nat → Int32) × (Nat → Int32) × (Nat → Int32) × Int32 × Int32 × (Nat → Int32) × (Nat → Int32) × (Nat → Int32) × (Nat → Int32) × (Nat → Int32) × (Nat → Int32) × Int32 × (Nat → Int32) × (Nat → Int32) × Int32 × Int32 × (Nat → Int32) × Int32 × (Nat → Int32) × (Nat → Int32) × Int32 => (wX48 ci ad d (u.1) (u.2.1) (u.2.2.1) (u.2.2.2.1) (u.2.2.2.2.1) f_pins f_writers f_sees (u.2.2.2.2.2.1) f_notes (u.2.2.2.2.2.2.1) (u.2.2.2.2.2.2.2.1) (u.2.2.2.2.2.2.2.2.1) (u.2.2.2.2.2.2.2.2.2.1) (u.2.2.2.2.2.2.2.2.2.2.1) (u.2.2.2.2.2.2.2.2.2.2.2.1) f_count (u.2.2.2.2.2.2.2.2.2.2.2.2.1) (u.2.2.2.2.2.2.2.2.2.2.2.2.2.1) (u.2.2.2.2.2.2.2.2.2.2.2.2.2.2.1) (u.2.2.2.2.2.2.2.2.2.2.2.2.2.2.2.1) (u.2.2.2.2.2.2.2.2.2.2.2.2.2.2.2.2.1) (u.2.2.2.2.2.2.2.2.2.2.2.2.2.2.2.2.2.1) (u.2.2.2.2.2.2.2.2.2.2.2.2.2.2.2.2.2.2.1) (u.2.2.2.2.2.2.2.2.2.2.2.2.2.2.2.2.2.2.2.1) (u.2.2.2.2.2.2.2.2.2.2.2.2.2.2.2.2.2.2.2.2) f_best))) A) args s 0 0 A) (F0 m 63 ls []) := by
  have hx := X.1.1
  have hb := X.1.2.1
  intro x1 x3 f_rowTriples f_rowVersions f_rowTells f_rows f_latest f_states f_wrote f_waitsFor f_waitTriples f_waitTells f_since f_clock f_holders f_queue f_queueFrom f_queueTo f_ring f_ringSize f_failures f_refusals f_thrown hw H locs ls hH hl
  unfold wX48_commit_63 at hw
  refine lv_aload_n hx hb dX48_commit_63 rfl (lv_at hl 0 rfl) ?_
  refine k_get X hH in_X48 0 rfl hc 8 (by decide) q6080 rfl dX48_commit_64 ?_
  refine lv_iload_n hx hb dX48_commit_67 rfl (lv_at hl 1 rfl) ?_
  have hq_10 := hw.1
  have hw := hw.2
  refine k_iald X hH 7 6 rfl rfl (z_in (rfl : x1.toInt = _) hq_10) dX48_commit_68 ?_
  have e_11 := z_ld (f := f_states) (rfl : x1.toInt = _) hq_10.1
  refine lv_iconst (v := 2) hx hb dX48_commit_69 (by decide) ?_
  refine lv_icmp_eq (tgt := 83) hx hb dX48_commit_70 (by decide) (fun c_12 => ?_) (fun c_12 => ?_)
  · have hw := hw.1 (z_eq e_11 (rfl : (2 : Int32).toInt = 2) c_12)
    refine lv_aload_n hx hb dX48_commit_83 rfl (lv_at hl 0 rfl) ?_
    refine lv_iload_n hx hb dX48_commit_84 rfl (lv_at hl 1 rfl) ?_
    refine lv_iconst (v := 4) hx hb dX48_commit_85 (by decide) ?_
    refine k_v0 hH (k_runV (As := [.int x1, .int 4]) (rest := []) X hH.1 hH.2.1 X.2.2.2 (walkX48_end hc (x1 := x1) (x2 := 4) (f_rowTriples := f_rowTriples) (f_rowVersions := f_rowVersions) (f_rowTells := f_rowTells) (f_rows := f_rows) (f_latest := f_latest) (f_pins := f_pins) (f_writers := f_writers) (f_sees := f_sees) (f_states := f_states) (f_notes := f_notes) (f_wrote := f_wrote) (f_waitsFor := f_waitsFor) (f_waitTriples := f_waitTriples) (f_waitTells := f_waitTells) (f_since := f_since) (f_clock := f_clock) (f_count := f_count) (f_holders := f_holders) (f_queue := f_queue) (f_queueFrom := f_queueFrom) (f_queueTo := f_queueTo) (f_ring := f_ring) (f_ringSize := f_ringSize) (f_failures := f_failures) (f_refusals := f_refusals) (f_thrown := f_thrown) (f_best := f_best) hw) (cwV 2 X.1.2.2.2.2 gX48_141 rfl rfl rfl hX48_end ⟨Nat.le_of_ble_eq_true rfl, Nat.le_of_ble_eq_true rfl⟩) hc (q0 := 0) rfl rfl hl.1 rfl (Nat.le_of_ble_eq_true rfl) dX48_commit_86 ⟨Nat.le_refl 0, Nat.le_refl 0⟩) (fun u H locs hw hH => ?_)
    obtain ⟨f_states_13, f_holders_14, f_queue_15, f_queueTo_16⟩ := u
    have hH : kH (dC, dI) cl A s.heap H locs (wX48 ci ad d f_rowTriples f_rowVersions f_rowTells f_rows f_latest f_pins f_writers f_sees f_states_13 f_notes f_wrote f_waitsFor f_waitTriples f_waitTells f_since f_clock f_count f_holders_14 f_queue_15 f_queueFrom f_queueTo_16 f_ring f_ringSize f_failures f_refusals f_thrown f_best) := hH
    refine lv_aload_n hx hb dX48_commit_89 rfl (lv_at hl 0 rfl) ?_
    refine k_v0 hH (k_runV (As := []) (rest := []) X hH.1 hH.2.1 X.2.2.2 (walkX48_goOn hc (f_rowTriples := f_rowTriples) (f_rowVersions := f_rowVersions) (f_rowTells := f_rowTells) (f_rows := f_rows) (f_latest := f_latest) (f_pins := f_pins) (f_writers := f_writers) (f_sees := f_sees) (f_states := f_states_13) (f_notes := f_notes) (f_wrote := f_wrote) (f_waitsFor := f_waitsFor) (f_waitTriples := f_waitTriples) (f_waitTells := f_waitTells) (f_since := f_since) (f_clock := f_clock) (f_count := f_count) (f_holders := f_holders_14) (f_queue := f_queue_15) (f_queueFrom := f_queueFrom) (f_queueTo := f_queueTo_16) (f_ring := f_ring) (f_ringSize := f_ringSize) (f_failures := f_failures) (f_refusals := f_refusals) (f_thrown := f_thrown) (f_best := f_best) hw) (cwV 0 X.1.2.2.2.2 gX48_121 rfl rfl rfl hX48_goOn ⟨Nat.le_of_ble_eq_true rfl, Nat.le_of_ble_eq_true rfl⟩) hc (q0 := 0) rfl rfl hl.1 rfl (Nat.le_of_ble_eq_true rfl) dX48_commit_90 ⟨Nat.le_refl 0, Nat.le_refl 0⟩) (fun u H locs hw hH => ?_)
    obtain ⟨f_states_17, f_wrote_18, f_waitsFor_19, f_waitTriples_20, f_waitTells_21, f_since_22, f_clock_23, f_holders_24, f_queue_25, f_queueFrom_26, f_queueTo_27, f_ring_28, f_ringSize_29, f_failures_30⟩ := u
    have hH : kH (dC, dI) cl A s.heap H locs (wX48 ci ad d f_rowTriples f_rowVersions f_rowTells f_rows f_latest f_pins f_writers f_sees f_states_17 f_notes f_wrote_18 f_waitsFor_19 f_waitTriples_20 f_waitTells_21 f_since_22 f_clock_23 f_count f_holders_24 f_queue_25 f_queueFrom_26 f_queueTo_27 f_ring_28 f_ringSize_29 f_failures_30 f_refusals f_thrown f_best) := hH
    refine lv_iconst (v := 0) hx hb dX48_commit_93 (by decide) ?_
    exact k_iret (v := 0) X hH (f_rowTriples, f_rowVersions, f_rowTells, f_rows, f_latest, f_states_17, f_wrote_18, f_waitsFor_19, f_waitTriples_20, f_waitTells_21, f_since_22, f_clock_23, f_holders_24, f_queue_25, f_queueFrom_26, f_queueTo_27, f_ring_28, f_ringSize_29, f_failures_30, f_refusals, f_thrown) hw rfl rfl dX48_commit_94
  · have hw := hw.2 (z_neq e_11 (rfl : (2 : Int32).toInt = 2) c_12)
    refine lv_aload_n hx hb dX48_commit_73 rfl (lv_at hl 0 rfl) ?_
    refine k_get X hH in_X48 0 rfl hc 24 (by decide) q6096 rfl dX48_commit_74 ?_
    refine lv_iload_n hx hb dX48_commit_77 rfl (lv_at hl 2 rfl) ?_
    refine lv_dup2_11 hx hb dX48_commit_78 rfl rfl ?_
    have hq_31 := hw.1
    have hw := hw.2
    refine k_iald X hH 18 17 rfl rfl (z_in (rfl : x3.toInt = _) hq_31) dX48_commit_79 ?_
    have e_32 := z_ld (f := f_refusals) (rfl : x3.toInt = _) hq_31.1
    refine lv_iconst (v := 1) hx hb dX48_commit_80 (by decide) ?_
    refine lv_iadd hx hb dX48_commit_81 ?_
    have e_33 := z_add (z_m e_32) (z_m (rfl : (1 : Int32).toInt = 1))
    have hq_34 := hw.1
    have hw := hw.2
    have e_35 := z_x e_33 hq_34
    refine lv_topi (fun v_36 ev_36 => ?_)
    have hw := hw v_36.toInt (by rw [ev_36]; exact e_35)
    obtain ⟨f_refusals_37, ef_refusals_37⟩ : ∃ y : Nat → Int32, y = upd f_refusals x3.toNatClampNeg v_36 := ⟨_, rfl⟩
    refine k_iast X hH 18 17 rfl rfl (z_in (rfl : x3.toInt = _) hq_31) dX48_commit_82 ef_refusals_37 (ws1 := (wX48 ci ad d f_rowTriples f_rowVersions f_rowTells f_rows f_latest f_pins f_writers f_sees f_states f_notes f_wrote f_waitsFor f_waitTriples f_waitTells f_since f_clock f_count f_holders f_queue f_queueFrom f_queueTo f_ring f_ringSize f_failures f_refusals_37 f_thrown f_best)) rfl (fun H locs hH => ?_)
    have hw := hw (zF f_refusals_37) (by rw [ef_refusals_37]; exact z_st (f := f_refusals) (rfl : x3.toInt = _) hq_31.1 (rfl : v_36.toInt = _))
    refine lv_aload_n hx hb dX48_commit_83 rfl (lv_at hl 0 rfl) ?_
    refine lv_iload_n hx hb dX48_commit_84 rfl (lv_at hl 1 rfl) ?_
    refine lv_iconst (v := 4) hx hb dX48_commit_85 (by decide) ?_
    refine k_v0 hH (k_runV (As := [.int x1, .int 4]) (rest := []) X hH.1 hH.2.1 X.2.2.2 (walkX48_end hc (x1 := x1) (x2 := 4) (f_rowTriples := f_rowTriples) (f_rowVersions := f_rowVersions) (f_rowTells := f_rowTells) (f_rows := f_rows) (f_latest := f_latest) (f_pins := f_pins) (f_writers := f_writers) (f_sees := f_sees) (f_states := f_states) (f_notes := f_notes) (f_wrote := f_wrote) (f_waitsFor := f_waitsFor) (f_waitTriples := f_waitTriples) (f_waitTells := f_waitTells) (f_since := f_since) (f_clock := f_clock) (f_count := f_count) (f_holders := f_holders) (f_queue := f_queue) (f_queueFrom := f_queueFrom) (f_queueTo := f_queueTo) (f_ring := f_ring) (f_ringSize := f_ringSize) (f_failures := f_failures) (f_refusals := f_refusals_37) (f_thrown := f_thrown) (f_best := f_best) hw) (cwV 2 X.1.2.2.2.2 gX48_141 rfl rfl rfl hX48_end ⟨Nat.le_of_ble_eq_true rfl, Nat.le_of_ble_eq_true rfl⟩) hc (q0 := 0) rfl rfl hl.1 rfl (Nat.le_of_ble_eq_true rfl) dX48_commit_86 ⟨Nat.le_refl 0, Nat.le_refl 0⟩) (fun u H locs hw hH => ?_)
    obtain ⟨f_states_38, f_holders_39, f_queue_40, f_queueTo_41⟩ := u
    have hH : kH (dC, dI) cl A s.heap H locs (wX48 ci ad d f_rowTriples f_rowVersions f_rowTells f_rows f_latest f_pins f_writers f_sees f_states_38 f_notes f_wrote f_waitsFor f_waitTriples f_waitTells f_since f_clock f_count f_holders_39 f_queue_40 f_queueFrom f_queueTo_41 f_ring f_ringSize f_failures f_refusals_37 f_thrown f_best) := hH
    refine lv_aload_n hx hb dX48_commit_89 rfl (lv_at hl 0 rfl) ?_
    refine k_v0 hH (k_runV (As := []) (rest := []) X hH.1 hH.2.1 X.2.2.2 (walkX48_goOn hc (f_rowTriples := f_rowTriples) (f_rowVersions := f_rowVersions) (f_rowTells := f_rowTells) (f_rows := f_rows) (f_latest := f_latest) (f_pins := f_pins) (f_writers := f_writers) (f_sees := f_sees) (f_states := f_states_38) (f_notes := f_notes) (f_wrote := f_wrote) (f_waitsFor := f_waitsFor) (f_waitTriples := f_waitTriples) (f_waitTells := f_waitTells) (f_since := f_since) (f_clock := f_clock) (f_count := f_count) (f_holders := f_holders_39) (f_queue := f_queue_40) (f_queueFrom := f_queueFrom) (f_queueTo := f_queueTo_41) (f_ring := f_ring) (f_ringSize := f_ringSize) (f_failures := f_failures) (f_refusals := f_refusals_37) (f_thrown := f_thrown) (f_best := f_best) hw) (cwV 0 X.1.2.2.2.2 gX48_121 rfl rfl rfl hX48_goOn ⟨Nat.le_of_ble_eq_true rfl, Nat.le_of_ble_eq_true rfl⟩) hc (q0 := 0) rfl rfl hl.1 rfl (Nat.le_of_ble_eq_true rfl) dX48_commit_90 ⟨Nat.le_refl 0, Nat.le_refl 0⟩) (fun u H locs hw hH => ?_)
    obtain ⟨f_states_42, f_wrote_43, f_waitsFor_44, f_waitTriples_45, f_waitTells_46, f_since_47, f_clock_48, f_holders_49, f_queue_50, f_queueFrom_51, f_queueTo_52, f_ring_53, f_ringSize_54, f_failures_55⟩ := u
    have hH : kH (dC, dI) cl A s.heap H locs (wX48 ci ad d f_rowTriples f_rowVersions f_rowTells f_rows f_latest f_pins f_writers f_sees f_states_42 f_notes f_wrote_43 f_waitsFor_44 f_waitTriples_45 f_waitTells_46 f_since_47 f_clock_48 f_count f_holders_49 f_queue_50 f_queueFrom_51 f_queueTo_52 f_ring_53 f_ringSize_54 f_failures_55 f_refusals_37 f_thrown f_best) := hH
    refine lv_iconst (v := 0) hx hb dX48_commit_93 (by decide) ?_
    exact k_iret (v := 0) X hH (f_rowTriples, f_rowVersions, f_rowTells, f_rows, f_latest, f_states_42, f_wrote_43, f_waitsFor_44, f_waitTriples_45, f_waitTells_46, f_since_47, f_clock_48, f_holders_49, f_queue_50, f_queueFrom_51, f_queueTo_52, f_ring_53, f_ringSize_54, f_failures_55, f_refusals_37, f_thrown) hw rfl rfl dX48_commit_94
set_option maxHeartbeats 4000000 in
theorem atX48_commit_153 {p : Program} {l : Launch} {e : Env} {s : State} {m : MethodId} {args : Array Value} {below : List Frame} {meth : Method} {c : Code} {dC : Nat → ClassId} {dI : Nat → Nat → Nat} {cl : List vw_C} {ci : Nat} (hc : cl[ci]? = some (RX48, TX48, 27)) {ad : Nat → Nat} {d : Nat → ClassId} {A : Nat → Prop} {post : Int → (Int → Int) → (Int → Int) → (Int → Int) → Int → Int → (Int → Int) → (Int → Int) → (Int → Int) → (Int → Int) → (Int → Int) → (Int → Int) → Int → (Int → Int) → (Int → Int) → Int → Int → (Int → Int) → Int → (Int → Int) → (Int → Int) → Int → Prop} {f_pins : Nat → Int32} {f_writers : Nat → Int32} {f_sees : Nat → Int32} {f_notes : Nat → Int32} {f_count : Int32} {f_best : Nat → Int32} (X : kX p s m args meth c cX48_commit 8 RX48 (some .int) (dC, dI) cl (tX48 d)) {K114 : Int → Int → (Int → Int) → (Int → Int) → (Int → Int) → Int → Prop} {x1 : Int32} {x5 : Int32} {f_latest : Int32} {f_states : Nat → Int32} {f_wrote : Nat → Int32} {f_waitsFor : Nat → Int32} {f_waitTriples : Nat → Int32} {f_waitTells : Nat → Int32} {f_since : Nat → Int32} {f_clock : Int32} {f_holders : Nat → Int32} {f_queue : Nat → Int32} {f_queueFrom : Int32} {f_queueTo : Int32} {f_ring : Nat → Int32} {f_ringSize : Int32} {f_failures : Nat → Int32} {f_refusals : Nat → Int32} {f_thrown : Int32} (hk114 : ∀ (x4 : Int32) (x6 : Int32) (f_rowTriples : Nat → Int32) (f_rowVersions : Nat → Int32) (f_rowTells : Nat → Int32) (f_rows : Int32), K114 x4.toInt x6.toInt (zF f_rowTriples) (zF f_rowVersions) (zF f_rowTells) f_rows.toInt → ∀ (H : Heap) (locs : List Loc) (ls : Array Slot), kH (dC, dI) cl A s.heap H locs (wX48 ci ad d f_rowTriples f_rowVersions f_rowTells f_rows f_latest f_pins f_writers f_sees f_states f_notes f_wrote f_waitsFor f_waitTriples f_waitTells f_since f_clock f_count f_holders f_queue f_queueFrom f_queueTo f_ring f_ringSize f_failures f_refusals f_thrown f_best) → lv_has ls 8 [(0, .ref (ad 0)), (1, .int x1), (4, .int x4), (5, .int x5), (6, .int x6)] → W p l e ({ frames := 5, cells := 0, slots := 0, locals := 118 } : Room) s m args below meth c H locs 0 0 (MQ below (va_Qi (fun (r : Int32) (u : (Nat → Int32) × (Nat → Int32) × (Nat → Int32) × Int32 × Int32 × (Nat → Int32) × (Nat → Int32) × (Nat → Int32) × (Nat → Int32) × (Nat → Int32) × (Nat → Int32) × Int32 × (Nat → Int32) × (Nat → Int32) × Int32 × Int32 × (Nat → Int32) × Int32 × (Nat → Int32) × (Nat → Int32) × Int32) => post r.toInt (zF (u.1)) (zF (u.2.1)) (zF (u.2.2.1)) (u.2.2.2.1).toInt (u.2.2.2.2.1).toInt (zF (u.2.2.2.2.2.1)) (zF (u.2.2.2.2.2.2.1)) (zF (u.2.2.2.2.2.2.2.1)) (zF (u.2.2.2.2.2.2.2.2.1)) (zF (u.2.2.2.2.2.2.2.2.2.1)) (zF (u.2.2.2.2.2.2.2.2.2.2.1)) (u.2.2.2.2.2.2.2.2.2.2.2.1).toInt (zF (u.2.2.2.2.2.2.2.2.2.2.2.2.1)) (zF (u.2.2.2.2.2.2.2.2.2.2.2.2.2.1)) (u.2.2.2.2.2.2.2.2.2.2.2.2.2.2.1).toInt (u.2.2.2.2.2.2.2.2.2.2.2.2.2.2.2.1).toInt (zF (u.2.2.2.2.2.2.2.2.2.2.2.2.2.2.2.2.1)) (u.2.2.2.2.2.2.2.2.2.2.2.2.2.2.2.2.2.1).toInt (zF (u.2.2.2.2.2.2.2.2.2.2.2.2.2.2.2.2.2.2.1)) (zF (u.2.2.2.2.2.2.2.2.2.2.2.2.2.2.2.2.2.2.2.1)) (u.2.2.2.2.2.2.2.2.2.2.2.2.2.2.2.2.2.2.2.2).toInt) (kB (dC, dI) cl (tX48 d) A (fun u : (Nat → Int32) × (Nat → Int32) × (Nat → Int32) × Int32 × Int32 × (Nat → Int32) × (Nat → Int32) × (Nat → Int32) × (Nat → Int32) × (Nat → Int32) × (Nat → Int32) × Int32 × (Nat → Int32) × (Nat → Int32) × Int32 × Int32 × (Nat → Int32) × Int32 × (Nat → Int32) × (Nat → Int32) × Int32 => (wX48 ci ad d (u.1) (u.2.1) (u.2.2.1) (u.2.2.2.1) (u.2.2.2.2.1) f_pins f_writers f_sees (u.2.2.2.2.2.1) f_notes (u.2.2.2.2.2.2.1) (u.2.2.2.2.2.2.2.1) (u.2.2.2.2.2.2.2.2.1) (u.2.2.2.2.2.2.2.2.2.1) (u.2.2.2.2.2.2.2.2.2.2.1) (u.2.2.2.2.2.2.2.2.2.2.2.1) f_count (u.2.2.2.2.2.2.2.2.2.2.2.2.1) (u.2.2.2.2.2.2.2.2.2.2.2.2.2.1) (u.2.2.2.2.2.2.2.2.2.2.2.2.2.2.1) (u.2.2.2.2.2.2.2.2.2.2.2.2.2.2.2.1) (u.2.2.2.2.2.2.2.2.2.2.2.2.2.2.2.2.1) (u.2.2.2.2.2.2.2.2.2.2.2.2.2.2.2.2.2.1) (u.2.2.2.2.2.2.2.2.2.2.2.2.2.2.2.2.2.2.1) (u.2.2.2.2.2.2.2.2.2.2.2.2.2.2.2.2.2.2.2.1) (u.2.2.2.2.2.2.2.2.2.2.2.2.2.2.2.2.2.2.2.2) f_best))) A) args s 0 0 A) (F0 m 114 ls [])) :
    ∀ (x4 : Int32) (x6 : Int32) (x7 : Int32) (y0 : Int32) (f_rowTriples : Nat → Int32) (f_rowVersions : Nat → Int32) (f_rowTells : Nat → Int32) (f_rows : Int32), wX48_commit_153 K114 x1.toInt x4.toInt x5.toInt x6.toInt x7.toInt y0.toInt (zF f_rowTriples) (zF f_rowVersions) (zF f_rowTells) f_rows.toInt (zF f_sees) → ∀ (H : Heap) (locs : List Loc) (ls : Array Slot), kH (dC, dI) cl A s.heap H locs (wX48 ci ad d f_rowTriples f_rowVersions f_rowTells f_rows f_latest f_pins f_writers f_sees f_states f_notes f_wrote f_waitsFor f_waitTriples f_waitTells f_since f_clock f_count f_holders f_queue f_queueFrom f_queueTo f_ring f_ringSize f_failures f_refusals f_thrown f_best) → lv_has ls 8 [(0, .ref (ad 0)), (1, .int x1), (4, .int x4), (5, .int x5), (6, .int x6), (7, .int x7)] → W p l e ({ frames := 5, cells := 0, slots := 0, locals := 118 } : Room) s m args below meth c H locs 0 0 (MQ below (va_Qi (fun (r : Int32) (u : (Nat → Int32) × (Nat → Int32) × (Nat → Int32) × Int32 × Int32 × (Nat → Int32) × (Nat → Int32) × (Nat → Int32) × (Nat → Int32) × (Nat → Int32) × (Nat → Int32) × Int32 × (Nat → Int32) × (Nat → Int32) × Int32 × Int32 × (Nat → Int32) × Int32 × (Nat → Int32) × (Nat → Int32) × Int32) => post r.toInt (zF (u.1)) (zF (u.2.1)) (zF (u.2.2.1)) (u.2.2.2.1).toInt (u.2.2.2.2.1).toInt (zF (u.2.2.2.2.2.1)) (zF (u.2.2.2.2.2.2.1)) (zF (u.2.2.2.2.2.2.2.1)) (zF (u.2.2.2.2.2.2.2.2.1)) (zF (u.2.2.2.2.2.2.2.2.2.1)) (zF (u.2.2.2.2.2.2.2.2.2.2.1)) (u.2.2.2.2.2.2.2.2.2.2.2.1).toInt (zF (u.2.2.2.2.2.2.2.2.2.2.2.2.1)) (zF (u.2.2.2.2.2.2.2.2.2.2.2.2.2.1)) (u.2.2.2.2.2.2.2.2.2.2.2.2.2.2.1).toInt (u.2.2.2.2.2.2.2.2.2.2.2.2.2.2.2.1).toInt (zF (u.2.2.2.2.2.2.2.2.2.2.2.2.2.2.2.2.1)) (u.2.2.2.2.2.2.2.2.2.2.2.2.2.2.2.2.2.1).toInt (zF (u.2.2.2.2.2.2.2.2.2.2.2.2.2.2.2.2.2.2.1)) (zF (u.2.2.2.2.2.2.2.2.2.2.2.2.2.2.2.2.2.2.2.1)) (u.2.2.2.2.2.2.2.2.2.2.2.2.2.2.2.2.2.2.2.2).toInt) (kB (dC, dI) cl (tX48 d) A (fun u : (Nat → Int32) × (Nat → Int32) × (Nat → Int32) × Int32 × Int32 × (Nat → Int32) × (Nat → Int32) × (Nat → Int32) × (Nat → Int32) × (Nat → Int32) × (Nat → Int32) × Int32 × (Nat → Int32) × (Nat → Int32) × Int32 × Int32 × (Nat → Int32) × Int32 × (Nat → Int32) × (Nat → Int32) × Int32 => (wX48 ci ad d (u.1) (u.2.1) (u.2.2.1) (u.2.2.2.1) (u.2.2.2.2.1) f_pins f_writers f_sees (u.2.2.2.2.2.1) f_notes (u.2.2.2.2.2.2.1) (u.2.2.2.2.2.2.2.1) (u.2.2.2.2.2.2.2.2.1) (u.2.2.2.2.2.2.2.2.2.1) (u.2.2.2.2.2.2.2.2.2.2.1) (u.2.2.2.2.2.2.2.2.2.2.2.1) f_count (u.2.2.2.2.2.2.2.2.2.2.2.2.1) (u.2.2.2.2.2.2.2.2.2.2.2.2.2.1) (u.2.2.2.2.2.2.2.2.2.2.2.2.2.2.1) (u.2.2.2.2.2.2.2.2.2.2.2.2.2.2.2.1) (u.2.2.2.2.2.2.2.2.2.2.2.2.2.2.2.2.1) (u.2.2.2.2.2.2.2.2.2.2.2.2.2.2.2.2.2.1) (u.2.2.2.2.2.2.2.2.2.2.2.2.2.2.2.2.2.2.1) (u.2.2.2.2.2.2.2.2.2.2.2.2.2.2.2.2.2.2.2.1) (u.2.2.2.2.2.2.2.2.2.2.2.2.2.2.2.2.2.2.2.2) f_best))) A) args s 0 0 A) (F0 m 153 ls [.int y0]) := by
  have hx := X.1.1
  have hb := X.1.2.1
  intro x4 x6 x7 y0 f_rowTriples f_rowVersions f_rowTells f_rows hw H locs ls hH hl
  unfold wX48_commit_153 at hw
  refine lv_aload_n hx hb dX48_commit_153 rfl (lv_at hl 0 rfl) ?_
  refine lv_iload hx hb dX48_commit_154 (lv_at hl 4 rfl) ?_
  refine lv_aload_n hx hb dX48_commit_156 rfl (lv_at hl 0 rfl) ?_
  refine k_get X hH in_X48 0 rfl hc 7 (by decide) q6079 rfl dX48_commit_157 ?_
  refine lv_iload_n hx hb dX48_commit_160 rfl (lv_at hl 1 rfl) ?_
  have hq_74 := hw.1
  have hw := hw.2
  refine k_iald X hH 6 5 rfl rfl (z_in (rfl : x1.toInt = _) hq_74) dX48_commit_161 ?_
  have e_75 := z_ld (f := f_sees) (rfl : x1.toInt = _) hq_74.1
  refine k_i0 hH (k_runV (As := [.int x6, .int (f_sees x1.toNatClampNeg)]) (rest := [.int y0]) X hH.1 hH.2.1 X.2.2.2 (walkX48_isThere hc (x1 := x6) (x2 := (f_sees x1.toNatClampNeg)) (f_rowTriples := f_rowTriples) (f_rowVersions := f_rowVersions) (f_rowTells := f_rowTells) (f_rows := f_rows) (f_latest := f_latest) (f_pins := f_pins) (f_writers := f_writers) (f_sees := f_sees) (f_states := f_states) (f_notes := f_notes) (f_wrote := f_wrote) (f_waitsFor := f_waitsFor) (f_waitTriples := f_waitTriples) (f_waitTells := f_waitTells) (f_since := f_since) (f_clock := f_clock) (f_count := f_count) (f_holders := f_holders) (f_queue := f_queue) (f_queueFrom := f_queueFrom) (f_queueTo := f_queueTo) (f_ring := f_ring) (f_ringSize := f_ringSize) (f_failures := f_failures) (f_refusals := f_refusals) (f_thrown := f_thrown) (f_best := f_best) (by rw [show (f_sees x1.toNatClampNeg : Int32).toInt = _ from e_75]; exact hw)) (cwV 2 X.1.2.2.2.2 gX48_103 rfl rfl rfl hX48_isThere ⟨Nat.le_of_ble_eq_true rfl, Nat.le_of_ble_eq_true rfl⟩) hc (q0 := 0) rfl rfl hl.1 rfl (Nat.le_of_ble_eq_true rfl) dX48_commit_162 ⟨Nat.le_refl 0, Nat.le_refl 0⟩) (fun r_76 _ H locs hw hH => ?_)
  have hH : kH (dC, dI) cl A s.heap H locs (wX48 ci ad d f_rowTriples f_rowVersions f_rowTells f_rows f_latest f_pins f_writers f_sees f_states f_notes f_wrote f_waitsFor f_waitTriples f_waitTells f_since f_clock f_count f_holders f_queue f_queueFrom f_queueTo f_ring f_ringSize f_failures f_refusals f_thrown f_best) := hH
  refine lv_icmp_ne (tgt := 171) hx hb dX48_commit_165 (by decide) (fun c_77 => ?_) (fun c_77 => ?_)
  · have hw := hw.2 (z_ne (rfl : y0.toInt = _) (rfl : r_76.toInt = _) c_77)
    refine lv_aload_n hx hb dX48_commit_171 rfl (lv_at hl 0 rfl) ?_
    refine k_get X hH in_X48 0 rfl hc 0 (by decide) q6072 rfl dX48_commit_172 ?_
    refine lv_aload_n hx hb dX48_commit_175 rfl (lv_at hl 0 rfl) ?_
    refine k_get X hH in_X48 0 rfl hc 3 (by decide) q6075 rfl dX48_commit_176 ?_
    refine lv_iload hx hb dX48_commit_179 (lv_at hl 4 rfl) ?_
    have hq_79 := hw.1
    have hw := hw.2
    obtain ⟨f_rowTriples_78, ef_rowTriples_78⟩ : ∃ y : Nat → Int32, y = upd f_rowTriples f_rows.toNatClampNeg x6 := ⟨_, rfl⟩
    refine k_iast X hH 1 0 rfl rfl (z_in (rfl : f_rows.toInt = _) hq_79) dX48_commit_181 ef_rowTriples_78 (ws1 := (wX48 ci ad d f_rowTriples_78 f_rowVersions f_rowTells f_rows f_latest f_pins f_writers f_sees f_states f_notes f_wrote f_waitsFor f_waitTriples f_waitTells f_since f_clock f_count f_holders f_queue f_queueFrom f_queueTo f_ring f_ringSize f_failures f_refusals f_thrown f_best)) rfl (fun H locs hH => ?_)
    have hw := hw (zF f_rowTriples_78) (by rw [ef_rowTriples_78]; exact z_st (f := f_rowTriples) (rfl : f_rows.toInt = _) hq_79.1 (rfl : x6.toInt = _))
    refine lv_aload_n hx hb dX48_commit_182 rfl (lv_at hl 0 rfl) ?_
    refine k_get X hH in_X48 0 rfl hc 1 (by decide) q6073 rfl dX48_commit_183 ?_
    refine lv_aload_n hx hb dX48_commit_186 rfl (lv_at hl 0 rfl) ?_
    refine k_get X hH in_X48 0 rfl hc 3 (by decide) q6075 rfl dX48_commit_187 ?_
    refine lv_iload hx hb dX48_commit_190 (lv_at hl 3 rfl) ?_
    obtain ⟨f_rowVersions_80, ef_rowVersions_80⟩ : ∃ y : Nat → Int32, y = upd f_rowVersions f_rows.toNatClampNeg x5 := ⟨_, rfl⟩
    refine k_iast X hH 2 1 rfl rfl (z_in (rfl : f_rows.toInt = _) hq_79) dX48_commit_192 ef_rowVersions_80 (ws1 := (wX48 ci ad d f_rowTriples_78 f_rowVersions_80 f_rowTells f_rows f_latest f_pins f_writers f_sees f_states f_notes f_wrote f_waitsFor f_waitTriples f_waitTells f_since f_clock f_count f_holders f_queue f_queueFrom f_queueTo f_ring f_ringSize f_failures f_refusals f_thrown f_best)) rfl (fun H locs hH => ?_)
    have hw := hw (zF f_rowVersions_80) (by rw [ef_rowVersions_80]; exact z_st (f := f_rowVersions) (rfl : f_rows.toInt = _) hq_79.1 (rfl : x5.toInt = _))
    refine lv_aload_n hx hb dX48_commit_193 rfl (lv_at hl 0 rfl) ?_
    refine k_get X hH in_X48 0 rfl hc 2 (by decide) q6074 rfl dX48_commit_194 ?_
    refine lv_aload_n hx hb dX48_commit_197 rfl (lv_at hl 0 rfl) ?_
    refine k_get X hH in_X48 0 rfl hc 3 (by decide) q6075 rfl dX48_commit_198 ?_
    refine lv_iload hx hb dX48_commit_201 (lv_at hl 5 rfl) ?_
    refine lv_iconst (v := 2) hx hb dX48_commit_203 (by decide) ?_
    refine lv_icmp_ne (tgt := 211) hx hb dX48_commit_204 (by decide) (fun c_81 => ?_) (fun c_81 => ?_)
    · have hw := hw.2 (z_ne (rfl : x7.toInt = _) (rfl : (2 : Int32).toInt = 2) c_81)
      refine lv_iconst (v := 0) hx hb dX48_commit_211 (by decide) ?_
      obtain ⟨f_rowTells_82, ef_rowTells_82⟩ : ∃ y : Nat → Int32, y = upd f_rowTells f_rows.toNatClampNeg (vp_nar .boolean 0) := ⟨_, rfl⟩
      refine k_zast X hH 3 2 rfl rfl (z_in (rfl : f_rows.toInt = _) hq_79) dX48_commit_212 ef_rowTells_82 (ws1 := (wX48 ci ad d f_rowTriples_78 f_rowVersions_80 f_rowTells_82 f_rows f_latest f_pins f_writers f_sees f_states f_notes f_wrote f_waitsFor f_waitTriples f_waitTells f_since f_clock f_count f_holders f_queue f_queueFrom f_queueTo f_ring f_ringSize f_failures f_refusals f_thrown f_best)) rfl (fun H locs hH => ?_)
      have hw := hw (zF f_rowTells_82) (by rw [ef_rowTells_82]; exact z_st (f := f_rowTells) (rfl : f_rows.toInt = _) hq_79.1 (z_narZ (rfl : (0 : Int32).toInt = 0) (by decide)))
      refine lv_aload_n hx hb dX48_commit_213 rfl (lv_at hl 0 rfl) ?_
      refine lv_dup hx hb dX48_commit_214 rfl ?_
      refine k_get X hH in_X48 0 rfl hc 3 (by decide) q6075 rfl dX48_commit_215 ?_
      refine lv_iconst (v := 1) hx hb dX48_commit_218 (by decide) ?_
      refine lv_iadd hx hb dX48_commit_219 ?_
      have e_83 := z_add (z_m (rfl : f_rows.toInt = _)) (z_m (rfl : (1 : Int32).toInt = 1))
      have hq_84 := hw.1
      have hw := hw.2
      have e_85 := z_x e_83 hq_84
      refine lv_topi (fun f_rows_86 ef_rows_86 => ?_)
      have hw := hw f_rows_86.toInt (by rw [ef_rows_86]; exact e_85)
      refine k_put X hH in_X48 tyX48_ok nmX48 0 rfl hc 3 (by decide) q6075 rfl (ty := .int) rfl rfl rfl (Nat.le_of_ble_eq_true rfl) dX48_commit_220 (ws1 := (wX48 ci ad d f_rowTriples_78 f_rowVersions_80 f_rowTells_82 f_rows_86 f_latest f_pins f_writers f_sees f_states f_notes f_wrote f_waitsFor f_waitTriples f_waitTells f_since f_clock f_count f_holders f_queue f_queueFrom f_queueTo f_ring f_ringSize f_failures f_refusals f_thrown f_best)) rfl (fun H locs hH => ?_)
      refine lv_iload hx hb dX48_commit_223 (lv_at hl 3 rfl) ?_
      refine lv_istore (lv' := [(4, .int x5), (0, .ref (ad 0)), (1, .int x1), (5, .int x5), (6, .int x6), (7, .int x7)]) hx hb dX48_commit_225 hl (by decide) rfl (fun ls hl => ?_)
      have hq_88 := hw.1
      have hw := hw.2
      obtain ⟨x6_87, ex6_87⟩ : ∃ y : Int32, y = x6 + 1 := ⟨_, rfl⟩
      have hw := hw x6_87.toInt (by rw [ex6_87]; exact (z_x (z_add (z_m (rfl : x6.toInt = _)) (z_m (rfl : (1 : Int32).toInt = 1))) hq_88))
      refine lv_iinc (v := x6_87) (lv' := [(6, .int x6_87), (4, .int x5), (0, .ref (ad 0)), (1, .int x1), (5, .int x5), (7, .int x7)]) hx hb dX48_commit_227 hl (k := 4) rfl (by rw [ex6_87]; rfl) (by decide) rfl (fun ls hl => ?_)
      refine lv_goto (tgt := 114) hx hb dX48_commit_230 (by decide) ?_
      exact hk114 x5 x6_87 f_rowTriples_78 f_rowVersions_80 f_rowTells_82 f_rows_86 hw _ _ ls hH (lv_sub hl [2, 3, 1, 4, 0] rfl)
    · have hw := hw.1 (z_eq (rfl : x7.toInt = _) (rfl : (2 : Int32).toInt = 2) c_81)
      refine lv_iconst (v := 1) hx hb dX48_commit_207 (by decide) ?_
      refine lv_goto (tgt := 212) hx hb dX48_commit_208 (by decide) ?_
      obtain ⟨f_rowTells_89, ef_rowTells_89⟩ : ∃ y : Nat → Int32, y = upd f_rowTells f_rows.toNatClampNeg (vp_nar .boolean 1) := ⟨_, rfl⟩
      refine k_zast X hH 3 2 rfl rfl (z_in (rfl : f_rows.toInt = _) hq_79) dX48_commit_212 ef_rowTells_89 (ws1 := (wX48 ci ad d f_rowTriples_78 f_rowVersions_80 f_rowTells_89 f_rows f_latest f_pins f_writers f_sees f_states f_notes f_wrote f_waitsFor f_waitTriples f_waitTells f_since f_clock f_count f_holders f_queue f_queueFrom f_queueTo f_ring f_ringSize f_failures f_refusals f_thrown f_best)) rfl (fun H locs hH => ?_)
      have hw := hw (zF f_rowTells_89) (by rw [ef_rowTells_89]; exact z_st (f := f_rowTells) (rfl : f_rows.toInt = _) hq_79.1 (z_narZ (rfl : (1 : Int32).toInt = 1) (by decide)))
      refine lv_aload_n hx hb dX48_commit_213 rfl (lv_at hl 0 rfl) ?_
      refine lv_dup hx hb dX48_commit_214 rfl ?_
      refine k_get X hH in_X48 0 rfl hc 3 (by decide) q6075 rfl dX48_commit_215 ?_
      refine lv_iconst (v := 1) hx hb dX48_commit_218 (by decide) ?_
      refine lv_iadd hx hb dX48_commit_219 ?_
      have e_90 := z_add (z_m (rfl : f_rows.toInt = _)) (z_m (rfl : (1 : Int32).toInt = 1))
      have hq_91 := hw.1
      have hw := hw.2
      have e_92 := z_x e_90 hq_91
      refine lv_topi (fun f_rows_93 ef_rows_93 => ?_)
      have hw := hw f_rows_93.toInt (by rw [ef_rows_93]; exact e_92)
      refine k_put X hH in_X48 tyX48_ok nmX48 0 rfl hc 3 (by decide) q6075 rfl (ty := .int) rfl rfl rfl (Nat.le_of_ble_eq_true rfl) dX48_commit_220 (ws1 := (wX48 ci ad d f_rowTriples_78 f_rowVersions_80 f_rowTells_89 f_rows_93 f_latest f_pins f_writers f_sees f_states f_notes f_wrote f_waitsFor f_waitTriples f_waitTells f_since f_clock f_count f_holders f_queue f_queueFrom f_queueTo f_ring f_ringSize f_failures f_refusals f_thrown f_best)) rfl (fun H locs hH => ?_)
      refine lv_iload hx hb dX48_commit_223 (lv_at hl 3 rfl) ?_
      refine lv_istore (lv' := [(4, .int x5), (0, .ref (ad 0)), (1, .int x1), (5, .int x5), (6, .int x6), (7, .int x7)]) hx hb dX48_commit_225 hl (by decide) rfl (fun ls hl => ?_)
      have hq_95 := hw.1
      have hw := hw.2
      obtain ⟨x6_94, ex6_94⟩ : ∃ y : Int32, y = x6 + 1 := ⟨_, rfl⟩
      have hw := hw x6_94.toInt (by rw [ex6_94]; exact (z_x (z_add (z_m (rfl : x6.toInt = _)) (z_m (rfl : (1 : Int32).toInt = 1))) hq_95))
      refine lv_iinc (v := x6_94) (lv' := [(6, .int x6_94), (4, .int x5), (0, .ref (ad 0)), (1, .int x1), (5, .int x5), (7, .int x7)]) hx hb dX48_commit_227 hl (k := 4) rfl (by rw [ex6_94]; rfl) (by decide) rfl (fun ls hl => ?_)
      refine lv_goto (tgt := 114) hx hb dX48_commit_230 (by decide) ?_
      exact hk114 x5 x6_94 f_rowTriples_78 f_rowVersions_80 f_rowTells_89 f_rows_93 hw _ _ ls hH (lv_sub hl [2, 3, 1, 4, 0] rfl)
  · have hw := hw.1 (z_eq (rfl : y0.toInt = _) (rfl : r_76.toInt = _) c_77)
    refine lv_goto (tgt := 227) hx hb dX48_commit_168 (by decide) ?_
    have hq_97 := hw.1
    have hw := hw.2
    obtain ⟨x6_96, ex6_96⟩ : ∃ y : Int32, y = x6 + 1 := ⟨_, rfl⟩
    have hw := hw x6_96.toInt (by rw [ex6_96]; exact (z_x (z_add (z_m (rfl : x6.toInt = _)) (z_m (rfl : (1 : Int32).toInt = 1))) hq_97))
    refine lv_iinc (v := x6_96) (lv' := [(6, .int x6_96), (0, .ref (ad 0)), (1, .int x1), (4, .int x4), (5, .int x5), (7, .int x7)]) hx hb dX48_commit_227 hl (k := 4) rfl (by rw [ex6_96]; rfl) (by decide) rfl (fun ls hl => ?_)
    refine lv_goto (tgt := 114) hx hb dX48_commit_230 (by decide) ?_
    exact hk114 x4 x6_96 f_rowTriples f_rowVersions f_rowTells f_rows hw _ _ ls hH (lv_sub hl [1, 2, 3, 4, 0] rfl)
set_option maxHeartbeats 4000000 in
theorem atX48_commit_114 {p : Program} {l : Launch} {e : Env} {s : State} {m : MethodId} {args : Array Value} {below : List Frame} {meth : Method} {c : Code} {dC : Nat → ClassId} {dI : Nat → Nat → Nat} {cl : List vw_C} {ci : Nat} (hc : cl[ci]? = some (RX48, TX48, 27)) {ad : Nat → Nat} {d : Nat → ClassId} {A : Nat → Prop} {post : Int → (Int → Int) → (Int → Int) → (Int → Int) → Int → Int → (Int → Int) → (Int → Int) → (Int → Int) → (Int → Int) → (Int → Int) → (Int → Int) → Int → (Int → Int) → (Int → Int) → Int → Int → (Int → Int) → Int → (Int → Int) → (Int → Int) → Int → Prop} {f_pins : Nat → Int32} {f_writers : Nat → Int32} {f_sees : Nat → Int32} {f_notes : Nat → Int32} {f_count : Int32} {f_best : Nat → Int32} (X : kX p s m args meth c cX48_commit 8 RX48 (some .int) (dC, dI) cl (tX48 d)) {K233 : Int → (Int → Int) → (Int → Int) → (Int → Int) → Int → Prop} {x1 : Int32} {x5 : Int32} {f_latest : Int32} {f_states : Nat → Int32} {f_wrote : Nat → Int32} {f_waitsFor : Nat → Int32} {f_waitTriples : Nat → Int32} {f_waitTells : Nat → Int32} {f_since : Nat → Int32} {f_clock : Int32} {f_holders : Nat → Int32} {f_queue : Nat → Int32} {f_queueFrom : Int32} {f_queueTo : Int32} {f_ring : Nat → Int32} {f_ringSize : Int32} {f_failures : Nat → Int32} {f_refusals : Nat → Int32} {f_thrown : Int32} (hk233 : ∀ (x4 : Int32) (f_rowTriples : Nat → Int32) (f_rowVersions : Nat → Int32) (f_rowTells : Nat → Int32) (f_rows : Int32), K233 x4.toInt (zF f_rowTriples) (zF f_rowVersions) (zF f_rowTells) f_rows.toInt → ∀ (H : Heap) (locs : List Loc) (ls : Array Slot), kH (dC, dI) cl A s.heap H locs (wX48 ci ad d f_rowTriples f_rowVersions f_rowTells f_rows f_latest f_pins f_writers f_sees f_states f_notes f_wrote f_waitsFor f_waitTriples f_waitTells f_since f_clock f_count f_holders f_queue f_queueFrom f_queueTo f_ring f_ringSize f_failures f_refusals f_thrown f_best) → lv_has ls 8 [(0, .ref (ad 0)), (1, .int x1), (4, .int x4), (5, .int x5)] → W p l e ({ frames := 5, cells := 0, slots := 0, locals := 118 } : Room) s m args below meth c H locs 0 0 (MQ below (va_Qi (fun (r : Int32) (u : (Nat → Int32) × (Nat → Int32) × (Nat → Int32) × Int32 × Int32 × (Nat → Int32) × (Nat → Int32) × (Nat → Int32) × (Nat → Int32) × (Nat → Int32) × (Nat → Int32) × Int32 × (Nat → Int32) × (Nat → Int32) × Int32 × Int32 × (Nat → Int32) × Int32 × (Nat → Int32) × (Nat → Int32) × Int32) => post r.toInt (zF (u.1)) (zF (u.2.1)) (zF (u.2.2.1)) (u.2.2.2.1).toInt (u.2.2.2.2.1).toInt (zF (u.2.2.2.2.2.1)) (zF (u.2.2.2.2.2.2.1)) (zF (u.2.2.2.2.2.2.2.1)) (zF (u.2.2.2.2.2.2.2.2.1)) (zF (u.2.2.2.2.2.2.2.2.2.1)) (zF (u.2.2.2.2.2.2.2.2.2.2.1)) (u.2.2.2.2.2.2.2.2.2.2.2.1).toInt (zF (u.2.2.2.2.2.2.2.2.2.2.2.2.1)) (zF (u.2.2.2.2.2.2.2.2.2.2.2.2.2.1)) (u.2.2.2.2.2.2.2.2.2.2.2.2.2.2.1).toInt (u.2.2.2.2.2.2.2.2.2.2.2.2.2.2.2.1).toInt (zF (u.2.2.2.2.2.2.2.2.2.2.2.2.2.2.2.2.1)) (u.2.2.2.2.2.2.2.2.2.2.2.2.2.2.2.2.2.1).toInt (zF (u.2.2.2.2.2.2.2.2.2.2.2.2.2.2.2.2.2.2.1)) (zF (u.2.2.2.2.2.2.2.2.2.2.2.2.2.2.2.2.2.2.2.1)) (u.2.2.2.2.2.2.2.2.2.2.2.2.2.2.2.2.2.2.2.2).toInt) (kB (dC, dI) cl (tX48 d) A (fun u : (Nat → Int32) × (Nat → Int32) × (Nat → Int32) × Int32 × Int32 × (Nat → Int32) × (Nat → Int32) × (Nat → Int32) × (Nat → Int32) × (Nat → Int32) × (Nat → Int32) × Int32 × (Nat → Int32) × (Nat → Int32) × Int32 × Int32 × (Nat → Int32) × Int32 × (Nat → Int32) × (Nat → Int32) × Int32 => (wX48 ci ad d (u.1) (u.2.1) (u.2.2.1) (u.2.2.2.1) (u.2.2.2.2.1) f_pins f_writers f_sees (u.2.2.2.2.2.1) f_notes (u.2.2.2.2.2.2.1) (u.2.2.2.2.2.2.2.1) (u.2.2.2.2.2.2.2.2.1) (u.2.2.2.2.2.2.2.2.2.1) (u.2.2.2.2.2.2.2.2.2.2.1) (u.2.2.2.2.2.2.2.2.2.2.2.1) f_count (u.2.2.2.2.2.2.2.2.2.2.2.2.1) (u.2.2.2.2.2.2.2.2.2.2.2.2.2.1) (u.2.2.2.2.2.2.2.2.2.2.2.2.2.2.1) (u.2.2.2.2.2.2.2.2.2.2.2.2.2.2.2.1) (u.2.2.2.2.2.2.2.2.2.2.2.2.2.2.2.2.1) (u.2.2.2.2.2.2.2.2.2.2.2.2.2.2.2.2.2.1) (u.2.2.2.2.2.2.2.2.2.2.2.2.2.2.2.2.2.2.1) (u.2.2.2.2.2.2.2.2.2.2.2.2.2.2.2.2.2.2.2.1) (u.2.2.2.2.2.2.2.2.2.2.2.2.2.2.2.2.2.2.2.2) f_best))) A) args s 0 0 A) (F0 m 233 ls [])) :
    ∀ (nn : Nat) (x4 : Int32) (x6 : Int32) (f_rowTriples : Nat → Int32) (f_rowVersions : Nat → Int32) (f_rowTells : Nat → Int32) (f_rows : Int32), wX48_commit_114 K233 x1.toInt x5.toInt (zF f_sees) (zF f_wrote) nn x4.toInt x6.toInt (zF f_rowTriples) (zF f_rowVersions) (zF f_rowTells) f_rows.toInt → ∀ (H : Heap) (locs : List Loc) (ls : Array Slot), kH (dC, dI) cl A s.heap H locs (wX48 ci ad d f_rowTriples f_rowVersions f_rowTells f_rows f_latest f_pins f_writers f_sees f_states f_notes f_wrote f_waitsFor f_waitTriples f_waitTells f_since f_clock f_count f_holders f_queue f_queueFrom f_queueTo f_ring f_ringSize f_failures f_refusals f_thrown f_best) → lv_has ls 8 [(0, .ref (ad 0)), (1, .int x1), (4, .int x4), (5, .int x5), (6, .int x6)] → W p l e ({ frames := 5, cells := 0, slots := 0, locals := 118 } : Room) s m args below meth c H locs 0 0 (MQ below (va_Qi (fun (r : Int32) (u : (Nat → Int32) × (Nat → Int32) × (Nat → Int32) × Int32 × Int32 × (Nat → Int32) × (Nat → Int32) × (Nat → Int32) × (Nat → Int32) × (Nat → Int32) × (Nat → Int32) × Int32 × (Nat → Int32) × (Nat → Int32) × Int32 × Int32 × (Nat → Int32) × Int32 × (Nat → Int32) × (Nat → Int32) × Int32) => post r.toInt (zF (u.1)) (zF (u.2.1)) (zF (u.2.2.1)) (u.2.2.2.1).toInt (u.2.2.2.2.1).toInt (zF (u.2.2.2.2.2.1)) (zF (u.2.2.2.2.2.2.1)) (zF (u.2.2.2.2.2.2.2.1)) (zF (u.2.2.2.2.2.2.2.2.1)) (zF (u.2.2.2.2.2.2.2.2.2.1)) (zF (u.2.2.2.2.2.2.2.2.2.2.1)) (u.2.2.2.2.2.2.2.2.2.2.2.1).toInt (zF (u.2.2.2.2.2.2.2.2.2.2.2.2.1)) (zF (u.2.2.2.2.2.2.2.2.2.2.2.2.2.1)) (u.2.2.2.2.2.2.2.2.2.2.2.2.2.2.1).toInt (u.2.2.2.2.2.2.2.2.2.2.2.2.2.2.2.1).toInt (zF (u.2.2.2.2.2.2.2.2.2.2.2.2.2.2.2.2.1)) (u.2.2.2.2.2.2.2.2.2.2.2.2.2.2.2.2.2.1).toInt (zF (u.2.2.2.2.2.2.2.2.2.2.2.2.2.2.2.2.2.2.1)) (zF (u.2.2.2.2.2.2.2.2.2.2.2.2.2.2.2.2.2.2.2.1)) (u.2.2.2.2.2.2.2.2.2.2.2.2.2.2.2.2.2.2.2.2).toInt) (kB (dC, dI) cl (tX48 d) A (fun u : (Nat → Int32) × (Nat → Int32) × (Nat → Int32) × Int32 × Int32 × (Nat → Int32) × (Nat → Int32) × (Nat → Int32) × (Nat → Int32) × (Nat → Int32) × (Nat → Int32) × Int32 × (Nat → Int32) × (Nat → Int32) × Int32 × Int32 × (Nat → Int32) × Int32 × (Nat → Int32) × (Nat → Int32) × Int32 => (wX48 ci ad d (u.1) (u.2.1) (u.2.2.1) (u.2.2.2.1) (u.2.2.2.2.1) f_pins f_writers f_sees (u.2.2.2.2.2.1) f_notes (u.2.2.2.2.2.2.1) (u.2.2.2.2.2.2.2.1) (u.2.2.2.2.2.2.2.2.1) (u.2.2.2.2.2.2.2.2.2.1) (u.2.2.2.2.2.2.2.2.2.2.1) (u.2.2.2.2.2.2.2.2.2.2.2.1) f_count (u.2.2.2.2.2.2.2.2.2.2.2.2.1) (u.2.2.2.2.2.2.2.2.2.2.2.2.2.1) (u.2.2.2.2.2.2.2.2.2.2.2.2.2.2.1) (u.2.2.2.2.2.2.2.2.2.2.2.2.2.2.2.1) (u.2.2.2.2.2.2.2.2.2.2.2.2.2.2.2.2.1) (u.2.2.2.2.2.2.2.2.2.2.2.2.2.2.2.2.2.1) (u.2.2.2.2.2.2.2.2.2.2.2.2.2.2.2.2.2.2.1) (u.2.2.2.2.2.2.2.2.2.2.2.2.2.2.2.2.2.2.2.1) (u.2.2.2.2.2.2.2.2.2.2.2.2.2.2.2.2.2.2.2.2) f_best))) A) args s 0 0 A) (F0 m 114 ls []) := by
  have hx := X.1.1
  have hb := X.1.2.1
  intro nn
  induction nn with
  | zero =>
    intro x4 x6 f_rowTriples f_rowVersions f_rowTells f_rows hw
    exact False.elim hw
  | succ n ih =>
    intro x4 x6 f_rowTriples f_rowVersions f_rowTells f_rows hw H locs ls hH hl
    rw [wX48_commit_114] at hw
    refine lv_iload hx hb dX48_commit_114 (lv_at hl 4 rfl) ?_
    refine lv_sipush (v := 200) hx hb dX48_commit_116 (by decide) ?_
    refine lv_icmp_ge (tgt := 233) hx hb dX48_commit_119 (by decide) (fun c_63 => ?_) (fun c_63 => ?_)
    · have hw := hw.1 (z_le (rfl : (200 : Int32).toInt = 200) (rfl : x6.toInt = _) c_63)
      exact hk233 x4 f_rowTriples f_rowVersions f_rowTells f_rows hw _ _ ls hH (lv_sub hl [0, 1, 2, 3] rfl)
    · have hw := hw.2 (z_nle (rfl : (200 : Int32).toInt = 200) (rfl : x6.toInt = _) c_63)
      refine lv_aload_n hx hb dX48_commit_122 rfl (lv_at hl 0 rfl) ?_
      refine k_get X hH in_X48 0 rfl hc 10 (by decide) q6082 rfl dX48_commit_123 ?_
      refine lv_sipush (v := 200) hx hb dX48_commit_126 (by decide) ?_
      refine lv_iload_n hx hb dX48_commit_129 rfl (lv_at hl 1 rfl) ?_
      refine lv_imul hx hb dX48_commit_130 ?_
      have e_64 := z_mul (z_m (rfl : (200 : Int32).toInt = 200)) (z_m (rfl : x1.toInt = _))
      refine lv_iload hx hb dX48_commit_131 (lv_at hl 4 rfl) ?_
      refine lv_iadd hx hb dX48_commit_133 ?_
      have e_65 := z_add e_64 (z_m (rfl : x6.toInt = _))
      have hq_66 := hw.1
      have hw := hw.2
      have e_67 := z_xi e_65 hq_66 (by decide)
      refine k_iald X hH 9 8 rfl rfl (z_in e_67 hq_66) dX48_commit_134 ?_
      have e_68 := z_ld (f := f_wrote) e_67 hq_66.1
      refine lv_topi (fun x7_69 ex7_69 => ?_)
      have hw := hw x7_69.toInt (by rw [ex7_69]; exact e_68)
      refine lv_istore (lv' := [(7, .int x7_69), (0, .ref (ad 0)), (1, .int x1), (4, .int x4), (5, .int x5), (6, .int x6)]) hx hb dX48_commit_135 hl (by decide) rfl (fun ls hl => ?_)
      refine lv_iload hx hb dX48_commit_137 (lv_at hl 0 rfl) ?_
      refine lv_if_eq (tgt := 227) hx hb dX48_commit_139 (by decide) (fun c_70 => ?_) (fun c_70 => ?_)
      · have hw := hw.1 (z_eq (rfl : x7_69.toInt = _) (rfl : (0 : Int32).toInt = 0) c_70)
        have hq_72 := hw.1
        have hw := hw.2
        obtain ⟨x6_71, ex6_71⟩ : ∃ y : Int32, y = x6 + 1 := ⟨_, rfl⟩
        have hw := hw x6_71.toInt (by rw [ex6_71]; exact (z_x (z_add (z_m (rfl : x6.toInt = _)) (z_m (rfl : (1 : Int32).toInt = 1))) hq_72))
        refine lv_iinc (v := x6_71) (lv' := [(6, .int x6_71), (7, .int x7_69), (0, .ref (ad 0)), (1, .int x1), (4, .int x4), (5, .int x5)]) hx hb dX48_commit_227 hl (k := 5) rfl (by rw [ex6_71]; rfl) (by decide) rfl (fun ls hl => ?_)
        refine lv_goto (tgt := 114) hx hb dX48_commit_230 (by decide) ?_
        exact ih x4 x6_71 f_rowTriples f_rowVersions f_rowTells f_rows hw _ _ ls hH (lv_sub hl [2, 3, 4, 5, 0] rfl)
      · have hw := hw.2 (z_neq (rfl : x7_69.toInt = _) (rfl : (0 : Int32).toInt = 0) c_70)
        refine lv_iload hx hb dX48_commit_142 (lv_at hl 0 rfl) ?_
        refine lv_iconst (v := 2) hx hb dX48_commit_144 (by decide) ?_
        refine lv_icmp_ne (tgt := 152) hx hb dX48_commit_145 (by decide) (fun c_73 => ?_) (fun c_73 => ?_)
        · have hw := hw.2 (z_ne (rfl : x7_69.toInt = _) (rfl : (2 : Int32).toInt = 2) c_73)
          refine lv_iconst (v := 0) hx hb dX48_commit_152 (by decide) ?_
          exact atX48_commit_153 hc X (fun x4 x6 f_rowTriples f_rowVersions f_rowTells f_rows hw H locs ls hH hl => ih x4 x6 f_rowTriples f_rowVersions f_rowTells f_rows hw _ _ ls hH (lv_sub hl [0, 1, 2, 3, 4] rfl)) x4 x6 x7_69 0 f_rowTriples f_rowVersions f_rowTells f_rows hw _ _ ls hH (lv_sub hl [1, 2, 3, 4, 5, 0] rfl)
        · have hw := hw.1 (z_eq (rfl : x7_69.toInt = _) (rfl : (2 : Int32).toInt = 2) c_73)
          refine lv_iconst (v := 1) hx hb dX48_commit_148 (by decide) ?_
          refine lv_goto (tgt := 153) hx hb dX48_commit_149 (by decide) ?_
          exact atX48_commit_153 hc X (fun x4 x6 f_rowTriples f_rowVersions f_rowTells f_rows hw H locs ls hH hl => ih x4 x6 f_rowTriples f_rowVersions f_rowTells f_rows hw _ _ ls hH (lv_sub hl [0, 1, 2, 3, 4] rfl)) x4 x6 x7_69 1 f_rowTriples f_rowVersions f_rowTells f_rows hw _ _ ls hH (lv_sub hl [1, 2, 3, 4, 5, 0] rfl)
set_option maxHeartbeats 4000000 in
theorem atX48_commit_35 {p : Program} {l : Launch} {e : Env} {s : State} {m : MethodId} {args : Array Value} {below : List Frame} {meth : Method} {c : Code} {dC : Nat → ClassId} {dI : Nat → Nat → Nat} {cl : List vw_C} {ci : Nat} (hc : cl[ci]? = some (RX48, TX48, 27)) {ad : Nat → Nat} {d : Nat → ClassId} {A : Nat → Prop} {post : Int → (Int → Int) → (Int → Int) → (Int → Int) → Int → Int → (Int → Int) → (Int → Int) → (Int → Int) → (Int → Int) → (Int → Int) → (Int → Int) → Int → (Int → Int) → (Int → Int) → Int → Int → (Int → Int) → Int → (Int → Int) → (Int → Int) → Int → Prop} {f_pins : Nat → Int32} {f_writers : Nat → Int32} {f_sees : Nat → Int32} {f_notes : Nat → Int32} {f_count : Int32} {f_best : Nat → Int32} (X : kX p s m args meth c cX48_commit 8 RX48 (some .int) (dC, dI) cl (tX48 d))     :
    ∀ (x1 : Int32) (y1 : Int32) (y2 : Int32) (f_rowTriples : Nat → Int32) (f_rowVersions : Nat → Int32) (f_rowTells : Nat → Int32) (f_rows : Int32) (f_latest : Int32) (f_states : Nat → Int32) (f_wrote : Nat → Int32) (f_waitsFor : Nat → Int32) (f_waitTriples : Nat → Int32) (f_waitTells : Nat → Int32) (f_since : Nat → Int32) (f_clock : Int32) (f_holders : Nat → Int32) (f_queue : Nat → Int32) (f_queueFrom : Int32) (f_queueTo : Int32) (f_ring : Nat → Int32) (f_ringSize : Int32) (f_failures : Nat → Int32) (f_refusals : Nat → Int32) (f_thrown : Int32), wX48_commit_35 post x1.toInt y1.toInt y2.toInt (zF f_rowTriples) (zF f_rowVersions) (zF f_rowTells) f_rows.toInt f_latest.toInt (zF f_sees) (zF f_states) (zF f_notes) (zF f_wrote) (zF f_waitsFor) (zF f_waitTriples) (zF f_waitTells) (zF f_since) f_clock.toInt f_count.toInt (zF f_holders) (zF f_queue) f_queueFrom.toInt f_queueTo.toInt (zF f_ring) f_ringSize.toInt (zF f_failures) (zF f_refusals) → ∀ (H : Heap) (locs : List Loc) (ls : Array Slot), kH (dC, dI) cl A s.heap H locs (wX48 ci ad d f_rowTriples f_rowVersions f_rowTells f_rows f_latest f_pins f_writers f_sees f_states f_notes f_wrote f_waitsFor f_waitTriples f_waitTells f_since f_clock f_count f_holders f_queue f_queueFrom f_queueTo f_ring f_ringSize f_failures f_refusals f_thrown f_best) → lv_has ls 8 [(0, .ref (ad 0)), (1, .int x1)] → W p l e ({ frames := 5, cells := 0, slots := 0, locals := 118 } : Room) s m args below meth c H locs 0 0 (MQ below (va_Qi (fun (r : Int32) (u : (Nat → Int32) × (Nat → Int32) × (Nat → Int32) × Int32 × Int32 × (Nat → Int32) × (Nat → Int32) × (Nat → Int32) × (Nat → Int32) × (Nat → Int32) × (Nat → Int32) × Int32 × (Nat → Int32) × (Nat → Int32) × Int32 × Int32 × (Nat → Int32) × Int32 × (Nat → Int32) × (Nat → Int32) × Int32) => post r.toInt (zF (u.1)) (zF (u.2.1)) (zF (u.2.2.1)) (u.2.2.2.1).toInt (u.2.2.2.2.1).toInt (zF (u.2.2.2.2.2.1)) (zF (u.2.2.2.2.2.2.1)) (zF (u.2.2.2.2.2.2.2.1)) (zF (u.2.2.2.2.2.2.2.2.1)) (zF (u.2.2.2.2.2.2.2.2.2.1)) (zF (u.2.2.2.2.2.2.2.2.2.2.1)) (u.2.2.2.2.2.2.2.2.2.2.2.1).toInt (zF (u.2.2.2.2.2.2.2.2.2.2.2.2.1)) (zF (u.2.2.2.2.2.2.2.2.2.2.2.2.2.1)) (u.2.2.2.2.2.2.2.2.2.2.2.2.2.2.1).toInt (u.2.2.2.2.2.2.2.2.2.2.2.2.2.2.2.1).toInt (zF (u.2.2.2.2.2.2.2.2.2.2.2.2.2.2.2.2.1)) (u.2.2.2.2.2.2.2.2.2.2.2.2.2.2.2.2.2.1).toInt (zF (u.2.2.2.2.2.2.2.2.2.2.2.2.2.2.2.2.2.2.1)) (zF (u.2.2.2.2.2.2.2.2.2.2.2.2.2.2.2.2.2.2.2.1)) (u.2.2.2.2.2.2.2.2.2.2.2.2.2.2.2.2.2.2.2.2).toInt) (kB (dC, dI) cl (tX48 d) A (fun u : (Nat → Int32) × (Nat → Int32) × (Nat → Int32) × Int32 × Int32 × (Nat → Int32) × (Nat → Int32) × (Nat → Int32) × (Nat → Int32) × (Nat → Int32) × (Nat → Int32) × Int32 × (Nat → Int32) × (Nat → Int32) × Int32 × Int32 × (Nat → Int32) × Int32 × (Nat → Int32) × (Nat → Int32) × Int32 => (wX48 ci ad d (u.1) (u.2.1) (u.2.2.1) (u.2.2.2.1) (u.2.2.2.2.1) f_pins f_writers f_sees (u.2.2.2.2.2.1) f_notes (u.2.2.2.2.2.2.1) (u.2.2.2.2.2.2.2.1) (u.2.2.2.2.2.2.2.2.1) (u.2.2.2.2.2.2.2.2.2.1) (u.2.2.2.2.2.2.2.2.2.2.1) (u.2.2.2.2.2.2.2.2.2.2.2.1) f_count (u.2.2.2.2.2.2.2.2.2.2.2.2.1) (u.2.2.2.2.2.2.2.2.2.2.2.2.2.1) (u.2.2.2.2.2.2.2.2.2.2.2.2.2.2.1) (u.2.2.2.2.2.2.2.2.2.2.2.2.2.2.2.1) (u.2.2.2.2.2.2.2.2.2.2.2.2.2.2.2.2.1) (u.2.2.2.2.2.2.2.2.2.2.2.2.2.2.2.2.2.1) (u.2.2.2.2.2.2.2.2.2.2.2.2.2.2.2.2.2.2.1) (u.2.2.2.2.2.2.2.2.2.2.2.2.2.2.2.2.2.2.2.1) (u.2.2.2.2.2.2.2.2.2.2.2.2.2.2.2.2.2.2.2.2) f_best))) A) args s 0 0 A) (F0 m 35 ls [.int y2, .int y1, .ref (ad 0)]) := by
  have hx := X.1.1
  have hb := X.1.2.1
  intro x1 y1 y2 f_rowTriples f_rowVersions f_rowTells f_rows f_latest f_states f_wrote f_waitsFor f_waitTriples f_waitTells f_since f_clock f_holders f_queue f_queueFrom f_queueTo f_ring f_ringSize f_failures f_refusals f_thrown hw H locs ls hH hl
  unfold wX48_commit_35 at hw
  refine k_i0 hH (k_runV (As := [.int y1, .int y2]) (rest := []) X hH.1 hH.2.1 X.2.2.2 (walkX48_fails hc (x1 := y1) (x2 := y2) (f_rowTriples := f_rowTriples) (f_rowVersions := f_rowVersions) (f_rowTells := f_rowTells) (f_rows := f_rows) (f_latest := f_latest) (f_pins := f_pins) (f_writers := f_writers) (f_sees := f_sees) (f_states := f_states) (f_notes := f_notes) (f_wrote := f_wrote) (f_waitsFor := f_waitsFor) (f_waitTriples := f_waitTriples) (f_waitTells := f_waitTells) (f_since := f_since) (f_clock := f_clock) (f_count := f_count) (f_holders := f_holders) (f_queue := f_queue) (f_queueFrom := f_queueFrom) (f_queueTo := f_queueTo) (f_ring := f_ring) (f_ringSize := f_ringSize) (f_failures := f_failures) (f_refusals := f_refusals) (f_thrown := f_thrown) (f_best := f_best) hw) (cwV 2 X.1.2.2.2.2 gX48_99 rfl rfl rfl hX48_fails ⟨Nat.le_of_ble_eq_true rfl, Nat.le_of_ble_eq_true rfl⟩) hc (q0 := 0) rfl rfl hl.1 rfl (Nat.le_of_ble_eq_true rfl) dX48_commit_35 ⟨Nat.le_refl 0, Nat.le_refl 0⟩) (fun r_3 u H locs hw hH => ?_)
  obtain ⟨f_thrown_4, eu⟩ : ∃ z, z = u := ⟨_, rfl⟩
  subst eu
  have hH : kH (dC, dI) cl A s.heap H locs (wX48 ci ad d f_rowTriples f_rowVersions f_rowTells f_rows f_latest f_pins f_writers f_sees f_states f_notes f_wrote f_waitsFor f_waitTriples f_waitTells f_since f_clock f_count f_holders f_queue f_queueFrom f_queueTo f_ring f_ringSize f_failures f_refusals f_thrown_4 f_best) := hH
  refine lv_if_eq (tgt := 43) hx hb dX48_commit_38 (by decide) (fun c_5 => ?_) (fun c_5 => ?_)
  · have hw := hw.1 (z_eq (rfl : r_3.toInt = _) (rfl : (0 : Int32).toInt = 0) c_5)
    refine lv_aload_n hx hb dX48_commit_43 rfl (lv_at hl 0 rfl) ?_
    refine lv_iload_n hx hb dX48_commit_44 rfl (lv_at hl 1 rfl) ?_
    refine k_i0 hH (k_runV (As := [.int x1]) (rest := []) X hH.1 hH.2.1 X.2.2.2 (walkX48_changed hc (x1 := x1) (f_rowTriples := f_rowTriples) (f_rowVersions := f_rowVersions) (f_rowTells := f_rowTells) (f_rows := f_rows) (f_latest := f_latest) (f_pins := f_pins) (f_writers := f_writers) (f_sees := f_sees) (f_states := f_states) (f_notes := f_notes) (f_wrote := f_wrote) (f_waitsFor := f_waitsFor) (f_waitTriples := f_waitTriples) (f_waitTells := f_waitTells) (f_since := f_since) (f_clock := f_clock) (f_count := f_count) (f_holders := f_holders) (f_queue := f_queue) (f_queueFrom := f_queueFrom) (f_queueTo := f_queueTo) (f_ring := f_ring) (f_ringSize := f_ringSize) (f_failures := f_failures) (f_refusals := f_refusals) (f_thrown := f_thrown_4) (f_best := f_best) hw) (cwV 1 X.1.2.2.2.2 gX48_154 rfl rfl rfl hX48_changed ⟨Nat.le_of_ble_eq_true rfl, Nat.le_of_ble_eq_true rfl⟩) hc (q0 := 0) rfl rfl hl.1 rfl (Nat.le_of_ble_eq_true rfl) dX48_commit_45 ⟨Nat.le_refl 0, Nat.le_refl 0⟩) (fun r_6 _ H locs hw hH => ?_)
    have hH : kH (dC, dI) cl A s.heap H locs (wX48 ci ad d f_rowTriples f_rowVersions f_rowTells f_rows f_latest f_pins f_writers f_sees f_states f_notes f_wrote f_waitsFor f_waitTriples f_waitTells f_since f_clock f_count f_holders f_queue f_queueFrom f_queueTo f_ring f_ringSize f_failures f_refusals f_thrown_4 f_best) := hH
    refine lv_istore_n (lv' := [(3, .int r_6), (0, .ref (ad 0)), (1, .int x1)]) hx hb dX48_commit_48 rfl hl (by decide) rfl (fun ls hl => ?_)
    refine lv_aload_n hx hb dX48_commit_49 rfl (lv_at hl 1 rfl) ?_
    refine k_get X hH in_X48 0 rfl hc 8 (by decide) q6080 rfl dX48_commit_50 ?_
    refine lv_iload_n hx hb dX48_commit_53 rfl (lv_at hl 2 rfl) ?_
    have hq_7 := hw.1
    have hw := hw.2
    refine k_iald X hH 7 6 rfl rfl (z_in (rfl : x1.toInt = _) hq_7) dX48_commit_54 ?_
    have e_8 := z_ld (f := f_states) (rfl : x1.toInt = _) hq_7.1
    refine lv_iconst (v := 2) hx hb dX48_commit_55 (by decide) ?_
    refine lv_icmp_eq (tgt := 63) hx hb dX48_commit_56 (by decide) (fun c_9 => ?_) (fun c_9 => ?_)
    · have hw := hw.1 (z_eq e_8 (rfl : (2 : Int32).toInt = 2) c_9)
      exact atX48_commit_63 hc X x1 r_6 f_rowTriples f_rowVersions f_rowTells f_rows f_latest f_states f_wrote f_waitsFor f_waitTriples f_waitTells f_since f_clock f_holders f_queue f_queueFrom f_queueTo f_ring f_ringSize f_failures f_refusals f_thrown_4 hw _ _ ls hH (lv_sub hl [1, 2, 0] rfl)
    · have hw := hw.2 (z_neq e_8 (rfl : (2 : Int32).toInt = 2) c_9)
      refine lv_iload_n hx hb dX48_commit_59 rfl (lv_at hl 0 rfl) ?_
      refine lv_if_lt (tgt := 95) hx hb dX48_commit_60 (by decide) (fun c_56 => ?_) (fun c_56 => ?_)
      · have hw := hw.1 (z_lt (rfl : r_6.toInt = _) (rfl : (0 : Int32).toInt = 0) c_56)
        refine lv_aload_n hx hb dX48_commit_95 rfl (lv_at hl 1 rfl) ?_
        refine k_get X hH in_X48 0 rfl hc 7 (by decide) q6079 rfl dX48_commit_96 ?_
        refine lv_iload_n hx hb dX48_commit_99 rfl (lv_at hl 2 rfl) ?_
        refine k_iald X hH 6 5 rfl rfl (z_in (rfl : x1.toInt = _) hq_7) dX48_commit_100 ?_
        have e_57 := z_ld (f := f_sees) (rfl : x1.toInt = _) hq_7.1
        refine lv_topi (fun x4_58 ex4_58 => ?_)
        have hw := hw x4_58.toInt (by rw [ex4_58]; exact e_57)
        refine lv_istore (lv' := [(4, .int x4_58), (3, .int r_6), (0, .ref (ad 0)), (1, .int x1)]) hx hb dX48_commit_101 hl (by decide) rfl (fun ls hl => ?_)
        refine lv_aload_n hx hb dX48_commit_103 rfl (lv_at hl 2 rfl) ?_
        refine k_get X hH in_X48 0 rfl hc 4 (by decide) q6076 rfl dX48_commit_104 ?_
        refine lv_iconst (v := 1) hx hb dX48_commit_107 (by decide) ?_
        refine lv_iadd hx hb dX48_commit_108 ?_
        have e_59 := z_add (z_m (rfl : f_latest.toInt = _)) (z_m (rfl : (1 : Int32).toInt = 1))
        have hq_60 := hw.1
        have hw := hw.2
        have e_61 := z_x e_59 hq_60
        refine lv_topi (fun x5_62 ex5_62 => ?_)
        have hw := hw x5_62.toInt (by rw [ex5_62]; exact e_61)
        refine lv_istore (lv' := [(5, .int x5_62), (4, .int x4_58), (3, .int r_6), (0, .ref (ad 0)), (1, .int x1)]) hx hb dX48_commit_109 hl (by decide) rfl (fun ls hl => ?_)
        refine lv_iconst (v := 0) hx hb dX48_commit_111 (by decide) ?_
        refine lv_istore (lv' := [(6, .int 0), (5, .int x5_62), (4, .int x4_58), (3, .int r_6), (0, .ref (ad 0)), (1, .int x1)]) hx hb dX48_commit_112 hl (by decide) rfl (fun ls hl => ?_)
        obtain ⟨fu, hw⟩ := hw
        refine atX48_commit_114 hc X ?_ fu x4_58 0 f_rowTriples f_rowVersions f_rowTells f_rows hw _ _ ls hH (lv_sub hl [4, 5, 2, 1, 0] rfl)
        · intro x4_98 f_rowTriples_99 f_rowVersions_100 f_rowTells_101 f_rows_102 hw H locs ls hH hl
          refine lv_iload hx hb dX48_commit_233 (lv_at hl 2 rfl) ?_
          refine lv_iload hx hb dX48_commit_235 (lv_at hl 3 rfl) ?_
          refine lv_icmp_ne (tgt := 246) hx hb dX48_commit_237 (by decide) (fun c_103 => ?_) (fun c_103 => ?_)
          · have hw := hw.2 (z_ne (rfl : x4_98.toInt = _) (rfl : x5_62.toInt = _) c_103)
            refine lv_aload_n hx hb dX48_commit_246 rfl (lv_at hl 0 rfl) ?_
            refine lv_iload_n hx hb dX48_commit_247 rfl (lv_at hl 1 rfl) ?_
            refine lv_iconst (v := 3) hx hb dX48_commit_248 (by decide) ?_
            refine k_v0 hH (k_runV (As := [.int x1, .int 3]) (rest := []) X hH.1 hH.2.1 X.2.2.2 (walkX48_end hc (x1 := x1) (x2 := 3) (f_rowTriples := f_rowTriples_99) (f_rowVersions := f_rowVersions_100) (f_rowTells := f_rowTells_101) (f_rows := f_rows_102) (f_latest := f_latest) (f_pins := f_pins) (f_writers := f_writers) (f_sees := f_sees) (f_states := f_states) (f_notes := f_notes) (f_wrote := f_wrote) (f_waitsFor := f_waitsFor) (f_waitTriples := f_waitTriples) (f_waitTells := f_waitTells) (f_since := f_since) (f_clock := f_clock) (f_count := f_count) (f_holders := f_holders) (f_queue := f_queue) (f_queueFrom := f_queueFrom) (f_queueTo := f_queueTo) (f_ring := f_ring) (f_ringSize := f_ringSize) (f_failures := f_failures) (f_refusals := f_refusals) (f_thrown := f_thrown_4) (f_best := f_best) hw) (cwV 2 X.1.2.2.2.2 gX48_141 rfl rfl rfl hX48_end ⟨Nat.le_of_ble_eq_true rfl, Nat.le_of_ble_eq_true rfl⟩) hc (q0 := 0) rfl rfl hl.1 rfl (Nat.le_of_ble_eq_true rfl) dX48_commit_249 ⟨Nat.le_refl 0, Nat.le_refl 0⟩) (fun u H locs hw hH => ?_)
            obtain ⟨f_states_104, f_holders_105, f_queue_106, f_queueTo_107⟩ := u
            have hH : kH (dC, dI) cl A s.heap H locs (wX48 ci ad d f_rowTriples_99 f_rowVersions_100 f_rowTells_101 f_rows_102 f_latest f_pins f_writers f_sees f_states_104 f_notes f_wrote f_waitsFor f_waitTriples f_waitTells f_since f_clock f_count f_holders_105 f_queue_106 f_queueFrom f_queueTo_107 f_ring f_ringSize f_failures f_refusals f_thrown_4 f_best) := hH
            refine lv_aload_n hx hb dX48_commit_252 rfl (lv_at hl 0 rfl) ?_
            refine k_v0 hH (k_runV (As := []) (rest := []) X hH.1 hH.2.1 X.2.2.2 (walkX48_goOn hc (f_rowTriples := f_rowTriples_99) (f_rowVersions := f_rowVersions_100) (f_rowTells := f_rowTells_101) (f_rows := f_rows_102) (f_latest := f_latest) (f_pins := f_pins) (f_writers := f_writers) (f_sees := f_sees) (f_states := f_states_104) (f_notes := f_notes) (f_wrote := f_wrote) (f_waitsFor := f_waitsFor) (f_waitTriples := f_waitTriples) (f_waitTells := f_waitTells) (f_since := f_since) (f_clock := f_clock) (f_count := f_count) (f_holders := f_holders_105) (f_queue := f_queue_106) (f_queueFrom := f_queueFrom) (f_queueTo := f_queueTo_107) (f_ring := f_ring) (f_ringSize := f_ringSize) (f_failures := f_failures) (f_refusals := f_refusals) (f_thrown := f_thrown_4) (f_best := f_best) hw) (cwV 0 X.1.2.2.2.2 gX48_121 rfl rfl rfl hX48_goOn ⟨Nat.le_of_ble_eq_true rfl, Nat.le_of_ble_eq_true rfl⟩) hc (q0 := 0) rfl rfl hl.1 rfl (Nat.le_of_ble_eq_true rfl) dX48_commit_253 ⟨Nat.le_refl 0, Nat.le_refl 0⟩) (fun u H locs hw hH => ?_)
            obtain ⟨f_states_108, f_wrote_109, f_waitsFor_110, f_waitTriples_111, f_waitTells_112, f_since_113, f_clock_114, f_holders_115, f_queue_116, f_queueFrom_117, f_queueTo_118, f_ring_119, f_ringSize_120, f_failures_121⟩ := u
            have hH : kH (dC, dI) cl A s.heap H locs (wX48 ci ad d f_rowTriples_99 f_rowVersions_100 f_rowTells_101 f_rows_102 f_latest f_pins f_writers f_sees f_states_108 f_notes f_wrote_109 f_waitsFor_110 f_waitTriples_111 f_waitTells_112 f_since_113 f_clock_114 f_count f_holders_115 f_queue_116 f_queueFrom_117 f_queueTo_118 f_ring_119 f_ringSize_120 f_failures_121 f_refusals f_thrown_4 f_best) := hH
            refine lv_iload hx hb dX48_commit_256 (lv_at hl 2 rfl) ?_
            exact k_iret (v := x4_98) X hH (f_rowTriples_99, f_rowVersions_100, f_rowTells_101, f_rows_102, f_latest, f_states_108, f_wrote_109, f_waitsFor_110, f_waitTriples_111, f_waitTells_112, f_since_113, f_clock_114, f_holders_115, f_queue_116, f_queueFrom_117, f_queueTo_118, f_ring_119, f_ringSize_120, f_failures_121, f_refusals, f_thrown_4) hw rfl rfl dX48_commit_258
          · have hw := hw.1 (z_eq (rfl : x4_98.toInt = _) (rfl : x5_62.toInt = _) c_103)
            refine lv_aload_n hx hb dX48_commit_240 rfl (lv_at hl 0 rfl) ?_
            refine lv_iload hx hb dX48_commit_241 (lv_at hl 3 rfl) ?_
            refine k_put X hH in_X48 tyX48_ok nmX48 0 rfl hc 4 (by decide) q6076 rfl (ty := .int) rfl rfl rfl (Nat.le_of_ble_eq_true rfl) dX48_commit_243 (ws1 := (wX48 ci ad d f_rowTriples_99 f_rowVersions_100 f_rowTells_101 f_rows_102 x5_62 f_pins f_writers f_sees f_states f_notes f_wrote f_waitsFor f_waitTriples f_waitTells f_since f_clock f_count f_holders f_queue f_queueFrom f_queueTo f_ring f_ringSize f_failures f_refusals f_thrown_4 f_best)) rfl (fun H locs hH => ?_)
            refine lv_aload_n hx hb dX48_commit_246 rfl (lv_at hl 0 rfl) ?_
            refine lv_iload_n hx hb dX48_commit_247 rfl (lv_at hl 1 rfl) ?_
            refine lv_iconst (v := 3) hx hb dX48_commit_248 (by decide) ?_
            refine k_v0 hH (k_runV (As := [.int x1, .int 3]) (rest := []) X hH.1 hH.2.1 X.2.2.2 (walkX48_end hc (x1 := x1) (x2 := 3) (f_rowTriples := f_rowTriples_99) (f_rowVersions := f_rowVersions_100) (f_rowTells := f_rowTells_101) (f_rows := f_rows_102) (f_latest := x5_62) (f_pins := f_pins) (f_writers := f_writers) (f_sees := f_sees) (f_states := f_states) (f_notes := f_notes) (f_wrote := f_wrote) (f_waitsFor := f_waitsFor) (f_waitTriples := f_waitTriples) (f_waitTells := f_waitTells) (f_since := f_since) (f_clock := f_clock) (f_count := f_count) (f_holders := f_holders) (f_queue := f_queue) (f_queueFrom := f_queueFrom) (f_queueTo := f_queueTo) (f_ring := f_ring) (f_ringSize := f_ringSize) (f_failures := f_failures) (f_refusals := f_refusals) (f_thrown := f_thrown_4) (f_best := f_best) hw) (cwV 2 X.1.2.2.2.2 gX48_141 rfl rfl rfl hX48_end ⟨Nat.le_of_ble_eq_true rfl, Nat.le_of_ble_eq_true rfl⟩) hc (q0 := 0) rfl rfl hl.1 rfl (Nat.le_of_ble_eq_true rfl) dX48_commit_249 ⟨Nat.le_refl 0, Nat.le_refl 0⟩) (fun u H locs hw hH => ?_)
            obtain ⟨f_states_122, f_holders_123, f_queue_124, f_queueTo_125⟩ := u
            have hH : kH (dC, dI) cl A s.heap H locs (wX48 ci ad d f_rowTriples_99 f_rowVersions_100 f_rowTells_101 f_rows_102 x5_62 f_pins f_writers f_sees f_states_122 f_notes f_wrote f_waitsFor f_waitTriples f_waitTells f_since f_clock f_count f_holders_123 f_queue_124 f_queueFrom f_queueTo_125 f_ring f_ringSize f_failures f_refusals f_thrown_4 f_best) := hH
            refine lv_aload_n hx hb dX48_commit_252 rfl (lv_at hl 0 rfl) ?_
            refine k_v0 hH (k_runV (As := []) (rest := []) X hH.1 hH.2.1 X.2.2.2 (walkX48_goOn hc (f_rowTriples := f_rowTriples_99) (f_rowVersions := f_rowVersions_100) (f_rowTells := f_rowTells_101) (f_rows := f_rows_102) (f_latest := x5_62) (f_pins := f_pins) (f_writers := f_writers) (f_sees := f_sees) (f_states := f_states_122) (f_notes := f_notes) (f_wrote := f_wrote) (f_waitsFor := f_waitsFor) (f_waitTriples := f_waitTriples) (f_waitTells := f_waitTells) (f_since := f_since) (f_clock := f_clock) (f_count := f_count) (f_holders := f_holders_123) (f_queue := f_queue_124) (f_queueFrom := f_queueFrom) (f_queueTo := f_queueTo_125) (f_ring := f_ring) (f_ringSize := f_ringSize) (f_failures := f_failures) (f_refusals := f_refusals) (f_thrown := f_thrown_4) (f_best := f_best) hw) (cwV 0 X.1.2.2.2.2 gX48_121 rfl rfl rfl hX48_goOn ⟨Nat.le_of_ble_eq_true rfl, Nat.le_of_ble_eq_true rfl⟩) hc (q0 := 0) rfl rfl hl.1 rfl (Nat.le_of_ble_eq_true rfl) dX48_commit_253 ⟨Nat.le_refl 0, Nat.le_refl 0⟩) (fun u H locs hw hH => ?_)
            obtain ⟨f_states_126, f_wrote_127, f_waitsFor_128, f_waitTriples_129, f_waitTells_130, f_since_131, f_clock_132, f_holders_133, f_queue_134, f_queueFrom_135, f_queueTo_136, f_ring_137, f_ringSize_138, f_failures_139⟩ := u
            have hH : kH (dC, dI) cl A s.heap H locs (wX48 ci ad d f_rowTriples_99 f_rowVersions_100 f_rowTells_101 f_rows_102 x5_62 f_pins f_writers f_sees f_states_126 f_notes f_wrote_127 f_waitsFor_128 f_waitTriples_129 f_waitTells_130 f_since_131 f_clock_132 f_count f_holders_133 f_queue_134 f_queueFrom_135 f_queueTo_136 f_ring_137 f_ringSize_138 f_failures_139 f_refusals f_thrown_4 f_best) := hH
            refine lv_iload hx hb dX48_commit_256 (lv_at hl 2 rfl) ?_
            exact k_iret (v := x4_98) X hH (f_rowTriples_99, f_rowVersions_100, f_rowTells_101, f_rows_102, x5_62, f_states_126, f_wrote_127, f_waitsFor_128, f_waitTriples_129, f_waitTells_130, f_since_131, f_clock_132, f_holders_133, f_queue_134, f_queueFrom_135, f_queueTo_136, f_ring_137, f_ringSize_138, f_failures_139, f_refusals, f_thrown_4) hw rfl rfl dX48_commit_258
      · have hw := hw.2 (z_nlt (rfl : r_6.toInt = _) (rfl : (0 : Int32).toInt = 0) c_56)
        exact atX48_commit_63 hc X x1 r_6 f_rowTriples f_rowVersions f_rowTells f_rows f_latest f_states f_wrote f_waitsFor f_waitTriples f_waitTells f_since f_clock f_holders f_queue f_queueFrom f_queueTo f_ring f_ringSize f_failures f_refusals f_thrown_4 hw _ _ ls hH (lv_sub hl [1, 2, 0] rfl)
  · have hw := hw.2 (z_neq (rfl : r_3.toInt = _) (rfl : (0 : Int32).toInt = 0) c_5)
    refine lv_iconst (v := 0) hx hb dX48_commit_41 (by decide) ?_
    exact k_iret (v := 0) X hH (f_rowTriples, f_rowVersions, f_rowTells, f_rows, f_latest, f_states, f_wrote, f_waitsFor, f_waitTriples, f_waitTells, f_since, f_clock, f_holders, f_queue, f_queueFrom, f_queueTo, f_ring, f_ringSize, f_failures, f_refusals, f_thrown_4) hw rfl rfl dX48_commit_42
set_option maxHeartbeats 4000000 in
theorem walkX48_commit {l : Launch} {dC : Nat → ClassId} {dI : Nat → Nat → Nat} {cl : List vw_C} {ci : Nat} (hc : cl[ci]? = some (RX48, TX48, 27)) {ad : Nat → Nat} {d : Nat → ClassId} {sz : Nat} {f_rowTriples : Nat → Int32} {f_rowVersions : Nat → Int32} {f_rowTells : Nat → Int32} {f_rows : Int32} {f_latest : Int32} {f_pins : Nat → Int32} {f_writers : Nat → Int32} {f_sees : Nat → Int32} {f_states : Nat → Int32} {f_notes : Nat → Int32} {f_wrote : Nat → Int32} {f_waitsFor : Nat → Int32} {f_waitTriples : Nat → Int32} {f_waitTells : Nat → Int32} {f_since : Nat → Int32} {f_clock : Int32} {f_count : Int32} {f_holders : Nat → Int32} {f_queue : Nat → Int32} {f_queueFrom : Int32} {f_queueTo : Int32} {f_ring : Nat → Int32} {f_ringSize : Int32} {f_failures : Nat → Int32} {f_refusals : Nat → Int32} {f_thrown : Int32} {f_best : Nat → Int32} {x1 : Int32} {post : Int → (Int → Int) → (Int → Int) → (Int → Int) → Int → Int → (Int → Int) → (Int → Int) → (Int → Int) → (Int → Int) → (Int → Int) → (Int → Int) → Int → (Int → Int) → (Int → Int) → Int → Int → (Int → Int) → Int → (Int → Int) → (Int → Int) → Int → Prop} (hw : wpX48_commit post (zF f_rowTriples) (zF f_rowVersions) (zF f_rowTells) f_rows.toInt f_latest.toInt (zF f_sees) (zF f_states) (zF f_notes) (zF f_wrote) (zF f_waitsFor) (zF f_waitTriples) (zF f_waitTells) (zF f_since) f_clock.toInt f_count.toInt (zF f_holders) (zF f_queue) f_queueFrom.toInt f_queueTo.toInt (zF f_ring) f_ringSize.toInt (zF f_failures) (zF f_refusals) x1.toInt) :
    Met l yX48_commit (ws_ yX48_commit cX48_commit 8 (some .int)) ({ frames := 5, cells := 0, slots := 0, locals := 118 } : Room) (kPc (dC, dI) cl (tX48 d) [.ref (ad 0), .int x1] sz (wX48 ci ad d f_rowTriples f_rowVersions f_rowTells f_rows f_latest f_pins f_writers f_sees f_states f_notes f_wrote f_waitsFor f_waitTriples f_waitTells f_since f_clock f_count f_holders f_queue f_queueFrom f_queueTo f_ring f_ringSize f_failures f_refusals f_thrown f_best)) (va_Qi (fun (r : Int32) (u : (Nat → Int32) × (Nat → Int32) × (Nat → Int32) × Int32 × Int32 × (Nat → Int32) × (Nat → Int32) × (Nat → Int32) × (Nat → Int32) × (Nat → Int32) × (Nat → Int32) × Int32 × (Nat → Int32) × (Nat → Int32) × Int32 × Int32 × (Nat → Int32) × Int32 × (Nat → Int32) × (Nat → Int32) × Int32) => post r.toInt (zF (u.1)) (zF (u.2.1)) (zF (u.2.2.1)) (u.2.2.2.1).toInt (u.2.2.2.2.1).toInt (zF (u.2.2.2.2.2.1)) (zF (u.2.2.2.2.2.2.1)) (zF (u.2.2.2.2.2.2.2.1)) (zF (u.2.2.2.2.2.2.2.2.1)) (zF (u.2.2.2.2.2.2.2.2.2.1)) (zF (u.2.2.2.2.2.2.2.2.2.2.1)) (u.2.2.2.2.2.2.2.2.2.2.2.1).toInt (zF (u.2.2.2.2.2.2.2.2.2.2.2.2.1)) (zF (u.2.2.2.2.2.2.2.2.2.2.2.2.2.1)) (u.2.2.2.2.2.2.2.2.2.2.2.2.2.2.1).toInt (u.2.2.2.2.2.2.2.2.2.2.2.2.2.2.2.1).toInt (zF (u.2.2.2.2.2.2.2.2.2.2.2.2.2.2.2.2.1)) (u.2.2.2.2.2.2.2.2.2.2.2.2.2.2.2.2.2.1).toInt (zF (u.2.2.2.2.2.2.2.2.2.2.2.2.2.2.2.2.2.2.1)) (zF (u.2.2.2.2.2.2.2.2.2.2.2.2.2.2.2.2.2.2.2.1)) (u.2.2.2.2.2.2.2.2.2.2.2.2.2.2.2.2.2.2.2.2).toInt) (kB (dC, dI) cl (tX48 d) (va_A (wX48 ci ad d f_rowTriples f_rowVersions f_rowTells f_rows f_latest f_pins f_writers f_sees f_states f_notes f_wrote f_waitsFor f_waitTriples f_waitTells f_since f_clock f_count f_holders f_queue f_queueFrom f_queueTo f_ring f_ringSize f_failures f_refusals f_thrown f_best) sz) (fun u : (Nat → Int32) × (Nat → Int32) × (Nat → Int32) × Int32 × Int32 × (Nat → Int32) × (Nat → Int32) × (Nat → Int32) × (Nat → Int32) × (Nat → Int32) × (Nat → Int32) × Int32 × (Nat → Int32) × (Nat → Int32) × Int32 × Int32 × (Nat → Int32) × Int32 × (Nat → Int32) × (Nat → Int32) × Int32 => (wX48 ci ad d (u.1) (u.2.1) (u.2.2.1) (u.2.2.2.1) (u.2.2.2.2.1) f_pins f_writers f_sees (u.2.2.2.2.2.1) f_notes (u.2.2.2.2.2.2.1) (u.2.2.2.2.2.2.2.1) (u.2.2.2.2.2.2.2.2.1) (u.2.2.2.2.2.2.2.2.2.1) (u.2.2.2.2.2.2.2.2.2.2.1) (u.2.2.2.2.2.2.2.2.2.2.2.1) f_count (u.2.2.2.2.2.2.2.2.2.2.2.2.1) (u.2.2.2.2.2.2.2.2.2.2.2.2.2.1) (u.2.2.2.2.2.2.2.2.2.2.2.2.2.2.1) (u.2.2.2.2.2.2.2.2.2.2.2.2.2.2.2.1) (u.2.2.2.2.2.2.2.2.2.2.2.2.2.2.2.2.1) (u.2.2.2.2.2.2.2.2.2.2.2.2.2.2.2.2.2.1) (u.2.2.2.2.2.2.2.2.2.2.2.2.2.2.2.2.2.2.1) (u.2.2.2.2.2.2.2.2.2.2.2.2.2.2.2.2.2.2.2.1) (u.2.2.2.2.2.2.2.2.2.2.2.2.2.2.2.2.2.2.2.2) f_best))) (va_A (wX48 ci ad d f_rowTriples f_rowVersions f_rowTells f_rows f_latest f_pins f_writers f_sees f_states f_notes f_wrote f_waitsFor f_waitTriples f_waitTells f_since f_clock f_count f_holders f_queue f_queueFrom f_queueTo f_ring f_ringSize f_failures f_refusals f_thrown f_best) sz)) 0 0 (va_A (wX48 ci ad d f_rowTriples f_rowVersions f_rowTells f_rows f_latest f_pins f_writers f_sees f_states f_notes f_wrote f_waitsFor f_waitTriples f_waitTells f_since f_clock f_count f_holders f_queue f_queueFrom f_queueTo f_ring f_ringSize f_failures f_refusals f_thrown f_best) sz) := by
  refine k_enter (by decide) (Nat.le_of_ble_eq_true rfl) ?_
  intro p e s m below meth c ls X hsz hH hl
  subst hsz
  generalize va_A (wX48 ci ad d f_rowTriples f_rowVersions f_rowTells f_rows f_latest f_pins f_writers f_sees f_states f_notes f_wrote f_waitsFor f_waitTriples f_waitTells f_since f_clock f_count f_holders f_queue f_queueFrom f_queueTo f_ring f_ringSize f_failures f_refusals f_thrown f_best) s.heap.size = A at hH ⊢
  have hx := X.1.1
  have hb := X.1.2.1
  have hl : lv_has ls 8 [(0, .ref (ad 0)), (1, .int x1)] := hl
  unfold wpX48_commit at hw
  refine lv_aload_n hx hb dX48_commit_0 rfl (lv_at hl 0 rfl) ?_
  refine lv_iload_n hx hb dX48_commit_1 rfl (lv_at hl 1 rfl) ?_
  refine k_i0 hH (k_runV (As := [.int x1]) (rest := []) X hH.1 hH.2.1 X.2.2.2 (walkX48_isTransaction hc (x1 := x1) (f_rowTriples := f_rowTriples) (f_rowVersions := f_rowVersions) (f_rowTells := f_rowTells) (f_rows := f_rows) (f_latest := f_latest) (f_pins := f_pins) (f_writers := f_writers) (f_sees := f_sees) (f_states := f_states) (f_notes := f_notes) (f_wrote := f_wrote) (f_waitsFor := f_waitsFor) (f_waitTriples := f_waitTriples) (f_waitTells := f_waitTells) (f_since := f_since) (f_clock := f_clock) (f_count := f_count) (f_holders := f_holders) (f_queue := f_queue) (f_queueFrom := f_queueFrom) (f_queueTo := f_queueTo) (f_ring := f_ring) (f_ringSize := f_ringSize) (f_failures := f_failures) (f_refusals := f_refusals) (f_thrown := f_thrown) (f_best := f_best) hw) (cwV 1 X.1.2.2.2.2 gX48_111 rfl rfl rfl hX48_isTransaction ⟨Nat.le_of_ble_eq_true rfl, Nat.le_of_ble_eq_true rfl⟩) hc (q0 := 0) rfl rfl hl.1 rfl (Nat.le_of_ble_eq_true rfl) dX48_commit_2 ⟨Nat.le_refl 0, Nat.le_refl 0⟩) (fun r_1 _ H locs hw hH => ?_)
  have hH : kH (dC, dI) cl A s.heap H locs (wX48 ci ad d f_rowTriples f_rowVersions f_rowTells f_rows f_latest f_pins f_writers f_sees f_states f_notes f_wrote f_waitsFor f_waitTriples f_waitTells f_since f_clock f_count f_holders f_queue f_queueFrom f_queueTo f_ring f_ringSize f_failures f_refusals f_thrown f_best) := hH
  refine lv_istore_n (lv' := [(2, .int r_1), (0, .ref (ad 0)), (1, .int x1)]) hx hb dX48_commit_5 rfl hl (by decide) rfl (fun ls hl => ?_)
  refine lv_aload_n hx hb dX48_commit_6 rfl (lv_at hl 1 rfl) ?_
  refine lv_iload_n hx hb dX48_commit_7 rfl (lv_at hl 0 rfl) ?_
  refine lv_iload_n hx hb dX48_commit_8 rfl (lv_at hl 0 rfl) ?_
  refine lv_if_eq (tgt := 34) hx hb dX48_commit_9 (by decide) (fun c_2 => ?_) (fun c_2 => ?_)
  · have hw := hw.1 (z_eq (rfl : r_1.toInt = _) (rfl : (0 : Int32).toInt = 0) c_2)
    refine lv_iconst (v := 0) hx hb dX48_commit_34 (by decide) ?_
    exact atX48_commit_35 hc X x1 r_1 0 f_rowTriples f_rowVersions f_rowTells f_rows f_latest f_states f_wrote f_waitsFor f_waitTriples f_waitTells f_since f_clock f_holders f_queue f_queueFrom f_queueTo f_ring f_ringSize f_failures f_refusals f_thrown hw _ _ ls hH (lv_sub hl [1, 2] rfl)
  · have hw := hw.2 (z_neq (rfl : r_1.toInt = _) (rfl : (0 : Int32).toInt = 0) c_2)
    refine lv_aload_n hx hb dX48_commit_12 rfl (lv_at hl 1 rfl) ?_
    refine lv_iload_n hx hb dX48_commit_13 rfl (lv_at hl 2 rfl) ?_
    refine k_i0 hH (k_runV (As := [.int x1]) (rest := [.int r_1, .ref (ad 0)]) X hH.1 hH.2.1 X.2.2.2 (walkX48_isLive hc (x1 := x1) (f_rowTriples := f_rowTriples) (f_rowVersions := f_rowVersions) (f_rowTells := f_rowTells) (f_rows := f_rows) (f_latest := f_latest) (f_pins := f_pins) (f_writers := f_writers) (f_sees := f_sees) (f_states := f_states) (f_notes := f_notes) (f_wrote := f_wrote) (f_waitsFor := f_waitsFor) (f_waitTriples := f_waitTriples) (f_waitTells := f_waitTells) (f_since := f_since) (f_clock := f_clock) (f_count := f_count) (f_holders := f_holders) (f_queue := f_queue) (f_queueFrom := f_queueFrom) (f_queueTo := f_queueTo) (f_ring := f_ring) (f_ringSize := f_ringSize) (f_failures := f_failures) (f_refusals := f_refusals) (f_thrown := f_thrown) (f_best := f_best) hw) (cwV 1 X.1.2.2.2.2 gX48_89 rfl rfl rfl hX48_isLive ⟨Nat.le_of_ble_eq_true rfl, Nat.le_of_ble_eq_true rfl⟩) hc (q0 := 0) rfl rfl hl.1 rfl (Nat.le_of_ble_eq_true rfl) dX48_commit_14 ⟨Nat.le_refl 0, Nat.le_refl 0⟩) (fun r_140 _ H locs hw hH => ?_)
    have hH : kH (dC, dI) cl A s.heap H locs (wX48 ci ad d f_rowTriples f_rowVersions f_rowTells f_rows f_latest f_pins f_writers f_sees f_states f_notes f_wrote f_waitsFor f_waitTriples f_waitTells f_since f_clock f_count f_holders f_queue f_queueFrom f_queueTo f_ring f_ringSize f_failures f_refusals f_thrown f_best) := hH
    refine lv_if_eq (tgt := 34) hx hb dX48_commit_17 (by decide) (fun c_141 => ?_) (fun c_141 => ?_)
    · have hw := hw.1 (z_eq (rfl : r_140.toInt = _) (rfl : (0 : Int32).toInt = 0) c_141)
      refine lv_iconst (v := 0) hx hb dX48_commit_34 (by decide) ?_
      exact atX48_commit_35 hc X x1 r_1 0 f_rowTriples f_rowVersions f_rowTells f_rows f_latest f_states f_wrote f_waitsFor f_waitTriples f_waitTells f_since f_clock f_holders f_queue f_queueFrom f_queueTo f_ring f_ringSize f_failures f_refusals f_thrown hw _ _ ls hH (lv_sub hl [1, 2] rfl)
    · have hw := hw.2 (z_neq (rfl : r_140.toInt = _) (rfl : (0 : Int32).toInt = 0) c_141)
      refine lv_aload_n hx hb dX48_commit_20 rfl (lv_at hl 1 rfl) ?_
      refine k_get X hH in_X48 0 rfl hc 8 (by decide) q6080 rfl dX48_commit_21 ?_
      refine lv_iload_n hx hb dX48_commit_24 rfl (lv_at hl 2 rfl) ?_
      have hq_142 := hw.1
      have hw := hw.2
      refine k_iald X hH 7 6 rfl rfl (z_in (rfl : x1.toInt = _) hq_142) dX48_commit_25 ?_
      have e_143 := z_ld (f := f_states) (rfl : x1.toInt = _) hq_142.1
      refine lv_iconst (v := 1) hx hb dX48_commit_26 (by decide) ?_
      refine lv_icmp_eq (tgt := 34) hx hb dX48_commit_27 (by decide) (fun c_144 => ?_) (fun c_144 => ?_)
      · have hw := hw.1 (z_eq e_143 (rfl : (1 : Int32).toInt = 1) c_144)
        refine lv_iconst (v := 0) hx hb dX48_commit_34 (by decide) ?_
        exact atX48_commit_35 hc X x1 r_1 0 f_rowTriples f_rowVersions f_rowTells f_rows f_latest f_states f_wrote f_waitsFor f_waitTriples f_waitTells f_since f_clock f_holders f_queue f_queueFrom f_queueTo f_ring f_ringSize f_failures f_refusals f_thrown hw _ _ ls hH (lv_sub hl [1, 2] rfl)
      · have hw := hw.2 (z_neq e_143 (rfl : (1 : Int32).toInt = 1) c_144)
        refine lv_iconst (v := 1) hx hb dX48_commit_30 (by decide) ?_
        refine lv_goto (tgt := 35) hx hb dX48_commit_31 (by decide) ?_
        exact atX48_commit_35 hc X x1 r_1 1 f_rowTriples f_rowVersions f_rowTells f_rows f_latest f_states f_wrote f_waitsFor f_waitTriples f_waitTells f_since f_clock f_holders f_queue f_queueFrom f_queueTo f_ring f_ringSize f_failures f_refusals f_thrown hw _ _ ls hH (lv_sub hl [1, 2] rfl)
set_option maxHeartbeats 4000000 in
theorem atX48_leastKept_7 {p : Program} {l : Launch} {e : Env} {s : State} {m : MethodId} {args : Array Value} {below : List Frame} {meth : Method} {c : Code} {dC : Nat → ClassId} {dI : Nat → Nat → Nat} {cl : List vw_C} {ci : Nat} (hc : cl[ci]? = some (RX48, TX48, 27)) {ad : Nat → Nat} {d : Nat → ClassId} {A : Nat → Prop} {post : Int → Prop} {f_rowTriples : Nat → Int32} {f_rowVersions : Nat → Int32} {f_rowTells : Nat → Int32} {f_rows : Int32} {f_latest : Int32} {f_pins : Nat → Int32} {f_writers : Nat → Int32} {f_sees : Nat → Int32} {f_states : Nat → Int32} {f_notes : Nat → Int32} {f_wrote : Nat → Int32} {f_waitsFor : Nat → Int32} {f_waitTriples : Nat → Int32} {f_waitTells : Nat → Int32} {f_since : Nat → Int32} {f_clock : Int32} {f_count : Int32} {f_holders : Nat → Int32} {f_queue : Nat → Int32} {f_queueFrom : Int32} {f_queueTo : Int32} {f_ring : Nat → Int32} {f_ringSize : Int32} {f_failures : Nat → Int32} {f_refusals : Nat → Int32} {f_thrown : Int32} {f_best : Nat → Int32} (X : kX p s m args meth c cX48_leastKept 3 RX48 (some .int) (dC, dI) cl (tX48 d)) {K50 : Int → Prop}   (hk50 : ∀ (x1 : Int32), K50 x1.toInt → ∀ (H : Heap) (locs : List Loc) (ls : Array Slot), kH (dC, dI) cl A s.heap H locs (wX48 ci ad d f_rowTriples f_rowVersions f_rowTells f_rows f_latest f_pins f_writers f_sees f_states f_notes f_wrote f_waitsFor f_waitTriples f_waitTells f_since f_clock f_count f_holders f_queue f_queueFrom f_queueTo f_ring f_ringSize f_failures f_refusals f_thrown f_best) → lv_has ls 3 [(0, .ref (ad 0)), (1, .int x1)] → W p l e ({ frames := 1, cells := 0, slots := 0, locals := 21 } : Room) s m args below meth c H locs 0 0 (MQ below (va_Qi (fun (r : Int32) (_ : Unit) => post r.toInt) (kB (dC, dI) cl (tX48 d) A (fun _ : Unit => (wX48 ci ad d f_rowTriples f_rowVersions f_rowTells f_rows f_latest f_pins f_writers f_sees f_states f_notes f_wrote f_waitsFor f_waitTriples f_waitTells f_since f_clock f_count f_holders f_queue f_queueFrom f_queueTo f_ring f_ringSize f_failures f_refusals f_thrown f_best))) A) args s 0 0 A) (F0 m 50 ls [])) :
    ∀ (nn : Nat) (x1 : Int32) (x2 : Int32), wX48_leastKept_7 K50 (zF f_sees) (zF f_states) f_count.toInt nn x1.toInt x2.toInt → ∀ (H : Heap) (locs : List Loc) (ls : Array Slot), kH (dC, dI) cl A s.heap H locs (wX48 ci ad d f_rowTriples f_rowVersions f_rowTells f_rows f_latest f_pins f_writers f_sees f_states f_notes f_wrote f_waitsFor f_waitTriples f_waitTells f_since f_clock f_count f_holders f_queue f_queueFrom f_queueTo f_ring f_ringSize f_failures f_refusals f_thrown f_best) → lv_has ls 3 [(0, .ref (ad 0)), (1, .int x1), (2, .int x2)] → W p l e ({ frames := 1, cells := 0, slots := 0, locals := 21 } : Room) s m args below meth c H locs 0 0 (MQ below (va_Qi (fun (r : Int32) (_ : Unit) => post r.toInt) (kB (dC, dI) cl (tX48 d) A (fun _ : Unit => (wX48 ci ad d f_rowTriples f_rowVersions f_rowTells f_rows f_latest f_pins f_writers f_sees f_states f_notes f_wrote f_waitsFor f_waitTriples f_waitTells f_since f_clock f_count f_holders f_queue f_queueFrom f_queueTo f_ring f_ringSize f_failures f_refusals f_thrown f_best))) A) args s 0 0 A) (F0 m 7 ls []) := by
  have hx := X.1.1
  have hb := X.1.2.1
  intro nn
  induction nn with
  | zero =>
    intro x1 x2 hw
    exact False.elim hw
  | succ n ih =>
    intro x1 x2 hw H locs ls hH hl
    rw [wX48_leastKept_7] at hw
    refine lv_iload_n hx hb dX48_leastKept_7 rfl (lv_at hl 2 rfl) ?_
    refine lv_aload_n hx hb dX48_leastKept_8 rfl (lv_at hl 0 rfl) ?_
    refine k_get X hH in_X48 0 rfl hc 16 (by decide) q6088 rfl dX48_leastKept_9 ?_
    refine lv_icmp_ge (tgt := 50) hx hb dX48_leastKept_12 (by decide) (fun c_1 => ?_) (fun c_1 => ?_)
    · have hw := hw.1 (z_le (rfl : f_count.toInt = _) (rfl : x2.toInt = _) c_1)
      exact hk50 x1 hw _ _ ls hH (lv_sub hl [0, 1] rfl)
    · have hw := hw.2 (z_nle (rfl : f_count.toInt = _) (rfl : x2.toInt = _) c_1)
      refine lv_aload_n hx hb dX48_leastKept_15 rfl (lv_at hl 0 rfl) ?_
      refine lv_iload_n hx hb dX48_leastKept_16 rfl (lv_at hl 2 rfl) ?_
      refine k_i0 hH (k_runV (As := [.int x2]) (rest := []) X hH.1 hH.2.1 X.2.2.2 (walkX48_isLive hc (x1 := x2) (f_rowTriples := f_rowTriples) (f_rowVersions := f_rowVersions) (f_rowTells := f_rowTells) (f_rows := f_rows) (f_latest := f_latest) (f_pins := f_pins) (f_writers := f_writers) (f_sees := f_sees) (f_states := f_states) (f_notes := f_notes) (f_wrote := f_wrote) (f_waitsFor := f_waitsFor) (f_waitTriples := f_waitTriples) (f_waitTells := f_waitTells) (f_since := f_since) (f_clock := f_clock) (f_count := f_count) (f_holders := f_holders) (f_queue := f_queue) (f_queueFrom := f_queueFrom) (f_queueTo := f_queueTo) (f_ring := f_ring) (f_ringSize := f_ringSize) (f_failures := f_failures) (f_refusals := f_refusals) (f_thrown := f_thrown) (f_best := f_best) hw) (cwV 1 X.1.2.2.2.2 gX48_89 rfl rfl rfl hX48_isLive ⟨Nat.le_of_ble_eq_true rfl, Nat.le_of_ble_eq_true rfl⟩) hc (q0 := 0) rfl rfl hl.1 rfl (Nat.le_of_ble_eq_true rfl) dX48_leastKept_17 ⟨Nat.le_refl 0, Nat.le_refl 0⟩) (fun r_2 _ H locs hw hH => ?_)
      have hH : kH (dC, dI) cl A s.heap H locs (wX48 ci ad d f_rowTriples f_rowVersions f_rowTells f_rows f_latest f_pins f_writers f_sees f_states f_notes f_wrote f_waitsFor f_waitTriples f_waitTells f_since f_clock f_count f_holders f_queue f_queueFrom f_queueTo f_ring f_ringSize f_failures f_refusals f_thrown f_best) := hH
      refine lv_if_eq (tgt := 42) hx hb dX48_leastKept_20 (by decide) (fun c_3 => ?_) (fun c_3 => ?_)
      · have hw := hw.1 (z_eq (rfl : r_2.toInt = _) (rfl : (0 : Int32).toInt = 0) c_3)
        refine lv_iload_n hx hb dX48_leastKept_42 rfl (lv_at hl 1 rfl) ?_
        refine lv_istore_n (lv' := [(1, .int x1), (0, .ref (ad 0)), (2, .int x2)]) hx hb dX48_leastKept_43 rfl hl (by decide) rfl (fun ls hl => ?_)
        have hq_5 := hw.1
        have hw := hw.2
        obtain ⟨x2_4, ex2_4⟩ : ∃ y : Int32, y = x2 + 1 := ⟨_, rfl⟩
        have hw := hw x2_4.toInt (by rw [ex2_4]; exact (z_x (z_add (z_m (rfl : x2.toInt = _)) (z_m (rfl : (1 : Int32).toInt = 1))) hq_5))
        refine lv_iinc (v := x2_4) (lv' := [(2, .int x2_4), (1, .int x1), (0, .ref (ad 0))]) hx hb dX48_leastKept_44 hl (k := 2) rfl (by rw [ex2_4]; rfl) (by decide) rfl (fun ls hl => ?_)
        refine lv_goto (tgt := 7) hx hb dX48_leastKept_47 (by decide) ?_
        exact ih x1 x2_4 hw _ _ ls hH (lv_sub hl [2, 1, 0] rfl)
      · have hw := hw.2 (z_neq (rfl : r_2.toInt = _) (rfl : (0 : Int32).toInt = 0) c_3)
        refine lv_aload_n hx hb dX48_leastKept_23 rfl (lv_at hl 0 rfl) ?_
        refine k_get X hH in_X48 0 rfl hc 7 (by decide) q6079 rfl dX48_leastKept_24 ?_
        refine lv_iload_n hx hb dX48_leastKept_27 rfl (lv_at hl 2 rfl) ?_
        have hq_6 := hw.1
        have hw := hw.2
        refine k_iald X hH 6 5 rfl rfl (z_in (rfl : x2.toInt = _) hq_6) dX48_leastKept_28 ?_
        have e_7 := z_ld (f := f_sees) (rfl : x2.toInt = _) hq_6.1
        refine lv_iload_n hx hb dX48_leastKept_29 rfl (lv_at hl 1 rfl) ?_
        refine lv_icmp_ge (tgt := 42) hx hb dX48_leastKept_30 (by decide) (fun c_8 => ?_) (fun c_8 => ?_)
        · have hw := hw.1 (z_le (rfl : x1.toInt = _) e_7 c_8)
          refine lv_iload_n hx hb dX48_leastKept_42 rfl (lv_at hl 1 rfl) ?_
          refine lv_istore_n (lv' := [(1, .int x1), (0, .ref (ad 0)), (2, .int x2)]) hx hb dX48_leastKept_43 rfl hl (by decide) rfl (fun ls hl => ?_)
          have hq_10 := hw.1
          have hw := hw.2
          obtain ⟨x2_9, ex2_9⟩ : ∃ y : Int32, y = x2 + 1 := ⟨_, rfl⟩
          have hw := hw x2_9.toInt (by rw [ex2_9]; exact (z_x (z_add (z_m (rfl : x2.toInt = _)) (z_m (rfl : (1 : Int32).toInt = 1))) hq_10))
          refine lv_iinc (v := x2_9) (lv' := [(2, .int x2_9), (1, .int x1), (0, .ref (ad 0))]) hx hb dX48_leastKept_44 hl (k := 2) rfl (by rw [ex2_9]; rfl) (by decide) rfl (fun ls hl => ?_)
          refine lv_goto (tgt := 7) hx hb dX48_leastKept_47 (by decide) ?_
          exact ih x1 x2_9 hw _ _ ls hH (lv_sub hl [2, 1, 0] rfl)
        · have hw := hw.2 (z_nle (rfl : x1.toInt = _) e_7 c_8)
          refine lv_aload_n hx hb dX48_leastKept_33 rfl (lv_at hl 0 rfl) ?_
          refine k_get X hH in_X48 0 rfl hc 7 (by decide) q6079 rfl dX48_leastKept_34 ?_
          refine lv_iload_n hx hb dX48_leastKept_37 rfl (lv_at hl 2 rfl) ?_
          refine k_iald X hH 6 5 rfl rfl (z_in (rfl : x2.toInt = _) hq_6) dX48_leastKept_38 ?_
          have e_11 := z_ld (f := f_sees) (rfl : x2.toInt = _) hq_6.1
          refine lv_goto (tgt := 43) hx hb dX48_leastKept_39 (by decide) ?_
          refine lv_topi (fun x1_12 ex1_12 => ?_)
          have hw := hw x1_12.toInt (by rw [ex1_12]; exact e_11)
          refine lv_istore_n (lv' := [(1, .int x1_12), (0, .ref (ad 0)), (2, .int x2)]) hx hb dX48_leastKept_43 rfl hl (by decide) rfl (fun ls hl => ?_)
          have hq_14 := hw.1
          have hw := hw.2
          obtain ⟨x2_13, ex2_13⟩ : ∃ y : Int32, y = x2 + 1 := ⟨_, rfl⟩
          have hw := hw x2_13.toInt (by rw [ex2_13]; exact (z_x (z_add (z_m (rfl : x2.toInt = _)) (z_m (rfl : (1 : Int32).toInt = 1))) hq_14))
          refine lv_iinc (v := x2_13) (lv' := [(2, .int x2_13), (1, .int x1_12), (0, .ref (ad 0))]) hx hb dX48_leastKept_44 hl (k := 2) rfl (by rw [ex2_13]; rfl) (by decide) rfl (fun ls hl => ?_)
          refine lv_goto (tgt := 7) hx hb dX48_leastKept_47 (by decide) ?_
          exact ih x1_12 x2_13 hw _ _ ls hH (lv_sub hl [2, 1, 0] rfl)
set_option maxHeartbeats 4000000 in
theorem atX48_leastKept_52 {p : Program} {l : Launch} {e : Env} {s : State} {m : MethodId} {args : Array Value} {below : List Frame} {meth : Method} {c : Code} {dC : Nat → ClassId} {dI : Nat → Nat → Nat} {cl : List vw_C} {ci : Nat} (hc : cl[ci]? = some (RX48, TX48, 27)) {ad : Nat → Nat} {d : Nat → ClassId} {A : Nat → Prop} {post : Int → Prop} {f_rowTriples : Nat → Int32} {f_rowVersions : Nat → Int32} {f_rowTells : Nat → Int32} {f_rows : Int32} {f_latest : Int32} {f_pins : Nat → Int32} {f_writers : Nat → Int32} {f_sees : Nat → Int32} {f_states : Nat → Int32} {f_notes : Nat → Int32} {f_wrote : Nat → Int32} {f_waitsFor : Nat → Int32} {f_waitTriples : Nat → Int32} {f_waitTells : Nat → Int32} {f_since : Nat → Int32} {f_clock : Int32} {f_count : Int32} {f_holders : Nat → Int32} {f_queue : Nat → Int32} {f_queueFrom : Int32} {f_queueTo : Int32} {f_ring : Nat → Int32} {f_ringSize : Int32} {f_failures : Nat → Int32} {f_refusals : Nat → Int32} {f_thrown : Int32} {f_best : Nat → Int32} (X : kX p s m args meth c cX48_leastKept 3 RX48 (some .int) (dC, dI) cl (tX48 d)) {K84 : Int → Prop}   (hk84 : ∀ (x1 : Int32), K84 x1.toInt → ∀ (H : Heap) (locs : List Loc) (ls : Array Slot), kH (dC, dI) cl A s.heap H locs (wX48 ci ad d f_rowTriples f_rowVersions f_rowTells f_rows f_latest f_pins f_writers f_sees f_states f_notes f_wrote f_waitsFor f_waitTriples f_waitTells f_since f_clock f_count f_holders f_queue f_queueFrom f_queueTo f_ring f_ringSize f_failures f_refusals f_thrown f_best) → lv_has ls 3 [(1, .int x1)] → W p l e ({ frames := 1, cells := 0, slots := 0, locals := 21 } : Room) s m args below meth c H locs 0 0 (MQ below (va_Qi (fun (r : Int32) (_ : Unit) => post r.toInt) (kB (dC, dI) cl (tX48 d) A (fun _ : Unit => (wX48 ci ad d f_rowTriples f_rowVersions f_rowTells f_rows f_latest f_pins f_writers f_sees f_states f_notes f_wrote f_waitsFor f_waitTriples f_waitTells f_since f_clock f_count f_holders f_queue f_queueFrom f_queueTo f_ring f_ringSize f_failures f_refusals f_thrown f_best))) A) args s 0 0 A) (F0 m 84 ls [])) :
    ∀ (nn : Nat) (x1 : Int32) (x2 : Int32), wX48_leastKept_52 K84 (zF f_pins) nn x1.toInt x2.toInt → ∀ (H : Heap) (locs : List Loc) (ls : Array Slot), kH (dC, dI) cl A s.heap H locs (wX48 ci ad d f_rowTriples f_rowVersions f_rowTells f_rows f_latest f_pins f_writers f_sees f_states f_notes f_wrote f_waitsFor f_waitTriples f_waitTells f_since f_clock f_count f_holders f_queue f_queueFrom f_queueTo f_ring f_ringSize f_failures f_refusals f_thrown f_best) → lv_has ls 3 [(0, .ref (ad 0)), (1, .int x1), (2, .int x2)] → W p l e ({ frames := 1, cells := 0, slots := 0, locals := 21 } : Room) s m args below meth c H locs 0 0 (MQ below (va_Qi (fun (r : Int32) (_ : Unit) => post r.toInt) (kB (dC, dI) cl (tX48 d) A (fun _ : Unit => (wX48 ci ad d f_rowTriples f_rowVersions f_rowTells f_rows f_latest f_pins f_writers f_sees f_states f_notes f_wrote f_waitsFor f_waitTriples f_waitTells f_since f_clock f_count f_holders f_queue f_queueFrom f_queueTo f_ring f_ringSize f_failures f_refusals f_thrown f_best))) A) args s 0 0 A) (F0 m 52 ls []) := by
  have hx := X.1.1
  have hb := X.1.2.1
  intro nn
  induction nn with
  | zero =>
    intro x1 x2 hw
    exact False.elim hw
  | succ n ih =>
    intro x1 x2 hw H locs ls hH hl
    rw [wX48_leastKept_52] at hw
    refine lv_iload_n hx hb dX48_leastKept_52 rfl (lv_at hl 2 rfl) ?_
    refine lv_bipush (v := 64) hx hb dX48_leastKept_53 (by decide) ?_
    refine lv_icmp_ge (tgt := 84) hx hb dX48_leastKept_55 (by decide) (fun c_16 => ?_) (fun c_16 => ?_)
    · have hw := hw.1 (z_le (rfl : (64 : Int32).toInt = 64) (rfl : x2.toInt = _) c_16)
      exact hk84 x1 hw _ _ ls hH (lv_sub hl [1] rfl)
    · have hw := hw.2 (z_nle (rfl : (64 : Int32).toInt = 64) (rfl : x2.toInt = _) c_16)
      refine lv_aload_n hx hb dX48_leastKept_58 rfl (lv_at hl 0 rfl) ?_
      refine k_get X hH in_X48 0 rfl hc 5 (by decide) q6077 rfl dX48_leastKept_59 ?_
      refine lv_iload_n hx hb dX48_leastKept_62 rfl (lv_at hl 2 rfl) ?_
      have hq_17 := hw.1
      have hw := hw.2
      refine k_iald X hH 4 3 rfl rfl (z_in (rfl : x2.toInt = _) hq_17) dX48_leastKept_63 ?_
      have e_18 := z_ld (f := f_pins) (rfl : x2.toInt = _) hq_17.1
      refine lv_if_le (tgt := 76) hx hb dX48_leastKept_64 (by decide) (fun c_19 => ?_) (fun c_19 => ?_)
      · have hw := hw.1 (z_le e_18 (rfl : (0 : Int32).toInt = 0) c_19)
        refine lv_iload_n hx hb dX48_leastKept_76 rfl (lv_at hl 1 rfl) ?_
        refine lv_istore_n (lv' := [(1, .int x1), (0, .ref (ad 0)), (2, .int x2)]) hx hb dX48_leastKept_77 rfl hl (by decide) rfl (fun ls hl => ?_)
        have hq_21 := hw.1
        have hw := hw.2
        obtain ⟨x2_20, ex2_20⟩ : ∃ y : Int32, y = x2 + 1 := ⟨_, rfl⟩
        have hw := hw x2_20.toInt (by rw [ex2_20]; exact (z_x (z_add (z_m (rfl : x2.toInt = _)) (z_m (rfl : (1 : Int32).toInt = 1))) hq_21))
        refine lv_iinc (v := x2_20) (lv' := [(2, .int x2_20), (1, .int x1), (0, .ref (ad 0))]) hx hb dX48_leastKept_78 hl (k := 2) rfl (by rw [ex2_20]; rfl) (by decide) rfl (fun ls hl => ?_)
        refine lv_goto (tgt := 52) hx hb dX48_leastKept_81 (by decide) ?_
        exact ih x1 x2_20 hw _ _ ls hH (lv_sub hl [2, 1, 0] rfl)
      · have hw := hw.2 (z_nle e_18 (rfl : (0 : Int32).toInt = 0) c_19)
        refine lv_iload_n hx hb dX48_leastKept_67 rfl (lv_at hl 2 rfl) ?_
        refine lv_iload_n hx hb dX48_leastKept_68 rfl (lv_at hl 1 rfl) ?_
        refine lv_icmp_ge (tgt := 76) hx hb dX48_leastKept_69 (by decide) (fun c_22 => ?_) (fun c_22 => ?_)
        · have hw := hw.1 (z_le (rfl : x1.toInt = _) (rfl : x2.toInt = _) c_22)
          refine lv_iload_n hx hb dX48_leastKept_76 rfl (lv_at hl 1 rfl) ?_
          refine lv_istore_n (lv' := [(1, .int x1), (0, .ref (ad 0)), (2, .int x2)]) hx hb dX48_leastKept_77 rfl hl (by decide) rfl (fun ls hl => ?_)
          have hq_24 := hw.1
          have hw := hw.2
          obtain ⟨x2_23, ex2_23⟩ : ∃ y : Int32, y = x2 + 1 := ⟨_, rfl⟩
          have hw := hw x2_23.toInt (by rw [ex2_23]; exact (z_x (z_add (z_m (rfl : x2.toInt = _)) (z_m (rfl : (1 : Int32).toInt = 1))) hq_24))
          refine lv_iinc (v := x2_23) (lv' := [(2, .int x2_23), (1, .int x1), (0, .ref (ad 0))]) hx hb dX48_leastKept_78 hl (k := 2) rfl (by rw [ex2_23]; rfl) (by decide) rfl (fun ls hl => ?_)
          refine lv_goto (tgt := 52) hx hb dX48_leastKept_81 (by decide) ?_
          exact ih x1 x2_23 hw _ _ ls hH (lv_sub hl [2, 1, 0] rfl)
        · have hw := hw.2 (z_nle (rfl : x1.toInt = _) (rfl : x2.toInt = _) c_22)
          refine lv_iload_n hx hb dX48_leastKept_72 rfl (lv_at hl 2 rfl) ?_
          refine lv_goto (tgt := 77) hx hb dX48_leastKept_73 (by decide) ?_
          refine lv_istore_n (lv' := [(1, .int x2), (0, .ref (ad 0)), (2, .int x2)]) hx hb dX48_leastKept_77 rfl hl (by decide) rfl (fun ls hl => ?_)
          have hq_26 := hw.1
          have hw := hw.2
          obtain ⟨x2_25, ex2_25⟩ : ∃ y : Int32, y = x2 + 1 := ⟨_, rfl⟩
          have hw := hw x2_25.toInt (by rw [ex2_25]; exact (z_x (z_add (z_m (rfl : x2.toInt = _)) (z_m (rfl : (1 : Int32).toInt = 1))) hq_26))
          refine lv_iinc (v := x2_25) (lv' := [(2, .int x2_25), (1, .int x2), (0, .ref (ad 0))]) hx hb dX48_leastKept_78 hl (k := 2) rfl (by rw [ex2_25]; rfl) (by decide) rfl (fun ls hl => ?_)
          refine lv_goto (tgt := 52) hx hb dX48_leastKept_81 (by decide) ?_
          exact ih x2 x2_25 hw _ _ ls hH (lv_sub hl [2, 1, 0] rfl)
set_option maxHeartbeats 4000000 in
theorem walkX48_leastKept {l : Launch} {dC : Nat → ClassId} {dI : Nat → Nat → Nat} {cl : List vw_C} {ci : Nat} (hc : cl[ci]? = some (RX48, TX48, 27)) {ad : Nat → Nat} {d : Nat → ClassId} {sz : Nat} {f_rowTriples : Nat → Int32} {f_rowVersions : Nat → Int32} {f_rowTells : Nat → Int32} {f_rows : Int32} {f_latest : Int32} {f_pins : Nat → Int32} {f_writers : Nat → Int32} {f_sees : Nat → Int32} {f_states : Nat → Int32} {f_notes : Nat → Int32} {f_wrote : Nat → Int32} {f_waitsFor : Nat → Int32} {f_waitTriples : Nat → Int32} {f_waitTells : Nat → Int32} {f_since : Nat → Int32} {f_clock : Int32} {f_count : Int32} {f_holders : Nat → Int32} {f_queue : Nat → Int32} {f_queueFrom : Int32} {f_queueTo : Int32} {f_ring : Nat → Int32} {f_ringSize : Int32} {f_failures : Nat → Int32} {f_refusals : Nat → Int32} {f_thrown : Int32} {f_best : Nat → Int32}  {post : Int → Prop} (hw : wpX48_leastKept post f_latest.toInt (zF f_pins) (zF f_sees) (zF f_states) f_count.toInt ) :
    Met l yX48_leastKept (ws_ yX48_leastKept cX48_leastKept 3 (some .int)) ({ frames := 1, cells := 0, slots := 0, locals := 21 } : Room) (kPc (dC, dI) cl (tX48 d) [.ref (ad 0)] sz (wX48 ci ad d f_rowTriples f_rowVersions f_rowTells f_rows f_latest f_pins f_writers f_sees f_states f_notes f_wrote f_waitsFor f_waitTriples f_waitTells f_since f_clock f_count f_holders f_queue f_queueFrom f_queueTo f_ring f_ringSize f_failures f_refusals f_thrown f_best)) (va_Qi (fun (r : Int32) (_ : Unit) => post r.toInt) (kB (dC, dI) cl (tX48 d) (va_A (wX48 ci ad d f_rowTriples f_rowVersions f_rowTells f_rows f_latest f_pins f_writers f_sees f_states f_notes f_wrote f_waitsFor f_waitTriples f_waitTells f_since f_clock f_count f_holders f_queue f_queueFrom f_queueTo f_ring f_ringSize f_failures f_refusals f_thrown f_best) sz) (fun _ : Unit => (wX48 ci ad d f_rowTriples f_rowVersions f_rowTells f_rows f_latest f_pins f_writers f_sees f_states f_notes f_wrote f_waitsFor f_waitTriples f_waitTells f_since f_clock f_count f_holders f_queue f_queueFrom f_queueTo f_ring f_ringSize f_failures f_refusals f_thrown f_best))) (va_A (wX48 ci ad d f_rowTriples f_rowVersions f_rowTells f_rows f_latest f_pins f_writers f_sees f_states f_notes f_wrote f_waitsFor f_waitTriples f_waitTells f_since f_clock f_count f_holders f_queue f_queueFrom f_queueTo f_ring f_ringSize f_failures f_refusals f_thrown f_best) sz)) 0 0 (va_A (wX48 ci ad d f_rowTriples f_rowVersions f_rowTells f_rows f_latest f_pins f_writers f_sees f_states f_notes f_wrote f_waitsFor f_waitTriples f_waitTells f_since f_clock f_count f_holders f_queue f_queueFrom f_queueTo f_ring f_ringSize f_failures f_refusals f_thrown f_best) sz) := by
  refine k_enter (by decide) (Nat.le_of_ble_eq_true rfl) ?_
  intro p e s m below meth c ls X hsz hH hl
  subst hsz
  generalize va_A (wX48 ci ad d f_rowTriples f_rowVersions f_rowTells f_rows f_latest f_pins f_writers f_sees f_states f_notes f_wrote f_waitsFor f_waitTriples f_waitTells f_since f_clock f_count f_holders f_queue f_queueFrom f_queueTo f_ring f_ringSize f_failures f_refusals f_thrown f_best) s.heap.size = A at hH ⊢
  have hx := X.1.1
  have hb := X.1.2.1
  have hl : lv_has ls 3 [(0, .ref (ad 0))] := hl
  unfold wpX48_leastKept at hw
  refine lv_aload_n hx hb dX48_leastKept_0 rfl (lv_at hl 0 rfl) ?_
  refine k_get X hH in_X48 0 rfl hc 4 (by decide) q6076 rfl dX48_leastKept_1 ?_
  refine lv_istore_n (lv' := [(1, .int f_latest), (0, .ref (ad 0))]) hx hb dX48_leastKept_4 rfl hl (by decide) rfl (fun ls hl => ?_)
  refine lv_iconst (v := 0) hx hb dX48_leastKept_5 (by decide) ?_
  refine lv_istore_n (lv' := [(2, .int 0), (1, .int f_latest), (0, .ref (ad 0))]) hx hb dX48_leastKept_6 rfl hl (by decide) rfl (fun ls hl => ?_)
  obtain ⟨fu, hw⟩ := hw
  refine atX48_leastKept_7 hc X ?_ fu f_latest 0 hw _ _ ls hH (lv_sub hl [2, 1, 0] rfl)
  · intro x1_15 hw H locs ls hH hl
    refine lv_iconst (v := 0) hx hb dX48_leastKept_50 (by decide) ?_
    refine lv_istore_n (lv' := [(2, .int 0), (0, .ref (ad 0)), (1, .int x1_15)]) hx hb dX48_leastKept_51 rfl hl (by decide) rfl (fun ls hl => ?_)
    obtain ⟨fu, hw⟩ := hw
    refine atX48_leastKept_52 hc X ?_ fu x1_15 0 hw _ _ ls hH (lv_sub hl [1, 2, 0] rfl)
    · intro x1_27 hw H locs ls hH hl
      refine lv_iload_n hx hb dX48_leastKept_84 rfl (lv_at hl 0 rfl) ?_
      exact k_iret (v := x1_27) X hH () hw rfl rfl dX48_leastKept_85
set_option maxHeartbeats 4000000 in
theorem walkX48_isTellable {l : Launch} {dC : Nat → ClassId} {dI : Nat → Nat → Nat} {cl : List vw_C} {ci : Nat} (hc : cl[ci]? = some (RX48, TX48, 27)) {ad : Nat → Nat} {d : Nat → ClassId} {sz : Nat} {f_rowTriples : Nat → Int32} {f_rowVersions : Nat → Int32} {f_rowTells : Nat → Int32} {f_rows : Int32} {f_latest : Int32} {f_pins : Nat → Int32} {f_writers : Nat → Int32} {f_sees : Nat → Int32} {f_states : Nat → Int32} {f_notes : Nat → Int32} {f_wrote : Nat → Int32} {f_waitsFor : Nat → Int32} {f_waitTriples : Nat → Int32} {f_waitTells : Nat → Int32} {f_since : Nat → Int32} {f_clock : Int32} {f_count : Int32} {f_holders : Nat → Int32} {f_queue : Nat → Int32} {f_queueFrom : Int32} {f_queueTo : Int32} {f_ring : Nat → Int32} {f_ringSize : Int32} {f_failures : Nat → Int32} {f_refusals : Nat → Int32} {f_thrown : Int32} {f_best : Nat → Int32} {x1 : Int32} {post : Int → Prop} (hw : wpX48_isTellable post f_latest.toInt (zF f_pins) (zF f_sees) (zF f_states) f_count.toInt x1.toInt) :
    Met l yX48_isTellable (ws_ yX48_isTellable cX48_isTellable 2 (some .boolean)) ({ frames := 2, cells := 0, slots := 0, locals := 43 } : Room) (kPc (dC, dI) cl (tX48 d) [.ref (ad 0), .int x1] sz (wX48 ci ad d f_rowTriples f_rowVersions f_rowTells f_rows f_latest f_pins f_writers f_sees f_states f_notes f_wrote f_waitsFor f_waitTriples f_waitTells f_since f_clock f_count f_holders f_queue f_queueFrom f_queueTo f_ring f_ringSize f_failures f_refusals f_thrown f_best)) (va_Qi (fun (r : Int32) (_ : Unit) => post r.toInt) (kB (dC, dI) cl (tX48 d) (va_A (wX48 ci ad d f_rowTriples f_rowVersions f_rowTells f_rows f_latest f_pins f_writers f_sees f_states f_notes f_wrote f_waitsFor f_waitTriples f_waitTells f_since f_clock f_count f_holders f_queue f_queueFrom f_queueTo f_ring f_ringSize f_failures f_refusals f_thrown f_best) sz) (fun _ : Unit => (wX48 ci ad d f_rowTriples f_rowVersions f_rowTells f_rows f_latest f_pins f_writers f_sees f_states f_notes f_wrote f_waitsFor f_waitTriples f_waitTells f_since f_clock f_count f_holders f_queue f_queueFrom f_queueTo f_ring f_ringSize f_failures f_refusals f_thrown f_best))) (va_A (wX48 ci ad d f_rowTriples f_rowVersions f_rowTells f_rows f_latest f_pins f_writers f_sees f_states f_notes f_wrote f_waitsFor f_waitTriples f_waitTells f_since f_clock f_count f_holders f_queue f_queueFrom f_queueTo f_ring f_ringSize f_failures f_refusals f_thrown f_best) sz)) 0 0 (va_A (wX48 ci ad d f_rowTriples f_rowVersions f_rowTells f_rows f_latest f_pins f_writers f_sees f_states f_notes f_wrote f_waitsFor f_waitTriples f_waitTells f_since f_clock f_count f_holders f_queue f_queueFrom f_queueTo f_ring f_ringSize f_failures f_refusals f_thrown f_best) sz) := by
  refine k_enter (by decide) (Nat.le_of_ble_eq_true rfl) ?_
  intro p e s m below meth c ls X hsz hH hl
  subst hsz
  generalize va_A (wX48 ci ad d f_rowTriples f_rowVersions f_rowTells f_rows f_latest f_pins f_writers f_sees f_states f_notes f_wrote f_waitsFor f_waitTriples f_waitTells f_since f_clock f_count f_holders f_queue f_queueFrom f_queueTo f_ring f_ringSize f_failures f_refusals f_thrown f_best) s.heap.size = A at hH ⊢
  have hx := X.1.1
  have hb := X.1.2.1
  have hl : lv_has ls 2 [(0, .ref (ad 0)), (1, .int x1)] := hl
  unfold wpX48_isTellable at hw
  refine lv_iload_n hx hb dX48_isTellable_0 rfl (lv_at hl 1 rfl) ?_
  refine lv_aload_n hx hb dX48_isTellable_1 rfl (lv_at hl 0 rfl) ?_
  refine k_i0 hH (k_runV (As := []) (rest := [.int x1]) X hH.1 hH.2.1 X.2.2.2 (walkX48_leastKept hc (f_rowTriples := f_rowTriples) (f_rowVersions := f_rowVersions) (f_rowTells := f_rowTells) (f_rows := f_rows) (f_latest := f_latest) (f_pins := f_pins) (f_writers := f_writers) (f_sees := f_sees) (f_states := f_states) (f_notes := f_notes) (f_wrote := f_wrote) (f_waitsFor := f_waitsFor) (f_waitTriples := f_waitTriples) (f_waitTells := f_waitTells) (f_since := f_since) (f_clock := f_clock) (f_count := f_count) (f_holders := f_holders) (f_queue := f_queue) (f_queueFrom := f_queueFrom) (f_queueTo := f_queueTo) (f_ring := f_ring) (f_ringSize := f_ringSize) (f_failures := f_failures) (f_refusals := f_refusals) (f_thrown := f_thrown) (f_best := f_best) hw) (cwV 0 X.1.2.2.2.2 gX48_75 rfl rfl rfl hX48_leastKept ⟨Nat.le_of_ble_eq_true rfl, Nat.le_of_ble_eq_true rfl⟩) hc (q0 := 0) rfl rfl hl.1 rfl (Nat.le_of_ble_eq_true rfl) dX48_isTellable_2 ⟨Nat.le_refl 0, Nat.le_refl 0⟩) (fun r_1 _ H locs hw hH => ?_)
  have hH : kH (dC, dI) cl A s.heap H locs (wX48 ci ad d f_rowTriples f_rowVersions f_rowTells f_rows f_latest f_pins f_writers f_sees f_states f_notes f_wrote f_waitsFor f_waitTriples f_waitTells f_since f_clock f_count f_holders f_queue f_queueFrom f_queueTo f_ring f_ringSize f_failures f_refusals f_thrown f_best) := hH
  refine lv_icmp_lt (tgt := 20) hx hb dX48_isTellable_5 (by decide) (fun c_2 => ?_) (fun c_2 => ?_)
  · have hw := hw.1 (z_lt (rfl : x1.toInt = _) (rfl : r_1.toInt = _) c_2)
    refine lv_iconst (v := 0) hx hb dX48_isTellable_20 (by decide) ?_
    exact k_iret (v := 0) X hH () hw rfl rfl dX48_isTellable_21
  · have hw := hw.2 (z_nlt (rfl : x1.toInt = _) (rfl : r_1.toInt = _) c_2)
    refine lv_iload_n hx hb dX48_isTellable_8 rfl (lv_at hl 1 rfl) ?_
    refine lv_aload_n hx hb dX48_isTellable_9 rfl (lv_at hl 0 rfl) ?_
    refine k_get X hH in_X48 0 rfl hc 4 (by decide) q6076 rfl dX48_isTellable_10 ?_
    refine lv_icmp_gt (tgt := 20) hx hb dX48_isTellable_13 (by decide) (fun c_3 => ?_) (fun c_3 => ?_)
    · have hw := hw.1 (z_lt (rfl : f_latest.toInt = _) (rfl : x1.toInt = _) c_3)
      refine lv_iconst (v := 0) hx hb dX48_isTellable_20 (by decide) ?_
      exact k_iret (v := 0) X hH () hw rfl rfl dX48_isTellable_21
    · have hw := hw.2 (z_nlt (rfl : f_latest.toInt = _) (rfl : x1.toInt = _) c_3)
      refine lv_iconst (v := 1) hx hb dX48_isTellable_16 (by decide) ?_
      refine lv_goto (tgt := 21) hx hb dX48_isTellable_17 (by decide) ?_
      exact k_iret (v := 1) X hH () hw rfl rfl dX48_isTellable_21
set_option maxHeartbeats 4000000 in
theorem atX48_told_21 {p : Program} {l : Launch} {e : Env} {s : State} {m : MethodId} {args : Array Value} {below : List Frame} {meth : Method} {c : Code} {dC : Nat → ClassId} {dI : Nat → Nat → Nat} {cl : List vw_C} {ci : Nat} (hc : cl[ci]? = some (RX48, TX48, 27)) {ad : Nat → Nat} {d : Nat → ClassId} {A : Nat → Prop} {post : Int → Int → Prop} {f_rowTriples : Nat → Int32} {f_rowVersions : Nat → Int32} {f_rowTells : Nat → Int32} {f_rows : Int32} {f_latest : Int32} {f_pins : Nat → Int32} {f_writers : Nat → Int32} {f_sees : Nat → Int32} {f_states : Nat → Int32} {f_notes : Nat → Int32} {f_wrote : Nat → Int32} {f_waitsFor : Nat → Int32} {f_waitTriples : Nat → Int32} {f_waitTells : Nat → Int32} {f_since : Nat → Int32} {f_clock : Int32} {f_count : Int32} {f_holders : Nat → Int32} {f_queue : Nat → Int32} {f_queueFrom : Int32} {f_queueTo : Int32} {f_ring : Nat → Int32} {f_ringSize : Int32} {f_failures : Nat → Int32} {f_refusals : Nat → Int32} {f_best : Nat → Int32} (X : kX p s m args meth c cX48_told 3 RX48 (some .boolean) (dC, dI) cl (tX48 d))     :
    ∀ (x1 : Int32) (x2 : Int32) (y1 : Int32) (f_thrown : Int32), wX48_told_21 post x1.toInt x2.toInt y1.toInt (zF f_rowTriples) (zF f_rowVersions) (zF f_rowTells) f_rows.toInt → ∀ (H : Heap) (locs : List Loc) (ls : Array Slot), kH (dC, dI) cl A s.heap H locs (wX48 ci ad d f_rowTriples f_rowVersions f_rowTells f_rows f_latest f_pins f_writers f_sees f_states f_notes f_wrote f_waitsFor f_waitTriples f_waitTells f_since f_clock f_count f_holders f_queue f_queueFrom f_queueTo f_ring f_ringSize f_failures f_refusals f_thrown f_best) → lv_has ls 3 [(0, .ref (ad 0)), (1, .int x1), (2, .int x2)] → W p l e ({ frames := 3, cells := 0, slots := 0, locals := 64 } : Room) s m args below meth c H locs 0 0 (MQ below (va_Qi (fun (r : Int32) (u : Int32) => post r.toInt (u).toInt) (kB (dC, dI) cl (tX48 d) A (fun u : Int32 => (wX48 ci ad d f_rowTriples f_rowVersions f_rowTells f_rows f_latest f_pins f_writers f_sees f_states f_notes f_wrote f_waitsFor f_waitTriples f_waitTells f_since f_clock f_count f_holders f_queue f_queueFrom f_queueTo f_ring f_ringSize f_failures f_refusals (u) f_best))) A) args s 0 0 A) (F0 m 21 ls [.int y1, .ref (ad 0)]) := by
  have hx := X.1.1
  have hb := X.1.2.1
  intro x1 x2 y1 f_thrown hw H locs ls hH hl
  unfold wX48_told_21 at hw
  refine lv_iconst (v := 1) hx hb dX48_told_21 (by decide) ?_
  refine k_i0 hH (k_runV (As := [.int y1, .int 1]) (rest := []) X hH.1 hH.2.1 X.2.2.2 (walkX48_fails hc (x1 := y1) (x2 := 1) (f_rowTriples := f_rowTriples) (f_rowVersions := f_rowVersions) (f_rowTells := f_rowTells) (f_rows := f_rows) (f_latest := f_latest) (f_pins := f_pins) (f_writers := f_writers) (f_sees := f_sees) (f_states := f_states) (f_notes := f_notes) (f_wrote := f_wrote) (f_waitsFor := f_waitsFor) (f_waitTriples := f_waitTriples) (f_waitTells := f_waitTells) (f_since := f_since) (f_clock := f_clock) (f_count := f_count) (f_holders := f_holders) (f_queue := f_queue) (f_queueFrom := f_queueFrom) (f_queueTo := f_queueTo) (f_ring := f_ring) (f_ringSize := f_ringSize) (f_failures := f_failures) (f_refusals := f_refusals) (f_thrown := f_thrown) (f_best := f_best) hw) (cwV 2 X.1.2.2.2.2 gX48_99 rfl rfl rfl hX48_fails ⟨Nat.le_of_ble_eq_true rfl, Nat.le_of_ble_eq_true rfl⟩) hc (q0 := 0) rfl rfl hl.1 rfl (Nat.le_of_ble_eq_true rfl) dX48_told_22 ⟨Nat.le_refl 0, Nat.le_refl 0⟩) (fun r_3 u H locs hw hH => ?_)
  obtain ⟨f_thrown_4, eu⟩ : ∃ z, z = u := ⟨_, rfl⟩
  subst eu
  have hH : kH (dC, dI) cl A s.heap H locs (wX48 ci ad d f_rowTriples f_rowVersions f_rowTells f_rows f_latest f_pins f_writers f_sees f_states f_notes f_wrote f_waitsFor f_waitTriples f_waitTells f_since f_clock f_count f_holders f_queue f_queueFrom f_queueTo f_ring f_ringSize f_failures f_refusals f_thrown_4 f_best) := hH
  refine lv_if_ne (tgt := 41) hx hb dX48_told_25 (by decide) (fun c_5 => ?_) (fun c_5 => ?_)
  · have hw := hw.2 (z_ne (rfl : r_3.toInt = _) (rfl : (0 : Int32).toInt = 0) c_5)
    refine lv_iconst (v := 0) hx hb dX48_told_41 (by decide) ?_
    exact k_iret (v := 0) X hH (f_thrown_4) hw rfl rfl dX48_told_42
  · have hw := hw.1 (z_eq (rfl : r_3.toInt = _) (rfl : (0 : Int32).toInt = 0) c_5)
    refine lv_aload_n hx hb dX48_told_28 rfl (lv_at hl 0 rfl) ?_
    refine lv_iload_n hx hb dX48_told_29 rfl (lv_at hl 2 rfl) ?_
    refine lv_iload_n hx hb dX48_told_30 rfl (lv_at hl 1 rfl) ?_
    refine k_i0 hH (k_runV (As := [.int x2, .int x1]) (rest := []) X hH.1 hH.2.1 X.2.2.2 (walkX48_isThere hc (x1 := x2) (x2 := x1) (f_rowTriples := f_rowTriples) (f_rowVersions := f_rowVersions) (f_rowTells := f_rowTells) (f_rows := f_rows) (f_latest := f_latest) (f_pins := f_pins) (f_writers := f_writers) (f_sees := f_sees) (f_states := f_states) (f_notes := f_notes) (f_wrote := f_wrote) (f_waitsFor := f_waitsFor) (f_waitTriples := f_waitTriples) (f_waitTells := f_waitTells) (f_since := f_since) (f_clock := f_clock) (f_count := f_count) (f_holders := f_holders) (f_queue := f_queue) (f_queueFrom := f_queueFrom) (f_queueTo := f_queueTo) (f_ring := f_ring) (f_ringSize := f_ringSize) (f_failures := f_failures) (f_refusals := f_refusals) (f_thrown := f_thrown_4) (f_best := f_best) hw) (cwV 2 X.1.2.2.2.2 gX48_103 rfl rfl rfl hX48_isThere ⟨Nat.le_of_ble_eq_true rfl, Nat.le_of_ble_eq_true rfl⟩) hc (q0 := 0) rfl rfl hl.1 rfl (Nat.le_of_ble_eq_true rfl) dX48_told_31 ⟨Nat.le_refl 0, Nat.le_refl 0⟩) (fun r_6 _ H locs hw hH => ?_)
    have hH : kH (dC, dI) cl A s.heap H locs (wX48 ci ad d f_rowTriples f_rowVersions f_rowTells f_rows f_latest f_pins f_writers f_sees f_states f_notes f_wrote f_waitsFor f_waitTriples f_waitTells f_since f_clock f_count f_holders f_queue f_queueFrom f_queueTo f_ring f_ringSize f_failures f_refusals f_thrown_4 f_best) := hH
    refine lv_if_eq (tgt := 41) hx hb dX48_told_34 (by decide) (fun c_7 => ?_) (fun c_7 => ?_)
    · have hw := hw.1 (z_eq (rfl : r_6.toInt = _) (rfl : (0 : Int32).toInt = 0) c_7)
      refine lv_iconst (v := 0) hx hb dX48_told_41 (by decide) ?_
      exact k_iret (v := 0) X hH (f_thrown_4) hw rfl rfl dX48_told_42
    · have hw := hw.2 (z_neq (rfl : r_6.toInt = _) (rfl : (0 : Int32).toInt = 0) c_7)
      refine lv_iconst (v := 1) hx hb dX48_told_37 (by decide) ?_
      refine lv_goto (tgt := 42) hx hb dX48_told_38 (by decide) ?_
      exact k_iret (v := 1) X hH (f_thrown_4) hw rfl rfl dX48_told_42
set_option maxHeartbeats 4000000 in
theorem walkX48_told {l : Launch} {dC : Nat → ClassId} {dI : Nat → Nat → Nat} {cl : List vw_C} {ci : Nat} (hc : cl[ci]? = some (RX48, TX48, 27)) {ad : Nat → Nat} {d : Nat → ClassId} {sz : Nat} {f_rowTriples : Nat → Int32} {f_rowVersions : Nat → Int32} {f_rowTells : Nat → Int32} {f_rows : Int32} {f_latest : Int32} {f_pins : Nat → Int32} {f_writers : Nat → Int32} {f_sees : Nat → Int32} {f_states : Nat → Int32} {f_notes : Nat → Int32} {f_wrote : Nat → Int32} {f_waitsFor : Nat → Int32} {f_waitTriples : Nat → Int32} {f_waitTells : Nat → Int32} {f_since : Nat → Int32} {f_clock : Int32} {f_count : Int32} {f_holders : Nat → Int32} {f_queue : Nat → Int32} {f_queueFrom : Int32} {f_queueTo : Int32} {f_ring : Nat → Int32} {f_ringSize : Int32} {f_failures : Nat → Int32} {f_refusals : Nat → Int32} {f_thrown : Int32} {f_best : Nat → Int32} {x1 : Int32} {x2 : Int32} {post : Int → Int → Prop} (hw : wpX48_told post (zF f_rowTriples) (zF f_rowVersions) (zF f_rowTells) f_rows.toInt f_latest.toInt (zF f_pins) (zF f_sees) (zF f_states) f_count.toInt x1.toInt x2.toInt) :
    Met l yX48_told (ws_ yX48_told cX48_told 3 (some .boolean)) ({ frames := 3, cells := 0, slots := 0, locals := 64 } : Room) (kPc (dC, dI) cl (tX48 d) [.ref (ad 0), .int x1, .int x2] sz (wX48 ci ad d f_rowTriples f_rowVersions f_rowTells f_rows f_latest f_pins f_writers f_sees f_states f_notes f_wrote f_waitsFor f_waitTriples f_waitTells f_since f_clock f_count f_holders f_queue f_queueFrom f_queueTo f_ring f_ringSize f_failures f_refusals f_thrown f_best)) (va_Qi (fun (r : Int32) (u : Int32) => post r.toInt (u).toInt) (kB (dC, dI) cl (tX48 d) (va_A (wX48 ci ad d f_rowTriples f_rowVersions f_rowTells f_rows f_latest f_pins f_writers f_sees f_states f_notes f_wrote f_waitsFor f_waitTriples f_waitTells f_since f_clock f_count f_holders f_queue f_queueFrom f_queueTo f_ring f_ringSize f_failures f_refusals f_thrown f_best) sz) (fun u : Int32 => (wX48 ci ad d f_rowTriples f_rowVersions f_rowTells f_rows f_latest f_pins f_writers f_sees f_states f_notes f_wrote f_waitsFor f_waitTriples f_waitTells f_since f_clock f_count f_holders f_queue f_queueFrom f_queueTo f_ring f_ringSize f_failures f_refusals (u) f_best))) (va_A (wX48 ci ad d f_rowTriples f_rowVersions f_rowTells f_rows f_latest f_pins f_writers f_sees f_states f_notes f_wrote f_waitsFor f_waitTriples f_waitTells f_since f_clock f_count f_holders f_queue f_queueFrom f_queueTo f_ring f_ringSize f_failures f_refusals f_thrown f_best) sz)) 0 0 (va_A (wX48 ci ad d f_rowTriples f_rowVersions f_rowTells f_rows f_latest f_pins f_writers f_sees f_states f_notes f_wrote f_waitsFor f_waitTriples f_waitTells f_since f_clock f_count f_holders f_queue f_queueFrom f_queueTo f_ring f_ringSize f_failures f_refusals f_thrown f_best) sz) := by
  refine k_enter (by decide) (Nat.le_of_ble_eq_true rfl) ?_
  intro p e s m below meth c ls X hsz hH hl
  subst hsz
  generalize va_A (wX48 ci ad d f_rowTriples f_rowVersions f_rowTells f_rows f_latest f_pins f_writers f_sees f_states f_notes f_wrote f_waitsFor f_waitTriples f_waitTells f_since f_clock f_count f_holders f_queue f_queueFrom f_queueTo f_ring f_ringSize f_failures f_refusals f_thrown f_best) s.heap.size = A at hH ⊢
  have hx := X.1.1
  have hb := X.1.2.1
  have hl : lv_has ls 3 [(0, .ref (ad 0)), (1, .int x1), (2, .int x2)] := hl
  unfold wpX48_told at hw
  refine lv_aload_n hx hb dX48_told_0 rfl (lv_at hl 0 rfl) ?_
  refine lv_aload_n hx hb dX48_told_1 rfl (lv_at hl 0 rfl) ?_
  refine lv_iload_n hx hb dX48_told_2 rfl (lv_at hl 1 rfl) ?_
  refine k_i0 hH (k_runV (As := [.int x1]) (rest := [.ref (ad 0)]) X hH.1 hH.2.1 X.2.2.2 (walkX48_isTellable hc (x1 := x1) (f_rowTriples := f_rowTriples) (f_rowVersions := f_rowVersions) (f_rowTells := f_rowTells) (f_rows := f_rows) (f_latest := f_latest) (f_pins := f_pins) (f_writers := f_writers) (f_sees := f_sees) (f_states := f_states) (f_notes := f_notes) (f_wrote := f_wrote) (f_waitsFor := f_waitsFor) (f_waitTriples := f_waitTriples) (f_waitTells := f_waitTells) (f_since := f_since) (f_clock := f_clock) (f_count := f_count) (f_holders := f_holders) (f_queue := f_queue) (f_queueFrom := f_queueFrom) (f_queueTo := f_queueTo) (f_ring := f_ring) (f_ringSize := f_ringSize) (f_failures := f_failures) (f_refusals := f_refusals) (f_thrown := f_thrown) (f_best := f_best) hw) (cwV 1 X.1.2.2.2.2 gX48_93 rfl rfl rfl hX48_isTellable ⟨Nat.le_of_ble_eq_true rfl, Nat.le_of_ble_eq_true rfl⟩) hc (q0 := 0) rfl rfl hl.1 rfl (Nat.le_of_ble_eq_true rfl) dX48_told_3 ⟨Nat.le_refl 0, Nat.le_refl 0⟩) (fun r_1 _ H locs hw hH => ?_)
  have hH : kH (dC, dI) cl A s.heap H locs (wX48 ci ad d f_rowTriples f_rowVersions f_rowTells f_rows f_latest f_pins f_writers f_sees f_states f_notes f_wrote f_waitsFor f_waitTriples f_waitTells f_since f_clock f_count f_holders f_queue f_queueFrom f_queueTo f_ring f_ringSize f_failures f_refusals f_thrown f_best) := hH
  refine lv_if_eq (tgt := 20) hx hb dX48_told_6 (by decide) (fun c_2 => ?_) (fun c_2 => ?_)
  · have hw := hw.1 (z_eq (rfl : r_1.toInt = _) (rfl : (0 : Int32).toInt = 0) c_2)
    refine lv_iconst (v := 0) hx hb dX48_told_20 (by decide) ?_
    exact atX48_told_21 hc X x1 x2 0 f_thrown hw _ _ ls hH (lv_sub hl [0, 1, 2] rfl)
  · have hw := hw.2 (z_neq (rfl : r_1.toInt = _) (rfl : (0 : Int32).toInt = 0) c_2)
    refine lv_iload_n hx hb dX48_told_9 rfl (lv_at hl 2 rfl) ?_
    refine k_i0 hH (k_runS (As := [.int x2]) (rest := [.ref (ad 0)]) X hH.1 hH.2.1 X.2.2.2 (walkX48_isTriple hc (x0 := x2) (f_rowTriples := f_rowTriples) (f_rowVersions := f_rowVersions) (f_rowTells := f_rowTells) (f_rows := f_rows) (f_latest := f_latest) (f_pins := f_pins) (f_writers := f_writers) (f_sees := f_sees) (f_states := f_states) (f_notes := f_notes) (f_wrote := f_wrote) (f_waitsFor := f_waitsFor) (f_waitTriples := f_waitTriples) (f_waitTells := f_waitTells) (f_since := f_since) (f_clock := f_clock) (f_count := f_count) (f_holders := f_holders) (f_queue := f_queue) (f_queueFrom := f_queueFrom) (f_queueTo := f_queueTo) (f_ring := f_ring) (f_ringSize := f_ringSize) (f_failures := f_failures) (f_refusals := f_refusals) (f_thrown := f_thrown) (f_best := f_best) hw) (va_cwS 1 X.1.2.2.2.2 gX48_96 rfl rfl rfl hX48_isTriple ⟨Nat.le_of_ble_eq_true rfl, Nat.le_of_ble_eq_true rfl⟩) rfl hl.1 rfl (Nat.le_of_ble_eq_true rfl) dX48_told_10 ⟨Nat.le_refl 0, Nat.le_refl 0⟩) (fun r_8 _ H locs hw hH => ?_)
    have hH : kH (dC, dI) cl A s.heap H locs (wX48 ci ad d f_rowTriples f_rowVersions f_rowTells f_rows f_latest f_pins f_writers f_sees f_states f_notes f_wrote f_waitsFor f_waitTriples f_waitTells f_since f_clock f_count f_holders f_queue f_queueFrom f_queueTo f_ring f_ringSize f_failures f_refusals f_thrown f_best) := hH
    refine lv_if_eq (tgt := 20) hx hb dX48_told_13 (by decide) (fun c_9 => ?_) (fun c_9 => ?_)
    · have hw := hw.1 (z_eq (rfl : r_8.toInt = _) (rfl : (0 : Int32).toInt = 0) c_9)
      refine lv_iconst (v := 0) hx hb dX48_told_20 (by decide) ?_
      exact atX48_told_21 hc X x1 x2 0 f_thrown hw _ _ ls hH (lv_sub hl [0, 1, 2] rfl)
    · have hw := hw.2 (z_neq (rfl : r_8.toInt = _) (rfl : (0 : Int32).toInt = 0) c_9)
      refine lv_iconst (v := 1) hx hb dX48_told_16 (by decide) ?_
      refine lv_goto (tgt := 21) hx hb dX48_told_17 (by decide) ?_
      exact atX48_told_21 hc X x1 x2 1 f_thrown hw _ _ ls hH (lv_sub hl [0, 1, 2] rfl)
set_option maxHeartbeats 4000000 in
theorem walkX48_look {l : Launch} {dC : Nat → ClassId} {dI : Nat → Nat → Nat} {cl : List vw_C} {ci : Nat} (hc : cl[ci]? = some (RX48, TX48, 27)) {ad : Nat → Nat} {d : Nat → ClassId} {sz : Nat} {f_rowTriples : Nat → Int32} {f_rowVersions : Nat → Int32} {f_rowTells : Nat → Int32} {f_rows : Int32} {f_latest : Int32} {f_pins : Nat → Int32} {f_writers : Nat → Int32} {f_sees : Nat → Int32} {f_states : Nat → Int32} {f_notes : Nat → Int32} {f_wrote : Nat → Int32} {f_waitsFor : Nat → Int32} {f_waitTriples : Nat → Int32} {f_waitTells : Nat → Int32} {f_since : Nat → Int32} {f_clock : Int32} {f_count : Int32} {f_holders : Nat → Int32} {f_queue : Nat → Int32} {f_queueFrom : Int32} {f_queueTo : Int32} {f_ring : Nat → Int32} {f_ringSize : Int32} {f_failures : Nat → Int32} {f_refusals : Nat → Int32} {f_thrown : Int32} {f_best : Nat → Int32} {x1 : Int32} {post : Int → (Int → Int) → (Int → Int) → (Int → Int) → (Int → Int) → Int → Int → Prop} (hw : wpX48_look post f_latest.toInt (zF f_pins) (zF f_writers) (zF f_sees) (zF f_states) (zF f_waitsFor) f_count.toInt x1.toInt) :
    Met l yX48_look (ws_ yX48_look cX48_look 2 (some .int)) ({ frames := 3, cells := 0, slots := 0, locals := 64 } : Room) (kPc (dC, dI) cl (tX48 d) [.ref (ad 0), .int x1] sz (wX48 ci ad d f_rowTriples f_rowVersions f_rowTells f_rows f_latest f_pins f_writers f_sees f_states f_notes f_wrote f_waitsFor f_waitTriples f_waitTells f_since f_clock f_count f_holders f_queue f_queueFrom f_queueTo f_ring f_ringSize f_failures f_refusals f_thrown f_best)) (va_Qi (fun (r : Int32) (u : (Nat → Int32) × (Nat → Int32) × (Nat → Int32) × (Nat → Int32) × Int32 × Int32) => post r.toInt (zF (u.1)) (zF (u.2.1)) (zF (u.2.2.1)) (zF (u.2.2.2.1)) (u.2.2.2.2.1).toInt (u.2.2.2.2.2).toInt) (kB (dC, dI) cl (tX48 d) (va_A (wX48 ci ad d f_rowTriples f_rowVersions f_rowTells f_rows f_latest f_pins f_writers f_sees f_states f_notes f_wrote f_waitsFor f_waitTriples f_waitTells f_since f_clock f_count f_holders f_queue f_queueFrom f_queueTo f_ring f_ringSize f_failures f_refusals f_thrown f_best) sz) (fun u : (Nat → Int32) × (Nat → Int32) × (Nat → Int32) × (Nat → Int32) × Int32 × Int32 => (wX48 ci ad d f_rowTriples f_rowVersions f_rowTells f_rows f_latest f_pins (u.1) (u.2.1) (u.2.2.1) f_notes f_wrote (u.2.2.2.1) f_waitTriples f_waitTells f_since f_clock (u.2.2.2.2.1) f_holders f_queue f_queueFrom f_queueTo f_ring f_ringSize f_failures f_refusals (u.2.2.2.2.2) f_best))) (va_A (wX48 ci ad d f_rowTriples f_rowVersions f_rowTells f_rows f_latest f_pins f_writers f_sees f_states f_notes f_wrote f_waitsFor f_waitTriples f_waitTells f_since f_clock f_count f_holders f_queue f_queueFrom f_queueTo f_ring f_ringSize f_failures f_refusals f_thrown f_best) sz)) 0 0 (va_A (wX48 ci ad d f_rowTriples f_rowVersions f_rowTells f_rows f_latest f_pins f_writers f_sees f_states f_notes f_wrote f_waitsFor f_waitTriples f_waitTells f_since f_clock f_count f_holders f_queue f_queueFrom f_queueTo f_ring f_ringSize f_failures f_refusals f_thrown f_best) sz) := by
  refine k_enter (by decide) (Nat.le_of_ble_eq_true rfl) ?_
  intro p e s m below meth c ls X hsz hH hl
  subst hsz
  generalize va_A (wX48 ci ad d f_rowTriples f_rowVersions f_rowTells f_rows f_latest f_pins f_writers f_sees f_states f_notes f_wrote f_waitsFor f_waitTriples f_waitTells f_since f_clock f_count f_holders f_queue f_queueFrom f_queueTo f_ring f_ringSize f_failures f_refusals f_thrown f_best) s.heap.size = A at hH ⊢
  have hx := X.1.1
  have hb := X.1.2.1
  have hl : lv_has ls 2 [(0, .ref (ad 0)), (1, .int x1)] := hl
  unfold wpX48_look at hw
  refine lv_aload_n hx hb dX48_look_0 rfl (lv_at hl 0 rfl) ?_
  refine lv_aload_n hx hb dX48_look_1 rfl (lv_at hl 0 rfl) ?_
  refine lv_iload_n hx hb dX48_look_2 rfl (lv_at hl 1 rfl) ?_
  refine k_i0 hH (k_runV (As := [.int x1]) (rest := [.ref (ad 0)]) X hH.1 hH.2.1 X.2.2.2 (walkX48_isTellable hc (x1 := x1) (f_rowTriples := f_rowTriples) (f_rowVersions := f_rowVersions) (f_rowTells := f_rowTells) (f_rows := f_rows) (f_latest := f_latest) (f_pins := f_pins) (f_writers := f_writers) (f_sees := f_sees) (f_states := f_states) (f_notes := f_notes) (f_wrote := f_wrote) (f_waitsFor := f_waitsFor) (f_waitTriples := f_waitTriples) (f_waitTells := f_waitTells) (f_since := f_since) (f_clock := f_clock) (f_count := f_count) (f_holders := f_holders) (f_queue := f_queue) (f_queueFrom := f_queueFrom) (f_queueTo := f_queueTo) (f_ring := f_ring) (f_ringSize := f_ringSize) (f_failures := f_failures) (f_refusals := f_refusals) (f_thrown := f_thrown) (f_best := f_best) hw) (cwV 1 X.1.2.2.2.2 gX48_93 rfl rfl rfl hX48_isTellable ⟨Nat.le_of_ble_eq_true rfl, Nat.le_of_ble_eq_true rfl⟩) hc (q0 := 0) rfl rfl hl.1 rfl (Nat.le_of_ble_eq_true rfl) dX48_look_3 ⟨Nat.le_refl 0, Nat.le_refl 0⟩) (fun r_1 _ H locs hw hH => ?_)
  have hH : kH (dC, dI) cl A s.heap H locs (wX48 ci ad d f_rowTriples f_rowVersions f_rowTells f_rows f_latest f_pins f_writers f_sees f_states f_notes f_wrote f_waitsFor f_waitTriples f_waitTells f_since f_clock f_count f_holders f_queue f_queueFrom f_queueTo f_ring f_ringSize f_failures f_refusals f_thrown f_best) := hH
  refine lv_aload_n hx hb dX48_look_6 rfl (lv_at hl 0 rfl) ?_
  refine k_get X hH in_X48 0 rfl hc 16 (by decide) q6088 rfl dX48_look_7 ?_
  refine lv_bipush (v := 60) hx hb dX48_look_10 (by decide) ?_
  refine lv_icmp_ge (tgt := 19) hx hb dX48_look_12 (by decide) (fun c_2 => ?_) (fun c_2 => ?_)
  · have hw := hw.1 (z_le (rfl : (60 : Int32).toInt = 60) (rfl : f_count.toInt = _) c_2)
    refine lv_iconst (v := 0) hx hb dX48_look_19 (by decide) ?_
    refine k_i0 hH (k_runV (As := [.int r_1, .int 0]) (rest := []) X hH.1 hH.2.1 X.2.2.2 (walkX48_fails hc (x1 := r_1) (x2 := 0) (f_rowTriples := f_rowTriples) (f_rowVersions := f_rowVersions) (f_rowTells := f_rowTells) (f_rows := f_rows) (f_latest := f_latest) (f_pins := f_pins) (f_writers := f_writers) (f_sees := f_sees) (f_states := f_states) (f_notes := f_notes) (f_wrote := f_wrote) (f_waitsFor := f_waitsFor) (f_waitTriples := f_waitTriples) (f_waitTells := f_waitTells) (f_since := f_since) (f_clock := f_clock) (f_count := f_count) (f_holders := f_holders) (f_queue := f_queue) (f_queueFrom := f_queueFrom) (f_queueTo := f_queueTo) (f_ring := f_ring) (f_ringSize := f_ringSize) (f_failures := f_failures) (f_refusals := f_refusals) (f_thrown := f_thrown) (f_best := f_best) hw) (cwV 2 X.1.2.2.2.2 gX48_99 rfl rfl rfl hX48_fails ⟨Nat.le_of_ble_eq_true rfl, Nat.le_of_ble_eq_true rfl⟩) hc (q0 := 0) rfl rfl hl.1 rfl (Nat.le_of_ble_eq_true rfl) dX48_look_20 ⟨Nat.le_refl 0, Nat.le_refl 0⟩) (fun r_3 u H locs hw hH => ?_)
    obtain ⟨f_thrown_4, eu⟩ : ∃ z, z = u := ⟨_, rfl⟩
    subst eu
    have hH : kH (dC, dI) cl A s.heap H locs (wX48 ci ad d f_rowTriples f_rowVersions f_rowTells f_rows f_latest f_pins f_writers f_sees f_states f_notes f_wrote f_waitsFor f_waitTriples f_waitTells f_since f_clock f_count f_holders f_queue f_queueFrom f_queueTo f_ring f_ringSize f_failures f_refusals f_thrown_4 f_best) := hH
    refine lv_if_eq (tgt := 30) hx hb dX48_look_23 (by decide) (fun c_5 => ?_) (fun c_5 => ?_)
    · have hw := hw.1 (z_eq (rfl : r_3.toInt = _) (rfl : (0 : Int32).toInt = 0) c_5)
      refine lv_aload_n hx hb dX48_look_30 rfl (lv_at hl 0 rfl) ?_
      refine lv_iconst (v := 0) hx hb dX48_look_31 (by decide) ?_
      refine lv_iload_n hx hb dX48_look_32 rfl (lv_at hl 1 rfl) ?_
      refine k_i0 hH (k_runV (As := [.int 0, .int x1]) (rest := []) X hH.1 hH.2.1 X.2.2.2 (walkX48_start hc (x1 := 0) (x2 := x1) (f_rowTriples := f_rowTriples) (f_rowVersions := f_rowVersions) (f_rowTells := f_rowTells) (f_rows := f_rows) (f_latest := f_latest) (f_pins := f_pins) (f_writers := f_writers) (f_sees := f_sees) (f_states := f_states) (f_notes := f_notes) (f_wrote := f_wrote) (f_waitsFor := f_waitsFor) (f_waitTriples := f_waitTriples) (f_waitTells := f_waitTells) (f_since := f_since) (f_clock := f_clock) (f_count := f_count) (f_holders := f_holders) (f_queue := f_queue) (f_queueFrom := f_queueFrom) (f_queueTo := f_queueTo) (f_ring := f_ring) (f_ringSize := f_ringSize) (f_failures := f_failures) (f_refusals := f_refusals) (f_thrown := f_thrown_4) (f_best := f_best) hw) (cwV 2 X.1.2.2.2.2 gX48_107 rfl rfl rfl hX48_start ⟨Nat.le_of_ble_eq_true rfl, Nat.le_of_ble_eq_true rfl⟩) hc (q0 := 0) rfl rfl hl.1 rfl (Nat.le_of_ble_eq_true rfl) dX48_look_33 ⟨Nat.le_refl 0, Nat.le_refl 0⟩) (fun r_6 u H locs hw hH => ?_)
      obtain ⟨f_writers_7, f_sees_8, f_states_9, f_waitsFor_10, f_count_11⟩ := u
      have hH : kH (dC, dI) cl A s.heap H locs (wX48 ci ad d f_rowTriples f_rowVersions f_rowTells f_rows f_latest f_pins f_writers_7 f_sees_8 f_states_9 f_notes f_wrote f_waitsFor_10 f_waitTriples f_waitTells f_since f_clock f_count_11 f_holders f_queue f_queueFrom f_queueTo f_ring f_ringSize f_failures f_refusals f_thrown_4 f_best) := hH
      exact k_iret (v := r_6) X hH (f_writers_7, f_sees_8, f_states_9, f_waitsFor_10, f_count_11, f_thrown_4) hw rfl rfl dX48_look_36
    · have hw := hw.2 (z_neq (rfl : r_3.toInt = _) (rfl : (0 : Int32).toInt = 0) c_5)
      refine lv_iconst (v := 0) hx hb dX48_look_26 (by decide) ?_
      refine lv_goto (tgt := 36) hx hb dX48_look_27 (by decide) ?_
      exact k_iret (v := 0) X hH (f_writers, f_sees, f_states, f_waitsFor, f_count, f_thrown_4) hw rfl rfl dX48_look_36
  · have hw := hw.2 (z_nle (rfl : (60 : Int32).toInt = 60) (rfl : f_count.toInt = _) c_2)
    refine lv_iconst (v := 1) hx hb dX48_look_15 (by decide) ?_
    refine lv_goto (tgt := 20) hx hb dX48_look_16 (by decide) ?_
    refine k_i0 hH (k_runV (As := [.int r_1, .int 1]) (rest := []) X hH.1 hH.2.1 X.2.2.2 (walkX48_fails hc (x1 := r_1) (x2 := 1) (f_rowTriples := f_rowTriples) (f_rowVersions := f_rowVersions) (f_rowTells := f_rowTells) (f_rows := f_rows) (f_latest := f_latest) (f_pins := f_pins) (f_writers := f_writers) (f_sees := f_sees) (f_states := f_states) (f_notes := f_notes) (f_wrote := f_wrote) (f_waitsFor := f_waitsFor) (f_waitTriples := f_waitTriples) (f_waitTells := f_waitTells) (f_since := f_since) (f_clock := f_clock) (f_count := f_count) (f_holders := f_holders) (f_queue := f_queue) (f_queueFrom := f_queueFrom) (f_queueTo := f_queueTo) (f_ring := f_ring) (f_ringSize := f_ringSize) (f_failures := f_failures) (f_refusals := f_refusals) (f_thrown := f_thrown) (f_best := f_best) hw) (cwV 2 X.1.2.2.2.2 gX48_99 rfl rfl rfl hX48_fails ⟨Nat.le_of_ble_eq_true rfl, Nat.le_of_ble_eq_true rfl⟩) hc (q0 := 0) rfl rfl hl.1 rfl (Nat.le_of_ble_eq_true rfl) dX48_look_20 ⟨Nat.le_refl 0, Nat.le_refl 0⟩) (fun r_12 u H locs hw hH => ?_)
    obtain ⟨f_thrown_13, eu⟩ : ∃ z, z = u := ⟨_, rfl⟩
    subst eu
    have hH : kH (dC, dI) cl A s.heap H locs (wX48 ci ad d f_rowTriples f_rowVersions f_rowTells f_rows f_latest f_pins f_writers f_sees f_states f_notes f_wrote f_waitsFor f_waitTriples f_waitTells f_since f_clock f_count f_holders f_queue f_queueFrom f_queueTo f_ring f_ringSize f_failures f_refusals f_thrown_13 f_best) := hH
    refine lv_if_eq (tgt := 30) hx hb dX48_look_23 (by decide) (fun c_14 => ?_) (fun c_14 => ?_)
    · have hw := hw.1 (z_eq (rfl : r_12.toInt = _) (rfl : (0 : Int32).toInt = 0) c_14)
      refine lv_aload_n hx hb dX48_look_30 rfl (lv_at hl 0 rfl) ?_
      refine lv_iconst (v := 0) hx hb dX48_look_31 (by decide) ?_
      refine lv_iload_n hx hb dX48_look_32 rfl (lv_at hl 1 rfl) ?_
      refine k_i0 hH (k_runV (As := [.int 0, .int x1]) (rest := []) X hH.1 hH.2.1 X.2.2.2 (walkX48_start hc (x1 := 0) (x2 := x1) (f_rowTriples := f_rowTriples) (f_rowVersions := f_rowVersions) (f_rowTells := f_rowTells) (f_rows := f_rows) (f_latest := f_latest) (f_pins := f_pins) (f_writers := f_writers) (f_sees := f_sees) (f_states := f_states) (f_notes := f_notes) (f_wrote := f_wrote) (f_waitsFor := f_waitsFor) (f_waitTriples := f_waitTriples) (f_waitTells := f_waitTells) (f_since := f_since) (f_clock := f_clock) (f_count := f_count) (f_holders := f_holders) (f_queue := f_queue) (f_queueFrom := f_queueFrom) (f_queueTo := f_queueTo) (f_ring := f_ring) (f_ringSize := f_ringSize) (f_failures := f_failures) (f_refusals := f_refusals) (f_thrown := f_thrown_13) (f_best := f_best) hw) (cwV 2 X.1.2.2.2.2 gX48_107 rfl rfl rfl hX48_start ⟨Nat.le_of_ble_eq_true rfl, Nat.le_of_ble_eq_true rfl⟩) hc (q0 := 0) rfl rfl hl.1 rfl (Nat.le_of_ble_eq_true rfl) dX48_look_33 ⟨Nat.le_refl 0, Nat.le_refl 0⟩) (fun r_15 u H locs hw hH => ?_)
      obtain ⟨f_writers_16, f_sees_17, f_states_18, f_waitsFor_19, f_count_20⟩ := u
      have hH : kH (dC, dI) cl A s.heap H locs (wX48 ci ad d f_rowTriples f_rowVersions f_rowTells f_rows f_latest f_pins f_writers_16 f_sees_17 f_states_18 f_notes f_wrote f_waitsFor_19 f_waitTriples f_waitTells f_since f_clock f_count_20 f_holders f_queue f_queueFrom f_queueTo f_ring f_ringSize f_failures f_refusals f_thrown_13 f_best) := hH
      exact k_iret (v := r_15) X hH (f_writers_16, f_sees_17, f_states_18, f_waitsFor_19, f_count_20, f_thrown_13) hw rfl rfl dX48_look_36
    · have hw := hw.2 (z_neq (rfl : r_12.toInt = _) (rfl : (0 : Int32).toInt = 0) c_14)
      refine lv_iconst (v := 0) hx hb dX48_look_26 (by decide) ?_
      refine lv_goto (tgt := 36) hx hb dX48_look_27 (by decide) ?_
      exact k_iret (v := 0) X hH (f_writers, f_sees, f_states, f_waitsFor, f_count, f_thrown_13) hw rfl rfl dX48_look_36
set_option maxHeartbeats 4000000 in
theorem atX48_note_68 {p : Program} {l : Launch} {e : Env} {s : State} {m : MethodId} {args : Array Value} {below : List Frame} {meth : Method} {c : Code} {dC : Nat → ClassId} {dI : Nat → Nat → Nat} {cl : List vw_C} {ci : Nat} (hc : cl[ci]? = some (RX48, TX48, 27)) {ad : Nat → Nat} {d : Nat → ClassId} {A : Nat → Prop} {post : Int → (Int → Int) → Int → Prop} {f_rowTriples : Nat → Int32} {f_rowVersions : Nat → Int32} {f_rowTells : Nat → Int32} {f_rows : Int32} {f_latest : Int32} {f_pins : Nat → Int32} {f_writers : Nat → Int32} {f_sees : Nat → Int32} {f_states : Nat → Int32} {f_wrote : Nat → Int32} {f_waitsFor : Nat → Int32} {f_waitTriples : Nat → Int32} {f_waitTells : Nat → Int32} {f_since : Nat → Int32} {f_clock : Int32} {f_count : Int32} {f_holders : Nat → Int32} {f_queue : Nat → Int32} {f_queueFrom : Int32} {f_queueTo : Int32} {f_ring : Nat → Int32} {f_ringSize : Int32} {f_failures : Nat → Int32} {f_refusals : Nat → Int32} {f_best : Nat → Int32} (X : kX p s m args meth c cX48_note 6 RX48 (some .int) (dC, dI) cl (tX48 d)) {K96 : Int → Prop} {x1 : Int32} {f_notes : Nat → Int32} {f_thrown : Int32} (hk96 : ∀ (x4 : Int32), K96 x4.toInt → ∀ (H : Heap) (locs : List Loc) (ls : Array Slot), kH (dC, dI) cl A s.heap H locs (wX48 ci ad d f_rowTriples f_rowVersions f_rowTells f_rows f_latest f_pins f_writers f_sees f_states f_notes f_wrote f_waitsFor f_waitTriples f_waitTells f_since f_clock f_count f_holders f_queue f_queueFrom f_queueTo f_ring f_ringSize f_failures f_refusals f_thrown f_best) → lv_has ls 6 [(4, .int x4)] → W p l e ({ frames := 1, cells := 0, slots := 0, locals := 22 } : Room) s m args below meth c H locs 0 0 (MQ below (va_Qi (fun (r : Int32) (u : (Nat → Int32) × Int32) => post r.toInt (zF (u.1)) (u.2).toInt) (kB (dC, dI) cl (tX48 d) A (fun u : (Nat → Int32) × Int32 => (wX48 ci ad d f_rowTriples f_rowVersions f_rowTells f_rows f_latest f_pins f_writers f_sees f_states (u.1) f_wrote f_waitsFor f_waitTriples f_waitTells f_since f_clock f_count f_holders f_queue f_queueFrom f_queueTo f_ring f_ringSize f_failures f_refusals (u.2) f_best))) A) args s 0 0 A) (F0 m 96 ls [])) :
    ∀ (nn : Nat) (x4 : Int32) (x5 : Int32), wX48_note_68 K96 x1.toInt (zF f_notes) nn x4.toInt x5.toInt → ∀ (H : Heap) (locs : List Loc) (ls : Array Slot), kH (dC, dI) cl A s.heap H locs (wX48 ci ad d f_rowTriples f_rowVersions f_rowTells f_rows f_latest f_pins f_writers f_sees f_states f_notes f_wrote f_waitsFor f_waitTriples f_waitTells f_since f_clock f_count f_holders f_queue f_queueFrom f_queueTo f_ring f_ringSize f_failures f_refusals f_thrown f_best) → lv_has ls 6 [(0, .ref (ad 0)), (1, .int x1), (4, .int x4), (5, .int x5)] → W p l e ({ frames := 1, cells := 0, slots := 0, locals := 22 } : Room) s m args below meth c H locs 0 0 (MQ below (va_Qi (fun (r : Int32) (u : (Nat → Int32) × Int32) => post r.toInt (zF (u.1)) (u.2).toInt) (kB (dC, dI) cl (tX48 d) A (fun u : (Nat → Int32) × Int32 => (wX48 ci ad d f_rowTriples f_rowVersions f_rowTells f_rows f_latest f_pins f_writers f_sees f_states (u.1) f_wrote f_waitsFor f_waitTriples f_waitTells f_since f_clock f_count f_holders f_queue f_queueFrom f_queueTo f_ring f_ringSize f_failures f_refusals (u.2) f_best))) A) args s 0 0 A) (F0 m 68 ls []) := by
  have hx := X.1.1
  have hb := X.1.2.1
  intro nn
  induction nn with
  | zero =>
    intro x4 x5 hw
    exact False.elim hw
  | succ n ih =>
    intro x4 x5 hw H locs ls hH hl
    rw [wX48_note_68] at hw
    refine lv_iload hx hb dX48_note_68 (lv_at hl 3 rfl) ?_
    refine lv_iconst (v := 4) hx hb dX48_note_70 (by decide) ?_
    refine lv_icmp_ge (tgt := 96) hx hb dX48_note_71 (by decide) (fun c_14 => ?_) (fun c_14 => ?_)
    · have hw := hw.1 (z_le (rfl : (4 : Int32).toInt = 4) (rfl : x5.toInt = _) c_14)
      exact hk96 x4 hw _ _ ls hH (lv_sub hl [2] rfl)
    · have hw := hw.2 (z_nle (rfl : (4 : Int32).toInt = 4) (rfl : x5.toInt = _) c_14)
      refine lv_iload hx hb dX48_note_74 (lv_at hl 2 rfl) ?_
      refine lv_aload_n hx hb dX48_note_76 rfl (lv_at hl 0 rfl) ?_
      refine k_get X hH in_X48 0 rfl hc 9 (by decide) q6081 rfl dX48_note_77 ?_
      refine lv_iload_n hx hb dX48_note_80 rfl (lv_at hl 1 rfl) ?_
      have hq_15 := hw.1
      have hw := hw.2
      refine k_iald X hH 8 7 rfl rfl (z_in (rfl : x1.toInt = _) hq_15) dX48_note_81 ?_
      have e_16 := z_ld (f := f_notes) (rfl : x1.toInt = _) hq_15.1
      refine lv_iload hx hb dX48_note_82 (lv_at hl 3 rfl) ?_
      refine lv_ishr hx hb dX48_note_84 ?_
      have hq_17 := hw.1
      have hw := hw.2
      have e_18 := z_shrV e_16 (rfl : x5.toInt = _) hq_17
      refine lv_iconst (v := 1) hx hb dX48_note_85 (by decide) ?_
      refine lv_iand hx hb dX48_note_86 ?_
      have e_19 := z_mask (z_m e_18) (k := 1) (m := 1) (c := 2) (by decide)
      refine lv_iadd hx hb dX48_note_87 ?_
      have e_20 := z_add (z_m (rfl : x4.toInt = _)) (z_m e_19)
      have hq_21 := hw.1
      have hw := hw.2
      have e_22 := z_x e_20 hq_21
      refine lv_topi (fun x4_23 ex4_23 => ?_)
      have hw := hw x4_23.toInt (by rw [ex4_23]; exact e_22)
      refine lv_istore (lv' := [(4, .int x4_23), (0, .ref (ad 0)), (1, .int x1), (5, .int x5)]) hx hb dX48_note_88 hl (by decide) rfl (fun ls hl => ?_)
      have hq_25 := hw.1
      have hw := hw.2
      obtain ⟨x5_24, ex5_24⟩ : ∃ y : Int32, y = x5 + 1 := ⟨_, rfl⟩
      have hw := hw x5_24.toInt (by rw [ex5_24]; exact (z_x (z_add (z_m (rfl : x5.toInt = _)) (z_m (rfl : (1 : Int32).toInt = 1))) hq_25))
      refine lv_iinc (v := x5_24) (lv' := [(5, .int x5_24), (4, .int x4_23), (0, .ref (ad 0)), (1, .int x1)]) hx hb dX48_note_90 hl (k := 3) rfl (by rw [ex5_24]; rfl) (by decide) rfl (fun ls hl => ?_)
      refine lv_goto (tgt := 68) hx hb dX48_note_93 (by decide) ?_
      exact ih x4_23 x5_24 hw _ _ ls hH (lv_sub hl [2, 3, 1, 0] rfl)
set_option maxHeartbeats 4000000 in
theorem atX48_note_42 {p : Program} {l : Launch} {e : Env} {s : State} {m : MethodId} {args : Array Value} {below : List Frame} {meth : Method} {c : Code} {dC : Nat → ClassId} {dI : Nat → Nat → Nat} {cl : List vw_C} {ci : Nat} (hc : cl[ci]? = some (RX48, TX48, 27)) {ad : Nat → Nat} {d : Nat → ClassId} {A : Nat → Prop} {post : Int → (Int → Int) → Int → Prop} {f_rowTriples : Nat → Int32} {f_rowVersions : Nat → Int32} {f_rowTells : Nat → Int32} {f_rows : Int32} {f_latest : Int32} {f_pins : Nat → Int32} {f_writers : Nat → Int32} {f_sees : Nat → Int32} {f_states : Nat → Int32} {f_wrote : Nat → Int32} {f_waitsFor : Nat → Int32} {f_waitTriples : Nat → Int32} {f_waitTells : Nat → Int32} {f_since : Nat → Int32} {f_clock : Int32} {f_count : Int32} {f_holders : Nat → Int32} {f_queue : Nat → Int32} {f_queueFrom : Int32} {f_queueTo : Int32} {f_ring : Nat → Int32} {f_ringSize : Int32} {f_failures : Nat → Int32} {f_refusals : Nat → Int32} {f_best : Nat → Int32} (X : kX p s m args meth c cX48_note 6 RX48 (some .int) (dC, dI) cl (tX48 d))     :
    ∀ (x1 : Int32) (x2 : Int32) (y1 : Int32) (y2 : Int32) (f_notes : Nat → Int32) (f_thrown : Int32), wX48_note_42 post x1.toInt x2.toInt y1.toInt y2.toInt (zF f_notes) → ∀ (H : Heap) (locs : List Loc) (ls : Array Slot), kH (dC, dI) cl A s.heap H locs (wX48 ci ad d f_rowTriples f_rowVersions f_rowTells f_rows f_latest f_pins f_writers f_sees f_states f_notes f_wrote f_waitsFor f_waitTriples f_waitTells f_since f_clock f_count f_holders f_queue f_queueFrom f_queueTo f_ring f_ringSize f_failures f_refusals f_thrown f_best) → lv_has ls 6 [(0, .ref (ad 0)), (1, .int x1), (2, .int x2)] → W p l e ({ frames := 1, cells := 0, slots := 0, locals := 22 } : Room) s m args below meth c H locs 0 0 (MQ below (va_Qi (fun (r : Int32) (u : (Nat → Int32) × Int32) => post r.toInt (zF (u.1)) (u.2).toInt) (kB (dC, dI) cl (tX48 d) A (fun u : (Nat → Int32) × Int32 => (wX48 ci ad d f_rowTriples f_rowVersions f_rowTells f_rows f_latest f_pins f_writers f_sees f_states (u.1) f_wrote f_waitsFor f_waitTriples f_waitTells f_since f_clock f_count f_holders f_queue f_queueFrom f_queueTo f_ring f_ringSize f_failures f_refusals (u.2) f_best))) A) args s 0 0 A) (F0 m 42 ls [.int y2, .int y1, .ref (ad 0)]) := by
  have hx := X.1.1
  have hb := X.1.2.1
  intro x1 x2 y1 y2 f_notes f_thrown hw H locs ls hH hl
  unfold wX48_note_42 at hw
  refine k_i0 hH (k_runV (As := [.int y1, .int y2]) (rest := []) X hH.1 hH.2.1 X.2.2.2 (walkX48_fails hc (x1 := y1) (x2 := y2) (f_rowTriples := f_rowTriples) (f_rowVersions := f_rowVersions) (f_rowTells := f_rowTells) (f_rows := f_rows) (f_latest := f_latest) (f_pins := f_pins) (f_writers := f_writers) (f_sees := f_sees) (f_states := f_states) (f_notes := f_notes) (f_wrote := f_wrote) (f_waitsFor := f_waitsFor) (f_waitTriples := f_waitTriples) (f_waitTells := f_waitTells) (f_since := f_since) (f_clock := f_clock) (f_count := f_count) (f_holders := f_holders) (f_queue := f_queue) (f_queueFrom := f_queueFrom) (f_queueTo := f_queueTo) (f_ring := f_ring) (f_ringSize := f_ringSize) (f_failures := f_failures) (f_refusals := f_refusals) (f_thrown := f_thrown) (f_best := f_best) hw) (cwV 2 X.1.2.2.2.2 gX48_99 rfl rfl rfl hX48_fails ⟨Nat.le_of_ble_eq_true rfl, Nat.le_of_ble_eq_true rfl⟩) hc (q0 := 0) rfl rfl hl.1 rfl (Nat.le_of_ble_eq_true rfl) dX48_note_42 ⟨Nat.le_refl 0, Nat.le_refl 0⟩) (fun r_4 u H locs hw hH => ?_)
  obtain ⟨f_thrown_5, eu⟩ : ∃ z, z = u := ⟨_, rfl⟩
  subst eu
  have hH : kH (dC, dI) cl A s.heap H locs (wX48 ci ad d f_rowTriples f_rowVersions f_rowTells f_rows f_latest f_pins f_writers f_sees f_states f_notes f_wrote f_waitsFor f_waitTriples f_waitTells f_since f_clock f_count f_holders f_queue f_queueFrom f_queueTo f_ring f_ringSize f_failures f_refusals f_thrown_5 f_best) := hH
  refine lv_if_eq (tgt := 50) hx hb dX48_note_45 (by decide) (fun c_6 => ?_) (fun c_6 => ?_)
  · have hw := hw.1 (z_eq (rfl : r_4.toInt = _) (rfl : (0 : Int32).toInt = 0) c_6)
    refine lv_aload_n hx hb dX48_note_50 rfl (lv_at hl 0 rfl) ?_
    refine k_get X hH in_X48 0 rfl hc 9 (by decide) q6081 rfl dX48_note_51 ?_
    refine lv_iload_n hx hb dX48_note_54 rfl (lv_at hl 1 rfl) ?_
    refine lv_dup2_11 hx hb dX48_note_55 rfl rfl ?_
    have hq_7 := hw.1
    have hw := hw.2
    refine k_iald X hH 8 7 rfl rfl (z_in (rfl : x1.toInt = _) hq_7) dX48_note_56 ?_
    have e_8 := z_ld (f := f_notes) (rfl : x1.toInt = _) hq_7.1
    refine lv_iconst (v := 1) hx hb dX48_note_57 (by decide) ?_
    refine lv_iload_n hx hb dX48_note_58 rfl (lv_at hl 2 rfl) ?_
    refine lv_ishl hx hb dX48_note_59 ?_
    have hq_9 := hw.1
    have hw := hw.2
    have e_10 := z_one (rfl : x2.toInt = _) hq_9
    refine lv_ior hx hb dX48_note_60 ?_
    have e_11 := z_or (z_m e_8) (z_m e_10)
    refine lv_topi (fun v_12 ev_12 => ?_)
    have hw := hw v_12.toInt (by rw [ev_12]; exact e_11)
    obtain ⟨f_notes_13, ef_notes_13⟩ : ∃ y : Nat → Int32, y = upd f_notes x1.toNatClampNeg v_12 := ⟨_, rfl⟩
    refine k_iast X hH 8 7 rfl rfl (z_in (rfl : x1.toInt = _) hq_7) dX48_note_61 ef_notes_13 (ws1 := (wX48 ci ad d f_rowTriples f_rowVersions f_rowTells f_rows f_latest f_pins f_writers f_sees f_states f_notes_13 f_wrote f_waitsFor f_waitTriples f_waitTells f_since f_clock f_count f_holders f_queue f_queueFrom f_queueTo f_ring f_ringSize f_failures f_refusals f_thrown_5 f_best)) rfl (fun H locs hH => ?_)
    have hw := hw (zF f_notes_13) (by rw [ef_notes_13]; exact z_st (f := f_notes) (rfl : x1.toInt = _) hq_7.1 (rfl : v_12.toInt = _))
    refine lv_iconst (v := 0) hx hb dX48_note_62 (by decide) ?_
    refine lv_istore (lv' := [(4, .int 0), (0, .ref (ad 0)), (1, .int x1), (2, .int x2)]) hx hb dX48_note_63 hl (by decide) rfl (fun ls hl => ?_)
    refine lv_iconst (v := 0) hx hb dX48_note_65 (by decide) ?_
    refine lv_istore (lv' := [(5, .int 0), (4, .int 0), (0, .ref (ad 0)), (1, .int x1), (2, .int x2)]) hx hb dX48_note_66 hl (by decide) rfl (fun ls hl => ?_)
    obtain ⟨fu, hw⟩ := hw
    refine atX48_note_68 hc X ?_ fu 0 0 hw _ _ ls hH (lv_sub hl [2, 3, 1, 0] rfl)
    · intro x4_26 hw H locs ls hH hl
      refine lv_iload hx hb dX48_note_96 (lv_at hl 0 rfl) ?_
      exact k_iret (v := x4_26) X hH (f_notes_13, f_thrown_5) hw rfl rfl dX48_note_98
  · have hw := hw.2 (z_neq (rfl : r_4.toInt = _) (rfl : (0 : Int32).toInt = 0) c_6)
    refine lv_iconst (v := 0) hx hb dX48_note_48 (by decide) ?_
    exact k_iret (v := 0) X hH (f_notes, f_thrown_5) hw rfl rfl dX48_note_49
set_option maxHeartbeats 4000000 in
theorem atX48_note_22 {p : Program} {l : Launch} {e : Env} {s : State} {m : MethodId} {args : Array Value} {below : List Frame} {meth : Method} {c : Code} {dC : Nat → ClassId} {dI : Nat → Nat → Nat} {cl : List vw_C} {ci : Nat} (hc : cl[ci]? = some (RX48, TX48, 27)) {ad : Nat → Nat} {d : Nat → ClassId} {A : Nat → Prop} {post : Int → (Int → Int) → Int → Prop} {f_rowTriples : Nat → Int32} {f_rowVersions : Nat → Int32} {f_rowTells : Nat → Int32} {f_rows : Int32} {f_latest : Int32} {f_pins : Nat → Int32} {f_writers : Nat → Int32} {f_sees : Nat → Int32} {f_states : Nat → Int32} {f_wrote : Nat → Int32} {f_waitsFor : Nat → Int32} {f_waitTriples : Nat → Int32} {f_waitTells : Nat → Int32} {f_since : Nat → Int32} {f_clock : Int32} {f_count : Int32} {f_holders : Nat → Int32} {f_queue : Nat → Int32} {f_queueFrom : Int32} {f_queueTo : Int32} {f_ring : Nat → Int32} {f_ringSize : Int32} {f_failures : Nat → Int32} {f_refusals : Nat → Int32} {f_best : Nat → Int32} (X : kX p s m args meth c cX48_note 6 RX48 (some .int) (dC, dI) cl (tX48 d))     :
    ∀ (x1 : Int32) (x2 : Int32) (y0 : Int32) (f_notes : Nat → Int32) (f_thrown : Int32), wX48_note_22 post x1.toInt x2.toInt y0.toInt (zF f_writers) (zF f_states) (zF f_notes) → ∀ (H : Heap) (locs : List Loc) (ls : Array Slot), kH (dC, dI) cl A s.heap H locs (wX48 ci ad d f_rowTriples f_rowVersions f_rowTells f_rows f_latest f_pins f_writers f_sees f_states f_notes f_wrote f_waitsFor f_waitTriples f_waitTells f_since f_clock f_count f_holders f_queue f_queueFrom f_queueTo f_ring f_ringSize f_failures f_refusals f_thrown f_best) → lv_has ls 6 [(0, .ref (ad 0)), (1, .int x1), (2, .int x2)] → W p l e ({ frames := 1, cells := 0, slots := 0, locals := 22 } : Room) s m args below meth c H locs 0 0 (MQ below (va_Qi (fun (r : Int32) (u : (Nat → Int32) × Int32) => post r.toInt (zF (u.1)) (u.2).toInt) (kB (dC, dI) cl (tX48 d) A (fun u : (Nat → Int32) × Int32 => (wX48 ci ad d f_rowTriples f_rowVersions f_rowTells f_rows f_latest f_pins f_writers f_sees f_states (u.1) f_wrote f_waitsFor f_waitTriples f_waitTells f_since f_clock f_count f_holders f_queue f_queueFrom f_queueTo f_ring f_ringSize f_failures f_refusals (u.2) f_best))) A) args s 0 0 A) (F0 m 22 ls [.int y0]) := by
  have hx := X.1.1
  have hb := X.1.2.1
  intro x1 x2 y0 f_notes f_thrown hw H locs ls hH hl
  unfold wX48_note_22 at hw
  refine lv_istore_n (lv' := [(3, .int y0), (0, .ref (ad 0)), (1, .int x1), (2, .int x2)]) hx hb dX48_note_22 rfl hl (by decide) rfl (fun ls hl => ?_)
  refine lv_aload_n hx hb dX48_note_23 rfl (lv_at hl 1 rfl) ?_
  refine lv_iload_n hx hb dX48_note_24 rfl (lv_at hl 0 rfl) ?_
  refine lv_iload_n hx hb dX48_note_25 rfl (lv_at hl 0 rfl) ?_
  refine lv_if_eq (tgt := 41) hx hb dX48_note_26 (by decide) (fun c_3 => ?_) (fun c_3 => ?_)
  · have hw := hw.1 (z_eq (rfl : y0.toInt = _) (rfl : (0 : Int32).toInt = 0) c_3)
    refine lv_iconst (v := 0) hx hb dX48_note_41 (by decide) ?_
    exact atX48_note_42 hc X x1 x2 y0 0 f_notes f_thrown hw _ _ ls hH (lv_sub hl [1, 2, 3] rfl)
  · have hw := hw.2 (z_neq (rfl : y0.toInt = _) (rfl : (0 : Int32).toInt = 0) c_3)
    refine lv_aload_n hx hb dX48_note_29 rfl (lv_at hl 1 rfl) ?_
    refine lv_iload_n hx hb dX48_note_30 rfl (lv_at hl 2 rfl) ?_
    refine k_i0 hH (k_runV (As := [.int x1]) (rest := [.int y0, .ref (ad 0)]) X hH.1 hH.2.1 X.2.2.2 (walkX48_canWrite hc (x1 := x1) (f_rowTriples := f_rowTriples) (f_rowVersions := f_rowVersions) (f_rowTells := f_rowTells) (f_rows := f_rows) (f_latest := f_latest) (f_pins := f_pins) (f_writers := f_writers) (f_sees := f_sees) (f_states := f_states) (f_notes := f_notes) (f_wrote := f_wrote) (f_waitsFor := f_waitsFor) (f_waitTriples := f_waitTriples) (f_waitTells := f_waitTells) (f_since := f_since) (f_clock := f_clock) (f_count := f_count) (f_holders := f_holders) (f_queue := f_queue) (f_queueFrom := f_queueFrom) (f_queueTo := f_queueTo) (f_ring := f_ring) (f_ringSize := f_ringSize) (f_failures := f_failures) (f_refusals := f_refusals) (f_thrown := f_thrown) (f_best := f_best) hw) (cwV 1 X.1.2.2.2.2 gX48_114 rfl rfl rfl hX48_canWrite ⟨Nat.le_of_ble_eq_true rfl, Nat.le_of_ble_eq_true rfl⟩) hc (q0 := 0) rfl rfl hl.1 rfl (Nat.le_of_ble_eq_true rfl) dX48_note_31 ⟨Nat.le_refl 0, Nat.le_refl 0⟩) (fun r_27 _ H locs hw hH => ?_)
    have hH : kH (dC, dI) cl A s.heap H locs (wX48 ci ad d f_rowTriples f_rowVersions f_rowTells f_rows f_latest f_pins f_writers f_sees f_states f_notes f_wrote f_waitsFor f_waitTriples f_waitTells f_since f_clock f_count f_holders f_queue f_queueFrom f_queueTo f_ring f_ringSize f_failures f_refusals f_thrown f_best) := hH
    refine lv_if_eq (tgt := 41) hx hb dX48_note_34 (by decide) (fun c_28 => ?_) (fun c_28 => ?_)
    · have hw := hw.1 (z_eq (rfl : r_27.toInt = _) (rfl : (0 : Int32).toInt = 0) c_28)
      refine lv_iconst (v := 0) hx hb dX48_note_41 (by decide) ?_
      exact atX48_note_42 hc X x1 x2 y0 0 f_notes f_thrown hw _ _ ls hH (lv_sub hl [1, 2, 3] rfl)
    · have hw := hw.2 (z_neq (rfl : r_27.toInt = _) (rfl : (0 : Int32).toInt = 0) c_28)
      refine lv_iconst (v := 1) hx hb dX48_note_37 (by decide) ?_
      refine lv_goto (tgt := 42) hx hb dX48_note_38 (by decide) ?_
      exact atX48_note_42 hc X x1 x2 y0 1 f_notes f_thrown hw _ _ ls hH (lv_sub hl [1, 2, 3] rfl)
set_option maxHeartbeats 4000000 in
theorem walkX48_note {l : Launch} {dC : Nat → ClassId} {dI : Nat → Nat → Nat} {cl : List vw_C} {ci : Nat} (hc : cl[ci]? = some (RX48, TX48, 27)) {ad : Nat → Nat} {d : Nat → ClassId} {sz : Nat} {f_rowTriples : Nat → Int32} {f_rowVersions : Nat → Int32} {f_rowTells : Nat → Int32} {f_rows : Int32} {f_latest : Int32} {f_pins : Nat → Int32} {f_writers : Nat → Int32} {f_sees : Nat → Int32} {f_states : Nat → Int32} {f_notes : Nat → Int32} {f_wrote : Nat → Int32} {f_waitsFor : Nat → Int32} {f_waitTriples : Nat → Int32} {f_waitTells : Nat → Int32} {f_since : Nat → Int32} {f_clock : Int32} {f_count : Int32} {f_holders : Nat → Int32} {f_queue : Nat → Int32} {f_queueFrom : Int32} {f_queueTo : Int32} {f_ring : Nat → Int32} {f_ringSize : Int32} {f_failures : Nat → Int32} {f_refusals : Nat → Int32} {f_thrown : Int32} {f_best : Nat → Int32} {x1 : Int32} {x2 : Int32} {post : Int → (Int → Int) → Int → Prop} (hw : wpX48_note post (zF f_writers) (zF f_states) (zF f_notes) f_count.toInt x1.toInt x2.toInt) :
    Met l yX48_note (ws_ yX48_note cX48_note 6 (some .int)) ({ frames := 1, cells := 0, slots := 0, locals := 22 } : Room) (kPc (dC, dI) cl (tX48 d) [.ref (ad 0), .int x1, .int x2] sz (wX48 ci ad d f_rowTriples f_rowVersions f_rowTells f_rows f_latest f_pins f_writers f_sees f_states f_notes f_wrote f_waitsFor f_waitTriples f_waitTells f_since f_clock f_count f_holders f_queue f_queueFrom f_queueTo f_ring f_ringSize f_failures f_refusals f_thrown f_best)) (va_Qi (fun (r : Int32) (u : (Nat → Int32) × Int32) => post r.toInt (zF (u.1)) (u.2).toInt) (kB (dC, dI) cl (tX48 d) (va_A (wX48 ci ad d f_rowTriples f_rowVersions f_rowTells f_rows f_latest f_pins f_writers f_sees f_states f_notes f_wrote f_waitsFor f_waitTriples f_waitTells f_since f_clock f_count f_holders f_queue f_queueFrom f_queueTo f_ring f_ringSize f_failures f_refusals f_thrown f_best) sz) (fun u : (Nat → Int32) × Int32 => (wX48 ci ad d f_rowTriples f_rowVersions f_rowTells f_rows f_latest f_pins f_writers f_sees f_states (u.1) f_wrote f_waitsFor f_waitTriples f_waitTells f_since f_clock f_count f_holders f_queue f_queueFrom f_queueTo f_ring f_ringSize f_failures f_refusals (u.2) f_best))) (va_A (wX48 ci ad d f_rowTriples f_rowVersions f_rowTells f_rows f_latest f_pins f_writers f_sees f_states f_notes f_wrote f_waitsFor f_waitTriples f_waitTells f_since f_clock f_count f_holders f_queue f_queueFrom f_queueTo f_ring f_ringSize f_failures f_refusals f_thrown f_best) sz)) 0 0 (va_A (wX48 ci ad d f_rowTriples f_rowVersions f_rowTells f_rows f_latest f_pins f_writers f_sees f_states f_notes f_wrote f_waitsFor f_waitTriples f_waitTells f_since f_clock f_count f_holders f_queue f_queueFrom f_queueTo f_ring f_ringSize f_failures f_refusals f_thrown f_best) sz) := by
  refine k_enter (by decide) (Nat.le_of_ble_eq_true rfl) ?_
  intro p e s m below meth c ls X hsz hH hl
  subst hsz
  generalize va_A (wX48 ci ad d f_rowTriples f_rowVersions f_rowTells f_rows f_latest f_pins f_writers f_sees f_states f_notes f_wrote f_waitsFor f_waitTriples f_waitTells f_since f_clock f_count f_holders f_queue f_queueFrom f_queueTo f_ring f_ringSize f_failures f_refusals f_thrown f_best) s.heap.size = A at hH ⊢
  have hx := X.1.1
  have hb := X.1.2.1
  have hl : lv_has ls 6 [(0, .ref (ad 0)), (1, .int x1), (2, .int x2)] := hl
  unfold wpX48_note at hw
  refine lv_aload_n hx hb dX48_note_0 rfl (lv_at hl 0 rfl) ?_
  refine lv_iload_n hx hb dX48_note_1 rfl (lv_at hl 1 rfl) ?_
  refine k_i0 hH (k_runV (As := [.int x1]) (rest := []) X hH.1 hH.2.1 X.2.2.2 (walkX48_isTransaction hc (x1 := x1) (f_rowTriples := f_rowTriples) (f_rowVersions := f_rowVersions) (f_rowTells := f_rowTells) (f_rows := f_rows) (f_latest := f_latest) (f_pins := f_pins) (f_writers := f_writers) (f_sees := f_sees) (f_states := f_states) (f_notes := f_notes) (f_wrote := f_wrote) (f_waitsFor := f_waitsFor) (f_waitTriples := f_waitTriples) (f_waitTells := f_waitTells) (f_since := f_since) (f_clock := f_clock) (f_count := f_count) (f_holders := f_holders) (f_queue := f_queue) (f_queueFrom := f_queueFrom) (f_queueTo := f_queueTo) (f_ring := f_ring) (f_ringSize := f_ringSize) (f_failures := f_failures) (f_refusals := f_refusals) (f_thrown := f_thrown) (f_best := f_best) hw) (cwV 1 X.1.2.2.2.2 gX48_111 rfl rfl rfl hX48_isTransaction ⟨Nat.le_of_ble_eq_true rfl, Nat.le_of_ble_eq_true rfl⟩) hc (q0 := 0) rfl rfl hl.1 rfl (Nat.le_of_ble_eq_true rfl) dX48_note_2 ⟨Nat.le_refl 0, Nat.le_refl 0⟩) (fun r_1 _ H locs hw hH => ?_)
  have hH : kH (dC, dI) cl A s.heap H locs (wX48 ci ad d f_rowTriples f_rowVersions f_rowTells f_rows f_latest f_pins f_writers f_sees f_states f_notes f_wrote f_waitsFor f_waitTriples f_waitTells f_since f_clock f_count f_holders f_queue f_queueFrom f_queueTo f_ring f_ringSize f_failures f_refusals f_thrown f_best) := hH
  refine lv_if_eq (tgt := 21) hx hb dX48_note_5 (by decide) (fun c_2 => ?_) (fun c_2 => ?_)
  · have hw := hw.1 (z_eq (rfl : r_1.toInt = _) (rfl : (0 : Int32).toInt = 0) c_2)
    refine lv_iconst (v := 0) hx hb dX48_note_21 (by decide) ?_
    exact atX48_note_22 hc X x1 x2 0 f_notes f_thrown hw _ _ ls hH (lv_sub hl [0, 1, 2] rfl)
  · have hw := hw.2 (z_neq (rfl : r_1.toInt = _) (rfl : (0 : Int32).toInt = 0) c_2)
    refine lv_iload_n hx hb dX48_note_8 rfl (lv_at hl 2 rfl) ?_
    refine lv_if_lt (tgt := 21) hx hb dX48_note_9 (by decide) (fun c_29 => ?_) (fun c_29 => ?_)
    · have hw := hw.1 (z_lt (rfl : x2.toInt = _) (rfl : (0 : Int32).toInt = 0) c_29)
      refine lv_iconst (v := 0) hx hb dX48_note_21 (by decide) ?_
      exact atX48_note_22 hc X x1 x2 0 f_notes f_thrown hw _ _ ls hH (lv_sub hl [0, 1, 2] rfl)
    · have hw := hw.2 (z_nlt (rfl : x2.toInt = _) (rfl : (0 : Int32).toInt = 0) c_29)
      refine lv_iload_n hx hb dX48_note_12 rfl (lv_at hl 2 rfl) ?_
      refine lv_iconst (v := 4) hx hb dX48_note_13 (by decide) ?_
      refine lv_icmp_ge (tgt := 21) hx hb dX48_note_14 (by decide) (fun c_30 => ?_) (fun c_30 => ?_)
      · have hw := hw.1 (z_le (rfl : (4 : Int32).toInt = 4) (rfl : x2.toInt = _) c_30)
        refine lv_iconst (v := 0) hx hb dX48_note_21 (by decide) ?_
        exact atX48_note_22 hc X x1 x2 0 f_notes f_thrown hw _ _ ls hH (lv_sub hl [0, 1, 2] rfl)
      · have hw := hw.2 (z_nle (rfl : (4 : Int32).toInt = 4) (rfl : x2.toInt = _) c_30)
        refine lv_iconst (v := 1) hx hb dX48_note_17 (by decide) ?_
        refine lv_goto (tgt := 22) hx hb dX48_note_18 (by decide) ?_
        exact atX48_note_22 hc X x1 x2 1 f_notes f_thrown hw _ _ ls hH (lv_sub hl [0, 1, 2] rfl)
set_option maxHeartbeats 4000000 in
theorem atX48_read_40 {p : Program} {l : Launch} {e : Env} {s : State} {m : MethodId} {args : Array Value} {below : List Frame} {meth : Method} {c : Code} {dC : Nat → ClassId} {dI : Nat → Nat → Nat} {cl : List vw_C} {ci : Nat} (hc : cl[ci]? = some (RX48, TX48, 27)) {ad : Nat → Nat} {d : Nat → ClassId} {A : Nat → Prop} {post : Int → Int → Prop} {f_rowTriples : Nat → Int32} {f_rowVersions : Nat → Int32} {f_rowTells : Nat → Int32} {f_rows : Int32} {f_latest : Int32} {f_pins : Nat → Int32} {f_writers : Nat → Int32} {f_sees : Nat → Int32} {f_states : Nat → Int32} {f_notes : Nat → Int32} {f_wrote : Nat → Int32} {f_waitsFor : Nat → Int32} {f_waitTriples : Nat → Int32} {f_waitTells : Nat → Int32} {f_since : Nat → Int32} {f_clock : Int32} {f_count : Int32} {f_holders : Nat → Int32} {f_queue : Nat → Int32} {f_queueFrom : Int32} {f_queueTo : Int32} {f_ring : Nat → Int32} {f_ringSize : Int32} {f_failures : Nat → Int32} {f_refusals : Nat → Int32} {f_best : Nat → Int32} (X : kX p s m args meth c cX48_read 5 RX48 (some .boolean) (dC, dI) cl (tX48 d))     :
    ∀ (x1 : Int32) (x2 : Int32) (y1 : Int32) (y2 : Int32) (f_thrown : Int32), wX48_read_40 post x1.toInt x2.toInt y1.toInt y2.toInt (zF f_rowTriples) (zF f_rowVersions) (zF f_rowTells) f_rows.toInt (zF f_sees) (zF f_wrote) → ∀ (H : Heap) (locs : List Loc) (ls : Array Slot), kH (dC, dI) cl A s.heap H locs (wX48 ci ad d f_rowTriples f_rowVersions f_rowTells f_rows f_latest f_pins f_writers f_sees f_states f_notes f_wrote f_waitsFor f_waitTriples f_waitTells f_since f_clock f_count f_holders f_queue f_queueFrom f_queueTo f_ring f_ringSize f_failures f_refusals f_thrown f_best) → lv_has ls 5 [(0, .ref (ad 0)), (1, .int x1), (2, .int x2)] → W p l e ({ frames := 2, cells := 0, slots := 0, locals := 47 } : Room) s m args below meth c H locs 0 0 (MQ below (va_Qi (fun (r : Int32) (u : Int32) => post r.toInt (u).toInt) (kB (dC, dI) cl (tX48 d) A (fun u : Int32 => (wX48 ci ad d f_rowTriples f_rowVersions f_rowTells f_rows f_latest f_pins f_writers f_sees f_states f_notes f_wrote f_waitsFor f_waitTriples f_waitTells f_since f_clock f_count f_holders f_queue f_queueFrom f_queueTo f_ring f_ringSize f_failures f_refusals (u) f_best))) A) args s 0 0 A) (F0 m 40 ls [.int y2, .int y1, .ref (ad 0)]) := by
  have hx := X.1.1
  have hb := X.1.2.1
  intro x1 x2 y1 y2 f_thrown hw H locs ls hH hl
  unfold wX48_read_40 at hw
  refine k_i0 hH (k_runV (As := [.int y1, .int y2]) (rest := []) X hH.1 hH.2.1 X.2.2.2 (walkX48_fails hc (x1 := y1) (x2 := y2) (f_rowTriples := f_rowTriples) (f_rowVersions := f_rowVersions) (f_rowTells := f_rowTells) (f_rows := f_rows) (f_latest := f_latest) (f_pins := f_pins) (f_writers := f_writers) (f_sees := f_sees) (f_states := f_states) (f_notes := f_notes) (f_wrote := f_wrote) (f_waitsFor := f_waitsFor) (f_waitTriples := f_waitTriples) (f_waitTells := f_waitTells) (f_since := f_since) (f_clock := f_clock) (f_count := f_count) (f_holders := f_holders) (f_queue := f_queue) (f_queueFrom := f_queueFrom) (f_queueTo := f_queueTo) (f_ring := f_ring) (f_ringSize := f_ringSize) (f_failures := f_failures) (f_refusals := f_refusals) (f_thrown := f_thrown) (f_best := f_best) hw) (cwV 2 X.1.2.2.2.2 gX48_99 rfl rfl rfl hX48_fails ⟨Nat.le_of_ble_eq_true rfl, Nat.le_of_ble_eq_true rfl⟩) hc (q0 := 0) rfl rfl hl.1 rfl (Nat.le_of_ble_eq_true rfl) dX48_read_40 ⟨Nat.le_refl 0, Nat.le_refl 0⟩) (fun r_4 u H locs hw hH => ?_)
  obtain ⟨f_thrown_5, eu⟩ : ∃ z, z = u := ⟨_, rfl⟩
  subst eu
  have hH : kH (dC, dI) cl A s.heap H locs (wX48 ci ad d f_rowTriples f_rowVersions f_rowTells f_rows f_latest f_pins f_writers f_sees f_states f_notes f_wrote f_waitsFor f_waitTriples f_waitTells f_since f_clock f_count f_holders f_queue f_queueFrom f_queueTo f_ring f_ringSize f_failures f_refusals f_thrown_5 f_best) := hH
  refine lv_if_eq (tgt := 48) hx hb dX48_read_43 (by decide) (fun c_6 => ?_) (fun c_6 => ?_)
  · have hw := hw.1 (z_eq (rfl : r_4.toInt = _) (rfl : (0 : Int32).toInt = 0) c_6)
    refine lv_aload_n hx hb dX48_read_48 rfl (lv_at hl 0 rfl) ?_
    refine k_get X hH in_X48 0 rfl hc 10 (by decide) q6082 rfl dX48_read_49 ?_
    refine lv_sipush (v := 200) hx hb dX48_read_52 (by decide) ?_
    refine lv_iload_n hx hb dX48_read_55 rfl (lv_at hl 1 rfl) ?_
    refine lv_imul hx hb dX48_read_56 ?_
    have e_7 := z_mul (z_m (rfl : (200 : Int32).toInt = 200)) (z_m (rfl : x1.toInt = _))
    refine lv_iload_n hx hb dX48_read_57 rfl (lv_at hl 2 rfl) ?_
    refine lv_iadd hx hb dX48_read_58 ?_
    have e_8 := z_add e_7 (z_m (rfl : x2.toInt = _))
    have hq_9 := hw.1
    have hw := hw.2
    have e_10 := z_xi e_8 hq_9 (by decide)
    refine k_iald X hH 9 8 rfl rfl (z_in e_10 hq_9) dX48_read_59 ?_
    have e_11 := z_ld (f := f_wrote) e_10 hq_9.1
    refine lv_topi (fun x4_12 ex4_12 => ?_)
    have hw := hw x4_12.toInt (by rw [ex4_12]; exact e_11)
    refine lv_istore (lv' := [(4, .int x4_12), (0, .ref (ad 0)), (1, .int x1), (2, .int x2)]) hx hb dX48_read_60 hl (by decide) rfl (fun ls hl => ?_)
    refine lv_iload hx hb dX48_read_62 (lv_at hl 0 rfl) ?_
    refine lv_if_le (tgt := 81) hx hb dX48_read_64 (by decide) (fun c_13 => ?_) (fun c_13 => ?_)
    · have hw := hw.1 (z_le (rfl : x4_12.toInt = _) (rfl : (0 : Int32).toInt = 0) c_13)
      refine lv_aload_n hx hb dX48_read_81 rfl (lv_at hl 1 rfl) ?_
      refine lv_iload_n hx hb dX48_read_82 rfl (lv_at hl 3 rfl) ?_
      refine lv_aload_n hx hb dX48_read_83 rfl (lv_at hl 1 rfl) ?_
      refine k_get X hH in_X48 0 rfl hc 7 (by decide) q6079 rfl dX48_read_84 ?_
      refine lv_iload_n hx hb dX48_read_87 rfl (lv_at hl 2 rfl) ?_
      have hq_14 := hw.1
      have hw := hw.2
      refine k_iald X hH 6 5 rfl rfl (z_in (rfl : x1.toInt = _) hq_14) dX48_read_88 ?_
      have e_15 := z_ld (f := f_sees) (rfl : x1.toInt = _) hq_14.1
      refine k_i0 hH (k_runV (As := [.int x2, .int (f_sees x1.toNatClampNeg)]) (rest := []) X hH.1 hH.2.1 X.2.2.2 (walkX48_isThere hc (x1 := x2) (x2 := (f_sees x1.toNatClampNeg)) (f_rowTriples := f_rowTriples) (f_rowVersions := f_rowVersions) (f_rowTells := f_rowTells) (f_rows := f_rows) (f_latest := f_latest) (f_pins := f_pins) (f_writers := f_writers) (f_sees := f_sees) (f_states := f_states) (f_notes := f_notes) (f_wrote := f_wrote) (f_waitsFor := f_waitsFor) (f_waitTriples := f_waitTriples) (f_waitTells := f_waitTells) (f_since := f_since) (f_clock := f_clock) (f_count := f_count) (f_holders := f_holders) (f_queue := f_queue) (f_queueFrom := f_queueFrom) (f_queueTo := f_queueTo) (f_ring := f_ring) (f_ringSize := f_ringSize) (f_failures := f_failures) (f_refusals := f_refusals) (f_thrown := f_thrown_5) (f_best := f_best) (by rw [show (f_sees x1.toNatClampNeg : Int32).toInt = _ from e_15]; exact hw)) (cwV 2 X.1.2.2.2.2 gX48_103 rfl rfl rfl hX48_isThere ⟨Nat.le_of_ble_eq_true rfl, Nat.le_of_ble_eq_true rfl⟩) hc (q0 := 0) rfl rfl hl.1 rfl (Nat.le_of_ble_eq_true rfl) dX48_read_89 ⟨Nat.le_refl 0, Nat.le_refl 0⟩) (fun r_16 _ H locs hw hH => ?_)
      have hH : kH (dC, dI) cl A s.heap H locs (wX48 ci ad d f_rowTriples f_rowVersions f_rowTells f_rows f_latest f_pins f_writers f_sees f_states f_notes f_wrote f_waitsFor f_waitTriples f_waitTells f_since f_clock f_count f_holders f_queue f_queueFrom f_queueTo f_ring f_ringSize f_failures f_refusals f_thrown_5 f_best) := hH
      have hq_17 := hw.1
      have hw := hw.2
      exact k_iret (v := r_16) X hH (f_thrown_5) hw rfl (k_zn (z_boolE (rfl : r_16.toInt = _) hq_17)) dX48_read_92
    · have hw := hw.2 (z_nle (rfl : x4_12.toInt = _) (rfl : (0 : Int32).toInt = 0) c_13)
      refine lv_iload hx hb dX48_read_67 (lv_at hl 0 rfl) ?_
      refine lv_iconst (v := 2) hx hb dX48_read_69 (by decide) ?_
      refine lv_icmp_ne (tgt := 77) hx hb dX48_read_70 (by decide) (fun c_18 => ?_) (fun c_18 => ?_)
      · have hw := hw.2 (z_ne (rfl : x4_12.toInt = _) (rfl : (2 : Int32).toInt = 2) c_18)
        refine lv_iconst (v := 0) hx hb dX48_read_77 (by decide) ?_
        refine lv_goto (tgt := 92) hx hb dX48_read_78 (by decide) ?_
        exact k_iret (v := 0) X hH (f_thrown_5) hw rfl rfl dX48_read_92
      · have hw := hw.1 (z_eq (rfl : x4_12.toInt = _) (rfl : (2 : Int32).toInt = 2) c_18)
        refine lv_iconst (v := 1) hx hb dX48_read_73 (by decide) ?_
        refine lv_goto (tgt := 92) hx hb dX48_read_74 (by decide) ?_
        exact k_iret (v := 1) X hH (f_thrown_5) hw rfl rfl dX48_read_92
  · have hw := hw.2 (z_neq (rfl : r_4.toInt = _) (rfl : (0 : Int32).toInt = 0) c_6)
    refine lv_iconst (v := 0) hx hb dX48_read_46 (by decide) ?_
    exact k_iret (v := 0) X hH (f_thrown_5) hw rfl rfl dX48_read_47
set_option maxHeartbeats 4000000 in
theorem atX48_read_20 {p : Program} {l : Launch} {e : Env} {s : State} {m : MethodId} {args : Array Value} {below : List Frame} {meth : Method} {c : Code} {dC : Nat → ClassId} {dI : Nat → Nat → Nat} {cl : List vw_C} {ci : Nat} (hc : cl[ci]? = some (RX48, TX48, 27)) {ad : Nat → Nat} {d : Nat → ClassId} {A : Nat → Prop} {post : Int → Int → Prop} {f_rowTriples : Nat → Int32} {f_rowVersions : Nat → Int32} {f_rowTells : Nat → Int32} {f_rows : Int32} {f_latest : Int32} {f_pins : Nat → Int32} {f_writers : Nat → Int32} {f_sees : Nat → Int32} {f_states : Nat → Int32} {f_notes : Nat → Int32} {f_wrote : Nat → Int32} {f_waitsFor : Nat → Int32} {f_waitTriples : Nat → Int32} {f_waitTells : Nat → Int32} {f_since : Nat → Int32} {f_clock : Int32} {f_count : Int32} {f_holders : Nat → Int32} {f_queue : Nat → Int32} {f_queueFrom : Int32} {f_queueTo : Int32} {f_ring : Nat → Int32} {f_ringSize : Int32} {f_failures : Nat → Int32} {f_refusals : Nat → Int32} {f_best : Nat → Int32} (X : kX p s m args meth c cX48_read 5 RX48 (some .boolean) (dC, dI) cl (tX48 d))     :
    ∀ (x1 : Int32) (x2 : Int32) (y0 : Int32) (f_thrown : Int32), wX48_read_20 post x1.toInt x2.toInt y0.toInt (zF f_rowTriples) (zF f_rowVersions) (zF f_rowTells) f_rows.toInt (zF f_sees) (zF f_states) (zF f_wrote) → ∀ (H : Heap) (locs : List Loc) (ls : Array Slot), kH (dC, dI) cl A s.heap H locs (wX48 ci ad d f_rowTriples f_rowVersions f_rowTells f_rows f_latest f_pins f_writers f_sees f_states f_notes f_wrote f_waitsFor f_waitTriples f_waitTells f_since f_clock f_count f_holders f_queue f_queueFrom f_queueTo f_ring f_ringSize f_failures f_refusals f_thrown f_best) → lv_has ls 5 [(0, .ref (ad 0)), (1, .int x1), (2, .int x2)] → W p l e ({ frames := 2, cells := 0, slots := 0, locals := 47 } : Room) s m args below meth c H locs 0 0 (MQ below (va_Qi (fun (r : Int32) (u : Int32) => post r.toInt (u).toInt) (kB (dC, dI) cl (tX48 d) A (fun u : Int32 => (wX48 ci ad d f_rowTriples f_rowVersions f_rowTells f_rows f_latest f_pins f_writers f_sees f_states f_notes f_wrote f_waitsFor f_waitTriples f_waitTells f_since f_clock f_count f_holders f_queue f_queueFrom f_queueTo f_ring f_ringSize f_failures f_refusals (u) f_best))) A) args s 0 0 A) (F0 m 20 ls [.int y0]) := by
  have hx := X.1.1
  have hb := X.1.2.1
  intro x1 x2 y0 f_thrown hw H locs ls hH hl
  unfold wX48_read_20 at hw
  refine lv_istore_n (lv' := [(3, .int y0), (0, .ref (ad 0)), (1, .int x1), (2, .int x2)]) hx hb dX48_read_20 rfl hl (by decide) rfl (fun ls hl => ?_)
  refine lv_aload_n hx hb dX48_read_21 rfl (lv_at hl 1 rfl) ?_
  refine lv_iload_n hx hb dX48_read_22 rfl (lv_at hl 0 rfl) ?_
  refine lv_iload_n hx hb dX48_read_23 rfl (lv_at hl 0 rfl) ?_
  refine lv_if_eq (tgt := 39) hx hb dX48_read_24 (by decide) (fun c_3 => ?_) (fun c_3 => ?_)
  · have hw := hw.1 (z_eq (rfl : y0.toInt = _) (rfl : (0 : Int32).toInt = 0) c_3)
    refine lv_iconst (v := 0) hx hb dX48_read_39 (by decide) ?_
    exact atX48_read_40 hc X x1 x2 y0 0 f_thrown hw _ _ ls hH (lv_sub hl [1, 2, 3] rfl)
  · have hw := hw.2 (z_neq (rfl : y0.toInt = _) (rfl : (0 : Int32).toInt = 0) c_3)
    refine lv_aload_n hx hb dX48_read_27 rfl (lv_at hl 1 rfl) ?_
    refine lv_iload_n hx hb dX48_read_28 rfl (lv_at hl 2 rfl) ?_
    refine k_i0 hH (k_runV (As := [.int x1]) (rest := [.int y0, .ref (ad 0)]) X hH.1 hH.2.1 X.2.2.2 (walkX48_isLive hc (x1 := x1) (f_rowTriples := f_rowTriples) (f_rowVersions := f_rowVersions) (f_rowTells := f_rowTells) (f_rows := f_rows) (f_latest := f_latest) (f_pins := f_pins) (f_writers := f_writers) (f_sees := f_sees) (f_states := f_states) (f_notes := f_notes) (f_wrote := f_wrote) (f_waitsFor := f_waitsFor) (f_waitTriples := f_waitTriples) (f_waitTells := f_waitTells) (f_since := f_since) (f_clock := f_clock) (f_count := f_count) (f_holders := f_holders) (f_queue := f_queue) (f_queueFrom := f_queueFrom) (f_queueTo := f_queueTo) (f_ring := f_ring) (f_ringSize := f_ringSize) (f_failures := f_failures) (f_refusals := f_refusals) (f_thrown := f_thrown) (f_best := f_best) hw) (cwV 1 X.1.2.2.2.2 gX48_89 rfl rfl rfl hX48_isLive ⟨Nat.le_of_ble_eq_true rfl, Nat.le_of_ble_eq_true rfl⟩) hc (q0 := 0) rfl rfl hl.1 rfl (Nat.le_of_ble_eq_true rfl) dX48_read_29 ⟨Nat.le_refl 0, Nat.le_refl 0⟩) (fun r_19 _ H locs hw hH => ?_)
    have hH : kH (dC, dI) cl A s.heap H locs (wX48 ci ad d f_rowTriples f_rowVersions f_rowTells f_rows f_latest f_pins f_writers f_sees f_states f_notes f_wrote f_waitsFor f_waitTriples f_waitTells f_since f_clock f_count f_holders f_queue f_queueFrom f_queueTo f_ring f_ringSize f_failures f_refusals f_thrown f_best) := hH
    refine lv_if_eq (tgt := 39) hx hb dX48_read_32 (by decide) (fun c_20 => ?_) (fun c_20 => ?_)
    · have hw := hw.1 (z_eq (rfl : r_19.toInt = _) (rfl : (0 : Int32).toInt = 0) c_20)
      refine lv_iconst (v := 0) hx hb dX48_read_39 (by decide) ?_
      exact atX48_read_40 hc X x1 x2 y0 0 f_thrown hw _ _ ls hH (lv_sub hl [1, 2, 3] rfl)
    · have hw := hw.2 (z_neq (rfl : r_19.toInt = _) (rfl : (0 : Int32).toInt = 0) c_20)
      refine lv_iconst (v := 1) hx hb dX48_read_35 (by decide) ?_
      refine lv_goto (tgt := 40) hx hb dX48_read_36 (by decide) ?_
      exact atX48_read_40 hc X x1 x2 y0 1 f_thrown hw _ _ ls hH (lv_sub hl [1, 2, 3] rfl)
set_option maxHeartbeats 4000000 in
theorem walkX48_read {l : Launch} {dC : Nat → ClassId} {dI : Nat → Nat → Nat} {cl : List vw_C} {ci : Nat} (hc : cl[ci]? = some (RX48, TX48, 27)) {ad : Nat → Nat} {d : Nat → ClassId} {sz : Nat} {f_rowTriples : Nat → Int32} {f_rowVersions : Nat → Int32} {f_rowTells : Nat → Int32} {f_rows : Int32} {f_latest : Int32} {f_pins : Nat → Int32} {f_writers : Nat → Int32} {f_sees : Nat → Int32} {f_states : Nat → Int32} {f_notes : Nat → Int32} {f_wrote : Nat → Int32} {f_waitsFor : Nat → Int32} {f_waitTriples : Nat → Int32} {f_waitTells : Nat → Int32} {f_since : Nat → Int32} {f_clock : Int32} {f_count : Int32} {f_holders : Nat → Int32} {f_queue : Nat → Int32} {f_queueFrom : Int32} {f_queueTo : Int32} {f_ring : Nat → Int32} {f_ringSize : Int32} {f_failures : Nat → Int32} {f_refusals : Nat → Int32} {f_thrown : Int32} {f_best : Nat → Int32} {x1 : Int32} {x2 : Int32} {post : Int → Int → Prop} (hw : wpX48_read post (zF f_rowTriples) (zF f_rowVersions) (zF f_rowTells) f_rows.toInt (zF f_sees) (zF f_states) (zF f_wrote) f_count.toInt x1.toInt x2.toInt) :
    Met l yX48_read (ws_ yX48_read cX48_read 5 (some .boolean)) ({ frames := 2, cells := 0, slots := 0, locals := 47 } : Room) (kPc (dC, dI) cl (tX48 d) [.ref (ad 0), .int x1, .int x2] sz (wX48 ci ad d f_rowTriples f_rowVersions f_rowTells f_rows f_latest f_pins f_writers f_sees f_states f_notes f_wrote f_waitsFor f_waitTriples f_waitTells f_since f_clock f_count f_holders f_queue f_queueFrom f_queueTo f_ring f_ringSize f_failures f_refusals f_thrown f_best)) (va_Qi (fun (r : Int32) (u : Int32) => post r.toInt (u).toInt) (kB (dC, dI) cl (tX48 d) (va_A (wX48 ci ad d f_rowTriples f_rowVersions f_rowTells f_rows f_latest f_pins f_writers f_sees f_states f_notes f_wrote f_waitsFor f_waitTriples f_waitTells f_since f_clock f_count f_holders f_queue f_queueFrom f_queueTo f_ring f_ringSize f_failures f_refusals f_thrown f_best) sz) (fun u : Int32 => (wX48 ci ad d f_rowTriples f_rowVersions f_rowTells f_rows f_latest f_pins f_writers f_sees f_states f_notes f_wrote f_waitsFor f_waitTriples f_waitTells f_since f_clock f_count f_holders f_queue f_queueFrom f_queueTo f_ring f_ringSize f_failures f_refusals (u) f_best))) (va_A (wX48 ci ad d f_rowTriples f_rowVersions f_rowTells f_rows f_latest f_pins f_writers f_sees f_states f_notes f_wrote f_waitsFor f_waitTriples f_waitTells f_since f_clock f_count f_holders f_queue f_queueFrom f_queueTo f_ring f_ringSize f_failures f_refusals f_thrown f_best) sz)) 0 0 (va_A (wX48 ci ad d f_rowTriples f_rowVersions f_rowTells f_rows f_latest f_pins f_writers f_sees f_states f_notes f_wrote f_waitsFor f_waitTriples f_waitTells f_since f_clock f_count f_holders f_queue f_queueFrom f_queueTo f_ring f_ringSize f_failures f_refusals f_thrown f_best) sz) := by
  refine k_enter (by decide) (Nat.le_of_ble_eq_true rfl) ?_
  intro p e s m below meth c ls X hsz hH hl
  subst hsz
  generalize va_A (wX48 ci ad d f_rowTriples f_rowVersions f_rowTells f_rows f_latest f_pins f_writers f_sees f_states f_notes f_wrote f_waitsFor f_waitTriples f_waitTells f_since f_clock f_count f_holders f_queue f_queueFrom f_queueTo f_ring f_ringSize f_failures f_refusals f_thrown f_best) s.heap.size = A at hH ⊢
  have hx := X.1.1
  have hb := X.1.2.1
  have hl : lv_has ls 5 [(0, .ref (ad 0)), (1, .int x1), (2, .int x2)] := hl
  unfold wpX48_read at hw
  refine lv_aload_n hx hb dX48_read_0 rfl (lv_at hl 0 rfl) ?_
  refine lv_iload_n hx hb dX48_read_1 rfl (lv_at hl 1 rfl) ?_
  refine k_i0 hH (k_runV (As := [.int x1]) (rest := []) X hH.1 hH.2.1 X.2.2.2 (walkX48_isTransaction hc (x1 := x1) (f_rowTriples := f_rowTriples) (f_rowVersions := f_rowVersions) (f_rowTells := f_rowTells) (f_rows := f_rows) (f_latest := f_latest) (f_pins := f_pins) (f_writers := f_writers) (f_sees := f_sees) (f_states := f_states) (f_notes := f_notes) (f_wrote := f_wrote) (f_waitsFor := f_waitsFor) (f_waitTriples := f_waitTriples) (f_waitTells := f_waitTells) (f_since := f_since) (f_clock := f_clock) (f_count := f_count) (f_holders := f_holders) (f_queue := f_queue) (f_queueFrom := f_queueFrom) (f_queueTo := f_queueTo) (f_ring := f_ring) (f_ringSize := f_ringSize) (f_failures := f_failures) (f_refusals := f_refusals) (f_thrown := f_thrown) (f_best := f_best) hw) (cwV 1 X.1.2.2.2.2 gX48_111 rfl rfl rfl hX48_isTransaction ⟨Nat.le_of_ble_eq_true rfl, Nat.le_of_ble_eq_true rfl⟩) hc (q0 := 0) rfl rfl hl.1 rfl (Nat.le_of_ble_eq_true rfl) dX48_read_2 ⟨Nat.le_refl 0, Nat.le_refl 0⟩) (fun r_1 _ H locs hw hH => ?_)
  have hH : kH (dC, dI) cl A s.heap H locs (wX48 ci ad d f_rowTriples f_rowVersions f_rowTells f_rows f_latest f_pins f_writers f_sees f_states f_notes f_wrote f_waitsFor f_waitTriples f_waitTells f_since f_clock f_count f_holders f_queue f_queueFrom f_queueTo f_ring f_ringSize f_failures f_refusals f_thrown f_best) := hH
  refine lv_if_eq (tgt := 19) hx hb dX48_read_5 (by decide) (fun c_2 => ?_) (fun c_2 => ?_)
  · have hw := hw.1 (z_eq (rfl : r_1.toInt = _) (rfl : (0 : Int32).toInt = 0) c_2)
    refine lv_iconst (v := 0) hx hb dX48_read_19 (by decide) ?_
    exact atX48_read_20 hc X x1 x2 0 f_thrown hw _ _ ls hH (lv_sub hl [0, 1, 2] rfl)
  · have hw := hw.2 (z_neq (rfl : r_1.toInt = _) (rfl : (0 : Int32).toInt = 0) c_2)
    refine lv_iload_n hx hb dX48_read_8 rfl (lv_at hl 2 rfl) ?_
    refine k_i0 hH (k_runS (As := [.int x2]) (rest := []) X hH.1 hH.2.1 X.2.2.2 (walkX48_isTriple hc (x0 := x2) (f_rowTriples := f_rowTriples) (f_rowVersions := f_rowVersions) (f_rowTells := f_rowTells) (f_rows := f_rows) (f_latest := f_latest) (f_pins := f_pins) (f_writers := f_writers) (f_sees := f_sees) (f_states := f_states) (f_notes := f_notes) (f_wrote := f_wrote) (f_waitsFor := f_waitsFor) (f_waitTriples := f_waitTriples) (f_waitTells := f_waitTells) (f_since := f_since) (f_clock := f_clock) (f_count := f_count) (f_holders := f_holders) (f_queue := f_queue) (f_queueFrom := f_queueFrom) (f_queueTo := f_queueTo) (f_ring := f_ring) (f_ringSize := f_ringSize) (f_failures := f_failures) (f_refusals := f_refusals) (f_thrown := f_thrown) (f_best := f_best) hw) (va_cwS 1 X.1.2.2.2.2 gX48_96 rfl rfl rfl hX48_isTriple ⟨Nat.le_of_ble_eq_true rfl, Nat.le_of_ble_eq_true rfl⟩) rfl hl.1 rfl (Nat.le_of_ble_eq_true rfl) dX48_read_9 ⟨Nat.le_refl 0, Nat.le_refl 0⟩) (fun r_21 _ H locs hw hH => ?_)
    have hH : kH (dC, dI) cl A s.heap H locs (wX48 ci ad d f_rowTriples f_rowVersions f_rowTells f_rows f_latest f_pins f_writers f_sees f_states f_notes f_wrote f_waitsFor f_waitTriples f_waitTells f_since f_clock f_count f_holders f_queue f_queueFrom f_queueTo f_ring f_ringSize f_failures f_refusals f_thrown f_best) := hH
    refine lv_if_eq (tgt := 19) hx hb dX48_read_12 (by decide) (fun c_22 => ?_) (fun c_22 => ?_)
    · have hw := hw.1 (z_eq (rfl : r_21.toInt = _) (rfl : (0 : Int32).toInt = 0) c_22)
      refine lv_iconst (v := 0) hx hb dX48_read_19 (by decide) ?_
      exact atX48_read_20 hc X x1 x2 0 f_thrown hw _ _ ls hH (lv_sub hl [0, 1, 2] rfl)
    · have hw := hw.2 (z_neq (rfl : r_21.toInt = _) (rfl : (0 : Int32).toInt = 0) c_22)
      refine lv_iconst (v := 1) hx hb dX48_read_15 (by decide) ?_
      refine lv_goto (tgt := 20) hx hb dX48_read_16 (by decide) ?_
      exact atX48_read_20 hc X x1 x2 1 f_thrown hw _ _ ls hH (lv_sub hl [0, 1, 2] rfl)
set_option maxHeartbeats 4000000 in
theorem walkX48_pin {l : Launch} {dC : Nat → ClassId} {dI : Nat → Nat → Nat} {cl : List vw_C} {ci : Nat} (hc : cl[ci]? = some (RX48, TX48, 27)) {ad : Nat → Nat} {d : Nat → ClassId} {sz : Nat} {f_rowTriples : Nat → Int32} {f_rowVersions : Nat → Int32} {f_rowTells : Nat → Int32} {f_rows : Int32} {f_latest : Int32} {f_pins : Nat → Int32} {f_writers : Nat → Int32} {f_sees : Nat → Int32} {f_states : Nat → Int32} {f_notes : Nat → Int32} {f_wrote : Nat → Int32} {f_waitsFor : Nat → Int32} {f_waitTriples : Nat → Int32} {f_waitTells : Nat → Int32} {f_since : Nat → Int32} {f_clock : Int32} {f_count : Int32} {f_holders : Nat → Int32} {f_queue : Nat → Int32} {f_queueFrom : Int32} {f_queueTo : Int32} {f_ring : Nat → Int32} {f_ringSize : Int32} {f_failures : Nat → Int32} {f_refusals : Nat → Int32} {f_thrown : Int32} {f_best : Nat → Int32} {x1 : Int32} {post : Int → (Int → Int) → Int → Prop} (hw : wpX48_pin post f_latest.toInt (zF f_pins) (zF f_sees) (zF f_states) f_count.toInt x1.toInt) :
    Met l yX48_pin (ws_ yX48_pin cX48_pin 2 (some .int)) ({ frames := 3, cells := 0, slots := 0, locals := 64 } : Room) (kPc (dC, dI) cl (tX48 d) [.ref (ad 0), .int x1] sz (wX48 ci ad d f_rowTriples f_rowVersions f_rowTells f_rows f_latest f_pins f_writers f_sees f_states f_notes f_wrote f_waitsFor f_waitTriples f_waitTells f_since f_clock f_count f_holders f_queue f_queueFrom f_queueTo f_ring f_ringSize f_failures f_refusals f_thrown f_best)) (va_Qi (fun (r : Int32) (u : (Nat → Int32) × Int32) => post r.toInt (zF (u.1)) (u.2).toInt) (kB (dC, dI) cl (tX48 d) (va_A (wX48 ci ad d f_rowTriples f_rowVersions f_rowTells f_rows f_latest f_pins f_writers f_sees f_states f_notes f_wrote f_waitsFor f_waitTriples f_waitTells f_since f_clock f_count f_holders f_queue f_queueFrom f_queueTo f_ring f_ringSize f_failures f_refusals f_thrown f_best) sz) (fun u : (Nat → Int32) × Int32 => (wX48 ci ad d f_rowTriples f_rowVersions f_rowTells f_rows f_latest (u.1) f_writers f_sees f_states f_notes f_wrote f_waitsFor f_waitTriples f_waitTells f_since f_clock f_count f_holders f_queue f_queueFrom f_queueTo f_ring f_ringSize f_failures f_refusals (u.2) f_best))) (va_A (wX48 ci ad d f_rowTriples f_rowVersions f_rowTells f_rows f_latest f_pins f_writers f_sees f_states f_notes f_wrote f_waitsFor f_waitTriples f_waitTells f_since f_clock f_count f_holders f_queue f_queueFrom f_queueTo f_ring f_ringSize f_failures f_refusals f_thrown f_best) sz)) 0 0 (va_A (wX48 ci ad d f_rowTriples f_rowVersions f_rowTells f_rows f_latest f_pins f_writers f_sees f_states f_notes f_wrote f_waitsFor f_waitTriples f_waitTells f_since f_clock f_count f_holders f_queue f_queueFrom f_queueTo f_ring f_ringSize f_failures f_refusals f_thrown f_best) sz) := by
  refine k_enter (by decide) (Nat.le_of_ble_eq_true rfl) ?_
  intro p e s m below meth c ls X hsz hH hl
  subst hsz
  generalize va_A (wX48 ci ad d f_rowTriples f_rowVersions f_rowTells f_rows f_latest f_pins f_writers f_sees f_states f_notes f_wrote f_waitsFor f_waitTriples f_waitTells f_since f_clock f_count f_holders f_queue f_queueFrom f_queueTo f_ring f_ringSize f_failures f_refusals f_thrown f_best) s.heap.size = A at hH ⊢
  have hx := X.1.1
  have hb := X.1.2.1
  have hl : lv_has ls 2 [(0, .ref (ad 0)), (1, .int x1)] := hl
  unfold wpX48_pin at hw
  refine lv_aload_n hx hb dX48_pin_0 rfl (lv_at hl 0 rfl) ?_
  refine lv_aload_n hx hb dX48_pin_1 rfl (lv_at hl 0 rfl) ?_
  refine lv_iload_n hx hb dX48_pin_2 rfl (lv_at hl 1 rfl) ?_
  refine k_i0 hH (k_runV (As := [.int x1]) (rest := [.ref (ad 0)]) X hH.1 hH.2.1 X.2.2.2 (walkX48_isTellable hc (x1 := x1) (f_rowTriples := f_rowTriples) (f_rowVersions := f_rowVersions) (f_rowTells := f_rowTells) (f_rows := f_rows) (f_latest := f_latest) (f_pins := f_pins) (f_writers := f_writers) (f_sees := f_sees) (f_states := f_states) (f_notes := f_notes) (f_wrote := f_wrote) (f_waitsFor := f_waitsFor) (f_waitTriples := f_waitTriples) (f_waitTells := f_waitTells) (f_since := f_since) (f_clock := f_clock) (f_count := f_count) (f_holders := f_holders) (f_queue := f_queue) (f_queueFrom := f_queueFrom) (f_queueTo := f_queueTo) (f_ring := f_ring) (f_ringSize := f_ringSize) (f_failures := f_failures) (f_refusals := f_refusals) (f_thrown := f_thrown) (f_best := f_best) hw) (cwV 1 X.1.2.2.2.2 gX48_93 rfl rfl rfl hX48_isTellable ⟨Nat.le_of_ble_eq_true rfl, Nat.le_of_ble_eq_true rfl⟩) hc (q0 := 0) rfl rfl hl.1 rfl (Nat.le_of_ble_eq_true rfl) dX48_pin_3 ⟨Nat.le_refl 0, Nat.le_refl 0⟩) (fun r_1 _ H locs hw hH => ?_)
  have hH : kH (dC, dI) cl A s.heap H locs (wX48 ci ad d f_rowTriples f_rowVersions f_rowTells f_rows f_latest f_pins f_writers f_sees f_states f_notes f_wrote f_waitsFor f_waitTriples f_waitTells f_since f_clock f_count f_holders f_queue f_queueFrom f_queueTo f_ring f_ringSize f_failures f_refusals f_thrown f_best) := hH
  refine lv_iconst (v := 1) hx hb dX48_pin_6 (by decide) ?_
  refine k_i0 hH (k_runV (As := [.int r_1, .int 1]) (rest := []) X hH.1 hH.2.1 X.2.2.2 (walkX48_fails hc (x1 := r_1) (x2 := 1) (f_rowTriples := f_rowTriples) (f_rowVersions := f_rowVersions) (f_rowTells := f_rowTells) (f_rows := f_rows) (f_latest := f_latest) (f_pins := f_pins) (f_writers := f_writers) (f_sees := f_sees) (f_states := f_states) (f_notes := f_notes) (f_wrote := f_wrote) (f_waitsFor := f_waitsFor) (f_waitTriples := f_waitTriples) (f_waitTells := f_waitTells) (f_since := f_since) (f_clock := f_clock) (f_count := f_count) (f_holders := f_holders) (f_queue := f_queue) (f_queueFrom := f_queueFrom) (f_queueTo := f_queueTo) (f_ring := f_ring) (f_ringSize := f_ringSize) (f_failures := f_failures) (f_refusals := f_refusals) (f_thrown := f_thrown) (f_best := f_best) hw) (cwV 2 X.1.2.2.2.2 gX48_99 rfl rfl rfl hX48_fails ⟨Nat.le_of_ble_eq_true rfl, Nat.le_of_ble_eq_true rfl⟩) hc (q0 := 0) rfl rfl hl.1 rfl (Nat.le_of_ble_eq_true rfl) dX48_pin_7 ⟨Nat.le_refl 0, Nat.le_refl 0⟩) (fun r_2 u H locs hw hH => ?_)
  obtain ⟨f_thrown_3, eu⟩ : ∃ z, z = u := ⟨_, rfl⟩
  subst eu
  have hH : kH (dC, dI) cl A s.heap H locs (wX48 ci ad d f_rowTriples f_rowVersions f_rowTells f_rows f_latest f_pins f_writers f_sees f_states f_notes f_wrote f_waitsFor f_waitTriples f_waitTells f_since f_clock f_count f_holders f_queue f_queueFrom f_queueTo f_ring f_ringSize f_failures f_refusals f_thrown_3 f_best) := hH
  refine lv_if_eq (tgt := 15) hx hb dX48_pin_10 (by decide) (fun c_4 => ?_) (fun c_4 => ?_)
  · have hw := hw.1 (z_eq (rfl : r_2.toInt = _) (rfl : (0 : Int32).toInt = 0) c_4)
    refine lv_aload_n hx hb dX48_pin_15 rfl (lv_at hl 0 rfl) ?_
    refine k_get X hH in_X48 0 rfl hc 5 (by decide) q6077 rfl dX48_pin_16 ?_
    refine lv_iload_n hx hb dX48_pin_19 rfl (lv_at hl 1 rfl) ?_
    refine lv_dup2_11 hx hb dX48_pin_20 rfl rfl ?_
    have hq_5 := hw.1
    have hw := hw.2
    refine k_iald X hH 4 3 rfl rfl (z_in (rfl : x1.toInt = _) hq_5) dX48_pin_21 ?_
    have e_6 := z_ld (f := f_pins) (rfl : x1.toInt = _) hq_5.1
    refine lv_iconst (v := 1) hx hb dX48_pin_22 (by decide) ?_
    refine lv_iadd hx hb dX48_pin_23 ?_
    have e_7 := z_add (z_m e_6) (z_m (rfl : (1 : Int32).toInt = 1))
    have hq_8 := hw.1
    have hw := hw.2
    have e_9 := z_x e_7 hq_8
    refine lv_topi (fun v_10 ev_10 => ?_)
    have hw := hw v_10.toInt (by rw [ev_10]; exact e_9)
    obtain ⟨f_pins_11, ef_pins_11⟩ : ∃ y : Nat → Int32, y = upd f_pins x1.toNatClampNeg v_10 := ⟨_, rfl⟩
    refine k_iast X hH 4 3 rfl rfl (z_in (rfl : x1.toInt = _) hq_5) dX48_pin_24 ef_pins_11 (ws1 := (wX48 ci ad d f_rowTriples f_rowVersions f_rowTells f_rows f_latest f_pins_11 f_writers f_sees f_states f_notes f_wrote f_waitsFor f_waitTriples f_waitTells f_since f_clock f_count f_holders f_queue f_queueFrom f_queueTo f_ring f_ringSize f_failures f_refusals f_thrown_3 f_best)) rfl (fun H locs hH => ?_)
    have hw := hw (zF f_pins_11) (by rw [ef_pins_11]; exact z_st (f := f_pins) (rfl : x1.toInt = _) hq_5.1 (rfl : v_10.toInt = _))
    refine lv_aload_n hx hb dX48_pin_25 rfl (lv_at hl 0 rfl) ?_
    refine k_get X hH in_X48 0 rfl hc 5 (by decide) q6077 rfl dX48_pin_26 ?_
    refine lv_iload_n hx hb dX48_pin_29 rfl (lv_at hl 1 rfl) ?_
    refine k_iald X hH 4 3 rfl rfl (z_in (rfl : x1.toInt = _) hq_5) dX48_pin_30 ?_
    have e_12 := z_ld (f := f_pins_11) (rfl : x1.toInt = _) hq_5.1
    exact k_iret (v := f_pins_11 x1.toNatClampNeg) X hH (f_pins_11, f_thrown_3) (by rw [show (f_pins_11 x1.toNatClampNeg : Int32).toInt = _ from e_12]; exact hw) rfl rfl dX48_pin_31
  · have hw := hw.2 (z_neq (rfl : r_2.toInt = _) (rfl : (0 : Int32).toInt = 0) c_4)
    refine lv_iconst (v := 0) hx hb dX48_pin_13 (by decide) ?_
    exact k_iret (v := 0) X hH (f_pins, f_thrown_3) hw rfl rfl dX48_pin_14
set_option maxHeartbeats 4000000 in
theorem atX48_unpin_25 {p : Program} {l : Launch} {e : Env} {s : State} {m : MethodId} {args : Array Value} {below : List Frame} {meth : Method} {c : Code} {dC : Nat → ClassId} {dI : Nat → Nat → Nat} {cl : List vw_C} {ci : Nat} (hc : cl[ci]? = some (RX48, TX48, 27)) {ad : Nat → Nat} {d : Nat → ClassId} {A : Nat → Prop} {post : Int → (Int → Int) → Int → Prop} {f_rowTriples : Nat → Int32} {f_rowVersions : Nat → Int32} {f_rowTells : Nat → Int32} {f_rows : Int32} {f_latest : Int32} {f_writers : Nat → Int32} {f_sees : Nat → Int32} {f_states : Nat → Int32} {f_notes : Nat → Int32} {f_wrote : Nat → Int32} {f_waitsFor : Nat → Int32} {f_waitTriples : Nat → Int32} {f_waitTells : Nat → Int32} {f_since : Nat → Int32} {f_clock : Int32} {f_count : Int32} {f_holders : Nat → Int32} {f_queue : Nat → Int32} {f_queueFrom : Int32} {f_queueTo : Int32} {f_ring : Nat → Int32} {f_ringSize : Int32} {f_failures : Nat → Int32} {f_refusals : Nat → Int32} {f_best : Nat → Int32} (X : kX p s m args meth c cX48_unpin 2 RX48 (some .int) (dC, dI) cl (tX48 d))     :
    ∀ (x1 : Int32) (y1 : Int32) (f_pins : Nat → Int32) (f_thrown : Int32), wX48_unpin_25 post x1.toInt y1.toInt (zF f_pins) → ∀ (H : Heap) (locs : List Loc) (ls : Array Slot), kH (dC, dI) cl A s.heap H locs (wX48 ci ad d f_rowTriples f_rowVersions f_rowTells f_rows f_latest f_pins f_writers f_sees f_states f_notes f_wrote f_waitsFor f_waitTriples f_waitTells f_since f_clock f_count f_holders f_queue f_queueFrom f_queueTo f_ring f_ringSize f_failures f_refusals f_thrown f_best) → lv_has ls 2 [(0, .ref (ad 0)), (1, .int x1)] → W p l e ({ frames := 1, cells := 0, slots := 0, locals := 22 } : Room) s m args below meth c H locs 0 0 (MQ below (va_Qi (fun (r : Int32) (u : (Nat → Int32) × Int32) => post r.toInt (zF (u.1)) (u.2).toInt) (kB (dC, dI) cl (tX48 d) A (fun u : (Nat → Int32) × Int32 => (wX48 ci ad d f_rowTriples f_rowVersions f_rowTells f_rows f_latest (u.1) f_writers f_sees f_states f_notes f_wrote f_waitsFor f_waitTriples f_waitTells f_since f_clock f_count f_holders f_queue f_queueFrom f_queueTo f_ring f_ringSize f_failures f_refusals (u.2) f_best))) A) args s 0 0 A) (F0 m 25 ls [.int y1, .ref (ad 0)]) := by
  have hx := X.1.1
  have hb := X.1.2.1
  intro x1 y1 f_pins f_thrown hw H locs ls hH hl
  unfold wX48_unpin_25 at hw
  refine lv_iconst (v := 1) hx hb dX48_unpin_25 (by decide) ?_
  refine k_i0 hH (k_runV (As := [.int y1, .int 1]) (rest := []) X hH.1 hH.2.1 X.2.2.2 (walkX48_fails hc (x1 := y1) (x2 := 1) (f_rowTriples := f_rowTriples) (f_rowVersions := f_rowVersions) (f_rowTells := f_rowTells) (f_rows := f_rows) (f_latest := f_latest) (f_pins := f_pins) (f_writers := f_writers) (f_sees := f_sees) (f_states := f_states) (f_notes := f_notes) (f_wrote := f_wrote) (f_waitsFor := f_waitsFor) (f_waitTriples := f_waitTriples) (f_waitTells := f_waitTells) (f_since := f_since) (f_clock := f_clock) (f_count := f_count) (f_holders := f_holders) (f_queue := f_queue) (f_queueFrom := f_queueFrom) (f_queueTo := f_queueTo) (f_ring := f_ring) (f_ringSize := f_ringSize) (f_failures := f_failures) (f_refusals := f_refusals) (f_thrown := f_thrown) (f_best := f_best) hw) (cwV 2 X.1.2.2.2.2 gX48_99 rfl rfl rfl hX48_fails ⟨Nat.le_of_ble_eq_true rfl, Nat.le_of_ble_eq_true rfl⟩) hc (q0 := 0) rfl rfl hl.1 rfl (Nat.le_of_ble_eq_true rfl) dX48_unpin_26 ⟨Nat.le_refl 0, Nat.le_refl 0⟩) (fun r_2 u H locs hw hH => ?_)
  obtain ⟨f_thrown_3, eu⟩ : ∃ z, z = u := ⟨_, rfl⟩
  subst eu
  have hH : kH (dC, dI) cl A s.heap H locs (wX48 ci ad d f_rowTriples f_rowVersions f_rowTells f_rows f_latest f_pins f_writers f_sees f_states f_notes f_wrote f_waitsFor f_waitTriples f_waitTells f_since f_clock f_count f_holders f_queue f_queueFrom f_queueTo f_ring f_ringSize f_failures f_refusals f_thrown_3 f_best) := hH
  refine lv_if_eq (tgt := 34) hx hb dX48_unpin_29 (by decide) (fun c_4 => ?_) (fun c_4 => ?_)
  · have hw := hw.1 (z_eq (rfl : r_2.toInt = _) (rfl : (0 : Int32).toInt = 0) c_4)
    refine lv_aload_n hx hb dX48_unpin_34 rfl (lv_at hl 0 rfl) ?_
    refine k_get X hH in_X48 0 rfl hc 5 (by decide) q6077 rfl dX48_unpin_35 ?_
    refine lv_iload_n hx hb dX48_unpin_38 rfl (lv_at hl 1 rfl) ?_
    refine lv_dup2_11 hx hb dX48_unpin_39 rfl rfl ?_
    have hq_5 := hw.1
    have hw := hw.2
    refine k_iald X hH 4 3 rfl rfl (z_in (rfl : x1.toInt = _) hq_5) dX48_unpin_40 ?_
    have e_6 := z_ld (f := f_pins) (rfl : x1.toInt = _) hq_5.1
    refine lv_iconst (v := 1) hx hb dX48_unpin_41 (by decide) ?_
    refine lv_isub hx hb dX48_unpin_42 ?_
    have e_7 := z_sub (z_m e_6) (z_m (rfl : (1 : Int32).toInt = 1))
    have hq_8 := hw.1
    have hw := hw.2
    have e_9 := z_x e_7 hq_8
    refine lv_topi (fun v_10 ev_10 => ?_)
    have hw := hw v_10.toInt (by rw [ev_10]; exact e_9)
    obtain ⟨f_pins_11, ef_pins_11⟩ : ∃ y : Nat → Int32, y = upd f_pins x1.toNatClampNeg v_10 := ⟨_, rfl⟩
    refine k_iast X hH 4 3 rfl rfl (z_in (rfl : x1.toInt = _) hq_5) dX48_unpin_43 ef_pins_11 (ws1 := (wX48 ci ad d f_rowTriples f_rowVersions f_rowTells f_rows f_latest f_pins_11 f_writers f_sees f_states f_notes f_wrote f_waitsFor f_waitTriples f_waitTells f_since f_clock f_count f_holders f_queue f_queueFrom f_queueTo f_ring f_ringSize f_failures f_refusals f_thrown_3 f_best)) rfl (fun H locs hH => ?_)
    have hw := hw (zF f_pins_11) (by rw [ef_pins_11]; exact z_st (f := f_pins) (rfl : x1.toInt = _) hq_5.1 (rfl : v_10.toInt = _))
    refine lv_aload_n hx hb dX48_unpin_44 rfl (lv_at hl 0 rfl) ?_
    refine k_get X hH in_X48 0 rfl hc 5 (by decide) q6077 rfl dX48_unpin_45 ?_
    refine lv_iload_n hx hb dX48_unpin_48 rfl (lv_at hl 1 rfl) ?_
    refine k_iald X hH 4 3 rfl rfl (z_in (rfl : x1.toInt = _) hq_5) dX48_unpin_49 ?_
    have e_12 := z_ld (f := f_pins_11) (rfl : x1.toInt = _) hq_5.1
    exact k_iret (v := f_pins_11 x1.toNatClampNeg) X hH (f_pins_11, f_thrown_3) (by rw [show (f_pins_11 x1.toNatClampNeg : Int32).toInt = _ from e_12]; exact hw) rfl rfl dX48_unpin_50
  · have hw := hw.2 (z_neq (rfl : r_2.toInt = _) (rfl : (0 : Int32).toInt = 0) c_4)
    refine lv_iconst (v := 0) hx hb dX48_unpin_32 (by decide) ?_
    exact k_iret (v := 0) X hH (f_pins, f_thrown_3) hw rfl rfl dX48_unpin_33
set_option maxHeartbeats 4000000 in
theorem walkX48_unpin {l : Launch} {dC : Nat → ClassId} {dI : Nat → Nat → Nat} {cl : List vw_C} {ci : Nat} (hc : cl[ci]? = some (RX48, TX48, 27)) {ad : Nat → Nat} {d : Nat → ClassId} {sz : Nat} {f_rowTriples : Nat → Int32} {f_rowVersions : Nat → Int32} {f_rowTells : Nat → Int32} {f_rows : Int32} {f_latest : Int32} {f_pins : Nat → Int32} {f_writers : Nat → Int32} {f_sees : Nat → Int32} {f_states : Nat → Int32} {f_notes : Nat → Int32} {f_wrote : Nat → Int32} {f_waitsFor : Nat → Int32} {f_waitTriples : Nat → Int32} {f_waitTells : Nat → Int32} {f_since : Nat → Int32} {f_clock : Int32} {f_count : Int32} {f_holders : Nat → Int32} {f_queue : Nat → Int32} {f_queueFrom : Int32} {f_queueTo : Int32} {f_ring : Nat → Int32} {f_ringSize : Int32} {f_failures : Nat → Int32} {f_refusals : Nat → Int32} {f_thrown : Int32} {f_best : Nat → Int32} {x1 : Int32} {post : Int → (Int → Int) → Int → Prop} (hw : wpX48_unpin post (zF f_pins) x1.toInt) :
    Met l yX48_unpin (ws_ yX48_unpin cX48_unpin 2 (some .int)) ({ frames := 1, cells := 0, slots := 0, locals := 22 } : Room) (kPc (dC, dI) cl (tX48 d) [.ref (ad 0), .int x1] sz (wX48 ci ad d f_rowTriples f_rowVersions f_rowTells f_rows f_latest f_pins f_writers f_sees f_states f_notes f_wrote f_waitsFor f_waitTriples f_waitTells f_since f_clock f_count f_holders f_queue f_queueFrom f_queueTo f_ring f_ringSize f_failures f_refusals f_thrown f_best)) (va_Qi (fun (r : Int32) (u : (Nat → Int32) × Int32) => post r.toInt (zF (u.1)) (u.2).toInt) (kB (dC, dI) cl (tX48 d) (va_A (wX48 ci ad d f_rowTriples f_rowVersions f_rowTells f_rows f_latest f_pins f_writers f_sees f_states f_notes f_wrote f_waitsFor f_waitTriples f_waitTells f_since f_clock f_count f_holders f_queue f_queueFrom f_queueTo f_ring f_ringSize f_failures f_refusals f_thrown f_best) sz) (fun u : (Nat → Int32) × Int32 => (wX48 ci ad d f_rowTriples f_rowVersions f_rowTells f_rows f_latest (u.1) f_writers f_sees f_states f_notes f_wrote f_waitsFor f_waitTriples f_waitTells f_since f_clock f_count f_holders f_queue f_queueFrom f_queueTo f_ring f_ringSize f_failures f_refusals (u.2) f_best))) (va_A (wX48 ci ad d f_rowTriples f_rowVersions f_rowTells f_rows f_latest f_pins f_writers f_sees f_states f_notes f_wrote f_waitsFor f_waitTriples f_waitTells f_since f_clock f_count f_holders f_queue f_queueFrom f_queueTo f_ring f_ringSize f_failures f_refusals f_thrown f_best) sz)) 0 0 (va_A (wX48 ci ad d f_rowTriples f_rowVersions f_rowTells f_rows f_latest f_pins f_writers f_sees f_states f_notes f_wrote f_waitsFor f_waitTriples f_waitTells f_since f_clock f_count f_holders f_queue f_queueFrom f_queueTo f_ring f_ringSize f_failures f_refusals f_thrown f_best) sz) := by
  refine k_enter (by decide) (Nat.le_of_ble_eq_true rfl) ?_
  intro p e s m below meth c ls X hsz hH hl
  subst hsz
  generalize va_A (wX48 ci ad d f_rowTriples f_rowVersions f_rowTells f_rows f_latest f_pins f_writers f_sees f_states f_notes f_wrote f_waitsFor f_waitTriples f_waitTells f_since f_clock f_count f_holders f_queue f_queueFrom f_queueTo f_ring f_ringSize f_failures f_refusals f_thrown f_best) s.heap.size = A at hH ⊢
  have hx := X.1.1
  have hb := X.1.2.1
  have hl : lv_has ls 2 [(0, .ref (ad 0)), (1, .int x1)] := hl
  unfold wpX48_unpin at hw
  refine lv_aload_n hx hb dX48_unpin_0 rfl (lv_at hl 0 rfl) ?_
  refine lv_iload_n hx hb dX48_unpin_1 rfl (lv_at hl 1 rfl) ?_
  refine lv_if_lt (tgt := 24) hx hb dX48_unpin_2 (by decide) (fun c_1 => ?_) (fun c_1 => ?_)
  · have hw := hw.1 (z_lt (rfl : x1.toInt = _) (rfl : (0 : Int32).toInt = 0) c_1)
    refine lv_iconst (v := 0) hx hb dX48_unpin_24 (by decide) ?_
    exact atX48_unpin_25 hc X x1 0 f_pins f_thrown hw _ _ ls hH (lv_sub hl [0, 1] rfl)
  · have hw := hw.2 (z_nlt (rfl : x1.toInt = _) (rfl : (0 : Int32).toInt = 0) c_1)
    refine lv_iload_n hx hb dX48_unpin_5 rfl (lv_at hl 1 rfl) ?_
    refine lv_bipush (v := 64) hx hb dX48_unpin_6 (by decide) ?_
    refine lv_icmp_ge (tgt := 24) hx hb dX48_unpin_8 (by decide) (fun c_13 => ?_) (fun c_13 => ?_)
    · have hw := hw.1 (z_le (rfl : (64 : Int32).toInt = 64) (rfl : x1.toInt = _) c_13)
      refine lv_iconst (v := 0) hx hb dX48_unpin_24 (by decide) ?_
      exact atX48_unpin_25 hc X x1 0 f_pins f_thrown hw _ _ ls hH (lv_sub hl [0, 1] rfl)
    · have hw := hw.2 (z_nle (rfl : (64 : Int32).toInt = 64) (rfl : x1.toInt = _) c_13)
      refine lv_aload_n hx hb dX48_unpin_11 rfl (lv_at hl 0 rfl) ?_
      refine k_get X hH in_X48 0 rfl hc 5 (by decide) q6077 rfl dX48_unpin_12 ?_
      refine lv_iload_n hx hb dX48_unpin_15 rfl (lv_at hl 1 rfl) ?_
      have hq_14 := hw.1
      have hw := hw.2
      refine k_iald X hH 4 3 rfl rfl (z_in (rfl : x1.toInt = _) hq_14) dX48_unpin_16 ?_
      have e_15 := z_ld (f := f_pins) (rfl : x1.toInt = _) hq_14.1
      refine lv_if_le (tgt := 24) hx hb dX48_unpin_17 (by decide) (fun c_16 => ?_) (fun c_16 => ?_)
      · have hw := hw.1 (z_le e_15 (rfl : (0 : Int32).toInt = 0) c_16)
        refine lv_iconst (v := 0) hx hb dX48_unpin_24 (by decide) ?_
        exact atX48_unpin_25 hc X x1 0 f_pins f_thrown hw _ _ ls hH (lv_sub hl [0, 1] rfl)
      · have hw := hw.2 (z_nle e_15 (rfl : (0 : Int32).toInt = 0) c_16)
        refine lv_iconst (v := 1) hx hb dX48_unpin_20 (by decide) ?_
        refine lv_goto (tgt := 25) hx hb dX48_unpin_21 (by decide) ?_
        exact atX48_unpin_25 hc X x1 1 f_pins f_thrown hw _ _ ls hH (lv_sub hl [0, 1] rfl)
set_option maxHeartbeats 4000000 in
theorem atX48_free_14 {p : Program} {l : Launch} {e : Env} {s : State} {m : MethodId} {args : Array Value} {below : List Frame} {meth : Method} {c : Code} {dC : Nat → ClassId} {dI : Nat → Nat → Nat} {cl : List vw_C} {ci : Nat} (hc : cl[ci]? = some (RX48, TX48, 27)) {ad : Nat → Nat} {d : Nat → ClassId} {A : Nat → Prop} {post : Int → (Int → Int) → (Int → Int) → (Int → Int) → Int → Int → (Int → Int) → Prop} {f_latest : Int32} {f_pins : Nat → Int32} {f_writers : Nat → Int32} {f_sees : Nat → Int32} {f_states : Nat → Int32} {f_notes : Nat → Int32} {f_wrote : Nat → Int32} {f_waitsFor : Nat → Int32} {f_waitTriples : Nat → Int32} {f_waitTells : Nat → Int32} {f_since : Nat → Int32} {f_clock : Int32} {f_count : Int32} {f_holders : Nat → Int32} {f_queue : Nat → Int32} {f_queueFrom : Int32} {f_queueTo : Int32} {f_ring : Nat → Int32} {f_ringSize : Int32} {f_failures : Nat → Int32} {f_refusals : Nat → Int32} (X : kX p s m args meth c cX48_free 7 RX48 (some .int) (dC, dI) cl (tX48 d)) {K57 : (Int → Int) → Prop} {x1 : Int32} {x2 : Int32} {f_rowTriples : Nat → Int32} {f_rowVersions : Nat → Int32} {f_rowTells : Nat → Int32} {f_rows : Int32} {f_thrown : Int32} (hk57 : ∀ (f_best : Nat → Int32), K57 (zF f_best) → ∀ (H : Heap) (locs : List Loc) (ls : Array Slot), kH (dC, dI) cl A s.heap H locs (wX48 ci ad d f_rowTriples f_rowVersions f_rowTells f_rows f_latest f_pins f_writers f_sees f_states f_notes f_wrote f_waitsFor f_waitTriples f_waitTells f_since f_clock f_count f_holders f_queue f_queueFrom f_queueTo f_ring f_ringSize f_failures f_refusals f_thrown f_best) → lv_has ls 7 [(0, .ref (ad 0)), (2, .int x2)] → W p l e ({ frames := 2, cells := 0, slots := 0, locals := 43 } : Room) s m args below meth c H locs 0 0 (MQ below (va_Qi (fun (r : Int32) (u : (Nat → Int32) × (Nat → Int32) × (Nat → Int32) × Int32 × Int32 × (Nat → Int32)) => post r.toInt (zF (u.1)) (zF (u.2.1)) (zF (u.2.2.1)) (u.2.2.2.1).toInt (u.2.2.2.2.1).toInt (zF (u.2.2.2.2.2))) (kB (dC, dI) cl (tX48 d) A (fun u : (Nat → Int32) × (Nat → Int32) × (Nat → Int32) × Int32 × Int32 × (Nat → Int32) => (wX48 ci ad d (u.1) (u.2.1) (u.2.2.1) (u.2.2.2.1) f_latest f_pins f_writers f_sees f_states f_notes f_wrote f_waitsFor f_waitTriples f_waitTells f_since f_clock f_count f_holders f_queue f_queueFrom f_queueTo f_ring f_ringSize f_failures f_refusals (u.2.2.2.2.1) (u.2.2.2.2.2)))) A) args s 0 0 A) (F0 m 57 ls [])) :
    ∀ (nn : Nat) (x3 : Int32) (f_best : Nat → Int32), wX48_free_14 K57 x1.toInt (zF f_rowTriples) (zF f_rowVersions) f_rows.toInt nn x3.toInt (zF f_best) → ∀ (H : Heap) (locs : List Loc) (ls : Array Slot), kH (dC, dI) cl A s.heap H locs (wX48 ci ad d f_rowTriples f_rowVersions f_rowTells f_rows f_latest f_pins f_writers f_sees f_states f_notes f_wrote f_waitsFor f_waitTriples f_waitTells f_since f_clock f_count f_holders f_queue f_queueFrom f_queueTo f_ring f_ringSize f_failures f_refusals f_thrown f_best) → lv_has ls 7 [(0, .ref (ad 0)), (1, .int x1), (2, .int x2), (3, .int x3)] → W p l e ({ frames := 2, cells := 0, slots := 0, locals := 43 } : Room) s m args below meth c H locs 0 0 (MQ below (va_Qi (fun (r : Int32) (u : (Nat → Int32) × (Nat → Int32) × (Nat → Int32) × Int32 × Int32 × (Nat → Int32)) => post r.toInt (zF (u.1)) (zF (u.2.1)) (zF (u.2.2.1)) (u.2.2.2.1).toInt (u.2.2.2.2.1).toInt (zF (u.2.2.2.2.2))) (kB (dC, dI) cl (tX48 d) A (fun u : (Nat → Int32) × (Nat → Int32) × (Nat → Int32) × Int32 × Int32 × (Nat → Int32) => (wX48 ci ad d (u.1) (u.2.1) (u.2.2.1) (u.2.2.2.1) f_latest f_pins f_writers f_sees f_states f_notes f_wrote f_waitsFor f_waitTriples f_waitTells f_since f_clock f_count f_holders f_queue f_queueFrom f_queueTo f_ring f_ringSize f_failures f_refusals (u.2.2.2.2.1) (u.2.2.2.2.2)))) A) args s 0 0 A) (F0 m 14 ls []) := by
  have hx := X.1.1
  have hb := X.1.2.1
  intro nn
  induction nn with
  | zero =>
    intro x3 f_best hw
    exact False.elim hw
  | succ n ih =>
    intro x3 f_best hw H locs ls hH hl
    rw [wX48_free_14] at hw
    refine lv_iload_n hx hb dX48_free_14 rfl (lv_at hl 3 rfl) ?_
    refine lv_sipush (v := 200) hx hb dX48_free_15 (by decide) ?_
    refine lv_icmp_ge (tgt := 57) hx hb dX48_free_18 (by decide) (fun c_2 => ?_) (fun c_2 => ?_)
    · have hw := hw.1 (z_le (rfl : (200 : Int32).toInt = 200) (rfl : x3.toInt = _) c_2)
      exact hk57 f_best hw _ _ ls hH (lv_sub hl [0, 2] rfl)
    · have hw := hw.2 (z_nle (rfl : (200 : Int32).toInt = 200) (rfl : x3.toInt = _) c_2)
      refine lv_aload_n hx hb dX48_free_21 rfl (lv_at hl 0 rfl) ?_
      refine lv_iload_n hx hb dX48_free_22 rfl (lv_at hl 3 rfl) ?_
      refine lv_iload_n hx hb dX48_free_23 rfl (lv_at hl 1 rfl) ?_
      refine k_i0 hH (k_runV (As := [.int x3, .int x1]) (rest := []) X hH.1 hH.2.1 X.2.2.2 (walkX48_rowOf hc (x1 := x3) (x2 := x1) (f_rowTriples := f_rowTriples) (f_rowVersions := f_rowVersions) (f_rowTells := f_rowTells) (f_rows := f_rows) (f_latest := f_latest) (f_pins := f_pins) (f_writers := f_writers) (f_sees := f_sees) (f_states := f_states) (f_notes := f_notes) (f_wrote := f_wrote) (f_waitsFor := f_waitsFor) (f_waitTriples := f_waitTriples) (f_waitTells := f_waitTells) (f_since := f_since) (f_clock := f_clock) (f_count := f_count) (f_holders := f_holders) (f_queue := f_queue) (f_queueFrom := f_queueFrom) (f_queueTo := f_queueTo) (f_ring := f_ring) (f_ringSize := f_ringSize) (f_failures := f_failures) (f_refusals := f_refusals) (f_thrown := f_thrown) (f_best := f_best) hw) (cwV 2 X.1.2.2.2.2 gX48_85 rfl rfl rfl hX48_rowOf ⟨Nat.le_of_ble_eq_true rfl, Nat.le_of_ble_eq_true rfl⟩) hc (q0 := 0) rfl rfl hl.1 rfl (Nat.le_of_ble_eq_true rfl) dX48_free_24 ⟨Nat.le_refl 0, Nat.le_refl 0⟩) (fun r_3 _ H locs hw hH => ?_)
      have hH : kH (dC, dI) cl A s.heap H locs (wX48 ci ad d f_rowTriples f_rowVersions f_rowTells f_rows f_latest f_pins f_writers f_sees f_states f_notes f_wrote f_waitsFor f_waitTriples f_waitTells f_since f_clock f_count f_holders f_queue f_queueFrom f_queueTo f_ring f_ringSize f_failures f_refusals f_thrown f_best) := hH
      refine lv_istore (lv' := [(4, .int r_3), (0, .ref (ad 0)), (1, .int x1), (2, .int x2), (3, .int x3)]) hx hb dX48_free_27 hl (by decide) rfl (fun ls hl => ?_)
      refine lv_aload_n hx hb dX48_free_29 rfl (lv_at hl 1 rfl) ?_
      refine k_get X hH in_X48 0 rfl hc 26 (by decide) q6098 rfl dX48_free_30 ?_
      refine lv_iload_n hx hb dX48_free_33 rfl (lv_at hl 4 rfl) ?_
      refine lv_iload hx hb dX48_free_34 (lv_at hl 0 rfl) ?_
      refine lv_if_ge (tgt := 43) hx hb dX48_free_36 (by decide) (fun c_4 => ?_) (fun c_4 => ?_)
      · have hw := hw.1 (z_le (rfl : (0 : Int32).toInt = 0) (rfl : r_3.toInt = _) c_4)
        refine lv_aload_n hx hb dX48_free_43 rfl (lv_at hl 1 rfl) ?_
        refine k_get X hH in_X48 0 rfl hc 1 (by decide) q6073 rfl dX48_free_44 ?_
        refine lv_iload hx hb dX48_free_47 (lv_at hl 0 rfl) ?_
        have hq_5 := hw.1
        have hw := hw.2
        refine k_iald X hH 2 1 rfl rfl (z_in (rfl : r_3.toInt = _) hq_5) dX48_free_49 ?_
        have e_6 := z_ld (f := f_rowVersions) (rfl : r_3.toInt = _) hq_5.1
        refine lv_topi (fun v_7 ev_7 => ?_)
        have hw := hw v_7.toInt (by rw [ev_7]; exact e_6)
        have hq_9 := hw.1
        have hw := hw.2
        obtain ⟨f_best_8, ef_best_8⟩ : ∃ y : Nat → Int32, y = upd f_best x3.toNatClampNeg v_7 := ⟨_, rfl⟩
        refine k_iast X hH 19 18 rfl rfl (z_in (rfl : x3.toInt = _) hq_9) dX48_free_50 ef_best_8 (ws1 := (wX48 ci ad d f_rowTriples f_rowVersions f_rowTells f_rows f_latest f_pins f_writers f_sees f_states f_notes f_wrote f_waitsFor f_waitTriples f_waitTells f_since f_clock f_count f_holders f_queue f_queueFrom f_queueTo f_ring f_ringSize f_failures f_refusals f_thrown f_best_8)) rfl (fun H locs hH => ?_)
        have hw := hw (zF f_best_8) (by rw [ef_best_8]; exact z_st (f := f_best) (rfl : x3.toInt = _) hq_9.1 (rfl : v_7.toInt = _))
        have hq_11 := hw.1
        have hw := hw.2
        obtain ⟨x3_10, ex3_10⟩ : ∃ y : Int32, y = x3 + 1 := ⟨_, rfl⟩
        have hw := hw x3_10.toInt (by rw [ex3_10]; exact (z_x (z_add (z_m (rfl : x3.toInt = _)) (z_m (rfl : (1 : Int32).toInt = 1))) hq_11))
        refine lv_iinc (v := x3_10) (lv' := [(3, .int x3_10), (4, .int r_3), (0, .ref (ad 0)), (1, .int x1), (2, .int x2)]) hx hb dX48_free_51 hl (k := 4) rfl (by rw [ex3_10]; rfl) (by decide) rfl (fun ls hl => ?_)
        refine lv_goto (tgt := 14) hx hb dX48_free_54 (by decide) ?_
        exact ih x3_10 f_best_8 hw _ _ ls hH (lv_sub hl [2, 3, 4, 0] rfl)
      · have hw := hw.2 (z_nle (rfl : (0 : Int32).toInt = 0) (rfl : r_3.toInt = _) c_4)
        refine lv_iconst (v := (-1)) hx hb dX48_free_39 (by decide) ?_
        refine lv_goto (tgt := 50) hx hb dX48_free_40 (by decide) ?_
        have hq_13 := hw.1
        have hw := hw.2
        obtain ⟨f_best_12, ef_best_12⟩ : ∃ y : Nat → Int32, y = upd f_best x3.toNatClampNeg (-1) := ⟨_, rfl⟩
        refine k_iast X hH 19 18 rfl rfl (z_in (rfl : x3.toInt = _) hq_13) dX48_free_50 ef_best_12 (ws1 := (wX48 ci ad d f_rowTriples f_rowVersions f_rowTells f_rows f_latest f_pins f_writers f_sees f_states f_notes f_wrote f_waitsFor f_waitTriples f_waitTells f_since f_clock f_count f_holders f_queue f_queueFrom f_queueTo f_ring f_ringSize f_failures f_refusals f_thrown f_best_12)) rfl (fun H locs hH => ?_)
        have hw := hw (zF f_best_12) (by rw [ef_best_12]; exact z_st (f := f_best) (rfl : x3.toInt = _) hq_13.1 (rfl : ((-1) : Int32).toInt = (-1)))
        have hq_15 := hw.1
        have hw := hw.2
        obtain ⟨x3_14, ex3_14⟩ : ∃ y : Int32, y = x3 + 1 := ⟨_, rfl⟩
        have hw := hw x3_14.toInt (by rw [ex3_14]; exact (z_x (z_add (z_m (rfl : x3.toInt = _)) (z_m (rfl : (1 : Int32).toInt = 1))) hq_15))
        refine lv_iinc (v := x3_14) (lv' := [(3, .int x3_14), (4, .int r_3), (0, .ref (ad 0)), (1, .int x1), (2, .int x2)]) hx hb dX48_free_51 hl (k := 4) rfl (by rw [ex3_14]; rfl) (by decide) rfl (fun ls hl => ?_)
        refine lv_goto (tgt := 14) hx hb dX48_free_54 (by decide) ?_
        exact ih x3_14 f_best_12 hw _ _ ls hH (lv_sub hl [2, 3, 4, 0] rfl)
set_option maxHeartbeats 4000000 in
theorem atX48_free_129 {p : Program} {l : Launch} {e : Env} {s : State} {m : MethodId} {args : Array Value} {below : List Frame} {meth : Method} {c : Code} {dC : Nat → ClassId} {dI : Nat → Nat → Nat} {cl : List vw_C} {ci : Nat} (hc : cl[ci]? = some (RX48, TX48, 27)) {ad : Nat → Nat} {d : Nat → ClassId} {A : Nat → Prop} {post : Int → (Int → Int) → (Int → Int) → (Int → Int) → Int → Int → (Int → Int) → Prop} {f_latest : Int32} {f_pins : Nat → Int32} {f_writers : Nat → Int32} {f_sees : Nat → Int32} {f_states : Nat → Int32} {f_notes : Nat → Int32} {f_wrote : Nat → Int32} {f_waitsFor : Nat → Int32} {f_waitTriples : Nat → Int32} {f_waitTells : Nat → Int32} {f_since : Nat → Int32} {f_clock : Int32} {f_count : Int32} {f_holders : Nat → Int32} {f_queue : Nat → Int32} {f_queueFrom : Int32} {f_queueTo : Int32} {f_ring : Nat → Int32} {f_ringSize : Int32} {f_failures : Nat → Int32} {f_refusals : Nat → Int32} (X : kX p s m args meth c cX48_free 7 RX48 (some .int) (dC, dI) cl (tX48 d)) {K65 : Int → Int → (Int → Int) → (Int → Int) → (Int → Int) → Prop} {x3 : Int32} {f_rows : Int32} {f_thrown : Int32} {f_best : Nat → Int32} (hk65 : ∀ (x2 : Int32) (x4 : Int32) (f_rowTriples : Nat → Int32) (f_rowVersions : Nat → Int32) (f_rowTells : Nat → Int32), K65 x2.toInt x4.toInt (zF f_rowTriples) (zF f_rowVersions) (zF f_rowTells) → ∀ (H : Heap) (locs : List Loc) (ls : Array Slot), kH (dC, dI) cl A s.heap H locs (wX48 ci ad d f_rowTriples f_rowVersions f_rowTells f_rows f_latest f_pins f_writers f_sees f_states f_notes f_wrote f_waitsFor f_waitTriples f_waitTells f_since f_clock f_count f_holders f_queue f_queueFrom f_queueTo f_ring f_ringSize f_failures f_refusals f_thrown f_best) → lv_has ls 7 [(0, .ref (ad 0)), (2, .int x2), (3, .int x3), (4, .int x4)] → W p l e ({ frames := 2, cells := 0, slots := 0, locals := 43 } : Room) s m args below meth c H locs 0 0 (MQ below (va_Qi (fun (r : Int32) (u : (Nat → Int32) × (Nat → Int32) × (Nat → Int32) × Int32 × Int32 × (Nat → Int32)) => post r.toInt (zF (u.1)) (zF (u.2.1)) (zF (u.2.2.1)) (u.2.2.2.1).toInt (u.2.2.2.2.1).toInt (zF (u.2.2.2.2.2))) (kB (dC, dI) cl (tX48 d) A (fun u : (Nat → Int32) × (Nat → Int32) × (Nat → Int32) × Int32 × Int32 × (Nat → Int32) => (wX48 ci ad d (u.1) (u.2.1) (u.2.2.1) (u.2.2.2.1) f_latest f_pins f_writers f_sees f_states f_notes f_wrote f_waitsFor f_waitTriples f_waitTells f_since f_clock f_count f_holders f_queue f_queueFrom f_queueTo f_ring f_ringSize f_failures f_refusals (u.2.2.2.2.1) (u.2.2.2.2.2)))) A) args s 0 0 A) (F0 m 65 ls [])) :
    ∀ (x2 : Int32) (x4 : Int32) (x5 : Int32) (y0 : Int32) (f_rowTriples : Nat → Int32) (f_rowVersions : Nat → Int32) (f_rowTells : Nat → Int32), wX48_free_129 K65 x2.toInt x4.toInt x5.toInt y0.toInt (zF f_rowTriples) (zF f_rowVersions) (zF f_rowTells) → ∀ (H : Heap) (locs : List Loc) (ls : Array Slot), kH (dC, dI) cl A s.heap H locs (wX48 ci ad d f_rowTriples f_rowVersions f_rowTells f_rows f_latest f_pins f_writers f_sees f_states f_notes f_wrote f_waitsFor f_waitTriples f_waitTells f_since f_clock f_count f_holders f_queue f_queueFrom f_queueTo f_ring f_ringSize f_failures f_refusals f_thrown f_best) → lv_has ls 7 [(0, .ref (ad 0)), (2, .int x2), (3, .int x3), (4, .int x4), (5, .int x5)] → W p l e ({ frames := 2, cells := 0, slots := 0, locals := 43 } : Room) s m args below meth c H locs 0 0 (MQ below (va_Qi (fun (r : Int32) (u : (Nat → Int32) × (Nat → Int32) × (Nat → Int32) × Int32 × Int32 × (Nat → Int32)) => post r.toInt (zF (u.1)) (zF (u.2.1)) (zF (u.2.2.1)) (u.2.2.2.1).toInt (u.2.2.2.2.1).toInt (zF (u.2.2.2.2.2))) (kB (dC, dI) cl (tX48 d) A (fun u : (Nat → Int32) × (Nat → Int32) × (Nat → Int32) × Int32 × Int32 × (Nat → Int32) => (wX48 ci ad d (u.1) (u.2.1) (u.2.2.1) (u.2.2.2.1) f_latest f_pins f_writers f_sees f_states f_notes f_wrote f_waitsFor f_waitTriples f_waitTells f_since f_clock f_count f_holders f_queue f_queueFrom f_queueTo f_ring f_ringSize f_failures f_refusals (u.2.2.2.2.1) (u.2.2.2.2.2)))) A) args s 0 0 A) (F0 m 129 ls [.int y0]) := by
  have hx := X.1.1
  have hb := X.1.2.1
  intro x2 x4 x5 y0 f_rowTriples f_rowVersions f_rowTells hw H locs ls hH hl
  unfold wX48_free_129 at hw
  refine lv_istore (lv' := [(6, .int y0), (0, .ref (ad 0)), (2, .int x2), (3, .int x3), (4, .int x4), (5, .int x5)]) hx hb dX48_free_129 hl (by decide) rfl (fun ls hl => ?_)
  refine lv_iload hx hb dX48_free_131 (lv_at hl 0 rfl) ?_
  refine lv_if_eq (tgt := 139) hx hb dX48_free_133 (by decide) (fun c_25 => ?_) (fun c_25 => ?_)
  · have hw := hw.1 (z_eq (rfl : y0.toInt = _) (rfl : (0 : Int32).toInt = 0) c_25)
    refine lv_aload_n hx hb dX48_free_139 rfl (lv_at hl 1 rfl) ?_
    refine k_get X hH in_X48 0 rfl hc 0 (by decide) q6072 rfl dX48_free_140 ?_
    refine lv_iload_n hx hb dX48_free_143 rfl (lv_at hl 2 rfl) ?_
    refine lv_iload hx hb dX48_free_144 (lv_at hl 5 rfl) ?_
    have hq_27 := hw.1
    have hw := hw.2
    obtain ⟨f_rowTriples_26, ef_rowTriples_26⟩ : ∃ y : Nat → Int32, y = upd f_rowTriples x2.toNatClampNeg x5 := ⟨_, rfl⟩
    refine k_iast X hH 1 0 rfl rfl (z_in (rfl : x2.toInt = _) hq_27) dX48_free_146 ef_rowTriples_26 (ws1 := (wX48 ci ad d f_rowTriples_26 f_rowVersions f_rowTells f_rows f_latest f_pins f_writers f_sees f_states f_notes f_wrote f_waitsFor f_waitTriples f_waitTells f_since f_clock f_count f_holders f_queue f_queueFrom f_queueTo f_ring f_ringSize f_failures f_refusals f_thrown f_best)) rfl (fun H locs hH => ?_)
    have hw := hw (zF f_rowTriples_26) (by rw [ef_rowTriples_26]; exact z_st (f := f_rowTriples) (rfl : x2.toInt = _) hq_27.1 (rfl : x5.toInt = _))
    refine lv_aload_n hx hb dX48_free_147 rfl (lv_at hl 1 rfl) ?_
    refine k_get X hH in_X48 0 rfl hc 1 (by decide) q6073 rfl dX48_free_148 ?_
    refine lv_iload_n hx hb dX48_free_151 rfl (lv_at hl 2 rfl) ?_
    refine lv_aload_n hx hb dX48_free_152 rfl (lv_at hl 1 rfl) ?_
    refine k_get X hH in_X48 0 rfl hc 1 (by decide) q6073 rfl dX48_free_153 ?_
    refine lv_iload hx hb dX48_free_156 (lv_at hl 4 rfl) ?_
    have hq_28 := hw.1
    have hw := hw.2
    refine k_iald X hH 2 1 rfl rfl (z_in (rfl : x4.toInt = _) hq_28) dX48_free_158 ?_
    have e_29 := z_ld (f := f_rowVersions) (rfl : x4.toInt = _) hq_28.1
    refine lv_topi (fun v_30 ev_30 => ?_)
    have hw := hw v_30.toInt (by rw [ev_30]; exact e_29)
    obtain ⟨f_rowVersions_31, ef_rowVersions_31⟩ : ∃ y : Nat → Int32, y = upd f_rowVersions x2.toNatClampNeg v_30 := ⟨_, rfl⟩
    refine k_iast X hH 2 1 rfl rfl (z_in (rfl : x2.toInt = _) hq_27) dX48_free_159 ef_rowVersions_31 (ws1 := (wX48 ci ad d f_rowTriples_26 f_rowVersions_31 f_rowTells f_rows f_latest f_pins f_writers f_sees f_states f_notes f_wrote f_waitsFor f_waitTriples f_waitTells f_since f_clock f_count f_holders f_queue f_queueFrom f_queueTo f_ring f_ringSize f_failures f_refusals f_thrown f_best)) rfl (fun H locs hH => ?_)
    have hw := hw (zF f_rowVersions_31) (by rw [ef_rowVersions_31]; exact z_st (f := f_rowVersions) (rfl : x2.toInt = _) hq_27.1 (rfl : v_30.toInt = _))
    refine lv_aload_n hx hb dX48_free_160 rfl (lv_at hl 1 rfl) ?_
    refine k_get X hH in_X48 0 rfl hc 2 (by decide) q6074 rfl dX48_free_161 ?_
    refine lv_iload_n hx hb dX48_free_164 rfl (lv_at hl 2 rfl) ?_
    refine lv_aload_n hx hb dX48_free_165 rfl (lv_at hl 1 rfl) ?_
    refine k_get X hH in_X48 0 rfl hc 2 (by decide) q6074 rfl dX48_free_166 ?_
    refine lv_iload hx hb dX48_free_169 (lv_at hl 4 rfl) ?_
    refine k_zald X hH 3 2 rfl rfl (z_in (rfl : x4.toInt = _) hq_28) dX48_free_171 ?_
    have e_32 := z_ld (f := f_rowTells) (rfl : x4.toInt = _) hq_28.1
    refine lv_topi (fun v_33 ev_33 => ?_)
    have hw := hw v_33.toInt (by rw [ev_33]; exact e_32)
    have hq_35 := hw.1
    have hw := hw.2
    obtain ⟨f_rowTells_34, ef_rowTells_34⟩ : ∃ y : Nat → Int32, y = upd f_rowTells x2.toNatClampNeg (vp_nar .boolean v_33) := ⟨_, rfl⟩
    refine k_zast X hH 3 2 rfl rfl (z_in (rfl : x2.toInt = _) hq_27) dX48_free_172 ef_rowTells_34 (ws1 := (wX48 ci ad d f_rowTriples_26 f_rowVersions_31 f_rowTells_34 f_rows f_latest f_pins f_writers f_sees f_states f_notes f_wrote f_waitsFor f_waitTriples f_waitTells f_since f_clock f_count f_holders f_queue f_queueFrom f_queueTo f_ring f_ringSize f_failures f_refusals f_thrown f_best)) rfl (fun H locs hH => ?_)
    have hw := hw (zF f_rowTells_34) (by rw [ef_rowTells_34]; exact z_st (f := f_rowTells) (rfl : x2.toInt = _) hq_27.1 (z_narZ (rfl : v_33.toInt = _) hq_35))
    have hq_37 := hw.1
    have hw := hw.2
    obtain ⟨x2_36, ex2_36⟩ : ∃ y : Int32, y = x2 + 1 := ⟨_, rfl⟩
    have hw := hw x2_36.toInt (by rw [ex2_36]; exact (z_x (z_add (z_m (rfl : x2.toInt = _)) (z_m (rfl : (1 : Int32).toInt = 1))) hq_37))
    refine lv_iinc (v := x2_36) (lv' := [(2, .int x2_36), (6, .int y0), (0, .ref (ad 0)), (3, .int x3), (4, .int x4), (5, .int x5)]) hx hb dX48_free_173 hl (k := 2) rfl (by rw [ex2_36]; rfl) (by decide) rfl (fun ls hl => ?_)
    have hq_39 := hw.1
    have hw := hw.2
    obtain ⟨x4_38, ex4_38⟩ : ∃ y : Int32, y = x4 + 1 := ⟨_, rfl⟩
    have hw := hw x4_38.toInt (by rw [ex4_38]; exact (z_x (z_add (z_m (rfl : x4.toInt = _)) (z_m (rfl : (1 : Int32).toInt = 1))) hq_39))
    refine lv_iinc (v := x4_38) (lv' := [(4, .int x4_38), (2, .int x2_36), (6, .int y0), (0, .ref (ad 0)), (3, .int x3), (5, .int x5)]) hx hb dX48_free_176 hl (k := 4) rfl (by rw [ex4_38]; rfl) (by decide) rfl (fun ls hl => ?_)
    refine lv_goto (tgt := 65) hx hb dX48_free_179 (by decide) ?_
    exact hk65 x2_36 x4_38 f_rowTriples_26 f_rowVersions_31 f_rowTells_34 hw _ _ ls hH (lv_sub hl [3, 1, 4, 0] rfl)
  · have hw := hw.2 (z_neq (rfl : y0.toInt = _) (rfl : (0 : Int32).toInt = 0) c_25)
    refine lv_goto (tgt := 176) hx hb dX48_free_136 (by decide) ?_
    have hq_41 := hw.1
    have hw := hw.2
    obtain ⟨x4_40, ex4_40⟩ : ∃ y : Int32, y = x4 + 1 := ⟨_, rfl⟩
    have hw := hw x4_40.toInt (by rw [ex4_40]; exact (z_x (z_add (z_m (rfl : x4.toInt = _)) (z_m (rfl : (1 : Int32).toInt = 1))) hq_41))
    refine lv_iinc (v := x4_40) (lv' := [(4, .int x4_40), (6, .int y0), (0, .ref (ad 0)), (2, .int x2), (3, .int x3), (5, .int x5)]) hx hb dX48_free_176 hl (k := 4) rfl (by rw [ex4_40]; rfl) (by decide) rfl (fun ls hl => ?_)
    refine lv_goto (tgt := 65) hx hb dX48_free_179 (by decide) ?_
    exact hk65 x2 x4_40 f_rowTriples f_rowVersions f_rowTells hw _ _ ls hH (lv_sub hl [2, 3, 4, 0] rfl)
set_option maxHeartbeats 4000000 in
theorem atX48_free_65 {p : Program} {l : Launch} {e : Env} {s : State} {m : MethodId} {args : Array Value} {below : List Frame} {meth : Method} {c : Code} {dC : Nat → ClassId} {dI : Nat → Nat → Nat} {cl : List vw_C} {ci : Nat} (hc : cl[ci]? = some (RX48, TX48, 27)) {ad : Nat → Nat} {d : Nat → ClassId} {A : Nat → Prop} {post : Int → (Int → Int) → (Int → Int) → (Int → Int) → Int → Int → (Int → Int) → Prop} {f_latest : Int32} {f_pins : Nat → Int32} {f_writers : Nat → Int32} {f_sees : Nat → Int32} {f_states : Nat → Int32} {f_notes : Nat → Int32} {f_wrote : Nat → Int32} {f_waitsFor : Nat → Int32} {f_waitTriples : Nat → Int32} {f_waitTells : Nat → Int32} {f_since : Nat → Int32} {f_clock : Int32} {f_count : Int32} {f_holders : Nat → Int32} {f_queue : Nat → Int32} {f_queueFrom : Int32} {f_queueTo : Int32} {f_ring : Nat → Int32} {f_ringSize : Int32} {f_failures : Nat → Int32} {f_refusals : Nat → Int32} (X : kX p s m args meth c cX48_free 7 RX48 (some .int) (dC, dI) cl (tX48 d)) {K182 : Int → (Int → Int) → (Int → Int) → (Int → Int) → Prop} {x3 : Int32} {f_rows : Int32} {f_thrown : Int32} {f_best : Nat → Int32} (hk182 : ∀ (x2 : Int32) (f_rowTriples : Nat → Int32) (f_rowVersions : Nat → Int32) (f_rowTells : Nat → Int32), K182 x2.toInt (zF f_rowTriples) (zF f_rowVersions) (zF f_rowTells) → ∀ (H : Heap) (locs : List Loc) (ls : Array Slot), kH (dC, dI) cl A s.heap H locs (wX48 ci ad d f_rowTriples f_rowVersions f_rowTells f_rows f_latest f_pins f_writers f_sees f_states f_notes f_wrote f_waitsFor f_waitTriples f_waitTells f_since f_clock f_count f_holders f_queue f_queueFrom f_queueTo f_ring f_ringSize f_failures f_refusals f_thrown f_best) → lv_has ls 7 [(0, .ref (ad 0)), (2, .int x2), (3, .int x3)] → W p l e ({ frames := 2, cells := 0, slots := 0, locals := 43 } : Room) s m args below meth c H locs 0 0 (MQ below (va_Qi (fun (r : Int32) (u : (Nat → Int32) × (Nat → Int32) × (Nat → Int32) × Int32 × Int32 × (Nat → Int32)) => post r.toInt (zF (u.1)) (zF (u.2.1)) (zF (u.2.2.1)) (u.2.2.2.1).toInt (u.2.2.2.2.1).toInt (zF (u.2.2.2.2.2))) (kB (dC, dI) cl (tX48 d) A (fun u : (Nat → Int32) × (Nat → Int32) × (Nat → Int32) × Int32 × Int32 × (Nat → Int32) => (wX48 ci ad d (u.1) (u.2.1) (u.2.2.1) (u.2.2.2.1) f_latest f_pins f_writers f_sees f_states f_notes f_wrote f_waitsFor f_waitTriples f_waitTells f_since f_clock f_count f_holders f_queue f_queueFrom f_queueTo f_ring f_ringSize f_failures f_refusals (u.2.2.2.2.1) (u.2.2.2.2.2)))) A) args s 0 0 A) (F0 m 182 ls [])) :
    ∀ (nn : Nat) (x2 : Int32) (x4 : Int32) (f_rowTriples : Nat → Int32) (f_rowVersions : Nat → Int32) (f_rowTells : Nat → Int32), wX48_free_65 K182 x3.toInt (zF f_best) nn x2.toInt x4.toInt (zF f_rowTriples) (zF f_rowVersions) (zF f_rowTells) → ∀ (H : Heap) (locs : List Loc) (ls : Array Slot), kH (dC, dI) cl A s.heap H locs (wX48 ci ad d f_rowTriples f_rowVersions f_rowTells f_rows f_latest f_pins f_writers f_sees f_states f_notes f_wrote f_waitsFor f_waitTriples f_waitTells f_since f_clock f_count f_holders f_queue f_queueFrom f_queueTo f_ring f_ringSize f_failures f_refusals f_thrown f_best) → lv_has ls 7 [(0, .ref (ad 0)), (2, .int x2), (3, .int x3), (4, .int x4)] → W p l e ({ frames := 2, cells := 0, slots := 0, locals := 43 } : Room) s m args below meth c H locs 0 0 (MQ below (va_Qi (fun (r : Int32) (u : (Nat → Int32) × (Nat → Int32) × (Nat → Int32) × Int32 × Int32 × (Nat → Int32)) => post r.toInt (zF (u.1)) (zF (u.2.1)) (zF (u.2.2.1)) (u.2.2.2.1).toInt (u.2.2.2.2.1).toInt (zF (u.2.2.2.2.2))) (kB (dC, dI) cl (tX48 d) A (fun u : (Nat → Int32) × (Nat → Int32) × (Nat → Int32) × Int32 × Int32 × (Nat → Int32) => (wX48 ci ad d (u.1) (u.2.1) (u.2.2.1) (u.2.2.2.1) f_latest f_pins f_writers f_sees f_states f_notes f_wrote f_waitsFor f_waitTriples f_waitTells f_since f_clock f_count f_holders f_queue f_queueFrom f_queueTo f_ring f_ringSize f_failures f_refusals (u.2.2.2.2.1) (u.2.2.2.2.2)))) A) args s 0 0 A) (F0 m 65 ls []) := by
  have hx := X.1.1
  have hb := X.1.2.1
  intro nn
  induction nn with
  | zero =>
    intro x2 x4 f_rowTriples f_rowVersions f_rowTells hw
    exact False.elim hw
  | succ n ih =>
    intro x2 x4 f_rowTriples f_rowVersions f_rowTells hw H locs ls hH hl
    rw [wX48_free_65] at hw
    refine lv_iload hx hb dX48_free_65 (lv_at hl 3 rfl) ?_
    refine lv_iload_n hx hb dX48_free_67 rfl (lv_at hl 2 rfl) ?_
    refine lv_icmp_ge (tgt := 182) hx hb dX48_free_68 (by decide) (fun c_17 => ?_) (fun c_17 => ?_)
    · have hw := hw.1 (z_le (rfl : x3.toInt = _) (rfl : x4.toInt = _) c_17)
      exact hk182 x2 f_rowTriples f_rowVersions f_rowTells hw _ _ ls hH (lv_sub hl [0, 1, 2] rfl)
    · have hw := hw.2 (z_nle (rfl : x3.toInt = _) (rfl : x4.toInt = _) c_17)
      refine lv_aload_n hx hb dX48_free_71 rfl (lv_at hl 0 rfl) ?_
      refine k_get X hH in_X48 0 rfl hc 0 (by decide) q6072 rfl dX48_free_72 ?_
      refine lv_iload hx hb dX48_free_75 (lv_at hl 3 rfl) ?_
      have hq_18 := hw.1
      have hw := hw.2
      refine k_iald X hH 1 0 rfl rfl (z_in (rfl : x4.toInt = _) hq_18) dX48_free_77 ?_
      have e_19 := z_ld (f := f_rowTriples) (rfl : x4.toInt = _) hq_18.1
      refine lv_topi (fun x5_20 ex5_20 => ?_)
      have hw := hw x5_20.toInt (by rw [ex5_20]; exact e_19)
      refine lv_istore (lv' := [(5, .int x5_20), (0, .ref (ad 0)), (2, .int x2), (3, .int x3), (4, .int x4)]) hx hb dX48_free_78 hl (by decide) rfl (fun ls hl => ?_)
      refine lv_aload_n hx hb dX48_free_80 rfl (lv_at hl 1 rfl) ?_
      refine k_get X hH in_X48 0 rfl hc 1 (by decide) q6073 rfl dX48_free_81 ?_
      refine lv_iload hx hb dX48_free_84 (lv_at hl 4 rfl) ?_
      refine k_iald X hH 2 1 rfl rfl (z_in (rfl : x4.toInt = _) hq_18) dX48_free_86 ?_
      have e_21 := z_ld (f := f_rowVersions) (rfl : x4.toInt = _) hq_18.1
      refine lv_aload_n hx hb dX48_free_87 rfl (lv_at hl 1 rfl) ?_
      refine k_get X hH in_X48 0 rfl hc 26 (by decide) q6098 rfl dX48_free_88 ?_
      refine lv_iload hx hb dX48_free_91 (lv_at hl 0 rfl) ?_
      have hq_22 := hw.1
      have hw := hw.2
      refine k_iald X hH 19 18 rfl rfl (z_in (rfl : x5_20.toInt = _) hq_22) dX48_free_93 ?_
      have e_23 := z_ld (f := f_best) (rfl : x5_20.toInt = _) hq_22.1
      refine lv_icmp_lt (tgt := 124) hx hb dX48_free_94 (by decide) (fun c_24 => ?_) (fun c_24 => ?_)
      · have hw := hw.1 (z_lt e_21 e_23 c_24)
        refine lv_iconst (v := 1) hx hb dX48_free_124 (by decide) ?_
        refine lv_goto (tgt := 129) hx hb dX48_free_125 (by decide) ?_
        exact atX48_free_129 hc X (fun x2 x4 f_rowTriples f_rowVersions f_rowTells hw H locs ls hH hl => ih x2 x4 f_rowTriples f_rowVersions f_rowTells hw _ _ ls hH (lv_sub hl [0, 1, 2, 3] rfl)) x2 x4 x5_20 1 f_rowTriples f_rowVersions f_rowTells hw _ _ ls hH (lv_sub hl [1, 2, 3, 4, 0] rfl)
      · have hw := hw.2 (z_nlt e_21 e_23 c_24)
        refine lv_aload_n hx hb dX48_free_97 rfl (lv_at hl 1 rfl) ?_
        refine k_get X hH in_X48 0 rfl hc 1 (by decide) q6073 rfl dX48_free_98 ?_
        refine lv_iload hx hb dX48_free_101 (lv_at hl 4 rfl) ?_
        refine k_iald X hH 2 1 rfl rfl (z_in (rfl : x4.toInt = _) hq_18) dX48_free_103 ?_
        have e_42 := z_ld (f := f_rowVersions) (rfl : x4.toInt = _) hq_18.1
        refine lv_aload_n hx hb dX48_free_104 rfl (lv_at hl 1 rfl) ?_
        refine k_get X hH in_X48 0 rfl hc 26 (by decide) q6098 rfl dX48_free_105 ?_
        refine lv_iload hx hb dX48_free_108 (lv_at hl 0 rfl) ?_
        refine k_iald X hH 19 18 rfl rfl (z_in (rfl : x5_20.toInt = _) hq_22) dX48_free_110 ?_
        have e_43 := z_ld (f := f_best) (rfl : x5_20.toInt = _) hq_22.1
        refine lv_icmp_ne (tgt := 128) hx hb dX48_free_111 (by decide) (fun c_44 => ?_) (fun c_44 => ?_)
        · have hw := hw.2 (z_ne e_42 e_43 c_44)
          refine lv_iconst (v := 0) hx hb dX48_free_128 (by decide) ?_
          exact atX48_free_129 hc X (fun x2 x4 f_rowTriples f_rowVersions f_rowTells hw H locs ls hH hl => ih x2 x4 f_rowTriples f_rowVersions f_rowTells hw _ _ ls hH (lv_sub hl [0, 1, 2, 3] rfl)) x2 x4 x5_20 0 f_rowTriples f_rowVersions f_rowTells hw _ _ ls hH (lv_sub hl [1, 2, 3, 4, 0] rfl)
        · have hw := hw.1 (z_eq e_42 e_43 c_44)
          refine lv_aload_n hx hb dX48_free_114 rfl (lv_at hl 1 rfl) ?_
          refine k_get X hH in_X48 0 rfl hc 2 (by decide) q6074 rfl dX48_free_115 ?_
          refine lv_iload hx hb dX48_free_118 (lv_at hl 4 rfl) ?_
          refine k_zald X hH 3 2 rfl rfl (z_in (rfl : x4.toInt = _) hq_18) dX48_free_120 ?_
          have e_45 := z_ld (f := f_rowTells) (rfl : x4.toInt = _) hq_18.1
          refine lv_if_ne (tgt := 128) hx hb dX48_free_121 (by decide) (fun c_46 => ?_) (fun c_46 => ?_)
          · have hw := hw.2 (z_ne e_45 (rfl : (0 : Int32).toInt = 0) c_46)
            refine lv_iconst (v := 0) hx hb dX48_free_128 (by decide) ?_
            exact atX48_free_129 hc X (fun x2 x4 f_rowTriples f_rowVersions f_rowTells hw H locs ls hH hl => ih x2 x4 f_rowTriples f_rowVersions f_rowTells hw _ _ ls hH (lv_sub hl [0, 1, 2, 3] rfl)) x2 x4 x5_20 0 f_rowTriples f_rowVersions f_rowTells hw _ _ ls hH (lv_sub hl [1, 2, 3, 4, 0] rfl)
          · have hw := hw.1 (z_eq e_45 (rfl : (0 : Int32).toInt = 0) c_46)
            refine lv_iconst (v := 1) hx hb dX48_free_124 (by decide) ?_
            refine lv_goto (tgt := 129) hx hb dX48_free_125 (by decide) ?_
            exact atX48_free_129 hc X (fun x2 x4 f_rowTriples f_rowVersions f_rowTells hw H locs ls hH hl => ih x2 x4 f_rowTriples f_rowVersions f_rowTells hw _ _ ls hH (lv_sub hl [0, 1, 2, 3] rfl)) x2 x4 x5_20 1 f_rowTriples f_rowVersions f_rowTells hw _ _ ls hH (lv_sub hl [1, 2, 3, 4, 0] rfl)
set_option maxHeartbeats 4000000 in
theorem walkX48_free {l : Launch} {dC : Nat → ClassId} {dI : Nat → Nat → Nat} {cl : List vw_C} {ci : Nat} (hc : cl[ci]? = some (RX48, TX48, 27)) {ad : Nat → Nat} {d : Nat → ClassId} {sz : Nat} {f_rowTriples : Nat → Int32} {f_rowVersions : Nat → Int32} {f_rowTells : Nat → Int32} {f_rows : Int32} {f_latest : Int32} {f_pins : Nat → Int32} {f_writers : Nat → Int32} {f_sees : Nat → Int32} {f_states : Nat → Int32} {f_notes : Nat → Int32} {f_wrote : Nat → Int32} {f_waitsFor : Nat → Int32} {f_waitTriples : Nat → Int32} {f_waitTells : Nat → Int32} {f_since : Nat → Int32} {f_clock : Int32} {f_count : Int32} {f_holders : Nat → Int32} {f_queue : Nat → Int32} {f_queueFrom : Int32} {f_queueTo : Int32} {f_ring : Nat → Int32} {f_ringSize : Int32} {f_failures : Nat → Int32} {f_refusals : Nat → Int32} {f_thrown : Int32} {f_best : Nat → Int32}  {post : Int → (Int → Int) → (Int → Int) → (Int → Int) → Int → Int → (Int → Int) → Prop} (hw : wpX48_free post (zF f_rowTriples) (zF f_rowVersions) (zF f_rowTells) f_rows.toInt f_latest.toInt (zF f_pins) (zF f_sees) (zF f_states) f_count.toInt (zF f_best) ) :
    Met l yX48_free (ws_ yX48_free cX48_free 7 (some .int)) ({ frames := 2, cells := 0, slots := 0, locals := 43 } : Room) (kPc (dC, dI) cl (tX48 d) [.ref (ad 0)] sz (wX48 ci ad d f_rowTriples f_rowVersions f_rowTells f_rows f_latest f_pins f_writers f_sees f_states f_notes f_wrote f_waitsFor f_waitTriples f_waitTells f_since f_clock f_count f_holders f_queue f_queueFrom f_queueTo f_ring f_ringSize f_failures f_refusals f_thrown f_best)) (va_Qi (fun (r : Int32) (u : (Nat → Int32) × (Nat → Int32) × (Nat → Int32) × Int32 × Int32 × (Nat → Int32)) => post r.toInt (zF (u.1)) (zF (u.2.1)) (zF (u.2.2.1)) (u.2.2.2.1).toInt (u.2.2.2.2.1).toInt (zF (u.2.2.2.2.2))) (kB (dC, dI) cl (tX48 d) (va_A (wX48 ci ad d f_rowTriples f_rowVersions f_rowTells f_rows f_latest f_pins f_writers f_sees f_states f_notes f_wrote f_waitsFor f_waitTriples f_waitTells f_since f_clock f_count f_holders f_queue f_queueFrom f_queueTo f_ring f_ringSize f_failures f_refusals f_thrown f_best) sz) (fun u : (Nat → Int32) × (Nat → Int32) × (Nat → Int32) × Int32 × Int32 × (Nat → Int32) => (wX48 ci ad d (u.1) (u.2.1) (u.2.2.1) (u.2.2.2.1) f_latest f_pins f_writers f_sees f_states f_notes f_wrote f_waitsFor f_waitTriples f_waitTells f_since f_clock f_count f_holders f_queue f_queueFrom f_queueTo f_ring f_ringSize f_failures f_refusals (u.2.2.2.2.1) (u.2.2.2.2.2)))) (va_A (wX48 ci ad d f_rowTriples f_rowVersions f_rowTells f_rows f_latest f_pins f_writers f_sees f_states f_notes f_wrote f_waitsFor f_waitTriples f_waitTells f_since f_clock f_count f_holders f_queue f_queueFrom f_queueTo f_ring f_ringSize f_failures f_refusals f_thrown f_best) sz)) 0 0 (va_A (wX48 ci ad d f_rowTriples f_rowVersions f_rowTells f_rows f_latest f_pins f_writers f_sees f_states f_notes f_wrote f_waitsFor f_waitTriples f_waitTells f_since f_clock f_count f_holders f_queue f_queueFrom f_queueTo f_ring f_ringSize f_failures f_refusals f_thrown f_best) sz) := by
  refine k_enter (by decide) (Nat.le_of_ble_eq_true rfl) ?_
  intro p e s m below meth c ls X hsz hH hl
  subst hsz
  generalize va_A (wX48 ci ad d f_rowTriples f_rowVersions f_rowTells f_rows f_latest f_pins f_writers f_sees f_states f_notes f_wrote f_waitsFor f_waitTriples f_waitTells f_since f_clock f_count f_holders f_queue f_queueFrom f_queueTo f_ring f_ringSize f_failures f_refusals f_thrown f_best) s.heap.size = A at hH ⊢
  have hx := X.1.1
  have hb := X.1.2.1
  have hl : lv_has ls 7 [(0, .ref (ad 0))] := hl
  unfold wpX48_free at hw
  refine lv_aload_n hx hb dX48_free_0 rfl (lv_at hl 0 rfl) ?_
  refine lv_iconst (v := 0) hx hb dX48_free_1 (by decide) ?_
  refine k_put X hH in_X48 tyX48_ok nmX48 0 rfl hc 25 (by decide) q6097 rfl (ty := .int) rfl rfl rfl (Nat.le_of_ble_eq_true rfl) dX48_free_2 (ws1 := (wX48 ci ad d f_rowTriples f_rowVersions f_rowTells f_rows f_latest f_pins f_writers f_sees f_states f_notes f_wrote f_waitsFor f_waitTriples f_waitTells f_since f_clock f_count f_holders f_queue f_queueFrom f_queueTo f_ring f_ringSize f_failures f_refusals 0 f_best)) rfl (fun H locs hH => ?_)
  refine lv_aload_n hx hb dX48_free_5 rfl (lv_at hl 0 rfl) ?_
  refine k_i0 hH (k_runV (As := []) (rest := []) X hH.1 hH.2.1 X.2.2.2 (walkX48_leastKept hc (f_rowTriples := f_rowTriples) (f_rowVersions := f_rowVersions) (f_rowTells := f_rowTells) (f_rows := f_rows) (f_latest := f_latest) (f_pins := f_pins) (f_writers := f_writers) (f_sees := f_sees) (f_states := f_states) (f_notes := f_notes) (f_wrote := f_wrote) (f_waitsFor := f_waitsFor) (f_waitTriples := f_waitTriples) (f_waitTells := f_waitTells) (f_since := f_since) (f_clock := f_clock) (f_count := f_count) (f_holders := f_holders) (f_queue := f_queue) (f_queueFrom := f_queueFrom) (f_queueTo := f_queueTo) (f_ring := f_ring) (f_ringSize := f_ringSize) (f_failures := f_failures) (f_refusals := f_refusals) (f_thrown := 0) (f_best := f_best) hw) (cwV 0 X.1.2.2.2.2 gX48_75 rfl rfl rfl hX48_leastKept ⟨Nat.le_of_ble_eq_true rfl, Nat.le_of_ble_eq_true rfl⟩) hc (q0 := 0) rfl rfl hl.1 rfl (Nat.le_of_ble_eq_true rfl) dX48_free_6 ⟨Nat.le_refl 0, Nat.le_refl 0⟩) (fun r_1 _ H locs hw hH => ?_)
  have hH : kH (dC, dI) cl A s.heap H locs (wX48 ci ad d f_rowTriples f_rowVersions f_rowTells f_rows f_latest f_pins f_writers f_sees f_states f_notes f_wrote f_waitsFor f_waitTriples f_waitTells f_since f_clock f_count f_holders f_queue f_queueFrom f_queueTo f_ring f_ringSize f_failures f_refusals 0 f_best) := hH
  refine lv_istore_n (lv' := [(1, .int r_1), (0, .ref (ad 0))]) hx hb dX48_free_9 rfl hl (by decide) rfl (fun ls hl => ?_)
  refine lv_iconst (v := 0) hx hb dX48_free_10 (by decide) ?_
  refine lv_istore_n (lv' := [(2, .int 0), (1, .int r_1), (0, .ref (ad 0))]) hx hb dX48_free_11 rfl hl (by decide) rfl (fun ls hl => ?_)
  refine lv_iconst (v := 0) hx hb dX48_free_12 (by decide) ?_
  refine lv_istore_n (lv' := [(3, .int 0), (2, .int 0), (1, .int r_1), (0, .ref (ad 0))]) hx hb dX48_free_13 rfl hl (by decide) rfl (fun ls hl => ?_)
  obtain ⟨fu, hw⟩ := hw
  refine atX48_free_14 hc X ?_ fu 0 f_best hw _ _ ls hH (lv_sub hl [3, 2, 1, 0] rfl)
  · intro f_best_16 hw H locs ls hH hl
    refine lv_aload_n hx hb dX48_free_57 rfl (lv_at hl 0 rfl) ?_
    refine k_get X hH in_X48 0 rfl hc 3 (by decide) q6075 rfl dX48_free_58 ?_
    refine lv_istore_n (lv' := [(3, .int f_rows), (0, .ref (ad 0)), (2, .int 0)]) hx hb dX48_free_61 rfl hl (by decide) rfl (fun ls hl => ?_)
    refine lv_iconst (v := 0) hx hb dX48_free_62 (by decide) ?_
    refine lv_istore (lv' := [(4, .int 0), (3, .int f_rows), (0, .ref (ad 0)), (2, .int 0)]) hx hb dX48_free_63 hl (by decide) rfl (fun ls hl => ?_)
    obtain ⟨fu, hw⟩ := hw
    refine atX48_free_65 hc X ?_ fu 0 0 f_rowTriples f_rowVersions f_rowTells hw _ _ ls hH (lv_sub hl [2, 3, 1, 0] rfl)
    · intro x2_47 f_rowTriples_48 f_rowVersions_49 f_rowTells_50 hw H locs ls hH hl
      refine lv_aload_n hx hb dX48_free_182 rfl (lv_at hl 0 rfl) ?_
      refine lv_iload_n hx hb dX48_free_183 rfl (lv_at hl 1 rfl) ?_
      refine k_put X hH in_X48 tyX48_ok nmX48 0 rfl hc 3 (by decide) q6075 rfl (ty := .int) rfl rfl rfl (Nat.le_of_ble_eq_true rfl) dX48_free_184 (ws1 := (wX48 ci ad d f_rowTriples_48 f_rowVersions_49 f_rowTells_50 x2_47 f_latest f_pins f_writers f_sees f_states f_notes f_wrote f_waitsFor f_waitTriples f_waitTells f_since f_clock f_count f_holders f_queue f_queueFrom f_queueTo f_ring f_ringSize f_failures f_refusals 0 f_best_16)) rfl (fun H locs hH => ?_)
      refine lv_iload_n hx hb dX48_free_187 rfl (lv_at hl 2 rfl) ?_
      refine lv_iload_n hx hb dX48_free_188 rfl (lv_at hl 1 rfl) ?_
      refine lv_isub hx hb dX48_free_189 ?_
      have e_51 := z_sub (z_m (rfl : f_rows.toInt = _)) (z_m (rfl : x2_47.toInt = _))
      have hq_52 := hw.1
      have hw := hw.2
      have e_53 := z_x e_51 hq_52
      exact k_iret (v := f_rows - x2_47) X hH (f_rowTriples_48, f_rowVersions_49, f_rowTells_50, x2_47, 0, f_best_16) (by rw [show (f_rows - x2_47 : Int32).toInt = _ from e_53]; exact hw) rfl rfl dX48_free_190
set_option maxHeartbeats 4000000 in
theorem walkX48_rows {l : Launch} {dC : Nat → ClassId} {dI : Nat → Nat → Nat} {cl : List vw_C} {ci : Nat} (hc : cl[ci]? = some (RX48, TX48, 27)) {ad : Nat → Nat} {d : Nat → ClassId} {sz : Nat} {f_rowTriples : Nat → Int32} {f_rowVersions : Nat → Int32} {f_rowTells : Nat → Int32} {f_rows : Int32} {f_latest : Int32} {f_pins : Nat → Int32} {f_writers : Nat → Int32} {f_sees : Nat → Int32} {f_states : Nat → Int32} {f_notes : Nat → Int32} {f_wrote : Nat → Int32} {f_waitsFor : Nat → Int32} {f_waitTriples : Nat → Int32} {f_waitTells : Nat → Int32} {f_since : Nat → Int32} {f_clock : Int32} {f_count : Int32} {f_holders : Nat → Int32} {f_queue : Nat → Int32} {f_queueFrom : Int32} {f_queueTo : Int32} {f_ring : Nat → Int32} {f_ringSize : Int32} {f_failures : Nat → Int32} {f_refusals : Nat → Int32} {f_thrown : Int32} {f_best : Nat → Int32}  {post : Int → Int → Prop} (hw : wpX48_rows post f_rows.toInt ) :
    Met l yX48_rows (ws_ yX48_rows cX48_rows 1 (some .int)) ({ frames := 0, cells := 0, slots := 0, locals := 0 } : Room) (kPc (dC, dI) cl (tX48 d) [.ref (ad 0)] sz (wX48 ci ad d f_rowTriples f_rowVersions f_rowTells f_rows f_latest f_pins f_writers f_sees f_states f_notes f_wrote f_waitsFor f_waitTriples f_waitTells f_since f_clock f_count f_holders f_queue f_queueFrom f_queueTo f_ring f_ringSize f_failures f_refusals f_thrown f_best)) (va_Qi (fun (r : Int32) (u : Int32) => post r.toInt (u).toInt) (kB (dC, dI) cl (tX48 d) (va_A (wX48 ci ad d f_rowTriples f_rowVersions f_rowTells f_rows f_latest f_pins f_writers f_sees f_states f_notes f_wrote f_waitsFor f_waitTriples f_waitTells f_since f_clock f_count f_holders f_queue f_queueFrom f_queueTo f_ring f_ringSize f_failures f_refusals f_thrown f_best) sz) (fun u : Int32 => (wX48 ci ad d f_rowTriples f_rowVersions f_rowTells f_rows f_latest f_pins f_writers f_sees f_states f_notes f_wrote f_waitsFor f_waitTriples f_waitTells f_since f_clock f_count f_holders f_queue f_queueFrom f_queueTo f_ring f_ringSize f_failures f_refusals (u) f_best))) (va_A (wX48 ci ad d f_rowTriples f_rowVersions f_rowTells f_rows f_latest f_pins f_writers f_sees f_states f_notes f_wrote f_waitsFor f_waitTriples f_waitTells f_since f_clock f_count f_holders f_queue f_queueFrom f_queueTo f_ring f_ringSize f_failures f_refusals f_thrown f_best) sz)) 0 0 (va_A (wX48 ci ad d f_rowTriples f_rowVersions f_rowTells f_rows f_latest f_pins f_writers f_sees f_states f_notes f_wrote f_waitsFor f_waitTriples f_waitTells f_since f_clock f_count f_holders f_queue f_queueFrom f_queueTo f_ring f_ringSize f_failures f_refusals f_thrown f_best) sz) := by
  refine k_enter (by decide) (Nat.le_of_ble_eq_true rfl) ?_
  intro p e s m below meth c ls X hsz hH hl
  subst hsz
  generalize va_A (wX48 ci ad d f_rowTriples f_rowVersions f_rowTells f_rows f_latest f_pins f_writers f_sees f_states f_notes f_wrote f_waitsFor f_waitTriples f_waitTells f_since f_clock f_count f_holders f_queue f_queueFrom f_queueTo f_ring f_ringSize f_failures f_refusals f_thrown f_best) s.heap.size = A at hH ⊢
  have hx := X.1.1
  have hb := X.1.2.1
  have hl : lv_has ls 1 [(0, .ref (ad 0))] := hl
  unfold wpX48_rows at hw
  refine lv_aload_n hx hb dX48_rows_0 rfl (lv_at hl 0 rfl) ?_
  refine lv_iconst (v := 0) hx hb dX48_rows_1 (by decide) ?_
  refine k_put X hH in_X48 tyX48_ok nmX48 0 rfl hc 25 (by decide) q6097 rfl (ty := .int) rfl rfl rfl (Nat.le_of_ble_eq_true rfl) dX48_rows_2 (ws1 := (wX48 ci ad d f_rowTriples f_rowVersions f_rowTells f_rows f_latest f_pins f_writers f_sees f_states f_notes f_wrote f_waitsFor f_waitTriples f_waitTells f_since f_clock f_count f_holders f_queue f_queueFrom f_queueTo f_ring f_ringSize f_failures f_refusals 0 f_best)) rfl (fun H locs hH => ?_)
  refine lv_aload_n hx hb dX48_rows_5 rfl (lv_at hl 0 rfl) ?_
  refine k_get X hH in_X48 0 rfl hc 3 (by decide) q6075 rfl dX48_rows_6 ?_
  exact k_iret (v := f_rows) X hH (0) hw rfl rfl dX48_rows_9
set_option maxHeartbeats 4000000 in
theorem walkX48_least {l : Launch} {dC : Nat → ClassId} {dI : Nat → Nat → Nat} {cl : List vw_C} {ci : Nat} (hc : cl[ci]? = some (RX48, TX48, 27)) {ad : Nat → Nat} {d : Nat → ClassId} {sz : Nat} {f_rowTriples : Nat → Int32} {f_rowVersions : Nat → Int32} {f_rowTells : Nat → Int32} {f_rows : Int32} {f_latest : Int32} {f_pins : Nat → Int32} {f_writers : Nat → Int32} {f_sees : Nat → Int32} {f_states : Nat → Int32} {f_notes : Nat → Int32} {f_wrote : Nat → Int32} {f_waitsFor : Nat → Int32} {f_waitTriples : Nat → Int32} {f_waitTells : Nat → Int32} {f_since : Nat → Int32} {f_clock : Int32} {f_count : Int32} {f_holders : Nat → Int32} {f_queue : Nat → Int32} {f_queueFrom : Int32} {f_queueTo : Int32} {f_ring : Nat → Int32} {f_ringSize : Int32} {f_failures : Nat → Int32} {f_refusals : Nat → Int32} {f_thrown : Int32} {f_best : Nat → Int32}  {post : Int → Int → Prop} (hw : wpX48_least post f_latest.toInt (zF f_pins) (zF f_sees) (zF f_states) f_count.toInt ) :
    Met l yX48_least (ws_ yX48_least cX48_least 1 (some .int)) ({ frames := 2, cells := 0, slots := 0, locals := 43 } : Room) (kPc (dC, dI) cl (tX48 d) [.ref (ad 0)] sz (wX48 ci ad d f_rowTriples f_rowVersions f_rowTells f_rows f_latest f_pins f_writers f_sees f_states f_notes f_wrote f_waitsFor f_waitTriples f_waitTells f_since f_clock f_count f_holders f_queue f_queueFrom f_queueTo f_ring f_ringSize f_failures f_refusals f_thrown f_best)) (va_Qi (fun (r : Int32) (u : Int32) => post r.toInt (u).toInt) (kB (dC, dI) cl (tX48 d) (va_A (wX48 ci ad d f_rowTriples f_rowVersions f_rowTells f_rows f_latest f_pins f_writers f_sees f_states f_notes f_wrote f_waitsFor f_waitTriples f_waitTells f_since f_clock f_count f_holders f_queue f_queueFrom f_queueTo f_ring f_ringSize f_failures f_refusals f_thrown f_best) sz) (fun u : Int32 => (wX48 ci ad d f_rowTriples f_rowVersions f_rowTells f_rows f_latest f_pins f_writers f_sees f_states f_notes f_wrote f_waitsFor f_waitTriples f_waitTells f_since f_clock f_count f_holders f_queue f_queueFrom f_queueTo f_ring f_ringSize f_failures f_refusals (u) f_best))) (va_A (wX48 ci ad d f_rowTriples f_rowVersions f_rowTells f_rows f_latest f_pins f_writers f_sees f_states f_notes f_wrote f_waitsFor f_waitTriples f_waitTells f_since f_clock f_count f_holders f_queue f_queueFrom f_queueTo f_ring f_ringSize f_failures f_refusals f_thrown f_best) sz)) 0 0 (va_A (wX48 ci ad d f_rowTriples f_rowVersions f_rowTells f_rows f_latest f_pins f_writers f_sees f_states f_notes f_wrote f_waitsFor f_waitTriples f_waitTells f_since f_clock f_count f_holders f_queue f_queueFrom f_queueTo f_ring f_ringSize f_failures f_refusals f_thrown f_best) sz) := by
  refine k_enter (by decide) (Nat.le_of_ble_eq_true rfl) ?_
  intro p e s m below meth c ls X hsz hH hl
  subst hsz
  generalize va_A (wX48 ci ad d f_rowTriples f_rowVersions f_rowTells f_rows f_latest f_pins f_writers f_sees f_states f_notes f_wrote f_waitsFor f_waitTriples f_waitTells f_since f_clock f_count f_holders f_queue f_queueFrom f_queueTo f_ring f_ringSize f_failures f_refusals f_thrown f_best) s.heap.size = A at hH ⊢
  have hx := X.1.1
  have hb := X.1.2.1
  have hl : lv_has ls 1 [(0, .ref (ad 0))] := hl
  unfold wpX48_least at hw
  refine lv_aload_n hx hb dX48_least_0 rfl (lv_at hl 0 rfl) ?_
  refine lv_iconst (v := 0) hx hb dX48_least_1 (by decide) ?_
  refine k_put X hH in_X48 tyX48_ok nmX48 0 rfl hc 25 (by decide) q6097 rfl (ty := .int) rfl rfl rfl (Nat.le_of_ble_eq_true rfl) dX48_least_2 (ws1 := (wX48 ci ad d f_rowTriples f_rowVersions f_rowTells f_rows f_latest f_pins f_writers f_sees f_states f_notes f_wrote f_waitsFor f_waitTriples f_waitTells f_since f_clock f_count f_holders f_queue f_queueFrom f_queueTo f_ring f_ringSize f_failures f_refusals 0 f_best)) rfl (fun H locs hH => ?_)
  refine lv_aload_n hx hb dX48_least_5 rfl (lv_at hl 0 rfl) ?_
  refine k_i0 hH (k_runV (As := []) (rest := []) X hH.1 hH.2.1 X.2.2.2 (walkX48_leastKept hc (f_rowTriples := f_rowTriples) (f_rowVersions := f_rowVersions) (f_rowTells := f_rowTells) (f_rows := f_rows) (f_latest := f_latest) (f_pins := f_pins) (f_writers := f_writers) (f_sees := f_sees) (f_states := f_states) (f_notes := f_notes) (f_wrote := f_wrote) (f_waitsFor := f_waitsFor) (f_waitTriples := f_waitTriples) (f_waitTells := f_waitTells) (f_since := f_since) (f_clock := f_clock) (f_count := f_count) (f_holders := f_holders) (f_queue := f_queue) (f_queueFrom := f_queueFrom) (f_queueTo := f_queueTo) (f_ring := f_ring) (f_ringSize := f_ringSize) (f_failures := f_failures) (f_refusals := f_refusals) (f_thrown := 0) (f_best := f_best) hw) (cwV 0 X.1.2.2.2.2 gX48_75 rfl rfl rfl hX48_leastKept ⟨Nat.le_of_ble_eq_true rfl, Nat.le_of_ble_eq_true rfl⟩) hc (q0 := 0) rfl rfl hl.1 rfl (Nat.le_of_ble_eq_true rfl) dX48_least_6 ⟨Nat.le_refl 0, Nat.le_refl 0⟩) (fun r_1 _ H locs hw hH => ?_)
  have hH : kH (dC, dI) cl A s.heap H locs (wX48 ci ad d f_rowTriples f_rowVersions f_rowTells f_rows f_latest f_pins f_writers f_sees f_states f_notes f_wrote f_waitsFor f_waitTriples f_waitTells f_since f_clock f_count f_holders f_queue f_queueFrom f_queueTo f_ring f_ringSize f_failures f_refusals 0 f_best) := hH
  exact k_iret (v := r_1) X hH (0) hw rfl rfl dX48_least_9
set_option maxHeartbeats 4000000 in
theorem walkX48_state {l : Launch} {dC : Nat → ClassId} {dI : Nat → Nat → Nat} {cl : List vw_C} {ci : Nat} (hc : cl[ci]? = some (RX48, TX48, 27)) {ad : Nat → Nat} {d : Nat → ClassId} {sz : Nat} {f_rowTriples : Nat → Int32} {f_rowVersions : Nat → Int32} {f_rowTells : Nat → Int32} {f_rows : Int32} {f_latest : Int32} {f_pins : Nat → Int32} {f_writers : Nat → Int32} {f_sees : Nat → Int32} {f_states : Nat → Int32} {f_notes : Nat → Int32} {f_wrote : Nat → Int32} {f_waitsFor : Nat → Int32} {f_waitTriples : Nat → Int32} {f_waitTells : Nat → Int32} {f_since : Nat → Int32} {f_clock : Int32} {f_count : Int32} {f_holders : Nat → Int32} {f_queue : Nat → Int32} {f_queueFrom : Int32} {f_queueTo : Int32} {f_ring : Nat → Int32} {f_ringSize : Int32} {f_failures : Nat → Int32} {f_refusals : Nat → Int32} {f_thrown : Int32} {f_best : Nat → Int32} {x1 : Int32} {post : Int → Int → Prop} (hw : wpX48_state post (zF f_states) f_count.toInt x1.toInt) :
    Met l yX48_state (ws_ yX48_state cX48_state 2 (some .int)) ({ frames := 1, cells := 0, slots := 0, locals := 22 } : Room) (kPc (dC, dI) cl (tX48 d) [.ref (ad 0), .int x1] sz (wX48 ci ad d f_rowTriples f_rowVersions f_rowTells f_rows f_latest f_pins f_writers f_sees f_states f_notes f_wrote f_waitsFor f_waitTriples f_waitTells f_since f_clock f_count f_holders f_queue f_queueFrom f_queueTo f_ring f_ringSize f_failures f_refusals f_thrown f_best)) (va_Qi (fun (r : Int32) (u : Int32) => post r.toInt (u).toInt) (kB (dC, dI) cl (tX48 d) (va_A (wX48 ci ad d f_rowTriples f_rowVersions f_rowTells f_rows f_latest f_pins f_writers f_sees f_states f_notes f_wrote f_waitsFor f_waitTriples f_waitTells f_since f_clock f_count f_holders f_queue f_queueFrom f_queueTo f_ring f_ringSize f_failures f_refusals f_thrown f_best) sz) (fun u : Int32 => (wX48 ci ad d f_rowTriples f_rowVersions f_rowTells f_rows f_latest f_pins f_writers f_sees f_states f_notes f_wrote f_waitsFor f_waitTriples f_waitTells f_since f_clock f_count f_holders f_queue f_queueFrom f_queueTo f_ring f_ringSize f_failures f_refusals (u) f_best))) (va_A (wX48 ci ad d f_rowTriples f_rowVersions f_rowTells f_rows f_latest f_pins f_writers f_sees f_states f_notes f_wrote f_waitsFor f_waitTriples f_waitTells f_since f_clock f_count f_holders f_queue f_queueFrom f_queueTo f_ring f_ringSize f_failures f_refusals f_thrown f_best) sz)) 0 0 (va_A (wX48 ci ad d f_rowTriples f_rowVersions f_rowTells f_rows f_latest f_pins f_writers f_sees f_states f_notes f_wrote f_waitsFor f_waitTriples f_waitTells f_since f_clock f_count f_holders f_queue f_queueFrom f_queueTo f_ring f_ringSize f_failures f_refusals f_thrown f_best) sz) := by
  refine k_enter (by decide) (Nat.le_of_ble_eq_true rfl) ?_
  intro p e s m below meth c ls X hsz hH hl
  subst hsz
  generalize va_A (wX48 ci ad d f_rowTriples f_rowVersions f_rowTells f_rows f_latest f_pins f_writers f_sees f_states f_notes f_wrote f_waitsFor f_waitTriples f_waitTells f_since f_clock f_count f_holders f_queue f_queueFrom f_queueTo f_ring f_ringSize f_failures f_refusals f_thrown f_best) s.heap.size = A at hH ⊢
  have hx := X.1.1
  have hb := X.1.2.1
  have hl : lv_has ls 2 [(0, .ref (ad 0)), (1, .int x1)] := hl
  unfold wpX48_state at hw
  refine lv_aload_n hx hb dX48_state_0 rfl (lv_at hl 0 rfl) ?_
  refine lv_aload_n hx hb dX48_state_1 rfl (lv_at hl 0 rfl) ?_
  refine lv_iload_n hx hb dX48_state_2 rfl (lv_at hl 1 rfl) ?_
  refine k_i0 hH (k_runV (As := [.int x1]) (rest := [.ref (ad 0)]) X hH.1 hH.2.1 X.2.2.2 (walkX48_isTransaction hc (x1 := x1) (f_rowTriples := f_rowTriples) (f_rowVersions := f_rowVersions) (f_rowTells := f_rowTells) (f_rows := f_rows) (f_latest := f_latest) (f_pins := f_pins) (f_writers := f_writers) (f_sees := f_sees) (f_states := f_states) (f_notes := f_notes) (f_wrote := f_wrote) (f_waitsFor := f_waitsFor) (f_waitTriples := f_waitTriples) (f_waitTells := f_waitTells) (f_since := f_since) (f_clock := f_clock) (f_count := f_count) (f_holders := f_holders) (f_queue := f_queue) (f_queueFrom := f_queueFrom) (f_queueTo := f_queueTo) (f_ring := f_ring) (f_ringSize := f_ringSize) (f_failures := f_failures) (f_refusals := f_refusals) (f_thrown := f_thrown) (f_best := f_best) hw) (cwV 1 X.1.2.2.2.2 gX48_111 rfl rfl rfl hX48_isTransaction ⟨Nat.le_of_ble_eq_true rfl, Nat.le_of_ble_eq_true rfl⟩) hc (q0 := 0) rfl rfl hl.1 rfl (Nat.le_of_ble_eq_true rfl) dX48_state_3 ⟨Nat.le_refl 0, Nat.le_refl 0⟩) (fun r_1 _ H locs hw hH => ?_)
  have hH : kH (dC, dI) cl A s.heap H locs (wX48 ci ad d f_rowTriples f_rowVersions f_rowTells f_rows f_latest f_pins f_writers f_sees f_states f_notes f_wrote f_waitsFor f_waitTriples f_waitTells f_since f_clock f_count f_holders f_queue f_queueFrom f_queueTo f_ring f_ringSize f_failures f_refusals f_thrown f_best) := hH
  refine lv_iconst (v := 1) hx hb dX48_state_6 (by decide) ?_
  refine k_i0 hH (k_runV (As := [.int r_1, .int 1]) (rest := []) X hH.1 hH.2.1 X.2.2.2 (walkX48_fails hc (x1 := r_1) (x2 := 1) (f_rowTriples := f_rowTriples) (f_rowVersions := f_rowVersions) (f_rowTells := f_rowTells) (f_rows := f_rows) (f_latest := f_latest) (f_pins := f_pins) (f_writers := f_writers) (f_sees := f_sees) (f_states := f_states) (f_notes := f_notes) (f_wrote := f_wrote) (f_waitsFor := f_waitsFor) (f_waitTriples := f_waitTriples) (f_waitTells := f_waitTells) (f_since := f_since) (f_clock := f_clock) (f_count := f_count) (f_holders := f_holders) (f_queue := f_queue) (f_queueFrom := f_queueFrom) (f_queueTo := f_queueTo) (f_ring := f_ring) (f_ringSize := f_ringSize) (f_failures := f_failures) (f_refusals := f_refusals) (f_thrown := f_thrown) (f_best := f_best) hw) (cwV 2 X.1.2.2.2.2 gX48_99 rfl rfl rfl hX48_fails ⟨Nat.le_of_ble_eq_true rfl, Nat.le_of_ble_eq_true rfl⟩) hc (q0 := 0) rfl rfl hl.1 rfl (Nat.le_of_ble_eq_true rfl) dX48_state_7 ⟨Nat.le_refl 0, Nat.le_refl 0⟩) (fun r_2 u H locs hw hH => ?_)
  obtain ⟨f_thrown_3, eu⟩ : ∃ z, z = u := ⟨_, rfl⟩
  subst eu
  have hH : kH (dC, dI) cl A s.heap H locs (wX48 ci ad d f_rowTriples f_rowVersions f_rowTells f_rows f_latest f_pins f_writers f_sees f_states f_notes f_wrote f_waitsFor f_waitTriples f_waitTells f_since f_clock f_count f_holders f_queue f_queueFrom f_queueTo f_ring f_ringSize f_failures f_refusals f_thrown_3 f_best) := hH
  refine lv_if_eq (tgt := 17) hx hb dX48_state_10 (by decide) (fun c_4 => ?_) (fun c_4 => ?_)
  · have hw := hw.1 (z_eq (rfl : r_2.toInt = _) (rfl : (0 : Int32).toInt = 0) c_4)
    refine lv_aload_n hx hb dX48_state_17 rfl (lv_at hl 0 rfl) ?_
    refine k_get X hH in_X48 0 rfl hc 8 (by decide) q6080 rfl dX48_state_18 ?_
    refine lv_iload_n hx hb dX48_state_21 rfl (lv_at hl 1 rfl) ?_
    have hq_5 := hw.1
    have hw := hw.2
    refine k_iald X hH 7 6 rfl rfl (z_in (rfl : x1.toInt = _) hq_5) dX48_state_22 ?_
    have e_6 := z_ld (f := f_states) (rfl : x1.toInt = _) hq_5.1
    exact k_iret (v := f_states x1.toNatClampNeg) X hH (f_thrown_3) (by rw [show (f_states x1.toNatClampNeg : Int32).toInt = _ from e_6]; exact hw) rfl rfl dX48_state_23
  · have hw := hw.2 (z_neq (rfl : r_2.toInt = _) (rfl : (0 : Int32).toInt = 0) c_4)
    refine lv_iconst (v := 0) hx hb dX48_state_13 (by decide) ?_
    refine lv_goto (tgt := 23) hx hb dX48_state_14 (by decide) ?_
    exact k_iret (v := 0) X hH (f_thrown_3) hw rfl rfl dX48_state_23
set_option maxHeartbeats 4000000 in
theorem walkX48_waits {l : Launch} {dC : Nat → ClassId} {dI : Nat → Nat → Nat} {cl : List vw_C} {ci : Nat} (hc : cl[ci]? = some (RX48, TX48, 27)) {ad : Nat → Nat} {d : Nat → ClassId} {sz : Nat} {f_rowTriples : Nat → Int32} {f_rowVersions : Nat → Int32} {f_rowTells : Nat → Int32} {f_rows : Int32} {f_latest : Int32} {f_pins : Nat → Int32} {f_writers : Nat → Int32} {f_sees : Nat → Int32} {f_states : Nat → Int32} {f_notes : Nat → Int32} {f_wrote : Nat → Int32} {f_waitsFor : Nat → Int32} {f_waitTriples : Nat → Int32} {f_waitTells : Nat → Int32} {f_since : Nat → Int32} {f_clock : Int32} {f_count : Int32} {f_holders : Nat → Int32} {f_queue : Nat → Int32} {f_queueFrom : Int32} {f_queueTo : Int32} {f_ring : Nat → Int32} {f_ringSize : Int32} {f_failures : Nat → Int32} {f_refusals : Nat → Int32} {f_thrown : Int32} {f_best : Nat → Int32} {x1 : Int32} {post : Int → Int → Prop} (hw : wpX48_waits post (zF f_states) (zF f_waitsFor) f_count.toInt x1.toInt) :
    Met l yX48_waits (ws_ yX48_waits cX48_waits 2 (some .int)) ({ frames := 1, cells := 0, slots := 0, locals := 22 } : Room) (kPc (dC, dI) cl (tX48 d) [.ref (ad 0), .int x1] sz (wX48 ci ad d f_rowTriples f_rowVersions f_rowTells f_rows f_latest f_pins f_writers f_sees f_states f_notes f_wrote f_waitsFor f_waitTriples f_waitTells f_since f_clock f_count f_holders f_queue f_queueFrom f_queueTo f_ring f_ringSize f_failures f_refusals f_thrown f_best)) (va_Qi (fun (r : Int32) (u : Int32) => post r.toInt (u).toInt) (kB (dC, dI) cl (tX48 d) (va_A (wX48 ci ad d f_rowTriples f_rowVersions f_rowTells f_rows f_latest f_pins f_writers f_sees f_states f_notes f_wrote f_waitsFor f_waitTriples f_waitTells f_since f_clock f_count f_holders f_queue f_queueFrom f_queueTo f_ring f_ringSize f_failures f_refusals f_thrown f_best) sz) (fun u : Int32 => (wX48 ci ad d f_rowTriples f_rowVersions f_rowTells f_rows f_latest f_pins f_writers f_sees f_states f_notes f_wrote f_waitsFor f_waitTriples f_waitTells f_since f_clock f_count f_holders f_queue f_queueFrom f_queueTo f_ring f_ringSize f_failures f_refusals (u) f_best))) (va_A (wX48 ci ad d f_rowTriples f_rowVersions f_rowTells f_rows f_latest f_pins f_writers f_sees f_states f_notes f_wrote f_waitsFor f_waitTriples f_waitTells f_since f_clock f_count f_holders f_queue f_queueFrom f_queueTo f_ring f_ringSize f_failures f_refusals f_thrown f_best) sz)) 0 0 (va_A (wX48 ci ad d f_rowTriples f_rowVersions f_rowTells f_rows f_latest f_pins f_writers f_sees f_states f_notes f_wrote f_waitsFor f_waitTriples f_waitTells f_since f_clock f_count f_holders f_queue f_queueFrom f_queueTo f_ring f_ringSize f_failures f_refusals f_thrown f_best) sz) := by
  refine k_enter (by decide) (Nat.le_of_ble_eq_true rfl) ?_
  intro p e s m below meth c ls X hsz hH hl
  subst hsz
  generalize va_A (wX48 ci ad d f_rowTriples f_rowVersions f_rowTells f_rows f_latest f_pins f_writers f_sees f_states f_notes f_wrote f_waitsFor f_waitTriples f_waitTells f_since f_clock f_count f_holders f_queue f_queueFrom f_queueTo f_ring f_ringSize f_failures f_refusals f_thrown f_best) s.heap.size = A at hH ⊢
  have hx := X.1.1
  have hb := X.1.2.1
  have hl : lv_has ls 2 [(0, .ref (ad 0)), (1, .int x1)] := hl
  unfold wpX48_waits at hw
  refine lv_aload_n hx hb dX48_waits_0 rfl (lv_at hl 0 rfl) ?_
  refine lv_aload_n hx hb dX48_waits_1 rfl (lv_at hl 0 rfl) ?_
  refine lv_iload_n hx hb dX48_waits_2 rfl (lv_at hl 1 rfl) ?_
  refine k_i0 hH (k_runV (As := [.int x1]) (rest := [.ref (ad 0)]) X hH.1 hH.2.1 X.2.2.2 (walkX48_isTransaction hc (x1 := x1) (f_rowTriples := f_rowTriples) (f_rowVersions := f_rowVersions) (f_rowTells := f_rowTells) (f_rows := f_rows) (f_latest := f_latest) (f_pins := f_pins) (f_writers := f_writers) (f_sees := f_sees) (f_states := f_states) (f_notes := f_notes) (f_wrote := f_wrote) (f_waitsFor := f_waitsFor) (f_waitTriples := f_waitTriples) (f_waitTells := f_waitTells) (f_since := f_since) (f_clock := f_clock) (f_count := f_count) (f_holders := f_holders) (f_queue := f_queue) (f_queueFrom := f_queueFrom) (f_queueTo := f_queueTo) (f_ring := f_ring) (f_ringSize := f_ringSize) (f_failures := f_failures) (f_refusals := f_refusals) (f_thrown := f_thrown) (f_best := f_best) hw) (cwV 1 X.1.2.2.2.2 gX48_111 rfl rfl rfl hX48_isTransaction ⟨Nat.le_of_ble_eq_true rfl, Nat.le_of_ble_eq_true rfl⟩) hc (q0 := 0) rfl rfl hl.1 rfl (Nat.le_of_ble_eq_true rfl) dX48_waits_3 ⟨Nat.le_refl 0, Nat.le_refl 0⟩) (fun r_1 _ H locs hw hH => ?_)
  have hH : kH (dC, dI) cl A s.heap H locs (wX48 ci ad d f_rowTriples f_rowVersions f_rowTells f_rows f_latest f_pins f_writers f_sees f_states f_notes f_wrote f_waitsFor f_waitTriples f_waitTells f_since f_clock f_count f_holders f_queue f_queueFrom f_queueTo f_ring f_ringSize f_failures f_refusals f_thrown f_best) := hH
  refine lv_iconst (v := 1) hx hb dX48_waits_6 (by decide) ?_
  refine k_i0 hH (k_runV (As := [.int r_1, .int 1]) (rest := []) X hH.1 hH.2.1 X.2.2.2 (walkX48_fails hc (x1 := r_1) (x2 := 1) (f_rowTriples := f_rowTriples) (f_rowVersions := f_rowVersions) (f_rowTells := f_rowTells) (f_rows := f_rows) (f_latest := f_latest) (f_pins := f_pins) (f_writers := f_writers) (f_sees := f_sees) (f_states := f_states) (f_notes := f_notes) (f_wrote := f_wrote) (f_waitsFor := f_waitsFor) (f_waitTriples := f_waitTriples) (f_waitTells := f_waitTells) (f_since := f_since) (f_clock := f_clock) (f_count := f_count) (f_holders := f_holders) (f_queue := f_queue) (f_queueFrom := f_queueFrom) (f_queueTo := f_queueTo) (f_ring := f_ring) (f_ringSize := f_ringSize) (f_failures := f_failures) (f_refusals := f_refusals) (f_thrown := f_thrown) (f_best := f_best) hw) (cwV 2 X.1.2.2.2.2 gX48_99 rfl rfl rfl hX48_fails ⟨Nat.le_of_ble_eq_true rfl, Nat.le_of_ble_eq_true rfl⟩) hc (q0 := 0) rfl rfl hl.1 rfl (Nat.le_of_ble_eq_true rfl) dX48_waits_7 ⟨Nat.le_refl 0, Nat.le_refl 0⟩) (fun r_2 u H locs hw hH => ?_)
  obtain ⟨f_thrown_3, eu⟩ : ∃ z, z = u := ⟨_, rfl⟩
  subst eu
  have hH : kH (dC, dI) cl A s.heap H locs (wX48 ci ad d f_rowTriples f_rowVersions f_rowTells f_rows f_latest f_pins f_writers f_sees f_states f_notes f_wrote f_waitsFor f_waitTriples f_waitTells f_since f_clock f_count f_holders f_queue f_queueFrom f_queueTo f_ring f_ringSize f_failures f_refusals f_thrown_3 f_best) := hH
  refine lv_if_eq (tgt := 15) hx hb dX48_waits_10 (by decide) (fun c_4 => ?_) (fun c_4 => ?_)
  · have hw := hw.1 (z_eq (rfl : r_2.toInt = _) (rfl : (0 : Int32).toInt = 0) c_4)
    refine lv_aload_n hx hb dX48_waits_15 rfl (lv_at hl 0 rfl) ?_
    refine k_get X hH in_X48 0 rfl hc 8 (by decide) q6080 rfl dX48_waits_16 ?_
    refine lv_iload_n hx hb dX48_waits_19 rfl (lv_at hl 1 rfl) ?_
    have hq_5 := hw.1
    have hw := hw.2
    refine k_iald X hH 7 6 rfl rfl (z_in (rfl : x1.toInt = _) hq_5) dX48_waits_20 ?_
    have e_6 := z_ld (f := f_states) (rfl : x1.toInt = _) hq_5.1
    refine lv_iconst (v := 1) hx hb dX48_waits_21 (by decide) ?_
    refine lv_icmp_ne (tgt := 34) hx hb dX48_waits_22 (by decide) (fun c_7 => ?_) (fun c_7 => ?_)
    · have hw := hw.2 (z_ne e_6 (rfl : (1 : Int32).toInt = 1) c_7)
      refine lv_iconst (v := (-1)) hx hb dX48_waits_34 (by decide) ?_
      exact k_iret (v := (-1)) X hH (f_thrown_3) hw rfl rfl dX48_waits_35
    · have hw := hw.1 (z_eq e_6 (rfl : (1 : Int32).toInt = 1) c_7)
      refine lv_aload_n hx hb dX48_waits_25 rfl (lv_at hl 0 rfl) ?_
      refine k_get X hH in_X48 0 rfl hc 11 (by decide) q6083 rfl dX48_waits_26 ?_
      refine lv_iload_n hx hb dX48_waits_29 rfl (lv_at hl 1 rfl) ?_
      refine k_iald X hH 10 9 rfl rfl (z_in (rfl : x1.toInt = _) hq_5) dX48_waits_30 ?_
      have e_8 := z_ld (f := f_waitsFor) (rfl : x1.toInt = _) hq_5.1
      refine lv_goto (tgt := 35) hx hb dX48_waits_31 (by decide) ?_
      exact k_iret (v := f_waitsFor x1.toNatClampNeg) X hH (f_thrown_3) (by rw [show (f_waitsFor x1.toNatClampNeg : Int32).toInt = _ from e_8]; exact hw) rfl rfl dX48_waits_35
  · have hw := hw.2 (z_neq (rfl : r_2.toInt = _) (rfl : (0 : Int32).toInt = 0) c_4)
    refine lv_iconst (v := 0) hx hb dX48_waits_13 (by decide) ?_
    exact k_iret (v := 0) X hH (f_thrown_3) hw rfl rfl dX48_waits_14
set_option maxHeartbeats 4000000 in
theorem walkX48_ring {l : Launch} {dC : Nat → ClassId} {dI : Nat → Nat → Nat} {cl : List vw_C} {ci : Nat} (hc : cl[ci]? = some (RX48, TX48, 27)) {ad : Nat → Nat} {d : Nat → ClassId} {sz : Nat} {f_rowTriples : Nat → Int32} {f_rowVersions : Nat → Int32} {f_rowTells : Nat → Int32} {f_rows : Int32} {f_latest : Int32} {f_pins : Nat → Int32} {f_writers : Nat → Int32} {f_sees : Nat → Int32} {f_states : Nat → Int32} {f_notes : Nat → Int32} {f_wrote : Nat → Int32} {f_waitsFor : Nat → Int32} {f_waitTriples : Nat → Int32} {f_waitTells : Nat → Int32} {f_since : Nat → Int32} {f_clock : Int32} {f_count : Int32} {f_holders : Nat → Int32} {f_queue : Nat → Int32} {f_queueFrom : Int32} {f_queueTo : Int32} {f_ring : Nat → Int32} {f_ringSize : Int32} {f_failures : Nat → Int32} {f_refusals : Nat → Int32} {f_thrown : Int32} {f_best : Nat → Int32} {x1 : Int32} {post : Int → Int → Prop} (hw : wpX48_ring post (zF f_ring) f_ringSize.toInt x1.toInt) :
    Met l yX48_ring (ws_ yX48_ring cX48_ring 2 (some .int)) ({ frames := 0, cells := 0, slots := 0, locals := 0 } : Room) (kPc (dC, dI) cl (tX48 d) [.ref (ad 0), .int x1] sz (wX48 ci ad d f_rowTriples f_rowVersions f_rowTells f_rows f_latest f_pins f_writers f_sees f_states f_notes f_wrote f_waitsFor f_waitTriples f_waitTells f_since f_clock f_count f_holders f_queue f_queueFrom f_queueTo f_ring f_ringSize f_failures f_refusals f_thrown f_best)) (va_Qi (fun (r : Int32) (u : Int32) => post r.toInt (u).toInt) (kB (dC, dI) cl (tX48 d) (va_A (wX48 ci ad d f_rowTriples f_rowVersions f_rowTells f_rows f_latest f_pins f_writers f_sees f_states f_notes f_wrote f_waitsFor f_waitTriples f_waitTells f_since f_clock f_count f_holders f_queue f_queueFrom f_queueTo f_ring f_ringSize f_failures f_refusals f_thrown f_best) sz) (fun u : Int32 => (wX48 ci ad d f_rowTriples f_rowVersions f_rowTells f_rows f_latest f_pins f_writers f_sees f_states f_notes f_wrote f_waitsFor f_waitTriples f_waitTells f_since f_clock f_count f_holders f_queue f_queueFrom f_queueTo f_ring f_ringSize f_failures f_refusals (u) f_best))) (va_A (wX48 ci ad d f_rowTriples f_rowVersions f_rowTells f_rows f_latest f_pins f_writers f_sees f_states f_notes f_wrote f_waitsFor f_waitTriples f_waitTells f_since f_clock f_count f_holders f_queue f_queueFrom f_queueTo f_ring f_ringSize f_failures f_refusals f_thrown f_best) sz)) 0 0 (va_A (wX48 ci ad d f_rowTriples f_rowVersions f_rowTells f_rows f_latest f_pins f_writers f_sees f_states f_notes f_wrote f_waitsFor f_waitTriples f_waitTells f_since f_clock f_count f_holders f_queue f_queueFrom f_queueTo f_ring f_ringSize f_failures f_refusals f_thrown f_best) sz) := by
  refine k_enter (by decide) (Nat.le_of_ble_eq_true rfl) ?_
  intro p e s m below meth c ls X hsz hH hl
  subst hsz
  generalize va_A (wX48 ci ad d f_rowTriples f_rowVersions f_rowTells f_rows f_latest f_pins f_writers f_sees f_states f_notes f_wrote f_waitsFor f_waitTriples f_waitTells f_since f_clock f_count f_holders f_queue f_queueFrom f_queueTo f_ring f_ringSize f_failures f_refusals f_thrown f_best) s.heap.size = A at hH ⊢
  have hx := X.1.1
  have hb := X.1.2.1
  have hl : lv_has ls 2 [(0, .ref (ad 0)), (1, .int x1)] := hl
  unfold wpX48_ring at hw
  refine lv_aload_n hx hb dX48_ring_0 rfl (lv_at hl 0 rfl) ?_
  refine lv_iconst (v := 0) hx hb dX48_ring_1 (by decide) ?_
  refine k_put X hH in_X48 tyX48_ok nmX48 0 rfl hc 25 (by decide) q6097 rfl (ty := .int) rfl rfl rfl (Nat.le_of_ble_eq_true rfl) dX48_ring_2 (ws1 := (wX48 ci ad d f_rowTriples f_rowVersions f_rowTells f_rows f_latest f_pins f_writers f_sees f_states f_notes f_wrote f_waitsFor f_waitTriples f_waitTells f_since f_clock f_count f_holders f_queue f_queueFrom f_queueTo f_ring f_ringSize f_failures f_refusals 0 f_best)) rfl (fun H locs hH => ?_)
  refine lv_iload_n hx hb dX48_ring_5 rfl (lv_at hl 1 rfl) ?_
  refine lv_if_lt (tgt := 26) hx hb dX48_ring_6 (by decide) (fun c_1 => ?_) (fun c_1 => ?_)
  · have hw := hw.1 (z_lt (rfl : x1.toInt = _) (rfl : (0 : Int32).toInt = 0) c_1)
    refine lv_iconst (v := (-1)) hx hb dX48_ring_26 (by decide) ?_
    exact k_iret (v := (-1)) X hH (0) hw rfl rfl dX48_ring_27
  · have hw := hw.2 (z_nlt (rfl : x1.toInt = _) (rfl : (0 : Int32).toInt = 0) c_1)
    refine lv_iload_n hx hb dX48_ring_9 rfl (lv_at hl 1 rfl) ?_
    refine lv_aload_n hx hb dX48_ring_10 rfl (lv_at hl 0 rfl) ?_
    refine k_get X hH in_X48 0 rfl hc 22 (by decide) q6094 rfl dX48_ring_11 ?_
    refine lv_icmp_ge (tgt := 26) hx hb dX48_ring_14 (by decide) (fun c_2 => ?_) (fun c_2 => ?_)
    · have hw := hw.1 (z_le (rfl : f_ringSize.toInt = _) (rfl : x1.toInt = _) c_2)
      refine lv_iconst (v := (-1)) hx hb dX48_ring_26 (by decide) ?_
      exact k_iret (v := (-1)) X hH (0) hw rfl rfl dX48_ring_27
    · have hw := hw.2 (z_nle (rfl : f_ringSize.toInt = _) (rfl : x1.toInt = _) c_2)
      refine lv_aload_n hx hb dX48_ring_17 rfl (lv_at hl 0 rfl) ?_
      refine k_get X hH in_X48 0 rfl hc 21 (by decide) q6093 rfl dX48_ring_18 ?_
      refine lv_iload_n hx hb dX48_ring_21 rfl (lv_at hl 1 rfl) ?_
      have hq_3 := hw.1
      have hw := hw.2
      refine k_iald X hH 16 15 rfl rfl (z_in (rfl : x1.toInt = _) hq_3) dX48_ring_22 ?_
      have e_4 := z_ld (f := f_ring) (rfl : x1.toInt = _) hq_3.1
      refine lv_goto (tgt := 27) hx hb dX48_ring_23 (by decide) ?_
      exact k_iret (v := f_ring x1.toNatClampNeg) X hH (0) (by rw [show (f_ring x1.toNatClampNeg : Int32).toInt = _ from e_4]; exact hw) rfl rfl dX48_ring_27
set_option maxHeartbeats 4000000 in
theorem atX48_conflicts_34 {p : Program} {l : Launch} {e : Env} {s : State} {m : MethodId} {args : Array Value} {below : List Frame} {meth : Method} {c : Code} {dC : Nat → ClassId} {dI : Nat → Nat → Nat} {cl : List vw_C} {ci : Nat} (hc : cl[ci]? = some (RX48, TX48, 27)) {ad : Nat → Nat} {d : Nat → ClassId} {A : Nat → Prop} {post : Int → Int → Prop} {f_rowTriples : Nat → Int32} {f_rowVersions : Nat → Int32} {f_rowTells : Nat → Int32} {f_rows : Int32} {f_latest : Int32} {f_pins : Nat → Int32} {f_writers : Nat → Int32} {f_sees : Nat → Int32} {f_states : Nat → Int32} {f_notes : Nat → Int32} {f_wrote : Nat → Int32} {f_waitsFor : Nat → Int32} {f_waitTriples : Nat → Int32} {f_waitTells : Nat → Int32} {f_since : Nat → Int32} {f_clock : Int32} {f_count : Int32} {f_holders : Nat → Int32} {f_queue : Nat → Int32} {f_queueFrom : Int32} {f_queueTo : Int32} {f_ring : Nat → Int32} {f_ringSize : Int32} {f_failures : Nat → Int32} {f_refusals : Nat → Int32} {f_best : Nat → Int32} (X : kX p s m args meth c cX48_conflicts 3 RX48 (some .int) (dC, dI) cl (tX48 d))     :
    ∀ (x1 : Int32) (x2 : Int32) (y1 : Int32) (f_thrown : Int32), wX48_conflicts_34 post x1.toInt x2.toInt y1.toInt (zF f_failures) (zF f_refusals) → ∀ (H : Heap) (locs : List Loc) (ls : Array Slot), kH (dC, dI) cl A s.heap H locs (wX48 ci ad d f_rowTriples f_rowVersions f_rowTells f_rows f_latest f_pins f_writers f_sees f_states f_notes f_wrote f_waitsFor f_waitTriples f_waitTells f_since f_clock f_count f_holders f_queue f_queueFrom f_queueTo f_ring f_ringSize f_failures f_refusals f_thrown f_best) → lv_has ls 3 [(0, .ref (ad 0)), (1, .int x1), (2, .int x2)] → W p l e ({ frames := 1, cells := 0, slots := 0, locals := 22 } : Room) s m args below meth c H locs 0 0 (MQ below (va_Qi (fun (r : Int32) (u : Int32) => post r.toInt (u).toInt) (kB (dC, dI) cl (tX48 d) A (fun u : Int32 => (wX48 ci ad d f_rowTriples f_rowVersions f_rowTells f_rows f_latest f_pins f_writers f_sees f_states f_notes f_wrote f_waitsFor f_waitTriples f_waitTells f_since f_clock f_count f_holders f_queue f_queueFrom f_queueTo f_ring f_ringSize f_failures f_refusals (u) f_best))) A) args s 0 0 A) (F0 m 34 ls [.int y1, .ref (ad 0)]) := by
  have hx := X.1.1
  have hb := X.1.2.1
  intro x1 x2 y1 f_thrown hw H locs ls hH hl
  unfold wX48_conflicts_34 at hw
  refine lv_iconst (v := 1) hx hb dX48_conflicts_34 (by decide) ?_
  refine k_i0 hH (k_runV (As := [.int y1, .int 1]) (rest := []) X hH.1 hH.2.1 X.2.2.2 (walkX48_fails hc (x1 := y1) (x2 := 1) (f_rowTriples := f_rowTriples) (f_rowVersions := f_rowVersions) (f_rowTells := f_rowTells) (f_rows := f_rows) (f_latest := f_latest) (f_pins := f_pins) (f_writers := f_writers) (f_sees := f_sees) (f_states := f_states) (f_notes := f_notes) (f_wrote := f_wrote) (f_waitsFor := f_waitsFor) (f_waitTriples := f_waitTriples) (f_waitTells := f_waitTells) (f_since := f_since) (f_clock := f_clock) (f_count := f_count) (f_holders := f_holders) (f_queue := f_queue) (f_queueFrom := f_queueFrom) (f_queueTo := f_queueTo) (f_ring := f_ring) (f_ringSize := f_ringSize) (f_failures := f_failures) (f_refusals := f_refusals) (f_thrown := f_thrown) (f_best := f_best) hw) (cwV 2 X.1.2.2.2.2 gX48_99 rfl rfl rfl hX48_fails ⟨Nat.le_of_ble_eq_true rfl, Nat.le_of_ble_eq_true rfl⟩) hc (q0 := 0) rfl rfl hl.1 rfl (Nat.le_of_ble_eq_true rfl) dX48_conflicts_35 ⟨Nat.le_refl 0, Nat.le_refl 0⟩) (fun r_3 u H locs hw hH => ?_)
  obtain ⟨f_thrown_4, eu⟩ : ∃ z, z = u := ⟨_, rfl⟩
  subst eu
  have hH : kH (dC, dI) cl A s.heap H locs (wX48 ci ad d f_rowTriples f_rowVersions f_rowTells f_rows f_latest f_pins f_writers f_sees f_states f_notes f_wrote f_waitsFor f_waitTriples f_waitTells f_since f_clock f_count f_holders f_queue f_queueFrom f_queueTo f_ring f_ringSize f_failures f_refusals f_thrown_4 f_best) := hH
  refine lv_if_eq (tgt := 43) hx hb dX48_conflicts_38 (by decide) (fun c_5 => ?_) (fun c_5 => ?_)
  · have hw := hw.1 (z_eq (rfl : r_3.toInt = _) (rfl : (0 : Int32).toInt = 0) c_5)
    refine lv_iload_n hx hb dX48_conflicts_43 rfl (lv_at hl 1 rfl) ?_
    refine lv_if_ne (tgt := 56) hx hb dX48_conflicts_44 (by decide) (fun c_6 => ?_) (fun c_6 => ?_)
    · have hw := hw.2 (z_ne (rfl : x1.toInt = _) (rfl : (0 : Int32).toInt = 0) c_6)
      refine lv_aload_n hx hb dX48_conflicts_56 rfl (lv_at hl 0 rfl) ?_
      refine k_get X hH in_X48 0 rfl hc 24 (by decide) q6096 rfl dX48_conflicts_57 ?_
      refine lv_iload_n hx hb dX48_conflicts_60 rfl (lv_at hl 2 rfl) ?_
      have hq_7 := hw.1
      have hw := hw.2
      refine k_iald X hH 18 17 rfl rfl (z_in (rfl : x2.toInt = _) hq_7) dX48_conflicts_61 ?_
      have e_8 := z_ld (f := f_refusals) (rfl : x2.toInt = _) hq_7.1
      exact k_iret (v := f_refusals x2.toNatClampNeg) X hH (f_thrown_4) (by rw [show (f_refusals x2.toNatClampNeg : Int32).toInt = _ from e_8]; exact hw) rfl rfl dX48_conflicts_62
    · have hw := hw.1 (z_eq (rfl : x1.toInt = _) (rfl : (0 : Int32).toInt = 0) c_6)
      refine lv_aload_n hx hb dX48_conflicts_47 rfl (lv_at hl 0 rfl) ?_
      refine k_get X hH in_X48 0 rfl hc 23 (by decide) q6095 rfl dX48_conflicts_48 ?_
      refine lv_iload_n hx hb dX48_conflicts_51 rfl (lv_at hl 2 rfl) ?_
      have hq_9 := hw.1
      have hw := hw.2
      refine k_iald X hH 17 16 rfl rfl (z_in (rfl : x2.toInt = _) hq_9) dX48_conflicts_52 ?_
      have e_10 := z_ld (f := f_failures) (rfl : x2.toInt = _) hq_9.1
      refine lv_goto (tgt := 62) hx hb dX48_conflicts_53 (by decide) ?_
      exact k_iret (v := f_failures x2.toNatClampNeg) X hH (f_thrown_4) (by rw [show (f_failures x2.toNatClampNeg : Int32).toInt = _ from e_10]; exact hw) rfl rfl dX48_conflicts_62
  · have hw := hw.2 (z_neq (rfl : r_3.toInt = _) (rfl : (0 : Int32).toInt = 0) c_5)
    refine lv_iconst (v := 0) hx hb dX48_conflicts_41 (by decide) ?_
    exact k_iret (v := 0) X hH (f_thrown_4) hw rfl rfl dX48_conflicts_42
set_option maxHeartbeats 4000000 in
theorem atX48_conflicts_10 {p : Program} {l : Launch} {e : Env} {s : State} {m : MethodId} {args : Array Value} {below : List Frame} {meth : Method} {c : Code} {dC : Nat → ClassId} {dI : Nat → Nat → Nat} {cl : List vw_C} {ci : Nat} (hc : cl[ci]? = some (RX48, TX48, 27)) {ad : Nat → Nat} {d : Nat → ClassId} {A : Nat → Prop} {post : Int → Int → Prop} {f_rowTriples : Nat → Int32} {f_rowVersions : Nat → Int32} {f_rowTells : Nat → Int32} {f_rows : Int32} {f_latest : Int32} {f_pins : Nat → Int32} {f_writers : Nat → Int32} {f_sees : Nat → Int32} {f_states : Nat → Int32} {f_notes : Nat → Int32} {f_wrote : Nat → Int32} {f_waitsFor : Nat → Int32} {f_waitTriples : Nat → Int32} {f_waitTells : Nat → Int32} {f_since : Nat → Int32} {f_clock : Int32} {f_count : Int32} {f_holders : Nat → Int32} {f_queue : Nat → Int32} {f_queueFrom : Int32} {f_queueTo : Int32} {f_ring : Nat → Int32} {f_ringSize : Int32} {f_failures : Nat → Int32} {f_refusals : Nat → Int32} {f_best : Nat → Int32} (X : kX p s m args meth c cX48_conflicts 3 RX48 (some .int) (dC, dI) cl (tX48 d))     :
    ∀ (x1 : Int32) (x2 : Int32) (f_thrown : Int32), wX48_conflicts_10 post x1.toInt x2.toInt (zF f_failures) (zF f_refusals) → ∀ (H : Heap) (locs : List Loc) (ls : Array Slot), kH (dC, dI) cl A s.heap H locs (wX48 ci ad d f_rowTriples f_rowVersions f_rowTells f_rows f_latest f_pins f_writers f_sees f_states f_notes f_wrote f_waitsFor f_waitTriples f_waitTells f_since f_clock f_count f_holders f_queue f_queueFrom f_queueTo f_ring f_ringSize f_failures f_refusals f_thrown f_best) → lv_has ls 3 [(0, .ref (ad 0)), (1, .int x1), (2, .int x2)] → W p l e ({ frames := 1, cells := 0, slots := 0, locals := 22 } : Room) s m args below meth c H locs 0 0 (MQ below (va_Qi (fun (r : Int32) (u : Int32) => post r.toInt (u).toInt) (kB (dC, dI) cl (tX48 d) A (fun u : Int32 => (wX48 ci ad d f_rowTriples f_rowVersions f_rowTells f_rows f_latest f_pins f_writers f_sees f_states f_notes f_wrote f_waitsFor f_waitTriples f_waitTells f_since f_clock f_count f_holders f_queue f_queueFrom f_queueTo f_ring f_ringSize f_failures f_refusals (u) f_best))) A) args s 0 0 A) (F0 m 10 ls [.ref (ad 0)]) := by
  have hx := X.1.1
  have hb := X.1.2.1
  intro x1 x2 f_thrown hw H locs ls hH hl
  unfold wX48_conflicts_10 at hw
  refine lv_iload_n hx hb dX48_conflicts_10 rfl (lv_at hl 2 rfl) ?_
  refine lv_if_lt (tgt := 33) hx hb dX48_conflicts_11 (by decide) (fun c_2 => ?_) (fun c_2 => ?_)
  · have hw := hw.1 (z_lt (rfl : x2.toInt = _) (rfl : (0 : Int32).toInt = 0) c_2)
    refine lv_iconst (v := 0) hx hb dX48_conflicts_33 (by decide) ?_
    exact atX48_conflicts_34 hc X x1 x2 0 f_thrown hw _ _ ls hH (lv_sub hl [0, 1, 2] rfl)
  · have hw := hw.2 (z_nlt (rfl : x2.toInt = _) (rfl : (0 : Int32).toInt = 0) c_2)
    refine lv_iload_n hx hb dX48_conflicts_14 rfl (lv_at hl 2 rfl) ?_
    refine lv_iload_n hx hb dX48_conflicts_15 rfl (lv_at hl 1 rfl) ?_
    refine lv_if_ne (tgt := 25) hx hb dX48_conflicts_16 (by decide) (fun c_11 => ?_) (fun c_11 => ?_)
    · have hw := hw.2 (z_ne (rfl : x1.toInt = _) (rfl : (0 : Int32).toInt = 0) c_11)
      refine lv_iconst (v := 4) hx hb dX48_conflicts_25 (by decide) ?_
      refine lv_icmp_ge (tgt := 33) hx hb dX48_conflicts_26 (by decide) (fun c_12 => ?_) (fun c_12 => ?_)
      · have hw := hw.1 (z_le (rfl : (4 : Int32).toInt = 4) (rfl : x2.toInt = _) c_12)
        refine lv_iconst (v := 0) hx hb dX48_conflicts_33 (by decide) ?_
        exact atX48_conflicts_34 hc X x1 x2 0 f_thrown hw _ _ ls hH (lv_sub hl [0, 1, 2] rfl)
      · have hw := hw.2 (z_nle (rfl : (4 : Int32).toInt = 4) (rfl : x2.toInt = _) c_12)
        refine lv_iconst (v := 1) hx hb dX48_conflicts_29 (by decide) ?_
        refine lv_goto (tgt := 34) hx hb dX48_conflicts_30 (by decide) ?_
        exact atX48_conflicts_34 hc X x1 x2 1 f_thrown hw _ _ ls hH (lv_sub hl [0, 1, 2] rfl)
    · have hw := hw.1 (z_eq (rfl : x1.toInt = _) (rfl : (0 : Int32).toInt = 0) c_11)
      refine lv_sipush (v := 200) hx hb dX48_conflicts_19 (by decide) ?_
      refine lv_goto (tgt := 26) hx hb dX48_conflicts_22 (by decide) ?_
      refine lv_icmp_ge (tgt := 33) hx hb dX48_conflicts_26 (by decide) (fun c_13 => ?_) (fun c_13 => ?_)
      · have hw := hw.1 (z_le (rfl : (200 : Int32).toInt = 200) (rfl : x2.toInt = _) c_13)
        refine lv_iconst (v := 0) hx hb dX48_conflicts_33 (by decide) ?_
        exact atX48_conflicts_34 hc X x1 x2 0 f_thrown hw _ _ ls hH (lv_sub hl [0, 1, 2] rfl)
      · have hw := hw.2 (z_nle (rfl : (200 : Int32).toInt = 200) (rfl : x2.toInt = _) c_13)
        refine lv_iconst (v := 1) hx hb dX48_conflicts_29 (by decide) ?_
        refine lv_goto (tgt := 34) hx hb dX48_conflicts_30 (by decide) ?_
        exact atX48_conflicts_34 hc X x1 x2 1 f_thrown hw _ _ ls hH (lv_sub hl [0, 1, 2] rfl)
set_option maxHeartbeats 4000000 in
theorem walkX48_conflicts {l : Launch} {dC : Nat → ClassId} {dI : Nat → Nat → Nat} {cl : List vw_C} {ci : Nat} (hc : cl[ci]? = some (RX48, TX48, 27)) {ad : Nat → Nat} {d : Nat → ClassId} {sz : Nat} {f_rowTriples : Nat → Int32} {f_rowVersions : Nat → Int32} {f_rowTells : Nat → Int32} {f_rows : Int32} {f_latest : Int32} {f_pins : Nat → Int32} {f_writers : Nat → Int32} {f_sees : Nat → Int32} {f_states : Nat → Int32} {f_notes : Nat → Int32} {f_wrote : Nat → Int32} {f_waitsFor : Nat → Int32} {f_waitTriples : Nat → Int32} {f_waitTells : Nat → Int32} {f_since : Nat → Int32} {f_clock : Int32} {f_count : Int32} {f_holders : Nat → Int32} {f_queue : Nat → Int32} {f_queueFrom : Int32} {f_queueTo : Int32} {f_ring : Nat → Int32} {f_ringSize : Int32} {f_failures : Nat → Int32} {f_refusals : Nat → Int32} {f_thrown : Int32} {f_best : Nat → Int32} {x1 : Int32} {x2 : Int32} {post : Int → Int → Prop} (hw : wpX48_conflicts post (zF f_failures) (zF f_refusals) x1.toInt x2.toInt) :
    Met l yX48_conflicts (ws_ yX48_conflicts cX48_conflicts 3 (some .int)) ({ frames := 1, cells := 0, slots := 0, locals := 22 } : Room) (kPc (dC, dI) cl (tX48 d) [.ref (ad 0), .int x1, .int x2] sz (wX48 ci ad d f_rowTriples f_rowVersions f_rowTells f_rows f_latest f_pins f_writers f_sees f_states f_notes f_wrote f_waitsFor f_waitTriples f_waitTells f_since f_clock f_count f_holders f_queue f_queueFrom f_queueTo f_ring f_ringSize f_failures f_refusals f_thrown f_best)) (va_Qi (fun (r : Int32) (u : Int32) => post r.toInt (u).toInt) (kB (dC, dI) cl (tX48 d) (va_A (wX48 ci ad d f_rowTriples f_rowVersions f_rowTells f_rows f_latest f_pins f_writers f_sees f_states f_notes f_wrote f_waitsFor f_waitTriples f_waitTells f_since f_clock f_count f_holders f_queue f_queueFrom f_queueTo f_ring f_ringSize f_failures f_refusals f_thrown f_best) sz) (fun u : Int32 => (wX48 ci ad d f_rowTriples f_rowVersions f_rowTells f_rows f_latest f_pins f_writers f_sees f_states f_notes f_wrote f_waitsFor f_waitTriples f_waitTells f_since f_clock f_count f_holders f_queue f_queueFrom f_queueTo f_ring f_ringSize f_failures f_refusals (u) f_best))) (va_A (wX48 ci ad d f_rowTriples f_rowVersions f_rowTells f_rows f_latest f_pins f_writers f_sees f_states f_notes f_wrote f_waitsFor f_waitTriples f_waitTells f_since f_clock f_count f_holders f_queue f_queueFrom f_queueTo f_ring f_ringSize f_failures f_refusals f_thrown f_best) sz)) 0 0 (va_A (wX48 ci ad d f_rowTriples f_rowVersions f_rowTells f_rows f_latest f_pins f_writers f_sees f_states f_notes f_wrote f_waitsFor f_waitTriples f_waitTells f_since f_clock f_count f_holders f_queue f_queueFrom f_queueTo f_ring f_ringSize f_failures f_refusals f_thrown f_best) sz) := by
  refine k_enter (by decide) (Nat.le_of_ble_eq_true rfl) ?_
  intro p e s m below meth c ls X hsz hH hl
  subst hsz
  generalize va_A (wX48 ci ad d f_rowTriples f_rowVersions f_rowTells f_rows f_latest f_pins f_writers f_sees f_states f_notes f_wrote f_waitsFor f_waitTriples f_waitTells f_since f_clock f_count f_holders f_queue f_queueFrom f_queueTo f_ring f_ringSize f_failures f_refusals f_thrown f_best) s.heap.size = A at hH ⊢
  have hx := X.1.1
  have hb := X.1.2.1
  have hl : lv_has ls 3 [(0, .ref (ad 0)), (1, .int x1), (2, .int x2)] := hl
  unfold wpX48_conflicts at hw
  refine lv_aload_n hx hb dX48_conflicts_0 rfl (lv_at hl 0 rfl) ?_
  refine lv_iload_n hx hb dX48_conflicts_1 rfl (lv_at hl 1 rfl) ?_
  refine lv_if_eq (tgt := 10) hx hb dX48_conflicts_2 (by decide) (fun c_1 => ?_) (fun c_1 => ?_)
  · have hw := hw.1 (z_eq (rfl : x1.toInt = _) (rfl : (0 : Int32).toInt = 0) c_1)
    exact atX48_conflicts_10 hc X x1 x2 f_thrown hw _ _ ls hH (lv_sub hl [0, 1, 2] rfl)
  · have hw := hw.2 (z_neq (rfl : x1.toInt = _) (rfl : (0 : Int32).toInt = 0) c_1)
    refine lv_iload_n hx hb dX48_conflicts_5 rfl (lv_at hl 1 rfl) ?_
    refine lv_iconst (v := 1) hx hb dX48_conflicts_6 (by decide) ?_
    refine lv_icmp_ne (tgt := 33) hx hb dX48_conflicts_7 (by decide) (fun c_14 => ?_) (fun c_14 => ?_)
    · have hw := hw.2 (z_ne (rfl : x1.toInt = _) (rfl : (1 : Int32).toInt = 1) c_14)
      refine lv_iconst (v := 0) hx hb dX48_conflicts_33 (by decide) ?_
      exact atX48_conflicts_34 hc X x1 x2 0 f_thrown hw _ _ ls hH (lv_sub hl [0, 1, 2] rfl)
    · have hw := hw.1 (z_eq (rfl : x1.toInt = _) (rfl : (1 : Int32).toInt = 1) c_14)
      exact atX48_conflicts_10 hc X x1 x2 f_thrown hw _ _ ls hH (lv_sub hl [0, 1, 2] rfl)
