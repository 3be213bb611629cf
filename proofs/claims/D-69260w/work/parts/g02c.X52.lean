/-! KnowHouseModel$ClassifySortModel (printed by tools/zgen.py) -/
set_option maxRecDepth 100000
set_option maxHeartbeats 4000000 in
theorem walkX52_isClass {l : Launch} {dC : Nat → ClassId} {dI : Nat → Nat → Nat} {cl : List vw_C} {ci : Nat} (hc : cl[ci]? = some (RX52, TX52, 23)) {ad : Nat → Nat} {d : Nat → ClassId} {sz : Nat} {f_thrown : Int32} {f_classes : Int32} {f_things : Int32} {f_axioms : Int32} {f_fuel : Int32} {f_questions : Int32} {f_sorted : Int32} {f_left : Nat → Int32} {f_other : Nat → Int32} {f_right : Nat → Int32} {f_there : Nat → Int32} {f_member : Nat → Int32} {f_state : Nat → Int32} {f_before : Nat → Int32} {f_placed : Nat → Int32} {f_looked : Nat → Int32} {f_fact : Nat → Int32} {f_maker : Nat → Int32} {f_fired : Nat → Int32} {f_firedCount : Int32} {f_needed : Nat → Int32} {f_module : Nat → Int32} {f_asked : Int32} {x1 : Int32} {post : Int → Prop} (hw : wpX52_isClass post f_classes.toInt x1.toInt) :
    Met l yX52_isClass (ws_ yX52_isClass cX52_isClass 2 (some .boolean)) ({ frames := 0, cells := 0, slots := 0, locals := 0 } : Room) (kPc (dC, dI) cl (tX52 d) [.ref (ad 0), .int x1] sz (wX52 ci ad d f_thrown f_classes f_things f_axioms f_fuel f_questions f_sorted f_left f_other f_right f_there f_member f_state f_before f_placed f_looked f_fact f_maker f_fired f_firedCount f_needed f_module f_asked)) (va_Qi (fun (r : Int32) (_ : Unit) => post r.toInt) (kB (dC, dI) cl (tX52 d) (va_A (wX52 ci ad d f_thrown f_classes f_things f_axioms f_fuel f_questions f_sorted f_left f_other f_right f_there f_member f_state f_before f_placed f_looked f_fact f_maker f_fired f_firedCount f_needed f_module f_asked) sz) (fun _ : Unit => (wX52 ci ad d f_thrown f_classes f_things f_axioms f_fuel f_questions f_sorted f_left f_other f_right f_there f_member f_state f_before f_placed f_looked f_fact f_maker f_fired f_firedCount f_needed f_module f_asked))) (va_A (wX52 ci ad d f_thrown f_classes f_things f_axioms f_fuel f_questions f_sorted f_left f_other f_right f_there f_member f_state f_before f_placed f_looked f_fact f_maker f_fired f_firedCount f_needed f_module f_asked) sz)) 0 0 (va_A (wX52 ci ad d f_thrown f_classes f_things f_axioms f_fuel f_questions f_sorted f_left f_other f_right f_there f_member f_state f_before f_placed f_looked f_fact f_maker f_fired f_firedCount f_needed f_module f_asked) sz) := by
  refine k_enter (by decide) (Nat.le_of_ble_eq_true rfl) ?_
  intro p e s m below meth c ls X hsz hH hl
  subst hsz
  generalize va_A (wX52 ci ad d f_thrown f_classes f_things f_axioms f_fuel f_questions f_sorted f_left f_other f_right f_there f_member f_state f_before f_placed f_looked f_fact f_maker f_fired f_firedCount f_needed f_module f_asked) s.heap.size = A at hH ⊢
  have hx := X.1.1
  have hb := X.1.2.1
  have hl : lv_has ls 2 [(0, .ref (ad 0)), (1, .int x1)] := hl
  unfold wpX52_isClass at hw
  refine lv_iload_n hx hb dX52_isClass_0 rfl (lv_at hl 1 rfl) ?_
  refine lv_if_lt (tgt := 16) hx hb dX52_isClass_1 (by decide) (fun c_1 => ?_) (fun c_1 => ?_)
  · have hw := hw.1 (z_lt (rfl : x1.toInt = _) (rfl : (0 : Int32).toInt = 0) c_1)
    refine lv_iconst (v := 0) hx hb dX52_isClass_16 (by decide) ?_
    exact k_iret (v := 0) X hH () hw rfl rfl dX52_isClass_17
  · have hw := hw.2 (z_nlt (rfl : x1.toInt = _) (rfl : (0 : Int32).toInt = 0) c_1)
    refine lv_iload_n hx hb dX52_isClass_4 rfl (lv_at hl 1 rfl) ?_
    refine lv_aload_n hx hb dX52_isClass_5 rfl (lv_at hl 0 rfl) ?_
    refine k_get X hH in_X52 0 rfl hc 1 (by decide) q6382 rfl dX52_isClass_6 ?_
    refine lv_icmp_ge (tgt := 16) hx hb dX52_isClass_9 (by decide) (fun c_2 => ?_) (fun c_2 => ?_)
    · have hw := hw.1 (z_le (rfl : f_classes.toInt = _) (rfl : x1.toInt = _) c_2)
      refine lv_iconst (v := 0) hx hb dX52_isClass_16 (by decide) ?_
      exact k_iret (v := 0) X hH () hw rfl rfl dX52_isClass_17
    · have hw := hw.2 (z_nle (rfl : f_classes.toInt = _) (rfl : x1.toInt = _) c_2)
      refine lv_iconst (v := 1) hx hb dX52_isClass_12 (by decide) ?_
      refine lv_goto (tgt := 17) hx hb dX52_isClass_13 (by decide) ?_
      exact k_iret (v := 1) X hH () hw rfl rfl dX52_isClass_17
set_option maxHeartbeats 4000000 in
theorem atX52_isTouched_2 {p : Program} {l : Launch} {e : Env} {s : State} {m : MethodId} {args : Array Value} {below : List Frame} {meth : Method} {c : Code} {dC : Nat → ClassId} {dI : Nat → Nat → Nat} {cl : List vw_C} {ci : Nat} (hc : cl[ci]? = some (RX52, TX52, 23)) {ad : Nat → Nat} {d : Nat → ClassId} {A : Nat → Prop} {post : Int → (Int → Int) → Prop} {f_thrown : Int32} {f_classes : Int32} {f_things : Int32} {f_axioms : Int32} {f_fuel : Int32} {f_questions : Int32} {f_sorted : Int32} {f_left : Nat → Int32} {f_other : Nat → Int32} {f_right : Nat → Int32} {f_there : Nat → Int32} {f_member : Nat → Int32} {f_state : Nat → Int32} {f_before : Nat → Int32} {f_placed : Nat → Int32} {f_looked : Nat → Int32} {f_fact : Nat → Int32} {f_maker : Nat → Int32} {f_fired : Nat → Int32} {f_firedCount : Int32} {f_needed : Nat → Int32} {f_asked : Int32} (X : kX p s m args meth c cX52_isTouched 7 RX52 (some .boolean) (dC, dI) cl (tX52 d)) {K30 : (Int → Int) → Prop} {x1 : Int32} {x2 : Int32}  (hk30 : ∀ (f_module : Nat → Int32), K30 (zF f_module) → ∀ (H : Heap) (locs : List Loc) (ls : Array Slot), kH (dC, dI) cl A s.heap H locs (wX52 ci ad d f_thrown f_classes f_things f_axioms f_fuel f_questions f_sorted f_left f_other f_right f_there f_member f_state f_before f_placed f_looked f_fact f_maker f_fired f_firedCount f_needed f_module f_asked) → lv_has ls 7 [(0, .ref (ad 0)), (2, .int x2)] → W p l e ({ frames := 0, cells := 0, slots := 0, locals := 0 } : Room) s m args below meth c H locs 0 0 (MQ below (va_Qi (fun (r : Int32) (u : (Nat → Int32)) => post r.toInt (zF (u))) (kB (dC, dI) cl (tX52 d) A (fun u : (Nat → Int32) => (wX52 ci ad d f_thrown f_classes f_things f_axioms f_fuel f_questions f_sorted f_left f_other f_right f_there f_member f_state f_before f_placed f_looked f_fact f_maker f_fired f_firedCount f_needed (u) f_asked))) A) args s 0 0 A) (F0 m 30 ls [])) :
    ∀ (nn : Nat) (x3 : Int32) (f_module : Nat → Int32), wX52_isTouched_2 K30 x1.toInt nn x3.toInt (zF f_module) → ∀ (H : Heap) (locs : List Loc) (ls : Array Slot), kH (dC, dI) cl A s.heap H locs (wX52 ci ad d f_thrown f_classes f_things f_axioms f_fuel f_questions f_sorted f_left f_other f_right f_there f_member f_state f_before f_placed f_looked f_fact f_maker f_fired f_firedCount f_needed f_module f_asked) → lv_has ls 7 [(0, .ref (ad 0)), (1, .int x1), (2, .int x2), (3, .int x3)] → W p l e ({ frames := 0, cells := 0, slots := 0, locals := 0 } : Room) s m args below meth c H locs 0 0 (MQ below (va_Qi (fun (r : Int32) (u : (Nat → Int32)) => post r.toInt (zF (u))) (kB (dC, dI) cl (tX52 d) A (fun u : (Nat → Int32) => (wX52 ci ad d f_thrown f_classes f_things f_axioms f_fuel f_questions f_sorted f_left f_other f_right f_there f_member f_state f_before f_placed f_looked f_fact f_maker f_fired f_firedCount f_needed (u) f_asked))) A) args s 0 0 A) (F0 m 2 ls []) := by
  have hx := X.1.1
  have hb := X.1.2.1
  intro nn
  induction nn with
  | zero =>
    intro x3 f_module hw
    exact False.elim hw
  | succ n ih =>
    intro x3 f_module hw H locs ls hH hl
    rw [wX52_isTouched_2] at hw
    refine lv_iload_n hx hb dX52_isTouched_2 rfl (lv_at hl 3 rfl) ?_
    refine lv_bipush (v := 20) hx hb dX52_isTouched_3 (by decide) ?_
    refine lv_icmp_gt (tgt := 30) hx hb dX52_isTouched_5 (by decide) (fun c_1 => ?_) (fun c_1 => ?_)
    · have hw := hw.1 (z_lt (rfl : (20 : Int32).toInt = 20) (rfl : x3.toInt = _) c_1)
      exact hk30 f_module hw _ _ ls hH (lv_sub hl [0, 2] rfl)
    · have hw := hw.2 (z_nlt (rfl : (20 : Int32).toInt = 20) (rfl : x3.toInt = _) c_1)
      refine lv_aload_n hx hb dX52_isTouched_8 rfl (lv_at hl 0 rfl) ?_
      refine k_get X hH in_X52 0 rfl hc 21 (by decide) q6402 rfl dX52_isTouched_9 ?_
      refine lv_iload_n hx hb dX52_isTouched_12 rfl (lv_at hl 3 rfl) ?_
      refine lv_iload_n hx hb dX52_isTouched_13 rfl (lv_at hl 3 rfl) ?_
      refine lv_iload_n hx hb dX52_isTouched_14 rfl (lv_at hl 1 rfl) ?_
      refine lv_icmp_ne (tgt := 22) hx hb dX52_isTouched_15 (by decide) (fun c_2 => ?_) (fun c_2 => ?_)
      · have hw := hw.2 (z_ne (rfl : x3.toInt = _) (rfl : x1.toInt = _) c_2)
        refine lv_iconst (v := 0) hx hb dX52_isTouched_22 (by decide) ?_
        have hq_4 := hw.1
        have hw := hw.2
        obtain ⟨f_module_3, ef_module_3⟩ : ∃ y : Nat → Int32, y = upd f_module x3.toNatClampNeg (vp_nar .boolean 0) := ⟨_, rfl⟩
        refine k_zast X hH 14 13 rfl rfl (z_in (rfl : x3.toInt = _) hq_4) dX52_isTouched_23 ef_module_3 (ws1 := (wX52 ci ad d f_thrown f_classes f_things f_axioms f_fuel f_questions f_sorted f_left f_other f_right f_there f_member f_state f_before f_placed f_looked f_fact f_maker f_fired f_firedCount f_needed f_module_3 f_asked)) rfl (fun H locs hH => ?_)
        have hw := hw (zF f_module_3) (by rw [ef_module_3]; exact z_st (f := f_module) (rfl : x3.toInt = _) hq_4.1 (z_narZ (rfl : (0 : Int32).toInt = 0) (by decide)))
        have hq_6 := hw.1
        have hw := hw.2
        obtain ⟨x3_5, ex3_5⟩ : ∃ y : Int32, y = x3 + 1 := ⟨_, rfl⟩
        have hw := hw x3_5.toInt (by rw [ex3_5]; exact (z_x (z_add (z_m (rfl : x3.toInt = _)) (z_m (rfl : (1 : Int32).toInt = 1))) hq_6))
        refine lv_iinc (v := x3_5) (lv' := [(3, .int x3_5), (0, .ref (ad 0)), (1, .int x1), (2, .int x2)]) hx hb dX52_isTouched_24 hl (k := 3) rfl (by rw [ex3_5]; rfl) (by decide) rfl (fun ls hl => ?_)
        refine lv_goto (tgt := 2) hx hb dX52_isTouched_27 (by decide) ?_
        exact ih x3_5 f_module_3 hw _ _ ls hH (lv_sub hl [1, 2, 3, 0] rfl)
      · have hw := hw.1 (z_eq (rfl : x3.toInt = _) (rfl : x1.toInt = _) c_2)
        refine lv_iconst (v := 1) hx hb dX52_isTouched_18 (by decide) ?_
        refine lv_goto (tgt := 23) hx hb dX52_isTouched_19 (by decide) ?_
        have hq_8 := hw.1
        have hw := hw.2
        obtain ⟨f_module_7, ef_module_7⟩ : ∃ y : Nat → Int32, y = upd f_module x3.toNatClampNeg (vp_nar .boolean 1) := ⟨_, rfl⟩
        refine k_zast X hH 14 13 rfl rfl (z_in (rfl : x3.toInt = _) hq_8) dX52_isTouched_23 ef_module_7 (ws1 := (wX52 ci ad d f_thrown f_classes f_things f_axioms f_fuel f_questions f_sorted f_left f_other f_right f_there f_member f_state f_before f_placed f_looked f_fact f_maker f_fired f_firedCount f_needed f_module_7 f_asked)) rfl (fun H locs hH => ?_)
        have hw := hw (zF f_module_7) (by rw [ef_module_7]; exact z_st (f := f_module) (rfl : x3.toInt = _) hq_8.1 (z_narZ (rfl : (1 : Int32).toInt = 1) (by decide)))
        have hq_10 := hw.1
        have hw := hw.2
        obtain ⟨x3_9, ex3_9⟩ : ∃ y : Int32, y = x3 + 1 := ⟨_, rfl⟩
        have hw := hw x3_9.toInt (by rw [ex3_9]; exact (z_x (z_add (z_m (rfl : x3.toInt = _)) (z_m (rfl : (1 : Int32).toInt = 1))) hq_10))
        refine lv_iinc (v := x3_9) (lv' := [(3, .int x3_9), (0, .ref (ad 0)), (1, .int x1), (2, .int x2)]) hx hb dX52_isTouched_24 hl (k := 3) rfl (by rw [ex3_9]; rfl) (by decide) rfl (fun ls hl => ?_)
        refine lv_goto (tgt := 2) hx hb dX52_isTouched_27 (by decide) ?_
        exact ih x3_9 f_module_7 hw _ _ ls hH (lv_sub hl [1, 2, 3, 0] rfl)
set_option maxHeartbeats 4000000 in
theorem atX52_isTouched_167 {p : Program} {l : Launch} {e : Env} {s : State} {m : MethodId} {args : Array Value} {below : List Frame} {meth : Method} {c : Code} {dC : Nat → ClassId} {dI : Nat → Nat → Nat} {cl : List vw_C} {ci : Nat} (hc : cl[ci]? = some (RX52, TX52, 23)) {ad : Nat → Nat} {d : Nat → ClassId} {A : Nat → Prop} {post : Int → (Int → Int) → Prop} {f_thrown : Int32} {f_classes : Int32} {f_things : Int32} {f_axioms : Int32} {f_fuel : Int32} {f_questions : Int32} {f_sorted : Int32} {f_left : Nat → Int32} {f_other : Nat → Int32} {f_right : Nat → Int32} {f_there : Nat → Int32} {f_member : Nat → Int32} {f_state : Nat → Int32} {f_before : Nat → Int32} {f_placed : Nat → Int32} {f_looked : Nat → Int32} {f_fact : Nat → Int32} {f_maker : Nat → Int32} {f_fired : Nat → Int32} {f_firedCount : Int32} {f_needed : Nat → Int32} {f_asked : Int32} (X : kX p s m args meth c cX52_isTouched 7 RX52 (some .boolean) (dC, dI) cl (tX52 d)) {K41 : Int → Int → (Int → Int) → Prop} {x2 : Int32}  (hk41 : ∀ (x3 : Int32) (x4 : Int32) (f_module : Nat → Int32), K41 x3.toInt x4.toInt (zF f_module) → ∀ (H : Heap) (locs : List Loc) (ls : Array Slot), kH (dC, dI) cl A s.heap H locs (wX52 ci ad d f_thrown f_classes f_things f_axioms f_fuel f_questions f_sorted f_left f_other f_right f_there f_member f_state f_before f_placed f_looked f_fact f_maker f_fired f_firedCount f_needed f_module f_asked) → lv_has ls 7 [(0, .ref (ad 0)), (2, .int x2), (3, .int x3), (4, .int x4)] → W p l e ({ frames := 0, cells := 0, slots := 0, locals := 0 } : Room) s m args below meth c H locs 0 0 (MQ below (va_Qi (fun (r : Int32) (u : (Nat → Int32)) => post r.toInt (zF (u))) (kB (dC, dI) cl (tX52 d) A (fun u : (Nat → Int32) => (wX52 ci ad d f_thrown f_classes f_things f_axioms f_fuel f_questions f_sorted f_left f_other f_right f_there f_member f_state f_before f_placed f_looked f_fact f_maker f_fired f_firedCount f_needed (u) f_asked))) A) args s 0 0 A) (F0 m 41 ls [])) :
    ∀ (x3 : Int32) (x4 : Int32) (x5 : Int32) (y0 : Int32) (f_module : Nat → Int32), wX52_isTouched_167 K41 x3.toInt x4.toInt x5.toInt y0.toInt (zF f_left) (zF f_other) (zF f_right) (zF f_module) → ∀ (H : Heap) (locs : List Loc) (ls : Array Slot), kH (dC, dI) cl A s.heap H locs (wX52 ci ad d f_thrown f_classes f_things f_axioms f_fuel f_questions f_sorted f_left f_other f_right f_there f_member f_state f_before f_placed f_looked f_fact f_maker f_fired f_firedCount f_needed f_module f_asked) → lv_has ls 7 [(0, .ref (ad 0)), (2, .int x2), (3, .int x3), (4, .int x4), (5, .int x5)] → W p l e ({ frames := 0, cells := 0, slots := 0, locals := 0 } : Room) s m args below meth c H locs 0 0 (MQ below (va_Qi (fun (r : Int32) (u : (Nat → Int32)) => post r.toInt (zF (u))) (kB (dC, dI) cl (tX52 d) A (fun u : (Nat → Int32) => (wX52 ci ad d f_thrown f_classes f_things f_axioms f_fuel f_questions f_sorted f_left f_other f_right f_there f_member f_state f_before f_placed f_looked f_fact f_maker f_fired f_firedCount f_needed (u) f_asked))) A) args s 0 0 A) (F0 m 167 ls [.int y0]) := by
  have hx := X.1.1
  have hb := X.1.2.1
  intro x3 x4 x5 y0 f_module hw H locs ls hH hl
  unfold wX52_isTouched_167 at hw
  refine lv_istore (lv' := [(6, .int y0), (0, .ref (ad 0)), (2, .int x2), (3, .int x3), (4, .int x4), (5, .int x5)]) hx hb dX52_isTouched_167 hl (by decide) rfl (fun ls hl => ?_)
  refine lv_iload hx hb dX52_isTouched_169 (lv_at hl 5 rfl) ?_
  refine lv_if_eq (tgt := 230) hx hb dX52_isTouched_171 (by decide) (fun c_22 => ?_) (fun c_22 => ?_)
  · have hw := hw.1 (z_eq (rfl : x5.toInt = _) (rfl : (0 : Int32).toInt = 0) c_22)
    have hq_24 := hw.1
    have hw := hw.2
    obtain ⟨x4_23, ex4_23⟩ : ∃ y : Int32, y = x4 + 1 := ⟨_, rfl⟩
    have hw := hw x4_23.toInt (by rw [ex4_23]; exact (z_x (z_add (z_m (rfl : x4.toInt = _)) (z_m (rfl : (1 : Int32).toInt = 1))) hq_24))
    refine lv_iinc (v := x4_23) (lv' := [(4, .int x4_23), (6, .int y0), (0, .ref (ad 0)), (2, .int x2), (3, .int x3), (5, .int x5)]) hx hb dX52_isTouched_230 hl (k := 4) rfl (by rw [ex4_23]; rfl) (by decide) rfl (fun ls hl => ?_)
    refine lv_goto (tgt := 41) hx hb dX52_isTouched_233 (by decide) ?_
    exact hk41 x3 x4_23 f_module hw _ _ ls hH (lv_sub hl [2, 3, 4, 0] rfl)
  · have hw := hw.2 (z_neq (rfl : x5.toInt = _) (rfl : (0 : Int32).toInt = 0) c_22)
    refine lv_iload hx hb dX52_isTouched_174 (lv_at hl 0 rfl) ?_
    refine lv_if_ne (tgt := 230) hx hb dX52_isTouched_176 (by decide) (fun c_25 => ?_) (fun c_25 => ?_)
    · have hw := hw.2 (z_ne (rfl : y0.toInt = _) (rfl : (0 : Int32).toInt = 0) c_25)
      have hq_27 := hw.1
      have hw := hw.2
      obtain ⟨x4_26, ex4_26⟩ : ∃ y : Int32, y = x4 + 1 := ⟨_, rfl⟩
      have hw := hw x4_26.toInt (by rw [ex4_26]; exact (z_x (z_add (z_m (rfl : x4.toInt = _)) (z_m (rfl : (1 : Int32).toInt = 1))) hq_27))
      refine lv_iinc (v := x4_26) (lv' := [(4, .int x4_26), (6, .int y0), (0, .ref (ad 0)), (2, .int x2), (3, .int x3), (5, .int x5)]) hx hb dX52_isTouched_230 hl (k := 4) rfl (by rw [ex4_26]; rfl) (by decide) rfl (fun ls hl => ?_)
      refine lv_goto (tgt := 41) hx hb dX52_isTouched_233 (by decide) ?_
      exact hk41 x3 x4_26 f_module hw _ _ ls hH (lv_sub hl [2, 3, 4, 0] rfl)
    · have hw := hw.1 (z_eq (rfl : y0.toInt = _) (rfl : (0 : Int32).toInt = 0) c_25)
      refine lv_aload_n hx hb dX52_isTouched_179 rfl (lv_at hl 1 rfl) ?_
      refine k_get X hH in_X52 0 rfl hc 21 (by decide) q6402 rfl dX52_isTouched_180 ?_
      refine lv_aload_n hx hb dX52_isTouched_183 rfl (lv_at hl 1 rfl) ?_
      refine k_get X hH in_X52 0 rfl hc 7 (by decide) q6388 rfl dX52_isTouched_184 ?_
      refine lv_iload hx hb dX52_isTouched_187 (lv_at hl 4 rfl) ?_
      have hq_28 := hw.1
      have hw := hw.2
      refine k_iald X hH 1 0 rfl rfl (z_in (rfl : x4.toInt = _) hq_28) dX52_isTouched_189 ?_
      have e_29 := z_ld (f := f_left) (rfl : x4.toInt = _) hq_28.1
      refine lv_iconst (v := 1) hx hb dX52_isTouched_190 (by decide) ?_
      have hq_31 := hw.1
      have hw := hw.2
      obtain ⟨f_module_30, ef_module_30⟩ : ∃ y : Nat → Int32, y = upd f_module (f_left x4.toNatClampNeg).toNatClampNeg (vp_nar .boolean 1) := ⟨_, rfl⟩
      refine k_zast X hH 14 13 rfl rfl (z_in e_29 hq_31) dX52_isTouched_191 ef_module_30 (ws1 := (wX52 ci ad d f_thrown f_classes f_things f_axioms f_fuel f_questions f_sorted f_left f_other f_right f_there f_member f_state f_before f_placed f_looked f_fact f_maker f_fired f_firedCount f_needed f_module_30 f_asked)) rfl (fun H locs hH => ?_)
      have hw := hw (zF f_module_30) (by rw [ef_module_30]; exact z_st (f := f_module) e_29 hq_31.1 (z_narZ (rfl : (1 : Int32).toInt = 1) (by decide)))
      refine lv_aload_n hx hb dX52_isTouched_192 rfl (lv_at hl 1 rfl) ?_
      refine k_get X hH in_X52 0 rfl hc 8 (by decide) q6389 rfl dX52_isTouched_193 ?_
      refine lv_iload hx hb dX52_isTouched_196 (lv_at hl 4 rfl) ?_
      refine k_iald X hH 2 1 rfl rfl (z_in (rfl : x4.toInt = _) hq_28) dX52_isTouched_198 ?_
      have e_32 := z_ld (f := f_other) (rfl : x4.toInt = _) hq_28.1
      refine lv_if_lt (tgt := 215) hx hb dX52_isTouched_199 (by decide) (fun c_33 => ?_) (fun c_33 => ?_)
      · have hw := hw.1 (z_lt e_32 (rfl : (0 : Int32).toInt = 0) c_33)
        refine lv_aload_n hx hb dX52_isTouched_215 rfl (lv_at hl 1 rfl) ?_
        refine k_get X hH in_X52 0 rfl hc 21 (by decide) q6402 rfl dX52_isTouched_216 ?_
        refine lv_aload_n hx hb dX52_isTouched_219 rfl (lv_at hl 1 rfl) ?_
        refine k_get X hH in_X52 0 rfl hc 9 (by decide) q6390 rfl dX52_isTouched_220 ?_
        refine lv_iload hx hb dX52_isTouched_223 (lv_at hl 4 rfl) ?_
        refine k_iald X hH 3 2 rfl rfl (z_in (rfl : x4.toInt = _) hq_28) dX52_isTouched_225 ?_
        have e_34 := z_ld (f := f_right) (rfl : x4.toInt = _) hq_28.1
        refine lv_iconst (v := 1) hx hb dX52_isTouched_226 (by decide) ?_
        have hq_36 := hw.1
        have hw := hw.2
        obtain ⟨f_module_35, ef_module_35⟩ : ∃ y : Nat → Int32, y = upd f_module_30 (f_right x4.toNatClampNeg).toNatClampNeg (vp_nar .boolean 1) := ⟨_, rfl⟩
        refine k_zast X hH 14 13 rfl rfl (z_in e_34 hq_36) dX52_isTouched_227 ef_module_35 (ws1 := (wX52 ci ad d f_thrown f_classes f_things f_axioms f_fuel f_questions f_sorted f_left f_other f_right f_there f_member f_state f_before f_placed f_looked f_fact f_maker f_fired f_firedCount f_needed f_module_35 f_asked)) rfl (fun H locs hH => ?_)
        have hw := hw (zF f_module_35) (by rw [ef_module_35]; exact z_st (f := f_module_30) e_34 hq_36.1 (z_narZ (rfl : (1 : Int32).toInt = 1) (by decide)))
        refine lv_iconst (v := 1) hx hb dX52_isTouched_228 (by decide) ?_
        refine lv_istore_n (lv' := [(3, .int 1), (6, .int y0), (0, .ref (ad 0)), (2, .int x2), (4, .int x4), (5, .int x5)]) hx hb dX52_isTouched_229 rfl hl (by decide) rfl (fun ls hl => ?_)
        have hq_38 := hw.1
        have hw := hw.2
        obtain ⟨x4_37, ex4_37⟩ : ∃ y : Int32, y = x4 + 1 := ⟨_, rfl⟩
        have hw := hw x4_37.toInt (by rw [ex4_37]; exact (z_x (z_add (z_m (rfl : x4.toInt = _)) (z_m (rfl : (1 : Int32).toInt = 1))) hq_38))
        refine lv_iinc (v := x4_37) (lv' := [(4, .int x4_37), (3, .int 1), (6, .int y0), (0, .ref (ad 0)), (2, .int x2), (5, .int x5)]) hx hb dX52_isTouched_230 hl (k := 4) rfl (by rw [ex4_37]; rfl) (by decide) rfl (fun ls hl => ?_)
        refine lv_goto (tgt := 41) hx hb dX52_isTouched_233 (by decide) ?_
        exact hk41 1 x4_37 f_module_35 hw _ _ ls hH (lv_sub hl [3, 4, 1, 0] rfl)
      · have hw := hw.2 (z_nlt e_32 (rfl : (0 : Int32).toInt = 0) c_33)
        refine lv_aload_n hx hb dX52_isTouched_202 rfl (lv_at hl 1 rfl) ?_
        refine k_get X hH in_X52 0 rfl hc 21 (by decide) q6402 rfl dX52_isTouched_203 ?_
        refine lv_aload_n hx hb dX52_isTouched_206 rfl (lv_at hl 1 rfl) ?_
        refine k_get X hH in_X52 0 rfl hc 8 (by decide) q6389 rfl dX52_isTouched_207 ?_
        refine lv_iload hx hb dX52_isTouched_210 (lv_at hl 4 rfl) ?_
        refine k_iald X hH 2 1 rfl rfl (z_in (rfl : x4.toInt = _) hq_28) dX52_isTouched_212 ?_
        have e_39 := z_ld (f := f_other) (rfl : x4.toInt = _) hq_28.1
        refine lv_iconst (v := 1) hx hb dX52_isTouched_213 (by decide) ?_
        have hq_41 := hw.1
        have hw := hw.2
        obtain ⟨f_module_40, ef_module_40⟩ : ∃ y : Nat → Int32, y = upd f_module_30 (f_other x4.toNatClampNeg).toNatClampNeg (vp_nar .boolean 1) := ⟨_, rfl⟩
        refine k_zast X hH 14 13 rfl rfl (z_in e_39 hq_41) dX52_isTouched_214 ef_module_40 (ws1 := (wX52 ci ad d f_thrown f_classes f_things f_axioms f_fuel f_questions f_sorted f_left f_other f_right f_there f_member f_state f_before f_placed f_looked f_fact f_maker f_fired f_firedCount f_needed f_module_40 f_asked)) rfl (fun H locs hH => ?_)
        have hw := hw (zF f_module_40) (by rw [ef_module_40]; exact z_st (f := f_module_30) e_39 hq_41.1 (z_narZ (rfl : (1 : Int32).toInt = 1) (by decide)))
        refine lv_aload_n hx hb dX52_isTouched_215 rfl (lv_at hl 1 rfl) ?_
        refine k_get X hH in_X52 0 rfl hc 21 (by decide) q6402 rfl dX52_isTouched_216 ?_
        refine lv_aload_n hx hb dX52_isTouched_219 rfl (lv_at hl 1 rfl) ?_
        refine k_get X hH in_X52 0 rfl hc 9 (by decide) q6390 rfl dX52_isTouched_220 ?_
        refine lv_iload hx hb dX52_isTouched_223 (lv_at hl 4 rfl) ?_
        refine k_iald X hH 3 2 rfl rfl (z_in (rfl : x4.toInt = _) hq_28) dX52_isTouched_225 ?_
        have e_42 := z_ld (f := f_right) (rfl : x4.toInt = _) hq_28.1
        refine lv_iconst (v := 1) hx hb dX52_isTouched_226 (by decide) ?_
        have hq_44 := hw.1
        have hw := hw.2
        obtain ⟨f_module_43, ef_module_43⟩ : ∃ y : Nat → Int32, y = upd f_module_40 (f_right x4.toNatClampNeg).toNatClampNeg (vp_nar .boolean 1) := ⟨_, rfl⟩
        refine k_zast X hH 14 13 rfl rfl (z_in e_42 hq_44) dX52_isTouched_227 ef_module_43 (ws1 := (wX52 ci ad d f_thrown f_classes f_things f_axioms f_fuel f_questions f_sorted f_left f_other f_right f_there f_member f_state f_before f_placed f_looked f_fact f_maker f_fired f_firedCount f_needed f_module_43 f_asked)) rfl (fun H locs hH => ?_)
        have hw := hw (zF f_module_43) (by rw [ef_module_43]; exact z_st (f := f_module_40) e_42 hq_44.1 (z_narZ (rfl : (1 : Int32).toInt = 1) (by decide)))
        refine lv_iconst (v := 1) hx hb dX52_isTouched_228 (by decide) ?_
        refine lv_istore_n (lv' := [(3, .int 1), (6, .int y0), (0, .ref (ad 0)), (2, .int x2), (4, .int x4), (5, .int x5)]) hx hb dX52_isTouched_229 rfl hl (by decide) rfl (fun ls hl => ?_)
        have hq_46 := hw.1
        have hw := hw.2
        obtain ⟨x4_45, ex4_45⟩ : ∃ y : Int32, y = x4 + 1 := ⟨_, rfl⟩
        have hw := hw x4_45.toInt (by rw [ex4_45]; exact (z_x (z_add (z_m (rfl : x4.toInt = _)) (z_m (rfl : (1 : Int32).toInt = 1))) hq_46))
        refine lv_iinc (v := x4_45) (lv' := [(4, .int x4_45), (3, .int 1), (6, .int y0), (0, .ref (ad 0)), (2, .int x2), (5, .int x5)]) hx hb dX52_isTouched_230 hl (k := 4) rfl (by rw [ex4_45]; rfl) (by decide) rfl (fun ls hl => ?_)
        refine lv_goto (tgt := 41) hx hb dX52_isTouched_233 (by decide) ?_
        exact hk41 1 x4_45 f_module_43 hw _ _ ls hH (lv_sub hl [3, 4, 1, 0] rfl)
set_option maxHeartbeats 4000000 in
theorem atX52_isTouched_105 {p : Program} {l : Launch} {e : Env} {s : State} {m : MethodId} {args : Array Value} {below : List Frame} {meth : Method} {c : Code} {dC : Nat → ClassId} {dI : Nat → Nat → Nat} {cl : List vw_C} {ci : Nat} (hc : cl[ci]? = some (RX52, TX52, 23)) {ad : Nat → Nat} {d : Nat → ClassId} {A : Nat → Prop} {post : Int → (Int → Int) → Prop} {f_thrown : Int32} {f_classes : Int32} {f_things : Int32} {f_axioms : Int32} {f_fuel : Int32} {f_questions : Int32} {f_sorted : Int32} {f_left : Nat → Int32} {f_other : Nat → Int32} {f_right : Nat → Int32} {f_there : Nat → Int32} {f_member : Nat → Int32} {f_state : Nat → Int32} {f_before : Nat → Int32} {f_placed : Nat → Int32} {f_looked : Nat → Int32} {f_fact : Nat → Int32} {f_maker : Nat → Int32} {f_fired : Nat → Int32} {f_firedCount : Int32} {f_needed : Nat → Int32} {f_asked : Int32} (X : kX p s m args meth c cX52_isTouched 7 RX52 (some .boolean) (dC, dI) cl (tX52 d)) {K41 : Int → Int → (Int → Int) → Prop} {x2 : Int32}  (hk41 : ∀ (x3 : Int32) (x4 : Int32) (f_module : Nat → Int32), K41 x3.toInt x4.toInt (zF f_module) → ∀ (H : Heap) (locs : List Loc) (ls : Array Slot), kH (dC, dI) cl A s.heap H locs (wX52 ci ad d f_thrown f_classes f_things f_axioms f_fuel f_questions f_sorted f_left f_other f_right f_there f_member f_state f_before f_placed f_looked f_fact f_maker f_fired f_firedCount f_needed f_module f_asked) → lv_has ls 7 [(0, .ref (ad 0)), (2, .int x2), (3, .int x3), (4, .int x4)] → W p l e ({ frames := 0, cells := 0, slots := 0, locals := 0 } : Room) s m args below meth c H locs 0 0 (MQ below (va_Qi (fun (r : Int32) (u : (Nat → Int32)) => post r.toInt (zF (u))) (kB (dC, dI) cl (tX52 d) A (fun u : (Nat → Int32) => (wX52 ci ad d f_thrown f_classes f_things f_axioms f_fuel f_questions f_sorted f_left f_other f_right f_there f_member f_state f_before f_placed f_looked f_fact f_maker f_fired f_firedCount f_needed (u) f_asked))) A) args s 0 0 A) (F0 m 41 ls [])) :
    ∀ (x3 : Int32) (x4 : Int32) (y0 : Int32) (f_module : Nat → Int32), wX52_isTouched_105 K41 x3.toInt x4.toInt y0.toInt (zF f_left) (zF f_other) (zF f_right) (zF f_module) → ∀ (H : Heap) (locs : List Loc) (ls : Array Slot), kH (dC, dI) cl A s.heap H locs (wX52 ci ad d f_thrown f_classes f_things f_axioms f_fuel f_questions f_sorted f_left f_other f_right f_there f_member f_state f_before f_placed f_looked f_fact f_maker f_fired f_firedCount f_needed f_module f_asked) → lv_has ls 7 [(0, .ref (ad 0)), (2, .int x2), (3, .int x3), (4, .int x4)] → W p l e ({ frames := 0, cells := 0, slots := 0, locals := 0 } : Room) s m args below meth c H locs 0 0 (MQ below (va_Qi (fun (r : Int32) (u : (Nat → Int32)) => post r.toInt (zF (u))) (kB (dC, dI) cl (tX52 d) A (fun u : (Nat → Int32) => (wX52 ci ad d f_thrown f_classes f_things f_axioms f_fuel f_questions f_sorted f_left f_other f_right f_there f_member f_state f_before f_placed f_looked f_fact f_maker f_fired f_firedCount f_needed (u) f_asked))) A) args s 0 0 A) (F0 m 105 ls [.int y0]) := by
  have hx := X.1.1
  have hb := X.1.2.1
  intro x3 x4 y0 f_module hw H locs ls hH hl
  unfold wX52_isTouched_105 at hw
  refine lv_istore (lv' := [(5, .int y0), (0, .ref (ad 0)), (2, .int x2), (3, .int x3), (4, .int x4)]) hx hb dX52_isTouched_105 hl (by decide) rfl (fun ls hl => ?_)
  refine lv_aload_n hx hb dX52_isTouched_107 rfl (lv_at hl 1 rfl) ?_
  refine k_get X hH in_X52 0 rfl hc 21 (by decide) q6402 rfl dX52_isTouched_108 ?_
  refine lv_aload_n hx hb dX52_isTouched_111 rfl (lv_at hl 1 rfl) ?_
  refine k_get X hH in_X52 0 rfl hc 7 (by decide) q6388 rfl dX52_isTouched_112 ?_
  refine lv_iload hx hb dX52_isTouched_115 (lv_at hl 4 rfl) ?_
  have hq_17 := hw.1
  have hw := hw.2
  refine k_iald X hH 1 0 rfl rfl (z_in (rfl : x4.toInt = _) hq_17) dX52_isTouched_117 ?_
  have e_18 := z_ld (f := f_left) (rfl : x4.toInt = _) hq_17.1
  have hq_19 := hw.1
  have hw := hw.2
  refine k_zald X hH 14 13 rfl rfl (z_in e_18 hq_19) dX52_isTouched_118 ?_
  have e_20 := z_ld (f := f_module) e_18 hq_19.1
  refine lv_if_eq (tgt := 166) hx hb dX52_isTouched_119 (by decide) (fun c_21 => ?_) (fun c_21 => ?_)
  · have hw := hw.1 (z_eq e_20 (rfl : (0 : Int32).toInt = 0) c_21)
    refine lv_iconst (v := 0) hx hb dX52_isTouched_166 (by decide) ?_
    exact atX52_isTouched_167 hc X hk41 x3 x4 y0 0 f_module hw _ _ ls hH (lv_sub hl [1, 2, 3, 4, 0] rfl)
  · have hw := hw.2 (z_neq e_20 (rfl : (0 : Int32).toInt = 0) c_21)
    refine lv_aload_n hx hb dX52_isTouched_122 rfl (lv_at hl 1 rfl) ?_
    refine k_get X hH in_X52 0 rfl hc 8 (by decide) q6389 rfl dX52_isTouched_123 ?_
    refine lv_iload hx hb dX52_isTouched_126 (lv_at hl 4 rfl) ?_
    refine k_iald X hH 2 1 rfl rfl (z_in (rfl : x4.toInt = _) hq_17) dX52_isTouched_128 ?_
    have e_47 := z_ld (f := f_other) (rfl : x4.toInt = _) hq_17.1
    refine lv_if_lt (tgt := 147) hx hb dX52_isTouched_129 (by decide) (fun c_48 => ?_) (fun c_48 => ?_)
    · have hw := hw.1 (z_lt e_47 (rfl : (0 : Int32).toInt = 0) c_48)
      refine lv_aload_n hx hb dX52_isTouched_147 rfl (lv_at hl 1 rfl) ?_
      refine k_get X hH in_X52 0 rfl hc 21 (by decide) q6402 rfl dX52_isTouched_148 ?_
      refine lv_aload_n hx hb dX52_isTouched_151 rfl (lv_at hl 1 rfl) ?_
      refine k_get X hH in_X52 0 rfl hc 9 (by decide) q6390 rfl dX52_isTouched_152 ?_
      refine lv_iload hx hb dX52_isTouched_155 (lv_at hl 4 rfl) ?_
      refine k_iald X hH 3 2 rfl rfl (z_in (rfl : x4.toInt = _) hq_17) dX52_isTouched_157 ?_
      have e_49 := z_ld (f := f_right) (rfl : x4.toInt = _) hq_17.1
      have hq_50 := hw.1
      have hw := hw.2
      refine k_zald X hH 14 13 rfl rfl (z_in e_49 hq_50) dX52_isTouched_158 ?_
      have e_51 := z_ld (f := f_module) e_49 hq_50.1
      refine lv_if_eq (tgt := 166) hx hb dX52_isTouched_159 (by decide) (fun c_52 => ?_) (fun c_52 => ?_)
      · have hw := hw.1 (z_eq e_51 (rfl : (0 : Int32).toInt = 0) c_52)
        refine lv_iconst (v := 0) hx hb dX52_isTouched_166 (by decide) ?_
        exact atX52_isTouched_167 hc X hk41 x3 x4 y0 0 f_module hw _ _ ls hH (lv_sub hl [1, 2, 3, 4, 0] rfl)
      · have hw := hw.2 (z_neq e_51 (rfl : (0 : Int32).toInt = 0) c_52)
        refine lv_iconst (v := 1) hx hb dX52_isTouched_162 (by decide) ?_
        refine lv_goto (tgt := 167) hx hb dX52_isTouched_163 (by decide) ?_
        exact atX52_isTouched_167 hc X hk41 x3 x4 y0 1 f_module hw _ _ ls hH (lv_sub hl [1, 2, 3, 4, 0] rfl)
    · have hw := hw.2 (z_nlt e_47 (rfl : (0 : Int32).toInt = 0) c_48)
      refine lv_aload_n hx hb dX52_isTouched_132 rfl (lv_at hl 1 rfl) ?_
      refine k_get X hH in_X52 0 rfl hc 21 (by decide) q6402 rfl dX52_isTouched_133 ?_
      refine lv_aload_n hx hb dX52_isTouched_136 rfl (lv_at hl 1 rfl) ?_
      refine k_get X hH in_X52 0 rfl hc 8 (by decide) q6389 rfl dX52_isTouched_137 ?_
      refine lv_iload hx hb dX52_isTouched_140 (lv_at hl 4 rfl) ?_
      refine k_iald X hH 2 1 rfl rfl (z_in (rfl : x4.toInt = _) hq_17) dX52_isTouched_142 ?_
      have e_53 := z_ld (f := f_other) (rfl : x4.toInt = _) hq_17.1
      have hq_54 := hw.1
      have hw := hw.2
      refine k_zald X hH 14 13 rfl rfl (z_in e_53 hq_54) dX52_isTouched_143 ?_
      have e_55 := z_ld (f := f_module) e_53 hq_54.1
      refine lv_if_eq (tgt := 166) hx hb dX52_isTouched_144 (by decide) (fun c_56 => ?_) (fun c_56 => ?_)
      · have hw := hw.1 (z_eq e_55 (rfl : (0 : Int32).toInt = 0) c_56)
        refine lv_iconst (v := 0) hx hb dX52_isTouched_166 (by decide) ?_
        exact atX52_isTouched_167 hc X hk41 x3 x4 y0 0 f_module hw _ _ ls hH (lv_sub hl [1, 2, 3, 4, 0] rfl)
      · have hw := hw.2 (z_neq e_55 (rfl : (0 : Int32).toInt = 0) c_56)
        refine lv_aload_n hx hb dX52_isTouched_147 rfl (lv_at hl 1 rfl) ?_
        refine k_get X hH in_X52 0 rfl hc 21 (by decide) q6402 rfl dX52_isTouched_148 ?_
        refine lv_aload_n hx hb dX52_isTouched_151 rfl (lv_at hl 1 rfl) ?_
        refine k_get X hH in_X52 0 rfl hc 9 (by decide) q6390 rfl dX52_isTouched_152 ?_
        refine lv_iload hx hb dX52_isTouched_155 (lv_at hl 4 rfl) ?_
        refine k_iald X hH 3 2 rfl rfl (z_in (rfl : x4.toInt = _) hq_17) dX52_isTouched_157 ?_
        have e_57 := z_ld (f := f_right) (rfl : x4.toInt = _) hq_17.1
        have hq_58 := hw.1
        have hw := hw.2
        refine k_zald X hH 14 13 rfl rfl (z_in e_57 hq_58) dX52_isTouched_158 ?_
        have e_59 := z_ld (f := f_module) e_57 hq_58.1
        refine lv_if_eq (tgt := 166) hx hb dX52_isTouched_159 (by decide) (fun c_60 => ?_) (fun c_60 => ?_)
        · have hw := hw.1 (z_eq e_59 (rfl : (0 : Int32).toInt = 0) c_60)
          refine lv_iconst (v := 0) hx hb dX52_isTouched_166 (by decide) ?_
          exact atX52_isTouched_167 hc X hk41 x3 x4 y0 0 f_module hw _ _ ls hH (lv_sub hl [1, 2, 3, 4, 0] rfl)
        · have hw := hw.2 (z_neq e_59 (rfl : (0 : Int32).toInt = 0) c_60)
          refine lv_iconst (v := 1) hx hb dX52_isTouched_162 (by decide) ?_
          refine lv_goto (tgt := 167) hx hb dX52_isTouched_163 (by decide) ?_
          exact atX52_isTouched_167 hc X hk41 x3 x4 y0 1 f_module hw _ _ ls hH (lv_sub hl [1, 2, 3, 4, 0] rfl)
set_option maxHeartbeats 4000000 in
theorem atX52_isTouched_41 {p : Program} {l : Launch} {e : Env} {s : State} {m : MethodId} {args : Array Value} {below : List Frame} {meth : Method} {c : Code} {dC : Nat → ClassId} {dI : Nat → Nat → Nat} {cl : List vw_C} {ci : Nat} (hc : cl[ci]? = some (RX52, TX52, 23)) {ad : Nat → Nat} {d : Nat → ClassId} {A : Nat → Prop} {post : Int → (Int → Int) → Prop} {f_thrown : Int32} {f_classes : Int32} {f_things : Int32} {f_axioms : Int32} {f_fuel : Int32} {f_questions : Int32} {f_sorted : Int32} {f_left : Nat → Int32} {f_other : Nat → Int32} {f_right : Nat → Int32} {f_there : Nat → Int32} {f_member : Nat → Int32} {f_state : Nat → Int32} {f_before : Nat → Int32} {f_placed : Nat → Int32} {f_looked : Nat → Int32} {f_fact : Nat → Int32} {f_maker : Nat → Int32} {f_fired : Nat → Int32} {f_firedCount : Int32} {f_needed : Nat → Int32} {f_asked : Int32} (X : kX p s m args meth c cX52_isTouched 7 RX52 (some .boolean) (dC, dI) cl (tX52 d)) {K236 : Int → (Int → Int) → Prop} {x2 : Int32}  (hk236 : ∀ (x3 : Int32) (f_module : Nat → Int32), K236 x3.toInt (zF f_module) → ∀ (H : Heap) (locs : List Loc) (ls : Array Slot), kH (dC, dI) cl A s.heap H locs (wX52 ci ad d f_thrown f_classes f_things f_axioms f_fuel f_questions f_sorted f_left f_other f_right f_there f_member f_state f_before f_placed f_looked f_fact f_maker f_fired f_firedCount f_needed f_module f_asked) → lv_has ls 7 [(0, .ref (ad 0)), (2, .int x2), (3, .int x3)] → W p l e ({ frames := 0, cells := 0, slots := 0, locals := 0 } : Room) s m args below meth c H locs 0 0 (MQ below (va_Qi (fun (r : Int32) (u : (Nat → Int32)) => post r.toInt (zF (u))) (kB (dC, dI) cl (tX52 d) A (fun u : (Nat → Int32) => (wX52 ci ad d f_thrown f_classes f_things f_axioms f_fuel f_questions f_sorted f_left f_other f_right f_there f_member f_state f_before f_placed f_looked f_fact f_maker f_fired f_firedCount f_needed (u) f_asked))) A) args s 0 0 A) (F0 m 236 ls [])) :
    ∀ (nn : Nat) (x3 : Int32) (x4 : Int32) (f_module : Nat → Int32), wX52_isTouched_41 K236 f_axioms.toInt (zF f_left) (zF f_other) (zF f_right) (zF f_there) nn x3.toInt x4.toInt (zF f_module) → ∀ (H : Heap) (locs : List Loc) (ls : Array Slot), kH (dC, dI) cl A s.heap H locs (wX52 ci ad d f_thrown f_classes f_things f_axioms f_fuel f_questions f_sorted f_left f_other f_right f_there f_member f_state f_before f_placed f_looked f_fact f_maker f_fired f_firedCount f_needed f_module f_asked) → lv_has ls 7 [(0, .ref (ad 0)), (2, .int x2), (3, .int x3), (4, .int x4)] → W p l e ({ frames := 0, cells := 0, slots := 0, locals := 0 } : Room) s m args below meth c H locs 0 0 (MQ below (va_Qi (fun (r : Int32) (u : (Nat → Int32)) => post r.toInt (zF (u))) (kB (dC, dI) cl (tX52 d) A (fun u : (Nat → Int32) => (wX52 ci ad d f_thrown f_classes f_things f_axioms f_fuel f_questions f_sorted f_left f_other f_right f_there f_member f_state f_before f_placed f_looked f_fact f_maker f_fired f_firedCount f_needed (u) f_asked))) A) args s 0 0 A) (F0 m 41 ls []) := by
  have hx := X.1.1
  have hb := X.1.2.1
  intro nn
  induction nn with
  | zero =>
    intro x3 x4 f_module hw
    exact False.elim hw
  | succ n ih =>
    intro x3 x4 f_module hw H locs ls hH hl
    rw [wX52_isTouched_41] at hw
    refine lv_iload hx hb dX52_isTouched_41 (lv_at hl 3 rfl) ?_
    refine lv_aload_n hx hb dX52_isTouched_43 rfl (lv_at hl 0 rfl) ?_
    refine k_get X hH in_X52 0 rfl hc 3 (by decide) q6384 rfl dX52_isTouched_44 ?_
    refine lv_icmp_ge (tgt := 236) hx hb dX52_isTouched_47 (by decide) (fun c_13 => ?_) (fun c_13 => ?_)
    · have hw := hw.1 (z_le (rfl : f_axioms.toInt = _) (rfl : x4.toInt = _) c_13)
      exact hk236 x3 f_module hw _ _ ls hH (lv_sub hl [0, 1, 2] rfl)
    · have hw := hw.2 (z_nle (rfl : f_axioms.toInt = _) (rfl : x4.toInt = _) c_13)
      refine lv_aload_n hx hb dX52_isTouched_50 rfl (lv_at hl 0 rfl) ?_
      refine k_get X hH in_X52 0 rfl hc 10 (by decide) q6391 rfl dX52_isTouched_51 ?_
      refine lv_iload hx hb dX52_isTouched_54 (lv_at hl 3 rfl) ?_
      have hq_14 := hw.1
      have hw := hw.2
      refine k_zald X hH 4 3 rfl rfl (z_in (rfl : x4.toInt = _) hq_14) dX52_isTouched_56 ?_
      have e_15 := z_ld (f := f_there) (rfl : x4.toInt = _) hq_14.1
      refine lv_if_eq (tgt := 104) hx hb dX52_isTouched_57 (by decide) (fun c_16 => ?_) (fun c_16 => ?_)
      · have hw := hw.1 (z_eq e_15 (rfl : (0 : Int32).toInt = 0) c_16)
        refine lv_iconst (v := 0) hx hb dX52_isTouched_104 (by decide) ?_
        exact atX52_isTouched_105 hc X (fun x3 x4 f_module hw H locs ls hH hl => ih x3 x4 f_module hw _ _ ls hH (lv_sub hl [0, 1, 2, 3] rfl)) x3 x4 0 f_module hw _ _ ls hH (lv_sub hl [0, 1, 2, 3] rfl)
      · have hw := hw.2 (z_neq e_15 (rfl : (0 : Int32).toInt = 0) c_16)
        refine lv_aload_n hx hb dX52_isTouched_60 rfl (lv_at hl 0 rfl) ?_
        refine k_get X hH in_X52 0 rfl hc 21 (by decide) q6402 rfl dX52_isTouched_61 ?_
        refine lv_aload_n hx hb dX52_isTouched_64 rfl (lv_at hl 0 rfl) ?_
        refine k_get X hH in_X52 0 rfl hc 7 (by decide) q6388 rfl dX52_isTouched_65 ?_
        refine lv_iload hx hb dX52_isTouched_68 (lv_at hl 3 rfl) ?_
        refine k_iald X hH 1 0 rfl rfl (z_in (rfl : x4.toInt = _) hq_14) dX52_isTouched_70 ?_
        have e_61 := z_ld (f := f_left) (rfl : x4.toInt = _) hq_14.1
        have hq_62 := hw.1
        have hw := hw.2
        refine k_zald X hH 14 13 rfl rfl (z_in e_61 hq_62) dX52_isTouched_71 ?_
        have e_63 := z_ld (f := f_module) e_61 hq_62.1
        refine lv_if_ne (tgt := 100) hx hb dX52_isTouched_72 (by decide) (fun c_64 => ?_) (fun c_64 => ?_)
        · have hw := hw.2 (z_ne e_63 (rfl : (0 : Int32).toInt = 0) c_64)
          refine lv_iconst (v := 1) hx hb dX52_isTouched_100 (by decide) ?_
          refine lv_goto (tgt := 105) hx hb dX52_isTouched_101 (by decide) ?_
          exact atX52_isTouched_105 hc X (fun x3 x4 f_module hw H locs ls hH hl => ih x3 x4 f_module hw _ _ ls hH (lv_sub hl [0, 1, 2, 3] rfl)) x3 x4 1 f_module hw _ _ ls hH (lv_sub hl [0, 1, 2, 3] rfl)
        · have hw := hw.1 (z_eq e_63 (rfl : (0 : Int32).toInt = 0) c_64)
          refine lv_aload_n hx hb dX52_isTouched_75 rfl (lv_at hl 0 rfl) ?_
          refine k_get X hH in_X52 0 rfl hc 8 (by decide) q6389 rfl dX52_isTouched_76 ?_
          refine lv_iload hx hb dX52_isTouched_79 (lv_at hl 3 rfl) ?_
          refine k_iald X hH 2 1 rfl rfl (z_in (rfl : x4.toInt = _) hq_14) dX52_isTouched_81 ?_
          have e_65 := z_ld (f := f_other) (rfl : x4.toInt = _) hq_14.1
          refine lv_if_lt (tgt := 104) hx hb dX52_isTouched_82 (by decide) (fun c_66 => ?_) (fun c_66 => ?_)
          · have hw := hw.1 (z_lt e_65 (rfl : (0 : Int32).toInt = 0) c_66)
            refine lv_iconst (v := 0) hx hb dX52_isTouched_104 (by decide) ?_
            exact atX52_isTouched_105 hc X (fun x3 x4 f_module hw H locs ls hH hl => ih x3 x4 f_module hw _ _ ls hH (lv_sub hl [0, 1, 2, 3] rfl)) x3 x4 0 f_module hw _ _ ls hH (lv_sub hl [0, 1, 2, 3] rfl)
          · have hw := hw.2 (z_nlt e_65 (rfl : (0 : Int32).toInt = 0) c_66)
            refine lv_aload_n hx hb dX52_isTouched_85 rfl (lv_at hl 0 rfl) ?_
            refine k_get X hH in_X52 0 rfl hc 21 (by decide) q6402 rfl dX52_isTouched_86 ?_
            refine lv_aload_n hx hb dX52_isTouched_89 rfl (lv_at hl 0 rfl) ?_
            refine k_get X hH in_X52 0 rfl hc 8 (by decide) q6389 rfl dX52_isTouched_90 ?_
            refine lv_iload hx hb dX52_isTouched_93 (lv_at hl 3 rfl) ?_
            refine k_iald X hH 2 1 rfl rfl (z_in (rfl : x4.toInt = _) hq_14) dX52_isTouched_95 ?_
            have e_67 := z_ld (f := f_other) (rfl : x4.toInt = _) hq_14.1
            have hq_68 := hw.1
            have hw := hw.2
            refine k_zald X hH 14 13 rfl rfl (z_in e_67 hq_68) dX52_isTouched_96 ?_
            have e_69 := z_ld (f := f_module) e_67 hq_68.1
            refine lv_if_eq (tgt := 104) hx hb dX52_isTouched_97 (by decide) (fun c_70 => ?_) (fun c_70 => ?_)
            · have hw := hw.1 (z_eq e_69 (rfl : (0 : Int32).toInt = 0) c_70)
              refine lv_iconst (v := 0) hx hb dX52_isTouched_104 (by decide) ?_
              exact atX52_isTouched_105 hc X (fun x3 x4 f_module hw H locs ls hH hl => ih x3 x4 f_module hw _ _ ls hH (lv_sub hl [0, 1, 2, 3] rfl)) x3 x4 0 f_module hw _ _ ls hH (lv_sub hl [0, 1, 2, 3] rfl)
            · have hw := hw.2 (z_neq e_69 (rfl : (0 : Int32).toInt = 0) c_70)
              refine lv_iconst (v := 1) hx hb dX52_isTouched_100 (by decide) ?_
              refine lv_goto (tgt := 105) hx hb dX52_isTouched_101 (by decide) ?_
              exact atX52_isTouched_105 hc X (fun x3 x4 f_module hw H locs ls hH hl => ih x3 x4 f_module hw _ _ ls hH (lv_sub hl [0, 1, 2, 3] rfl)) x3 x4 1 f_module hw _ _ ls hH (lv_sub hl [0, 1, 2, 3] rfl)
set_option maxHeartbeats 4000000 in
theorem atX52_isTouched_32 {p : Program} {l : Launch} {e : Env} {s : State} {m : MethodId} {args : Array Value} {below : List Frame} {meth : Method} {c : Code} {dC : Nat → ClassId} {dI : Nat → Nat → Nat} {cl : List vw_C} {ci : Nat} (hc : cl[ci]? = some (RX52, TX52, 23)) {ad : Nat → Nat} {d : Nat → ClassId} {A : Nat → Prop} {post : Int → (Int → Int) → Prop} {f_thrown : Int32} {f_classes : Int32} {f_things : Int32} {f_axioms : Int32} {f_fuel : Int32} {f_questions : Int32} {f_sorted : Int32} {f_left : Nat → Int32} {f_other : Nat → Int32} {f_right : Nat → Int32} {f_there : Nat → Int32} {f_member : Nat → Int32} {f_state : Nat → Int32} {f_before : Nat → Int32} {f_placed : Nat → Int32} {f_looked : Nat → Int32} {f_fact : Nat → Int32} {f_maker : Nat → Int32} {f_fired : Nat → Int32} {f_firedCount : Int32} {f_needed : Nat → Int32} {f_asked : Int32} (X : kX p s m args meth c cX52_isTouched 7 RX52 (some .boolean) (dC, dI) cl (tX52 d)) {K239 : (Int → Int) → Prop} {x2 : Int32}  (hk239 : ∀ (f_module : Nat → Int32), K239 (zF f_module) → ∀ (H : Heap) (locs : List Loc) (ls : Array Slot), kH (dC, dI) cl A s.heap H locs (wX52 ci ad d f_thrown f_classes f_things f_axioms f_fuel f_questions f_sorted f_left f_other f_right f_there f_member f_state f_before f_placed f_looked f_fact f_maker f_fired f_firedCount f_needed f_module f_asked) → lv_has ls 7 [(0, .ref (ad 0)), (2, .int x2)] → W p l e ({ frames := 0, cells := 0, slots := 0, locals := 0 } : Room) s m args below meth c H locs 0 0 (MQ below (va_Qi (fun (r : Int32) (u : (Nat → Int32)) => post r.toInt (zF (u))) (kB (dC, dI) cl (tX52 d) A (fun u : (Nat → Int32) => (wX52 ci ad d f_thrown f_classes f_things f_axioms f_fuel f_questions f_sorted f_left f_other f_right f_there f_member f_state f_before f_placed f_looked f_fact f_maker f_fired f_firedCount f_needed (u) f_asked))) A) args s 0 0 A) (F0 m 239 ls [])) :
    ∀ (nn : Nat) (x3 : Int32) (f_module : Nat → Int32), wX52_isTouched_32 K239 f_axioms.toInt (zF f_left) (zF f_other) (zF f_right) (zF f_there) nn x3.toInt (zF f_module) → ∀ (H : Heap) (locs : List Loc) (ls : Array Slot), kH (dC, dI) cl A s.heap H locs (wX52 ci ad d f_thrown f_classes f_things f_axioms f_fuel f_questions f_sorted f_left f_other f_right f_there f_member f_state f_before f_placed f_looked f_fact f_maker f_fired f_firedCount f_needed f_module f_asked) → lv_has ls 7 [(0, .ref (ad 0)), (2, .int x2), (3, .int x3)] → W p l e ({ frames := 0, cells := 0, slots := 0, locals := 0 } : Room) s m args below meth c H locs 0 0 (MQ below (va_Qi (fun (r : Int32) (u : (Nat → Int32)) => post r.toInt (zF (u))) (kB (dC, dI) cl (tX52 d) A (fun u : (Nat → Int32) => (wX52 ci ad d f_thrown f_classes f_things f_axioms f_fuel f_questions f_sorted f_left f_other f_right f_there f_member f_state f_before f_placed f_looked f_fact f_maker f_fired f_firedCount f_needed (u) f_asked))) A) args s 0 0 A) (F0 m 32 ls []) := by
  have hx := X.1.1
  have hb := X.1.2.1
  intro nn
  induction nn with
  | zero =>
    intro x3 f_module hw
    exact False.elim hw
  | succ n ih =>
    intro x3 f_module hw H locs ls hH hl
    rw [wX52_isTouched_32] at hw
    refine lv_iload_n hx hb dX52_isTouched_32 rfl (lv_at hl 2 rfl) ?_
    refine lv_if_eq (tgt := 239) hx hb dX52_isTouched_33 (by decide) (fun c_12 => ?_) (fun c_12 => ?_)
    · have hw := hw.1 (z_eq (rfl : x3.toInt = _) (rfl : (0 : Int32).toInt = 0) c_12)
      exact hk239 f_module hw _ _ ls hH (lv_sub hl [0, 1] rfl)
    · have hw := hw.2 (z_neq (rfl : x3.toInt = _) (rfl : (0 : Int32).toInt = 0) c_12)
      refine lv_iconst (v := 0) hx hb dX52_isTouched_36 (by decide) ?_
      refine lv_istore_n (lv' := [(3, .int 0), (0, .ref (ad 0)), (2, .int x2)]) hx hb dX52_isTouched_37 rfl hl (by decide) rfl (fun ls hl => ?_)
      refine lv_iconst (v := 0) hx hb dX52_isTouched_38 (by decide) ?_
      refine lv_istore (lv' := [(4, .int 0), (3, .int 0), (0, .ref (ad 0)), (2, .int x2)]) hx hb dX52_isTouched_39 hl (by decide) rfl (fun ls hl => ?_)
      obtain ⟨fu, hw⟩ := hw
      refine atX52_isTouched_41 hc X ?_ fu 0 0 f_module hw _ _ ls hH (lv_sub hl [2, 3, 1, 0] rfl)
      · intro x3_71 f_module_72 hw H locs ls hH hl
        refine lv_goto (tgt := 32) hx hb dX52_isTouched_236 (by decide) ?_
        exact ih x3_71 f_module_72 hw _ _ ls hH (lv_sub hl [0, 1, 2] rfl)
set_option maxHeartbeats 4000000 in
theorem walkX52_isTouched {l : Launch} {dC : Nat → ClassId} {dI : Nat → Nat → Nat} {cl : List vw_C} {ci : Nat} (hc : cl[ci]? = some (RX52, TX52, 23)) {ad : Nat → Nat} {d : Nat → ClassId} {sz : Nat} {f_thrown : Int32} {f_classes : Int32} {f_things : Int32} {f_axioms : Int32} {f_fuel : Int32} {f_questions : Int32} {f_sorted : Int32} {f_left : Nat → Int32} {f_other : Nat → Int32} {f_right : Nat → Int32} {f_there : Nat → Int32} {f_member : Nat → Int32} {f_state : Nat → Int32} {f_before : Nat → Int32} {f_placed : Nat → Int32} {f_looked : Nat → Int32} {f_fact : Nat → Int32} {f_maker : Nat → Int32} {f_fired : Nat → Int32} {f_firedCount : Int32} {f_needed : Nat → Int32} {f_module : Nat → Int32} {f_asked : Int32} {x1 : Int32} {x2 : Int32} {post : Int → (Int → Int) → Prop} (hw : wpX52_isTouched post f_axioms.toInt (zF f_left) (zF f_other) (zF f_right) (zF f_there) (zF f_module) x1.toInt x2.toInt) :
    Met l yX52_isTouched (ws_ yX52_isTouched cX52_isTouched 7 (some .boolean)) ({ frames := 0, cells := 0, slots := 0, locals := 0 } : Room) (kPc (dC, dI) cl (tX52 d) [.ref (ad 0), .int x1, .int x2] sz (wX52 ci ad d f_thrown f_classes f_things f_axioms f_fuel f_questions f_sorted f_left f_other f_right f_there f_member f_state f_before f_placed f_looked f_fact f_maker f_fired f_firedCount f_needed f_module f_asked)) (va_Qi (fun (r : Int32) (u : (Nat → Int32)) => post r.toInt (zF (u))) (kB (dC, dI) cl (tX52 d) (va_A (wX52 ci ad d f_thrown f_classes f_things f_axioms f_fuel f_questions f_sorted f_left f_other f_right f_there f_member f_state f_before f_placed f_looked f_fact f_maker f_fired f_firedCount f_needed f_module f_asked) sz) (fun u : (Nat → Int32) => (wX52 ci ad d f_thrown f_classes f_things f_axioms f_fuel f_questions f_sorted f_left f_other f_right f_there f_member f_state f_before f_placed f_looked f_fact f_maker f_fired f_firedCount f_needed (u) f_asked))) (va_A (wX52 ci ad d f_thrown f_classes f_things f_axioms f_fuel f_questions f_sorted f_left f_other f_right f_there f_member f_state f_before f_placed f_looked f_fact f_maker f_fired f_firedCount f_needed f_module f_asked) sz)) 0 0 (va_A (wX52 ci ad d f_thrown f_classes f_things f_axioms f_fuel f_questions f_sorted f_left f_other f_right f_there f_member f_state f_before f_placed f_looked f_fact f_maker f_fired f_firedCount f_needed f_module f_asked) sz) := by
  refine k_enter (by decide) (Nat.le_of_ble_eq_true rfl) ?_
  intro p e s m below meth c ls X hsz hH hl
  subst hsz
  generalize va_A (wX52 ci ad d f_thrown f_classes f_things f_axioms f_fuel f_questions f_sorted f_left f_other f_right f_there f_member f_state f_before f_placed f_looked f_fact f_maker f_fired f_firedCount f_needed f_module f_asked) s.heap.size = A at hH ⊢
  have hx := X.1.1
  have hb := X.1.2.1
  have hl : lv_has ls 7 [(0, .ref (ad 0)), (1, .int x1), (2, .int x2)] := hl
  unfold wpX52_isTouched at hw
  refine lv_iconst (v := 0) hx hb dX52_isTouched_0 (by decide) ?_
  refine lv_istore_n (lv' := [(3, .int 0), (0, .ref (ad 0)), (1, .int x1), (2, .int x2)]) hx hb dX52_isTouched_1 rfl hl (by decide) rfl (fun ls hl => ?_)
  obtain ⟨fu, hw⟩ := hw
  refine atX52_isTouched_2 hc X ?_ fu 0 f_module hw _ _ ls hH (lv_sub hl [1, 2, 3, 0] rfl)
  · intro f_module_11 hw H locs ls hH hl
    refine lv_iconst (v := 1) hx hb dX52_isTouched_30 (by decide) ?_
    refine lv_istore_n (lv' := [(3, .int 1), (0, .ref (ad 0)), (2, .int x2)]) hx hb dX52_isTouched_31 rfl hl (by decide) rfl (fun ls hl => ?_)
    obtain ⟨fu, hw⟩ := hw
    refine atX52_isTouched_32 hc X ?_ fu 1 f_module_11 hw _ _ ls hH (lv_sub hl [1, 2, 0] rfl)
    · intro f_module_73 hw H locs ls hH hl
      refine lv_aload_n hx hb dX52_isTouched_239 rfl (lv_at hl 0 rfl) ?_
      refine k_get X hH in_X52 0 rfl hc 21 (by decide) q6402 rfl dX52_isTouched_240 ?_
      refine lv_aload_n hx hb dX52_isTouched_243 rfl (lv_at hl 0 rfl) ?_
      refine k_get X hH in_X52 0 rfl hc 7 (by decide) q6388 rfl dX52_isTouched_244 ?_
      refine lv_iload_n hx hb dX52_isTouched_247 rfl (lv_at hl 1 rfl) ?_
      have hq_74 := hw.1
      have hw := hw.2
      refine k_iald X hH 1 0 rfl rfl (z_in (rfl : x2.toInt = _) hq_74) dX52_isTouched_248 ?_
      have e_75 := z_ld (f := f_left) (rfl : x2.toInt = _) hq_74.1
      have hq_76 := hw.1
      have hw := hw.2
      refine k_zald X hH 14 13 rfl rfl (z_in e_75 hq_76) dX52_isTouched_249 ?_
      have e_77 := z_ld (f := f_module_73) e_75 hq_76.1
      refine lv_if_ne (tgt := 276) hx hb dX52_isTouched_250 (by decide) (fun c_78 => ?_) (fun c_78 => ?_)
      · have hw := hw.2 (z_ne e_77 (rfl : (0 : Int32).toInt = 0) c_78)
        refine lv_iconst (v := 1) hx hb dX52_isTouched_276 (by decide) ?_
        refine lv_goto (tgt := 281) hx hb dX52_isTouched_277 (by decide) ?_
        exact k_iret (v := 1) X hH (f_module_73) hw rfl rfl dX52_isTouched_281
      · have hw := hw.1 (z_eq e_77 (rfl : (0 : Int32).toInt = 0) c_78)
        refine lv_aload_n hx hb dX52_isTouched_253 rfl (lv_at hl 0 rfl) ?_
        refine k_get X hH in_X52 0 rfl hc 8 (by decide) q6389 rfl dX52_isTouched_254 ?_
        refine lv_iload_n hx hb dX52_isTouched_257 rfl (lv_at hl 1 rfl) ?_
        refine k_iald X hH 2 1 rfl rfl (z_in (rfl : x2.toInt = _) hq_74) dX52_isTouched_258 ?_
        have e_79 := z_ld (f := f_other) (rfl : x2.toInt = _) hq_74.1
        refine lv_if_lt (tgt := 280) hx hb dX52_isTouched_259 (by decide) (fun c_80 => ?_) (fun c_80 => ?_)
        · have hw := hw.1 (z_lt e_79 (rfl : (0 : Int32).toInt = 0) c_80)
          refine lv_iconst (v := 0) hx hb dX52_isTouched_280 (by decide) ?_
          exact k_iret (v := 0) X hH (f_module_73) hw rfl rfl dX52_isTouched_281
        · have hw := hw.2 (z_nlt e_79 (rfl : (0 : Int32).toInt = 0) c_80)
          refine lv_aload_n hx hb dX52_isTouched_262 rfl (lv_at hl 0 rfl) ?_
          refine k_get X hH in_X52 0 rfl hc 21 (by decide) q6402 rfl dX52_isTouched_263 ?_
          refine lv_aload_n hx hb dX52_isTouched_266 rfl (lv_at hl 0 rfl) ?_
          refine k_get X hH in_X52 0 rfl hc 8 (by decide) q6389 rfl dX52_isTouched_267 ?_
          refine lv_iload_n hx hb dX52_isTouched_270 rfl (lv_at hl 1 rfl) ?_
          refine k_iald X hH 2 1 rfl rfl (z_in (rfl : x2.toInt = _) hq_74) dX52_isTouched_271 ?_
          have e_81 := z_ld (f := f_other) (rfl : x2.toInt = _) hq_74.1
          have hq_82 := hw.1
          have hw := hw.2
          refine k_zald X hH 14 13 rfl rfl (z_in e_81 hq_82) dX52_isTouched_272 ?_
          have e_83 := z_ld (f := f_module_73) e_81 hq_82.1
          refine lv_if_eq (tgt := 280) hx hb dX52_isTouched_273 (by decide) (fun c_84 => ?_) (fun c_84 => ?_)
          · have hw := hw.1 (z_eq e_83 (rfl : (0 : Int32).toInt = 0) c_84)
            refine lv_iconst (v := 0) hx hb dX52_isTouched_280 (by decide) ?_
            exact k_iret (v := 0) X hH (f_module_73) hw rfl rfl dX52_isTouched_281
          · have hw := hw.2 (z_neq e_83 (rfl : (0 : Int32).toInt = 0) c_84)
            refine lv_iconst (v := 1) hx hb dX52_isTouched_276 (by decide) ?_
            refine lv_goto (tgt := 281) hx hb dX52_isTouched_277 (by decide) ?_
            exact k_iret (v := 1) X hH (f_module_73) hw rfl rfl dX52_isTouched_281
set_option maxHeartbeats 4000000 in
theorem atX52_forget_22 {p : Program} {l : Launch} {e : Env} {s : State} {m : MethodId} {args : Array Value} {below : List Frame} {meth : Method} {c : Code} {dC : Nat → ClassId} {dI : Nat → Nat → Nat} {cl : List vw_C} {ci : Nat} (hc : cl[ci]? = some (RX52, TX52, 23)) {ad : Nat → Nat} {d : Nat → ClassId} {A : Nat → Prop} {post : (Int → Int) → (Int → Int) → Prop} {f_thrown : Int32} {f_classes : Int32} {f_things : Int32} {f_axioms : Int32} {f_fuel : Int32} {f_questions : Int32} {f_sorted : Int32} {f_left : Nat → Int32} {f_other : Nat → Int32} {f_right : Nat → Int32} {f_there : Nat → Int32} {f_member : Nat → Int32} {f_before : Nat → Int32} {f_placed : Nat → Int32} {f_looked : Nat → Int32} {f_fact : Nat → Int32} {f_maker : Nat → Int32} {f_fired : Nat → Int32} {f_firedCount : Int32} {f_needed : Nat → Int32} {f_asked : Int32} (X : kX p s m args meth c cX52_forget 6 RX52 none (dC, dI) cl (tX52 d)) {K74 : (Int → Int) → Prop} {x1 : Int32} {x2 : Int32} {x3 : Int32} {f_module : Nat → Int32} (hk74 : ∀ (f_state : Nat → Int32), K74 (zF f_state) → ∀ (H : Heap) (locs : List Loc) (ls : Array Slot), kH (dC, dI) cl A s.heap H locs (wX52 ci ad d f_thrown f_classes f_things f_axioms f_fuel f_questions f_sorted f_left f_other f_right f_there f_member f_state f_before f_placed f_looked f_fact f_maker f_fired f_firedCount f_needed f_module f_asked) → lv_has ls 6 [(0, .ref (ad 0)), (1, .int x1), (2, .int x2), (3, .int x3)] → W p l e ({ frames := 1, cells := 0, slots := 0, locals := 26 } : Room) s m args below meth c H locs 0 0 (MQ below (va_Qv (fun (u : (Nat → Int32) × (Nat → Int32)) => post (zF (u.1)) (zF (u.2))) (kB (dC, dI) cl (tX52 d) A (fun u : (Nat → Int32) × (Nat → Int32) => (wX52 ci ad d f_thrown f_classes f_things f_axioms f_fuel f_questions f_sorted f_left f_other f_right f_there f_member (u.1) f_before f_placed f_looked f_fact f_maker f_fired f_firedCount f_needed (u.2) f_asked))) A) args s 0 0 A) (F0 m 74 ls [])) :
    ∀ (nn : Nat) (x4 : Int32) (f_state : Nat → Int32), wX52_forget_22 K74 x2.toInt x3.toInt nn x4.toInt (zF f_state) → ∀ (H : Heap) (locs : List Loc) (ls : Array Slot), kH (dC, dI) cl A s.heap H locs (wX52 ci ad d f_thrown f_classes f_things f_axioms f_fuel f_questions f_sorted f_left f_other f_right f_there f_member f_state f_before f_placed f_looked f_fact f_maker f_fired f_firedCount f_needed f_module f_asked) → lv_has ls 6 [(0, .ref (ad 0)), (1, .int x1), (2, .int x2), (3, .int x3), (4, .int x4)] → W p l e ({ frames := 1, cells := 0, slots := 0, locals := 26 } : Room) s m args below meth c H locs 0 0 (MQ below (va_Qv (fun (u : (Nat → Int32) × (Nat → Int32)) => post (zF (u.1)) (zF (u.2))) (kB (dC, dI) cl (tX52 d) A (fun u : (Nat → Int32) × (Nat → Int32) => (wX52 ci ad d f_thrown f_classes f_things f_axioms f_fuel f_questions f_sorted f_left f_other f_right f_there f_member (u.1) f_before f_placed f_looked f_fact f_maker f_fired f_firedCount f_needed (u.2) f_asked))) A) args s 0 0 A) (F0 m 22 ls []) := by
  have hx := X.1.1
  have hb := X.1.2.1
  intro nn
  induction nn with
  | zero =>
    intro x4 f_state hw
    exact False.elim hw
  | succ n ih =>
    intro x4 f_state hw H locs ls hH hl
    rw [wX52_forget_22] at hw
    refine lv_iload hx hb dX52_forget_22 (lv_at hl 4 rfl) ?_
    refine lv_bipush (v := 20) hx hb dX52_forget_24 (by decide) ?_
    refine lv_icmp_gt (tgt := 74) hx hb dX52_forget_26 (by decide) (fun c_7 => ?_) (fun c_7 => ?_)
    · have hw := hw.1 (z_lt (rfl : (20 : Int32).toInt = 20) (rfl : x4.toInt = _) c_7)
      exact hk74 f_state hw _ _ ls hH (lv_sub hl [0, 1, 2, 3] rfl)
    · have hw := hw.2 (z_nlt (rfl : (20 : Int32).toInt = 20) (rfl : x4.toInt = _) c_7)
      refine lv_aload_n hx hb dX52_forget_29 rfl (lv_at hl 0 rfl) ?_
      refine k_get X hH in_X52 0 rfl hc 12 (by decide) q6393 rfl dX52_forget_30 ?_
      refine lv_bipush (v := 21) hx hb dX52_forget_33 (by decide) ?_
      refine lv_iload_n hx hb dX52_forget_35 rfl (lv_at hl 3 rfl) ?_
      refine lv_imul hx hb dX52_forget_36 ?_
      have e_8 := z_mul (z_m (rfl : (21 : Int32).toInt = 21)) (z_m (rfl : x3.toInt = _))
      refine lv_iload hx hb dX52_forget_37 (lv_at hl 4 rfl) ?_
      refine lv_iadd hx hb dX52_forget_39 ?_
      have e_9 := z_add e_8 (z_m (rfl : x4.toInt = _))
      have hq_10 := hw.1
      have hw := hw.2
      have e_11 := z_xi e_9 hq_10 (by decide)
      refine k_iald X hH 6 5 rfl rfl (z_in e_11 hq_10) dX52_forget_40 ?_
      have e_12 := z_ld (f := f_state) e_11 hq_10.1
      refine lv_topi (fun x5_13 ex5_13 => ?_)
      have hw := hw x5_13.toInt (by rw [ex5_13]; exact e_12)
      refine lv_istore (lv' := [(5, .int x5_13), (0, .ref (ad 0)), (1, .int x1), (2, .int x2), (3, .int x3), (4, .int x4)]) hx hb dX52_forget_41 hl (by decide) rfl (fun ls hl => ?_)
      refine lv_iload hx hb dX52_forget_43 (lv_at hl 0 rfl) ?_
      refine lv_iload_n hx hb dX52_forget_45 rfl (lv_at hl 3 rfl) ?_
      refine lv_icmp_eq (tgt := 55) hx hb dX52_forget_46 (by decide) (fun c_14 => ?_) (fun c_14 => ?_)
      · have hw := hw.1 (z_eq (rfl : x5_13.toInt = _) (rfl : x2.toInt = _) c_14)
        refine lv_aload_n hx hb dX52_forget_55 rfl (lv_at hl 1 rfl) ?_
        refine k_get X hH in_X52 0 rfl hc 12 (by decide) q6393 rfl dX52_forget_56 ?_
        refine lv_bipush (v := 21) hx hb dX52_forget_59 (by decide) ?_
        refine lv_iload_n hx hb dX52_forget_61 rfl (lv_at hl 4 rfl) ?_
        refine lv_imul hx hb dX52_forget_62 ?_
        have e_15 := z_mul (z_m (rfl : (21 : Int32).toInt = 21)) (z_m (rfl : x3.toInt = _))
        refine lv_iload hx hb dX52_forget_63 (lv_at hl 5 rfl) ?_
        refine lv_iadd hx hb dX52_forget_65 ?_
        have e_16 := z_add e_15 (z_m (rfl : x4.toInt = _))
        refine lv_iconst (v := 3) hx hb dX52_forget_66 (by decide) ?_
        have e_18 := z_xi e_16 hq_10 (by decide)
        obtain ⟨f_state_17, ef_state_17⟩ : ∃ y : Nat → Int32, y = upd f_state ((21 * x3) + x4).toNatClampNeg 3 := ⟨_, rfl⟩
        refine k_iast X hH 6 5 rfl rfl (z_in e_18 hq_10) dX52_forget_67 ef_state_17 (ws1 := (wX52 ci ad d f_thrown f_classes f_things f_axioms f_fuel f_questions f_sorted f_left f_other f_right f_there f_member f_state_17 f_before f_placed f_looked f_fact f_maker f_fired f_firedCount f_needed f_module f_asked)) rfl (fun H locs hH => ?_)
        have hw := hw (zF f_state_17) (by rw [ef_state_17]; exact z_st (f := f_state) e_18 hq_10.1 (rfl : (3 : Int32).toInt = 3))
        have hq_20 := hw.1
        have hw := hw.2
        obtain ⟨x4_19, ex4_19⟩ : ∃ y : Int32, y = x4 + 1 := ⟨_, rfl⟩
        have hw := hw x4_19.toInt (by rw [ex4_19]; exact (z_x (z_add (z_m (rfl : x4.toInt = _)) (z_m (rfl : (1 : Int32).toInt = 1))) hq_20))
        refine lv_iinc (v := x4_19) (lv' := [(4, .int x4_19), (5, .int x5_13), (0, .ref (ad 0)), (1, .int x1), (2, .int x2), (3, .int x3)]) hx hb dX52_forget_68 hl (k := 5) rfl (by rw [ex4_19]; rfl) (by decide) rfl (fun ls hl => ?_)
        refine lv_goto (tgt := 22) hx hb dX52_forget_71 (by decide) ?_
        exact ih x4_19 f_state_17 hw _ _ ls hH (lv_sub hl [2, 3, 4, 5, 0] rfl)
      · have hw := hw.2 (z_neq (rfl : x5_13.toInt = _) (rfl : x2.toInt = _) c_14)
        refine lv_iload hx hb dX52_forget_49 (lv_at hl 0 rfl) ?_
        refine lv_iconst (v := 2) hx hb dX52_forget_51 (by decide) ?_
        refine lv_icmp_ne (tgt := 68) hx hb dX52_forget_52 (by decide) (fun c_21 => ?_) (fun c_21 => ?_)
        · have hw := hw.2 (z_ne (rfl : x5_13.toInt = _) (rfl : (2 : Int32).toInt = 2) c_21)
          have hq_23 := hw.1
          have hw := hw.2
          obtain ⟨x4_22, ex4_22⟩ : ∃ y : Int32, y = x4 + 1 := ⟨_, rfl⟩
          have hw := hw x4_22.toInt (by rw [ex4_22]; exact (z_x (z_add (z_m (rfl : x4.toInt = _)) (z_m (rfl : (1 : Int32).toInt = 1))) hq_23))
          refine lv_iinc (v := x4_22) (lv' := [(4, .int x4_22), (5, .int x5_13), (0, .ref (ad 0)), (1, .int x1), (2, .int x2), (3, .int x3)]) hx hb dX52_forget_68 hl (k := 5) rfl (by rw [ex4_22]; rfl) (by decide) rfl (fun ls hl => ?_)
          refine lv_goto (tgt := 22) hx hb dX52_forget_71 (by decide) ?_
          exact ih x4_22 f_state hw _ _ ls hH (lv_sub hl [2, 3, 4, 5, 0] rfl)
        · have hw := hw.1 (z_eq (rfl : x5_13.toInt = _) (rfl : (2 : Int32).toInt = 2) c_21)
          refine lv_aload_n hx hb dX52_forget_55 rfl (lv_at hl 1 rfl) ?_
          refine k_get X hH in_X52 0 rfl hc 12 (by decide) q6393 rfl dX52_forget_56 ?_
          refine lv_bipush (v := 21) hx hb dX52_forget_59 (by decide) ?_
          refine lv_iload_n hx hb dX52_forget_61 rfl (lv_at hl 4 rfl) ?_
          refine lv_imul hx hb dX52_forget_62 ?_
          have e_24 := z_mul (z_m (rfl : (21 : Int32).toInt = 21)) (z_m (rfl : x3.toInt = _))
          refine lv_iload hx hb dX52_forget_63 (lv_at hl 5 rfl) ?_
          refine lv_iadd hx hb dX52_forget_65 ?_
          have e_25 := z_add e_24 (z_m (rfl : x4.toInt = _))
          refine lv_iconst (v := 3) hx hb dX52_forget_66 (by decide) ?_
          have e_27 := z_xi e_25 hq_10 (by decide)
          obtain ⟨f_state_26, ef_state_26⟩ : ∃ y : Nat → Int32, y = upd f_state ((21 * x3) + x4).toNatClampNeg 3 := ⟨_, rfl⟩
          refine k_iast X hH 6 5 rfl rfl (z_in e_27 hq_10) dX52_forget_67 ef_state_26 (ws1 := (wX52 ci ad d f_thrown f_classes f_things f_axioms f_fuel f_questions f_sorted f_left f_other f_right f_there f_member f_state_26 f_before f_placed f_looked f_fact f_maker f_fired f_firedCount f_needed f_module f_asked)) rfl (fun H locs hH => ?_)
          have hw := hw (zF f_state_26) (by rw [ef_state_26]; exact z_st (f := f_state) e_27 hq_10.1 (rfl : (3 : Int32).toInt = 3))
          have hq_29 := hw.1
          have hw := hw.2
          obtain ⟨x4_28, ex4_28⟩ : ∃ y : Int32, y = x4 + 1 := ⟨_, rfl⟩
          have hw := hw x4_28.toInt (by rw [ex4_28]; exact (z_x (z_add (z_m (rfl : x4.toInt = _)) (z_m (rfl : (1 : Int32).toInt = 1))) hq_29))
          refine lv_iinc (v := x4_28) (lv' := [(4, .int x4_28), (5, .int x5_13), (0, .ref (ad 0)), (1, .int x1), (2, .int x2), (3, .int x3)]) hx hb dX52_forget_68 hl (k := 5) rfl (by rw [ex4_28]; rfl) (by decide) rfl (fun ls hl => ?_)
          refine lv_goto (tgt := 22) hx hb dX52_forget_71 (by decide) ?_
          exact ih x4_28 f_state_26 hw _ _ ls hH (lv_sub hl [2, 3, 4, 5, 0] rfl)
set_option maxHeartbeats 4000000 in
theorem atX52_forget_2 {p : Program} {l : Launch} {e : Env} {s : State} {m : MethodId} {args : Array Value} {below : List Frame} {meth : Method} {c : Code} {dC : Nat → ClassId} {dI : Nat → Nat → Nat} {cl : List vw_C} {ci : Nat} (hc : cl[ci]? = some (RX52, TX52, 23)) {ad : Nat → Nat} {d : Nat → ClassId} {A : Nat → Prop} {post : (Int → Int) → (Int → Int) → Prop} {f_thrown : Int32} {f_classes : Int32} {f_things : Int32} {f_axioms : Int32} {f_fuel : Int32} {f_questions : Int32} {f_sorted : Int32} {f_left : Nat → Int32} {f_other : Nat → Int32} {f_right : Nat → Int32} {f_there : Nat → Int32} {f_member : Nat → Int32} {f_before : Nat → Int32} {f_placed : Nat → Int32} {f_looked : Nat → Int32} {f_fact : Nat → Int32} {f_maker : Nat → Int32} {f_fired : Nat → Int32} {f_firedCount : Int32} {f_needed : Nat → Int32} {f_asked : Int32} (X : kX p s m args meth c cX52_forget 6 RX52 none (dC, dI) cl (tX52 d)) {K80 : (Int → Int) → (Int → Int) → Prop} {x1 : Int32} {x2 : Int32}  (hk80 : ∀ (f_state : Nat → Int32) (f_module : Nat → Int32), K80 (zF f_state) (zF f_module) → ∀ (H : Heap) (locs : List Loc) (ls : Array Slot), kH (dC, dI) cl A s.heap H locs (wX52 ci ad d f_thrown f_classes f_things f_axioms f_fuel f_questions f_sorted f_left f_other f_right f_there f_member f_state f_before f_placed f_looked f_fact f_maker f_fired f_firedCount f_needed f_module f_asked) → lv_has ls 6 [] → W p l e ({ frames := 1, cells := 0, slots := 0, locals := 26 } : Room) s m args below meth c H locs 0 0 (MQ below (va_Qv (fun (u : (Nat → Int32) × (Nat → Int32)) => post (zF (u.1)) (zF (u.2))) (kB (dC, dI) cl (tX52 d) A (fun u : (Nat → Int32) × (Nat → Int32) => (wX52 ci ad d f_thrown f_classes f_things f_axioms f_fuel f_questions f_sorted f_left f_other f_right f_there f_member (u.1) f_before f_placed f_looked f_fact f_maker f_fired f_firedCount f_needed (u.2) f_asked))) A) args s 0 0 A) (F0 m 80 ls [])) :
    ∀ (nn : Nat) (x3 : Int32) (f_state : Nat → Int32) (f_module : Nat → Int32), wX52_forget_2 K80 x1.toInt x2.toInt f_classes.toInt f_axioms.toInt (zF f_left) (zF f_other) (zF f_right) (zF f_there) nn x3.toInt (zF f_state) (zF f_module) → ∀ (H : Heap) (locs : List Loc) (ls : Array Slot), kH (dC, dI) cl A s.heap H locs (wX52 ci ad d f_thrown f_classes f_things f_axioms f_fuel f_questions f_sorted f_left f_other f_right f_there f_member f_state f_before f_placed f_looked f_fact f_maker f_fired f_firedCount f_needed f_module f_asked) → lv_has ls 6 [(0, .ref (ad 0)), (1, .int x1), (2, .int x2), (3, .int x3)] → W p l e ({ frames := 1, cells := 0, slots := 0, locals := 26 } : Room) s m args below meth c H locs 0 0 (MQ below (va_Qv (fun (u : (Nat → Int32) × (Nat → Int32)) => post (zF (u.1)) (zF (u.2))) (kB (dC, dI) cl (tX52 d) A (fun u : (Nat → Int32) × (Nat → Int32) => (wX52 ci ad d f_thrown f_classes f_things f_axioms f_fuel f_questions f_sorted f_left f_other f_right f_there f_member (u.1) f_before f_placed f_looked f_fact f_maker f_fired f_firedCount f_needed (u.2) f_asked))) A) args s 0 0 A) (F0 m 2 ls []) := by
  have hx := X.1.1
  have hb := X.1.2.1
  intro nn
  induction nn with
  | zero =>
    intro x3 f_state f_module hw
    exact False.elim hw
  | succ n ih =>
    intro x3 f_state f_module hw H locs ls hH hl
    rw [wX52_forget_2] at hw
    refine lv_iload_n hx hb dX52_forget_2 rfl (lv_at hl 3 rfl) ?_
    refine lv_aload_n hx hb dX52_forget_3 rfl (lv_at hl 0 rfl) ?_
    refine k_get X hH in_X52 0 rfl hc 1 (by decide) q6382 rfl dX52_forget_4 ?_
    refine lv_icmp_ge (tgt := 80) hx hb dX52_forget_7 (by decide) (fun c_1 => ?_) (fun c_1 => ?_)
    · have hw := hw.1 (z_le (rfl : f_classes.toInt = _) (rfl : x3.toInt = _) c_1)
      exact hk80 f_state f_module hw _ _ ls hH (lv_sub hl [] rfl)
    · have hw := hw.2 (z_nle (rfl : f_classes.toInt = _) (rfl : x3.toInt = _) c_1)
      refine lv_aload_n hx hb dX52_forget_10 rfl (lv_at hl 0 rfl) ?_
      refine lv_iload_n hx hb dX52_forget_11 rfl (lv_at hl 3 rfl) ?_
      refine lv_iload_n hx hb dX52_forget_12 rfl (lv_at hl 1 rfl) ?_
      refine k_i0 hH (k_runV (As := [.int x3, .int x1]) (rest := []) X hH.1 hH.2.1 X.2.2.2 (walkX52_isTouched hc (x1 := x3) (x2 := x1) (f_thrown := f_thrown) (f_classes := f_classes) (f_things := f_things) (f_axioms := f_axioms) (f_fuel := f_fuel) (f_questions := f_questions) (f_sorted := f_sorted) (f_left := f_left) (f_other := f_other) (f_right := f_right) (f_there := f_there) (f_member := f_member) (f_state := f_state) (f_before := f_before) (f_placed := f_placed) (f_looked := f_looked) (f_fact := f_fact) (f_maker := f_maker) (f_fired := f_fired) (f_firedCount := f_firedCount) (f_needed := f_needed) (f_module := f_module) (f_asked := f_asked) hw) (cwV 2 X.1.2.2.2.2 gX52_107 rfl rfl rfl hX52_isTouched ⟨Nat.le_of_ble_eq_true rfl, Nat.le_of_ble_eq_true rfl⟩) hc (q0 := 0) rfl rfl hl.1 rfl (Nat.le_of_ble_eq_true rfl) dX52_forget_13 ⟨Nat.le_refl 0, Nat.le_refl 0⟩) (fun r_2 u H locs hw hH => ?_)
      obtain ⟨f_module_3, eu⟩ : ∃ z, z = u := ⟨_, rfl⟩
      subst eu
      have hH : kH (dC, dI) cl A s.heap H locs (wX52 ci ad d f_thrown f_classes f_things f_axioms f_fuel f_questions f_sorted f_left f_other f_right f_there f_member f_state f_before f_placed f_looked f_fact f_maker f_fired f_firedCount f_needed f_module_3 f_asked) := hH
      refine lv_if_eq (tgt := 74) hx hb dX52_forget_16 (by decide) (fun c_4 => ?_) (fun c_4 => ?_)
      · have hw := hw.1 (z_eq (rfl : r_2.toInt = _) (rfl : (0 : Int32).toInt = 0) c_4)
        have hq_6 := hw.1
        have hw := hw.2
        obtain ⟨x3_5, ex3_5⟩ : ∃ y : Int32, y = x3 + 1 := ⟨_, rfl⟩
        have hw := hw x3_5.toInt (by rw [ex3_5]; exact (z_x (z_add (z_m (rfl : x3.toInt = _)) (z_m (rfl : (1 : Int32).toInt = 1))) hq_6))
        refine lv_iinc (v := x3_5) (lv' := [(3, .int x3_5), (0, .ref (ad 0)), (1, .int x1), (2, .int x2)]) hx hb dX52_forget_74 hl (k := 3) rfl (by rw [ex3_5]; rfl) (by decide) rfl (fun ls hl => ?_)
        refine lv_goto (tgt := 2) hx hb dX52_forget_77 (by decide) ?_
        exact ih x3_5 f_state f_module_3 hw _ _ ls hH (lv_sub hl [1, 2, 3, 0] rfl)
      · have hw := hw.2 (z_neq (rfl : r_2.toInt = _) (rfl : (0 : Int32).toInt = 0) c_4)
        refine lv_iconst (v := 0) hx hb dX52_forget_19 (by decide) ?_
        refine lv_istore (lv' := [(4, .int 0), (0, .ref (ad 0)), (1, .int x1), (2, .int x2), (3, .int x3)]) hx hb dX52_forget_20 hl (by decide) rfl (fun ls hl => ?_)
        obtain ⟨fu, hw⟩ := hw
        refine atX52_forget_22 hc X ?_ fu 0 f_state hw _ _ ls hH (lv_sub hl [1, 2, 3, 4, 0] rfl)
        · intro f_state_30 hw H locs ls hH hl
          have hq_32 := hw.1
          have hw := hw.2
          obtain ⟨x3_31, ex3_31⟩ : ∃ y : Int32, y = x3 + 1 := ⟨_, rfl⟩
          have hw := hw x3_31.toInt (by rw [ex3_31]; exact (z_x (z_add (z_m (rfl : x3.toInt = _)) (z_m (rfl : (1 : Int32).toInt = 1))) hq_32))
          refine lv_iinc (v := x3_31) (lv' := [(3, .int x3_31), (0, .ref (ad 0)), (1, .int x1), (2, .int x2)]) hx hb dX52_forget_74 hl (k := 3) rfl (by rw [ex3_31]; rfl) (by decide) rfl (fun ls hl => ?_)
          refine lv_goto (tgt := 2) hx hb dX52_forget_77 (by decide) ?_
          exact ih x3_31 f_state_30 f_module_3 hw _ _ ls hH (lv_sub hl [1, 2, 3, 0] rfl)
set_option maxHeartbeats 4000000 in
theorem walkX52_forget {l : Launch} {dC : Nat → ClassId} {dI : Nat → Nat → Nat} {cl : List vw_C} {ci : Nat} (hc : cl[ci]? = some (RX52, TX52, 23)) {ad : Nat → Nat} {d : Nat → ClassId} {sz : Nat} {f_thrown : Int32} {f_classes : Int32} {f_things : Int32} {f_axioms : Int32} {f_fuel : Int32} {f_questions : Int32} {f_sorted : Int32} {f_left : Nat → Int32} {f_other : Nat → Int32} {f_right : Nat → Int32} {f_there : Nat → Int32} {f_member : Nat → Int32} {f_state : Nat → Int32} {f_before : Nat → Int32} {f_placed : Nat → Int32} {f_looked : Nat → Int32} {f_fact : Nat → Int32} {f_maker : Nat → Int32} {f_fired : Nat → Int32} {f_firedCount : Int32} {f_needed : Nat → Int32} {f_module : Nat → Int32} {f_asked : Int32} {x1 : Int32} {x2 : Int32} {post : (Int → Int) → (Int → Int) → Prop} (hw : wpX52_forget post f_classes.toInt f_axioms.toInt (zF f_left) (zF f_other) (zF f_right) (zF f_there) (zF f_state) (zF f_module) x1.toInt x2.toInt) :
    Met l yX52_forget (ws_ yX52_forget cX52_forget 6 none) ({ frames := 1, cells := 0, slots := 0, locals := 26 } : Room) (kPc (dC, dI) cl (tX52 d) [.ref (ad 0), .int x1, .int x2] sz (wX52 ci ad d f_thrown f_classes f_things f_axioms f_fuel f_questions f_sorted f_left f_other f_right f_there f_member f_state f_before f_placed f_looked f_fact f_maker f_fired f_firedCount f_needed f_module f_asked)) (va_Qv (fun (u : (Nat → Int32) × (Nat → Int32)) => post (zF (u.1)) (zF (u.2))) (kB (dC, dI) cl (tX52 d) (va_A (wX52 ci ad d f_thrown f_classes f_things f_axioms f_fuel f_questions f_sorted f_left f_other f_right f_there f_member f_state f_before f_placed f_looked f_fact f_maker f_fired f_firedCount f_needed f_module f_asked) sz) (fun u : (Nat → Int32) × (Nat → Int32) => (wX52 ci ad d f_thrown f_classes f_things f_axioms f_fuel f_questions f_sorted f_left f_other f_right f_there f_member (u.1) f_before f_placed f_looked f_fact f_maker f_fired f_firedCount f_needed (u.2) f_asked))) (va_A (wX52 ci ad d f_thrown f_classes f_things f_axioms f_fuel f_questions f_sorted f_left f_other f_right f_there f_member f_state f_before f_placed f_looked f_fact f_maker f_fired f_firedCount f_needed f_module f_asked) sz)) 0 0 (va_A (wX52 ci ad d f_thrown f_classes f_things f_axioms f_fuel f_questions f_sorted f_left f_other f_right f_there f_member f_state f_before f_placed f_looked f_fact f_maker f_fired f_firedCount f_needed f_module f_asked) sz) := by
  refine k_enter (by decide) (Nat.le_of_ble_eq_true rfl) ?_
  intro p e s m below meth c ls X hsz hH hl
  subst hsz
  generalize va_A (wX52 ci ad d f_thrown f_classes f_things f_axioms f_fuel f_questions f_sorted f_left f_other f_right f_there f_member f_state f_before f_placed f_looked f_fact f_maker f_fired f_firedCount f_needed f_module f_asked) s.heap.size = A at hH ⊢
  have hx := X.1.1
  have hb := X.1.2.1
  have hl : lv_has ls 6 [(0, .ref (ad 0)), (1, .int x1), (2, .int x2)] := hl
  unfold wpX52_forget at hw
  refine lv_iconst (v := 0) hx hb dX52_forget_0 (by decide) ?_
  refine lv_istore_n (lv' := [(3, .int 0), (0, .ref (ad 0)), (1, .int x1), (2, .int x2)]) hx hb dX52_forget_1 rfl hl (by decide) rfl (fun ls hl => ?_)
  obtain ⟨fu, hw⟩ := hw
  refine atX52_forget_2 hc X ?_ fu 0 f_state f_module hw _ _ ls hH (lv_sub hl [1, 2, 3, 0] rfl)
  · intro f_state_33 f_module_34 hw H locs ls hH hl
    exact k_vret X hH (f_state_33, f_module_34) hw rfl dX52_forget_80
set_option maxHeartbeats 4000000 in
theorem atX52_isItself_14 {p : Program} {l : Launch} {e : Env} {s : State} {m : MethodId} {args : Array Value} {below : List Frame} {meth : Method} {c : Code} {dC : Nat → ClassId} {dI : Nat → Nat → Nat} {cl : List vw_C} {ci : Nat} (hc : cl[ci]? = some (RX52, TX52, 23)) {ad : Nat → Nat} {d : Nat → ClassId} {A : Nat → Prop} {post : Int → Prop} {f_thrown : Int32} {f_classes : Int32} {f_things : Int32} {f_axioms : Int32} {f_fuel : Int32} {f_questions : Int32} {f_sorted : Int32} {f_left : Nat → Int32} {f_other : Nat → Int32} {f_right : Nat → Int32} {f_there : Nat → Int32} {f_member : Nat → Int32} {f_state : Nat → Int32} {f_before : Nat → Int32} {f_placed : Nat → Int32} {f_looked : Nat → Int32} {f_fact : Nat → Int32} {f_maker : Nat → Int32} {f_fired : Nat → Int32} {f_firedCount : Int32} {f_needed : Nat → Int32} {f_module : Nat → Int32} {f_asked : Int32} (X : kX p s m args meth c cX52_isItself 5 RX52 (some .boolean) (dC, dI) cl (tX52 d)) {K82 : Int → Prop} {x1 : Int32} {x2 : Int32}  (hk82 : ∀ (x3 : Int32), K82 x3.toInt → ∀ (H : Heap) (locs : List Loc) (ls : Array Slot), kH (dC, dI) cl A s.heap H locs (wX52 ci ad d f_thrown f_classes f_things f_axioms f_fuel f_questions f_sorted f_left f_other f_right f_there f_member f_state f_before f_placed f_looked f_fact f_maker f_fired f_firedCount f_needed f_module f_asked) → lv_has ls 5 [(3, .int x3)] → W p l e ({ frames := 0, cells := 0, slots := 0, locals := 0 } : Room) s m args below meth c H locs 0 0 (MQ below (va_Qi (fun (r : Int32) (_ : Unit) => post r.toInt) (kB (dC, dI) cl (tX52 d) A (fun _ : Unit => (wX52 ci ad d f_thrown f_classes f_things f_axioms f_fuel f_questions f_sorted f_left f_other f_right f_there f_member f_state f_before f_placed f_looked f_fact f_maker f_fired f_firedCount f_needed f_module f_asked))) A) args s 0 0 A) (F0 m 82 ls [])) :
    ∀ (nn : Nat) (x3 : Int32) (x4 : Int32), wX52_isItself_14 K82 x1.toInt x2.toInt f_axioms.toInt (zF f_left) (zF f_other) (zF f_right) (zF f_there) nn x3.toInt x4.toInt → ∀ (H : Heap) (locs : List Loc) (ls : Array Slot), kH (dC, dI) cl A s.heap H locs (wX52 ci ad d f_thrown f_classes f_things f_axioms f_fuel f_questions f_sorted f_left f_other f_right f_there f_member f_state f_before f_placed f_looked f_fact f_maker f_fired f_firedCount f_needed f_module f_asked) → lv_has ls 5 [(0, .ref (ad 0)), (1, .int x1), (2, .int x2), (3, .int x3), (4, .int x4)] → W p l e ({ frames := 0, cells := 0, slots := 0, locals := 0 } : Room) s m args below meth c H locs 0 0 (MQ below (va_Qi (fun (r : Int32) (_ : Unit) => post r.toInt) (kB (dC, dI) cl (tX52 d) A (fun _ : Unit => (wX52 ci ad d f_thrown f_classes f_things f_axioms f_fuel f_questions f_sorted f_left f_other f_right f_there f_member f_state f_before f_placed f_looked f_fact f_maker f_fired f_firedCount f_needed f_module f_asked))) A) args s 0 0 A) (F0 m 14 ls []) := by
  have hx := X.1.1
  have hb := X.1.2.1
  intro nn
  induction nn with
  | zero =>
    intro x3 x4 hw
    exact False.elim hw
  | succ n ih =>
    intro x3 x4 hw H locs ls hH hl
    rw [wX52_isItself_14] at hw
    refine lv_iload hx hb dX52_isItself_14 (lv_at hl 4 rfl) ?_
    refine lv_aload_n hx hb dX52_isItself_16 rfl (lv_at hl 0 rfl) ?_
    refine k_get X hH in_X52 0 rfl hc 3 (by decide) q6384 rfl dX52_isItself_17 ?_
    refine lv_icmp_ge (tgt := 82) hx hb dX52_isItself_20 (by decide) (fun c_2 => ?_) (fun c_2 => ?_)
    · have hw := hw.1 (z_le (rfl : f_axioms.toInt = _) (rfl : x4.toInt = _) c_2)
      exact hk82 x3 hw _ _ ls hH (lv_sub hl [3] rfl)
    · have hw := hw.2 (z_nle (rfl : f_axioms.toInt = _) (rfl : x4.toInt = _) c_2)
      refine lv_iload_n hx hb dX52_isItself_23 rfl (lv_at hl 3 rfl) ?_
      refine lv_if_ne (tgt := 70) hx hb dX52_isItself_24 (by decide) (fun c_3 => ?_) (fun c_3 => ?_)
      · have hw := hw.2 (z_ne (rfl : x3.toInt = _) (rfl : (0 : Int32).toInt = 0) c_3)
        refine lv_iconst (v := 1) hx hb dX52_isItself_70 (by decide) ?_
        refine lv_goto (tgt := 75) hx hb dX52_isItself_71 (by decide) ?_
        refine lv_istore_n (lv' := [(3, .int 1), (0, .ref (ad 0)), (1, .int x1), (2, .int x2), (4, .int x4)]) hx hb dX52_isItself_75 rfl hl (by decide) rfl (fun ls hl => ?_)
        have hq_5 := hw.1
        have hw := hw.2
        obtain ⟨x4_4, ex4_4⟩ : ∃ y : Int32, y = x4 + 1 := ⟨_, rfl⟩
        have hw := hw x4_4.toInt (by rw [ex4_4]; exact (z_x (z_add (z_m (rfl : x4.toInt = _)) (z_m (rfl : (1 : Int32).toInt = 1))) hq_5))
        refine lv_iinc (v := x4_4) (lv' := [(4, .int x4_4), (3, .int 1), (0, .ref (ad 0)), (1, .int x1), (2, .int x2)]) hx hb dX52_isItself_76 hl (k := 4) rfl (by rw [ex4_4]; rfl) (by decide) rfl (fun ls hl => ?_)
        refine lv_goto (tgt := 14) hx hb dX52_isItself_79 (by decide) ?_
        exact ih 1 x4_4 hw _ _ ls hH (lv_sub hl [2, 3, 4, 1, 0] rfl)
      · have hw := hw.1 (z_eq (rfl : x3.toInt = _) (rfl : (0 : Int32).toInt = 0) c_3)
        refine lv_aload_n hx hb dX52_isItself_27 rfl (lv_at hl 0 rfl) ?_
        refine k_get X hH in_X52 0 rfl hc 10 (by decide) q6391 rfl dX52_isItself_28 ?_
        refine lv_iload hx hb dX52_isItself_31 (lv_at hl 4 rfl) ?_
        have hq_6 := hw.1
        have hw := hw.2
        refine k_zald X hH 4 3 rfl rfl (z_in (rfl : x4.toInt = _) hq_6) dX52_isItself_33 ?_
        have e_7 := z_ld (f := f_there) (rfl : x4.toInt = _) hq_6.1
        refine lv_if_eq (tgt := 74) hx hb dX52_isItself_34 (by decide) (fun c_8 => ?_) (fun c_8 => ?_)
        · have hw := hw.1 (z_eq e_7 (rfl : (0 : Int32).toInt = 0) c_8)
          refine lv_iconst (v := 0) hx hb dX52_isItself_74 (by decide) ?_
          refine lv_istore_n (lv' := [(3, .int 0), (0, .ref (ad 0)), (1, .int x1), (2, .int x2), (4, .int x4)]) hx hb dX52_isItself_75 rfl hl (by decide) rfl (fun ls hl => ?_)
          have hq_10 := hw.1
          have hw := hw.2
          obtain ⟨x4_9, ex4_9⟩ : ∃ y : Int32, y = x4 + 1 := ⟨_, rfl⟩
          have hw := hw x4_9.toInt (by rw [ex4_9]; exact (z_x (z_add (z_m (rfl : x4.toInt = _)) (z_m (rfl : (1 : Int32).toInt = 1))) hq_10))
          refine lv_iinc (v := x4_9) (lv' := [(4, .int x4_9), (3, .int 0), (0, .ref (ad 0)), (1, .int x1), (2, .int x2)]) hx hb dX52_isItself_76 hl (k := 4) rfl (by rw [ex4_9]; rfl) (by decide) rfl (fun ls hl => ?_)
          refine lv_goto (tgt := 14) hx hb dX52_isItself_79 (by decide) ?_
          exact ih 0 x4_9 hw _ _ ls hH (lv_sub hl [2, 3, 4, 1, 0] rfl)
        · have hw := hw.2 (z_neq e_7 (rfl : (0 : Int32).toInt = 0) c_8)
          refine lv_aload_n hx hb dX52_isItself_37 rfl (lv_at hl 0 rfl) ?_
          refine k_get X hH in_X52 0 rfl hc 7 (by decide) q6388 rfl dX52_isItself_38 ?_
          refine lv_iload hx hb dX52_isItself_41 (lv_at hl 4 rfl) ?_
          refine k_iald X hH 1 0 rfl rfl (z_in (rfl : x4.toInt = _) hq_6) dX52_isItself_43 ?_
          have e_11 := z_ld (f := f_left) (rfl : x4.toInt = _) hq_6.1
          refine lv_iload_n hx hb dX52_isItself_44 rfl (lv_at hl 1 rfl) ?_
          refine lv_icmp_ne (tgt := 74) hx hb dX52_isItself_45 (by decide) (fun c_12 => ?_) (fun c_12 => ?_)
          · have hw := hw.2 (z_ne e_11 (rfl : x1.toInt = _) c_12)
            refine lv_iconst (v := 0) hx hb dX52_isItself_74 (by decide) ?_
            refine lv_istore_n (lv' := [(3, .int 0), (0, .ref (ad 0)), (1, .int x1), (2, .int x2), (4, .int x4)]) hx hb dX52_isItself_75 rfl hl (by decide) rfl (fun ls hl => ?_)
            have hq_14 := hw.1
            have hw := hw.2
            obtain ⟨x4_13, ex4_13⟩ : ∃ y : Int32, y = x4 + 1 := ⟨_, rfl⟩
            have hw := hw x4_13.toInt (by rw [ex4_13]; exact (z_x (z_add (z_m (rfl : x4.toInt = _)) (z_m (rfl : (1 : Int32).toInt = 1))) hq_14))
            refine lv_iinc (v := x4_13) (lv' := [(4, .int x4_13), (3, .int 0), (0, .ref (ad 0)), (1, .int x1), (2, .int x2)]) hx hb dX52_isItself_76 hl (k := 4) rfl (by rw [ex4_13]; rfl) (by decide) rfl (fun ls hl => ?_)
            refine lv_goto (tgt := 14) hx hb dX52_isItself_79 (by decide) ?_
            exact ih 0 x4_13 hw _ _ ls hH (lv_sub hl [2, 3, 4, 1, 0] rfl)
          · have hw := hw.1 (z_eq e_11 (rfl : x1.toInt = _) c_12)
            refine lv_aload_n hx hb dX52_isItself_48 rfl (lv_at hl 0 rfl) ?_
            refine k_get X hH in_X52 0 rfl hc 8 (by decide) q6389 rfl dX52_isItself_49 ?_
            refine lv_iload hx hb dX52_isItself_52 (lv_at hl 4 rfl) ?_
            refine k_iald X hH 2 1 rfl rfl (z_in (rfl : x4.toInt = _) hq_6) dX52_isItself_54 ?_
            have e_15 := z_ld (f := f_other) (rfl : x4.toInt = _) hq_6.1
            refine lv_iconst (v := (-1)) hx hb dX52_isItself_55 (by decide) ?_
            refine lv_icmp_ne (tgt := 74) hx hb dX52_isItself_56 (by decide) (fun c_16 => ?_) (fun c_16 => ?_)
            · have hw := hw.2 (z_ne e_15 (rfl : ((-1) : Int32).toInt = (-1)) c_16)
              refine lv_iconst (v := 0) hx hb dX52_isItself_74 (by decide) ?_
              refine lv_istore_n (lv' := [(3, .int 0), (0, .ref (ad 0)), (1, .int x1), (2, .int x2), (4, .int x4)]) hx hb dX52_isItself_75 rfl hl (by decide) rfl (fun ls hl => ?_)
              have hq_18 := hw.1
              have hw := hw.2
              obtain ⟨x4_17, ex4_17⟩ : ∃ y : Int32, y = x4 + 1 := ⟨_, rfl⟩
              have hw := hw x4_17.toInt (by rw [ex4_17]; exact (z_x (z_add (z_m (rfl : x4.toInt = _)) (z_m (rfl : (1 : Int32).toInt = 1))) hq_18))
              refine lv_iinc (v := x4_17) (lv' := [(4, .int x4_17), (3, .int 0), (0, .ref (ad 0)), (1, .int x1), (2, .int x2)]) hx hb dX52_isItself_76 hl (k := 4) rfl (by rw [ex4_17]; rfl) (by decide) rfl (fun ls hl => ?_)
              refine lv_goto (tgt := 14) hx hb dX52_isItself_79 (by decide) ?_
              exact ih 0 x4_17 hw _ _ ls hH (lv_sub hl [2, 3, 4, 1, 0] rfl)
            · have hw := hw.1 (z_eq e_15 (rfl : ((-1) : Int32).toInt = (-1)) c_16)
              refine lv_aload_n hx hb dX52_isItself_59 rfl (lv_at hl 0 rfl) ?_
              refine k_get X hH in_X52 0 rfl hc 9 (by decide) q6390 rfl dX52_isItself_60 ?_
              refine lv_iload hx hb dX52_isItself_63 (lv_at hl 4 rfl) ?_
              refine k_iald X hH 3 2 rfl rfl (z_in (rfl : x4.toInt = _) hq_6) dX52_isItself_65 ?_
              have e_19 := z_ld (f := f_right) (rfl : x4.toInt = _) hq_6.1
              refine lv_iload_n hx hb dX52_isItself_66 rfl (lv_at hl 2 rfl) ?_
              refine lv_icmp_ne (tgt := 74) hx hb dX52_isItself_67 (by decide) (fun c_20 => ?_) (fun c_20 => ?_)
              · have hw := hw.2 (z_ne e_19 (rfl : x2.toInt = _) c_20)
                refine lv_iconst (v := 0) hx hb dX52_isItself_74 (by decide) ?_
                refine lv_istore_n (lv' := [(3, .int 0), (0, .ref (ad 0)), (1, .int x1), (2, .int x2), (4, .int x4)]) hx hb dX52_isItself_75 rfl hl (by decide) rfl (fun ls hl => ?_)
                have hq_22 := hw.1
                have hw := hw.2
                obtain ⟨x4_21, ex4_21⟩ : ∃ y : Int32, y = x4 + 1 := ⟨_, rfl⟩
                have hw := hw x4_21.toInt (by rw [ex4_21]; exact (z_x (z_add (z_m (rfl : x4.toInt = _)) (z_m (rfl : (1 : Int32).toInt = 1))) hq_22))
                refine lv_iinc (v := x4_21) (lv' := [(4, .int x4_21), (3, .int 0), (0, .ref (ad 0)), (1, .int x1), (2, .int x2)]) hx hb dX52_isItself_76 hl (k := 4) rfl (by rw [ex4_21]; rfl) (by decide) rfl (fun ls hl => ?_)
                refine lv_goto (tgt := 14) hx hb dX52_isItself_79 (by decide) ?_
                exact ih 0 x4_21 hw _ _ ls hH (lv_sub hl [2, 3, 4, 1, 0] rfl)
              · have hw := hw.1 (z_eq e_19 (rfl : x2.toInt = _) c_20)
                refine lv_iconst (v := 1) hx hb dX52_isItself_70 (by decide) ?_
                refine lv_goto (tgt := 75) hx hb dX52_isItself_71 (by decide) ?_
                refine lv_istore_n (lv' := [(3, .int 1), (0, .ref (ad 0)), (1, .int x1), (2, .int x2), (4, .int x4)]) hx hb dX52_isItself_75 rfl hl (by decide) rfl (fun ls hl => ?_)
                have hq_24 := hw.1
                have hw := hw.2
                obtain ⟨x4_23, ex4_23⟩ : ∃ y : Int32, y = x4 + 1 := ⟨_, rfl⟩
                have hw := hw x4_23.toInt (by rw [ex4_23]; exact (z_x (z_add (z_m (rfl : x4.toInt = _)) (z_m (rfl : (1 : Int32).toInt = 1))) hq_24))
                refine lv_iinc (v := x4_23) (lv' := [(4, .int x4_23), (3, .int 1), (0, .ref (ad 0)), (1, .int x1), (2, .int x2)]) hx hb dX52_isItself_76 hl (k := 4) rfl (by rw [ex4_23]; rfl) (by decide) rfl (fun ls hl => ?_)
                refine lv_goto (tgt := 14) hx hb dX52_isItself_79 (by decide) ?_
                exact ih 1 x4_23 hw _ _ ls hH (lv_sub hl [2, 3, 4, 1, 0] rfl)
set_option maxHeartbeats 4000000 in
theorem walkX52_isItself {l : Launch} {dC : Nat → ClassId} {dI : Nat → Nat → Nat} {cl : List vw_C} {ci : Nat} (hc : cl[ci]? = some (RX52, TX52, 23)) {ad : Nat → Nat} {d : Nat → ClassId} {sz : Nat} {f_thrown : Int32} {f_classes : Int32} {f_things : Int32} {f_axioms : Int32} {f_fuel : Int32} {f_questions : Int32} {f_sorted : Int32} {f_left : Nat → Int32} {f_other : Nat → Int32} {f_right : Nat → Int32} {f_there : Nat → Int32} {f_member : Nat → Int32} {f_state : Nat → Int32} {f_before : Nat → Int32} {f_placed : Nat → Int32} {f_looked : Nat → Int32} {f_fact : Nat → Int32} {f_maker : Nat → Int32} {f_fired : Nat → Int32} {f_firedCount : Int32} {f_needed : Nat → Int32} {f_module : Nat → Int32} {f_asked : Int32} {x1 : Int32} {x2 : Int32} {post : Int → Prop} (hw : wpX52_isItself post f_axioms.toInt (zF f_left) (zF f_other) (zF f_right) (zF f_there) x1.toInt x2.toInt) :
    Met l yX52_isItself (ws_ yX52_isItself cX52_isItself 5 (some .boolean)) ({ frames := 0, cells := 0, slots := 0, locals := 0 } : Room) (kPc (dC, dI) cl (tX52 d) [.ref (ad 0), .int x1, .int x2] sz (wX52 ci ad d f_thrown f_classes f_things f_axioms f_fuel f_questions f_sorted f_left f_other f_right f_there f_member f_state f_before f_placed f_looked f_fact f_maker f_fired f_firedCount f_needed f_module f_asked)) (va_Qi (fun (r : Int32) (_ : Unit) => post r.toInt) (kB (dC, dI) cl (tX52 d) (va_A (wX52 ci ad d f_thrown f_classes f_things f_axioms f_fuel f_questions f_sorted f_left f_other f_right f_there f_member f_state f_before f_placed f_looked f_fact f_maker f_fired f_firedCount f_needed f_module f_asked) sz) (fun _ : Unit => (wX52 ci ad d f_thrown f_classes f_things f_axioms f_fuel f_questions f_sorted f_left f_other f_right f_there f_member f_state f_before f_placed f_looked f_fact f_maker f_fired f_firedCount f_needed f_module f_asked))) (va_A (wX52 ci ad d f_thrown f_classes f_things f_axioms f_fuel f_questions f_sorted f_left f_other f_right f_there f_member f_state f_before f_placed f_looked f_fact f_maker f_fired f_firedCount f_needed f_module f_asked) sz)) 0 0 (va_A (wX52 ci ad d f_thrown f_classes f_things f_axioms f_fuel f_questions f_sorted f_left f_other f_right f_there f_member f_state f_before f_placed f_looked f_fact f_maker f_fired f_firedCount f_needed f_module f_asked) sz) := by
  refine k_enter (by decide) (Nat.le_of_ble_eq_true rfl) ?_
  intro p e s m below meth c ls X hsz hH hl
  subst hsz
  generalize va_A (wX52 ci ad d f_thrown f_classes f_things f_axioms f_fuel f_questions f_sorted f_left f_other f_right f_there f_member f_state f_before f_placed f_looked f_fact f_maker f_fired f_firedCount f_needed f_module f_asked) s.heap.size = A at hH ⊢
  have hx := X.1.1
  have hb := X.1.2.1
  have hl : lv_has ls 5 [(0, .ref (ad 0)), (1, .int x1), (2, .int x2)] := hl
  unfold wpX52_isItself at hw
  refine lv_iload_n hx hb dX52_isItself_0 rfl (lv_at hl 1 rfl) ?_
  refine lv_iload_n hx hb dX52_isItself_1 rfl (lv_at hl 2 rfl) ?_
  refine lv_icmp_ne (tgt := 9) hx hb dX52_isItself_2 (by decide) (fun c_1 => ?_) (fun c_1 => ?_)
  · have hw := hw.2 (z_ne (rfl : x1.toInt = _) (rfl : x2.toInt = _) c_1)
    refine lv_iconst (v := 0) hx hb dX52_isItself_9 (by decide) ?_
    refine lv_istore_n (lv' := [(3, .int 0), (0, .ref (ad 0)), (1, .int x1), (2, .int x2)]) hx hb dX52_isItself_10 rfl hl (by decide) rfl (fun ls hl => ?_)
    refine lv_iconst (v := 0) hx hb dX52_isItself_11 (by decide) ?_
    refine lv_istore (lv' := [(4, .int 0), (3, .int 0), (0, .ref (ad 0)), (1, .int x1), (2, .int x2)]) hx hb dX52_isItself_12 hl (by decide) rfl (fun ls hl => ?_)
    obtain ⟨fu, hw⟩ := hw
    refine atX52_isItself_14 hc X ?_ fu 0 0 hw _ _ ls hH (lv_sub hl [2, 3, 4, 1, 0] rfl)
    · intro x3_25 hw H locs ls hH hl
      refine lv_iload_n hx hb dX52_isItself_82 rfl (lv_at hl 0 rfl) ?_
      have hq_26 := hw.1
      have hw := hw.2
      exact k_iret (v := x3_25) X hH () hw rfl (k_zn (z_boolE (rfl : x3_25.toInt = _) hq_26)) dX52_isItself_83
  · have hw := hw.1 (z_eq (rfl : x1.toInt = _) (rfl : x2.toInt = _) c_1)
    refine lv_iconst (v := 1) hx hb dX52_isItself_5 (by decide) ?_
    refine lv_goto (tgt := 10) hx hb dX52_isItself_6 (by decide) ?_
    refine lv_istore_n (lv' := [(3, .int 1), (0, .ref (ad 0)), (1, .int x1), (2, .int x2)]) hx hb dX52_isItself_10 rfl hl (by decide) rfl (fun ls hl => ?_)
    refine lv_iconst (v := 0) hx hb dX52_isItself_11 (by decide) ?_
    refine lv_istore (lv' := [(4, .int 0), (3, .int 1), (0, .ref (ad 0)), (1, .int x1), (2, .int x2)]) hx hb dX52_isItself_12 hl (by decide) rfl (fun ls hl => ?_)
    obtain ⟨fu, hw⟩ := hw
    refine atX52_isItself_14 hc X ?_ fu 1 0 hw _ _ ls hH (lv_sub hl [2, 3, 4, 1, 0] rfl)
    · intro x3_27 hw H locs ls hH hl
      refine lv_iload_n hx hb dX52_isItself_82 rfl (lv_at hl 0 rfl) ?_
      have hq_28 := hw.1
      have hw := hw.2
      exact k_iret (v := x3_27) X hH () hw rfl (k_zn (z_boolE (rfl : x3_27.toInt = _) hq_28)) dX52_isItself_83
set_option maxHeartbeats 4000000 in
theorem atX52_tellItself_32 {p : Program} {l : Launch} {e : Env} {s : State} {m : MethodId} {args : Array Value} {below : List Frame} {meth : Method} {c : Code} {dC : Nat → ClassId} {dI : Nat → Nat → Nat} {cl : List vw_C} {ci : Nat} (hc : cl[ci]? = some (RX52, TX52, 23)) {ad : Nat → Nat} {d : Nat → ClassId} {A : Nat → Prop} {post : (Int → Int) → Prop} {f_thrown : Int32} {f_classes : Int32} {f_things : Int32} {f_axioms : Int32} {f_fuel : Int32} {f_questions : Int32} {f_sorted : Int32} {f_left : Nat → Int32} {f_other : Nat → Int32} {f_right : Nat → Int32} {f_there : Nat → Int32} {f_member : Nat → Int32} {f_before : Nat → Int32} {f_placed : Nat → Int32} {f_looked : Nat → Int32} {f_fact : Nat → Int32} {f_maker : Nat → Int32} {f_fired : Nat → Int32} {f_firedCount : Int32} {f_needed : Nat → Int32} {f_module : Nat → Int32} {f_asked : Int32} (X : kX p s m args meth c cX52_tellItself 3 RX52 none (dC, dI) cl (tX52 d)) {K12 : Int → (Int → Int) → Prop} {x1 : Int32}  (hk12 : ∀ (x2 : Int32) (f_state : Nat → Int32), K12 x2.toInt (zF f_state) → ∀ (H : Heap) (locs : List Loc) (ls : Array Slot), kH (dC, dI) cl A s.heap H locs (wX52 ci ad d f_thrown f_classes f_things f_axioms f_fuel f_questions f_sorted f_left f_other f_right f_there f_member f_state f_before f_placed f_looked f_fact f_maker f_fired f_firedCount f_needed f_module f_asked) → lv_has ls 3 [(0, .ref (ad 0)), (1, .int x1), (2, .int x2)] → W p l e ({ frames := 1, cells := 0, slots := 0, locals := 24 } : Room) s m args below meth c H locs 0 0 (MQ below (va_Qv (fun (u : (Nat → Int32)) => post (zF (u))) (kB (dC, dI) cl (tX52 d) A (fun u : (Nat → Int32) => (wX52 ci ad d f_thrown f_classes f_things f_axioms f_fuel f_questions f_sorted f_left f_other f_right f_there f_member (u) f_before f_placed f_looked f_fact f_maker f_fired f_firedCount f_needed f_module f_asked))) A) args s 0 0 A) (F0 m 12 ls [])) :
    ∀ (x2 : Int32) (f_state : Nat → Int32), wX52_tellItself_32 K12 x1.toInt x2.toInt f_axioms.toInt (zF f_left) (zF f_other) (zF f_right) (zF f_there) (zF f_state) → ∀ (H : Heap) (locs : List Loc) (ls : Array Slot), kH (dC, dI) cl A s.heap H locs (wX52 ci ad d f_thrown f_classes f_things f_axioms f_fuel f_questions f_sorted f_left f_other f_right f_there f_member f_state f_before f_placed f_looked f_fact f_maker f_fired f_firedCount f_needed f_module f_asked) → lv_has ls 3 [(0, .ref (ad 0)), (1, .int x1), (2, .int x2)] → W p l e ({ frames := 1, cells := 0, slots := 0, locals := 24 } : Room) s m args below meth c H locs 0 0 (MQ below (va_Qv (fun (u : (Nat → Int32)) => post (zF (u))) (kB (dC, dI) cl (tX52 d) A (fun u : (Nat → Int32) => (wX52 ci ad d f_thrown f_classes f_things f_axioms f_fuel f_questions f_sorted f_left f_other f_right f_there f_member (u) f_before f_placed f_looked f_fact f_maker f_fired f_firedCount f_needed f_module f_asked))) A) args s 0 0 A) (F0 m 32 ls []) := by
  have hx := X.1.1
  have hb := X.1.2.1
  intro x2 f_state hw H locs ls hH hl
  unfold wX52_tellItself_32 at hw
  refine lv_aload_n hx hb dX52_tellItself_32 rfl (lv_at hl 0 rfl) ?_
  refine lv_iload_n hx hb dX52_tellItself_33 rfl (lv_at hl 1 rfl) ?_
  refine lv_iload_n hx hb dX52_tellItself_34 rfl (lv_at hl 2 rfl) ?_
  refine k_i0 hH (k_runV (As := [.int x1, .int x2]) (rest := []) X hH.1 hH.2.1 X.2.2.2 (walkX52_isItself hc (x1 := x1) (x2 := x2) (f_thrown := f_thrown) (f_classes := f_classes) (f_things := f_things) (f_axioms := f_axioms) (f_fuel := f_fuel) (f_questions := f_questions) (f_sorted := f_sorted) (f_left := f_left) (f_other := f_other) (f_right := f_right) (f_there := f_there) (f_member := f_member) (f_state := f_state) (f_before := f_before) (f_placed := f_placed) (f_looked := f_looked) (f_fact := f_fact) (f_maker := f_maker) (f_fired := f_fired) (f_firedCount := f_firedCount) (f_needed := f_needed) (f_module := f_module) (f_asked := f_asked) hw) (cwV 2 X.1.2.2.2.2 gX52_70 rfl rfl rfl hX52_isItself ⟨Nat.le_of_ble_eq_true rfl, Nat.le_of_ble_eq_true rfl⟩) hc (q0 := 0) rfl rfl hl.1 rfl (Nat.le_of_ble_eq_true rfl) dX52_tellItself_35 ⟨Nat.le_refl 0, Nat.le_refl 0⟩) (fun r_4 _ H locs hw hH => ?_)
  have hH : kH (dC, dI) cl A s.heap H locs (wX52 ci ad d f_thrown f_classes f_things f_axioms f_fuel f_questions f_sorted f_left f_other f_right f_there f_member f_state f_before f_placed f_looked f_fact f_maker f_fired f_firedCount f_needed f_module f_asked) := hH
  refine lv_if_eq (tgt := 53) hx hb dX52_tellItself_38 (by decide) (fun c_5 => ?_) (fun c_5 => ?_)
  · have hw := hw.1 (z_eq (rfl : r_4.toInt = _) (rfl : (0 : Int32).toInt = 0) c_5)
    have hq_7 := hw.1
    have hw := hw.2
    obtain ⟨x2_6, ex2_6⟩ : ∃ y : Int32, y = x2 + 1 := ⟨_, rfl⟩
    have hw := hw x2_6.toInt (by rw [ex2_6]; exact (z_x (z_add (z_m (rfl : x2.toInt = _)) (z_m (rfl : (1 : Int32).toInt = 1))) hq_7))
    refine lv_iinc (v := x2_6) (lv' := [(2, .int x2_6), (0, .ref (ad 0)), (1, .int x1)]) hx hb dX52_tellItself_53 hl (k := 2) rfl (by rw [ex2_6]; rfl) (by decide) rfl (fun ls hl => ?_)
    refine lv_goto (tgt := 12) hx hb dX52_tellItself_56 (by decide) ?_
    exact hk12 x2_6 f_state hw _ _ ls hH (lv_sub hl [1, 2, 0] rfl)
  · have hw := hw.2 (z_neq (rfl : r_4.toInt = _) (rfl : (0 : Int32).toInt = 0) c_5)
    refine lv_aload_n hx hb dX52_tellItself_41 rfl (lv_at hl 0 rfl) ?_
    refine k_get X hH in_X52 0 rfl hc 12 (by decide) q6393 rfl dX52_tellItself_42 ?_
    refine lv_bipush (v := 21) hx hb dX52_tellItself_45 (by decide) ?_
    refine lv_iload_n hx hb dX52_tellItself_47 rfl (lv_at hl 1 rfl) ?_
    refine lv_imul hx hb dX52_tellItself_48 ?_
    have e_8 := z_mul (z_m (rfl : (21 : Int32).toInt = 21)) (z_m (rfl : x1.toInt = _))
    refine lv_iload_n hx hb dX52_tellItself_49 rfl (lv_at hl 2 rfl) ?_
    refine lv_iadd hx hb dX52_tellItself_50 ?_
    have e_9 := z_add e_8 (z_m (rfl : x2.toInt = _))
    refine lv_iconst (v := 1) hx hb dX52_tellItself_51 (by decide) ?_
    have hq_11 := hw.1
    have hw := hw.2
    have e_12 := z_xi e_9 hq_11 (by decide)
    obtain ⟨f_state_10, ef_state_10⟩ : ∃ y : Nat → Int32, y = upd f_state ((21 * x1) + x2).toNatClampNeg 1 := ⟨_, rfl⟩
    refine k_iast X hH 6 5 rfl rfl (z_in e_12 hq_11) dX52_tellItself_52 ef_state_10 (ws1 := (wX52 ci ad d f_thrown f_classes f_things f_axioms f_fuel f_questions f_sorted f_left f_other f_right f_there f_member f_state_10 f_before f_placed f_looked f_fact f_maker f_fired f_firedCount f_needed f_module f_asked)) rfl (fun H locs hH => ?_)
    have hw := hw (zF f_state_10) (by rw [ef_state_10]; exact z_st (f := f_state) e_12 hq_11.1 (rfl : (1 : Int32).toInt = 1))
    have hq_14 := hw.1
    have hw := hw.2
    obtain ⟨x2_13, ex2_13⟩ : ∃ y : Int32, y = x2 + 1 := ⟨_, rfl⟩
    have hw := hw x2_13.toInt (by rw [ex2_13]; exact (z_x (z_add (z_m (rfl : x2.toInt = _)) (z_m (rfl : (1 : Int32).toInt = 1))) hq_14))
    refine lv_iinc (v := x2_13) (lv' := [(2, .int x2_13), (0, .ref (ad 0)), (1, .int x1)]) hx hb dX52_tellItself_53 hl (k := 2) rfl (by rw [ex2_13]; rfl) (by decide) rfl (fun ls hl => ?_)
    refine lv_goto (tgt := 12) hx hb dX52_tellItself_56 (by decide) ?_
    exact hk12 x2_13 f_state_10 hw _ _ ls hH (lv_sub hl [1, 2, 0] rfl)
set_option maxHeartbeats 4000000 in
theorem atX52_tellItself_12 {p : Program} {l : Launch} {e : Env} {s : State} {m : MethodId} {args : Array Value} {below : List Frame} {meth : Method} {c : Code} {dC : Nat → ClassId} {dI : Nat → Nat → Nat} {cl : List vw_C} {ci : Nat} (hc : cl[ci]? = some (RX52, TX52, 23)) {ad : Nat → Nat} {d : Nat → ClassId} {A : Nat → Prop} {post : (Int → Int) → Prop} {f_thrown : Int32} {f_classes : Int32} {f_things : Int32} {f_axioms : Int32} {f_fuel : Int32} {f_questions : Int32} {f_sorted : Int32} {f_left : Nat → Int32} {f_other : Nat → Int32} {f_right : Nat → Int32} {f_there : Nat → Int32} {f_member : Nat → Int32} {f_before : Nat → Int32} {f_placed : Nat → Int32} {f_looked : Nat → Int32} {f_fact : Nat → Int32} {f_maker : Nat → Int32} {f_fired : Nat → Int32} {f_firedCount : Int32} {f_needed : Nat → Int32} {f_module : Nat → Int32} {f_asked : Int32} (X : kX p s m args meth c cX52_tellItself 3 RX52 none (dC, dI) cl (tX52 d)) {K59 : (Int → Int) → Prop} {x1 : Int32}  (hk59 : ∀ (f_state : Nat → Int32), K59 (zF f_state) → ∀ (H : Heap) (locs : List Loc) (ls : Array Slot), kH (dC, dI) cl A s.heap H locs (wX52 ci ad d f_thrown f_classes f_things f_axioms f_fuel f_questions f_sorted f_left f_other f_right f_there f_member f_state f_before f_placed f_looked f_fact f_maker f_fired f_firedCount f_needed f_module f_asked) → lv_has ls 3 [(0, .ref (ad 0)), (1, .int x1)] → W p l e ({ frames := 1, cells := 0, slots := 0, locals := 24 } : Room) s m args below meth c H locs 0 0 (MQ below (va_Qv (fun (u : (Nat → Int32)) => post (zF (u))) (kB (dC, dI) cl (tX52 d) A (fun u : (Nat → Int32) => (wX52 ci ad d f_thrown f_classes f_things f_axioms f_fuel f_questions f_sorted f_left f_other f_right f_there f_member (u) f_before f_placed f_looked f_fact f_maker f_fired f_firedCount f_needed f_module f_asked))) A) args s 0 0 A) (F0 m 59 ls [])) :
    ∀ (nn : Nat) (x2 : Int32) (f_state : Nat → Int32), wX52_tellItself_12 K59 x1.toInt f_classes.toInt f_axioms.toInt (zF f_left) (zF f_other) (zF f_right) (zF f_there) nn x2.toInt (zF f_state) → ∀ (H : Heap) (locs : List Loc) (ls : Array Slot), kH (dC, dI) cl A s.heap H locs (wX52 ci ad d f_thrown f_classes f_things f_axioms f_fuel f_questions f_sorted f_left f_other f_right f_there f_member f_state f_before f_placed f_looked f_fact f_maker f_fired f_firedCount f_needed f_module f_asked) → lv_has ls 3 [(0, .ref (ad 0)), (1, .int x1), (2, .int x2)] → W p l e ({ frames := 1, cells := 0, slots := 0, locals := 24 } : Room) s m args below meth c H locs 0 0 (MQ below (va_Qv (fun (u : (Nat → Int32)) => post (zF (u))) (kB (dC, dI) cl (tX52 d) A (fun u : (Nat → Int32) => (wX52 ci ad d f_thrown f_classes f_things f_axioms f_fuel f_questions f_sorted f_left f_other f_right f_there f_member (u) f_before f_placed f_looked f_fact f_maker f_fired f_firedCount f_needed f_module f_asked))) A) args s 0 0 A) (F0 m 12 ls []) := by
  have hx := X.1.1
  have hb := X.1.2.1
  intro nn
  induction nn with
  | zero =>
    intro x2 f_state hw
    exact False.elim hw
  | succ n ih =>
    intro x2 f_state hw H locs ls hH hl
    rw [wX52_tellItself_12] at hw
    refine lv_iload_n hx hb dX52_tellItself_12 rfl (lv_at hl 2 rfl) ?_
    refine lv_bipush (v := 20) hx hb dX52_tellItself_13 (by decide) ?_
    refine lv_icmp_gt (tgt := 59) hx hb dX52_tellItself_15 (by decide) (fun c_2 => ?_) (fun c_2 => ?_)
    · have hw := hw.1 (z_lt (rfl : (20 : Int32).toInt = 20) (rfl : x2.toInt = _) c_2)
      exact hk59 f_state hw _ _ ls hH (lv_sub hl [0, 1] rfl)
    · have hw := hw.2 (z_nlt (rfl : (20 : Int32).toInt = 20) (rfl : x2.toInt = _) c_2)
      refine lv_iload_n hx hb dX52_tellItself_18 rfl (lv_at hl 2 rfl) ?_
      refine lv_aload_n hx hb dX52_tellItself_19 rfl (lv_at hl 0 rfl) ?_
      refine k_get X hH in_X52 0 rfl hc 1 (by decide) q6382 rfl dX52_tellItself_20 ?_
      refine lv_icmp_lt (tgt := 32) hx hb dX52_tellItself_23 (by decide) (fun c_3 => ?_) (fun c_3 => ?_)
      · have hw := hw.1 (z_lt (rfl : x2.toInt = _) (rfl : f_classes.toInt = _) c_3)
        exact atX52_tellItself_32 hc X (fun x2 f_state hw H locs ls hH hl => ih x2 f_state hw _ _ ls hH (lv_sub hl [0, 1, 2] rfl)) x2 f_state hw _ _ ls hH (lv_sub hl [0, 1, 2] rfl)
      · have hw := hw.2 (z_nlt (rfl : x2.toInt = _) (rfl : f_classes.toInt = _) c_3)
        refine lv_iload_n hx hb dX52_tellItself_26 rfl (lv_at hl 2 rfl) ?_
        refine lv_bipush (v := 20) hx hb dX52_tellItself_27 (by decide) ?_
        refine lv_icmp_ne (tgt := 53) hx hb dX52_tellItself_29 (by decide) (fun c_15 => ?_) (fun c_15 => ?_)
        · have hw := hw.2 (z_ne (rfl : x2.toInt = _) (rfl : (20 : Int32).toInt = 20) c_15)
          have hq_17 := hw.1
          have hw := hw.2
          obtain ⟨x2_16, ex2_16⟩ : ∃ y : Int32, y = x2 + 1 := ⟨_, rfl⟩
          have hw := hw x2_16.toInt (by rw [ex2_16]; exact (z_x (z_add (z_m (rfl : x2.toInt = _)) (z_m (rfl : (1 : Int32).toInt = 1))) hq_17))
          refine lv_iinc (v := x2_16) (lv' := [(2, .int x2_16), (0, .ref (ad 0)), (1, .int x1)]) hx hb dX52_tellItself_53 hl (k := 2) rfl (by rw [ex2_16]; rfl) (by decide) rfl (fun ls hl => ?_)
          refine lv_goto (tgt := 12) hx hb dX52_tellItself_56 (by decide) ?_
          exact ih x2_16 f_state hw _ _ ls hH (lv_sub hl [1, 2, 0] rfl)
        · have hw := hw.1 (z_eq (rfl : x2.toInt = _) (rfl : (20 : Int32).toInt = 20) c_15)
          exact atX52_tellItself_32 hc X (fun x2 f_state hw H locs ls hH hl => ih x2 f_state hw _ _ ls hH (lv_sub hl [0, 1, 2] rfl)) x2 f_state hw _ _ ls hH (lv_sub hl [0, 1, 2] rfl)
set_option maxHeartbeats 4000000 in
theorem atX52_tellItself_2 {p : Program} {l : Launch} {e : Env} {s : State} {m : MethodId} {args : Array Value} {below : List Frame} {meth : Method} {c : Code} {dC : Nat → ClassId} {dI : Nat → Nat → Nat} {cl : List vw_C} {ci : Nat} (hc : cl[ci]? = some (RX52, TX52, 23)) {ad : Nat → Nat} {d : Nat → ClassId} {A : Nat → Prop} {post : (Int → Int) → Prop} {f_thrown : Int32} {f_classes : Int32} {f_things : Int32} {f_axioms : Int32} {f_fuel : Int32} {f_questions : Int32} {f_sorted : Int32} {f_left : Nat → Int32} {f_other : Nat → Int32} {f_right : Nat → Int32} {f_there : Nat → Int32} {f_member : Nat → Int32} {f_before : Nat → Int32} {f_placed : Nat → Int32} {f_looked : Nat → Int32} {f_fact : Nat → Int32} {f_maker : Nat → Int32} {f_fired : Nat → Int32} {f_firedCount : Int32} {f_needed : Nat → Int32} {f_module : Nat → Int32} {f_asked : Int32} (X : kX p s m args meth c cX52_tellItself 3 RX52 none (dC, dI) cl (tX52 d)) {K65 : (Int → Int) → Prop}   (hk65 : ∀ (f_state : Nat → Int32), K65 (zF f_state) → ∀ (H : Heap) (locs : List Loc) (ls : Array Slot), kH (dC, dI) cl A s.heap H locs (wX52 ci ad d f_thrown f_classes f_things f_axioms f_fuel f_questions f_sorted f_left f_other f_right f_there f_member f_state f_before f_placed f_looked f_fact f_maker f_fired f_firedCount f_needed f_module f_asked) → lv_has ls 3 [] → W p l e ({ frames := 1, cells := 0, slots := 0, locals := 24 } : Room) s m args below meth c H locs 0 0 (MQ below (va_Qv (fun (u : (Nat → Int32)) => post (zF (u))) (kB (dC, dI) cl (tX52 d) A (fun u : (Nat → Int32) => (wX52 ci ad d f_thrown f_classes f_things f_axioms f_fuel f_questions f_sorted f_left f_other f_right f_there f_member (u) f_before f_placed f_looked f_fact f_maker f_fired f_firedCount f_needed f_module f_asked))) A) args s 0 0 A) (F0 m 65 ls [])) :
    ∀ (nn : Nat) (x1 : Int32) (f_state : Nat → Int32), wX52_tellItself_2 K65 f_classes.toInt f_axioms.toInt (zF f_left) (zF f_other) (zF f_right) (zF f_there) nn x1.toInt (zF f_state) → ∀ (H : Heap) (locs : List Loc) (ls : Array Slot), kH (dC, dI) cl A s.heap H locs (wX52 ci ad d f_thrown f_classes f_things f_axioms f_fuel f_questions f_sorted f_left f_other f_right f_there f_member f_state f_before f_placed f_looked f_fact f_maker f_fired f_firedCount f_needed f_module f_asked) → lv_has ls 3 [(0, .ref (ad 0)), (1, .int x1)] → W p l e ({ frames := 1, cells := 0, slots := 0, locals := 24 } : Room) s m args below meth c H locs 0 0 (MQ below (va_Qv (fun (u : (Nat → Int32)) => post (zF (u))) (kB (dC, dI) cl (tX52 d) A (fun u : (Nat → Int32) => (wX52 ci ad d f_thrown f_classes f_things f_axioms f_fuel f_questions f_sorted f_left f_other f_right f_there f_member (u) f_before f_placed f_looked f_fact f_maker f_fired f_firedCount f_needed f_module f_asked))) A) args s 0 0 A) (F0 m 2 ls []) := by
  have hx := X.1.1
  have hb := X.1.2.1
  intro nn
  induction nn with
  | zero =>
    intro x1 f_state hw
    exact False.elim hw
  | succ n ih =>
    intro x1 f_state hw H locs ls hH hl
    rw [wX52_tellItself_2] at hw
    refine lv_iload_n hx hb dX52_tellItself_2 rfl (lv_at hl 1 rfl) ?_
    refine lv_aload_n hx hb dX52_tellItself_3 rfl (lv_at hl 0 rfl) ?_
    refine k_get X hH in_X52 0 rfl hc 1 (by decide) q6382 rfl dX52_tellItself_4 ?_
    refine lv_icmp_ge (tgt := 65) hx hb dX52_tellItself_7 (by decide) (fun c_1 => ?_) (fun c_1 => ?_)
    · have hw := hw.1 (z_le (rfl : f_classes.toInt = _) (rfl : x1.toInt = _) c_1)
      exact hk65 f_state hw _ _ ls hH (lv_sub hl [] rfl)
    · have hw := hw.2 (z_nle (rfl : f_classes.toInt = _) (rfl : x1.toInt = _) c_1)
      refine lv_iconst (v := 0) hx hb dX52_tellItself_10 (by decide) ?_
      refine lv_istore_n (lv' := [(2, .int 0), (0, .ref (ad 0)), (1, .int x1)]) hx hb dX52_tellItself_11 rfl hl (by decide) rfl (fun ls hl => ?_)
      obtain ⟨fu, hw⟩ := hw
      refine atX52_tellItself_12 hc X ?_ fu 0 f_state hw _ _ ls hH (lv_sub hl [1, 2, 0] rfl)
      · intro f_state_18 hw H locs ls hH hl
        have hq_20 := hw.1
        have hw := hw.2
        obtain ⟨x1_19, ex1_19⟩ : ∃ y : Int32, y = x1 + 1 := ⟨_, rfl⟩
        have hw := hw x1_19.toInt (by rw [ex1_19]; exact (z_x (z_add (z_m (rfl : x1.toInt = _)) (z_m (rfl : (1 : Int32).toInt = 1))) hq_20))
        refine lv_iinc (v := x1_19) (lv' := [(1, .int x1_19), (0, .ref (ad 0))]) hx hb dX52_tellItself_59 hl (k := 1) rfl (by rw [ex1_19]; rfl) (by decide) rfl (fun ls hl => ?_)
        refine lv_goto (tgt := 2) hx hb dX52_tellItself_62 (by decide) ?_
        exact ih x1_19 f_state_18 hw _ _ ls hH (lv_sub hl [1, 0] rfl)
set_option maxHeartbeats 4000000 in
theorem walkX52_tellItself {l : Launch} {dC : Nat → ClassId} {dI : Nat → Nat → Nat} {cl : List vw_C} {ci : Nat} (hc : cl[ci]? = some (RX52, TX52, 23)) {ad : Nat → Nat} {d : Nat → ClassId} {sz : Nat} {f_thrown : Int32} {f_classes : Int32} {f_things : Int32} {f_axioms : Int32} {f_fuel : Int32} {f_questions : Int32} {f_sorted : Int32} {f_left : Nat → Int32} {f_other : Nat → Int32} {f_right : Nat → Int32} {f_there : Nat → Int32} {f_member : Nat → Int32} {f_state : Nat → Int32} {f_before : Nat → Int32} {f_placed : Nat → Int32} {f_looked : Nat → Int32} {f_fact : Nat → Int32} {f_maker : Nat → Int32} {f_fired : Nat → Int32} {f_firedCount : Int32} {f_needed : Nat → Int32} {f_module : Nat → Int32} {f_asked : Int32}  {post : (Int → Int) → Prop} (hw : wpX52_tellItself post f_classes.toInt f_axioms.toInt (zF f_left) (zF f_other) (zF f_right) (zF f_there) (zF f_state) ) :
    Met l yX52_tellItself (ws_ yX52_tellItself cX52_tellItself 3 none) ({ frames := 1, cells := 0, slots := 0, locals := 24 } : Room) (kPc (dC, dI) cl (tX52 d) [.ref (ad 0)] sz (wX52 ci ad d f_thrown f_classes f_things f_axioms f_fuel f_questions f_sorted f_left f_other f_right f_there f_member f_state f_before f_placed f_looked f_fact f_maker f_fired f_firedCount f_needed f_module f_asked)) (va_Qv (fun (u : (Nat → Int32)) => post (zF (u))) (kB (dC, dI) cl (tX52 d) (va_A (wX52 ci ad d f_thrown f_classes f_things f_axioms f_fuel f_questions f_sorted f_left f_other f_right f_there f_member f_state f_before f_placed f_looked f_fact f_maker f_fired f_firedCount f_needed f_module f_asked) sz) (fun u : (Nat → Int32) => (wX52 ci ad d f_thrown f_classes f_things f_axioms f_fuel f_questions f_sorted f_left f_other f_right f_there f_member (u) f_before f_placed f_looked f_fact f_maker f_fired f_firedCount f_needed f_module f_asked))) (va_A (wX52 ci ad d f_thrown f_classes f_things f_axioms f_fuel f_questions f_sorted f_left f_other f_right f_there f_member f_state f_before f_placed f_looked f_fact f_maker f_fired f_firedCount f_needed f_module f_asked) sz)) 0 0 (va_A (wX52 ci ad d f_thrown f_classes f_things f_axioms f_fuel f_questions f_sorted f_left f_other f_right f_there f_member f_state f_before f_placed f_looked f_fact f_maker f_fired f_firedCount f_needed f_module f_asked) sz) := by
  refine k_enter (by decide) (Nat.le_of_ble_eq_true rfl) ?_
  intro p e s m below meth c ls X hsz hH hl
  subst hsz
  generalize va_A (wX52 ci ad d f_thrown f_classes f_things f_axioms f_fuel f_questions f_sorted f_left f_other f_right f_there f_member f_state f_before f_placed f_looked f_fact f_maker f_fired f_firedCount f_needed f_module f_asked) s.heap.size = A at hH ⊢
  have hx := X.1.1
  have hb := X.1.2.1
  have hl : lv_has ls 3 [(0, .ref (ad 0))] := hl
  unfold wpX52_tellItself at hw
  refine lv_iconst (v := 0) hx hb dX52_tellItself_0 (by decide) ?_
  refine lv_istore_n (lv' := [(1, .int 0), (0, .ref (ad 0))]) hx hb dX52_tellItself_1 rfl hl (by decide) rfl (fun ls hl => ?_)
  obtain ⟨fu, hw⟩ := hw
  refine atX52_tellItself_2 hc X ?_ fu 0 f_state hw _ _ ls hH (lv_sub hl [1, 0] rfl)
  · intro f_state_21 hw H locs ls hH hl
    exact k_vret X hH (f_state_21) hw rfl dX52_tellItself_65
set_option maxHeartbeats 4000000 in
theorem walkX52_isHere {l : Launch} {dC : Nat → ClassId} {dI : Nat → Nat → Nat} {cl : List vw_C} {ci : Nat} (hc : cl[ci]? = some (RX52, TX52, 23)) {ad : Nat → Nat} {d : Nat → ClassId} {sz : Nat} {f_thrown : Int32} {f_classes : Int32} {f_things : Int32} {f_axioms : Int32} {f_fuel : Int32} {f_questions : Int32} {f_sorted : Int32} {f_left : Nat → Int32} {f_other : Nat → Int32} {f_right : Nat → Int32} {f_there : Nat → Int32} {f_member : Nat → Int32} {f_state : Nat → Int32} {f_before : Nat → Int32} {f_placed : Nat → Int32} {f_looked : Nat → Int32} {f_fact : Nat → Int32} {f_maker : Nat → Int32} {f_fired : Nat → Int32} {f_firedCount : Int32} {f_needed : Nat → Int32} {f_module : Nat → Int32} {f_asked : Int32} {x1 : Int32} {post : Int → Prop} (hw : wpX52_isHere post f_classes.toInt x1.toInt) :
    Met l yX52_isHere (ws_ yX52_isHere cX52_isHere 2 (some .boolean)) ({ frames := 0, cells := 0, slots := 0, locals := 0 } : Room) (kPc (dC, dI) cl (tX52 d) [.ref (ad 0), .int x1] sz (wX52 ci ad d f_thrown f_classes f_things f_axioms f_fuel f_questions f_sorted f_left f_other f_right f_there f_member f_state f_before f_placed f_looked f_fact f_maker f_fired f_firedCount f_needed f_module f_asked)) (va_Qi (fun (r : Int32) (_ : Unit) => post r.toInt) (kB (dC, dI) cl (tX52 d) (va_A (wX52 ci ad d f_thrown f_classes f_things f_axioms f_fuel f_questions f_sorted f_left f_other f_right f_there f_member f_state f_before f_placed f_looked f_fact f_maker f_fired f_firedCount f_needed f_module f_asked) sz) (fun _ : Unit => (wX52 ci ad d f_thrown f_classes f_things f_axioms f_fuel f_questions f_sorted f_left f_other f_right f_there f_member f_state f_before f_placed f_looked f_fact f_maker f_fired f_firedCount f_needed f_module f_asked))) (va_A (wX52 ci ad d f_thrown f_classes f_things f_axioms f_fuel f_questions f_sorted f_left f_other f_right f_there f_member f_state f_before f_placed f_looked f_fact f_maker f_fired f_firedCount f_needed f_module f_asked) sz)) 0 0 (va_A (wX52 ci ad d f_thrown f_classes f_things f_axioms f_fuel f_questions f_sorted f_left f_other f_right f_there f_member f_state f_before f_placed f_looked f_fact f_maker f_fired f_firedCount f_needed f_module f_asked) sz) := by
  refine k_enter (by decide) (Nat.le_of_ble_eq_true rfl) ?_
  intro p e s m below meth c ls X hsz hH hl
  subst hsz
  generalize va_A (wX52 ci ad d f_thrown f_classes f_things f_axioms f_fuel f_questions f_sorted f_left f_other f_right f_there f_member f_state f_before f_placed f_looked f_fact f_maker f_fired f_firedCount f_needed f_module f_asked) s.heap.size = A at hH ⊢
  have hx := X.1.1
  have hb := X.1.2.1
  have hl : lv_has ls 2 [(0, .ref (ad 0)), (1, .int x1)] := hl
  unfold wpX52_isHere at hw
  refine lv_iload_n hx hb dX52_isHere_0 rfl (lv_at hl 1 rfl) ?_
  refine lv_aload_n hx hb dX52_isHere_1 rfl (lv_at hl 0 rfl) ?_
  refine k_get X hH in_X52 0 rfl hc 1 (by decide) q6382 rfl dX52_isHere_2 ?_
  refine lv_icmp_lt (tgt := 14) hx hb dX52_isHere_5 (by decide) (fun c_1 => ?_) (fun c_1 => ?_)
  · have hw := hw.1 (z_lt (rfl : x1.toInt = _) (rfl : f_classes.toInt = _) c_1)
    refine lv_iconst (v := 1) hx hb dX52_isHere_14 (by decide) ?_
    refine lv_goto (tgt := 19) hx hb dX52_isHere_15 (by decide) ?_
    exact k_iret (v := 1) X hH () hw rfl rfl dX52_isHere_19
  · have hw := hw.2 (z_nlt (rfl : x1.toInt = _) (rfl : f_classes.toInt = _) c_1)
    refine lv_iload_n hx hb dX52_isHere_8 rfl (lv_at hl 1 rfl) ?_
    refine lv_bipush (v := 20) hx hb dX52_isHere_9 (by decide) ?_
    refine lv_icmp_ne (tgt := 18) hx hb dX52_isHere_11 (by decide) (fun c_2 => ?_) (fun c_2 => ?_)
    · have hw := hw.2 (z_ne (rfl : x1.toInt = _) (rfl : (20 : Int32).toInt = 20) c_2)
      refine lv_iconst (v := 0) hx hb dX52_isHere_18 (by decide) ?_
      exact k_iret (v := 0) X hH () hw rfl rfl dX52_isHere_19
    · have hw := hw.1 (z_eq (rfl : x1.toInt = _) (rfl : (20 : Int32).toInt = 20) c_2)
      refine lv_iconst (v := 1) hx hb dX52_isHere_14 (by decide) ?_
      refine lv_goto (tgt := 19) hx hb dX52_isHere_15 (by decide) ?_
      exact k_iret (v := 1) X hH () hw rfl rfl dX52_isHere_19
set_option maxHeartbeats 4000000 in
theorem walkX52_below {l : Launch} {dC : Nat → ClassId} {dI : Nat → Nat → Nat} {cl : List vw_C} {ci : Nat} (hc : cl[ci]? = some (RX52, TX52, 23)) {ad : Nat → Nat} {d : Nat → ClassId} {sz : Nat} {f_thrown : Int32} {f_classes : Int32} {f_things : Int32} {f_axioms : Int32} {f_fuel : Int32} {f_questions : Int32} {f_sorted : Int32} {f_left : Nat → Int32} {f_other : Nat → Int32} {f_right : Nat → Int32} {f_there : Nat → Int32} {f_member : Nat → Int32} {f_state : Nat → Int32} {f_before : Nat → Int32} {f_placed : Nat → Int32} {f_looked : Nat → Int32} {f_fact : Nat → Int32} {f_maker : Nat → Int32} {f_fired : Nat → Int32} {f_firedCount : Int32} {f_needed : Nat → Int32} {f_module : Nat → Int32} {f_asked : Int32} {x1 : Int32} {x2 : Int32} {post : Int → Prop} (hw : wpX52_below post (zF f_state) x1.toInt x2.toInt) :
    Met l yX52_below (ws_ yX52_below cX52_below 3 (some .boolean)) ({ frames := 0, cells := 0, slots := 0, locals := 0 } : Room) (kPc (dC, dI) cl (tX52 d) [.ref (ad 0), .int x1, .int x2] sz (wX52 ci ad d f_thrown f_classes f_things f_axioms f_fuel f_questions f_sorted f_left f_other f_right f_there f_member f_state f_before f_placed f_looked f_fact f_maker f_fired f_firedCount f_needed f_module f_asked)) (va_Qi (fun (r : Int32) (_ : Unit) => post r.toInt) (kB (dC, dI) cl (tX52 d) (va_A (wX52 ci ad d f_thrown f_classes f_things f_axioms f_fuel f_questions f_sorted f_left f_other f_right f_there f_member f_state f_before f_placed f_looked f_fact f_maker f_fired f_firedCount f_needed f_module f_asked) sz) (fun _ : Unit => (wX52 ci ad d f_thrown f_classes f_things f_axioms f_fuel f_questions f_sorted f_left f_other f_right f_there f_member f_state f_before f_placed f_looked f_fact f_maker f_fired f_firedCount f_needed f_module f_asked))) (va_A (wX52 ci ad d f_thrown f_classes f_things f_axioms f_fuel f_questions f_sorted f_left f_other f_right f_there f_member f_state f_before f_placed f_looked f_fact f_maker f_fired f_firedCount f_needed f_module f_asked) sz)) 0 0 (va_A (wX52 ci ad d f_thrown f_classes f_things f_axioms f_fuel f_questions f_sorted f_left f_other f_right f_there f_member f_state f_before f_placed f_looked f_fact f_maker f_fired f_firedCount f_needed f_module f_asked) sz) := by
  refine k_enter (by decide) (Nat.le_of_ble_eq_true rfl) ?_
  intro p e s m below meth c ls X hsz hH hl
  subst hsz
  generalize va_A (wX52 ci ad d f_thrown f_classes f_things f_axioms f_fuel f_questions f_sorted f_left f_other f_right f_there f_member f_state f_before f_placed f_looked f_fact f_maker f_fired f_firedCount f_needed f_module f_asked) s.heap.size = A at hH ⊢
  have hx := X.1.1
  have hb := X.1.2.1
  have hl : lv_has ls 3 [(0, .ref (ad 0)), (1, .int x1), (2, .int x2)] := hl
  unfold wpX52_below at hw
  refine lv_iload_n hx hb dX52_below_0 rfl (lv_at hl 1 rfl) ?_
  refine lv_bipush (v := 20) hx hb dX52_below_1 (by decide) ?_
  refine lv_icmp_eq (tgt := 21) hx hb dX52_below_3 (by decide) (fun c_1 => ?_) (fun c_1 => ?_)
  · have hw := hw.1 (z_eq (rfl : x1.toInt = _) (rfl : (20 : Int32).toInt = 20) c_1)
    refine lv_iconst (v := 1) hx hb dX52_below_21 (by decide) ?_
    refine lv_goto (tgt := 26) hx hb dX52_below_22 (by decide) ?_
    exact k_iret (v := 1) X hH () hw rfl rfl dX52_below_26
  · have hw := hw.2 (z_neq (rfl : x1.toInt = _) (rfl : (20 : Int32).toInt = 20) c_1)
    refine lv_aload_n hx hb dX52_below_6 rfl (lv_at hl 0 rfl) ?_
    refine k_get X hH in_X52 0 rfl hc 12 (by decide) q6393 rfl dX52_below_7 ?_
    refine lv_bipush (v := 21) hx hb dX52_below_10 (by decide) ?_
    refine lv_iload_n hx hb dX52_below_12 rfl (lv_at hl 1 rfl) ?_
    refine lv_imul hx hb dX52_below_13 ?_
    have e_2 := z_mul (z_m (rfl : (21 : Int32).toInt = 21)) (z_m (rfl : x1.toInt = _))
    refine lv_iload_n hx hb dX52_below_14 rfl (lv_at hl 2 rfl) ?_
    refine lv_iadd hx hb dX52_below_15 ?_
    have e_3 := z_add e_2 (z_m (rfl : x2.toInt = _))
    have hq_4 := hw.1
    have hw := hw.2
    have e_5 := z_xi e_3 hq_4 (by decide)
    refine k_iald X hH 6 5 rfl rfl (z_in e_5 hq_4) dX52_below_16 ?_
    have e_6 := z_ld (f := f_state) e_5 hq_4.1
    refine lv_iconst (v := 1) hx hb dX52_below_17 (by decide) ?_
    refine lv_icmp_ne (tgt := 25) hx hb dX52_below_18 (by decide) (fun c_7 => ?_) (fun c_7 => ?_)
    · have hw := hw.2 (z_ne e_6 (rfl : (1 : Int32).toInt = 1) c_7)
      refine lv_iconst (v := 0) hx hb dX52_below_25 (by decide) ?_
      exact k_iret (v := 0) X hH () hw rfl rfl dX52_below_26
    · have hw := hw.1 (z_eq e_6 (rfl : (1 : Int32).toInt = 1) c_7)
      refine lv_iconst (v := 1) hx hb dX52_below_21 (by decide) ?_
      refine lv_goto (tgt := 26) hx hb dX52_below_22 (by decide) ?_
      exact k_iret (v := 1) X hH () hw rfl rfl dX52_below_26
set_option maxHeartbeats 4000000 in
theorem atX52_spreadNo_27 {p : Program} {l : Launch} {e : Env} {s : State} {m : MethodId} {args : Array Value} {below : List Frame} {meth : Method} {c : Code} {dC : Nat → ClassId} {dI : Nat → Nat → Nat} {cl : List vw_C} {ci : Nat} (hc : cl[ci]? = some (RX52, TX52, 23)) {ad : Nat → Nat} {d : Nat → ClassId} {A : Nat → Prop} {post : Int → (Int → Int) → Prop} {f_thrown : Int32} {f_classes : Int32} {f_things : Int32} {f_axioms : Int32} {f_fuel : Int32} {f_questions : Int32} {f_sorted : Int32} {f_left : Nat → Int32} {f_other : Nat → Int32} {f_right : Nat → Int32} {f_there : Nat → Int32} {f_member : Nat → Int32} {f_before : Nat → Int32} {f_placed : Nat → Int32} {f_looked : Nat → Int32} {f_fact : Nat → Int32} {f_maker : Nat → Int32} {f_fired : Nat → Int32} {f_firedCount : Int32} {f_needed : Nat → Int32} {f_module : Nat → Int32} {f_asked : Int32} (X : kX p s m args meth c cX52_spreadNo 7 RX52 (some .boolean) (dC, dI) cl (tX52 d)) {K101 : Int → (Int → Int) → Prop} {x1 : Int32} {x2 : Int32} {x4 : Int32}  (hk101 : ∀ (x3 : Int32) (f_state : Nat → Int32), K101 x3.toInt (zF f_state) → ∀ (H : Heap) (locs : List Loc) (ls : Array Slot), kH (dC, dI) cl A s.heap H locs (wX52 ci ad d f_thrown f_classes f_things f_axioms f_fuel f_questions f_sorted f_left f_other f_right f_there f_member f_state f_before f_placed f_looked f_fact f_maker f_fired f_firedCount f_needed f_module f_asked) → lv_has ls 7 [(0, .ref (ad 0)), (1, .int x1), (2, .int x2), (3, .int x3), (4, .int x4)] → W p l e ({ frames := 1, cells := 0, slots := 0, locals := 22 } : Room) s m args below meth c H locs 0 0 (MQ below (va_Qi (fun (r : Int32) (u : (Nat → Int32)) => post r.toInt (zF (u))) (kB (dC, dI) cl (tX52 d) A (fun u : (Nat → Int32) => (wX52 ci ad d f_thrown f_classes f_things f_axioms f_fuel f_questions f_sorted f_left f_other f_right f_there f_member (u) f_before f_placed f_looked f_fact f_maker f_fired f_firedCount f_needed f_module f_asked))) A) args s 0 0 A) (F0 m 101 ls [])) :
    ∀ (nn : Nat) (x3 : Int32) (x5 : Int32) (f_state : Nat → Int32), wX52_spreadNo_27 K101 x2.toInt x4.toInt f_classes.toInt nn x3.toInt x5.toInt (zF f_state) → ∀ (H : Heap) (locs : List Loc) (ls : Array Slot), kH (dC, dI) cl A s.heap H locs (wX52 ci ad d f_thrown f_classes f_things f_axioms f_fuel f_questions f_sorted f_left f_other f_right f_there f_member f_state f_before f_placed f_looked f_fact f_maker f_fired f_firedCount f_needed f_module f_asked) → lv_has ls 7 [(0, .ref (ad 0)), (1, .int x1), (2, .int x2), (3, .int x3), (4, .int x4), (5, .int x5)] → W p l e ({ frames := 1, cells := 0, slots := 0, locals := 22 } : Room) s m args below meth c H locs 0 0 (MQ below (va_Qi (fun (r : Int32) (u : (Nat → Int32)) => post r.toInt (zF (u))) (kB (dC, dI) cl (tX52 d) A (fun u : (Nat → Int32) => (wX52 ci ad d f_thrown f_classes f_things f_axioms f_fuel f_questions f_sorted f_left f_other f_right f_there f_member (u) f_before f_placed f_looked f_fact f_maker f_fired f_firedCount f_needed f_module f_asked))) A) args s 0 0 A) (F0 m 27 ls []) := by
  have hx := X.1.1
  have hb := X.1.2.1
  intro nn
  induction nn with
  | zero =>
    intro x3 x5 f_state hw
    exact False.elim hw
  | succ n ih =>
    intro x3 x5 f_state hw H locs ls hH hl
    rw [wX52_spreadNo_27] at hw
    refine lv_iload hx hb dX52_spreadNo_27 (lv_at hl 5 rfl) ?_
    refine lv_bipush (v := 20) hx hb dX52_spreadNo_29 (by decide) ?_
    refine lv_icmp_gt (tgt := 101) hx hb dX52_spreadNo_31 (by decide) (fun c_6 => ?_) (fun c_6 => ?_)
    · have hw := hw.1 (z_lt (rfl : (20 : Int32).toInt = 20) (rfl : x5.toInt = _) c_6)
      exact hk101 x3 f_state hw _ _ ls hH (lv_sub hl [0, 1, 2, 3, 4] rfl)
    · have hw := hw.2 (z_nlt (rfl : (20 : Int32).toInt = 20) (rfl : x5.toInt = _) c_6)
      refine lv_aload_n hx hb dX52_spreadNo_34 rfl (lv_at hl 0 rfl) ?_
      refine k_get X hH in_X52 0 rfl hc 12 (by decide) q6393 rfl dX52_spreadNo_35 ?_
      refine lv_bipush (v := 21) hx hb dX52_spreadNo_38 (by decide) ?_
      refine lv_iload hx hb dX52_spreadNo_40 (lv_at hl 4 rfl) ?_
      refine lv_imul hx hb dX52_spreadNo_42 ?_
      have e_7 := z_mul (z_m (rfl : (21 : Int32).toInt = 21)) (z_m (rfl : x4.toInt = _))
      refine lv_iload hx hb dX52_spreadNo_43 (lv_at hl 5 rfl) ?_
      refine lv_iadd hx hb dX52_spreadNo_45 ?_
      have e_8 := z_add e_7 (z_m (rfl : x5.toInt = _))
      have hq_9 := hw.1
      have hw := hw.2
      have e_10 := z_xi e_8 hq_9 (by decide)
      refine k_iald X hH 6 5 rfl rfl (z_in e_10 hq_9) dX52_spreadNo_46 ?_
      have e_11 := z_ld (f := f_state) e_10 hq_9.1
      refine lv_topi (fun x6_12 ex6_12 => ?_)
      have hw := hw x6_12.toInt (by rw [ex6_12]; exact e_11)
      refine lv_istore (lv' := [(6, .int x6_12), (0, .ref (ad 0)), (1, .int x1), (2, .int x2), (3, .int x3), (4, .int x4), (5, .int x5)]) hx hb dX52_spreadNo_47 hl (by decide) rfl (fun ls hl => ?_)
      refine lv_aload_n hx hb dX52_spreadNo_49 rfl (lv_at hl 1 rfl) ?_
      refine lv_iload hx hb dX52_spreadNo_50 (lv_at hl 6 rfl) ?_
      refine k_i0 hH (k_runV (As := [.int x5]) (rest := []) X hH.1 hH.2.1 X.2.2.2 (walkX52_isHere hc (x1 := x5) (f_thrown := f_thrown) (f_classes := f_classes) (f_things := f_things) (f_axioms := f_axioms) (f_fuel := f_fuel) (f_questions := f_questions) (f_sorted := f_sorted) (f_left := f_left) (f_other := f_other) (f_right := f_right) (f_there := f_there) (f_member := f_member) (f_state := f_state) (f_before := f_before) (f_placed := f_placed) (f_looked := f_looked) (f_fact := f_fact) (f_maker := f_maker) (f_fired := f_fired) (f_firedCount := f_firedCount) (f_needed := f_needed) (f_module := f_module) (f_asked := f_asked) hw) (cwV 1 X.1.2.2.2.2 gX52_74 rfl rfl rfl hX52_isHere ⟨Nat.le_of_ble_eq_true rfl, Nat.le_of_ble_eq_true rfl⟩) hc (q0 := 0) rfl rfl hl.1 rfl (Nat.le_of_ble_eq_true rfl) dX52_spreadNo_52 ⟨Nat.le_refl 0, Nat.le_refl 0⟩) (fun r_13 _ H locs hw hH => ?_)
      have hH : kH (dC, dI) cl A s.heap H locs (wX52 ci ad d f_thrown f_classes f_things f_axioms f_fuel f_questions f_sorted f_left f_other f_right f_there f_member f_state f_before f_placed f_looked f_fact f_maker f_fired f_firedCount f_needed f_module f_asked) := hH
      refine lv_if_eq (tgt := 95) hx hb dX52_spreadNo_55 (by decide) (fun c_14 => ?_) (fun c_14 => ?_)
      · have hw := hw.1 (z_eq (rfl : r_13.toInt = _) (rfl : (0 : Int32).toInt = 0) c_14)
        have hq_16 := hw.1
        have hw := hw.2
        obtain ⟨x5_15, ex5_15⟩ : ∃ y : Int32, y = x5 + 1 := ⟨_, rfl⟩
        have hw := hw x5_15.toInt (by rw [ex5_15]; exact (z_x (z_add (z_m (rfl : x5.toInt = _)) (z_m (rfl : (1 : Int32).toInt = 1))) hq_16))
        refine lv_iinc (v := x5_15) (lv' := [(5, .int x5_15), (6, .int x6_12), (0, .ref (ad 0)), (1, .int x1), (2, .int x2), (3, .int x3), (4, .int x4)]) hx hb dX52_spreadNo_95 hl (k := 6) rfl (by rw [ex5_15]; rfl) (by decide) rfl (fun ls hl => ?_)
        refine lv_goto (tgt := 27) hx hb dX52_spreadNo_98 (by decide) ?_
        exact ih x3 x5_15 f_state hw _ _ ls hH (lv_sub hl [2, 3, 4, 5, 6, 0] rfl)
      · have hw := hw.2 (z_neq (rfl : r_13.toInt = _) (rfl : (0 : Int32).toInt = 0) c_14)
        refine lv_aload_n hx hb dX52_spreadNo_58 rfl (lv_at hl 1 rfl) ?_
        refine lv_iload hx hb dX52_spreadNo_59 (lv_at hl 6 rfl) ?_
        refine lv_iload_n hx hb dX52_spreadNo_61 rfl (lv_at hl 3 rfl) ?_
        refine k_i0 hH (k_runV (As := [.int x5, .int x2]) (rest := []) X hH.1 hH.2.1 X.2.2.2 (walkX52_below hc (x1 := x5) (x2 := x2) (f_thrown := f_thrown) (f_classes := f_classes) (f_things := f_things) (f_axioms := f_axioms) (f_fuel := f_fuel) (f_questions := f_questions) (f_sorted := f_sorted) (f_left := f_left) (f_other := f_other) (f_right := f_right) (f_there := f_there) (f_member := f_member) (f_state := f_state) (f_before := f_before) (f_placed := f_placed) (f_looked := f_looked) (f_fact := f_fact) (f_maker := f_maker) (f_fired := f_fired) (f_firedCount := f_firedCount) (f_needed := f_needed) (f_module := f_module) (f_asked := f_asked) hw) (cwV 2 X.1.2.2.2.2 gX52_77 rfl rfl rfl hX52_below ⟨Nat.le_of_ble_eq_true rfl, Nat.le_of_ble_eq_true rfl⟩) hc (q0 := 0) rfl rfl hl.1 rfl (Nat.le_of_ble_eq_true rfl) dX52_spreadNo_62 ⟨Nat.le_refl 0, Nat.le_refl 0⟩) (fun r_17 _ H locs hw hH => ?_)
        have hH : kH (dC, dI) cl A s.heap H locs (wX52 ci ad d f_thrown f_classes f_things f_axioms f_fuel f_questions f_sorted f_left f_other f_right f_there f_member f_state f_before f_placed f_looked f_fact f_maker f_fired f_firedCount f_needed f_module f_asked) := hH
        refine lv_if_eq (tgt := 95) hx hb dX52_spreadNo_65 (by decide) (fun c_18 => ?_) (fun c_18 => ?_)
        · have hw := hw.1 (z_eq (rfl : r_17.toInt = _) (rfl : (0 : Int32).toInt = 0) c_18)
          have hq_20 := hw.1
          have hw := hw.2
          obtain ⟨x5_19, ex5_19⟩ : ∃ y : Int32, y = x5 + 1 := ⟨_, rfl⟩
          have hw := hw x5_19.toInt (by rw [ex5_19]; exact (z_x (z_add (z_m (rfl : x5.toInt = _)) (z_m (rfl : (1 : Int32).toInt = 1))) hq_20))
          refine lv_iinc (v := x5_19) (lv' := [(5, .int x5_19), (6, .int x6_12), (0, .ref (ad 0)), (1, .int x1), (2, .int x2), (3, .int x3), (4, .int x4)]) hx hb dX52_spreadNo_95 hl (k := 6) rfl (by rw [ex5_19]; rfl) (by decide) rfl (fun ls hl => ?_)
          refine lv_goto (tgt := 27) hx hb dX52_spreadNo_98 (by decide) ?_
          exact ih x3 x5_19 f_state hw _ _ ls hH (lv_sub hl [2, 3, 4, 5, 6, 0] rfl)
        · have hw := hw.2 (z_neq (rfl : r_17.toInt = _) (rfl : (0 : Int32).toInt = 0) c_18)
          refine lv_iload hx hb dX52_spreadNo_68 (lv_at hl 0 rfl) ?_
          refine lv_if_eq (tgt := 95) hx hb dX52_spreadNo_70 (by decide) (fun c_21 => ?_) (fun c_21 => ?_)
          · have hw := hw.1 (z_eq (rfl : x6_12.toInt = _) (rfl : (0 : Int32).toInt = 0) c_21)
            have hq_23 := hw.1
            have hw := hw.2
            obtain ⟨x5_22, ex5_22⟩ : ∃ y : Int32, y = x5 + 1 := ⟨_, rfl⟩
            have hw := hw x5_22.toInt (by rw [ex5_22]; exact (z_x (z_add (z_m (rfl : x5.toInt = _)) (z_m (rfl : (1 : Int32).toInt = 1))) hq_23))
            refine lv_iinc (v := x5_22) (lv' := [(5, .int x5_22), (6, .int x6_12), (0, .ref (ad 0)), (1, .int x1), (2, .int x2), (3, .int x3), (4, .int x4)]) hx hb dX52_spreadNo_95 hl (k := 6) rfl (by rw [ex5_22]; rfl) (by decide) rfl (fun ls hl => ?_)
            refine lv_goto (tgt := 27) hx hb dX52_spreadNo_98 (by decide) ?_
            exact ih x3 x5_22 f_state hw _ _ ls hH (lv_sub hl [2, 3, 4, 5, 6, 0] rfl)
          · have hw := hw.2 (z_neq (rfl : x6_12.toInt = _) (rfl : (0 : Int32).toInt = 0) c_21)
            refine lv_iload hx hb dX52_spreadNo_73 (lv_at hl 0 rfl) ?_
            refine lv_iconst (v := 1) hx hb dX52_spreadNo_75 (by decide) ?_
            refine lv_icmp_eq (tgt := 95) hx hb dX52_spreadNo_76 (by decide) (fun c_24 => ?_) (fun c_24 => ?_)
            · have hw := hw.1 (z_eq (rfl : x6_12.toInt = _) (rfl : (1 : Int32).toInt = 1) c_24)
              have hq_26 := hw.1
              have hw := hw.2
              obtain ⟨x5_25, ex5_25⟩ : ∃ y : Int32, y = x5 + 1 := ⟨_, rfl⟩
              have hw := hw x5_25.toInt (by rw [ex5_25]; exact (z_x (z_add (z_m (rfl : x5.toInt = _)) (z_m (rfl : (1 : Int32).toInt = 1))) hq_26))
              refine lv_iinc (v := x5_25) (lv' := [(5, .int x5_25), (6, .int x6_12), (0, .ref (ad 0)), (1, .int x1), (2, .int x2), (3, .int x3), (4, .int x4)]) hx hb dX52_spreadNo_95 hl (k := 6) rfl (by rw [ex5_25]; rfl) (by decide) rfl (fun ls hl => ?_)
              refine lv_goto (tgt := 27) hx hb dX52_spreadNo_98 (by decide) ?_
              exact ih x3 x5_25 f_state hw _ _ ls hH (lv_sub hl [2, 3, 4, 5, 6, 0] rfl)
            · have hw := hw.2 (z_neq (rfl : x6_12.toInt = _) (rfl : (1 : Int32).toInt = 1) c_24)
              refine lv_aload_n hx hb dX52_spreadNo_79 rfl (lv_at hl 1 rfl) ?_
              refine k_get X hH in_X52 0 rfl hc 12 (by decide) q6393 rfl dX52_spreadNo_80 ?_
              refine lv_bipush (v := 21) hx hb dX52_spreadNo_83 (by decide) ?_
              refine lv_iload hx hb dX52_spreadNo_85 (lv_at hl 5 rfl) ?_
              refine lv_imul hx hb dX52_spreadNo_87 ?_
              have e_27 := z_mul (z_m (rfl : (21 : Int32).toInt = 21)) (z_m (rfl : x4.toInt = _))
              refine lv_iload hx hb dX52_spreadNo_88 (lv_at hl 6 rfl) ?_
              refine lv_iadd hx hb dX52_spreadNo_90 ?_
              have e_28 := z_add e_27 (z_m (rfl : x5.toInt = _))
              refine lv_iconst (v := 0) hx hb dX52_spreadNo_91 (by decide) ?_
              have e_30 := z_xi e_28 hq_9 (by decide)
              obtain ⟨f_state_29, ef_state_29⟩ : ∃ y : Nat → Int32, y = upd f_state ((21 * x4) + x5).toNatClampNeg 0 := ⟨_, rfl⟩
              refine k_iast X hH 6 5 rfl rfl (z_in e_30 hq_9) dX52_spreadNo_92 ef_state_29 (ws1 := (wX52 ci ad d f_thrown f_classes f_things f_axioms f_fuel f_questions f_sorted f_left f_other f_right f_there f_member f_state_29 f_before f_placed f_looked f_fact f_maker f_fired f_firedCount f_needed f_module f_asked)) rfl (fun H locs hH => ?_)
              have hw := hw (zF f_state_29) (by rw [ef_state_29]; exact z_st (f := f_state) e_30 hq_9.1 (rfl : (0 : Int32).toInt = 0))
              refine lv_iconst (v := 1) hx hb dX52_spreadNo_93 (by decide) ?_
              refine lv_istore_n (lv' := [(3, .int 1), (6, .int x6_12), (0, .ref (ad 0)), (1, .int x1), (2, .int x2), (4, .int x4), (5, .int x5)]) hx hb dX52_spreadNo_94 rfl hl (by decide) rfl (fun ls hl => ?_)
              have hq_32 := hw.1
              have hw := hw.2
              obtain ⟨x5_31, ex5_31⟩ : ∃ y : Int32, y = x5 + 1 := ⟨_, rfl⟩
              have hw := hw x5_31.toInt (by rw [ex5_31]; exact (z_x (z_add (z_m (rfl : x5.toInt = _)) (z_m (rfl : (1 : Int32).toInt = 1))) hq_32))
              refine lv_iinc (v := x5_31) (lv' := [(5, .int x5_31), (3, .int 1), (6, .int x6_12), (0, .ref (ad 0)), (1, .int x1), (2, .int x2), (4, .int x4)]) hx hb dX52_spreadNo_95 hl (k := 6) rfl (by rw [ex5_31]; rfl) (by decide) rfl (fun ls hl => ?_)
              refine lv_goto (tgt := 27) hx hb dX52_spreadNo_98 (by decide) ?_
              exact ih 1 x5_31 f_state_29 hw _ _ ls hH (lv_sub hl [3, 4, 5, 1, 6, 0] rfl)
set_option maxHeartbeats 4000000 in
theorem atX52_spreadNo_5 {p : Program} {l : Launch} {e : Env} {s : State} {m : MethodId} {args : Array Value} {below : List Frame} {meth : Method} {c : Code} {dC : Nat → ClassId} {dI : Nat → Nat → Nat} {cl : List vw_C} {ci : Nat} (hc : cl[ci]? = some (RX52, TX52, 23)) {ad : Nat → Nat} {d : Nat → ClassId} {A : Nat → Prop} {post : Int → (Int → Int) → Prop} {f_thrown : Int32} {f_classes : Int32} {f_things : Int32} {f_axioms : Int32} {f_fuel : Int32} {f_questions : Int32} {f_sorted : Int32} {f_left : Nat → Int32} {f_other : Nat → Int32} {f_right : Nat → Int32} {f_there : Nat → Int32} {f_member : Nat → Int32} {f_before : Nat → Int32} {f_placed : Nat → Int32} {f_looked : Nat → Int32} {f_fact : Nat → Int32} {f_maker : Nat → Int32} {f_fired : Nat → Int32} {f_firedCount : Int32} {f_needed : Nat → Int32} {f_module : Nat → Int32} {f_asked : Int32} (X : kX p s m args meth c cX52_spreadNo 7 RX52 (some .boolean) (dC, dI) cl (tX52 d)) {K107 : Int → (Int → Int) → Prop} {x1 : Int32} {x2 : Int32}  (hk107 : ∀ (x3 : Int32) (f_state : Nat → Int32), K107 x3.toInt (zF f_state) → ∀ (H : Heap) (locs : List Loc) (ls : Array Slot), kH (dC, dI) cl A s.heap H locs (wX52 ci ad d f_thrown f_classes f_things f_axioms f_fuel f_questions f_sorted f_left f_other f_right f_there f_member f_state f_before f_placed f_looked f_fact f_maker f_fired f_firedCount f_needed f_module f_asked) → lv_has ls 7 [(3, .int x3)] → W p l e ({ frames := 1, cells := 0, slots := 0, locals := 22 } : Room) s m args below meth c H locs 0 0 (MQ below (va_Qi (fun (r : Int32) (u : (Nat → Int32)) => post r.toInt (zF (u))) (kB (dC, dI) cl (tX52 d) A (fun u : (Nat → Int32) => (wX52 ci ad d f_thrown f_classes f_things f_axioms f_fuel f_questions f_sorted f_left f_other f_right f_there f_member (u) f_before f_placed f_looked f_fact f_maker f_fired f_firedCount f_needed f_module f_asked))) A) args s 0 0 A) (F0 m 107 ls [])) :
    ∀ (nn : Nat) (x3 : Int32) (x4 : Int32) (f_state : Nat → Int32), wX52_spreadNo_5 K107 x1.toInt x2.toInt f_classes.toInt nn x3.toInt x4.toInt (zF f_state) → ∀ (H : Heap) (locs : List Loc) (ls : Array Slot), kH (dC, dI) cl A s.heap H locs (wX52 ci ad d f_thrown f_classes f_things f_axioms f_fuel f_questions f_sorted f_left f_other f_right f_there f_member f_state f_before f_placed f_looked f_fact f_maker f_fired f_firedCount f_needed f_module f_asked) → lv_has ls 7 [(0, .ref (ad 0)), (1, .int x1), (2, .int x2), (3, .int x3), (4, .int x4)] → W p l e ({ frames := 1, cells := 0, slots := 0, locals := 22 } : Room) s m args below meth c H locs 0 0 (MQ below (va_Qi (fun (r : Int32) (u : (Nat → Int32)) => post r.toInt (zF (u))) (kB (dC, dI) cl (tX52 d) A (fun u : (Nat → Int32) => (wX52 ci ad d f_thrown f_classes f_things f_axioms f_fuel f_questions f_sorted f_left f_other f_right f_there f_member (u) f_before f_placed f_looked f_fact f_maker f_fired f_firedCount f_needed f_module f_asked))) A) args s 0 0 A) (F0 m 5 ls []) := by
  have hx := X.1.1
  have hb := X.1.2.1
  intro nn
  induction nn with
  | zero =>
    intro x3 x4 f_state hw
    exact False.elim hw
  | succ n ih =>
    intro x3 x4 f_state hw H locs ls hH hl
    rw [wX52_spreadNo_5] at hw
    refine lv_iload hx hb dX52_spreadNo_5 (lv_at hl 4 rfl) ?_
    refine lv_aload_n hx hb dX52_spreadNo_7 rfl (lv_at hl 0 rfl) ?_
    refine k_get X hH in_X52 0 rfl hc 1 (by decide) q6382 rfl dX52_spreadNo_8 ?_
    refine lv_icmp_ge (tgt := 107) hx hb dX52_spreadNo_11 (by decide) (fun c_1 => ?_) (fun c_1 => ?_)
    · have hw := hw.1 (z_le (rfl : f_classes.toInt = _) (rfl : x4.toInt = _) c_1)
      exact hk107 x3 f_state hw _ _ ls hH (lv_sub hl [3] rfl)
    · have hw := hw.2 (z_nle (rfl : f_classes.toInt = _) (rfl : x4.toInt = _) c_1)
      refine lv_aload_n hx hb dX52_spreadNo_14 rfl (lv_at hl 0 rfl) ?_
      refine lv_iload_n hx hb dX52_spreadNo_15 rfl (lv_at hl 1 rfl) ?_
      refine lv_iload hx hb dX52_spreadNo_16 (lv_at hl 4 rfl) ?_
      refine k_i0 hH (k_runV (As := [.int x1, .int x4]) (rest := []) X hH.1 hH.2.1 X.2.2.2 (walkX52_below hc (x1 := x1) (x2 := x4) (f_thrown := f_thrown) (f_classes := f_classes) (f_things := f_things) (f_axioms := f_axioms) (f_fuel := f_fuel) (f_questions := f_questions) (f_sorted := f_sorted) (f_left := f_left) (f_other := f_other) (f_right := f_right) (f_there := f_there) (f_member := f_member) (f_state := f_state) (f_before := f_before) (f_placed := f_placed) (f_looked := f_looked) (f_fact := f_fact) (f_maker := f_maker) (f_fired := f_fired) (f_firedCount := f_firedCount) (f_needed := f_needed) (f_module := f_module) (f_asked := f_asked) hw) (cwV 2 X.1.2.2.2.2 gX52_77 rfl rfl rfl hX52_below ⟨Nat.le_of_ble_eq_true rfl, Nat.le_of_ble_eq_true rfl⟩) hc (q0 := 0) rfl rfl hl.1 rfl (Nat.le_of_ble_eq_true rfl) dX52_spreadNo_18 ⟨Nat.le_refl 0, Nat.le_refl 0⟩) (fun r_2 _ H locs hw hH => ?_)
      have hH : kH (dC, dI) cl A s.heap H locs (wX52 ci ad d f_thrown f_classes f_things f_axioms f_fuel f_questions f_sorted f_left f_other f_right f_there f_member f_state f_before f_placed f_looked f_fact f_maker f_fired f_firedCount f_needed f_module f_asked) := hH
      refine lv_if_eq (tgt := 101) hx hb dX52_spreadNo_21 (by decide) (fun c_3 => ?_) (fun c_3 => ?_)
      · have hw := hw.1 (z_eq (rfl : r_2.toInt = _) (rfl : (0 : Int32).toInt = 0) c_3)
        have hq_5 := hw.1
        have hw := hw.2
        obtain ⟨x4_4, ex4_4⟩ : ∃ y : Int32, y = x4 + 1 := ⟨_, rfl⟩
        have hw := hw x4_4.toInt (by rw [ex4_4]; exact (z_x (z_add (z_m (rfl : x4.toInt = _)) (z_m (rfl : (1 : Int32).toInt = 1))) hq_5))
        refine lv_iinc (v := x4_4) (lv' := [(4, .int x4_4), (0, .ref (ad 0)), (1, .int x1), (2, .int x2), (3, .int x3)]) hx hb dX52_spreadNo_101 hl (k := 4) rfl (by rw [ex4_4]; rfl) (by decide) rfl (fun ls hl => ?_)
        refine lv_goto (tgt := 5) hx hb dX52_spreadNo_104 (by decide) ?_
        exact ih x3 x4_4 f_state hw _ _ ls hH (lv_sub hl [1, 2, 3, 4, 0] rfl)
      · have hw := hw.2 (z_neq (rfl : r_2.toInt = _) (rfl : (0 : Int32).toInt = 0) c_3)
        refine lv_iconst (v := 0) hx hb dX52_spreadNo_24 (by decide) ?_
        refine lv_istore (lv' := [(5, .int 0), (0, .ref (ad 0)), (1, .int x1), (2, .int x2), (3, .int x3), (4, .int x4)]) hx hb dX52_spreadNo_25 hl (by decide) rfl (fun ls hl => ?_)
        obtain ⟨fu, hw⟩ := hw
        refine atX52_spreadNo_27 hc X ?_ fu x3 0 f_state hw _ _ ls hH (lv_sub hl [1, 2, 3, 4, 5, 0] rfl)
        · intro x3_33 f_state_34 hw H locs ls hH hl
          have hq_36 := hw.1
          have hw := hw.2
          obtain ⟨x4_35, ex4_35⟩ : ∃ y : Int32, y = x4 + 1 := ⟨_, rfl⟩
          have hw := hw x4_35.toInt (by rw [ex4_35]; exact (z_x (z_add (z_m (rfl : x4.toInt = _)) (z_m (rfl : (1 : Int32).toInt = 1))) hq_36))
          refine lv_iinc (v := x4_35) (lv' := [(4, .int x4_35), (0, .ref (ad 0)), (1, .int x1), (2, .int x2), (3, .int x3_33)]) hx hb dX52_spreadNo_101 hl (k := 4) rfl (by rw [ex4_35]; rfl) (by decide) rfl (fun ls hl => ?_)
          refine lv_goto (tgt := 5) hx hb dX52_spreadNo_104 (by decide) ?_
          exact ih x3_33 x4_35 f_state_34 hw _ _ ls hH (lv_sub hl [1, 2, 3, 4, 0] rfl)
set_option maxHeartbeats 4000000 in
theorem walkX52_spreadNo {l : Launch} {dC : Nat → ClassId} {dI : Nat → Nat → Nat} {cl : List vw_C} {ci : Nat} (hc : cl[ci]? = some (RX52, TX52, 23)) {ad : Nat → Nat} {d : Nat → ClassId} {sz : Nat} {f_thrown : Int32} {f_classes : Int32} {f_things : Int32} {f_axioms : Int32} {f_fuel : Int32} {f_questions : Int32} {f_sorted : Int32} {f_left : Nat → Int32} {f_other : Nat → Int32} {f_right : Nat → Int32} {f_there : Nat → Int32} {f_member : Nat → Int32} {f_state : Nat → Int32} {f_before : Nat → Int32} {f_placed : Nat → Int32} {f_looked : Nat → Int32} {f_fact : Nat → Int32} {f_maker : Nat → Int32} {f_fired : Nat → Int32} {f_firedCount : Int32} {f_needed : Nat → Int32} {f_module : Nat → Int32} {f_asked : Int32} {x1 : Int32} {x2 : Int32} {post : Int → (Int → Int) → Prop} (hw : wpX52_spreadNo post f_classes.toInt (zF f_state) x1.toInt x2.toInt) :
    Met l yX52_spreadNo (ws_ yX52_spreadNo cX52_spreadNo 7 (some .boolean)) ({ frames := 1, cells := 0, slots := 0, locals := 22 } : Room) (kPc (dC, dI) cl (tX52 d) [.ref (ad 0), .int x1, .int x2] sz (wX52 ci ad d f_thrown f_classes f_things f_axioms f_fuel f_questions f_sorted f_left f_other f_right f_there f_member f_state f_before f_placed f_looked f_fact f_maker f_fired f_firedCount f_needed f_module f_asked)) (va_Qi (fun (r : Int32) (u : (Nat → Int32)) => post r.toInt (zF (u))) (kB (dC, dI) cl (tX52 d) (va_A (wX52 ci ad d f_thrown f_classes f_things f_axioms f_fuel f_questions f_sorted f_left f_other f_right f_there f_member f_state f_before f_placed f_looked f_fact f_maker f_fired f_firedCount f_needed f_module f_asked) sz) (fun u : (Nat → Int32) => (wX52 ci ad d f_thrown f_classes f_things f_axioms f_fuel f_questions f_sorted f_left f_other f_right f_there f_member (u) f_before f_placed f_looked f_fact f_maker f_fired f_firedCount f_needed f_module f_asked))) (va_A (wX52 ci ad d f_thrown f_classes f_things f_axioms f_fuel f_questions f_sorted f_left f_other f_right f_there f_member f_state f_before f_placed f_looked f_fact f_maker f_fired f_firedCount f_needed f_module f_asked) sz)) 0 0 (va_A (wX52 ci ad d f_thrown f_classes f_things f_axioms f_fuel f_questions f_sorted f_left f_other f_right f_there f_member f_state f_before f_placed f_looked f_fact f_maker f_fired f_firedCount f_needed f_module f_asked) sz) := by
  refine k_enter (by decide) (Nat.le_of_ble_eq_true rfl) ?_
  intro p e s m below meth c ls X hsz hH hl
  subst hsz
  generalize va_A (wX52 ci ad d f_thrown f_classes f_things f_axioms f_fuel f_questions f_sorted f_left f_other f_right f_there f_member f_state f_before f_placed f_looked f_fact f_maker f_fired f_firedCount f_needed f_module f_asked) s.heap.size = A at hH ⊢
  have hx := X.1.1
  have hb := X.1.2.1
  have hl : lv_has ls 7 [(0, .ref (ad 0)), (1, .int x1), (2, .int x2)] := hl
  unfold wpX52_spreadNo at hw
  refine lv_iconst (v := 0) hx hb dX52_spreadNo_0 (by decide) ?_
  refine lv_istore_n (lv' := [(3, .int 0), (0, .ref (ad 0)), (1, .int x1), (2, .int x2)]) hx hb dX52_spreadNo_1 rfl hl (by decide) rfl (fun ls hl => ?_)
  refine lv_iconst (v := 0) hx hb dX52_spreadNo_2 (by decide) ?_
  refine lv_istore (lv' := [(4, .int 0), (3, .int 0), (0, .ref (ad 0)), (1, .int x1), (2, .int x2)]) hx hb dX52_spreadNo_3 hl (by decide) rfl (fun ls hl => ?_)
  obtain ⟨fu, hw⟩ := hw
  refine atX52_spreadNo_5 hc X ?_ fu 0 0 f_state hw _ _ ls hH (lv_sub hl [2, 3, 4, 1, 0] rfl)
  · intro x3_37 f_state_38 hw H locs ls hH hl
    refine lv_iload_n hx hb dX52_spreadNo_107 rfl (lv_at hl 0 rfl) ?_
    have hq_39 := hw.1
    have hw := hw.2
    exact k_iret (v := x3_37) X hH (f_state_38) hw rfl (k_zn (z_boolE (rfl : x3_37.toInt = _) hq_39)) dX52_spreadNo_108
set_option maxHeartbeats 4000000 in
theorem atX52_closeOnce_40 {p : Program} {l : Launch} {e : Env} {s : State} {m : MethodId} {args : Array Value} {below : List Frame} {meth : Method} {c : Code} {dC : Nat → ClassId} {dI : Nat → Nat → Nat} {cl : List vw_C} {ci : Nat} (hc : cl[ci]? = some (RX52, TX52, 23)) {ad : Nat → Nat} {d : Nat → ClassId} {A : Nat → Prop} {post : Int → (Int → Int) → Prop} {f_thrown : Int32} {f_classes : Int32} {f_things : Int32} {f_axioms : Int32} {f_fuel : Int32} {f_questions : Int32} {f_sorted : Int32} {f_left : Nat → Int32} {f_other : Nat → Int32} {f_right : Nat → Int32} {f_there : Nat → Int32} {f_member : Nat → Int32} {f_before : Nat → Int32} {f_placed : Nat → Int32} {f_looked : Nat → Int32} {f_fact : Nat → Int32} {f_maker : Nat → Int32} {f_fired : Nat → Int32} {f_firedCount : Int32} {f_needed : Nat → Int32} {f_module : Nat → Int32} {f_asked : Int32} (X : kX p s m args meth c cX52_closeOnce 5 RX52 (some .boolean) (dC, dI) cl (tX52 d)) {K103 : Int → (Int → Int) → Prop} {x2 : Int32} {x3 : Int32}  (hk103 : ∀ (x1 : Int32) (f_state : Nat → Int32), K103 x1.toInt (zF f_state) → ∀ (H : Heap) (locs : List Loc) (ls : Array Slot), kH (dC, dI) cl A s.heap H locs (wX52 ci ad d f_thrown f_classes f_things f_axioms f_fuel f_questions f_sorted f_left f_other f_right f_there f_member f_state f_before f_placed f_looked f_fact f_maker f_fired f_firedCount f_needed f_module f_asked) → lv_has ls 5 [(0, .ref (ad 0)), (1, .int x1), (2, .int x2), (3, .int x3)] → W p l e ({ frames := 2, cells := 0, slots := 0, locals := 48 } : Room) s m args below meth c H locs 0 0 (MQ below (va_Qi (fun (r : Int32) (u : (Nat → Int32)) => post r.toInt (zF (u))) (kB (dC, dI) cl (tX52 d) A (fun u : (Nat → Int32) => (wX52 ci ad d f_thrown f_classes f_things f_axioms f_fuel f_questions f_sorted f_left f_other f_right f_there f_member (u) f_before f_placed f_looked f_fact f_maker f_fired f_firedCount f_needed f_module f_asked))) A) args s 0 0 A) (F0 m 103 ls [])) :
    ∀ (nn : Nat) (x1 : Int32) (x4 : Int32) (f_state : Nat → Int32), wX52_closeOnce_40 K103 x2.toInt x3.toInt f_classes.toInt nn x1.toInt x4.toInt (zF f_state) → ∀ (H : Heap) (locs : List Loc) (ls : Array Slot), kH (dC, dI) cl A s.heap H locs (wX52 ci ad d f_thrown f_classes f_things f_axioms f_fuel f_questions f_sorted f_left f_other f_right f_there f_member f_state f_before f_placed f_looked f_fact f_maker f_fired f_firedCount f_needed f_module f_asked) → lv_has ls 5 [(0, .ref (ad 0)), (1, .int x1), (2, .int x2), (3, .int x3), (4, .int x4)] → W p l e ({ frames := 2, cells := 0, slots := 0, locals := 48 } : Room) s m args below meth c H locs 0 0 (MQ below (va_Qi (fun (r : Int32) (u : (Nat → Int32)) => post r.toInt (zF (u))) (kB (dC, dI) cl (tX52 d) A (fun u : (Nat → Int32) => (wX52 ci ad d f_thrown f_classes f_things f_axioms f_fuel f_questions f_sorted f_left f_other f_right f_there f_member (u) f_before f_placed f_looked f_fact f_maker f_fired f_firedCount f_needed f_module f_asked))) A) args s 0 0 A) (F0 m 40 ls []) := by
  have hx := X.1.1
  have hb := X.1.2.1
  intro nn
  induction nn with
  | zero =>
    intro x1 x4 f_state hw
    exact False.elim hw
  | succ n ih =>
    intro x1 x4 f_state hw H locs ls hH hl
    rw [wX52_closeOnce_40] at hw
    refine lv_iload hx hb dX52_closeOnce_40 (lv_at hl 4 rfl) ?_
    refine lv_bipush (v := 20) hx hb dX52_closeOnce_42 (by decide) ?_
    refine lv_icmp_gt (tgt := 103) hx hb dX52_closeOnce_44 (by decide) (fun c_11 => ?_) (fun c_11 => ?_)
    · have hw := hw.1 (z_lt (rfl : (20 : Int32).toInt = 20) (rfl : x4.toInt = _) c_11)
      exact hk103 x1 f_state hw _ _ ls hH (lv_sub hl [0, 1, 2, 3] rfl)
    · have hw := hw.2 (z_nlt (rfl : (20 : Int32).toInt = 20) (rfl : x4.toInt = _) c_11)
      refine lv_aload_n hx hb dX52_closeOnce_47 rfl (lv_at hl 0 rfl) ?_
      refine lv_iload hx hb dX52_closeOnce_48 (lv_at hl 4 rfl) ?_
      refine k_i0 hH (k_runV (As := [.int x4]) (rest := []) X hH.1 hH.2.1 X.2.2.2 (walkX52_isHere hc (x1 := x4) (f_thrown := f_thrown) (f_classes := f_classes) (f_things := f_things) (f_axioms := f_axioms) (f_fuel := f_fuel) (f_questions := f_questions) (f_sorted := f_sorted) (f_left := f_left) (f_other := f_other) (f_right := f_right) (f_there := f_there) (f_member := f_member) (f_state := f_state) (f_before := f_before) (f_placed := f_placed) (f_looked := f_looked) (f_fact := f_fact) (f_maker := f_maker) (f_fired := f_fired) (f_firedCount := f_firedCount) (f_needed := f_needed) (f_module := f_module) (f_asked := f_asked) hw) (cwV 1 X.1.2.2.2.2 gX52_74 rfl rfl rfl hX52_isHere ⟨Nat.le_of_ble_eq_true rfl, Nat.le_of_ble_eq_true rfl⟩) hc (q0 := 0) rfl rfl hl.1 rfl (Nat.le_of_ble_eq_true rfl) dX52_closeOnce_50 ⟨Nat.le_refl 0, Nat.le_refl 0⟩) (fun r_12 _ H locs hw hH => ?_)
      have hH : kH (dC, dI) cl A s.heap H locs (wX52 ci ad d f_thrown f_classes f_things f_axioms f_fuel f_questions f_sorted f_left f_other f_right f_there f_member f_state f_before f_placed f_looked f_fact f_maker f_fired f_firedCount f_needed f_module f_asked) := hH
      refine lv_if_eq (tgt := 97) hx hb dX52_closeOnce_53 (by decide) (fun c_13 => ?_) (fun c_13 => ?_)
      · have hw := hw.1 (z_eq (rfl : r_12.toInt = _) (rfl : (0 : Int32).toInt = 0) c_13)
        have hq_15 := hw.1
        have hw := hw.2
        obtain ⟨x4_14, ex4_14⟩ : ∃ y : Int32, y = x4 + 1 := ⟨_, rfl⟩
        have hw := hw x4_14.toInt (by rw [ex4_14]; exact (z_x (z_add (z_m (rfl : x4.toInt = _)) (z_m (rfl : (1 : Int32).toInt = 1))) hq_15))
        refine lv_iinc (v := x4_14) (lv' := [(4, .int x4_14), (0, .ref (ad 0)), (1, .int x1), (2, .int x2), (3, .int x3)]) hx hb dX52_closeOnce_97 hl (k := 4) rfl (by rw [ex4_14]; rfl) (by decide) rfl (fun ls hl => ?_)
        refine lv_goto (tgt := 40) hx hb dX52_closeOnce_100 (by decide) ?_
        exact ih x1 x4_14 f_state hw _ _ ls hH (lv_sub hl [1, 2, 3, 4, 0] rfl)
      · have hw := hw.2 (z_neq (rfl : r_12.toInt = _) (rfl : (0 : Int32).toInt = 0) c_13)
        refine lv_aload_n hx hb dX52_closeOnce_56 rfl (lv_at hl 0 rfl) ?_
        refine lv_iload_n hx hb dX52_closeOnce_57 rfl (lv_at hl 3 rfl) ?_
        refine lv_iload hx hb dX52_closeOnce_58 (lv_at hl 4 rfl) ?_
        refine k_i0 hH (k_runV (As := [.int x3, .int x4]) (rest := []) X hH.1 hH.2.1 X.2.2.2 (walkX52_below hc (x1 := x3) (x2 := x4) (f_thrown := f_thrown) (f_classes := f_classes) (f_things := f_things) (f_axioms := f_axioms) (f_fuel := f_fuel) (f_questions := f_questions) (f_sorted := f_sorted) (f_left := f_left) (f_other := f_other) (f_right := f_right) (f_there := f_there) (f_member := f_member) (f_state := f_state) (f_before := f_before) (f_placed := f_placed) (f_looked := f_looked) (f_fact := f_fact) (f_maker := f_maker) (f_fired := f_fired) (f_firedCount := f_firedCount) (f_needed := f_needed) (f_module := f_module) (f_asked := f_asked) hw) (cwV 2 X.1.2.2.2.2 gX52_77 rfl rfl rfl hX52_below ⟨Nat.le_of_ble_eq_true rfl, Nat.le_of_ble_eq_true rfl⟩) hc (q0 := 0) rfl rfl hl.1 rfl (Nat.le_of_ble_eq_true rfl) dX52_closeOnce_60 ⟨Nat.le_refl 0, Nat.le_refl 0⟩) (fun r_16 _ H locs hw hH => ?_)
        have hH : kH (dC, dI) cl A s.heap H locs (wX52 ci ad d f_thrown f_classes f_things f_axioms f_fuel f_questions f_sorted f_left f_other f_right f_there f_member f_state f_before f_placed f_looked f_fact f_maker f_fired f_firedCount f_needed f_module f_asked) := hH
        refine lv_if_eq (tgt := 97) hx hb dX52_closeOnce_63 (by decide) (fun c_17 => ?_) (fun c_17 => ?_)
        · have hw := hw.1 (z_eq (rfl : r_16.toInt = _) (rfl : (0 : Int32).toInt = 0) c_17)
          have hq_19 := hw.1
          have hw := hw.2
          obtain ⟨x4_18, ex4_18⟩ : ∃ y : Int32, y = x4 + 1 := ⟨_, rfl⟩
          have hw := hw x4_18.toInt (by rw [ex4_18]; exact (z_x (z_add (z_m (rfl : x4.toInt = _)) (z_m (rfl : (1 : Int32).toInt = 1))) hq_19))
          refine lv_iinc (v := x4_18) (lv' := [(4, .int x4_18), (0, .ref (ad 0)), (1, .int x1), (2, .int x2), (3, .int x3)]) hx hb dX52_closeOnce_97 hl (k := 4) rfl (by rw [ex4_18]; rfl) (by decide) rfl (fun ls hl => ?_)
          refine lv_goto (tgt := 40) hx hb dX52_closeOnce_100 (by decide) ?_
          exact ih x1 x4_18 f_state hw _ _ ls hH (lv_sub hl [1, 2, 3, 4, 0] rfl)
        · have hw := hw.2 (z_neq (rfl : r_16.toInt = _) (rfl : (0 : Int32).toInt = 0) c_17)
          refine lv_aload_n hx hb dX52_closeOnce_66 rfl (lv_at hl 0 rfl) ?_
          refine k_get X hH in_X52 0 rfl hc 12 (by decide) q6393 rfl dX52_closeOnce_67 ?_
          refine lv_bipush (v := 21) hx hb dX52_closeOnce_70 (by decide) ?_
          refine lv_iload_n hx hb dX52_closeOnce_72 rfl (lv_at hl 2 rfl) ?_
          refine lv_imul hx hb dX52_closeOnce_73 ?_
          have e_20 := z_mul (z_m (rfl : (21 : Int32).toInt = 21)) (z_m (rfl : x2.toInt = _))
          refine lv_iload hx hb dX52_closeOnce_74 (lv_at hl 4 rfl) ?_
          refine lv_iadd hx hb dX52_closeOnce_76 ?_
          have e_21 := z_add e_20 (z_m (rfl : x4.toInt = _))
          have hq_22 := hw.1
          have hw := hw.2
          have e_23 := z_xi e_21 hq_22 (by decide)
          refine k_iald X hH 6 5 rfl rfl (z_in e_23 hq_22) dX52_closeOnce_77 ?_
          have e_24 := z_ld (f := f_state) e_23 hq_22.1
          refine lv_iconst (v := 1) hx hb dX52_closeOnce_78 (by decide) ?_
          refine lv_icmp_eq (tgt := 97) hx hb dX52_closeOnce_79 (by decide) (fun c_25 => ?_) (fun c_25 => ?_)
          · have hw := hw.1 (z_eq e_24 (rfl : (1 : Int32).toInt = 1) c_25)
            have hq_27 := hw.1
            have hw := hw.2
            obtain ⟨x4_26, ex4_26⟩ : ∃ y : Int32, y = x4 + 1 := ⟨_, rfl⟩
            have hw := hw x4_26.toInt (by rw [ex4_26]; exact (z_x (z_add (z_m (rfl : x4.toInt = _)) (z_m (rfl : (1 : Int32).toInt = 1))) hq_27))
            refine lv_iinc (v := x4_26) (lv' := [(4, .int x4_26), (0, .ref (ad 0)), (1, .int x1), (2, .int x2), (3, .int x3)]) hx hb dX52_closeOnce_97 hl (k := 4) rfl (by rw [ex4_26]; rfl) (by decide) rfl (fun ls hl => ?_)
            refine lv_goto (tgt := 40) hx hb dX52_closeOnce_100 (by decide) ?_
            exact ih x1 x4_26 f_state hw _ _ ls hH (lv_sub hl [1, 2, 3, 4, 0] rfl)
          · have hw := hw.2 (z_neq e_24 (rfl : (1 : Int32).toInt = 1) c_25)
            refine lv_aload_n hx hb dX52_closeOnce_82 rfl (lv_at hl 0 rfl) ?_
            refine k_get X hH in_X52 0 rfl hc 12 (by decide) q6393 rfl dX52_closeOnce_83 ?_
            refine lv_bipush (v := 21) hx hb dX52_closeOnce_86 (by decide) ?_
            refine lv_iload_n hx hb dX52_closeOnce_88 rfl (lv_at hl 2 rfl) ?_
            refine lv_imul hx hb dX52_closeOnce_89 ?_
            have e_28 := z_mul (z_m (rfl : (21 : Int32).toInt = 21)) (z_m (rfl : x2.toInt = _))
            refine lv_iload hx hb dX52_closeOnce_90 (lv_at hl 4 rfl) ?_
            refine lv_iadd hx hb dX52_closeOnce_92 ?_
            have e_29 := z_add e_28 (z_m (rfl : x4.toInt = _))
            refine lv_iconst (v := 1) hx hb dX52_closeOnce_93 (by decide) ?_
            have e_31 := z_xi e_29 hq_22 (by decide)
            obtain ⟨f_state_30, ef_state_30⟩ : ∃ y : Nat → Int32, y = upd f_state ((21 * x2) + x4).toNatClampNeg 1 := ⟨_, rfl⟩
            refine k_iast X hH 6 5 rfl rfl (z_in e_31 hq_22) dX52_closeOnce_94 ef_state_30 (ws1 := (wX52 ci ad d f_thrown f_classes f_things f_axioms f_fuel f_questions f_sorted f_left f_other f_right f_there f_member f_state_30 f_before f_placed f_looked f_fact f_maker f_fired f_firedCount f_needed f_module f_asked)) rfl (fun H locs hH => ?_)
            have hw := hw (zF f_state_30) (by rw [ef_state_30]; exact z_st (f := f_state) e_31 hq_22.1 (rfl : (1 : Int32).toInt = 1))
            refine lv_iconst (v := 1) hx hb dX52_closeOnce_95 (by decide) ?_
            refine lv_istore_n (lv' := [(1, .int 1), (0, .ref (ad 0)), (2, .int x2), (3, .int x3), (4, .int x4)]) hx hb dX52_closeOnce_96 rfl hl (by decide) rfl (fun ls hl => ?_)
            have hq_33 := hw.1
            have hw := hw.2
            obtain ⟨x4_32, ex4_32⟩ : ∃ y : Int32, y = x4 + 1 := ⟨_, rfl⟩
            have hw := hw x4_32.toInt (by rw [ex4_32]; exact (z_x (z_add (z_m (rfl : x4.toInt = _)) (z_m (rfl : (1 : Int32).toInt = 1))) hq_33))
            refine lv_iinc (v := x4_32) (lv' := [(4, .int x4_32), (1, .int 1), (0, .ref (ad 0)), (2, .int x2), (3, .int x3)]) hx hb dX52_closeOnce_97 hl (k := 4) rfl (by rw [ex4_32]; rfl) (by decide) rfl (fun ls hl => ?_)
            refine lv_goto (tgt := 40) hx hb dX52_closeOnce_100 (by decide) ?_
            exact ih 1 x4_32 f_state_30 hw _ _ ls hH (lv_sub hl [2, 1, 3, 4, 0] rfl)
set_option maxHeartbeats 4000000 in
theorem atX52_closeOnce_14 {p : Program} {l : Launch} {e : Env} {s : State} {m : MethodId} {args : Array Value} {below : List Frame} {meth : Method} {c : Code} {dC : Nat → ClassId} {dI : Nat → Nat → Nat} {cl : List vw_C} {ci : Nat} (hc : cl[ci]? = some (RX52, TX52, 23)) {ad : Nat → Nat} {d : Nat → ClassId} {A : Nat → Prop} {post : Int → (Int → Int) → Prop} {f_thrown : Int32} {f_classes : Int32} {f_things : Int32} {f_axioms : Int32} {f_fuel : Int32} {f_questions : Int32} {f_sorted : Int32} {f_left : Nat → Int32} {f_other : Nat → Int32} {f_right : Nat → Int32} {f_there : Nat → Int32} {f_member : Nat → Int32} {f_before : Nat → Int32} {f_placed : Nat → Int32} {f_looked : Nat → Int32} {f_fact : Nat → Int32} {f_maker : Nat → Int32} {f_fired : Nat → Int32} {f_firedCount : Int32} {f_needed : Nat → Int32} {f_module : Nat → Int32} {f_asked : Int32} (X : kX p s m args meth c cX52_closeOnce 5 RX52 (some .boolean) (dC, dI) cl (tX52 d)) {K109 : Int → (Int → Int) → Prop} {x2 : Int32}  (hk109 : ∀ (x1 : Int32) (f_state : Nat → Int32), K109 x1.toInt (zF f_state) → ∀ (H : Heap) (locs : List Loc) (ls : Array Slot), kH (dC, dI) cl A s.heap H locs (wX52 ci ad d f_thrown f_classes f_things f_axioms f_fuel f_questions f_sorted f_left f_other f_right f_there f_member f_state f_before f_placed f_looked f_fact f_maker f_fired f_firedCount f_needed f_module f_asked) → lv_has ls 5 [(0, .ref (ad 0)), (1, .int x1), (2, .int x2)] → W p l e ({ frames := 2, cells := 0, slots := 0, locals := 48 } : Room) s m args below meth c H locs 0 0 (MQ below (va_Qi (fun (r : Int32) (u : (Nat → Int32)) => post r.toInt (zF (u))) (kB (dC, dI) cl (tX52 d) A (fun u : (Nat → Int32) => (wX52 ci ad d f_thrown f_classes f_things f_axioms f_fuel f_questions f_sorted f_left f_other f_right f_there f_member (u) f_before f_placed f_looked f_fact f_maker f_fired f_firedCount f_needed f_module f_asked))) A) args s 0 0 A) (F0 m 109 ls [])) :
    ∀ (nn : Nat) (x1 : Int32) (x3 : Int32) (f_state : Nat → Int32), wX52_closeOnce_14 K109 x2.toInt f_classes.toInt nn x1.toInt x3.toInt (zF f_state) → ∀ (H : Heap) (locs : List Loc) (ls : Array Slot), kH (dC, dI) cl A s.heap H locs (wX52 ci ad d f_thrown f_classes f_things f_axioms f_fuel f_questions f_sorted f_left f_other f_right f_there f_member f_state f_before f_placed f_looked f_fact f_maker f_fired f_firedCount f_needed f_module f_asked) → lv_has ls 5 [(0, .ref (ad 0)), (1, .int x1), (2, .int x2), (3, .int x3)] → W p l e ({ frames := 2, cells := 0, slots := 0, locals := 48 } : Room) s m args below meth c H locs 0 0 (MQ below (va_Qi (fun (r : Int32) (u : (Nat → Int32)) => post r.toInt (zF (u))) (kB (dC, dI) cl (tX52 d) A (fun u : (Nat → Int32) => (wX52 ci ad d f_thrown f_classes f_things f_axioms f_fuel f_questions f_sorted f_left f_other f_right f_there f_member (u) f_before f_placed f_looked f_fact f_maker f_fired f_firedCount f_needed f_module f_asked))) A) args s 0 0 A) (F0 m 14 ls []) := by
  have hx := X.1.1
  have hb := X.1.2.1
  intro nn
  induction nn with
  | zero =>
    intro x1 x3 f_state hw
    exact False.elim hw
  | succ n ih =>
    intro x1 x3 f_state hw H locs ls hH hl
    rw [wX52_closeOnce_14] at hw
    refine lv_iload_n hx hb dX52_closeOnce_14 rfl (lv_at hl 3 rfl) ?_
    refine lv_bipush (v := 20) hx hb dX52_closeOnce_15 (by decide) ?_
    refine lv_icmp_gt (tgt := 109) hx hb dX52_closeOnce_17 (by decide) (fun c_2 => ?_) (fun c_2 => ?_)
    · have hw := hw.1 (z_lt (rfl : (20 : Int32).toInt = 20) (rfl : x3.toInt = _) c_2)
      exact hk109 x1 f_state hw _ _ ls hH (lv_sub hl [0, 1, 2] rfl)
    · have hw := hw.2 (z_nlt (rfl : (20 : Int32).toInt = 20) (rfl : x3.toInt = _) c_2)
      refine lv_aload_n hx hb dX52_closeOnce_20 rfl (lv_at hl 0 rfl) ?_
      refine lv_iload_n hx hb dX52_closeOnce_21 rfl (lv_at hl 3 rfl) ?_
      refine k_i0 hH (k_runV (As := [.int x3]) (rest := []) X hH.1 hH.2.1 X.2.2.2 (walkX52_isHere hc (x1 := x3) (f_thrown := f_thrown) (f_classes := f_classes) (f_things := f_things) (f_axioms := f_axioms) (f_fuel := f_fuel) (f_questions := f_questions) (f_sorted := f_sorted) (f_left := f_left) (f_other := f_other) (f_right := f_right) (f_there := f_there) (f_member := f_member) (f_state := f_state) (f_before := f_before) (f_placed := f_placed) (f_looked := f_looked) (f_fact := f_fact) (f_maker := f_maker) (f_fired := f_fired) (f_firedCount := f_firedCount) (f_needed := f_needed) (f_module := f_module) (f_asked := f_asked) hw) (cwV 1 X.1.2.2.2.2 gX52_74 rfl rfl rfl hX52_isHere ⟨Nat.le_of_ble_eq_true rfl, Nat.le_of_ble_eq_true rfl⟩) hc (q0 := 0) rfl rfl hl.1 rfl (Nat.le_of_ble_eq_true rfl) dX52_closeOnce_22 ⟨Nat.le_refl 0, Nat.le_refl 0⟩) (fun r_3 _ H locs hw hH => ?_)
      have hH : kH (dC, dI) cl A s.heap H locs (wX52 ci ad d f_thrown f_classes f_things f_axioms f_fuel f_questions f_sorted f_left f_other f_right f_there f_member f_state f_before f_placed f_looked f_fact f_maker f_fired f_firedCount f_needed f_module f_asked) := hH
      refine lv_if_eq (tgt := 103) hx hb dX52_closeOnce_25 (by decide) (fun c_4 => ?_) (fun c_4 => ?_)
      · have hw := hw.1 (z_eq (rfl : r_3.toInt = _) (rfl : (0 : Int32).toInt = 0) c_4)
        have hq_6 := hw.1
        have hw := hw.2
        obtain ⟨x3_5, ex3_5⟩ : ∃ y : Int32, y = x3 + 1 := ⟨_, rfl⟩
        have hw := hw x3_5.toInt (by rw [ex3_5]; exact (z_x (z_add (z_m (rfl : x3.toInt = _)) (z_m (rfl : (1 : Int32).toInt = 1))) hq_6))
        refine lv_iinc (v := x3_5) (lv' := [(3, .int x3_5), (0, .ref (ad 0)), (1, .int x1), (2, .int x2)]) hx hb dX52_closeOnce_103 hl (k := 3) rfl (by rw [ex3_5]; rfl) (by decide) rfl (fun ls hl => ?_)
        refine lv_goto (tgt := 14) hx hb dX52_closeOnce_106 (by decide) ?_
        exact ih x1 x3_5 f_state hw _ _ ls hH (lv_sub hl [1, 2, 3, 0] rfl)
      · have hw := hw.2 (z_neq (rfl : r_3.toInt = _) (rfl : (0 : Int32).toInt = 0) c_4)
        refine lv_aload_n hx hb dX52_closeOnce_28 rfl (lv_at hl 0 rfl) ?_
        refine lv_iload_n hx hb dX52_closeOnce_29 rfl (lv_at hl 2 rfl) ?_
        refine lv_iload_n hx hb dX52_closeOnce_30 rfl (lv_at hl 3 rfl) ?_
        refine k_i0 hH (k_runV (As := [.int x2, .int x3]) (rest := []) X hH.1 hH.2.1 X.2.2.2 (walkX52_below hc (x1 := x2) (x2 := x3) (f_thrown := f_thrown) (f_classes := f_classes) (f_things := f_things) (f_axioms := f_axioms) (f_fuel := f_fuel) (f_questions := f_questions) (f_sorted := f_sorted) (f_left := f_left) (f_other := f_other) (f_right := f_right) (f_there := f_there) (f_member := f_member) (f_state := f_state) (f_before := f_before) (f_placed := f_placed) (f_looked := f_looked) (f_fact := f_fact) (f_maker := f_maker) (f_fired := f_fired) (f_firedCount := f_firedCount) (f_needed := f_needed) (f_module := f_module) (f_asked := f_asked) hw) (cwV 2 X.1.2.2.2.2 gX52_77 rfl rfl rfl hX52_below ⟨Nat.le_of_ble_eq_true rfl, Nat.le_of_ble_eq_true rfl⟩) hc (q0 := 0) rfl rfl hl.1 rfl (Nat.le_of_ble_eq_true rfl) dX52_closeOnce_31 ⟨Nat.le_refl 0, Nat.le_refl 0⟩) (fun r_7 _ H locs hw hH => ?_)
        have hH : kH (dC, dI) cl A s.heap H locs (wX52 ci ad d f_thrown f_classes f_things f_axioms f_fuel f_questions f_sorted f_left f_other f_right f_there f_member f_state f_before f_placed f_looked f_fact f_maker f_fired f_firedCount f_needed f_module f_asked) := hH
        refine lv_if_eq (tgt := 103) hx hb dX52_closeOnce_34 (by decide) (fun c_8 => ?_) (fun c_8 => ?_)
        · have hw := hw.1 (z_eq (rfl : r_7.toInt = _) (rfl : (0 : Int32).toInt = 0) c_8)
          have hq_10 := hw.1
          have hw := hw.2
          obtain ⟨x3_9, ex3_9⟩ : ∃ y : Int32, y = x3 + 1 := ⟨_, rfl⟩
          have hw := hw x3_9.toInt (by rw [ex3_9]; exact (z_x (z_add (z_m (rfl : x3.toInt = _)) (z_m (rfl : (1 : Int32).toInt = 1))) hq_10))
          refine lv_iinc (v := x3_9) (lv' := [(3, .int x3_9), (0, .ref (ad 0)), (1, .int x1), (2, .int x2)]) hx hb dX52_closeOnce_103 hl (k := 3) rfl (by rw [ex3_9]; rfl) (by decide) rfl (fun ls hl => ?_)
          refine lv_goto (tgt := 14) hx hb dX52_closeOnce_106 (by decide) ?_
          exact ih x1 x3_9 f_state hw _ _ ls hH (lv_sub hl [1, 2, 3, 0] rfl)
        · have hw := hw.2 (z_neq (rfl : r_7.toInt = _) (rfl : (0 : Int32).toInt = 0) c_8)
          refine lv_iconst (v := 0) hx hb dX52_closeOnce_37 (by decide) ?_
          refine lv_istore (lv' := [(4, .int 0), (0, .ref (ad 0)), (1, .int x1), (2, .int x2), (3, .int x3)]) hx hb dX52_closeOnce_38 hl (by decide) rfl (fun ls hl => ?_)
          obtain ⟨fu, hw⟩ := hw
          refine atX52_closeOnce_40 hc X ?_ fu x1 0 f_state hw _ _ ls hH (lv_sub hl [1, 2, 3, 4, 0] rfl)
          · intro x1_34 f_state_35 hw H locs ls hH hl
            have hq_37 := hw.1
            have hw := hw.2
            obtain ⟨x3_36, ex3_36⟩ : ∃ y : Int32, y = x3 + 1 := ⟨_, rfl⟩
            have hw := hw x3_36.toInt (by rw [ex3_36]; exact (z_x (z_add (z_m (rfl : x3.toInt = _)) (z_m (rfl : (1 : Int32).toInt = 1))) hq_37))
            refine lv_iinc (v := x3_36) (lv' := [(3, .int x3_36), (0, .ref (ad 0)), (1, .int x1_34), (2, .int x2)]) hx hb dX52_closeOnce_103 hl (k := 3) rfl (by rw [ex3_36]; rfl) (by decide) rfl (fun ls hl => ?_)
            refine lv_goto (tgt := 14) hx hb dX52_closeOnce_106 (by decide) ?_
            exact ih x1_34 x3_36 f_state_35 hw _ _ ls hH (lv_sub hl [1, 2, 3, 0] rfl)
set_option maxHeartbeats 4000000 in
theorem atX52_closeOnce_4 {p : Program} {l : Launch} {e : Env} {s : State} {m : MethodId} {args : Array Value} {below : List Frame} {meth : Method} {c : Code} {dC : Nat → ClassId} {dI : Nat → Nat → Nat} {cl : List vw_C} {ci : Nat} (hc : cl[ci]? = some (RX52, TX52, 23)) {ad : Nat → Nat} {d : Nat → ClassId} {A : Nat → Prop} {post : Int → (Int → Int) → Prop} {f_thrown : Int32} {f_classes : Int32} {f_things : Int32} {f_axioms : Int32} {f_fuel : Int32} {f_questions : Int32} {f_sorted : Int32} {f_left : Nat → Int32} {f_other : Nat → Int32} {f_right : Nat → Int32} {f_there : Nat → Int32} {f_member : Nat → Int32} {f_before : Nat → Int32} {f_placed : Nat → Int32} {f_looked : Nat → Int32} {f_fact : Nat → Int32} {f_maker : Nat → Int32} {f_fired : Nat → Int32} {f_firedCount : Int32} {f_needed : Nat → Int32} {f_module : Nat → Int32} {f_asked : Int32} (X : kX p s m args meth c cX52_closeOnce 5 RX52 (some .boolean) (dC, dI) cl (tX52 d)) {K115 : Int → (Int → Int) → Prop}   (hk115 : ∀ (x1 : Int32) (f_state : Nat → Int32), K115 x1.toInt (zF f_state) → ∀ (H : Heap) (locs : List Loc) (ls : Array Slot), kH (dC, dI) cl A s.heap H locs (wX52 ci ad d f_thrown f_classes f_things f_axioms f_fuel f_questions f_sorted f_left f_other f_right f_there f_member f_state f_before f_placed f_looked f_fact f_maker f_fired f_firedCount f_needed f_module f_asked) → lv_has ls 5 [(0, .ref (ad 0)), (1, .int x1)] → W p l e ({ frames := 2, cells := 0, slots := 0, locals := 48 } : Room) s m args below meth c H locs 0 0 (MQ below (va_Qi (fun (r : Int32) (u : (Nat → Int32)) => post r.toInt (zF (u))) (kB (dC, dI) cl (tX52 d) A (fun u : (Nat → Int32) => (wX52 ci ad d f_thrown f_classes f_things f_axioms f_fuel f_questions f_sorted f_left f_other f_right f_there f_member (u) f_before f_placed f_looked f_fact f_maker f_fired f_firedCount f_needed f_module f_asked))) A) args s 0 0 A) (F0 m 115 ls [])) :
    ∀ (nn : Nat) (x1 : Int32) (x2 : Int32) (f_state : Nat → Int32), wX52_closeOnce_4 K115 f_classes.toInt nn x1.toInt x2.toInt (zF f_state) → ∀ (H : Heap) (locs : List Loc) (ls : Array Slot), kH (dC, dI) cl A s.heap H locs (wX52 ci ad d f_thrown f_classes f_things f_axioms f_fuel f_questions f_sorted f_left f_other f_right f_there f_member f_state f_before f_placed f_looked f_fact f_maker f_fired f_firedCount f_needed f_module f_asked) → lv_has ls 5 [(0, .ref (ad 0)), (1, .int x1), (2, .int x2)] → W p l e ({ frames := 2, cells := 0, slots := 0, locals := 48 } : Room) s m args below meth c H locs 0 0 (MQ below (va_Qi (fun (r : Int32) (u : (Nat → Int32)) => post r.toInt (zF (u))) (kB (dC, dI) cl (tX52 d) A (fun u : (Nat → Int32) => (wX52 ci ad d f_thrown f_classes f_things f_axioms f_fuel f_questions f_sorted f_left f_other f_right f_there f_member (u) f_before f_placed f_looked f_fact f_maker f_fired f_firedCount f_needed f_module f_asked))) A) args s 0 0 A) (F0 m 4 ls []) := by
  have hx := X.1.1
  have hb := X.1.2.1
  intro nn
  induction nn with
  | zero =>
    intro x1 x2 f_state hw
    exact False.elim hw
  | succ n ih =>
    intro x1 x2 f_state hw H locs ls hH hl
    rw [wX52_closeOnce_4] at hw
    refine lv_iload_n hx hb dX52_closeOnce_4 rfl (lv_at hl 2 rfl) ?_
    refine lv_aload_n hx hb dX52_closeOnce_5 rfl (lv_at hl 0 rfl) ?_
    refine k_get X hH in_X52 0 rfl hc 1 (by decide) q6382 rfl dX52_closeOnce_6 ?_
    refine lv_icmp_ge (tgt := 115) hx hb dX52_closeOnce_9 (by decide) (fun c_1 => ?_) (fun c_1 => ?_)
    · have hw := hw.1 (z_le (rfl : f_classes.toInt = _) (rfl : x2.toInt = _) c_1)
      exact hk115 x1 f_state hw _ _ ls hH (lv_sub hl [0, 1] rfl)
    · have hw := hw.2 (z_nle (rfl : f_classes.toInt = _) (rfl : x2.toInt = _) c_1)
      refine lv_iconst (v := 0) hx hb dX52_closeOnce_12 (by decide) ?_
      refine lv_istore_n (lv' := [(3, .int 0), (0, .ref (ad 0)), (1, .int x1), (2, .int x2)]) hx hb dX52_closeOnce_13 rfl hl (by decide) rfl (fun ls hl => ?_)
      obtain ⟨fu, hw⟩ := hw
      refine atX52_closeOnce_14 hc X ?_ fu x1 0 f_state hw _ _ ls hH (lv_sub hl [1, 2, 3, 0] rfl)
      · intro x1_38 f_state_39 hw H locs ls hH hl
        have hq_41 := hw.1
        have hw := hw.2
        obtain ⟨x2_40, ex2_40⟩ : ∃ y : Int32, y = x2 + 1 := ⟨_, rfl⟩
        have hw := hw x2_40.toInt (by rw [ex2_40]; exact (z_x (z_add (z_m (rfl : x2.toInt = _)) (z_m (rfl : (1 : Int32).toInt = 1))) hq_41))
        refine lv_iinc (v := x2_40) (lv' := [(2, .int x2_40), (0, .ref (ad 0)), (1, .int x1_38)]) hx hb dX52_closeOnce_109 hl (k := 2) rfl (by rw [ex2_40]; rfl) (by decide) rfl (fun ls hl => ?_)
        refine lv_goto (tgt := 4) hx hb dX52_closeOnce_112 (by decide) ?_
        exact ih x1_38 x2_40 f_state_39 hw _ _ ls hH (lv_sub hl [1, 2, 0] rfl)
set_option maxHeartbeats 4000000 in
theorem atX52_closeOnce_127 {p : Program} {l : Launch} {e : Env} {s : State} {m : MethodId} {args : Array Value} {below : List Frame} {meth : Method} {c : Code} {dC : Nat → ClassId} {dI : Nat → Nat → Nat} {cl : List vw_C} {ci : Nat} (hc : cl[ci]? = some (RX52, TX52, 23)) {ad : Nat → Nat} {d : Nat → ClassId} {A : Nat → Prop} {post : Int → (Int → Int) → Prop} {f_thrown : Int32} {f_classes : Int32} {f_things : Int32} {f_axioms : Int32} {f_fuel : Int32} {f_questions : Int32} {f_sorted : Int32} {f_left : Nat → Int32} {f_other : Nat → Int32} {f_right : Nat → Int32} {f_there : Nat → Int32} {f_member : Nat → Int32} {f_before : Nat → Int32} {f_placed : Nat → Int32} {f_looked : Nat → Int32} {f_fact : Nat → Int32} {f_maker : Nat → Int32} {f_fired : Nat → Int32} {f_firedCount : Int32} {f_needed : Nat → Int32} {f_module : Nat → Int32} {f_asked : Int32} (X : kX p s m args meth c cX52_closeOnce 5 RX52 (some .boolean) (dC, dI) cl (tX52 d)) {K180 : Int → (Int → Int) → Prop} {x2 : Int32}  (hk180 : ∀ (x1 : Int32) (f_state : Nat → Int32), K180 x1.toInt (zF f_state) → ∀ (H : Heap) (locs : List Loc) (ls : Array Slot), kH (dC, dI) cl A s.heap H locs (wX52 ci ad d f_thrown f_classes f_things f_axioms f_fuel f_questions f_sorted f_left f_other f_right f_there f_member f_state f_before f_placed f_looked f_fact f_maker f_fired f_firedCount f_needed f_module f_asked) → lv_has ls 5 [(0, .ref (ad 0)), (1, .int x1), (2, .int x2)] → W p l e ({ frames := 2, cells := 0, slots := 0, locals := 48 } : Room) s m args below meth c H locs 0 0 (MQ below (va_Qi (fun (r : Int32) (u : (Nat → Int32)) => post r.toInt (zF (u))) (kB (dC, dI) cl (tX52 d) A (fun u : (Nat → Int32) => (wX52 ci ad d f_thrown f_classes f_things f_axioms f_fuel f_questions f_sorted f_left f_other f_right f_there f_member (u) f_before f_placed f_looked f_fact f_maker f_fired f_firedCount f_needed f_module f_asked))) A) args s 0 0 A) (F0 m 180 ls [])) :
    ∀ (nn : Nat) (x1 : Int32) (x3 : Int32) (f_state : Nat → Int32), wX52_closeOnce_127 K180 x2.toInt f_classes.toInt nn x1.toInt x3.toInt (zF f_state) → ∀ (H : Heap) (locs : List Loc) (ls : Array Slot), kH (dC, dI) cl A s.heap H locs (wX52 ci ad d f_thrown f_classes f_things f_axioms f_fuel f_questions f_sorted f_left f_other f_right f_there f_member f_state f_before f_placed f_looked f_fact f_maker f_fired f_firedCount f_needed f_module f_asked) → lv_has ls 5 [(0, .ref (ad 0)), (1, .int x1), (2, .int x2), (3, .int x3)] → W p l e ({ frames := 2, cells := 0, slots := 0, locals := 48 } : Room) s m args below meth c H locs 0 0 (MQ below (va_Qi (fun (r : Int32) (u : (Nat → Int32)) => post r.toInt (zF (u))) (kB (dC, dI) cl (tX52 d) A (fun u : (Nat → Int32) => (wX52 ci ad d f_thrown f_classes f_things f_axioms f_fuel f_questions f_sorted f_left f_other f_right f_there f_member (u) f_before f_placed f_looked f_fact f_maker f_fired f_firedCount f_needed f_module f_asked))) A) args s 0 0 A) (F0 m 127 ls []) := by
  have hx := X.1.1
  have hb := X.1.2.1
  intro nn
  induction nn with
  | zero =>
    intro x1 x3 f_state hw
    exact False.elim hw
  | succ n ih =>
    intro x1 x3 f_state hw H locs ls hH hl
    rw [wX52_closeOnce_127] at hw
    refine lv_iload_n hx hb dX52_closeOnce_127 rfl (lv_at hl 3 rfl) ?_
    refine lv_bipush (v := 20) hx hb dX52_closeOnce_128 (by decide) ?_
    refine lv_icmp_gt (tgt := 180) hx hb dX52_closeOnce_130 (by decide) (fun c_45 => ?_) (fun c_45 => ?_)
    · have hw := hw.1 (z_lt (rfl : (20 : Int32).toInt = 20) (rfl : x3.toInt = _) c_45)
      exact hk180 x1 f_state hw _ _ ls hH (lv_sub hl [0, 1, 2] rfl)
    · have hw := hw.2 (z_nlt (rfl : (20 : Int32).toInt = 20) (rfl : x3.toInt = _) c_45)
      refine lv_aload_n hx hb dX52_closeOnce_133 rfl (lv_at hl 0 rfl) ?_
      refine lv_iload_n hx hb dX52_closeOnce_134 rfl (lv_at hl 3 rfl) ?_
      refine k_i0 hH (k_runV (As := [.int x3]) (rest := []) X hH.1 hH.2.1 X.2.2.2 (walkX52_isHere hc (x1 := x3) (f_thrown := f_thrown) (f_classes := f_classes) (f_things := f_things) (f_axioms := f_axioms) (f_fuel := f_fuel) (f_questions := f_questions) (f_sorted := f_sorted) (f_left := f_left) (f_other := f_other) (f_right := f_right) (f_there := f_there) (f_member := f_member) (f_state := f_state) (f_before := f_before) (f_placed := f_placed) (f_looked := f_looked) (f_fact := f_fact) (f_maker := f_maker) (f_fired := f_fired) (f_firedCount := f_firedCount) (f_needed := f_needed) (f_module := f_module) (f_asked := f_asked) hw) (cwV 1 X.1.2.2.2.2 gX52_74 rfl rfl rfl hX52_isHere ⟨Nat.le_of_ble_eq_true rfl, Nat.le_of_ble_eq_true rfl⟩) hc (q0 := 0) rfl rfl hl.1 rfl (Nat.le_of_ble_eq_true rfl) dX52_closeOnce_135 ⟨Nat.le_refl 0, Nat.le_refl 0⟩) (fun r_46 _ H locs hw hH => ?_)
      have hH : kH (dC, dI) cl A s.heap H locs (wX52 ci ad d f_thrown f_classes f_things f_axioms f_fuel f_questions f_sorted f_left f_other f_right f_there f_member f_state f_before f_placed f_looked f_fact f_maker f_fired f_firedCount f_needed f_module f_asked) := hH
      refine lv_if_eq (tgt := 174) hx hb dX52_closeOnce_138 (by decide) (fun c_47 => ?_) (fun c_47 => ?_)
      · have hw := hw.1 (z_eq (rfl : r_46.toInt = _) (rfl : (0 : Int32).toInt = 0) c_47)
        have hq_49 := hw.1
        have hw := hw.2
        obtain ⟨x3_48, ex3_48⟩ : ∃ y : Int32, y = x3 + 1 := ⟨_, rfl⟩
        have hw := hw x3_48.toInt (by rw [ex3_48]; exact (z_x (z_add (z_m (rfl : x3.toInt = _)) (z_m (rfl : (1 : Int32).toInt = 1))) hq_49))
        refine lv_iinc (v := x3_48) (lv' := [(3, .int x3_48), (0, .ref (ad 0)), (1, .int x1), (2, .int x2)]) hx hb dX52_closeOnce_174 hl (k := 3) rfl (by rw [ex3_48]; rfl) (by decide) rfl (fun ls hl => ?_)
        refine lv_goto (tgt := 127) hx hb dX52_closeOnce_177 (by decide) ?_
        exact ih x1 x3_48 f_state hw _ _ ls hH (lv_sub hl [1, 2, 3, 0] rfl)
      · have hw := hw.2 (z_neq (rfl : r_46.toInt = _) (rfl : (0 : Int32).toInt = 0) c_47)
        refine lv_aload_n hx hb dX52_closeOnce_141 rfl (lv_at hl 0 rfl) ?_
        refine k_get X hH in_X52 0 rfl hc 12 (by decide) q6393 rfl dX52_closeOnce_142 ?_
        refine lv_bipush (v := 21) hx hb dX52_closeOnce_145 (by decide) ?_
        refine lv_iload_n hx hb dX52_closeOnce_147 rfl (lv_at hl 2 rfl) ?_
        refine lv_imul hx hb dX52_closeOnce_148 ?_
        have e_50 := z_mul (z_m (rfl : (21 : Int32).toInt = 21)) (z_m (rfl : x2.toInt = _))
        refine lv_iload_n hx hb dX52_closeOnce_149 rfl (lv_at hl 3 rfl) ?_
        refine lv_iadd hx hb dX52_closeOnce_150 ?_
        have e_51 := z_add e_50 (z_m (rfl : x3.toInt = _))
        have hq_52 := hw.1
        have hw := hw.2
        have e_53 := z_xi e_51 hq_52 (by decide)
        refine k_iald X hH 6 5 rfl rfl (z_in e_53 hq_52) dX52_closeOnce_151 ?_
        have e_54 := z_ld (f := f_state) e_53 hq_52.1
        refine lv_if_ne (tgt := 174) hx hb dX52_closeOnce_152 (by decide) (fun c_55 => ?_) (fun c_55 => ?_)
        · have hw := hw.2 (z_ne e_54 (rfl : (0 : Int32).toInt = 0) c_55)
          have hq_57 := hw.1
          have hw := hw.2
          obtain ⟨x3_56, ex3_56⟩ : ∃ y : Int32, y = x3 + 1 := ⟨_, rfl⟩
          have hw := hw x3_56.toInt (by rw [ex3_56]; exact (z_x (z_add (z_m (rfl : x3.toInt = _)) (z_m (rfl : (1 : Int32).toInt = 1))) hq_57))
          refine lv_iinc (v := x3_56) (lv' := [(3, .int x3_56), (0, .ref (ad 0)), (1, .int x1), (2, .int x2)]) hx hb dX52_closeOnce_174 hl (k := 3) rfl (by rw [ex3_56]; rfl) (by decide) rfl (fun ls hl => ?_)
          refine lv_goto (tgt := 127) hx hb dX52_closeOnce_177 (by decide) ?_
          exact ih x1 x3_56 f_state hw _ _ ls hH (lv_sub hl [1, 2, 3, 0] rfl)
        · have hw := hw.1 (z_eq e_54 (rfl : (0 : Int32).toInt = 0) c_55)
          refine lv_aload_n hx hb dX52_closeOnce_155 rfl (lv_at hl 0 rfl) ?_
          refine lv_iload_n hx hb dX52_closeOnce_156 rfl (lv_at hl 2 rfl) ?_
          refine lv_iload_n hx hb dX52_closeOnce_157 rfl (lv_at hl 3 rfl) ?_
          refine k_i0 hH (k_runV (As := [.int x2, .int x3]) (rest := []) X hH.1 hH.2.1 X.2.2.2 (walkX52_spreadNo hc (x1 := x2) (x2 := x3) (f_thrown := f_thrown) (f_classes := f_classes) (f_things := f_things) (f_axioms := f_axioms) (f_fuel := f_fuel) (f_questions := f_questions) (f_sorted := f_sorted) (f_left := f_left) (f_other := f_other) (f_right := f_right) (f_there := f_there) (f_member := f_member) (f_state := f_state) (f_before := f_before) (f_placed := f_placed) (f_looked := f_looked) (f_fact := f_fact) (f_maker := f_maker) (f_fired := f_fired) (f_firedCount := f_firedCount) (f_needed := f_needed) (f_module := f_module) (f_asked := f_asked) hw) (cwV 2 X.1.2.2.2.2 gX52_80 rfl rfl rfl hX52_spreadNo ⟨Nat.le_of_ble_eq_true rfl, Nat.le_of_ble_eq_true rfl⟩) hc (q0 := 0) rfl rfl hl.1 rfl (Nat.le_of_ble_eq_true rfl) dX52_closeOnce_158 ⟨Nat.le_refl 0, Nat.le_refl 0⟩) (fun r_58 u H locs hw hH => ?_)
          obtain ⟨f_state_59, eu⟩ : ∃ z, z = u := ⟨_, rfl⟩
          subst eu
          have hH : kH (dC, dI) cl A s.heap H locs (wX52 ci ad d f_thrown f_classes f_things f_axioms f_fuel f_questions f_sorted f_left f_other f_right f_there f_member f_state_59 f_before f_placed f_looked f_fact f_maker f_fired f_firedCount f_needed f_module f_asked) := hH
          refine lv_if_ne (tgt := 168) hx hb dX52_closeOnce_161 (by decide) (fun c_60 => ?_) (fun c_60 => ?_)
          · have hw := hw.2 (z_ne (rfl : r_58.toInt = _) (rfl : (0 : Int32).toInt = 0) c_60)
            refine lv_iconst (v := 1) hx hb dX52_closeOnce_168 (by decide) ?_
            refine lv_goto (tgt := 173) hx hb dX52_closeOnce_169 (by decide) ?_
            refine lv_istore_n (lv' := [(1, .int 1), (0, .ref (ad 0)), (2, .int x2), (3, .int x3)]) hx hb dX52_closeOnce_173 rfl hl (by decide) rfl (fun ls hl => ?_)
            have hq_62 := hw.1
            have hw := hw.2
            obtain ⟨x3_61, ex3_61⟩ : ∃ y : Int32, y = x3 + 1 := ⟨_, rfl⟩
            have hw := hw x3_61.toInt (by rw [ex3_61]; exact (z_x (z_add (z_m (rfl : x3.toInt = _)) (z_m (rfl : (1 : Int32).toInt = 1))) hq_62))
            refine lv_iinc (v := x3_61) (lv' := [(3, .int x3_61), (1, .int 1), (0, .ref (ad 0)), (2, .int x2)]) hx hb dX52_closeOnce_174 hl (k := 3) rfl (by rw [ex3_61]; rfl) (by decide) rfl (fun ls hl => ?_)
            refine lv_goto (tgt := 127) hx hb dX52_closeOnce_177 (by decide) ?_
            exact ih 1 x3_61 f_state_59 hw _ _ ls hH (lv_sub hl [2, 1, 3, 0] rfl)
          · have hw := hw.1 (z_eq (rfl : r_58.toInt = _) (rfl : (0 : Int32).toInt = 0) c_60)
            refine lv_iload_n hx hb dX52_closeOnce_164 rfl (lv_at hl 1 rfl) ?_
            refine lv_if_eq (tgt := 172) hx hb dX52_closeOnce_165 (by decide) (fun c_63 => ?_) (fun c_63 => ?_)
            · have hw := hw.1 (z_eq (rfl : x1.toInt = _) (rfl : (0 : Int32).toInt = 0) c_63)
              refine lv_iconst (v := 0) hx hb dX52_closeOnce_172 (by decide) ?_
              refine lv_istore_n (lv' := [(1, .int 0), (0, .ref (ad 0)), (2, .int x2), (3, .int x3)]) hx hb dX52_closeOnce_173 rfl hl (by decide) rfl (fun ls hl => ?_)
              have hq_65 := hw.1
              have hw := hw.2
              obtain ⟨x3_64, ex3_64⟩ : ∃ y : Int32, y = x3 + 1 := ⟨_, rfl⟩
              have hw := hw x3_64.toInt (by rw [ex3_64]; exact (z_x (z_add (z_m (rfl : x3.toInt = _)) (z_m (rfl : (1 : Int32).toInt = 1))) hq_65))
              refine lv_iinc (v := x3_64) (lv' := [(3, .int x3_64), (1, .int 0), (0, .ref (ad 0)), (2, .int x2)]) hx hb dX52_closeOnce_174 hl (k := 3) rfl (by rw [ex3_64]; rfl) (by decide) rfl (fun ls hl => ?_)
              refine lv_goto (tgt := 127) hx hb dX52_closeOnce_177 (by decide) ?_
              exact ih 0 x3_64 f_state_59 hw _ _ ls hH (lv_sub hl [2, 1, 3, 0] rfl)
            · have hw := hw.2 (z_neq (rfl : x1.toInt = _) (rfl : (0 : Int32).toInt = 0) c_63)
              refine lv_iconst (v := 1) hx hb dX52_closeOnce_168 (by decide) ?_
              refine lv_goto (tgt := 173) hx hb dX52_closeOnce_169 (by decide) ?_
              refine lv_istore_n (lv' := [(1, .int 1), (0, .ref (ad 0)), (2, .int x2), (3, .int x3)]) hx hb dX52_closeOnce_173 rfl hl (by decide) rfl (fun ls hl => ?_)
              have hq_67 := hw.1
              have hw := hw.2
              obtain ⟨x3_66, ex3_66⟩ : ∃ y : Int32, y = x3 + 1 := ⟨_, rfl⟩
              have hw := hw x3_66.toInt (by rw [ex3_66]; exact (z_x (z_add (z_m (rfl : x3.toInt = _)) (z_m (rfl : (1 : Int32).toInt = 1))) hq_67))
              refine lv_iinc (v := x3_66) (lv' := [(3, .int x3_66), (1, .int 1), (0, .ref (ad 0)), (2, .int x2)]) hx hb dX52_closeOnce_174 hl (k := 3) rfl (by rw [ex3_66]; rfl) (by decide) rfl (fun ls hl => ?_)
              refine lv_goto (tgt := 127) hx hb dX52_closeOnce_177 (by decide) ?_
              exact ih 1 x3_66 f_state_59 hw _ _ ls hH (lv_sub hl [2, 1, 3, 0] rfl)
set_option maxHeartbeats 4000000 in
theorem atX52_closeOnce_117 {p : Program} {l : Launch} {e : Env} {s : State} {m : MethodId} {args : Array Value} {below : List Frame} {meth : Method} {c : Code} {dC : Nat → ClassId} {dI : Nat → Nat → Nat} {cl : List vw_C} {ci : Nat} (hc : cl[ci]? = some (RX52, TX52, 23)) {ad : Nat → Nat} {d : Nat → ClassId} {A : Nat → Prop} {post : Int → (Int → Int) → Prop} {f_thrown : Int32} {f_classes : Int32} {f_things : Int32} {f_axioms : Int32} {f_fuel : Int32} {f_questions : Int32} {f_sorted : Int32} {f_left : Nat → Int32} {f_other : Nat → Int32} {f_right : Nat → Int32} {f_there : Nat → Int32} {f_member : Nat → Int32} {f_before : Nat → Int32} {f_placed : Nat → Int32} {f_looked : Nat → Int32} {f_fact : Nat → Int32} {f_maker : Nat → Int32} {f_fired : Nat → Int32} {f_firedCount : Int32} {f_needed : Nat → Int32} {f_module : Nat → Int32} {f_asked : Int32} (X : kX p s m args meth c cX52_closeOnce 5 RX52 (some .boolean) (dC, dI) cl (tX52 d)) {K186 : Int → (Int → Int) → Prop}   (hk186 : ∀ (x1 : Int32) (f_state : Nat → Int32), K186 x1.toInt (zF f_state) → ∀ (H : Heap) (locs : List Loc) (ls : Array Slot), kH (dC, dI) cl A s.heap H locs (wX52 ci ad d f_thrown f_classes f_things f_axioms f_fuel f_questions f_sorted f_left f_other f_right f_there f_member f_state f_before f_placed f_looked f_fact f_maker f_fired f_firedCount f_needed f_module f_asked) → lv_has ls 5 [(1, .int x1)] → W p l e ({ frames := 2, cells := 0, slots := 0, locals := 48 } : Room) s m args below meth c H locs 0 0 (MQ below (va_Qi (fun (r : Int32) (u : (Nat → Int32)) => post r.toInt (zF (u))) (kB (dC, dI) cl (tX52 d) A (fun u : (Nat → Int32) => (wX52 ci ad d f_thrown f_classes f_things f_axioms f_fuel f_questions f_sorted f_left f_other f_right f_there f_member (u) f_before f_placed f_looked f_fact f_maker f_fired f_firedCount f_needed f_module f_asked))) A) args s 0 0 A) (F0 m 186 ls [])) :
    ∀ (nn : Nat) (x1 : Int32) (x2 : Int32) (f_state : Nat → Int32), wX52_closeOnce_117 K186 f_classes.toInt nn x1.toInt x2.toInt (zF f_state) → ∀ (H : Heap) (locs : List Loc) (ls : Array Slot), kH (dC, dI) cl A s.heap H locs (wX52 ci ad d f_thrown f_classes f_things f_axioms f_fuel f_questions f_sorted f_left f_other f_right f_there f_member f_state f_before f_placed f_looked f_fact f_maker f_fired f_firedCount f_needed f_module f_asked) → lv_has ls 5 [(0, .ref (ad 0)), (1, .int x1), (2, .int x2)] → W p l e ({ frames := 2, cells := 0, slots := 0, locals := 48 } : Room) s m args below meth c H locs 0 0 (MQ below (va_Qi (fun (r : Int32) (u : (Nat → Int32)) => post r.toInt (zF (u))) (kB (dC, dI) cl (tX52 d) A (fun u : (Nat → Int32) => (wX52 ci ad d f_thrown f_classes f_things f_axioms f_fuel f_questions f_sorted f_left f_other f_right f_there f_member (u) f_before f_placed f_looked f_fact f_maker f_fired f_firedCount f_needed f_module f_asked))) A) args s 0 0 A) (F0 m 117 ls []) := by
  have hx := X.1.1
  have hb := X.1.2.1
  intro nn
  induction nn with
  | zero =>
    intro x1 x2 f_state hw
    exact False.elim hw
  | succ n ih =>
    intro x1 x2 f_state hw H locs ls hH hl
    rw [wX52_closeOnce_117] at hw
    refine lv_iload_n hx hb dX52_closeOnce_117 rfl (lv_at hl 2 rfl) ?_
    refine lv_aload_n hx hb dX52_closeOnce_118 rfl (lv_at hl 0 rfl) ?_
    refine k_get X hH in_X52 0 rfl hc 1 (by decide) q6382 rfl dX52_closeOnce_119 ?_
    refine lv_icmp_ge (tgt := 186) hx hb dX52_closeOnce_122 (by decide) (fun c_44 => ?_) (fun c_44 => ?_)
    · have hw := hw.1 (z_le (rfl : f_classes.toInt = _) (rfl : x2.toInt = _) c_44)
      exact hk186 x1 f_state hw _ _ ls hH (lv_sub hl [1] rfl)
    · have hw := hw.2 (z_nle (rfl : f_classes.toInt = _) (rfl : x2.toInt = _) c_44)
      refine lv_iconst (v := 0) hx hb dX52_closeOnce_125 (by decide) ?_
      refine lv_istore_n (lv' := [(3, .int 0), (0, .ref (ad 0)), (1, .int x1), (2, .int x2)]) hx hb dX52_closeOnce_126 rfl hl (by decide) rfl (fun ls hl => ?_)
      obtain ⟨fu, hw⟩ := hw
      refine atX52_closeOnce_127 hc X ?_ fu x1 0 f_state hw _ _ ls hH (lv_sub hl [1, 2, 3, 0] rfl)
      · intro x1_68 f_state_69 hw H locs ls hH hl
        have hq_71 := hw.1
        have hw := hw.2
        obtain ⟨x2_70, ex2_70⟩ : ∃ y : Int32, y = x2 + 1 := ⟨_, rfl⟩
        have hw := hw x2_70.toInt (by rw [ex2_70]; exact (z_x (z_add (z_m (rfl : x2.toInt = _)) (z_m (rfl : (1 : Int32).toInt = 1))) hq_71))
        refine lv_iinc (v := x2_70) (lv' := [(2, .int x2_70), (0, .ref (ad 0)), (1, .int x1_68)]) hx hb dX52_closeOnce_180 hl (k := 2) rfl (by rw [ex2_70]; rfl) (by decide) rfl (fun ls hl => ?_)
        refine lv_goto (tgt := 117) hx hb dX52_closeOnce_183 (by decide) ?_
        exact ih x1_68 x2_70 f_state_69 hw _ _ ls hH (lv_sub hl [1, 2, 0] rfl)
set_option maxHeartbeats 4000000 in
theorem walkX52_closeOnce {l : Launch} {dC : Nat → ClassId} {dI : Nat → Nat → Nat} {cl : List vw_C} {ci : Nat} (hc : cl[ci]? = some (RX52, TX52, 23)) {ad : Nat → Nat} {d : Nat → ClassId} {sz : Nat} {f_thrown : Int32} {f_classes : Int32} {f_things : Int32} {f_axioms : Int32} {f_fuel : Int32} {f_questions : Int32} {f_sorted : Int32} {f_left : Nat → Int32} {f_other : Nat → Int32} {f_right : Nat → Int32} {f_there : Nat → Int32} {f_member : Nat → Int32} {f_state : Nat → Int32} {f_before : Nat → Int32} {f_placed : Nat → Int32} {f_looked : Nat → Int32} {f_fact : Nat → Int32} {f_maker : Nat → Int32} {f_fired : Nat → Int32} {f_firedCount : Int32} {f_needed : Nat → Int32} {f_module : Nat → Int32} {f_asked : Int32}  {post : Int → (Int → Int) → Prop} (hw : wpX52_closeOnce post f_classes.toInt (zF f_state) ) :
    Met l yX52_closeOnce (ws_ yX52_closeOnce cX52_closeOnce 5 (some .boolean)) ({ frames := 2, cells := 0, slots := 0, locals := 48 } : Room) (kPc (dC, dI) cl (tX52 d) [.ref (ad 0)] sz (wX52 ci ad d f_thrown f_classes f_things f_axioms f_fuel f_questions f_sorted f_left f_other f_right f_there f_member f_state f_before f_placed f_looked f_fact f_maker f_fired f_firedCount f_needed f_module f_asked)) (va_Qi (fun (r : Int32) (u : (Nat → Int32)) => post r.toInt (zF (u))) (kB (dC, dI) cl (tX52 d) (va_A (wX52 ci ad d f_thrown f_classes f_things f_axioms f_fuel f_questions f_sorted f_left f_other f_right f_there f_member f_state f_before f_placed f_looked f_fact f_maker f_fired f_firedCount f_needed f_module f_asked) sz) (fun u : (Nat → Int32) => (wX52 ci ad d f_thrown f_classes f_things f_axioms f_fuel f_questions f_sorted f_left f_other f_right f_there f_member (u) f_before f_placed f_looked f_fact f_maker f_fired f_firedCount f_needed f_module f_asked))) (va_A (wX52 ci ad d f_thrown f_classes f_things f_axioms f_fuel f_questions f_sorted f_left f_other f_right f_there f_member f_state f_before f_placed f_looked f_fact f_maker f_fired f_firedCount f_needed f_module f_asked) sz)) 0 0 (va_A (wX52 ci ad d f_thrown f_classes f_things f_axioms f_fuel f_questions f_sorted f_left f_other f_right f_there f_member f_state f_before f_placed f_looked f_fact f_maker f_fired f_firedCount f_needed f_module f_asked) sz) := by
  refine k_enter (by decide) (Nat.le_of_ble_eq_true rfl) ?_
  intro p e s m below meth c ls X hsz hH hl
  subst hsz
  generalize va_A (wX52 ci ad d f_thrown f_classes f_things f_axioms f_fuel f_questions f_sorted f_left f_other f_right f_there f_member f_state f_before f_placed f_looked f_fact f_maker f_fired f_firedCount f_needed f_module f_asked) s.heap.size = A at hH ⊢
  have hx := X.1.1
  have hb := X.1.2.1
  have hl : lv_has ls 5 [(0, .ref (ad 0))] := hl
  unfold wpX52_closeOnce at hw
  refine lv_iconst (v := 0) hx hb dX52_closeOnce_0 (by decide) ?_
  refine lv_istore_n (lv' := [(1, .int 0), (0, .ref (ad 0))]) hx hb dX52_closeOnce_1 rfl hl (by decide) rfl (fun ls hl => ?_)
  refine lv_iconst (v := 0) hx hb dX52_closeOnce_2 (by decide) ?_
  refine lv_istore_n (lv' := [(2, .int 0), (1, .int 0), (0, .ref (ad 0))]) hx hb dX52_closeOnce_3 rfl hl (by decide) rfl (fun ls hl => ?_)
  obtain ⟨fu, hw⟩ := hw
  refine atX52_closeOnce_4 hc X ?_ fu 0 0 f_state hw _ _ ls hH (lv_sub hl [2, 1, 0] rfl)
  · intro x1_42 f_state_43 hw H locs ls hH hl
    refine lv_iconst (v := 0) hx hb dX52_closeOnce_115 (by decide) ?_
    refine lv_istore_n (lv' := [(2, .int 0), (0, .ref (ad 0)), (1, .int x1_42)]) hx hb dX52_closeOnce_116 rfl hl (by decide) rfl (fun ls hl => ?_)
    obtain ⟨fu, hw⟩ := hw
    refine atX52_closeOnce_117 hc X ?_ fu x1_42 0 f_state_43 hw _ _ ls hH (lv_sub hl [1, 2, 0] rfl)
    · intro x1_72 f_state_73 hw H locs ls hH hl
      refine lv_iload_n hx hb dX52_closeOnce_186 rfl (lv_at hl 0 rfl) ?_
      have hq_74 := hw.1
      have hw := hw.2
      exact k_iret (v := x1_72) X hH (f_state_73) hw rfl (k_zn (z_boolE (rfl : x1_72.toInt = _) hq_74)) dX52_closeOnce_187
set_option maxHeartbeats 4000000 in
theorem atX52_close_6 {p : Program} {l : Launch} {e : Env} {s : State} {m : MethodId} {args : Array Value} {below : List Frame} {meth : Method} {c : Code} {dC : Nat → ClassId} {dI : Nat → Nat → Nat} {cl : List vw_C} {ci : Nat} (hc : cl[ci]? = some (RX52, TX52, 23)) {ad : Nat → Nat} {d : Nat → ClassId} {A : Nat → Prop} {post : (Int → Int) → Prop} {f_thrown : Int32} {f_classes : Int32} {f_things : Int32} {f_axioms : Int32} {f_fuel : Int32} {f_questions : Int32} {f_sorted : Int32} {f_left : Nat → Int32} {f_other : Nat → Int32} {f_right : Nat → Int32} {f_there : Nat → Int32} {f_member : Nat → Int32} {f_before : Nat → Int32} {f_placed : Nat → Int32} {f_looked : Nat → Int32} {f_fact : Nat → Int32} {f_maker : Nat → Int32} {f_fired : Nat → Int32} {f_firedCount : Int32} {f_needed : Nat → Int32} {f_module : Nat → Int32} {f_asked : Int32} (X : kX p s m args meth c cX52_close 2 RX52 none (dC, dI) cl (tX52 d)) {K18 : (Int → Int) → Prop}   (hk18 : ∀ (f_state : Nat → Int32), K18 (zF f_state) → ∀ (H : Heap) (locs : List Loc) (ls : Array Slot), kH (dC, dI) cl A s.heap H locs (wX52 ci ad d f_thrown f_classes f_things f_axioms f_fuel f_questions f_sorted f_left f_other f_right f_there f_member f_state f_before f_placed f_looked f_fact f_maker f_fired f_firedCount f_needed f_module f_asked) → lv_has ls 2 [] → W p l e ({ frames := 3, cells := 0, slots := 0, locals := 72 } : Room) s m args below meth c H locs 0 0 (MQ below (va_Qv (fun (u : (Nat → Int32)) => post (zF (u))) (kB (dC, dI) cl (tX52 d) A (fun u : (Nat → Int32) => (wX52 ci ad d f_thrown f_classes f_things f_axioms f_fuel f_questions f_sorted f_left f_other f_right f_there f_member (u) f_before f_placed f_looked f_fact f_maker f_fired f_firedCount f_needed f_module f_asked))) A) args s 0 0 A) (F0 m 18 ls [])) :
    ∀ (nn : Nat) (x1 : Int32) (f_state : Nat → Int32), wX52_close_6 K18 f_classes.toInt nn x1.toInt (zF f_state) → ∀ (H : Heap) (locs : List Loc) (ls : Array Slot), kH (dC, dI) cl A s.heap H locs (wX52 ci ad d f_thrown f_classes f_things f_axioms f_fuel f_questions f_sorted f_left f_other f_right f_there f_member f_state f_before f_placed f_looked f_fact f_maker f_fired f_firedCount f_needed f_module f_asked) → lv_has ls 2 [(0, .ref (ad 0)), (1, .int x1)] → W p l e ({ frames := 3, cells := 0, slots := 0, locals := 72 } : Room) s m args below meth c H locs 0 0 (MQ below (va_Qv (fun (u : (Nat → Int32)) => post (zF (u))) (kB (dC, dI) cl (tX52 d) A (fun u : (Nat → Int32) => (wX52 ci ad d f_thrown f_classes f_things f_axioms f_fuel f_questions f_sorted f_left f_other f_right f_there f_member (u) f_before f_placed f_looked f_fact f_maker f_fired f_firedCount f_needed f_module f_asked))) A) args s 0 0 A) (F0 m 6 ls []) := by
  have hx := X.1.1
  have hb := X.1.2.1
  intro nn
  induction nn with
  | zero =>
    intro x1 f_state hw
    exact False.elim hw
  | succ n ih =>
    intro x1 f_state hw H locs ls hH hl
    rw [wX52_close_6] at hw
    refine lv_iload_n hx hb dX52_close_6 rfl (lv_at hl 1 rfl) ?_
    refine lv_if_eq (tgt := 18) hx hb dX52_close_7 (by decide) (fun c_2 => ?_) (fun c_2 => ?_)
    · have hw := hw.1 (z_eq (rfl : x1.toInt = _) (rfl : (0 : Int32).toInt = 0) c_2)
      exact hk18 f_state hw _ _ ls hH (lv_sub hl [] rfl)
    · have hw := hw.2 (z_neq (rfl : x1.toInt = _) (rfl : (0 : Int32).toInt = 0) c_2)
      refine lv_aload_n hx hb dX52_close_10 rfl (lv_at hl 0 rfl) ?_
      refine k_i0 hH (k_runV (As := []) (rest := []) X hH.1 hH.2.1 X.2.2.2 (walkX52_closeOnce hc (f_thrown := f_thrown) (f_classes := f_classes) (f_things := f_things) (f_axioms := f_axioms) (f_fuel := f_fuel) (f_questions := f_questions) (f_sorted := f_sorted) (f_left := f_left) (f_other := f_other) (f_right := f_right) (f_there := f_there) (f_member := f_member) (f_state := f_state) (f_before := f_before) (f_placed := f_placed) (f_looked := f_looked) (f_fact := f_fact) (f_maker := f_maker) (f_fired := f_fired) (f_firedCount := f_firedCount) (f_needed := f_needed) (f_module := f_module) (f_asked := f_asked) hw) (cwV 0 X.1.2.2.2.2 gX52_86 rfl rfl rfl hX52_closeOnce ⟨Nat.le_of_ble_eq_true rfl, Nat.le_of_ble_eq_true rfl⟩) hc (q0 := 0) rfl rfl hl.1 rfl (Nat.le_of_ble_eq_true rfl) dX52_close_11 ⟨Nat.le_refl 0, Nat.le_refl 0⟩) (fun r_3 u H locs hw hH => ?_)
      obtain ⟨f_state_4, eu⟩ : ∃ z, z = u := ⟨_, rfl⟩
      subst eu
      have hH : kH (dC, dI) cl A s.heap H locs (wX52 ci ad d f_thrown f_classes f_things f_axioms f_fuel f_questions f_sorted f_left f_other f_right f_there f_member f_state_4 f_before f_placed f_looked f_fact f_maker f_fired f_firedCount f_needed f_module f_asked) := hH
      refine lv_istore_n (lv' := [(1, .int r_3), (0, .ref (ad 0))]) hx hb dX52_close_14 rfl hl (by decide) rfl (fun ls hl => ?_)
      refine lv_goto (tgt := 6) hx hb dX52_close_15 (by decide) ?_
      exact ih r_3 f_state_4 hw _ _ ls hH (lv_sub hl [1, 0] rfl)
set_option maxHeartbeats 4000000 in
theorem walkX52_close {l : Launch} {dC : Nat → ClassId} {dI : Nat → Nat → Nat} {cl : List vw_C} {ci : Nat} (hc : cl[ci]? = some (RX52, TX52, 23)) {ad : Nat → Nat} {d : Nat → ClassId} {sz : Nat} {f_thrown : Int32} {f_classes : Int32} {f_things : Int32} {f_axioms : Int32} {f_fuel : Int32} {f_questions : Int32} {f_sorted : Int32} {f_left : Nat → Int32} {f_other : Nat → Int32} {f_right : Nat → Int32} {f_there : Nat → Int32} {f_member : Nat → Int32} {f_state : Nat → Int32} {f_before : Nat → Int32} {f_placed : Nat → Int32} {f_looked : Nat → Int32} {f_fact : Nat → Int32} {f_maker : Nat → Int32} {f_fired : Nat → Int32} {f_firedCount : Int32} {f_needed : Nat → Int32} {f_module : Nat → Int32} {f_asked : Int32}  {post : (Int → Int) → Prop} (hw : wpX52_close post f_classes.toInt f_axioms.toInt (zF f_left) (zF f_other) (zF f_right) (zF f_there) (zF f_state) ) :
    Met l yX52_close (ws_ yX52_close cX52_close 2 none) ({ frames := 3, cells := 0, slots := 0, locals := 72 } : Room) (kPc (dC, dI) cl (tX52 d) [.ref (ad 0)] sz (wX52 ci ad d f_thrown f_classes f_things f_axioms f_fuel f_questions f_sorted f_left f_other f_right f_there f_member f_state f_before f_placed f_looked f_fact f_maker f_fired f_firedCount f_needed f_module f_asked)) (va_Qv (fun (u : (Nat → Int32)) => post (zF (u))) (kB (dC, dI) cl (tX52 d) (va_A (wX52 ci ad d f_thrown f_classes f_things f_axioms f_fuel f_questions f_sorted f_left f_other f_right f_there f_member f_state f_before f_placed f_looked f_fact f_maker f_fired f_firedCount f_needed f_module f_asked) sz) (fun u : (Nat → Int32) => (wX52 ci ad d f_thrown f_classes f_things f_axioms f_fuel f_questions f_sorted f_left f_other f_right f_there f_member (u) f_before f_placed f_looked f_fact f_maker f_fired f_firedCount f_needed f_module f_asked))) (va_A (wX52 ci ad d f_thrown f_classes f_things f_axioms f_fuel f_questions f_sorted f_left f_other f_right f_there f_member f_state f_before f_placed f_looked f_fact f_maker f_fired f_firedCount f_needed f_module f_asked) sz)) 0 0 (va_A (wX52 ci ad d f_thrown f_classes f_things f_axioms f_fuel f_questions f_sorted f_left f_other f_right f_there f_member f_state f_before f_placed f_looked f_fact f_maker f_fired f_firedCount f_needed f_module f_asked) sz) := by
  refine k_enter (by decide) (Nat.le_of_ble_eq_true rfl) ?_
  intro p e s m below meth c ls X hsz hH hl
  subst hsz
  generalize va_A (wX52 ci ad d f_thrown f_classes f_things f_axioms f_fuel f_questions f_sorted f_left f_other f_right f_there f_member f_state f_before f_placed f_looked f_fact f_maker f_fired f_firedCount f_needed f_module f_asked) s.heap.size = A at hH ⊢
  have hx := X.1.1
  have hb := X.1.2.1
  have hl : lv_has ls 2 [(0, .ref (ad 0))] := hl
  unfold wpX52_close at hw
  refine lv_aload_n hx hb dX52_close_0 rfl (lv_at hl 0 rfl) ?_
  refine k_v0 hH (k_runV (As := []) (rest := []) X hH.1 hH.2.1 X.2.2.2 (walkX52_tellItself hc (f_thrown := f_thrown) (f_classes := f_classes) (f_things := f_things) (f_axioms := f_axioms) (f_fuel := f_fuel) (f_questions := f_questions) (f_sorted := f_sorted) (f_left := f_left) (f_other := f_other) (f_right := f_right) (f_there := f_there) (f_member := f_member) (f_state := f_state) (f_before := f_before) (f_placed := f_placed) (f_looked := f_looked) (f_fact := f_fact) (f_maker := f_maker) (f_fired := f_fired) (f_firedCount := f_firedCount) (f_needed := f_needed) (f_module := f_module) (f_asked := f_asked) hw) (cwV 0 X.1.2.2.2.2 gX52_83 rfl rfl rfl hX52_tellItself ⟨Nat.le_of_ble_eq_true rfl, Nat.le_of_ble_eq_true rfl⟩) hc (q0 := 0) rfl rfl hl.1 rfl (Nat.le_of_ble_eq_true rfl) dX52_close_1 ⟨Nat.le_refl 0, Nat.le_refl 0⟩) (fun u H locs hw hH => ?_)
  obtain ⟨f_state_1, eu⟩ : ∃ z, z = u := ⟨_, rfl⟩
  subst eu
  have hH : kH (dC, dI) cl A s.heap H locs (wX52 ci ad d f_thrown f_classes f_things f_axioms f_fuel f_questions f_sorted f_left f_other f_right f_there f_member f_state_1 f_before f_placed f_looked f_fact f_maker f_fired f_firedCount f_needed f_module f_asked) := hH
  refine lv_iconst (v := 1) hx hb dX52_close_4 (by decide) ?_
  refine lv_istore_n (lv' := [(1, .int 1), (0, .ref (ad 0))]) hx hb dX52_close_5 rfl hl (by decide) rfl (fun ls hl => ?_)
  obtain ⟨fu, hw⟩ := hw
  refine atX52_close_6 hc X ?_ fu 1 f_state_1 hw _ _ ls hH (lv_sub hl [1, 0] rfl)
  · intro f_state_5 hw H locs ls hH hl
    exact k_vret X hH (f_state_5) hw rfl dX52_close_18
set_option maxHeartbeats 4000000 in
theorem atX52_axiom_94 {p : Program} {l : Launch} {e : Env} {s : State} {m : MethodId} {args : Array Value} {below : List Frame} {meth : Method} {c : Code} {dC : Nat → ClassId} {dI : Nat → Nat → Nat} {cl : List vw_C} {ci : Nat} (hc : cl[ci]? = some (RX52, TX52, 23)) {ad : Nat → Nat} {d : Nat → ClassId} {A : Nat → Prop} {post : Int → Int → Int → (Int → Int) → (Int → Int) → (Int → Int) → (Int → Int) → (Int → Int) → (Int → Int) → Prop} {f_thrown : Int32} {f_classes : Int32} {f_things : Int32} {f_fuel : Int32} {f_questions : Int32} {f_member : Nat → Int32} {f_before : Nat → Int32} {f_placed : Nat → Int32} {f_looked : Nat → Int32} {f_fact : Nat → Int32} {f_maker : Nat → Int32} {f_fired : Nat → Int32} {f_firedCount : Int32} {f_needed : Nat → Int32} {f_asked : Int32} (X : kX p s m args meth c cX52_axiom 4 RX52 (some .int) (dC, dI) cl (tX52 d))     :
    ∀ (y1 : Int32) (y2 : Int32) (f_axioms : Int32) (f_sorted : Int32) (f_left : Nat → Int32) (f_other : Nat → Int32) (f_right : Nat → Int32) (f_there : Nat → Int32) (f_state : Nat → Int32) (f_module : Nat → Int32), wX52_axiom_94 post y1.toInt y2.toInt f_classes.toInt f_axioms.toInt (zF f_left) (zF f_other) (zF f_right) (zF f_there) (zF f_state) (zF f_module) → ∀ (H : Heap) (locs : List Loc) (ls : Array Slot), kH (dC, dI) cl A s.heap H locs (wX52 ci ad d f_thrown f_classes f_things f_axioms f_fuel f_questions f_sorted f_left f_other f_right f_there f_member f_state f_before f_placed f_looked f_fact f_maker f_fired f_firedCount f_needed f_module f_asked) → lv_has ls 4 [(0, .ref (ad 0))] → W p l e ({ frames := 4, cells := 0, slots := 0, locals := 93 } : Room) s m args below meth c H locs 0 0 (MQ below (va_Qi (fun (r : Int32) (u : Int32 × Int32 × (Nat → Int32) × (Nat → Int32) × (Nat → Int32) × (Nat → Int32) × (Nat → Int32) × (Nat → Int32)) => post r.toInt (u.1).toInt (u.2.1).toInt (zF (u.2.2.1)) (zF (u.2.2.2.1)) (zF (u.2.2.2.2.1)) (zF (u.2.2.2.2.2.1)) (zF (u.2.2.2.2.2.2.1)) (zF (u.2.2.2.2.2.2.2))) (kB (dC, dI) cl (tX52 d) A (fun u : Int32 × Int32 × (Nat → Int32) × (Nat → Int32) × (Nat → Int32) × (Nat → Int32) × (Nat → Int32) × (Nat → Int32) => (wX52 ci ad d f_thrown f_classes f_things (u.1) f_fuel f_questions (u.2.1) (u.2.2.1) (u.2.2.2.1) (u.2.2.2.2.1) (u.2.2.2.2.2.1) f_member (u.2.2.2.2.2.2.1) f_before f_placed f_looked f_fact f_maker f_fired f_firedCount f_needed (u.2.2.2.2.2.2.2) f_asked))) A) args s 0 0 A) (F0 m 94 ls [.int y2, .int y1, .ref (ad 3)]) := by
  have hx := X.1.1
  have hb := X.1.2.1
  intro y1 y2 f_axioms f_sorted f_left f_other f_right f_there f_state f_module hw H locs ls hH hl
  unfold wX52_axiom_94 at hw
  have hq_12 := hw.1
  have hw := hw.2
  obtain ⟨f_right_11, ef_right_11⟩ : ∃ y : Nat → Int32, y = upd f_right y1.toNatClampNeg y2 := ⟨_, rfl⟩
  refine k_iast X hH 3 2 rfl rfl (z_in (rfl : y1.toInt = _) hq_12) dX52_axiom_94 ef_right_11 (ws1 := (wX52 ci ad d f_thrown f_classes f_things f_axioms f_fuel f_questions f_sorted f_left f_other f_right_11 f_there f_member f_state f_before f_placed f_looked f_fact f_maker f_fired f_firedCount f_needed f_module f_asked)) rfl (fun H locs hH => ?_)
  have hw := hw (zF f_right_11) (by rw [ef_right_11]; exact z_st (f := f_right) (rfl : y1.toInt = _) hq_12.1 (rfl : y2.toInt = _))
  refine lv_aload_n hx hb dX52_axiom_95 rfl (lv_at hl 0 rfl) ?_
  refine k_get X hH in_X52 0 rfl hc 10 (by decide) q6391 rfl dX52_axiom_96 ?_
  refine lv_aload_n hx hb dX52_axiom_99 rfl (lv_at hl 0 rfl) ?_
  refine k_get X hH in_X52 0 rfl hc 3 (by decide) q6384 rfl dX52_axiom_100 ?_
  refine lv_iconst (v := 1) hx hb dX52_axiom_103 (by decide) ?_
  have hq_14 := hw.1
  have hw := hw.2
  obtain ⟨f_there_13, ef_there_13⟩ : ∃ y : Nat → Int32, y = upd f_there f_axioms.toNatClampNeg (vp_nar .boolean 1) := ⟨_, rfl⟩
  refine k_zast X hH 4 3 rfl rfl (z_in (rfl : f_axioms.toInt = _) hq_14) dX52_axiom_104 ef_there_13 (ws1 := (wX52 ci ad d f_thrown f_classes f_things f_axioms f_fuel f_questions f_sorted f_left f_other f_right_11 f_there_13 f_member f_state f_before f_placed f_looked f_fact f_maker f_fired f_firedCount f_needed f_module f_asked)) rfl (fun H locs hH => ?_)
  have hw := hw (zF f_there_13) (by rw [ef_there_13]; exact z_st (f := f_there) (rfl : f_axioms.toInt = _) hq_14.1 (z_narZ (rfl : (1 : Int32).toInt = 1) (by decide)))
  refine lv_aload_n hx hb dX52_axiom_105 rfl (lv_at hl 0 rfl) ?_
  refine lv_dup hx hb dX52_axiom_106 rfl ?_
  refine k_get X hH in_X52 0 rfl hc 3 (by decide) q6384 rfl dX52_axiom_107 ?_
  refine lv_iconst (v := 1) hx hb dX52_axiom_110 (by decide) ?_
  refine lv_iadd hx hb dX52_axiom_111 ?_
  have e_15 := z_add (z_m (rfl : f_axioms.toInt = _)) (z_m (rfl : (1 : Int32).toInt = 1))
  have hq_16 := hw.1
  have hw := hw.2
  have e_17 := z_x e_15 hq_16
  refine lv_topi (fun f_axioms_18 ef_axioms_18 => ?_)
  have hw := hw f_axioms_18.toInt (by rw [ef_axioms_18]; exact e_17)
  refine k_put X hH in_X52 tyX52_ok nmX52 0 rfl hc 3 (by decide) q6384 rfl (ty := .int) rfl rfl rfl (Nat.le_of_ble_eq_true rfl) dX52_axiom_112 (ws1 := (wX52 ci ad d f_thrown f_classes f_things f_axioms_18 f_fuel f_questions f_sorted f_left f_other f_right_11 f_there_13 f_member f_state f_before f_placed f_looked f_fact f_maker f_fired f_firedCount f_needed f_module f_asked)) rfl (fun H locs hH => ?_)
  refine lv_aload_n hx hb dX52_axiom_115 rfl (lv_at hl 0 rfl) ?_
  refine lv_iconst (v := 0) hx hb dX52_axiom_116 (by decide) ?_
  refine k_put X hH in_X52 tyX52_ok nmX52 0 rfl hc 6 (by decide) q6387 rfl (ty := .boolean) rfl rfl rfl (Nat.le_of_ble_eq_true rfl) dX52_axiom_117 (ws1 := (wX52 ci ad d f_thrown f_classes f_things f_axioms_18 f_fuel f_questions 0 f_left f_other f_right_11 f_there_13 f_member f_state f_before f_placed f_looked f_fact f_maker f_fired f_firedCount f_needed f_module f_asked)) rfl (fun H locs hH => ?_)
  refine lv_aload_n hx hb dX52_axiom_120 rfl (lv_at hl 0 rfl) ?_
  refine lv_aload_n hx hb dX52_axiom_121 rfl (lv_at hl 0 rfl) ?_
  refine k_get X hH in_X52 0 rfl hc 3 (by decide) q6384 rfl dX52_axiom_122 ?_
  refine lv_iconst (v := 1) hx hb dX52_axiom_125 (by decide) ?_
  refine lv_isub hx hb dX52_axiom_126 ?_
  have e_19 := z_sub (z_m (rfl : f_axioms_18.toInt = _)) (z_m (rfl : (1 : Int32).toInt = 1))
  refine lv_iconst (v := 0) hx hb dX52_axiom_127 (by decide) ?_
  have hq_20 := hw.1
  have hw := hw.2
  have e_21 := z_x e_19 hq_20
  refine k_v0 hH (k_runV (As := [.int (f_axioms_18 - 1), .int 0]) (rest := []) X hH.1 hH.2.1 X.2.2.2 (walkX52_forget hc (x1 := (f_axioms_18 - 1)) (x2 := 0) (f_thrown := f_thrown) (f_classes := f_classes) (f_things := f_things) (f_axioms := f_axioms_18) (f_fuel := f_fuel) (f_questions := f_questions) (f_sorted := 0) (f_left := f_left) (f_other := f_other) (f_right := f_right_11) (f_there := f_there_13) (f_member := f_member) (f_state := f_state) (f_before := f_before) (f_placed := f_placed) (f_looked := f_looked) (f_fact := f_fact) (f_maker := f_maker) (f_fired := f_fired) (f_firedCount := f_firedCount) (f_needed := f_needed) (f_module := f_module) (f_asked := f_asked) (by rw [show (f_axioms_18 - 1 : Int32).toInt = _ from e_21]; exact hw)) (cwV 2 X.1.2.2.2.2 gX52_110 rfl rfl rfl hX52_forget ⟨Nat.le_of_ble_eq_true rfl, Nat.le_of_ble_eq_true rfl⟩) hc (q0 := 0) rfl rfl hl.1 rfl (Nat.le_of_ble_eq_true rfl) dX52_axiom_128 ⟨Nat.le_refl 0, Nat.le_refl 0⟩) (fun u H locs hw hH => ?_)
  obtain ⟨f_state_22, f_module_23⟩ := u
  have hH : kH (dC, dI) cl A s.heap H locs (wX52 ci ad d f_thrown f_classes f_things f_axioms_18 f_fuel f_questions 0 f_left f_other f_right_11 f_there_13 f_member f_state_22 f_before f_placed f_looked f_fact f_maker f_fired f_firedCount f_needed f_module_23 f_asked) := hH
  refine lv_aload_n hx hb dX52_axiom_131 rfl (lv_at hl 0 rfl) ?_
  refine k_v0 hH (k_runV (As := []) (rest := []) X hH.1 hH.2.1 X.2.2.2 (walkX52_close hc (f_thrown := f_thrown) (f_classes := f_classes) (f_things := f_things) (f_axioms := f_axioms_18) (f_fuel := f_fuel) (f_questions := f_questions) (f_sorted := 0) (f_left := f_left) (f_other := f_other) (f_right := f_right_11) (f_there := f_there_13) (f_member := f_member) (f_state := f_state_22) (f_before := f_before) (f_placed := f_placed) (f_looked := f_looked) (f_fact := f_fact) (f_maker := f_maker) (f_fired := f_fired) (f_firedCount := f_firedCount) (f_needed := f_needed) (f_module := f_module_23) (f_asked := f_asked) hw) (cwV 0 X.1.2.2.2.2 gX52_101 rfl rfl rfl hX52_close ⟨Nat.le_of_ble_eq_true rfl, Nat.le_of_ble_eq_true rfl⟩) hc (q0 := 0) rfl rfl hl.1 rfl (Nat.le_of_ble_eq_true rfl) dX52_axiom_132 ⟨Nat.le_refl 0, Nat.le_refl 0⟩) (fun u H locs hw hH => ?_)
  obtain ⟨f_state_24, eu⟩ : ∃ z, z = u := ⟨_, rfl⟩
  subst eu
  have hH : kH (dC, dI) cl A s.heap H locs (wX52 ci ad d f_thrown f_classes f_things f_axioms_18 f_fuel f_questions 0 f_left f_other f_right_11 f_there_13 f_member f_state_24 f_before f_placed f_looked f_fact f_maker f_fired f_firedCount f_needed f_module_23 f_asked) := hH
  refine lv_aload_n hx hb dX52_axiom_135 rfl (lv_at hl 0 rfl) ?_
  refine k_get X hH in_X52 0 rfl hc 3 (by decide) q6384 rfl dX52_axiom_136 ?_
  refine lv_iconst (v := 1) hx hb dX52_axiom_139 (by decide) ?_
  refine lv_isub hx hb dX52_axiom_140 ?_
  have e_25 := z_sub (z_m (rfl : f_axioms_18.toInt = _)) (z_m (rfl : (1 : Int32).toInt = 1))
  have e_26 := z_x e_25 hq_20
  exact k_iret (v := f_axioms_18 - 1) X hH (f_axioms_18, 0, f_left, f_other, f_right_11, f_there_13, f_state_24, f_module_23) (by rw [show (f_axioms_18 - 1 : Int32).toInt = _ from e_26]; exact hw) rfl rfl dX52_axiom_141
set_option maxHeartbeats 4000000 in
theorem atX52_axiom_36 {p : Program} {l : Launch} {e : Env} {s : State} {m : MethodId} {args : Array Value} {below : List Frame} {meth : Method} {c : Code} {dC : Nat → ClassId} {dI : Nat → Nat → Nat} {cl : List vw_C} {ci : Nat} (hc : cl[ci]? = some (RX52, TX52, 23)) {ad : Nat → Nat} {d : Nat → ClassId} {A : Nat → Prop} {post : Int → Int → Int → (Int → Int) → (Int → Int) → (Int → Int) → (Int → Int) → (Int → Int) → (Int → Int) → Prop} {f_thrown : Int32} {f_classes : Int32} {f_things : Int32} {f_fuel : Int32} {f_questions : Int32} {f_member : Nat → Int32} {f_before : Nat → Int32} {f_placed : Nat → Int32} {f_looked : Nat → Int32} {f_fact : Nat → Int32} {f_maker : Nat → Int32} {f_fired : Nat → Int32} {f_firedCount : Int32} {f_needed : Nat → Int32} {f_asked : Int32} (X : kX p s m args meth c cX52_axiom 4 RX52 (some .int) (dC, dI) cl (tX52 d))     :
    ∀ (x1 : Int32) (x2 : Int32) (x3 : Int32) (f_axioms : Int32) (f_sorted : Int32) (f_left : Nat → Int32) (f_other : Nat → Int32) (f_right : Nat → Int32) (f_there : Nat → Int32) (f_state : Nat → Int32) (f_module : Nat → Int32), wX52_axiom_36 post x1.toInt x2.toInt x3.toInt f_classes.toInt f_axioms.toInt f_sorted.toInt (zF f_left) (zF f_other) (zF f_right) (zF f_there) (zF f_state) (zF f_module) → ∀ (H : Heap) (locs : List Loc) (ls : Array Slot), kH (dC, dI) cl A s.heap H locs (wX52 ci ad d f_thrown f_classes f_things f_axioms f_fuel f_questions f_sorted f_left f_other f_right f_there f_member f_state f_before f_placed f_looked f_fact f_maker f_fired f_firedCount f_needed f_module f_asked) → lv_has ls 4 [(0, .ref (ad 0)), (1, .int x1), (2, .int x2), (3, .int x3)] → W p l e ({ frames := 4, cells := 0, slots := 0, locals := 93 } : Room) s m args below meth c H locs 0 0 (MQ below (va_Qi (fun (r : Int32) (u : Int32 × Int32 × (Nat → Int32) × (Nat → Int32) × (Nat → Int32) × (Nat → Int32) × (Nat → Int32) × (Nat → Int32)) => post r.toInt (u.1).toInt (u.2.1).toInt (zF (u.2.2.1)) (zF (u.2.2.2.1)) (zF (u.2.2.2.2.1)) (zF (u.2.2.2.2.2.1)) (zF (u.2.2.2.2.2.2.1)) (zF (u.2.2.2.2.2.2.2))) (kB (dC, dI) cl (tX52 d) A (fun u : Int32 × Int32 × (Nat → Int32) × (Nat → Int32) × (Nat → Int32) × (Nat → Int32) × (Nat → Int32) × (Nat → Int32) => (wX52 ci ad d f_thrown f_classes f_things (u.1) f_fuel f_questions (u.2.1) (u.2.2.1) (u.2.2.2.1) (u.2.2.2.2.1) (u.2.2.2.2.2.1) f_member (u.2.2.2.2.2.2.1) f_before f_placed f_looked f_fact f_maker f_fired f_firedCount f_needed (u.2.2.2.2.2.2.2) f_asked))) A) args s 0 0 A) (F0 m 36 ls []) := by
  have hx := X.1.1
  have hb := X.1.2.1
  intro x1 x2 x3 f_axioms f_sorted f_left f_other f_right f_there f_state f_module hw H locs ls hH hl
  unfold wX52_axiom_36 at hw
  refine lv_iload_n hx hb dX52_axiom_36 rfl (lv_at hl 2 rfl) ?_
  refine lv_iload_n hx hb dX52_axiom_37 rfl (lv_at hl 1 rfl) ?_
  refine lv_icmp_ne (tgt := 44) hx hb dX52_axiom_38 (by decide) (fun c_5 => ?_) (fun c_5 => ?_)
  · have hw := hw.2 (z_ne (rfl : x2.toInt = _) (rfl : x1.toInt = _) c_5)
    refine lv_aload_n hx hb dX52_axiom_44 rfl (lv_at hl 0 rfl) ?_
    refine k_get X hH in_X52 0 rfl hc 3 (by decide) q6384 rfl dX52_axiom_45 ?_
    refine lv_bipush (v := 40) hx hb dX52_axiom_48 (by decide) ?_
    refine lv_icmp_ne (tgt := 56) hx hb dX52_axiom_50 (by decide) (fun c_6 => ?_) (fun c_6 => ?_)
    · have hw := hw.2 (z_ne (rfl : f_axioms.toInt = _) (rfl : (40 : Int32).toInt = 40) c_6)
      refine lv_aload_n hx hb dX52_axiom_56 rfl (lv_at hl 0 rfl) ?_
      refine k_get X hH in_X52 0 rfl hc 7 (by decide) q6388 rfl dX52_axiom_57 ?_
      refine lv_aload_n hx hb dX52_axiom_60 rfl (lv_at hl 0 rfl) ?_
      refine k_get X hH in_X52 0 rfl hc 3 (by decide) q6384 rfl dX52_axiom_61 ?_
      refine lv_iload_n hx hb dX52_axiom_64 rfl (lv_at hl 1 rfl) ?_
      have hq_8 := hw.1
      have hw := hw.2
      obtain ⟨f_left_7, ef_left_7⟩ : ∃ y : Nat → Int32, y = upd f_left f_axioms.toNatClampNeg x1 := ⟨_, rfl⟩
      refine k_iast X hH 1 0 rfl rfl (z_in (rfl : f_axioms.toInt = _) hq_8) dX52_axiom_65 ef_left_7 (ws1 := (wX52 ci ad d f_thrown f_classes f_things f_axioms f_fuel f_questions f_sorted f_left_7 f_other f_right f_there f_member f_state f_before f_placed f_looked f_fact f_maker f_fired f_firedCount f_needed f_module f_asked)) rfl (fun H locs hH => ?_)
      have hw := hw (zF f_left_7) (by rw [ef_left_7]; exact z_st (f := f_left) (rfl : f_axioms.toInt = _) hq_8.1 (rfl : x1.toInt = _))
      refine lv_aload_n hx hb dX52_axiom_66 rfl (lv_at hl 0 rfl) ?_
      refine k_get X hH in_X52 0 rfl hc 8 (by decide) q6389 rfl dX52_axiom_67 ?_
      refine lv_aload_n hx hb dX52_axiom_70 rfl (lv_at hl 0 rfl) ?_
      refine k_get X hH in_X52 0 rfl hc 3 (by decide) q6384 rfl dX52_axiom_71 ?_
      refine lv_iload_n hx hb dX52_axiom_74 rfl (lv_at hl 2 rfl) ?_
      obtain ⟨f_other_9, ef_other_9⟩ : ∃ y : Nat → Int32, y = upd f_other f_axioms.toNatClampNeg x2 := ⟨_, rfl⟩
      refine k_iast X hH 2 1 rfl rfl (z_in (rfl : f_axioms.toInt = _) hq_8) dX52_axiom_75 ef_other_9 (ws1 := (wX52 ci ad d f_thrown f_classes f_things f_axioms f_fuel f_questions f_sorted f_left_7 f_other_9 f_right f_there f_member f_state f_before f_placed f_looked f_fact f_maker f_fired f_firedCount f_needed f_module f_asked)) rfl (fun H locs hH => ?_)
      have hw := hw (zF f_other_9) (by rw [ef_other_9]; exact z_st (f := f_other) (rfl : f_axioms.toInt = _) hq_8.1 (rfl : x2.toInt = _))
      refine lv_aload_n hx hb dX52_axiom_76 rfl (lv_at hl 0 rfl) ?_
      refine k_get X hH in_X52 0 rfl hc 9 (by decide) q6390 rfl dX52_axiom_77 ?_
      refine lv_aload_n hx hb dX52_axiom_80 rfl (lv_at hl 0 rfl) ?_
      refine k_get X hH in_X52 0 rfl hc 3 (by decide) q6384 rfl dX52_axiom_81 ?_
      refine lv_iload_n hx hb dX52_axiom_84 rfl (lv_at hl 3 rfl) ?_
      refine lv_if_ge (tgt := 93) hx hb dX52_axiom_85 (by decide) (fun c_10 => ?_) (fun c_10 => ?_)
      · have hw := hw.1 (z_le (rfl : (0 : Int32).toInt = 0) (rfl : x3.toInt = _) c_10)
        refine lv_iload_n hx hb dX52_axiom_93 rfl (lv_at hl 3 rfl) ?_
        exact atX52_axiom_94 hc X f_axioms x3 f_axioms f_sorted f_left_7 f_other_9 f_right f_there f_state f_module hw _ _ ls hH (lv_sub hl [0] rfl)
      · have hw := hw.2 (z_nle (rfl : (0 : Int32).toInt = 0) (rfl : x3.toInt = _) c_10)
        refine lv_bipush (v := 20) hx hb dX52_axiom_88 (by decide) ?_
        refine lv_goto (tgt := 94) hx hb dX52_axiom_90 (by decide) ?_
        exact atX52_axiom_94 hc X f_axioms 20 f_axioms f_sorted f_left_7 f_other_9 f_right f_there f_state f_module hw _ _ ls hH (lv_sub hl [0] rfl)
    · have hw := hw.1 (z_eq (rfl : f_axioms.toInt = _) (rfl : (40 : Int32).toInt = 40) c_6)
      refine lv_bipush (v := (-4)) hx hb dX52_axiom_53 (by decide) ?_
      exact k_iret (v := (-4)) X hH (f_axioms, f_sorted, f_left, f_other, f_right, f_there, f_state, f_module) hw rfl rfl dX52_axiom_55
  · have hw := hw.1 (z_eq (rfl : x2.toInt = _) (rfl : x1.toInt = _) c_5)
    refine lv_bipush (v := (-2)) hx hb dX52_axiom_41 (by decide) ?_
    exact k_iret (v := (-2)) X hH (f_axioms, f_sorted, f_left, f_other, f_right, f_there, f_state, f_module) hw rfl rfl dX52_axiom_43
set_option maxHeartbeats 4000000 in
theorem walkX52_axiom {l : Launch} {dC : Nat → ClassId} {dI : Nat → Nat → Nat} {cl : List vw_C} {ci : Nat} (hc : cl[ci]? = some (RX52, TX52, 23)) {ad : Nat → Nat} {d : Nat → ClassId} {sz : Nat} {f_thrown : Int32} {f_classes : Int32} {f_things : Int32} {f_axioms : Int32} {f_fuel : Int32} {f_questions : Int32} {f_sorted : Int32} {f_left : Nat → Int32} {f_other : Nat → Int32} {f_right : Nat → Int32} {f_there : Nat → Int32} {f_member : Nat → Int32} {f_state : Nat → Int32} {f_before : Nat → Int32} {f_placed : Nat → Int32} {f_looked : Nat → Int32} {f_fact : Nat → Int32} {f_maker : Nat → Int32} {f_fired : Nat → Int32} {f_firedCount : Int32} {f_needed : Nat → Int32} {f_module : Nat → Int32} {f_asked : Int32} {x1 : Int32} {x2 : Int32} {x3 : Int32} {post : Int → Int → Int → (Int → Int) → (Int → Int) → (Int → Int) → (Int → Int) → (Int → Int) → (Int → Int) → Prop} (hw : wpX52_axiom post f_classes.toInt f_axioms.toInt f_sorted.toInt (zF f_left) (zF f_other) (zF f_right) (zF f_there) (zF f_state) (zF f_module) x1.toInt x2.toInt x3.toInt) :
    Met l yX52_axiom (ws_ yX52_axiom cX52_axiom 4 (some .int)) ({ frames := 4, cells := 0, slots := 0, locals := 93 } : Room) (kPc (dC, dI) cl (tX52 d) [.ref (ad 0), .int x1, .int x2, .int x3] sz (wX52 ci ad d f_thrown f_classes f_things f_axioms f_fuel f_questions f_sorted f_left f_other f_right f_there f_member f_state f_before f_placed f_looked f_fact f_maker f_fired f_firedCount f_needed f_module f_asked)) (va_Qi (fun (r : Int32) (u : Int32 × Int32 × (Nat → Int32) × (Nat → Int32) × (Nat → Int32) × (Nat → Int32) × (Nat → Int32) × (Nat → Int32)) => post r.toInt (u.1).toInt (u.2.1).toInt (zF (u.2.2.1)) (zF (u.2.2.2.1)) (zF (u.2.2.2.2.1)) (zF (u.2.2.2.2.2.1)) (zF (u.2.2.2.2.2.2.1)) (zF (u.2.2.2.2.2.2.2))) (kB (dC, dI) cl (tX52 d) (va_A (wX52 ci ad d f_thrown f_classes f_things f_axioms f_fuel f_questions f_sorted f_left f_other f_right f_there f_member f_state f_before f_placed f_looked f_fact f_maker f_fired f_firedCount f_needed f_module f_asked) sz) (fun u : Int32 × Int32 × (Nat → Int32) × (Nat → Int32) × (Nat → Int32) × (Nat → Int32) × (Nat → Int32) × (Nat → Int32) => (wX52 ci ad d f_thrown f_classes f_things (u.1) f_fuel f_questions (u.2.1) (u.2.2.1) (u.2.2.2.1) (u.2.2.2.2.1) (u.2.2.2.2.2.1) f_member (u.2.2.2.2.2.2.1) f_before f_placed f_looked f_fact f_maker f_fired f_firedCount f_needed (u.2.2.2.2.2.2.2) f_asked))) (va_A (wX52 ci ad d f_thrown f_classes f_things f_axioms f_fuel f_questions f_sorted f_left f_other f_right f_there f_member f_state f_before f_placed f_looked f_fact f_maker f_fired f_firedCount f_needed f_module f_asked) sz)) 0 0 (va_A (wX52 ci ad d f_thrown f_classes f_things f_axioms f_fuel f_questions f_sorted f_left f_other f_right f_there f_member f_state f_before f_placed f_looked f_fact f_maker f_fired f_firedCount f_needed f_module f_asked) sz) := by
  refine k_enter (by decide) (Nat.le_of_ble_eq_true rfl) ?_
  intro p e s m below meth c ls X hsz hH hl
  subst hsz
  generalize va_A (wX52 ci ad d f_thrown f_classes f_things f_axioms f_fuel f_questions f_sorted f_left f_other f_right f_there f_member f_state f_before f_placed f_looked f_fact f_maker f_fired f_firedCount f_needed f_module f_asked) s.heap.size = A at hH ⊢
  have hx := X.1.1
  have hb := X.1.2.1
  have hl : lv_has ls 4 [(0, .ref (ad 0)), (1, .int x1), (2, .int x2), (3, .int x3)] := hl
  unfold wpX52_axiom at hw
  refine lv_aload_n hx hb dX52_axiom_0 rfl (lv_at hl 0 rfl) ?_
  refine lv_iload_n hx hb dX52_axiom_1 rfl (lv_at hl 1 rfl) ?_
  refine k_i0 hH (k_runV (As := [.int x1]) (rest := []) X hH.1 hH.2.1 X.2.2.2 (walkX52_isClass hc (x1 := x1) (f_thrown := f_thrown) (f_classes := f_classes) (f_things := f_things) (f_axioms := f_axioms) (f_fuel := f_fuel) (f_questions := f_questions) (f_sorted := f_sorted) (f_left := f_left) (f_other := f_other) (f_right := f_right) (f_there := f_there) (f_member := f_member) (f_state := f_state) (f_before := f_before) (f_placed := f_placed) (f_looked := f_looked) (f_fact := f_fact) (f_maker := f_maker) (f_fired := f_fired) (f_firedCount := f_firedCount) (f_needed := f_needed) (f_module := f_module) (f_asked := f_asked) hw) (cwV 1 X.1.2.2.2.2 gX52_63 rfl rfl rfl hX52_isClass ⟨Nat.le_of_ble_eq_true rfl, Nat.le_of_ble_eq_true rfl⟩) hc (q0 := 0) rfl rfl hl.1 rfl (Nat.le_of_ble_eq_true rfl) dX52_axiom_2 ⟨Nat.le_refl 0, Nat.le_refl 0⟩) (fun r_1 _ H locs hw hH => ?_)
  have hH : kH (dC, dI) cl A s.heap H locs (wX52 ci ad d f_thrown f_classes f_things f_axioms f_fuel f_questions f_sorted f_left f_other f_right f_there f_member f_state f_before f_placed f_looked f_fact f_maker f_fired f_firedCount f_needed f_module f_asked) := hH
  refine lv_if_eq (tgt := 34) hx hb dX52_axiom_5 (by decide) (fun c_2 => ?_) (fun c_2 => ?_)
  · have hw := hw.1 (z_eq (rfl : r_1.toInt = _) (rfl : (0 : Int32).toInt = 0) c_2)
    refine lv_iconst (v := (-1)) hx hb dX52_axiom_34 (by decide) ?_
    exact k_iret (v := (-1)) X hH (f_axioms, f_sorted, f_left, f_other, f_right, f_there, f_state, f_module) hw rfl rfl dX52_axiom_35
  · have hw := hw.2 (z_neq (rfl : r_1.toInt = _) (rfl : (0 : Int32).toInt = 0) c_2)
    refine lv_iload_n hx hb dX52_axiom_8 rfl (lv_at hl 2 rfl) ?_
    refine lv_iconst (v := (-1)) hx hb dX52_axiom_9 (by decide) ?_
    refine lv_icmp_eq (tgt := 21) hx hb dX52_axiom_10 (by decide) (fun c_3 => ?_) (fun c_3 => ?_)
    · have hw := hw.1 (z_eq (rfl : x2.toInt = _) (rfl : ((-1) : Int32).toInt = (-1)) c_3)
      refine lv_iload_n hx hb dX52_axiom_21 rfl (lv_at hl 3 rfl) ?_
      refine lv_iconst (v := (-1)) hx hb dX52_axiom_22 (by decide) ?_
      refine lv_icmp_eq (tgt := 36) hx hb dX52_axiom_23 (by decide) (fun c_4 => ?_) (fun c_4 => ?_)
      · have hw := hw.1 (z_eq (rfl : x3.toInt = _) (rfl : ((-1) : Int32).toInt = (-1)) c_4)
        exact atX52_axiom_36 hc X x1 x2 x3 f_axioms f_sorted f_left f_other f_right f_there f_state f_module hw _ _ ls hH (lv_sub hl [0, 1, 2, 3] rfl)
      · have hw := hw.2 (z_neq (rfl : x3.toInt = _) (rfl : ((-1) : Int32).toInt = (-1)) c_4)
        refine lv_aload_n hx hb dX52_axiom_26 rfl (lv_at hl 0 rfl) ?_
        refine lv_iload_n hx hb dX52_axiom_27 rfl (lv_at hl 3 rfl) ?_
        refine k_i0 hH (k_runV (As := [.int x3]) (rest := []) X hH.1 hH.2.1 X.2.2.2 (walkX52_isClass hc (x1 := x3) (f_thrown := f_thrown) (f_classes := f_classes) (f_things := f_things) (f_axioms := f_axioms) (f_fuel := f_fuel) (f_questions := f_questions) (f_sorted := f_sorted) (f_left := f_left) (f_other := f_other) (f_right := f_right) (f_there := f_there) (f_member := f_member) (f_state := f_state) (f_before := f_before) (f_placed := f_placed) (f_looked := f_looked) (f_fact := f_fact) (f_maker := f_maker) (f_fired := f_fired) (f_firedCount := f_firedCount) (f_needed := f_needed) (f_module := f_module) (f_asked := f_asked) hw) (cwV 1 X.1.2.2.2.2 gX52_63 rfl rfl rfl hX52_isClass ⟨Nat.le_of_ble_eq_true rfl, Nat.le_of_ble_eq_true rfl⟩) hc (q0 := 0) rfl rfl hl.1 rfl (Nat.le_of_ble_eq_true rfl) dX52_axiom_28 ⟨Nat.le_refl 0, Nat.le_refl 0⟩) (fun r_27 _ H locs hw hH => ?_)
        have hH : kH (dC, dI) cl A s.heap H locs (wX52 ci ad d f_thrown f_classes f_things f_axioms f_fuel f_questions f_sorted f_left f_other f_right f_there f_member f_state f_before f_placed f_looked f_fact f_maker f_fired f_firedCount f_needed f_module f_asked) := hH
        refine lv_if_ne (tgt := 36) hx hb dX52_axiom_31 (by decide) (fun c_28 => ?_) (fun c_28 => ?_)
        · have hw := hw.2 (z_ne (rfl : r_27.toInt = _) (rfl : (0 : Int32).toInt = 0) c_28)
          exact atX52_axiom_36 hc X x1 x2 x3 f_axioms f_sorted f_left f_other f_right f_there f_state f_module hw _ _ ls hH (lv_sub hl [0, 1, 2, 3] rfl)
        · have hw := hw.1 (z_eq (rfl : r_27.toInt = _) (rfl : (0 : Int32).toInt = 0) c_28)
          refine lv_iconst (v := (-1)) hx hb dX52_axiom_34 (by decide) ?_
          exact k_iret (v := (-1)) X hH (f_axioms, f_sorted, f_left, f_other, f_right, f_there, f_state, f_module) hw rfl rfl dX52_axiom_35
    · have hw := hw.2 (z_neq (rfl : x2.toInt = _) (rfl : ((-1) : Int32).toInt = (-1)) c_3)
      refine lv_aload_n hx hb dX52_axiom_13 rfl (lv_at hl 0 rfl) ?_
      refine lv_iload_n hx hb dX52_axiom_14 rfl (lv_at hl 2 rfl) ?_
      refine k_i0 hH (k_runV (As := [.int x2]) (rest := []) X hH.1 hH.2.1 X.2.2.2 (walkX52_isClass hc (x1 := x2) (f_thrown := f_thrown) (f_classes := f_classes) (f_things := f_things) (f_axioms := f_axioms) (f_fuel := f_fuel) (f_questions := f_questions) (f_sorted := f_sorted) (f_left := f_left) (f_other := f_other) (f_right := f_right) (f_there := f_there) (f_member := f_member) (f_state := f_state) (f_before := f_before) (f_placed := f_placed) (f_looked := f_looked) (f_fact := f_fact) (f_maker := f_maker) (f_fired := f_fired) (f_firedCount := f_firedCount) (f_needed := f_needed) (f_module := f_module) (f_asked := f_asked) hw) (cwV 1 X.1.2.2.2.2 gX52_63 rfl rfl rfl hX52_isClass ⟨Nat.le_of_ble_eq_true rfl, Nat.le_of_ble_eq_true rfl⟩) hc (q0 := 0) rfl rfl hl.1 rfl (Nat.le_of_ble_eq_true rfl) dX52_axiom_15 ⟨Nat.le_refl 0, Nat.le_refl 0⟩) (fun r_29 _ H locs hw hH => ?_)
      have hH : kH (dC, dI) cl A s.heap H locs (wX52 ci ad d f_thrown f_classes f_things f_axioms f_fuel f_questions f_sorted f_left f_other f_right f_there f_member f_state f_before f_placed f_looked f_fact f_maker f_fired f_firedCount f_needed f_module f_asked) := hH
      refine lv_if_eq (tgt := 34) hx hb dX52_axiom_18 (by decide) (fun c_30 => ?_) (fun c_30 => ?_)
      · have hw := hw.1 (z_eq (rfl : r_29.toInt = _) (rfl : (0 : Int32).toInt = 0) c_30)
        refine lv_iconst (v := (-1)) hx hb dX52_axiom_34 (by decide) ?_
        exact k_iret (v := (-1)) X hH (f_axioms, f_sorted, f_left, f_other, f_right, f_there, f_state, f_module) hw rfl rfl dX52_axiom_35
      · have hw := hw.2 (z_neq (rfl : r_29.toInt = _) (rfl : (0 : Int32).toInt = 0) c_30)
        refine lv_iload_n hx hb dX52_axiom_21 rfl (lv_at hl 3 rfl) ?_
        refine lv_iconst (v := (-1)) hx hb dX52_axiom_22 (by decide) ?_
        refine lv_icmp_eq (tgt := 36) hx hb dX52_axiom_23 (by decide) (fun c_31 => ?_) (fun c_31 => ?_)
        · have hw := hw.1 (z_eq (rfl : x3.toInt = _) (rfl : ((-1) : Int32).toInt = (-1)) c_31)
          exact atX52_axiom_36 hc X x1 x2 x3 f_axioms f_sorted f_left f_other f_right f_there f_state f_module hw _ _ ls hH (lv_sub hl [0, 1, 2, 3] rfl)
        · have hw := hw.2 (z_neq (rfl : x3.toInt = _) (rfl : ((-1) : Int32).toInt = (-1)) c_31)
          refine lv_aload_n hx hb dX52_axiom_26 rfl (lv_at hl 0 rfl) ?_
          refine lv_iload_n hx hb dX52_axiom_27 rfl (lv_at hl 3 rfl) ?_
          refine k_i0 hH (k_runV (As := [.int x3]) (rest := []) X hH.1 hH.2.1 X.2.2.2 (walkX52_isClass hc (x1 := x3) (f_thrown := f_thrown) (f_classes := f_classes) (f_things := f_things) (f_axioms := f_axioms) (f_fuel := f_fuel) (f_questions := f_questions) (f_sorted := f_sorted) (f_left := f_left) (f_other := f_other) (f_right := f_right) (f_there := f_there) (f_member := f_member) (f_state := f_state) (f_before := f_before) (f_placed := f_placed) (f_looked := f_looked) (f_fact := f_fact) (f_maker := f_maker) (f_fired := f_fired) (f_firedCount := f_firedCount) (f_needed := f_needed) (f_module := f_module) (f_asked := f_asked) hw) (cwV 1 X.1.2.2.2.2 gX52_63 rfl rfl rfl hX52_isClass ⟨Nat.le_of_ble_eq_true rfl, Nat.le_of_ble_eq_true rfl⟩) hc (q0 := 0) rfl rfl hl.1 rfl (Nat.le_of_ble_eq_true rfl) dX52_axiom_28 ⟨Nat.le_refl 0, Nat.le_refl 0⟩) (fun r_32 _ H locs hw hH => ?_)
          have hH : kH (dC, dI) cl A s.heap H locs (wX52 ci ad d f_thrown f_classes f_things f_axioms f_fuel f_questions f_sorted f_left f_other f_right f_there f_member f_state f_before f_placed f_looked f_fact f_maker f_fired f_firedCount f_needed f_module f_asked) := hH
          refine lv_if_ne (tgt := 36) hx hb dX52_axiom_31 (by decide) (fun c_33 => ?_) (fun c_33 => ?_)
          · have hw := hw.2 (z_ne (rfl : r_32.toInt = _) (rfl : (0 : Int32).toInt = 0) c_33)
            exact atX52_axiom_36 hc X x1 x2 x3 f_axioms f_sorted f_left f_other f_right f_there f_state f_module hw _ _ ls hH (lv_sub hl [0, 1, 2, 3] rfl)
          · have hw := hw.1 (z_eq (rfl : r_32.toInt = _) (rfl : (0 : Int32).toInt = 0) c_33)
            refine lv_iconst (v := (-1)) hx hb dX52_axiom_34 (by decide) ?_
            exact k_iret (v := (-1)) X hH (f_axioms, f_sorted, f_left, f_other, f_right, f_there, f_state, f_module) hw rfl rfl dX52_axiom_35
set_option maxHeartbeats 4000000 in
theorem walkX52_put {l : Launch} {dC : Nat → ClassId} {dI : Nat → Nat → Nat} {cl : List vw_C} {ci : Nat} (hc : cl[ci]? = some (RX52, TX52, 23)) {ad : Nat → Nat} {d : Nat → ClassId} {sz : Nat} {f_thrown : Int32} {f_classes : Int32} {f_things : Int32} {f_axioms : Int32} {f_fuel : Int32} {f_questions : Int32} {f_sorted : Int32} {f_left : Nat → Int32} {f_other : Nat → Int32} {f_right : Nat → Int32} {f_there : Nat → Int32} {f_member : Nat → Int32} {f_state : Nat → Int32} {f_before : Nat → Int32} {f_placed : Nat → Int32} {f_looked : Nat → Int32} {f_fact : Nat → Int32} {f_maker : Nat → Int32} {f_fired : Nat → Int32} {f_firedCount : Int32} {f_needed : Nat → Int32} {f_module : Nat → Int32} {f_asked : Int32} {x1 : Int32} {x2 : Int32} {post : Int → (Int → Int) → Prop} (hw : wpX52_put post f_classes.toInt f_things.toInt (zF f_member) x1.toInt x2.toInt) :
    Met l yX52_put (ws_ yX52_put cX52_put 4 (some .int)) ({ frames := 1, cells := 0, slots := 0, locals := 21 } : Room) (kPc (dC, dI) cl (tX52 d) [.ref (ad 0), .int x1, .int x2] sz (wX52 ci ad d f_thrown f_classes f_things f_axioms f_fuel f_questions f_sorted f_left f_other f_right f_there f_member f_state f_before f_placed f_looked f_fact f_maker f_fired f_firedCount f_needed f_module f_asked)) (va_Qi (fun (r : Int32) (u : (Nat → Int32)) => post r.toInt (zF (u))) (kB (dC, dI) cl (tX52 d) (va_A (wX52 ci ad d f_thrown f_classes f_things f_axioms f_fuel f_questions f_sorted f_left f_other f_right f_there f_member f_state f_before f_placed f_looked f_fact f_maker f_fired f_firedCount f_needed f_module f_asked) sz) (fun u : (Nat → Int32) => (wX52 ci ad d f_thrown f_classes f_things f_axioms f_fuel f_questions f_sorted f_left f_other f_right f_there (u) f_state f_before f_placed f_looked f_fact f_maker f_fired f_firedCount f_needed f_module f_asked))) (va_A (wX52 ci ad d f_thrown f_classes f_things f_axioms f_fuel f_questions f_sorted f_left f_other f_right f_there f_member f_state f_before f_placed f_looked f_fact f_maker f_fired f_firedCount f_needed f_module f_asked) sz)) 0 0 (va_A (wX52 ci ad d f_thrown f_classes f_things f_axioms f_fuel f_questions f_sorted f_left f_other f_right f_there f_member f_state f_before f_placed f_looked f_fact f_maker f_fired f_firedCount f_needed f_module f_asked) sz) := by
  refine k_enter (by decide) (Nat.le_of_ble_eq_true rfl) ?_
  intro p e s m below meth c ls X hsz hH hl
  subst hsz
  generalize va_A (wX52 ci ad d f_thrown f_classes f_things f_axioms f_fuel f_questions f_sorted f_left f_other f_right f_there f_member f_state f_before f_placed f_looked f_fact f_maker f_fired f_firedCount f_needed f_module f_asked) s.heap.size = A at hH ⊢
  have hx := X.1.1
  have hb := X.1.2.1
  have hl : lv_has ls 4 [(0, .ref (ad 0)), (1, .int x1), (2, .int x2)] := hl
  unfold wpX52_put at hw
  refine lv_iload_n hx hb dX52_put_0 rfl (lv_at hl 1 rfl) ?_
  refine lv_if_lt (tgt := 20) hx hb dX52_put_1 (by decide) (fun c_1 => ?_) (fun c_1 => ?_)
  · have hw := hw.1 (z_lt (rfl : x1.toInt = _) (rfl : (0 : Int32).toInt = 0) c_1)
    refine lv_iconst (v := (-1)) hx hb dX52_put_20 (by decide) ?_
    exact k_iret (v := (-1)) X hH (f_member) hw rfl rfl dX52_put_21
  · have hw := hw.2 (z_nlt (rfl : x1.toInt = _) (rfl : (0 : Int32).toInt = 0) c_1)
    refine lv_iload_n hx hb dX52_put_4 rfl (lv_at hl 1 rfl) ?_
    refine lv_aload_n hx hb dX52_put_5 rfl (lv_at hl 0 rfl) ?_
    refine k_get X hH in_X52 0 rfl hc 2 (by decide) q6383 rfl dX52_put_6 ?_
    refine lv_icmp_ge (tgt := 20) hx hb dX52_put_9 (by decide) (fun c_2 => ?_) (fun c_2 => ?_)
    · have hw := hw.1 (z_le (rfl : f_things.toInt = _) (rfl : x1.toInt = _) c_2)
      refine lv_iconst (v := (-1)) hx hb dX52_put_20 (by decide) ?_
      exact k_iret (v := (-1)) X hH (f_member) hw rfl rfl dX52_put_21
    · have hw := hw.2 (z_nle (rfl : f_things.toInt = _) (rfl : x1.toInt = _) c_2)
      refine lv_aload_n hx hb dX52_put_12 rfl (lv_at hl 0 rfl) ?_
      refine lv_iload_n hx hb dX52_put_13 rfl (lv_at hl 2 rfl) ?_
      refine k_i0 hH (k_runV (As := [.int x2]) (rest := []) X hH.1 hH.2.1 X.2.2.2 (walkX52_isClass hc (x1 := x2) (f_thrown := f_thrown) (f_classes := f_classes) (f_things := f_things) (f_axioms := f_axioms) (f_fuel := f_fuel) (f_questions := f_questions) (f_sorted := f_sorted) (f_left := f_left) (f_other := f_other) (f_right := f_right) (f_there := f_there) (f_member := f_member) (f_state := f_state) (f_before := f_before) (f_placed := f_placed) (f_looked := f_looked) (f_fact := f_fact) (f_maker := f_maker) (f_fired := f_fired) (f_firedCount := f_firedCount) (f_needed := f_needed) (f_module := f_module) (f_asked := f_asked) hw) (cwV 1 X.1.2.2.2.2 gX52_63 rfl rfl rfl hX52_isClass ⟨Nat.le_of_ble_eq_true rfl, Nat.le_of_ble_eq_true rfl⟩) hc (q0 := 0) rfl rfl hl.1 rfl (Nat.le_of_ble_eq_true rfl) dX52_put_14 ⟨Nat.le_refl 0, Nat.le_refl 0⟩) (fun r_3 _ H locs hw hH => ?_)
      have hH : kH (dC, dI) cl A s.heap H locs (wX52 ci ad d f_thrown f_classes f_things f_axioms f_fuel f_questions f_sorted f_left f_other f_right f_there f_member f_state f_before f_placed f_looked f_fact f_maker f_fired f_firedCount f_needed f_module f_asked) := hH
      refine lv_if_ne (tgt := 22) hx hb dX52_put_17 (by decide) (fun c_4 => ?_) (fun c_4 => ?_)
      · have hw := hw.2 (z_ne (rfl : r_3.toInt = _) (rfl : (0 : Int32).toInt = 0) c_4)
        refine lv_aload_n hx hb dX52_put_22 rfl (lv_at hl 0 rfl) ?_
        refine k_get X hH in_X52 0 rfl hc 11 (by decide) q6392 rfl dX52_put_23 ?_
        refine lv_bipush (v := 20) hx hb dX52_put_26 (by decide) ?_
        refine lv_iload_n hx hb dX52_put_28 rfl (lv_at hl 1 rfl) ?_
        refine lv_imul hx hb dX52_put_29 ?_
        have e_5 := z_mul (z_m (rfl : (20 : Int32).toInt = 20)) (z_m (rfl : x1.toInt = _))
        refine lv_iload_n hx hb dX52_put_30 rfl (lv_at hl 2 rfl) ?_
        refine lv_iadd hx hb dX52_put_31 ?_
        have e_6 := z_add e_5 (z_m (rfl : x2.toInt = _))
        have hq_7 := hw.1
        have hw := hw.2
        have e_8 := z_xi e_6 hq_7 (by decide)
        refine k_zald X hH 5 4 rfl rfl (z_in e_8 hq_7) dX52_put_32 ?_
        have e_9 := z_ld (f := f_member) e_8 hq_7.1
        refine lv_topi (fun x3_10 ex3_10 => ?_)
        have hw := hw x3_10.toInt (by rw [ex3_10]; exact e_9)
        refine lv_istore_n (lv' := [(3, .int x3_10), (0, .ref (ad 0)), (1, .int x1), (2, .int x2)]) hx hb dX52_put_33 rfl hl (by decide) rfl (fun ls hl => ?_)
        refine lv_aload_n hx hb dX52_put_34 rfl (lv_at hl 1 rfl) ?_
        refine k_get X hH in_X52 0 rfl hc 11 (by decide) q6392 rfl dX52_put_35 ?_
        refine lv_bipush (v := 20) hx hb dX52_put_38 (by decide) ?_
        refine lv_iload_n hx hb dX52_put_40 rfl (lv_at hl 2 rfl) ?_
        refine lv_imul hx hb dX52_put_41 ?_
        have e_11 := z_mul (z_m (rfl : (20 : Int32).toInt = 20)) (z_m (rfl : x1.toInt = _))
        refine lv_iload_n hx hb dX52_put_42 rfl (lv_at hl 3 rfl) ?_
        refine lv_iadd hx hb dX52_put_43 ?_
        have e_12 := z_add e_11 (z_m (rfl : x2.toInt = _))
        refine lv_iconst (v := 1) hx hb dX52_put_44 (by decide) ?_
        have e_14 := z_xi e_12 hq_7 (by decide)
        obtain ⟨f_member_13, ef_member_13⟩ : ∃ y : Nat → Int32, y = upd f_member ((20 * x1) + x2).toNatClampNeg (vp_nar .boolean 1) := ⟨_, rfl⟩
        refine k_zast X hH 5 4 rfl rfl (z_in e_14 hq_7) dX52_put_45 ef_member_13 (ws1 := (wX52 ci ad d f_thrown f_classes f_things f_axioms f_fuel f_questions f_sorted f_left f_other f_right f_there f_member_13 f_state f_before f_placed f_looked f_fact f_maker f_fired f_firedCount f_needed f_module f_asked)) rfl (fun H locs hH => ?_)
        have hw := hw (zF f_member_13) (by rw [ef_member_13]; exact z_st (f := f_member) e_14 hq_7.1 (z_narZ (rfl : (1 : Int32).toInt = 1) (by decide)))
        refine lv_iload_n hx hb dX52_put_46 rfl (lv_at hl 0 rfl) ?_
        refine lv_if_eq (tgt := 54) hx hb dX52_put_47 (by decide) (fun c_15 => ?_) (fun c_15 => ?_)
        · have hw := hw.1 (z_eq (rfl : x3_10.toInt = _) (rfl : (0 : Int32).toInt = 0) c_15)
          refine lv_iconst (v := 1) hx hb dX52_put_54 (by decide) ?_
          exact k_iret (v := 1) X hH (f_member_13) hw rfl rfl dX52_put_55
        · have hw := hw.2 (z_neq (rfl : x3_10.toInt = _) (rfl : (0 : Int32).toInt = 0) c_15)
          refine lv_iconst (v := 0) hx hb dX52_put_50 (by decide) ?_
          refine lv_goto (tgt := 55) hx hb dX52_put_51 (by decide) ?_
          exact k_iret (v := 0) X hH (f_member_13) hw rfl rfl dX52_put_55
      · have hw := hw.1 (z_eq (rfl : r_3.toInt = _) (rfl : (0 : Int32).toInt = 0) c_4)
        refine lv_iconst (v := (-1)) hx hb dX52_put_20 (by decide) ?_
        exact k_iret (v := (-1)) X hH (f_member) hw rfl rfl dX52_put_21
set_option maxHeartbeats 4000000 in
theorem atX52_reason_7 {p : Program} {l : Launch} {e : Env} {s : State} {m : MethodId} {args : Array Value} {below : List Frame} {meth : Method} {c : Code} {dC : Nat → ClassId} {dI : Nat → Nat → Nat} {cl : List vw_C} {ci : Nat} (hc : cl[ci]? = some (RX52, TX52, 23)) {ad : Nat → Nat} {d : Nat → ClassId} {A : Nat → Prop} {post : Int → (Int → Int) → (Int → Int) → (Int → Int) → Int → Prop} {f_thrown : Int32} {f_classes : Int32} {f_things : Int32} {f_axioms : Int32} {f_fuel : Int32} {f_questions : Int32} {f_sorted : Int32} {f_left : Nat → Int32} {f_other : Nat → Int32} {f_right : Nat → Int32} {f_there : Nat → Int32} {f_member : Nat → Int32} {f_state : Nat → Int32} {f_before : Nat → Int32} {f_placed : Nat → Int32} {f_looked : Nat → Int32} {f_needed : Nat → Int32} {f_module : Nat → Int32} {f_asked : Int32} (X : kX p s m args meth c cX52_reason 5 RX52 (some .int) (dC, dI) cl (tX52 d)) {K26 : (Int → Int) → Prop} {x1 : Int32} {f_fact : Nat → Int32} {f_fired : Nat → Int32} {f_firedCount : Int32} (hk26 : ∀ (f_maker : Nat → Int32), K26 (zF f_maker) → ∀ (H : Heap) (locs : List Loc) (ls : Array Slot), kH (dC, dI) cl A s.heap H locs (wX52 ci ad d f_thrown f_classes f_things f_axioms f_fuel f_questions f_sorted f_left f_other f_right f_there f_member f_state f_before f_placed f_looked f_fact f_maker f_fired f_firedCount f_needed f_module f_asked) → lv_has ls 5 [(0, .ref (ad 0)), (1, .int x1)] → W p l e ({ frames := 0, cells := 0, slots := 0, locals := 0 } : Room) s m args below meth c H locs 0 0 (MQ below (va_Qi (fun (r : Int32) (u : (Nat → Int32) × (Nat → Int32) × (Nat → Int32) × Int32) => post r.toInt (zF (u.1)) (zF (u.2.1)) (zF (u.2.2.1)) (u.2.2.2).toInt) (kB (dC, dI) cl (tX52 d) A (fun u : (Nat → Int32) × (Nat → Int32) × (Nat → Int32) × Int32 => (wX52 ci ad d f_thrown f_classes f_things f_axioms f_fuel f_questions f_sorted f_left f_other f_right f_there f_member f_state f_before f_placed f_looked (u.1) (u.2.1) (u.2.2.1) (u.2.2.2) f_needed f_module f_asked))) A) args s 0 0 A) (F0 m 26 ls [])) :
    ∀ (nn : Nat) (x2 : Int32) (f_maker : Nat → Int32), wX52_reason_7 K26 nn x2.toInt (zF f_maker) → ∀ (H : Heap) (locs : List Loc) (ls : Array Slot), kH (dC, dI) cl A s.heap H locs (wX52 ci ad d f_thrown f_classes f_things f_axioms f_fuel f_questions f_sorted f_left f_other f_right f_there f_member f_state f_before f_placed f_looked f_fact f_maker f_fired f_firedCount f_needed f_module f_asked) → lv_has ls 5 [(0, .ref (ad 0)), (1, .int x1), (2, .int x2)] → W p l e ({ frames := 0, cells := 0, slots := 0, locals := 0 } : Room) s m args below meth c H locs 0 0 (MQ below (va_Qi (fun (r : Int32) (u : (Nat → Int32) × (Nat → Int32) × (Nat → Int32) × Int32) => post r.toInt (zF (u.1)) (zF (u.2.1)) (zF (u.2.2.1)) (u.2.2.2).toInt) (kB (dC, dI) cl (tX52 d) A (fun u : (Nat → Int32) × (Nat → Int32) × (Nat → Int32) × Int32 => (wX52 ci ad d f_thrown f_classes f_things f_axioms f_fuel f_questions f_sorted f_left f_other f_right f_there f_member f_state f_before f_placed f_looked (u.1) (u.2.1) (u.2.2.1) (u.2.2.2) f_needed f_module f_asked))) A) args s 0 0 A) (F0 m 7 ls []) := by
  have hx := X.1.1
  have hb := X.1.2.1
  intro nn
  induction nn with
  | zero =>
    intro x2 f_maker hw
    exact False.elim hw
  | succ n ih =>
    intro x2 f_maker hw H locs ls hH hl
    rw [wX52_reason_7] at hw
    refine lv_iload_n hx hb dX52_reason_7 rfl (lv_at hl 2 rfl) ?_
    refine lv_bipush (v := 20) hx hb dX52_reason_8 (by decide) ?_
    refine lv_icmp_gt (tgt := 26) hx hb dX52_reason_10 (by decide) (fun c_1 => ?_) (fun c_1 => ?_)
    · have hw := hw.1 (z_lt (rfl : (20 : Int32).toInt = 20) (rfl : x2.toInt = _) c_1)
      exact hk26 f_maker hw _ _ ls hH (lv_sub hl [0, 1] rfl)
    · have hw := hw.2 (z_nlt (rfl : (20 : Int32).toInt = 20) (rfl : x2.toInt = _) c_1)
      refine lv_aload_n hx hb dX52_reason_13 rfl (lv_at hl 0 rfl) ?_
      refine k_get X hH in_X52 0 rfl hc 17 (by decide) q6398 rfl dX52_reason_14 ?_
      refine lv_iload_n hx hb dX52_reason_17 rfl (lv_at hl 2 rfl) ?_
      refine lv_iconst (v := (-1)) hx hb dX52_reason_18 (by decide) ?_
      have hq_3 := hw.1
      have hw := hw.2
      obtain ⟨f_maker_2, ef_maker_2⟩ : ∃ y : Nat → Int32, y = upd f_maker x2.toNatClampNeg (-1) := ⟨_, rfl⟩
      refine k_iast X hH 11 10 rfl rfl (z_in (rfl : x2.toInt = _) hq_3) dX52_reason_19 ef_maker_2 (ws1 := (wX52 ci ad d f_thrown f_classes f_things f_axioms f_fuel f_questions f_sorted f_left f_other f_right f_there f_member f_state f_before f_placed f_looked f_fact f_maker_2 f_fired f_firedCount f_needed f_module f_asked)) rfl (fun H locs hH => ?_)
      have hw := hw (zF f_maker_2) (by rw [ef_maker_2]; exact z_st (f := f_maker) (rfl : x2.toInt = _) hq_3.1 (rfl : ((-1) : Int32).toInt = (-1)))
      have hq_5 := hw.1
      have hw := hw.2
      obtain ⟨x2_4, ex2_4⟩ : ∃ y : Int32, y = x2 + 1 := ⟨_, rfl⟩
      have hw := hw x2_4.toInt (by rw [ex2_4]; exact (z_x (z_add (z_m (rfl : x2.toInt = _)) (z_m (rfl : (1 : Int32).toInt = 1))) hq_5))
      refine lv_iinc (v := x2_4) (lv' := [(2, .int x2_4), (0, .ref (ad 0)), (1, .int x1)]) hx hb dX52_reason_20 hl (k := 2) rfl (by rw [ex2_4]; rfl) (by decide) rfl (fun ls hl => ?_)
      refine lv_goto (tgt := 7) hx hb dX52_reason_23 (by decide) ?_
      exact ih x2_4 f_maker_2 hw _ _ ls hH (lv_sub hl [1, 2, 0] rfl)
set_option maxHeartbeats 4000000 in
theorem atX52_reason_122 {p : Program} {l : Launch} {e : Env} {s : State} {m : MethodId} {args : Array Value} {below : List Frame} {meth : Method} {c : Code} {dC : Nat → ClassId} {dI : Nat → Nat → Nat} {cl : List vw_C} {ci : Nat} (hc : cl[ci]? = some (RX52, TX52, 23)) {ad : Nat → Nat} {d : Nat → ClassId} {A : Nat → Prop} {post : Int → (Int → Int) → (Int → Int) → (Int → Int) → Int → Prop} {f_thrown : Int32} {f_classes : Int32} {f_things : Int32} {f_axioms : Int32} {f_fuel : Int32} {f_questions : Int32} {f_sorted : Int32} {f_left : Nat → Int32} {f_other : Nat → Int32} {f_right : Nat → Int32} {f_there : Nat → Int32} {f_member : Nat → Int32} {f_state : Nat → Int32} {f_before : Nat → Int32} {f_placed : Nat → Int32} {f_looked : Nat → Int32} {f_needed : Nat → Int32} {f_module : Nat → Int32} {f_asked : Int32} (X : kX p s m args meth c cX52_reason 5 RX52 (some .int) (dC, dI) cl (tX52 d)) {K54 : Int → Int → Prop} {x1 : Int32} {f_fact : Nat → Int32} {f_maker : Nat → Int32} {f_fired : Nat → Int32} {f_firedCount : Int32} (hk54 : ∀ (x2 : Int32) (x3 : Int32), K54 x2.toInt x3.toInt → ∀ (H : Heap) (locs : List Loc) (ls : Array Slot), kH (dC, dI) cl A s.heap H locs (wX52 ci ad d f_thrown f_classes f_things f_axioms f_fuel f_questions f_sorted f_left f_other f_right f_there f_member f_state f_before f_placed f_looked f_fact f_maker f_fired f_firedCount f_needed f_module f_asked) → lv_has ls 5 [(0, .ref (ad 0)), (1, .int x1), (2, .int x2), (3, .int x3)] → W p l e ({ frames := 0, cells := 0, slots := 0, locals := 0 } : Room) s m args below meth c H locs 0 0 (MQ below (va_Qi (fun (r : Int32) (u : (Nat → Int32) × (Nat → Int32) × (Nat → Int32) × Int32) => post r.toInt (zF (u.1)) (zF (u.2.1)) (zF (u.2.2.1)) (u.2.2.2).toInt) (kB (dC, dI) cl (tX52 d) A (fun u : (Nat → Int32) × (Nat → Int32) × (Nat → Int32) × Int32 => (wX52 ci ad d f_thrown f_classes f_things f_axioms f_fuel f_questions f_sorted f_left f_other f_right f_there f_member f_state f_before f_placed f_looked (u.1) (u.2.1) (u.2.2.1) (u.2.2.2) f_needed f_module f_asked))) A) args s 0 0 A) (F0 m 54 ls [])) :
    ∀ (x2 : Int32) (x3 : Int32), wX52_reason_122 K54 x2.toInt x3.toInt → ∀ (H : Heap) (locs : List Loc) (ls : Array Slot), kH (dC, dI) cl A s.heap H locs (wX52 ci ad d f_thrown f_classes f_things f_axioms f_fuel f_questions f_sorted f_left f_other f_right f_there f_member f_state f_before f_placed f_looked f_fact f_maker f_fired f_firedCount f_needed f_module f_asked) → lv_has ls 5 [(0, .ref (ad 0)), (1, .int x1), (2, .int x2), (3, .int x3)] → W p l e ({ frames := 0, cells := 0, slots := 0, locals := 0 } : Room) s m args below meth c H locs 0 0 (MQ below (va_Qi (fun (r : Int32) (u : (Nat → Int32) × (Nat → Int32) × (Nat → Int32) × Int32) => post r.toInt (zF (u.1)) (zF (u.2.1)) (zF (u.2.2.1)) (u.2.2.2).toInt) (kB (dC, dI) cl (tX52 d) A (fun u : (Nat → Int32) × (Nat → Int32) × (Nat → Int32) × Int32 => (wX52 ci ad d f_thrown f_classes f_things f_axioms f_fuel f_questions f_sorted f_left f_other f_right f_there f_member f_state f_before f_placed f_looked (u.1) (u.2.1) (u.2.2.1) (u.2.2.2) f_needed f_module f_asked))) A) args s 0 0 A) (F0 m 122 ls []) := by
  have hx := X.1.1
  have hb := X.1.2.1
  intro x2 x3 hw H locs ls hH hl
  unfold wX52_reason_122 at hw
  refine lv_iconst (v := 0) hx hb dX52_reason_122 (by decide) ?_
  refine lv_istore (lv' := [(4, .int 0), (0, .ref (ad 0)), (1, .int x1), (2, .int x2), (3, .int x3)]) hx hb dX52_reason_123 hl (by decide) rfl (fun ls hl => ?_)
  refine lv_iload hx hb dX52_reason_125 (lv_at hl 0 rfl) ?_
  refine lv_if_eq (tgt := 134) hx hb dX52_reason_127 (by decide) (fun c_20 => ?_) (fun c_20 => ?_)
  · have hw := hw.1 (z_eq (rfl : (0 : Int32).toInt = 0) (rfl : (0 : Int32).toInt = 0) c_20)
    refine lv_iload_n hx hb dX52_reason_134 rfl (lv_at hl 3 rfl) ?_
    refine lv_istore_n (lv' := [(2, .int x2), (4, .int 0), (0, .ref (ad 0)), (1, .int x1), (3, .int x3)]) hx hb dX52_reason_135 rfl hl (by decide) rfl (fun ls hl => ?_)
    have hq_22 := hw.1
    have hw := hw.2
    obtain ⟨x3_21, ex3_21⟩ : ∃ y : Int32, y = x3 + (-1) := ⟨_, rfl⟩
    have hw := hw x3_21.toInt (by rw [ex3_21]; exact (z_x (z_add (z_m (rfl : x3.toInt = _)) (z_m (rfl : ((-1) : Int32).toInt = (-1)))) hq_22))
    refine lv_iinc (v := x3_21) (lv' := [(3, .int x3_21), (2, .int x2), (4, .int 0), (0, .ref (ad 0)), (1, .int x1)]) hx hb dX52_reason_136 hl (k := 4) rfl (by rw [ex3_21]; rfl) (by decide) rfl (fun ls hl => ?_)
    refine lv_goto (tgt := 54) hx hb dX52_reason_139 (by decide) ?_
    exact hk54 x2 x3_21 hw _ _ ls hH (lv_sub hl [3, 4, 1, 0] rfl)
  · have hw := hw.2 (z_neq (rfl : (0 : Int32).toInt = 0) (rfl : (0 : Int32).toInt = 0) c_20)
    refine lv_iload_n hx hb dX52_reason_130 rfl (lv_at hl 4 rfl) ?_
    refine lv_goto (tgt := 135) hx hb dX52_reason_131 (by decide) ?_
    refine lv_istore_n (lv' := [(2, .int x3), (4, .int 0), (0, .ref (ad 0)), (1, .int x1), (3, .int x3)]) hx hb dX52_reason_135 rfl hl (by decide) rfl (fun ls hl => ?_)
    have hq_24 := hw.1
    have hw := hw.2
    obtain ⟨x3_23, ex3_23⟩ : ∃ y : Int32, y = x3 + (-1) := ⟨_, rfl⟩
    have hw := hw x3_23.toInt (by rw [ex3_23]; exact (z_x (z_add (z_m (rfl : x3.toInt = _)) (z_m (rfl : ((-1) : Int32).toInt = (-1)))) hq_24))
    refine lv_iinc (v := x3_23) (lv' := [(3, .int x3_23), (2, .int x3), (4, .int 0), (0, .ref (ad 0)), (1, .int x1)]) hx hb dX52_reason_136 hl (k := 4) rfl (by rw [ex3_23]; rfl) (by decide) rfl (fun ls hl => ?_)
    refine lv_goto (tgt := 54) hx hb dX52_reason_139 (by decide) ?_
    exact hk54 x3 x3_23 hw _ _ ls hH (lv_sub hl [3, 4, 1, 0] rfl)
set_option maxHeartbeats 4000000 in
theorem atX52_reason_104 {p : Program} {l : Launch} {e : Env} {s : State} {m : MethodId} {args : Array Value} {below : List Frame} {meth : Method} {c : Code} {dC : Nat → ClassId} {dI : Nat → Nat → Nat} {cl : List vw_C} {ci : Nat} (hc : cl[ci]? = some (RX52, TX52, 23)) {ad : Nat → Nat} {d : Nat → ClassId} {A : Nat → Prop} {post : Int → (Int → Int) → (Int → Int) → (Int → Int) → Int → Prop} {f_thrown : Int32} {f_classes : Int32} {f_things : Int32} {f_axioms : Int32} {f_fuel : Int32} {f_questions : Int32} {f_sorted : Int32} {f_left : Nat → Int32} {f_other : Nat → Int32} {f_right : Nat → Int32} {f_there : Nat → Int32} {f_member : Nat → Int32} {f_state : Nat → Int32} {f_before : Nat → Int32} {f_placed : Nat → Int32} {f_looked : Nat → Int32} {f_needed : Nat → Int32} {f_module : Nat → Int32} {f_asked : Int32} (X : kX p s m args meth c cX52_reason 5 RX52 (some .int) (dC, dI) cl (tX52 d)) {K54 : Int → Int → Prop} {x1 : Int32} {f_fact : Nat → Int32} {f_maker : Nat → Int32} {f_fired : Nat → Int32} {f_firedCount : Int32} (hk54 : ∀ (x2 : Int32) (x3 : Int32), K54 x2.toInt x3.toInt → ∀ (H : Heap) (locs : List Loc) (ls : Array Slot), kH (dC, dI) cl A s.heap H locs (wX52 ci ad d f_thrown f_classes f_things f_axioms f_fuel f_questions f_sorted f_left f_other f_right f_there f_member f_state f_before f_placed f_looked f_fact f_maker f_fired f_firedCount f_needed f_module f_asked) → lv_has ls 5 [(0, .ref (ad 0)), (1, .int x1), (2, .int x2), (3, .int x3)] → W p l e ({ frames := 0, cells := 0, slots := 0, locals := 0 } : Room) s m args below meth c H locs 0 0 (MQ below (va_Qi (fun (r : Int32) (u : (Nat → Int32) × (Nat → Int32) × (Nat → Int32) × Int32) => post r.toInt (zF (u.1)) (zF (u.2.1)) (zF (u.2.2.1)) (u.2.2.2).toInt) (kB (dC, dI) cl (tX52 d) A (fun u : (Nat → Int32) × (Nat → Int32) × (Nat → Int32) × Int32 => (wX52 ci ad d f_thrown f_classes f_things f_axioms f_fuel f_questions f_sorted f_left f_other f_right f_there f_member f_state f_before f_placed f_looked (u.1) (u.2.1) (u.2.2.1) (u.2.2.2) f_needed f_module f_asked))) A) args s 0 0 A) (F0 m 54 ls [])) :
    ∀ (x2 : Int32) (x3 : Int32), wX52_reason_104 K54 x2.toInt x3.toInt (zF f_right) (zF f_fact) → ∀ (H : Heap) (locs : List Loc) (ls : Array Slot), kH (dC, dI) cl A s.heap H locs (wX52 ci ad d f_thrown f_classes f_things f_axioms f_fuel f_questions f_sorted f_left f_other f_right f_there f_member f_state f_before f_placed f_looked f_fact f_maker f_fired f_firedCount f_needed f_module f_asked) → lv_has ls 5 [(0, .ref (ad 0)), (1, .int x1), (2, .int x2), (3, .int x3)] → W p l e ({ frames := 0, cells := 0, slots := 0, locals := 0 } : Room) s m args below meth c H locs 0 0 (MQ below (va_Qi (fun (r : Int32) (u : (Nat → Int32) × (Nat → Int32) × (Nat → Int32) × Int32) => post r.toInt (zF (u.1)) (zF (u.2.1)) (zF (u.2.2.1)) (u.2.2.2).toInt) (kB (dC, dI) cl (tX52 d) A (fun u : (Nat → Int32) × (Nat → Int32) × (Nat → Int32) × Int32 => (wX52 ci ad d f_thrown f_classes f_things f_axioms f_fuel f_questions f_sorted f_left f_other f_right f_there f_member f_state f_before f_placed f_looked (u.1) (u.2.1) (u.2.2.1) (u.2.2.2) f_needed f_module f_asked))) A) args s 0 0 A) (F0 m 104 ls []) := by
  have hx := X.1.1
  have hb := X.1.2.1
  intro x2 x3 hw H locs ls hH hl
  unfold wX52_reason_104 at hw
  refine lv_aload_n hx hb dX52_reason_104 rfl (lv_at hl 0 rfl) ?_
  refine k_get X hH in_X52 0 rfl hc 16 (by decide) q6397 rfl dX52_reason_105 ?_
  refine lv_aload_n hx hb dX52_reason_108 rfl (lv_at hl 0 rfl) ?_
  refine k_get X hH in_X52 0 rfl hc 9 (by decide) q6390 rfl dX52_reason_109 ?_
  refine lv_iload_n hx hb dX52_reason_112 rfl (lv_at hl 3 rfl) ?_
  have hq_31 := hw.1
  have hw := hw.2
  refine k_iald X hH 3 2 rfl rfl (z_in (rfl : x3.toInt = _) hq_31) dX52_reason_113 ?_
  have e_32 := z_ld (f := f_right) (rfl : x3.toInt = _) hq_31.1
  have hq_33 := hw.1
  have hw := hw.2
  refine k_zald X hH 10 9 rfl rfl (z_in e_32 hq_33) dX52_reason_114 ?_
  have e_34 := z_ld (f := f_fact) e_32 hq_33.1
  refine lv_if_ne (tgt := 122) hx hb dX52_reason_115 (by decide) (fun c_35 => ?_) (fun c_35 => ?_)
  · have hw := hw.2 (z_ne e_34 (rfl : (0 : Int32).toInt = 0) c_35)
    exact atX52_reason_122 hc X hk54 x2 x3 hw _ _ ls hH (lv_sub hl [0, 1, 2, 3] rfl)
  · have hw := hw.1 (z_eq e_34 (rfl : (0 : Int32).toInt = 0) c_35)
    refine lv_iconst (v := 1) hx hb dX52_reason_118 (by decide) ?_
    refine lv_goto (tgt := 123) hx hb dX52_reason_119 (by decide) ?_
    refine lv_istore (lv' := [(4, .int 1), (0, .ref (ad 0)), (1, .int x1), (2, .int x2), (3, .int x3)]) hx hb dX52_reason_123 hl (by decide) rfl (fun ls hl => ?_)
    refine lv_iload hx hb dX52_reason_125 (lv_at hl 0 rfl) ?_
    refine lv_if_eq (tgt := 134) hx hb dX52_reason_127 (by decide) (fun c_36 => ?_) (fun c_36 => ?_)
    · have hw := hw.1 (z_eq (rfl : (1 : Int32).toInt = 1) (rfl : (0 : Int32).toInt = 0) c_36)
      refine lv_iload_n hx hb dX52_reason_134 rfl (lv_at hl 3 rfl) ?_
      refine lv_istore_n (lv' := [(2, .int x2), (4, .int 1), (0, .ref (ad 0)), (1, .int x1), (3, .int x3)]) hx hb dX52_reason_135 rfl hl (by decide) rfl (fun ls hl => ?_)
      have hq_38 := hw.1
      have hw := hw.2
      obtain ⟨x3_37, ex3_37⟩ : ∃ y : Int32, y = x3 + (-1) := ⟨_, rfl⟩
      have hw := hw x3_37.toInt (by rw [ex3_37]; exact (z_x (z_add (z_m (rfl : x3.toInt = _)) (z_m (rfl : ((-1) : Int32).toInt = (-1)))) hq_38))
      refine lv_iinc (v := x3_37) (lv' := [(3, .int x3_37), (2, .int x2), (4, .int 1), (0, .ref (ad 0)), (1, .int x1)]) hx hb dX52_reason_136 hl (k := 4) rfl (by rw [ex3_37]; rfl) (by decide) rfl (fun ls hl => ?_)
      refine lv_goto (tgt := 54) hx hb dX52_reason_139 (by decide) ?_
      exact hk54 x2 x3_37 hw _ _ ls hH (lv_sub hl [3, 4, 1, 0] rfl)
    · have hw := hw.2 (z_neq (rfl : (1 : Int32).toInt = 1) (rfl : (0 : Int32).toInt = 0) c_36)
      refine lv_iload_n hx hb dX52_reason_130 rfl (lv_at hl 4 rfl) ?_
      refine lv_goto (tgt := 135) hx hb dX52_reason_131 (by decide) ?_
      refine lv_istore_n (lv' := [(2, .int x3), (4, .int 1), (0, .ref (ad 0)), (1, .int x1), (3, .int x3)]) hx hb dX52_reason_135 rfl hl (by decide) rfl (fun ls hl => ?_)
      have hq_40 := hw.1
      have hw := hw.2
      obtain ⟨x3_39, ex3_39⟩ : ∃ y : Int32, y = x3 + (-1) := ⟨_, rfl⟩
      have hw := hw x3_39.toInt (by rw [ex3_39]; exact (z_x (z_add (z_m (rfl : x3.toInt = _)) (z_m (rfl : ((-1) : Int32).toInt = (-1)))) hq_40))
      refine lv_iinc (v := x3_39) (lv' := [(3, .int x3_39), (2, .int x3), (4, .int 1), (0, .ref (ad 0)), (1, .int x1)]) hx hb dX52_reason_136 hl (k := 4) rfl (by rw [ex3_39]; rfl) (by decide) rfl (fun ls hl => ?_)
      refine lv_goto (tgt := 54) hx hb dX52_reason_139 (by decide) ?_
      exact hk54 x3 x3_39 hw _ _ ls hH (lv_sub hl [3, 4, 1, 0] rfl)
set_option maxHeartbeats 4000000 in
theorem atX52_reason_54 {p : Program} {l : Launch} {e : Env} {s : State} {m : MethodId} {args : Array Value} {below : List Frame} {meth : Method} {c : Code} {dC : Nat → ClassId} {dI : Nat → Nat → Nat} {cl : List vw_C} {ci : Nat} (hc : cl[ci]? = some (RX52, TX52, 23)) {ad : Nat → Nat} {d : Nat → ClassId} {A : Nat → Prop} {post : Int → (Int → Int) → (Int → Int) → (Int → Int) → Int → Prop} {f_thrown : Int32} {f_classes : Int32} {f_things : Int32} {f_axioms : Int32} {f_fuel : Int32} {f_questions : Int32} {f_sorted : Int32} {f_left : Nat → Int32} {f_other : Nat → Int32} {f_right : Nat → Int32} {f_there : Nat → Int32} {f_member : Nat → Int32} {f_state : Nat → Int32} {f_before : Nat → Int32} {f_placed : Nat → Int32} {f_looked : Nat → Int32} {f_needed : Nat → Int32} {f_module : Nat → Int32} {f_asked : Int32} (X : kX p s m args meth c cX52_reason 5 RX52 (some .int) (dC, dI) cl (tX52 d)) {K142 : Int → Prop} {x1 : Int32} {f_fact : Nat → Int32} {f_maker : Nat → Int32} {f_fired : Nat → Int32} {f_firedCount : Int32} (hk142 : ∀ (x2 : Int32), K142 x2.toInt → ∀ (H : Heap) (locs : List Loc) (ls : Array Slot), kH (dC, dI) cl A s.heap H locs (wX52 ci ad d f_thrown f_classes f_things f_axioms f_fuel f_questions f_sorted f_left f_other f_right f_there f_member f_state f_before f_placed f_looked f_fact f_maker f_fired f_firedCount f_needed f_module f_asked) → lv_has ls 5 [(0, .ref (ad 0)), (1, .int x1), (2, .int x2)] → W p l e ({ frames := 0, cells := 0, slots := 0, locals := 0 } : Room) s m args below meth c H locs 0 0 (MQ below (va_Qi (fun (r : Int32) (u : (Nat → Int32) × (Nat → Int32) × (Nat → Int32) × Int32) => post r.toInt (zF (u.1)) (zF (u.2.1)) (zF (u.2.2.1)) (u.2.2.2).toInt) (kB (dC, dI) cl (tX52 d) A (fun u : (Nat → Int32) × (Nat → Int32) × (Nat → Int32) × Int32 => (wX52 ci ad d f_thrown f_classes f_things f_axioms f_fuel f_questions f_sorted f_left f_other f_right f_there f_member f_state f_before f_placed f_looked (u.1) (u.2.1) (u.2.2.1) (u.2.2.2) f_needed f_module f_asked))) A) args s 0 0 A) (F0 m 142 ls [])) :
    ∀ (nn : Nat) (x2 : Int32) (x3 : Int32), wX52_reason_54 K142 (zF f_left) (zF f_other) (zF f_right) (zF f_there) (zF f_fact) nn x2.toInt x3.toInt → ∀ (H : Heap) (locs : List Loc) (ls : Array Slot), kH (dC, dI) cl A s.heap H locs (wX52 ci ad d f_thrown f_classes f_things f_axioms f_fuel f_questions f_sorted f_left f_other f_right f_there f_member f_state f_before f_placed f_looked f_fact f_maker f_fired f_firedCount f_needed f_module f_asked) → lv_has ls 5 [(0, .ref (ad 0)), (1, .int x1), (2, .int x2), (3, .int x3)] → W p l e ({ frames := 0, cells := 0, slots := 0, locals := 0 } : Room) s m args below meth c H locs 0 0 (MQ below (va_Qi (fun (r : Int32) (u : (Nat → Int32) × (Nat → Int32) × (Nat → Int32) × Int32) => post r.toInt (zF (u.1)) (zF (u.2.1)) (zF (u.2.2.1)) (u.2.2.2).toInt) (kB (dC, dI) cl (tX52 d) A (fun u : (Nat → Int32) × (Nat → Int32) × (Nat → Int32) × Int32 => (wX52 ci ad d f_thrown f_classes f_things f_axioms f_fuel f_questions f_sorted f_left f_other f_right f_there f_member f_state f_before f_placed f_looked (u.1) (u.2.1) (u.2.2.1) (u.2.2.2) f_needed f_module f_asked))) A) args s 0 0 A) (F0 m 54 ls []) := by
  have hx := X.1.1
  have hb := X.1.2.1
  intro nn
  induction nn with
  | zero =>
    intro x2 x3 hw
    exact False.elim hw
  | succ n ih =>
    intro x2 x3 hw H locs ls hH hl
    rw [wX52_reason_54] at hw
    refine lv_iload_n hx hb dX52_reason_54 rfl (lv_at hl 3 rfl) ?_
    refine lv_if_lt (tgt := 142) hx hb dX52_reason_55 (by decide) (fun c_16 => ?_) (fun c_16 => ?_)
    · have hw := hw.1 (z_lt (rfl : x3.toInt = _) (rfl : (0 : Int32).toInt = 0) c_16)
      exact hk142 x2 hw _ _ ls hH (lv_sub hl [0, 1, 2] rfl)
    · have hw := hw.2 (z_nlt (rfl : x3.toInt = _) (rfl : (0 : Int32).toInt = 0) c_16)
      refine lv_aload_n hx hb dX52_reason_58 rfl (lv_at hl 0 rfl) ?_
      refine k_get X hH in_X52 0 rfl hc 10 (by decide) q6391 rfl dX52_reason_59 ?_
      refine lv_iload_n hx hb dX52_reason_62 rfl (lv_at hl 3 rfl) ?_
      have hq_17 := hw.1
      have hw := hw.2
      refine k_zald X hH 4 3 rfl rfl (z_in (rfl : x3.toInt = _) hq_17) dX52_reason_63 ?_
      have e_18 := z_ld (f := f_there) (rfl : x3.toInt = _) hq_17.1
      refine lv_if_eq (tgt := 122) hx hb dX52_reason_64 (by decide) (fun c_19 => ?_) (fun c_19 => ?_)
      · have hw := hw.1 (z_eq e_18 (rfl : (0 : Int32).toInt = 0) c_19)
        exact atX52_reason_122 hc X (fun x2 x3 hw H locs ls hH hl => ih x2 x3 hw _ _ ls hH (lv_sub hl [0, 1, 2, 3] rfl)) x2 x3 hw _ _ ls hH (lv_sub hl [0, 1, 2, 3] rfl)
      · have hw := hw.2 (z_neq e_18 (rfl : (0 : Int32).toInt = 0) c_19)
        refine lv_aload_n hx hb dX52_reason_67 rfl (lv_at hl 0 rfl) ?_
        refine k_get X hH in_X52 0 rfl hc 16 (by decide) q6397 rfl dX52_reason_68 ?_
        refine lv_aload_n hx hb dX52_reason_71 rfl (lv_at hl 0 rfl) ?_
        refine k_get X hH in_X52 0 rfl hc 7 (by decide) q6388 rfl dX52_reason_72 ?_
        refine lv_iload_n hx hb dX52_reason_75 rfl (lv_at hl 3 rfl) ?_
        refine k_iald X hH 1 0 rfl rfl (z_in (rfl : x3.toInt = _) hq_17) dX52_reason_76 ?_
        have e_25 := z_ld (f := f_left) (rfl : x3.toInt = _) hq_17.1
        have hq_26 := hw.1
        have hw := hw.2
        refine k_zald X hH 10 9 rfl rfl (z_in e_25 hq_26) dX52_reason_77 ?_
        have e_27 := z_ld (f := f_fact) e_25 hq_26.1
        refine lv_if_eq (tgt := 122) hx hb dX52_reason_78 (by decide) (fun c_28 => ?_) (fun c_28 => ?_)
        · have hw := hw.1 (z_eq e_27 (rfl : (0 : Int32).toInt = 0) c_28)
          exact atX52_reason_122 hc X (fun x2 x3 hw H locs ls hH hl => ih x2 x3 hw _ _ ls hH (lv_sub hl [0, 1, 2, 3] rfl)) x2 x3 hw _ _ ls hH (lv_sub hl [0, 1, 2, 3] rfl)
        · have hw := hw.2 (z_neq e_27 (rfl : (0 : Int32).toInt = 0) c_28)
          refine lv_aload_n hx hb dX52_reason_81 rfl (lv_at hl 0 rfl) ?_
          refine k_get X hH in_X52 0 rfl hc 8 (by decide) q6389 rfl dX52_reason_82 ?_
          refine lv_iload_n hx hb dX52_reason_85 rfl (lv_at hl 3 rfl) ?_
          refine k_iald X hH 2 1 rfl rfl (z_in (rfl : x3.toInt = _) hq_17) dX52_reason_86 ?_
          have e_29 := z_ld (f := f_other) (rfl : x3.toInt = _) hq_17.1
          refine lv_if_lt (tgt := 104) hx hb dX52_reason_87 (by decide) (fun c_30 => ?_) (fun c_30 => ?_)
          · have hw := hw.1 (z_lt e_29 (rfl : (0 : Int32).toInt = 0) c_30)
            exact atX52_reason_104 hc X (fun x2 x3 hw H locs ls hH hl => ih x2 x3 hw _ _ ls hH (lv_sub hl [0, 1, 2, 3] rfl)) x2 x3 hw _ _ ls hH (lv_sub hl [0, 1, 2, 3] rfl)
          · have hw := hw.2 (z_nlt e_29 (rfl : (0 : Int32).toInt = 0) c_30)
            refine lv_aload_n hx hb dX52_reason_90 rfl (lv_at hl 0 rfl) ?_
            refine k_get X hH in_X52 0 rfl hc 16 (by decide) q6397 rfl dX52_reason_91 ?_
            refine lv_aload_n hx hb dX52_reason_94 rfl (lv_at hl 0 rfl) ?_
            refine k_get X hH in_X52 0 rfl hc 8 (by decide) q6389 rfl dX52_reason_95 ?_
            refine lv_iload_n hx hb dX52_reason_98 rfl (lv_at hl 3 rfl) ?_
            refine k_iald X hH 2 1 rfl rfl (z_in (rfl : x3.toInt = _) hq_17) dX52_reason_99 ?_
            have e_41 := z_ld (f := f_other) (rfl : x3.toInt = _) hq_17.1
            have hq_42 := hw.1
            have hw := hw.2
            refine k_zald X hH 10 9 rfl rfl (z_in e_41 hq_42) dX52_reason_100 ?_
            have e_43 := z_ld (f := f_fact) e_41 hq_42.1
            refine lv_if_eq (tgt := 122) hx hb dX52_reason_101 (by decide) (fun c_44 => ?_) (fun c_44 => ?_)
            · have hw := hw.1 (z_eq e_43 (rfl : (0 : Int32).toInt = 0) c_44)
              exact atX52_reason_122 hc X (fun x2 x3 hw H locs ls hH hl => ih x2 x3 hw _ _ ls hH (lv_sub hl [0, 1, 2, 3] rfl)) x2 x3 hw _ _ ls hH (lv_sub hl [0, 1, 2, 3] rfl)
            · have hw := hw.2 (z_neq e_43 (rfl : (0 : Int32).toInt = 0) c_44)
              exact atX52_reason_104 hc X (fun x2 x3 hw H locs ls hH hl => ih x2 x3 hw _ _ ls hH (lv_sub hl [0, 1, 2, 3] rfl)) x2 x3 hw _ _ ls hH (lv_sub hl [0, 1, 2, 3] rfl)
set_option maxHeartbeats 4000000 in
theorem atX52_reason_26 {p : Program} {l : Launch} {e : Env} {s : State} {m : MethodId} {args : Array Value} {below : List Frame} {meth : Method} {c : Code} {dC : Nat → ClassId} {dI : Nat → Nat → Nat} {cl : List vw_C} {ci : Nat} (hc : cl[ci]? = some (RX52, TX52, 23)) {ad : Nat → Nat} {d : Nat → ClassId} {A : Nat → Prop} {post : Int → (Int → Int) → (Int → Int) → (Int → Int) → Int → Prop} {f_thrown : Int32} {f_classes : Int32} {f_things : Int32} {f_axioms : Int32} {f_fuel : Int32} {f_questions : Int32} {f_sorted : Int32} {f_left : Nat → Int32} {f_other : Nat → Int32} {f_right : Nat → Int32} {f_there : Nat → Int32} {f_member : Nat → Int32} {f_state : Nat → Int32} {f_before : Nat → Int32} {f_placed : Nat → Int32} {f_looked : Nat → Int32} {f_needed : Nat → Int32} {f_module : Nat → Int32} {f_asked : Int32} (X : kX p s m args meth c cX52_reason 5 RX52 (some .int) (dC, dI) cl (tX52 d)) {K146 : (Int → Int) → (Int → Int) → (Int → Int) → Int → Prop} {K159 : (Int → Int) → (Int → Int) → (Int → Int) → Int → Prop} {K208 : (Int → Int) → (Int → Int) → (Int → Int) → Int → Prop} {x1 : Int32}  (hk146 : ∀ (f_fact : Nat → Int32) (f_maker : Nat → Int32) (f_fired : Nat → Int32) (f_firedCount : Int32), K146 (zF f_fact) (zF f_maker) (zF f_fired) f_firedCount.toInt → ∀ (H : Heap) (locs : List Loc) (ls : Array Slot), kH (dC, dI) cl A s.heap H locs (wX52 ci ad d f_thrown f_classes f_things f_axioms f_fuel f_questions f_sorted f_left f_other f_right f_there f_member f_state f_before f_placed f_looked f_fact f_maker f_fired f_firedCount f_needed f_module f_asked) → lv_has ls 5 [] → W p l e ({ frames := 0, cells := 0, slots := 0, locals := 0 } : Room) s m args below meth c H locs 0 0 (MQ below (va_Qi (fun (r : Int32) (u : (Nat → Int32) × (Nat → Int32) × (Nat → Int32) × Int32) => post r.toInt (zF (u.1)) (zF (u.2.1)) (zF (u.2.2.1)) (u.2.2.2).toInt) (kB (dC, dI) cl (tX52 d) A (fun u : (Nat → Int32) × (Nat → Int32) × (Nat → Int32) × Int32 => (wX52 ci ad d f_thrown f_classes f_things f_axioms f_fuel f_questions f_sorted f_left f_other f_right f_there f_member f_state f_before f_placed f_looked (u.1) (u.2.1) (u.2.2.1) (u.2.2.2) f_needed f_module f_asked))) A) args s 0 0 A) (F0 m 146 ls [])) (hk159 : ∀ (f_fact : Nat → Int32) (f_maker : Nat → Int32) (f_fired : Nat → Int32) (f_firedCount : Int32), K159 (zF f_fact) (zF f_maker) (zF f_fired) f_firedCount.toInt → ∀ (H : Heap) (locs : List Loc) (ls : Array Slot), kH (dC, dI) cl A s.heap H locs (wX52 ci ad d f_thrown f_classes f_things f_axioms f_fuel f_questions f_sorted f_left f_other f_right f_there f_member f_state f_before f_placed f_looked f_fact f_maker f_fired f_firedCount f_needed f_module f_asked) → lv_has ls 5 [] → W p l e ({ frames := 0, cells := 0, slots := 0, locals := 0 } : Room) s m args below meth c H locs 0 0 (MQ below (va_Qi (fun (r : Int32) (u : (Nat → Int32) × (Nat → Int32) × (Nat → Int32) × Int32) => post r.toInt (zF (u.1)) (zF (u.2.1)) (zF (u.2.2.1)) (u.2.2.2).toInt) (kB (dC, dI) cl (tX52 d) A (fun u : (Nat → Int32) × (Nat → Int32) × (Nat → Int32) × Int32 => (wX52 ci ad d f_thrown f_classes f_things f_axioms f_fuel f_questions f_sorted f_left f_other f_right f_there f_member f_state f_before f_placed f_looked (u.1) (u.2.1) (u.2.2.1) (u.2.2.2) f_needed f_module f_asked))) A) args s 0 0 A) (F0 m 159 ls [])) (hk208 : ∀ (f_fact : Nat → Int32) (f_maker : Nat → Int32) (f_fired : Nat → Int32) (f_firedCount : Int32), K208 (zF f_fact) (zF f_maker) (zF f_fired) f_firedCount.toInt → ∀ (H : Heap) (locs : List Loc) (ls : Array Slot), kH (dC, dI) cl A s.heap H locs (wX52 ci ad d f_thrown f_classes f_things f_axioms f_fuel f_questions f_sorted f_left f_other f_right f_there f_member f_state f_before f_placed f_looked f_fact f_maker f_fired f_firedCount f_needed f_module f_asked) → lv_has ls 5 [] → W p l e ({ frames := 0, cells := 0, slots := 0, locals := 0 } : Room) s m args below meth c H locs 0 0 (MQ below (va_Qi (fun (r : Int32) (u : (Nat → Int32) × (Nat → Int32) × (Nat → Int32) × Int32) => post r.toInt (zF (u.1)) (zF (u.2.1)) (zF (u.2.2.1)) (u.2.2.2).toInt) (kB (dC, dI) cl (tX52 d) A (fun u : (Nat → Int32) × (Nat → Int32) × (Nat → Int32) × Int32 => (wX52 ci ad d f_thrown f_classes f_things f_axioms f_fuel f_questions f_sorted f_left f_other f_right f_there f_member f_state f_before f_placed f_looked (u.1) (u.2.1) (u.2.2.1) (u.2.2.2) f_needed f_module f_asked))) A) args s 0 0 A) (F0 m 208 ls [])) :
    ∀ (nn : Nat) (f_fact : Nat → Int32) (f_maker : Nat → Int32) (f_fired : Nat → Int32) (f_firedCount : Int32), wX52_reason_26 K146 K159 K208 x1.toInt f_axioms.toInt f_fuel.toInt (zF f_left) (zF f_other) (zF f_right) (zF f_there) nn (zF f_fact) (zF f_maker) (zF f_fired) f_firedCount.toInt → ∀ (H : Heap) (locs : List Loc) (ls : Array Slot), kH (dC, dI) cl A s.heap H locs (wX52 ci ad d f_thrown f_classes f_things f_axioms f_fuel f_questions f_sorted f_left f_other f_right f_there f_member f_state f_before f_placed f_looked f_fact f_maker f_fired f_firedCount f_needed f_module f_asked) → lv_has ls 5 [(0, .ref (ad 0)), (1, .int x1)] → W p l e ({ frames := 0, cells := 0, slots := 0, locals := 0 } : Room) s m args below meth c H locs 0 0 (MQ below (va_Qi (fun (r : Int32) (u : (Nat → Int32) × (Nat → Int32) × (Nat → Int32) × Int32) => post r.toInt (zF (u.1)) (zF (u.2.1)) (zF (u.2.2.1)) (u.2.2.2).toInt) (kB (dC, dI) cl (tX52 d) A (fun u : (Nat → Int32) × (Nat → Int32) × (Nat → Int32) × Int32 => (wX52 ci ad d f_thrown f_classes f_things f_axioms f_fuel f_questions f_sorted f_left f_other f_right f_there f_member f_state f_before f_placed f_looked (u.1) (u.2.1) (u.2.2.1) (u.2.2.2) f_needed f_module f_asked))) A) args s 0 0 A) (F0 m 26 ls []) := by
  have hx := X.1.1
  have hb := X.1.2.1
  intro nn
  induction nn with
  | zero =>
    intro f_fact f_maker f_fired f_firedCount hw
    exact False.elim hw
  | succ n ih =>
    intro f_fact f_maker f_fired f_firedCount hw H locs ls hH hl
    rw [wX52_reason_26] at hw
    refine lv_aload_n hx hb dX52_reason_26 rfl (lv_at hl 0 rfl) ?_
    refine k_get X hH in_X52 0 rfl hc 16 (by decide) q6397 rfl dX52_reason_27 ?_
    refine lv_iload_n hx hb dX52_reason_30 rfl (lv_at hl 1 rfl) ?_
    have hq_7 := hw.1
    have hw := hw.2
    refine k_zald X hH 10 9 rfl rfl (z_in (rfl : x1.toInt = _) hq_7) dX52_reason_31 ?_
    have e_8 := z_ld (f := f_fact) (rfl : x1.toInt = _) hq_7.1
    refine lv_if_ne (tgt := 208) hx hb dX52_reason_32 (by decide) (fun c_9 => ?_) (fun c_9 => ?_)
    · have hw := hw.2 (z_ne e_8 (rfl : (0 : Int32).toInt = 0) c_9)
      exact hk208 f_fact f_maker f_fired f_firedCount hw _ _ ls hH (lv_sub hl [] rfl)
    · have hw := hw.1 (z_eq e_8 (rfl : (0 : Int32).toInt = 0) c_9)
      refine lv_aload_n hx hb dX52_reason_35 rfl (lv_at hl 0 rfl) ?_
      refine k_get X hH in_X52 0 rfl hc 16 (by decide) q6397 rfl dX52_reason_36 ?_
      refine lv_bipush (v := 20) hx hb dX52_reason_39 (by decide) ?_
      refine k_zald X hH 10 9 rfl rfl (by unfold vp_in; decide) dX52_reason_41 ?_
      have e_10 := z_ld (f := f_fact) (rfl : (20 : Int32).toInt = 20) (by decide)
      refine lv_if_ne (tgt := 208) hx hb dX52_reason_42 (by decide) (fun c_11 => ?_) (fun c_11 => ?_)
      · have hw := hw.2 (z_ne e_10 (rfl : (0 : Int32).toInt = 0) c_11)
        exact hk208 f_fact f_maker f_fired f_firedCount hw _ _ ls hH (lv_sub hl [] rfl)
      · have hw := hw.1 (z_eq e_10 (rfl : (0 : Int32).toInt = 0) c_11)
        refine lv_iconst (v := (-1)) hx hb dX52_reason_45 (by decide) ?_
        refine lv_istore_n (lv' := [(2, .int ((-1))), (0, .ref (ad 0)), (1, .int x1)]) hx hb dX52_reason_46 rfl hl (by decide) rfl (fun ls hl => ?_)
        refine lv_aload_n hx hb dX52_reason_47 rfl (lv_at hl 1 rfl) ?_
        refine k_get X hH in_X52 0 rfl hc 3 (by decide) q6384 rfl dX52_reason_48 ?_
        refine lv_iconst (v := 1) hx hb dX52_reason_51 (by decide) ?_
        refine lv_isub hx hb dX52_reason_52 ?_
        have e_12 := z_sub (z_m (rfl : f_axioms.toInt = _)) (z_m (rfl : (1 : Int32).toInt = 1))
        have hq_13 := hw.1
        have hw := hw.2
        have e_14 := z_x e_12 hq_13
        refine lv_topi (fun x3_15 ex3_15 => ?_)
        have hw := hw x3_15.toInt (by rw [ex3_15]; exact e_14)
        refine lv_istore_n (lv' := [(3, .int x3_15), (2, .int ((-1))), (0, .ref (ad 0)), (1, .int x1)]) hx hb dX52_reason_53 rfl hl (by decide) rfl (fun ls hl => ?_)
        obtain ⟨fu, hw⟩ := hw
        refine atX52_reason_54 hc X ?_ fu (-1) x3_15 hw _ _ ls hH (lv_sub hl [2, 3, 1, 0] rfl)
        · intro x2_45 hw H locs ls hH hl
          refine lv_iload_n hx hb dX52_reason_142 rfl (lv_at hl 2 rfl) ?_
          refine lv_if_ge (tgt := 148) hx hb dX52_reason_143 (by decide) (fun c_46 => ?_) (fun c_46 => ?_)
          · have hw := hw.1 (z_le (rfl : (0 : Int32).toInt = 0) (rfl : x2_45.toInt = _) c_46)
            refine lv_aload_n hx hb dX52_reason_148 rfl (lv_at hl 0 rfl) ?_
            refine k_get X hH in_X52 0 rfl hc 19 (by decide) q6400 rfl dX52_reason_149 ?_
            refine lv_aload_n hx hb dX52_reason_152 rfl (lv_at hl 0 rfl) ?_
            refine k_get X hH in_X52 0 rfl hc 4 (by decide) q6385 rfl dX52_reason_153 ?_
            refine lv_icmp_ne (tgt := 161) hx hb dX52_reason_156 (by decide) (fun c_47 => ?_) (fun c_47 => ?_)
            · have hw := hw.2 (z_ne (rfl : f_firedCount.toInt = _) (rfl : f_fuel.toInt = _) c_47)
              refine lv_aload_n hx hb dX52_reason_161 rfl (lv_at hl 0 rfl) ?_
              refine k_get X hH in_X52 0 rfl hc 18 (by decide) q6399 rfl dX52_reason_162 ?_
              refine lv_aload_n hx hb dX52_reason_165 rfl (lv_at hl 0 rfl) ?_
              refine k_get X hH in_X52 0 rfl hc 19 (by decide) q6400 rfl dX52_reason_166 ?_
              refine lv_iload_n hx hb dX52_reason_169 rfl (lv_at hl 2 rfl) ?_
              have hq_49 := hw.1
              have hw := hw.2
              obtain ⟨f_fired_48, ef_fired_48⟩ : ∃ y : Nat → Int32, y = upd f_fired f_firedCount.toNatClampNeg x2_45 := ⟨_, rfl⟩
              refine k_iast X hH 12 11 rfl rfl (z_in (rfl : f_firedCount.toInt = _) hq_49) dX52_reason_170 ef_fired_48 (ws1 := (wX52 ci ad d f_thrown f_classes f_things f_axioms f_fuel f_questions f_sorted f_left f_other f_right f_there f_member f_state f_before f_placed f_looked f_fact f_maker f_fired_48 f_firedCount f_needed f_module f_asked)) rfl (fun H locs hH => ?_)
              have hw := hw (zF f_fired_48) (by rw [ef_fired_48]; exact z_st (f := f_fired) (rfl : f_firedCount.toInt = _) hq_49.1 (rfl : x2_45.toInt = _))
              refine lv_aload_n hx hb dX52_reason_171 rfl (lv_at hl 0 rfl) ?_
              refine lv_dup hx hb dX52_reason_172 rfl ?_
              refine k_get X hH in_X52 0 rfl hc 19 (by decide) q6400 rfl dX52_reason_173 ?_
              refine lv_iconst (v := 1) hx hb dX52_reason_176 (by decide) ?_
              refine lv_iadd hx hb dX52_reason_177 ?_
              have e_50 := z_add (z_m (rfl : f_firedCount.toInt = _)) (z_m (rfl : (1 : Int32).toInt = 1))
              have hq_51 := hw.1
              have hw := hw.2
              have e_52 := z_x e_50 hq_51
              refine lv_topi (fun f_firedCount_53 ef_firedCount_53 => ?_)
              have hw := hw f_firedCount_53.toInt (by rw [ef_firedCount_53]; exact e_52)
              refine k_put X hH in_X52 tyX52_ok nmX52 0 rfl hc 19 (by decide) q6400 rfl (ty := .int) rfl rfl rfl (Nat.le_of_ble_eq_true rfl) dX52_reason_178 (ws1 := (wX52 ci ad d f_thrown f_classes f_things f_axioms f_fuel f_questions f_sorted f_left f_other f_right f_there f_member f_state f_before f_placed f_looked f_fact f_maker f_fired_48 f_firedCount_53 f_needed f_module f_asked)) rfl (fun H locs hH => ?_)
              refine lv_aload_n hx hb dX52_reason_181 rfl (lv_at hl 0 rfl) ?_
              refine k_get X hH in_X52 0 rfl hc 16 (by decide) q6397 rfl dX52_reason_182 ?_
              refine lv_aload_n hx hb dX52_reason_185 rfl (lv_at hl 0 rfl) ?_
              refine k_get X hH in_X52 0 rfl hc 9 (by decide) q6390 rfl dX52_reason_186 ?_
              refine lv_iload_n hx hb dX52_reason_189 rfl (lv_at hl 2 rfl) ?_
              have hq_54 := hw.1
              have hw := hw.2
              refine k_iald X hH 3 2 rfl rfl (z_in (rfl : x2_45.toInt = _) hq_54) dX52_reason_190 ?_
              have e_55 := z_ld (f := f_right) (rfl : x2_45.toInt = _) hq_54.1
              refine lv_iconst (v := 1) hx hb dX52_reason_191 (by decide) ?_
              have hq_57 := hw.1
              have hw := hw.2
              obtain ⟨f_fact_56, ef_fact_56⟩ : ∃ y : Nat → Int32, y = upd f_fact (f_right x2_45.toNatClampNeg).toNatClampNeg (vp_nar .boolean 1) := ⟨_, rfl⟩
              refine k_zast X hH 10 9 rfl rfl (z_in e_55 hq_57) dX52_reason_192 ef_fact_56 (ws1 := (wX52 ci ad d f_thrown f_classes f_things f_axioms f_fuel f_questions f_sorted f_left f_other f_right f_there f_member f_state f_before f_placed f_looked f_fact_56 f_maker f_fired_48 f_firedCount_53 f_needed f_module f_asked)) rfl (fun H locs hH => ?_)
              have hw := hw (zF f_fact_56) (by rw [ef_fact_56]; exact z_st (f := f_fact) e_55 hq_57.1 (z_narZ (rfl : (1 : Int32).toInt = 1) (by decide)))
              refine lv_aload_n hx hb dX52_reason_193 rfl (lv_at hl 0 rfl) ?_
              refine k_get X hH in_X52 0 rfl hc 17 (by decide) q6398 rfl dX52_reason_194 ?_
              refine lv_aload_n hx hb dX52_reason_197 rfl (lv_at hl 0 rfl) ?_
              refine k_get X hH in_X52 0 rfl hc 9 (by decide) q6390 rfl dX52_reason_198 ?_
              refine lv_iload_n hx hb dX52_reason_201 rfl (lv_at hl 2 rfl) ?_
              refine k_iald X hH 3 2 rfl rfl (z_in (rfl : x2_45.toInt = _) hq_54) dX52_reason_202 ?_
              have e_58 := z_ld (f := f_right) (rfl : x2_45.toInt = _) hq_54.1
              refine lv_iload_n hx hb dX52_reason_203 rfl (lv_at hl 2 rfl) ?_
              obtain ⟨f_maker_59, ef_maker_59⟩ : ∃ y : Nat → Int32, y = upd f_maker (f_right x2_45.toNatClampNeg).toNatClampNeg x2_45 := ⟨_, rfl⟩
              refine k_iast X hH 11 10 rfl rfl (z_in e_58 hq_57) dX52_reason_204 ef_maker_59 (ws1 := (wX52 ci ad d f_thrown f_classes f_things f_axioms f_fuel f_questions f_sorted f_left f_other f_right f_there f_member f_state f_before f_placed f_looked f_fact_56 f_maker_59 f_fired_48 f_firedCount_53 f_needed f_module f_asked)) rfl (fun H locs hH => ?_)
              have hw := hw (zF f_maker_59) (by rw [ef_maker_59]; exact z_st (f := f_maker) e_58 hq_57.1 (rfl : x2_45.toInt = _))
              refine lv_goto (tgt := 26) hx hb dX52_reason_205 (by decide) ?_
              exact ih f_fact_56 f_maker_59 f_fired_48 f_firedCount_53 hw _ _ ls hH (lv_sub hl [0, 1] rfl)
            · have hw := hw.1 (z_eq (rfl : f_firedCount.toInt = _) (rfl : f_fuel.toInt = _) c_47)
              exact hk159 f_fact f_maker f_fired f_firedCount hw _ _ ls hH (lv_sub hl [] rfl)
          · have hw := hw.2 (z_nle (rfl : (0 : Int32).toInt = 0) (rfl : x2_45.toInt = _) c_46)
            exact hk146 f_fact f_maker f_fired f_firedCount hw _ _ ls hH (lv_sub hl [] rfl)
set_option maxHeartbeats 4000000 in
theorem walkX52_reason {l : Launch} {dC : Nat → ClassId} {dI : Nat → Nat → Nat} {cl : List vw_C} {ci : Nat} (hc : cl[ci]? = some (RX52, TX52, 23)) {ad : Nat → Nat} {d : Nat → ClassId} {sz : Nat} {f_thrown : Int32} {f_classes : Int32} {f_things : Int32} {f_axioms : Int32} {f_fuel : Int32} {f_questions : Int32} {f_sorted : Int32} {f_left : Nat → Int32} {f_other : Nat → Int32} {f_right : Nat → Int32} {f_there : Nat → Int32} {f_member : Nat → Int32} {f_state : Nat → Int32} {f_before : Nat → Int32} {f_placed : Nat → Int32} {f_looked : Nat → Int32} {f_fact : Nat → Int32} {f_maker : Nat → Int32} {f_fired : Nat → Int32} {f_firedCount : Int32} {f_needed : Nat → Int32} {f_module : Nat → Int32} {f_asked : Int32} {x1 : Int32} {post : Int → (Int → Int) → (Int → Int) → (Int → Int) → Int → Prop} (hw : wpX52_reason post f_axioms.toInt f_fuel.toInt (zF f_left) (zF f_other) (zF f_right) (zF f_there) (zF f_fact) (zF f_maker) (zF f_fired) x1.toInt) :
    Met l yX52_reason (ws_ yX52_reason cX52_reason 5 (some .int)) ({ frames := 0, cells := 0, slots := 0, locals := 0 } : Room) (kPc (dC, dI) cl (tX52 d) [.ref (ad 0), .int x1] sz (wX52 ci ad d f_thrown f_classes f_things f_axioms f_fuel f_questions f_sorted f_left f_other f_right f_there f_member f_state f_before f_placed f_looked f_fact f_maker f_fired f_firedCount f_needed f_module f_asked)) (va_Qi (fun (r : Int32) (u : (Nat → Int32) × (Nat → Int32) × (Nat → Int32) × Int32) => post r.toInt (zF (u.1)) (zF (u.2.1)) (zF (u.2.2.1)) (u.2.2.2).toInt) (kB (dC, dI) cl (tX52 d) (va_A (wX52 ci ad d f_thrown f_classes f_things f_axioms f_fuel f_questions f_sorted f_left f_other f_right f_there f_member f_state f_before f_placed f_looked f_fact f_maker f_fired f_firedCount f_needed f_module f_asked) sz) (fun u : (Nat → Int32) × (Nat → Int32) × (Nat → Int32) × Int32 => (wX52 ci ad d f_thrown f_classes f_things f_axioms f_fuel f_questions f_sorted f_left f_other f_right f_there f_member f_state f_before f_placed f_looked (u.1) (u.2.1) (u.2.2.1) (u.2.2.2) f_needed f_module f_asked))) (va_A (wX52 ci ad d f_thrown f_classes f_things f_axioms f_fuel f_questions f_sorted f_left f_other f_right f_there f_member f_state f_before f_placed f_looked f_fact f_maker f_fired f_firedCount f_needed f_module f_asked) sz)) 0 0 (va_A (wX52 ci ad d f_thrown f_classes f_things f_axioms f_fuel f_questions f_sorted f_left f_other f_right f_there f_member f_state f_before f_placed f_looked f_fact f_maker f_fired f_firedCount f_needed f_module f_asked) sz) := by
  refine k_enter (by decide) (Nat.le_of_ble_eq_true rfl) ?_
  intro p e s m below meth c ls X hsz hH hl
  subst hsz
  generalize va_A (wX52 ci ad d f_thrown f_classes f_things f_axioms f_fuel f_questions f_sorted f_left f_other f_right f_there f_member f_state f_before f_placed f_looked f_fact f_maker f_fired f_firedCount f_needed f_module f_asked) s.heap.size = A at hH ⊢
  have hx := X.1.1
  have hb := X.1.2.1
  have hl : lv_has ls 5 [(0, .ref (ad 0)), (1, .int x1)] := hl
  unfold wpX52_reason at hw
  refine lv_aload_n hx hb dX52_reason_0 rfl (lv_at hl 0 rfl) ?_
  refine lv_iconst (v := 0) hx hb dX52_reason_1 (by decide) ?_
  refine k_put X hH in_X52 tyX52_ok nmX52 0 rfl hc 19 (by decide) q6400 rfl (ty := .int) rfl rfl rfl (Nat.le_of_ble_eq_true rfl) dX52_reason_2 (ws1 := (wX52 ci ad d f_thrown f_classes f_things f_axioms f_fuel f_questions f_sorted f_left f_other f_right f_there f_member f_state f_before f_placed f_looked f_fact f_maker f_fired 0 f_needed f_module f_asked)) rfl (fun H locs hH => ?_)
  refine lv_iconst (v := 0) hx hb dX52_reason_5 (by decide) ?_
  refine lv_istore_n (lv' := [(2, .int 0), (0, .ref (ad 0)), (1, .int x1)]) hx hb dX52_reason_6 rfl hl (by decide) rfl (fun ls hl => ?_)
  obtain ⟨fu, hw⟩ := hw
  refine atX52_reason_7 hc X ?_ fu 0 f_maker hw _ _ ls hH (lv_sub hl [1, 2, 0] rfl)
  · intro f_maker_6 hw H locs ls hH hl
    obtain ⟨fu, hw⟩ := hw
    refine atX52_reason_26 hc X ?_ ?_ ?_ fu f_fact f_maker_6 f_fired 0 hw _ _ ls hH (lv_sub hl [0, 1] rfl)
    · intro f_fact_60 f_maker_61 f_fired_62 f_firedCount_63 hw H locs ls hH hl
      refine lv_iconst (v := 0) hx hb dX52_reason_146 (by decide) ?_
      exact k_iret (v := 0) X hH (f_fact_60, f_maker_61, f_fired_62, f_firedCount_63) hw rfl rfl dX52_reason_147
    · intro f_fact_64 f_maker_65 f_fired_66 f_firedCount_67 hw H locs ls hH hl
      refine lv_iconst (v := 2) hx hb dX52_reason_159 (by decide) ?_
      exact k_iret (v := 2) X hH (f_fact_64, f_maker_65, f_fired_66, f_firedCount_67) hw rfl rfl dX52_reason_160
    · intro f_fact_68 f_maker_69 f_fired_70 f_firedCount_71 hw H locs ls hH hl
      refine lv_iconst (v := 1) hx hb dX52_reason_208 (by decide) ?_
      exact k_iret (v := 1) X hH (f_fact_68, f_maker_69, f_fired_70, f_firedCount_71) hw rfl rfl dX52_reason_209
set_option maxHeartbeats 4000000 in
theorem atX52_reasonAlone_2 {p : Program} {l : Launch} {e : Env} {s : State} {m : MethodId} {args : Array Value} {below : List Frame} {meth : Method} {c : Code} {dC : Nat → ClassId} {dI : Nat → Nat → Nat} {cl : List vw_C} {ci : Nat} (hc : cl[ci]? = some (RX52, TX52, 23)) {ad : Nat → Nat} {d : Nat → ClassId} {A : Nat → Prop} {post : Int → (Int → Int) → (Int → Int) → (Int → Int) → Int → Prop} {f_thrown : Int32} {f_classes : Int32} {f_things : Int32} {f_axioms : Int32} {f_fuel : Int32} {f_questions : Int32} {f_sorted : Int32} {f_left : Nat → Int32} {f_other : Nat → Int32} {f_right : Nat → Int32} {f_there : Nat → Int32} {f_member : Nat → Int32} {f_state : Nat → Int32} {f_before : Nat → Int32} {f_placed : Nat → Int32} {f_looked : Nat → Int32} {f_needed : Nat → Int32} {f_module : Nat → Int32} {f_asked : Int32} (X : kX p s m args meth c cX52_reasonAlone 4 RX52 (some .int) (dC, dI) cl (tX52 d)) {K30 : (Int → Int) → Prop} {x1 : Int32} {x2 : Int32} {f_maker : Nat → Int32} {f_fired : Nat → Int32} {f_firedCount : Int32} (hk30 : ∀ (f_fact : Nat → Int32), K30 (zF f_fact) → ∀ (H : Heap) (locs : List Loc) (ls : Array Slot), kH (dC, dI) cl A s.heap H locs (wX52 ci ad d f_thrown f_classes f_things f_axioms f_fuel f_questions f_sorted f_left f_other f_right f_there f_member f_state f_before f_placed f_looked f_fact f_maker f_fired f_firedCount f_needed f_module f_asked) → lv_has ls 4 [(0, .ref (ad 0)), (2, .int x2)] → W p l e ({ frames := 1, cells := 0, slots := 0, locals := 24 } : Room) s m args below meth c H locs 0 0 (MQ below (va_Qi (fun (r : Int32) (u : (Nat → Int32) × (Nat → Int32) × (Nat → Int32) × Int32) => post r.toInt (zF (u.1)) (zF (u.2.1)) (zF (u.2.2.1)) (u.2.2.2).toInt) (kB (dC, dI) cl (tX52 d) A (fun u : (Nat → Int32) × (Nat → Int32) × (Nat → Int32) × Int32 => (wX52 ci ad d f_thrown f_classes f_things f_axioms f_fuel f_questions f_sorted f_left f_other f_right f_there f_member f_state f_before f_placed f_looked (u.1) (u.2.1) (u.2.2.1) (u.2.2.2) f_needed f_module f_asked))) A) args s 0 0 A) (F0 m 30 ls [])) :
    ∀ (nn : Nat) (x3 : Int32) (f_fact : Nat → Int32), wX52_reasonAlone_2 K30 x1.toInt nn x3.toInt (zF f_fact) → ∀ (H : Heap) (locs : List Loc) (ls : Array Slot), kH (dC, dI) cl A s.heap H locs (wX52 ci ad d f_thrown f_classes f_things f_axioms f_fuel f_questions f_sorted f_left f_other f_right f_there f_member f_state f_before f_placed f_looked f_fact f_maker f_fired f_firedCount f_needed f_module f_asked) → lv_has ls 4 [(0, .ref (ad 0)), (1, .int x1), (2, .int x2), (3, .int x3)] → W p l e ({ frames := 1, cells := 0, slots := 0, locals := 24 } : Room) s m args below meth c H locs 0 0 (MQ below (va_Qi (fun (r : Int32) (u : (Nat → Int32) × (Nat → Int32) × (Nat → Int32) × Int32) => post r.toInt (zF (u.1)) (zF (u.2.1)) (zF (u.2.2.1)) (u.2.2.2).toInt) (kB (dC, dI) cl (tX52 d) A (fun u : (Nat → Int32) × (Nat → Int32) × (Nat → Int32) × Int32 => (wX52 ci ad d f_thrown f_classes f_things f_axioms f_fuel f_questions f_sorted f_left f_other f_right f_there f_member f_state f_before f_placed f_looked (u.1) (u.2.1) (u.2.2.1) (u.2.2.2) f_needed f_module f_asked))) A) args s 0 0 A) (F0 m 2 ls []) := by
  have hx := X.1.1
  have hb := X.1.2.1
  intro nn
  induction nn with
  | zero =>
    intro x3 f_fact hw
    exact False.elim hw
  | succ n ih =>
    intro x3 f_fact hw H locs ls hH hl
    rw [wX52_reasonAlone_2] at hw
    refine lv_iload_n hx hb dX52_reasonAlone_2 rfl (lv_at hl 3 rfl) ?_
    refine lv_bipush (v := 20) hx hb dX52_reasonAlone_3 (by decide) ?_
    refine lv_icmp_gt (tgt := 30) hx hb dX52_reasonAlone_5 (by decide) (fun c_1 => ?_) (fun c_1 => ?_)
    · have hw := hw.1 (z_lt (rfl : (20 : Int32).toInt = 20) (rfl : x3.toInt = _) c_1)
      exact hk30 f_fact hw _ _ ls hH (lv_sub hl [0, 2] rfl)
    · have hw := hw.2 (z_nlt (rfl : (20 : Int32).toInt = 20) (rfl : x3.toInt = _) c_1)
      refine lv_aload_n hx hb dX52_reasonAlone_8 rfl (lv_at hl 0 rfl) ?_
      refine k_get X hH in_X52 0 rfl hc 16 (by decide) q6397 rfl dX52_reasonAlone_9 ?_
      refine lv_iload_n hx hb dX52_reasonAlone_12 rfl (lv_at hl 3 rfl) ?_
      refine lv_iload_n hx hb dX52_reasonAlone_13 rfl (lv_at hl 3 rfl) ?_
      refine lv_iload_n hx hb dX52_reasonAlone_14 rfl (lv_at hl 1 rfl) ?_
      refine lv_icmp_ne (tgt := 22) hx hb dX52_reasonAlone_15 (by decide) (fun c_2 => ?_) (fun c_2 => ?_)
      · have hw := hw.2 (z_ne (rfl : x3.toInt = _) (rfl : x1.toInt = _) c_2)
        refine lv_iconst (v := 0) hx hb dX52_reasonAlone_22 (by decide) ?_
        have hq_4 := hw.1
        have hw := hw.2
        obtain ⟨f_fact_3, ef_fact_3⟩ : ∃ y : Nat → Int32, y = upd f_fact x3.toNatClampNeg (vp_nar .boolean 0) := ⟨_, rfl⟩
        refine k_zast X hH 10 9 rfl rfl (z_in (rfl : x3.toInt = _) hq_4) dX52_reasonAlone_23 ef_fact_3 (ws1 := (wX52 ci ad d f_thrown f_classes f_things f_axioms f_fuel f_questions f_sorted f_left f_other f_right f_there f_member f_state f_before f_placed f_looked f_fact_3 f_maker f_fired f_firedCount f_needed f_module f_asked)) rfl (fun H locs hH => ?_)
        have hw := hw (zF f_fact_3) (by rw [ef_fact_3]; exact z_st (f := f_fact) (rfl : x3.toInt = _) hq_4.1 (z_narZ (rfl : (0 : Int32).toInt = 0) (by decide)))
        have hq_6 := hw.1
        have hw := hw.2
        obtain ⟨x3_5, ex3_5⟩ : ∃ y : Int32, y = x3 + 1 := ⟨_, rfl⟩
        have hw := hw x3_5.toInt (by rw [ex3_5]; exact (z_x (z_add (z_m (rfl : x3.toInt = _)) (z_m (rfl : (1 : Int32).toInt = 1))) hq_6))
        refine lv_iinc (v := x3_5) (lv' := [(3, .int x3_5), (0, .ref (ad 0)), (1, .int x1), (2, .int x2)]) hx hb dX52_reasonAlone_24 hl (k := 3) rfl (by rw [ex3_5]; rfl) (by decide) rfl (fun ls hl => ?_)
        refine lv_goto (tgt := 2) hx hb dX52_reasonAlone_27 (by decide) ?_
        exact ih x3_5 f_fact_3 hw _ _ ls hH (lv_sub hl [1, 2, 3, 0] rfl)
      · have hw := hw.1 (z_eq (rfl : x3.toInt = _) (rfl : x1.toInt = _) c_2)
        refine lv_iconst (v := 1) hx hb dX52_reasonAlone_18 (by decide) ?_
        refine lv_goto (tgt := 23) hx hb dX52_reasonAlone_19 (by decide) ?_
        have hq_8 := hw.1
        have hw := hw.2
        obtain ⟨f_fact_7, ef_fact_7⟩ : ∃ y : Nat → Int32, y = upd f_fact x3.toNatClampNeg (vp_nar .boolean 1) := ⟨_, rfl⟩
        refine k_zast X hH 10 9 rfl rfl (z_in (rfl : x3.toInt = _) hq_8) dX52_reasonAlone_23 ef_fact_7 (ws1 := (wX52 ci ad d f_thrown f_classes f_things f_axioms f_fuel f_questions f_sorted f_left f_other f_right f_there f_member f_state f_before f_placed f_looked f_fact_7 f_maker f_fired f_firedCount f_needed f_module f_asked)) rfl (fun H locs hH => ?_)
        have hw := hw (zF f_fact_7) (by rw [ef_fact_7]; exact z_st (f := f_fact) (rfl : x3.toInt = _) hq_8.1 (z_narZ (rfl : (1 : Int32).toInt = 1) (by decide)))
        have hq_10 := hw.1
        have hw := hw.2
        obtain ⟨x3_9, ex3_9⟩ : ∃ y : Int32, y = x3 + 1 := ⟨_, rfl⟩
        have hw := hw x3_9.toInt (by rw [ex3_9]; exact (z_x (z_add (z_m (rfl : x3.toInt = _)) (z_m (rfl : (1 : Int32).toInt = 1))) hq_10))
        refine lv_iinc (v := x3_9) (lv' := [(3, .int x3_9), (0, .ref (ad 0)), (1, .int x1), (2, .int x2)]) hx hb dX52_reasonAlone_24 hl (k := 3) rfl (by rw [ex3_9]; rfl) (by decide) rfl (fun ls hl => ?_)
        refine lv_goto (tgt := 2) hx hb dX52_reasonAlone_27 (by decide) ?_
        exact ih x3_9 f_fact_7 hw _ _ ls hH (lv_sub hl [1, 2, 3, 0] rfl)
set_option maxHeartbeats 4000000 in
theorem walkX52_reasonAlone {l : Launch} {dC : Nat → ClassId} {dI : Nat → Nat → Nat} {cl : List vw_C} {ci : Nat} (hc : cl[ci]? = some (RX52, TX52, 23)) {ad : Nat → Nat} {d : Nat → ClassId} {sz : Nat} {f_thrown : Int32} {f_classes : Int32} {f_things : Int32} {f_axioms : Int32} {f_fuel : Int32} {f_questions : Int32} {f_sorted : Int32} {f_left : Nat → Int32} {f_other : Nat → Int32} {f_right : Nat → Int32} {f_there : Nat → Int32} {f_member : Nat → Int32} {f_state : Nat → Int32} {f_before : Nat → Int32} {f_placed : Nat → Int32} {f_looked : Nat → Int32} {f_fact : Nat → Int32} {f_maker : Nat → Int32} {f_fired : Nat → Int32} {f_firedCount : Int32} {f_needed : Nat → Int32} {f_module : Nat → Int32} {f_asked : Int32} {x1 : Int32} {x2 : Int32} {post : Int → (Int → Int) → (Int → Int) → (Int → Int) → Int → Prop} (hw : wpX52_reasonAlone post f_axioms.toInt f_fuel.toInt (zF f_left) (zF f_other) (zF f_right) (zF f_there) (zF f_fact) (zF f_maker) (zF f_fired) x1.toInt x2.toInt) :
    Met l yX52_reasonAlone (ws_ yX52_reasonAlone cX52_reasonAlone 4 (some .int)) ({ frames := 1, cells := 0, slots := 0, locals := 24 } : Room) (kPc (dC, dI) cl (tX52 d) [.ref (ad 0), .int x1, .int x2] sz (wX52 ci ad d f_thrown f_classes f_things f_axioms f_fuel f_questions f_sorted f_left f_other f_right f_there f_member f_state f_before f_placed f_looked f_fact f_maker f_fired f_firedCount f_needed f_module f_asked)) (va_Qi (fun (r : Int32) (u : (Nat → Int32) × (Nat → Int32) × (Nat → Int32) × Int32) => post r.toInt (zF (u.1)) (zF (u.2.1)) (zF (u.2.2.1)) (u.2.2.2).toInt) (kB (dC, dI) cl (tX52 d) (va_A (wX52 ci ad d f_thrown f_classes f_things f_axioms f_fuel f_questions f_sorted f_left f_other f_right f_there f_member f_state f_before f_placed f_looked f_fact f_maker f_fired f_firedCount f_needed f_module f_asked) sz) (fun u : (Nat → Int32) × (Nat → Int32) × (Nat → Int32) × Int32 => (wX52 ci ad d f_thrown f_classes f_things f_axioms f_fuel f_questions f_sorted f_left f_other f_right f_there f_member f_state f_before f_placed f_looked (u.1) (u.2.1) (u.2.2.1) (u.2.2.2) f_needed f_module f_asked))) (va_A (wX52 ci ad d f_thrown f_classes f_things f_axioms f_fuel f_questions f_sorted f_left f_other f_right f_there f_member f_state f_before f_placed f_looked f_fact f_maker f_fired f_firedCount f_needed f_module f_asked) sz)) 0 0 (va_A (wX52 ci ad d f_thrown f_classes f_things f_axioms f_fuel f_questions f_sorted f_left f_other f_right f_there f_member f_state f_before f_placed f_looked f_fact f_maker f_fired f_firedCount f_needed f_module f_asked) sz) := by
  refine k_enter (by decide) (Nat.le_of_ble_eq_true rfl) ?_
  intro p e s m below meth c ls X hsz hH hl
  subst hsz
  generalize va_A (wX52 ci ad d f_thrown f_classes f_things f_axioms f_fuel f_questions f_sorted f_left f_other f_right f_there f_member f_state f_before f_placed f_looked f_fact f_maker f_fired f_firedCount f_needed f_module f_asked) s.heap.size = A at hH ⊢
  have hx := X.1.1
  have hb := X.1.2.1
  have hl : lv_has ls 4 [(0, .ref (ad 0)), (1, .int x1), (2, .int x2)] := hl
  unfold wpX52_reasonAlone at hw
  refine lv_iconst (v := 0) hx hb dX52_reasonAlone_0 (by decide) ?_
  refine lv_istore_n (lv' := [(3, .int 0), (0, .ref (ad 0)), (1, .int x1), (2, .int x2)]) hx hb dX52_reasonAlone_1 rfl hl (by decide) rfl (fun ls hl => ?_)
  obtain ⟨fu, hw⟩ := hw
  refine atX52_reasonAlone_2 hc X ?_ fu 0 f_fact hw _ _ ls hH (lv_sub hl [1, 2, 3, 0] rfl)
  · intro f_fact_11 hw H locs ls hH hl
    refine lv_aload_n hx hb dX52_reasonAlone_30 rfl (lv_at hl 0 rfl) ?_
    refine lv_iload_n hx hb dX52_reasonAlone_31 rfl (lv_at hl 1 rfl) ?_
    refine k_i0 hH (k_runV (As := [.int x2]) (rest := []) X hH.1 hH.2.1 X.2.2.2 (walkX52_reason hc (x1 := x2) (f_thrown := f_thrown) (f_classes := f_classes) (f_things := f_things) (f_axioms := f_axioms) (f_fuel := f_fuel) (f_questions := f_questions) (f_sorted := f_sorted) (f_left := f_left) (f_other := f_other) (f_right := f_right) (f_there := f_there) (f_member := f_member) (f_state := f_state) (f_before := f_before) (f_placed := f_placed) (f_looked := f_looked) (f_fact := f_fact_11) (f_maker := f_maker) (f_fired := f_fired) (f_firedCount := f_firedCount) (f_needed := f_needed) (f_module := f_module) (f_asked := f_asked) hw) (cwV 1 X.1.2.2.2.2 gX52_93 rfl rfl rfl hX52_reason ⟨Nat.le_of_ble_eq_true rfl, Nat.le_of_ble_eq_true rfl⟩) hc (q0 := 0) rfl rfl hl.1 rfl (Nat.le_of_ble_eq_true rfl) dX52_reasonAlone_32 ⟨Nat.le_refl 0, Nat.le_refl 0⟩) (fun r_12 u H locs hw hH => ?_)
    obtain ⟨f_fact_13, f_maker_14, f_fired_15, f_firedCount_16⟩ := u
    have hH : kH (dC, dI) cl A s.heap H locs (wX52 ci ad d f_thrown f_classes f_things f_axioms f_fuel f_questions f_sorted f_left f_other f_right f_there f_member f_state f_before f_placed f_looked f_fact_13 f_maker_14 f_fired_15 f_firedCount_16 f_needed f_module f_asked) := hH
    exact k_iret (v := r_12) X hH (f_fact_13, f_maker_14, f_fired_15, f_firedCount_16) hw rfl rfl dX52_reasonAlone_35
set_option maxHeartbeats 4000000 in
theorem atX52_look_46 {p : Program} {l : Launch} {e : Env} {s : State} {m : MethodId} {args : Array Value} {below : List Frame} {meth : Method} {c : Code} {dC : Nat → ClassId} {dI : Nat → Nat → Nat} {cl : List vw_C} {ci : Nat} (hc : cl[ci]? = some (RX52, TX52, 23)) {ad : Nat → Nat} {d : Nat → ClassId} {A : Nat → Prop} {post : Int → (Int → Int) → (Int → Int) → (Int → Int) → (Int → Int) → Int → Int → Prop} {f_thrown : Int32} {f_classes : Int32} {f_things : Int32} {f_axioms : Int32} {f_fuel : Int32} {f_questions : Int32} {f_sorted : Int32} {f_left : Nat → Int32} {f_other : Nat → Int32} {f_right : Nat → Int32} {f_there : Nat → Int32} {f_member : Nat → Int32} {f_before : Nat → Int32} {f_placed : Nat → Int32} {f_looked : Nat → Int32} {f_needed : Nat → Int32} {f_module : Nat → Int32} (X : kX p s m args meth c cX52_look 3 RX52 (some .boolean) (dC, dI) cl (tX52 d))     :
    ∀ (x1 : Int32) (x2 : Int32) (f_state : Nat → Int32) (f_fact : Nat → Int32) (f_maker : Nat → Int32) (f_fired : Nat → Int32) (f_firedCount : Int32) (f_asked : Int32), wX52_look_46 post x1.toInt x2.toInt (zF f_state) (zF f_fact) (zF f_maker) (zF f_fired) f_firedCount.toInt f_asked.toInt → ∀ (H : Heap) (locs : List Loc) (ls : Array Slot), kH (dC, dI) cl A s.heap H locs (wX52 ci ad d f_thrown f_classes f_things f_axioms f_fuel f_questions f_sorted f_left f_other f_right f_there f_member f_state f_before f_placed f_looked f_fact f_maker f_fired f_firedCount f_needed f_module f_asked) → lv_has ls 3 [(0, .ref (ad 0)), (1, .int x1), (2, .int x2)] → W p l e ({ frames := 4, cells := 0, slots := 0, locals := 93 } : Room) s m args below meth c H locs 0 0 (MQ below (va_Qi (fun (r : Int32) (u : (Nat → Int32) × (Nat → Int32) × (Nat → Int32) × (Nat → Int32) × Int32 × Int32) => post r.toInt (zF (u.1)) (zF (u.2.1)) (zF (u.2.2.1)) (zF (u.2.2.2.1)) (u.2.2.2.2.1).toInt (u.2.2.2.2.2).toInt) (kB (dC, dI) cl (tX52 d) A (fun u : (Nat → Int32) × (Nat → Int32) × (Nat → Int32) × (Nat → Int32) × Int32 × Int32 => (wX52 ci ad d f_thrown f_classes f_things f_axioms f_fuel f_questions f_sorted f_left f_other f_right f_there f_member (u.1) f_before f_placed f_looked (u.2.1) (u.2.2.1) (u.2.2.2.1) (u.2.2.2.2.1) f_needed f_module (u.2.2.2.2.2)))) A) args s 0 0 A) (F0 m 46 ls []) := by
  have hx := X.1.1
  have hb := X.1.2.1
  intro x1 x2 f_state f_fact f_maker f_fired f_firedCount f_asked hw H locs ls hH hl
  unfold wX52_look_46 at hw
  refine lv_aload_n hx hb dX52_look_46 rfl (lv_at hl 0 rfl) ?_
  refine k_get X hH in_X52 0 rfl hc 12 (by decide) q6393 rfl dX52_look_47 ?_
  refine lv_bipush (v := 21) hx hb dX52_look_50 (by decide) ?_
  refine lv_iload_n hx hb dX52_look_52 rfl (lv_at hl 1 rfl) ?_
  refine lv_imul hx hb dX52_look_53 ?_
  have e_7 := z_mul (z_m (rfl : (21 : Int32).toInt = 21)) (z_m (rfl : x1.toInt = _))
  refine lv_iload_n hx hb dX52_look_54 rfl (lv_at hl 2 rfl) ?_
  refine lv_iadd hx hb dX52_look_55 ?_
  have e_8 := z_add e_7 (z_m (rfl : x2.toInt = _))
  have hq_9 := hw.1
  have hw := hw.2
  have e_10 := z_xi e_8 hq_9 (by decide)
  refine k_iald X hH 6 5 rfl rfl (z_in e_10 hq_9) dX52_look_56 ?_
  have e_11 := z_ld (f := f_state) e_10 hq_9.1
  refine lv_iconst (v := 1) hx hb dX52_look_57 (by decide) ?_
  refine lv_icmp_ne (tgt := 65) hx hb dX52_look_58 (by decide) (fun c_12 => ?_) (fun c_12 => ?_)
  · have hw := hw.2 (z_ne e_11 (rfl : (1 : Int32).toInt = 1) c_12)
    refine lv_iconst (v := 0) hx hb dX52_look_65 (by decide) ?_
    exact k_iret (v := 0) X hH (f_state, f_fact, f_maker, f_fired, f_firedCount, f_asked) hw rfl rfl dX52_look_66
  · have hw := hw.1 (z_eq e_11 (rfl : (1 : Int32).toInt = 1) c_12)
    refine lv_iconst (v := 1) hx hb dX52_look_61 (by decide) ?_
    refine lv_goto (tgt := 66) hx hb dX52_look_62 (by decide) ?_
    exact k_iret (v := 1) X hH (f_state, f_fact, f_maker, f_fired, f_firedCount, f_asked) hw rfl rfl dX52_look_66
set_option maxHeartbeats 4000000 in
theorem walkX52_look {l : Launch} {dC : Nat → ClassId} {dI : Nat → Nat → Nat} {cl : List vw_C} {ci : Nat} (hc : cl[ci]? = some (RX52, TX52, 23)) {ad : Nat → Nat} {d : Nat → ClassId} {sz : Nat} {f_thrown : Int32} {f_classes : Int32} {f_things : Int32} {f_axioms : Int32} {f_fuel : Int32} {f_questions : Int32} {f_sorted : Int32} {f_left : Nat → Int32} {f_other : Nat → Int32} {f_right : Nat → Int32} {f_there : Nat → Int32} {f_member : Nat → Int32} {f_state : Nat → Int32} {f_before : Nat → Int32} {f_placed : Nat → Int32} {f_looked : Nat → Int32} {f_fact : Nat → Int32} {f_maker : Nat → Int32} {f_fired : Nat → Int32} {f_firedCount : Int32} {f_needed : Nat → Int32} {f_module : Nat → Int32} {f_asked : Int32} {x1 : Int32} {x2 : Int32} {post : Int → (Int → Int) → (Int → Int) → (Int → Int) → (Int → Int) → Int → Int → Prop} (hw : wpX52_look post f_classes.toInt f_axioms.toInt f_fuel.toInt (zF f_left) (zF f_other) (zF f_right) (zF f_there) (zF f_state) (zF f_fact) (zF f_maker) (zF f_fired) f_firedCount.toInt f_asked.toInt x1.toInt x2.toInt) :
    Met l yX52_look (ws_ yX52_look cX52_look 3 (some .boolean)) ({ frames := 4, cells := 0, slots := 0, locals := 93 } : Room) (kPc (dC, dI) cl (tX52 d) [.ref (ad 0), .int x1, .int x2] sz (wX52 ci ad d f_thrown f_classes f_things f_axioms f_fuel f_questions f_sorted f_left f_other f_right f_there f_member f_state f_before f_placed f_looked f_fact f_maker f_fired f_firedCount f_needed f_module f_asked)) (va_Qi (fun (r : Int32) (u : (Nat → Int32) × (Nat → Int32) × (Nat → Int32) × (Nat → Int32) × Int32 × Int32) => post r.toInt (zF (u.1)) (zF (u.2.1)) (zF (u.2.2.1)) (zF (u.2.2.2.1)) (u.2.2.2.2.1).toInt (u.2.2.2.2.2).toInt) (kB (dC, dI) cl (tX52 d) (va_A (wX52 ci ad d f_thrown f_classes f_things f_axioms f_fuel f_questions f_sorted f_left f_other f_right f_there f_member f_state f_before f_placed f_looked f_fact f_maker f_fired f_firedCount f_needed f_module f_asked) sz) (fun u : (Nat → Int32) × (Nat → Int32) × (Nat → Int32) × (Nat → Int32) × Int32 × Int32 => (wX52 ci ad d f_thrown f_classes f_things f_axioms f_fuel f_questions f_sorted f_left f_other f_right f_there f_member (u.1) f_before f_placed f_looked (u.2.1) (u.2.2.1) (u.2.2.2.1) (u.2.2.2.2.1) f_needed f_module (u.2.2.2.2.2)))) (va_A (wX52 ci ad d f_thrown f_classes f_things f_axioms f_fuel f_questions f_sorted f_left f_other f_right f_there f_member f_state f_before f_placed f_looked f_fact f_maker f_fired f_firedCount f_needed f_module f_asked) sz)) 0 0 (va_A (wX52 ci ad d f_thrown f_classes f_things f_axioms f_fuel f_questions f_sorted f_left f_other f_right f_there f_member f_state f_before f_placed f_looked f_fact f_maker f_fired f_firedCount f_needed f_module f_asked) sz) := by
  refine k_enter (by decide) (Nat.le_of_ble_eq_true rfl) ?_
  intro p e s m below meth c ls X hsz hH hl
  subst hsz
  generalize va_A (wX52 ci ad d f_thrown f_classes f_things f_axioms f_fuel f_questions f_sorted f_left f_other f_right f_there f_member f_state f_before f_placed f_looked f_fact f_maker f_fired f_firedCount f_needed f_module f_asked) s.heap.size = A at hH ⊢
  have hx := X.1.1
  have hb := X.1.2.1
  have hl : lv_has ls 3 [(0, .ref (ad 0)), (1, .int x1), (2, .int x2)] := hl
  unfold wpX52_look at hw
  refine lv_aload_n hx hb dX52_look_0 rfl (lv_at hl 0 rfl) ?_
  refine k_get X hH in_X52 0 rfl hc 12 (by decide) q6393 rfl dX52_look_1 ?_
  refine lv_bipush (v := 21) hx hb dX52_look_4 (by decide) ?_
  refine lv_iload_n hx hb dX52_look_6 rfl (lv_at hl 1 rfl) ?_
  refine lv_imul hx hb dX52_look_7 ?_
  have e_1 := z_mul (z_m (rfl : (21 : Int32).toInt = 21)) (z_m (rfl : x1.toInt = _))
  refine lv_iload_n hx hb dX52_look_8 rfl (lv_at hl 2 rfl) ?_
  refine lv_iadd hx hb dX52_look_9 ?_
  have e_2 := z_add e_1 (z_m (rfl : x2.toInt = _))
  have hq_3 := hw.1
  have hw := hw.2
  have e_4 := z_xi e_2 hq_3 (by decide)
  refine k_iald X hH 6 5 rfl rfl (z_in e_4 hq_3) dX52_look_10 ?_
  have e_5 := z_ld (f := f_state) e_4 hq_3.1
  refine lv_iconst (v := 3) hx hb dX52_look_11 (by decide) ?_
  refine lv_icmp_ne (tgt := 46) hx hb dX52_look_12 (by decide) (fun c_6 => ?_) (fun c_6 => ?_)
  · have hw := hw.2 (z_ne e_5 (rfl : (3 : Int32).toInt = 3) c_6)
    exact atX52_look_46 hc X x1 x2 f_state f_fact f_maker f_fired f_firedCount f_asked hw _ _ ls hH (lv_sub hl [0, 1, 2] rfl)
  · have hw := hw.1 (z_eq e_5 (rfl : (3 : Int32).toInt = 3) c_6)
    refine lv_aload_n hx hb dX52_look_15 rfl (lv_at hl 0 rfl) ?_
    refine lv_dup hx hb dX52_look_16 rfl ?_
    refine k_get X hH in_X52 0 rfl hc 22 (by decide) q6403 rfl dX52_look_17 ?_
    refine lv_iconst (v := 1) hx hb dX52_look_20 (by decide) ?_
    refine lv_iadd hx hb dX52_look_21 ?_
    have e_13 := z_add (z_m (rfl : f_asked.toInt = _)) (z_m (rfl : (1 : Int32).toInt = 1))
    have hq_14 := hw.1
    have hw := hw.2
    have e_15 := z_x e_13 hq_14
    refine lv_topi (fun f_asked_16 ef_asked_16 => ?_)
    have hw := hw f_asked_16.toInt (by rw [ef_asked_16]; exact e_15)
    refine k_put X hH in_X52 tyX52_ok nmX52 0 rfl hc 22 (by decide) q6403 rfl (ty := .int) rfl rfl rfl (Nat.le_of_ble_eq_true rfl) dX52_look_22 (ws1 := (wX52 ci ad d f_thrown f_classes f_things f_axioms f_fuel f_questions f_sorted f_left f_other f_right f_there f_member f_state f_before f_placed f_looked f_fact f_maker f_fired f_firedCount f_needed f_module f_asked_16)) rfl (fun H locs hH => ?_)
    refine lv_aload_n hx hb dX52_look_25 rfl (lv_at hl 0 rfl) ?_
    refine k_get X hH in_X52 0 rfl hc 12 (by decide) q6393 rfl dX52_look_26 ?_
    refine lv_bipush (v := 21) hx hb dX52_look_29 (by decide) ?_
    refine lv_iload_n hx hb dX52_look_31 rfl (lv_at hl 1 rfl) ?_
    refine lv_imul hx hb dX52_look_32 ?_
    have e_17 := z_mul (z_m (rfl : (21 : Int32).toInt = 21)) (z_m (rfl : x1.toInt = _))
    refine lv_iload_n hx hb dX52_look_33 rfl (lv_at hl 2 rfl) ?_
    refine lv_iadd hx hb dX52_look_34 ?_
    have e_18 := z_add e_17 (z_m (rfl : x2.toInt = _))
    refine lv_aload_n hx hb dX52_look_35 rfl (lv_at hl 0 rfl) ?_
    refine lv_iload_n hx hb dX52_look_36 rfl (lv_at hl 1 rfl) ?_
    refine lv_iload_n hx hb dX52_look_37 rfl (lv_at hl 2 rfl) ?_
    refine k_i0 hH (k_runV (As := [.int x1, .int x2]) (rest := [.int ((21 * x1) + x2), .ref (ad 6)]) X hH.1 hH.2.1 X.2.2.2 (walkX52_reasonAlone hc (x1 := x1) (x2 := x2) (f_thrown := f_thrown) (f_classes := f_classes) (f_things := f_things) (f_axioms := f_axioms) (f_fuel := f_fuel) (f_questions := f_questions) (f_sorted := f_sorted) (f_left := f_left) (f_other := f_other) (f_right := f_right) (f_there := f_there) (f_member := f_member) (f_state := f_state) (f_before := f_before) (f_placed := f_placed) (f_looked := f_looked) (f_fact := f_fact) (f_maker := f_maker) (f_fired := f_fired) (f_firedCount := f_firedCount) (f_needed := f_needed) (f_module := f_module) (f_asked := f_asked_16) hw) (cwV 2 X.1.2.2.2.2 gX52_121 rfl rfl rfl hX52_reasonAlone ⟨Nat.le_of_ble_eq_true rfl, Nat.le_of_ble_eq_true rfl⟩) hc (q0 := 0) rfl rfl hl.1 rfl (Nat.le_of_ble_eq_true rfl) dX52_look_38 ⟨Nat.le_refl 0, Nat.le_refl 0⟩) (fun r_19 u H locs hw hH => ?_)
    obtain ⟨f_fact_20, f_maker_21, f_fired_22, f_firedCount_23⟩ := u
    have hH : kH (dC, dI) cl A s.heap H locs (wX52 ci ad d f_thrown f_classes f_things f_axioms f_fuel f_questions f_sorted f_left f_other f_right f_there f_member f_state f_before f_placed f_looked f_fact_20 f_maker_21 f_fired_22 f_firedCount_23 f_needed f_module f_asked_16) := hH
    have e_25 := z_xi e_18 hq_3 (by decide)
    obtain ⟨f_state_24, ef_state_24⟩ : ∃ y : Nat → Int32, y = upd f_state ((21 * x1) + x2).toNatClampNeg r_19 := ⟨_, rfl⟩
    refine k_iast X hH 6 5 rfl rfl (z_in e_25 hq_3) dX52_look_41 ef_state_24 (ws1 := (wX52 ci ad d f_thrown f_classes f_things f_axioms f_fuel f_questions f_sorted f_left f_other f_right f_there f_member f_state_24 f_before f_placed f_looked f_fact_20 f_maker_21 f_fired_22 f_firedCount_23 f_needed f_module f_asked_16)) rfl (fun H locs hH => ?_)
    have hw := hw (zF f_state_24) (by rw [ef_state_24]; exact z_st (f := f_state) e_25 hq_3.1 (rfl : r_19.toInt = _))
    refine lv_aload_n hx hb dX52_look_42 rfl (lv_at hl 0 rfl) ?_
    refine k_v0 hH (k_runV (As := []) (rest := []) X hH.1 hH.2.1 X.2.2.2 (walkX52_close hc (f_thrown := f_thrown) (f_classes := f_classes) (f_things := f_things) (f_axioms := f_axioms) (f_fuel := f_fuel) (f_questions := f_questions) (f_sorted := f_sorted) (f_left := f_left) (f_other := f_other) (f_right := f_right) (f_there := f_there) (f_member := f_member) (f_state := f_state_24) (f_before := f_before) (f_placed := f_placed) (f_looked := f_looked) (f_fact := f_fact_20) (f_maker := f_maker_21) (f_fired := f_fired_22) (f_firedCount := f_firedCount_23) (f_needed := f_needed) (f_module := f_module) (f_asked := f_asked_16) hw) (cwV 0 X.1.2.2.2.2 gX52_101 rfl rfl rfl hX52_close ⟨Nat.le_of_ble_eq_true rfl, Nat.le_of_ble_eq_true rfl⟩) hc (q0 := 0) rfl rfl hl.1 rfl (Nat.le_of_ble_eq_true rfl) dX52_look_43 ⟨Nat.le_refl 0, Nat.le_refl 0⟩) (fun u H locs hw hH => ?_)
    obtain ⟨f_state_26, eu⟩ : ∃ z, z = u := ⟨_, rfl⟩
    subst eu
    have hH : kH (dC, dI) cl A s.heap H locs (wX52 ci ad d f_thrown f_classes f_things f_axioms f_fuel f_questions f_sorted f_left f_other f_right f_there f_member f_state_26 f_before f_placed f_looked f_fact_20 f_maker_21 f_fired_22 f_firedCount_23 f_needed f_module f_asked_16) := hH
    exact atX52_look_46 hc X x1 x2 f_state_26 f_fact_20 f_maker_21 f_fired_22 f_firedCount_23 f_asked_16 hw _ _ ls hH (lv_sub hl [0, 1, 2] rfl)
set_option maxHeartbeats 4000000 in
theorem walkX52_isUnder {l : Launch} {dC : Nat → ClassId} {dI : Nat → Nat → Nat} {cl : List vw_C} {ci : Nat} (hc : cl[ci]? = some (RX52, TX52, 23)) {ad : Nat → Nat} {d : Nat → ClassId} {sz : Nat} {f_thrown : Int32} {f_classes : Int32} {f_things : Int32} {f_axioms : Int32} {f_fuel : Int32} {f_questions : Int32} {f_sorted : Int32} {f_left : Nat → Int32} {f_other : Nat → Int32} {f_right : Nat → Int32} {f_there : Nat → Int32} {f_member : Nat → Int32} {f_state : Nat → Int32} {f_before : Nat → Int32} {f_placed : Nat → Int32} {f_looked : Nat → Int32} {f_fact : Nat → Int32} {f_maker : Nat → Int32} {f_fired : Nat → Int32} {f_firedCount : Int32} {f_needed : Nat → Int32} {f_module : Nat → Int32} {f_asked : Int32} {x1 : Int32} {x2 : Int32} {post : Int → Prop} (hw : wpX52_isUnder post (zF f_state) x1.toInt x2.toInt) :
    Met l yX52_isUnder (ws_ yX52_isUnder cX52_isUnder 3 (some .boolean)) ({ frames := 1, cells := 0, slots := 0, locals := 22 } : Room) (kPc (dC, dI) cl (tX52 d) [.ref (ad 0), .int x1, .int x2] sz (wX52 ci ad d f_thrown f_classes f_things f_axioms f_fuel f_questions f_sorted f_left f_other f_right f_there f_member f_state f_before f_placed f_looked f_fact f_maker f_fired f_firedCount f_needed f_module f_asked)) (va_Qi (fun (r : Int32) (_ : Unit) => post r.toInt) (kB (dC, dI) cl (tX52 d) (va_A (wX52 ci ad d f_thrown f_classes f_things f_axioms f_fuel f_questions f_sorted f_left f_other f_right f_there f_member f_state f_before f_placed f_looked f_fact f_maker f_fired f_firedCount f_needed f_module f_asked) sz) (fun _ : Unit => (wX52 ci ad d f_thrown f_classes f_things f_axioms f_fuel f_questions f_sorted f_left f_other f_right f_there f_member f_state f_before f_placed f_looked f_fact f_maker f_fired f_firedCount f_needed f_module f_asked))) (va_A (wX52 ci ad d f_thrown f_classes f_things f_axioms f_fuel f_questions f_sorted f_left f_other f_right f_there f_member f_state f_before f_placed f_looked f_fact f_maker f_fired f_firedCount f_needed f_module f_asked) sz)) 0 0 (va_A (wX52 ci ad d f_thrown f_classes f_things f_axioms f_fuel f_questions f_sorted f_left f_other f_right f_there f_member f_state f_before f_placed f_looked f_fact f_maker f_fired f_firedCount f_needed f_module f_asked) sz) := by
  refine k_enter (by decide) (Nat.le_of_ble_eq_true rfl) ?_
  intro p e s m below meth c ls X hsz hH hl
  subst hsz
  generalize va_A (wX52 ci ad d f_thrown f_classes f_things f_axioms f_fuel f_questions f_sorted f_left f_other f_right f_there f_member f_state f_before f_placed f_looked f_fact f_maker f_fired f_firedCount f_needed f_module f_asked) s.heap.size = A at hH ⊢
  have hx := X.1.1
  have hb := X.1.2.1
  have hl : lv_has ls 3 [(0, .ref (ad 0)), (1, .int x1), (2, .int x2)] := hl
  unfold wpX52_isUnder at hw
  refine lv_aload_n hx hb dX52_isUnder_0 rfl (lv_at hl 0 rfl) ?_
  refine lv_iload_n hx hb dX52_isUnder_1 rfl (lv_at hl 1 rfl) ?_
  refine lv_iload_n hx hb dX52_isUnder_2 rfl (lv_at hl 2 rfl) ?_
  refine k_i0 hH (k_runV (As := [.int x1, .int x2]) (rest := []) X hH.1 hH.2.1 X.2.2.2 (walkX52_below hc (x1 := x1) (x2 := x2) (f_thrown := f_thrown) (f_classes := f_classes) (f_things := f_things) (f_axioms := f_axioms) (f_fuel := f_fuel) (f_questions := f_questions) (f_sorted := f_sorted) (f_left := f_left) (f_other := f_other) (f_right := f_right) (f_there := f_there) (f_member := f_member) (f_state := f_state) (f_before := f_before) (f_placed := f_placed) (f_looked := f_looked) (f_fact := f_fact) (f_maker := f_maker) (f_fired := f_fired) (f_firedCount := f_firedCount) (f_needed := f_needed) (f_module := f_module) (f_asked := f_asked) hw) (cwV 2 X.1.2.2.2.2 gX52_77 rfl rfl rfl hX52_below ⟨Nat.le_of_ble_eq_true rfl, Nat.le_of_ble_eq_true rfl⟩) hc (q0 := 0) rfl rfl hl.1 rfl (Nat.le_of_ble_eq_true rfl) dX52_isUnder_3 ⟨Nat.le_refl 0, Nat.le_refl 0⟩) (fun r_1 _ H locs hw hH => ?_)
  have hH : kH (dC, dI) cl A s.heap H locs (wX52 ci ad d f_thrown f_classes f_things f_axioms f_fuel f_questions f_sorted f_left f_other f_right f_there f_member f_state f_before f_placed f_looked f_fact f_maker f_fired f_firedCount f_needed f_module f_asked) := hH
  refine lv_if_eq (tgt := 22) hx hb dX52_isUnder_6 (by decide) (fun c_2 => ?_) (fun c_2 => ?_)
  · have hw := hw.1 (z_eq (rfl : r_1.toInt = _) (rfl : (0 : Int32).toInt = 0) c_2)
    refine lv_iconst (v := 0) hx hb dX52_isUnder_22 (by decide) ?_
    exact k_iret (v := 0) X hH () hw rfl rfl dX52_isUnder_23
  · have hw := hw.2 (z_neq (rfl : r_1.toInt = _) (rfl : (0 : Int32).toInt = 0) c_2)
    refine lv_aload_n hx hb dX52_isUnder_9 rfl (lv_at hl 0 rfl) ?_
    refine lv_iload_n hx hb dX52_isUnder_10 rfl (lv_at hl 2 rfl) ?_
    refine lv_iload_n hx hb dX52_isUnder_11 rfl (lv_at hl 1 rfl) ?_
    refine k_i0 hH (k_runV (As := [.int x2, .int x1]) (rest := []) X hH.1 hH.2.1 X.2.2.2 (walkX52_below hc (x1 := x2) (x2 := x1) (f_thrown := f_thrown) (f_classes := f_classes) (f_things := f_things) (f_axioms := f_axioms) (f_fuel := f_fuel) (f_questions := f_questions) (f_sorted := f_sorted) (f_left := f_left) (f_other := f_other) (f_right := f_right) (f_there := f_there) (f_member := f_member) (f_state := f_state) (f_before := f_before) (f_placed := f_placed) (f_looked := f_looked) (f_fact := f_fact) (f_maker := f_maker) (f_fired := f_fired) (f_firedCount := f_firedCount) (f_needed := f_needed) (f_module := f_module) (f_asked := f_asked) hw) (cwV 2 X.1.2.2.2.2 gX52_77 rfl rfl rfl hX52_below ⟨Nat.le_of_ble_eq_true rfl, Nat.le_of_ble_eq_true rfl⟩) hc (q0 := 0) rfl rfl hl.1 rfl (Nat.le_of_ble_eq_true rfl) dX52_isUnder_12 ⟨Nat.le_refl 0, Nat.le_refl 0⟩) (fun r_3 _ H locs hw hH => ?_)
    have hH : kH (dC, dI) cl A s.heap H locs (wX52 ci ad d f_thrown f_classes f_things f_axioms f_fuel f_questions f_sorted f_left f_other f_right f_there f_member f_state f_before f_placed f_looked f_fact f_maker f_fired f_firedCount f_needed f_module f_asked) := hH
    refine lv_if_ne (tgt := 22) hx hb dX52_isUnder_15 (by decide) (fun c_4 => ?_) (fun c_4 => ?_)
    · have hw := hw.2 (z_ne (rfl : r_3.toInt = _) (rfl : (0 : Int32).toInt = 0) c_4)
      refine lv_iconst (v := 0) hx hb dX52_isUnder_22 (by decide) ?_
      exact k_iret (v := 0) X hH () hw rfl rfl dX52_isUnder_23
    · have hw := hw.1 (z_eq (rfl : r_3.toInt = _) (rfl : (0 : Int32).toInt = 0) c_4)
      refine lv_iconst (v := 1) hx hb dX52_isUnder_18 (by decide) ?_
      refine lv_goto (tgt := 23) hx hb dX52_isUnder_19 (by decide) ?_
      exact k_iret (v := 1) X hH () hw rfl rfl dX52_isUnder_23
set_option maxHeartbeats 4000000 in
theorem atX52_isDirect_27 {p : Program} {l : Launch} {e : Env} {s : State} {m : MethodId} {args : Array Value} {below : List Frame} {meth : Method} {c : Code} {dC : Nat → ClassId} {dI : Nat → Nat → Nat} {cl : List vw_C} {ci : Nat} (hc : cl[ci]? = some (RX52, TX52, 23)) {ad : Nat → Nat} {d : Nat → ClassId} {A : Nat → Prop} {post : Int → Prop} {f_thrown : Int32} {f_classes : Int32} {f_things : Int32} {f_axioms : Int32} {f_fuel : Int32} {f_questions : Int32} {f_sorted : Int32} {f_left : Nat → Int32} {f_other : Nat → Int32} {f_right : Nat → Int32} {f_there : Nat → Int32} {f_member : Nat → Int32} {f_state : Nat → Int32} {f_before : Nat → Int32} {f_placed : Nat → Int32} {f_looked : Nat → Int32} {f_fact : Nat → Int32} {f_maker : Nat → Int32} {f_fired : Nat → Int32} {f_firedCount : Int32} {f_needed : Nat → Int32} {f_module : Nat → Int32} {f_asked : Int32} (X : kX p s m args meth c cX52_isDirect 5 RX52 (some .boolean) (dC, dI) cl (tX52 d)) {K82 : Int → Prop} {x1 : Int32} {x2 : Int32}  (hk82 : ∀ (x3 : Int32), K82 x3.toInt → ∀ (H : Heap) (locs : List Loc) (ls : Array Slot), kH (dC, dI) cl A s.heap H locs (wX52 ci ad d f_thrown f_classes f_things f_axioms f_fuel f_questions f_sorted f_left f_other f_right f_there f_member f_state f_before f_placed f_looked f_fact f_maker f_fired f_firedCount f_needed f_module f_asked) → lv_has ls 5 [(3, .int x3)] → W p l e ({ frames := 2, cells := 0, slots := 0, locals := 44 } : Room) s m args below meth c H locs 0 0 (MQ below (va_Qi (fun (r : Int32) (_ : Unit) => post r.toInt) (kB (dC, dI) cl (tX52 d) A (fun _ : Unit => (wX52 ci ad d f_thrown f_classes f_things f_axioms f_fuel f_questions f_sorted f_left f_other f_right f_there f_member f_state f_before f_placed f_looked f_fact f_maker f_fired f_firedCount f_needed f_module f_asked))) A) args s 0 0 A) (F0 m 82 ls [])) :
    ∀ (nn : Nat) (x3 : Int32) (x4 : Int32), wX52_isDirect_27 K82 x1.toInt x2.toInt f_classes.toInt (zF f_state) (zF f_placed) nn x3.toInt x4.toInt → ∀ (H : Heap) (locs : List Loc) (ls : Array Slot), kH (dC, dI) cl A s.heap H locs (wX52 ci ad d f_thrown f_classes f_things f_axioms f_fuel f_questions f_sorted f_left f_other f_right f_there f_member f_state f_before f_placed f_looked f_fact f_maker f_fired f_firedCount f_needed f_module f_asked) → lv_has ls 5 [(0, .ref (ad 0)), (1, .int x1), (2, .int x2), (3, .int x3), (4, .int x4)] → W p l e ({ frames := 2, cells := 0, slots := 0, locals := 44 } : Room) s m args below meth c H locs 0 0 (MQ below (va_Qi (fun (r : Int32) (_ : Unit) => post r.toInt) (kB (dC, dI) cl (tX52 d) A (fun _ : Unit => (wX52 ci ad d f_thrown f_classes f_things f_axioms f_fuel f_questions f_sorted f_left f_other f_right f_there f_member f_state f_before f_placed f_looked f_fact f_maker f_fired f_firedCount f_needed f_module f_asked))) A) args s 0 0 A) (F0 m 27 ls []) := by
  have hx := X.1.1
  have hb := X.1.2.1
  intro nn
  induction nn with
  | zero =>
    intro x3 x4 hw
    exact False.elim hw
  | succ n ih =>
    intro x3 x4 hw H locs ls hH hl
    rw [wX52_isDirect_27] at hw
    refine lv_iload hx hb dX52_isDirect_27 (lv_at hl 4 rfl) ?_
    refine lv_aload_n hx hb dX52_isDirect_29 rfl (lv_at hl 0 rfl) ?_
    refine k_get X hH in_X52 0 rfl hc 1 (by decide) q6382 rfl dX52_isDirect_30 ?_
    refine lv_icmp_ge (tgt := 82) hx hb dX52_isDirect_33 (by decide) (fun c_4 => ?_) (fun c_4 => ?_)
    · have hw := hw.1 (z_le (rfl : f_classes.toInt = _) (rfl : x4.toInt = _) c_4)
      exact hk82 x3 hw _ _ ls hH (lv_sub hl [3] rfl)
    · have hw := hw.2 (z_nle (rfl : f_classes.toInt = _) (rfl : x4.toInt = _) c_4)
      refine lv_iload_n hx hb dX52_isDirect_36 rfl (lv_at hl 3 rfl) ?_
      refine lv_if_eq (tgt := 74) hx hb dX52_isDirect_37 (by decide) (fun c_5 => ?_) (fun c_5 => ?_)
      · have hw := hw.1 (z_eq (rfl : x3.toInt = _) (rfl : (0 : Int32).toInt = 0) c_5)
        refine lv_iconst (v := 0) hx hb dX52_isDirect_74 (by decide) ?_
        refine lv_istore_n (lv' := [(3, .int 0), (0, .ref (ad 0)), (1, .int x1), (2, .int x2), (4, .int x4)]) hx hb dX52_isDirect_75 rfl hl (by decide) rfl (fun ls hl => ?_)
        have hq_7 := hw.1
        have hw := hw.2
        obtain ⟨x4_6, ex4_6⟩ : ∃ y : Int32, y = x4 + 1 := ⟨_, rfl⟩
        have hw := hw x4_6.toInt (by rw [ex4_6]; exact (z_x (z_add (z_m (rfl : x4.toInt = _)) (z_m (rfl : (1 : Int32).toInt = 1))) hq_7))
        refine lv_iinc (v := x4_6) (lv' := [(4, .int x4_6), (3, .int 0), (0, .ref (ad 0)), (1, .int x1), (2, .int x2)]) hx hb dX52_isDirect_76 hl (k := 4) rfl (by rw [ex4_6]; rfl) (by decide) rfl (fun ls hl => ?_)
        refine lv_goto (tgt := 27) hx hb dX52_isDirect_79 (by decide) ?_
        exact ih 0 x4_6 hw _ _ ls hH (lv_sub hl [2, 3, 4, 1, 0] rfl)
      · have hw := hw.2 (z_neq (rfl : x3.toInt = _) (rfl : (0 : Int32).toInt = 0) c_5)
        refine lv_aload_n hx hb dX52_isDirect_40 rfl (lv_at hl 0 rfl) ?_
        refine k_get X hH in_X52 0 rfl hc 14 (by decide) q6395 rfl dX52_isDirect_41 ?_
        refine lv_iload hx hb dX52_isDirect_44 (lv_at hl 4 rfl) ?_
        have hq_8 := hw.1
        have hw := hw.2
        refine k_zald X hH 8 7 rfl rfl (z_in (rfl : x4.toInt = _) hq_8) dX52_isDirect_46 ?_
        have e_9 := z_ld (f := f_placed) (rfl : x4.toInt = _) hq_8.1
        refine lv_if_eq (tgt := 70) hx hb dX52_isDirect_47 (by decide) (fun c_10 => ?_) (fun c_10 => ?_)
        · have hw := hw.1 (z_eq e_9 (rfl : (0 : Int32).toInt = 0) c_10)
          refine lv_iconst (v := 1) hx hb dX52_isDirect_70 (by decide) ?_
          refine lv_goto (tgt := 75) hx hb dX52_isDirect_71 (by decide) ?_
          refine lv_istore_n (lv' := [(3, .int 1), (0, .ref (ad 0)), (1, .int x1), (2, .int x2), (4, .int x4)]) hx hb dX52_isDirect_75 rfl hl (by decide) rfl (fun ls hl => ?_)
          have hq_12 := hw.1
          have hw := hw.2
          obtain ⟨x4_11, ex4_11⟩ : ∃ y : Int32, y = x4 + 1 := ⟨_, rfl⟩
          have hw := hw x4_11.toInt (by rw [ex4_11]; exact (z_x (z_add (z_m (rfl : x4.toInt = _)) (z_m (rfl : (1 : Int32).toInt = 1))) hq_12))
          refine lv_iinc (v := x4_11) (lv' := [(4, .int x4_11), (3, .int 1), (0, .ref (ad 0)), (1, .int x1), (2, .int x2)]) hx hb dX52_isDirect_76 hl (k := 4) rfl (by rw [ex4_11]; rfl) (by decide) rfl (fun ls hl => ?_)
          refine lv_goto (tgt := 27) hx hb dX52_isDirect_79 (by decide) ?_
          exact ih 1 x4_11 hw _ _ ls hH (lv_sub hl [2, 3, 4, 1, 0] rfl)
        · have hw := hw.2 (z_neq e_9 (rfl : (0 : Int32).toInt = 0) c_10)
          refine lv_aload_n hx hb dX52_isDirect_50 rfl (lv_at hl 0 rfl) ?_
          refine lv_iload_n hx hb dX52_isDirect_51 rfl (lv_at hl 1 rfl) ?_
          refine lv_iload hx hb dX52_isDirect_52 (lv_at hl 4 rfl) ?_
          refine k_i0 hH (k_runV (As := [.int x1, .int x4]) (rest := []) X hH.1 hH.2.1 X.2.2.2 (walkX52_isUnder hc (x1 := x1) (x2 := x4) (f_thrown := f_thrown) (f_classes := f_classes) (f_things := f_things) (f_axioms := f_axioms) (f_fuel := f_fuel) (f_questions := f_questions) (f_sorted := f_sorted) (f_left := f_left) (f_other := f_other) (f_right := f_right) (f_there := f_there) (f_member := f_member) (f_state := f_state) (f_before := f_before) (f_placed := f_placed) (f_looked := f_looked) (f_fact := f_fact) (f_maker := f_maker) (f_fired := f_fired) (f_firedCount := f_firedCount) (f_needed := f_needed) (f_module := f_module) (f_asked := f_asked) hw) (cwV 2 X.1.2.2.2.2 gX52_128 rfl rfl rfl hX52_isUnder ⟨Nat.le_of_ble_eq_true rfl, Nat.le_of_ble_eq_true rfl⟩) hc (q0 := 0) rfl rfl hl.1 rfl (Nat.le_of_ble_eq_true rfl) dX52_isDirect_54 ⟨Nat.le_refl 0, Nat.le_refl 0⟩) (fun r_13 _ H locs hw hH => ?_)
          have hH : kH (dC, dI) cl A s.heap H locs (wX52 ci ad d f_thrown f_classes f_things f_axioms f_fuel f_questions f_sorted f_left f_other f_right f_there f_member f_state f_before f_placed f_looked f_fact f_maker f_fired f_firedCount f_needed f_module f_asked) := hH
          refine lv_if_eq (tgt := 70) hx hb dX52_isDirect_57 (by decide) (fun c_14 => ?_) (fun c_14 => ?_)
          · have hw := hw.1 (z_eq (rfl : r_13.toInt = _) (rfl : (0 : Int32).toInt = 0) c_14)
            refine lv_iconst (v := 1) hx hb dX52_isDirect_70 (by decide) ?_
            refine lv_goto (tgt := 75) hx hb dX52_isDirect_71 (by decide) ?_
            refine lv_istore_n (lv' := [(3, .int 1), (0, .ref (ad 0)), (1, .int x1), (2, .int x2), (4, .int x4)]) hx hb dX52_isDirect_75 rfl hl (by decide) rfl (fun ls hl => ?_)
            have hq_16 := hw.1
            have hw := hw.2
            obtain ⟨x4_15, ex4_15⟩ : ∃ y : Int32, y = x4 + 1 := ⟨_, rfl⟩
            have hw := hw x4_15.toInt (by rw [ex4_15]; exact (z_x (z_add (z_m (rfl : x4.toInt = _)) (z_m (rfl : (1 : Int32).toInt = 1))) hq_16))
            refine lv_iinc (v := x4_15) (lv' := [(4, .int x4_15), (3, .int 1), (0, .ref (ad 0)), (1, .int x1), (2, .int x2)]) hx hb dX52_isDirect_76 hl (k := 4) rfl (by rw [ex4_15]; rfl) (by decide) rfl (fun ls hl => ?_)
            refine lv_goto (tgt := 27) hx hb dX52_isDirect_79 (by decide) ?_
            exact ih 1 x4_15 hw _ _ ls hH (lv_sub hl [2, 3, 4, 1, 0] rfl)
          · have hw := hw.2 (z_neq (rfl : r_13.toInt = _) (rfl : (0 : Int32).toInt = 0) c_14)
            refine lv_aload_n hx hb dX52_isDirect_60 rfl (lv_at hl 0 rfl) ?_
            refine lv_iload hx hb dX52_isDirect_61 (lv_at hl 4 rfl) ?_
            refine lv_iload_n hx hb dX52_isDirect_63 rfl (lv_at hl 2 rfl) ?_
            refine k_i0 hH (k_runV (As := [.int x4, .int x2]) (rest := []) X hH.1 hH.2.1 X.2.2.2 (walkX52_isUnder hc (x1 := x4) (x2 := x2) (f_thrown := f_thrown) (f_classes := f_classes) (f_things := f_things) (f_axioms := f_axioms) (f_fuel := f_fuel) (f_questions := f_questions) (f_sorted := f_sorted) (f_left := f_left) (f_other := f_other) (f_right := f_right) (f_there := f_there) (f_member := f_member) (f_state := f_state) (f_before := f_before) (f_placed := f_placed) (f_looked := f_looked) (f_fact := f_fact) (f_maker := f_maker) (f_fired := f_fired) (f_firedCount := f_firedCount) (f_needed := f_needed) (f_module := f_module) (f_asked := f_asked) hw) (cwV 2 X.1.2.2.2.2 gX52_128 rfl rfl rfl hX52_isUnder ⟨Nat.le_of_ble_eq_true rfl, Nat.le_of_ble_eq_true rfl⟩) hc (q0 := 0) rfl rfl hl.1 rfl (Nat.le_of_ble_eq_true rfl) dX52_isDirect_64 ⟨Nat.le_refl 0, Nat.le_refl 0⟩) (fun r_17 _ H locs hw hH => ?_)
            have hH : kH (dC, dI) cl A s.heap H locs (wX52 ci ad d f_thrown f_classes f_things f_axioms f_fuel f_questions f_sorted f_left f_other f_right f_there f_member f_state f_before f_placed f_looked f_fact f_maker f_fired f_firedCount f_needed f_module f_asked) := hH
            refine lv_if_ne (tgt := 74) hx hb dX52_isDirect_67 (by decide) (fun c_18 => ?_) (fun c_18 => ?_)
            · have hw := hw.2 (z_ne (rfl : r_17.toInt = _) (rfl : (0 : Int32).toInt = 0) c_18)
              refine lv_iconst (v := 0) hx hb dX52_isDirect_74 (by decide) ?_
              refine lv_istore_n (lv' := [(3, .int 0), (0, .ref (ad 0)), (1, .int x1), (2, .int x2), (4, .int x4)]) hx hb dX52_isDirect_75 rfl hl (by decide) rfl (fun ls hl => ?_)
              have hq_20 := hw.1
              have hw := hw.2
              obtain ⟨x4_19, ex4_19⟩ : ∃ y : Int32, y = x4 + 1 := ⟨_, rfl⟩
              have hw := hw x4_19.toInt (by rw [ex4_19]; exact (z_x (z_add (z_m (rfl : x4.toInt = _)) (z_m (rfl : (1 : Int32).toInt = 1))) hq_20))
              refine lv_iinc (v := x4_19) (lv' := [(4, .int x4_19), (3, .int 0), (0, .ref (ad 0)), (1, .int x1), (2, .int x2)]) hx hb dX52_isDirect_76 hl (k := 4) rfl (by rw [ex4_19]; rfl) (by decide) rfl (fun ls hl => ?_)
              refine lv_goto (tgt := 27) hx hb dX52_isDirect_79 (by decide) ?_
              exact ih 0 x4_19 hw _ _ ls hH (lv_sub hl [2, 3, 4, 1, 0] rfl)
            · have hw := hw.1 (z_eq (rfl : r_17.toInt = _) (rfl : (0 : Int32).toInt = 0) c_18)
              refine lv_iconst (v := 1) hx hb dX52_isDirect_70 (by decide) ?_
              refine lv_goto (tgt := 75) hx hb dX52_isDirect_71 (by decide) ?_
              refine lv_istore_n (lv' := [(3, .int 1), (0, .ref (ad 0)), (1, .int x1), (2, .int x2), (4, .int x4)]) hx hb dX52_isDirect_75 rfl hl (by decide) rfl (fun ls hl => ?_)
              have hq_22 := hw.1
              have hw := hw.2
              obtain ⟨x4_21, ex4_21⟩ : ∃ y : Int32, y = x4 + 1 := ⟨_, rfl⟩
              have hw := hw x4_21.toInt (by rw [ex4_21]; exact (z_x (z_add (z_m (rfl : x4.toInt = _)) (z_m (rfl : (1 : Int32).toInt = 1))) hq_22))
              refine lv_iinc (v := x4_21) (lv' := [(4, .int x4_21), (3, .int 1), (0, .ref (ad 0)), (1, .int x1), (2, .int x2)]) hx hb dX52_isDirect_76 hl (k := 4) rfl (by rw [ex4_21]; rfl) (by decide) rfl (fun ls hl => ?_)
              refine lv_goto (tgt := 27) hx hb dX52_isDirect_79 (by decide) ?_
              exact ih 1 x4_21 hw _ _ ls hH (lv_sub hl [2, 3, 4, 1, 0] rfl)
set_option maxHeartbeats 4000000 in
theorem walkX52_isDirect {l : Launch} {dC : Nat → ClassId} {dI : Nat → Nat → Nat} {cl : List vw_C} {ci : Nat} (hc : cl[ci]? = some (RX52, TX52, 23)) {ad : Nat → Nat} {d : Nat → ClassId} {sz : Nat} {f_thrown : Int32} {f_classes : Int32} {f_things : Int32} {f_axioms : Int32} {f_fuel : Int32} {f_questions : Int32} {f_sorted : Int32} {f_left : Nat → Int32} {f_other : Nat → Int32} {f_right : Nat → Int32} {f_there : Nat → Int32} {f_member : Nat → Int32} {f_state : Nat → Int32} {f_before : Nat → Int32} {f_placed : Nat → Int32} {f_looked : Nat → Int32} {f_fact : Nat → Int32} {f_maker : Nat → Int32} {f_fired : Nat → Int32} {f_firedCount : Int32} {f_needed : Nat → Int32} {f_module : Nat → Int32} {f_asked : Int32} {x1 : Int32} {x2 : Int32} {post : Int → Prop} (hw : wpX52_isDirect post f_classes.toInt (zF f_state) (zF f_placed) x1.toInt x2.toInt) :
    Met l yX52_isDirect (ws_ yX52_isDirect cX52_isDirect 5 (some .boolean)) ({ frames := 2, cells := 0, slots := 0, locals := 44 } : Room) (kPc (dC, dI) cl (tX52 d) [.ref (ad 0), .int x1, .int x2] sz (wX52 ci ad d f_thrown f_classes f_things f_axioms f_fuel f_questions f_sorted f_left f_other f_right f_there f_member f_state f_before f_placed f_looked f_fact f_maker f_fired f_firedCount f_needed f_module f_asked)) (va_Qi (fun (r : Int32) (_ : Unit) => post r.toInt) (kB (dC, dI) cl (tX52 d) (va_A (wX52 ci ad d f_thrown f_classes f_things f_axioms f_fuel f_questions f_sorted f_left f_other f_right f_there f_member f_state f_before f_placed f_looked f_fact f_maker f_fired f_firedCount f_needed f_module f_asked) sz) (fun _ : Unit => (wX52 ci ad d f_thrown f_classes f_things f_axioms f_fuel f_questions f_sorted f_left f_other f_right f_there f_member f_state f_before f_placed f_looked f_fact f_maker f_fired f_firedCount f_needed f_module f_asked))) (va_A (wX52 ci ad d f_thrown f_classes f_things f_axioms f_fuel f_questions f_sorted f_left f_other f_right f_there f_member f_state f_before f_placed f_looked f_fact f_maker f_fired f_firedCount f_needed f_module f_asked) sz)) 0 0 (va_A (wX52 ci ad d f_thrown f_classes f_things f_axioms f_fuel f_questions f_sorted f_left f_other f_right f_there f_member f_state f_before f_placed f_looked f_fact f_maker f_fired f_firedCount f_needed f_module f_asked) sz) := by
  refine k_enter (by decide) (Nat.le_of_ble_eq_true rfl) ?_
  intro p e s m below meth c ls X hsz hH hl
  subst hsz
  generalize va_A (wX52 ci ad d f_thrown f_classes f_things f_axioms f_fuel f_questions f_sorted f_left f_other f_right f_there f_member f_state f_before f_placed f_looked f_fact f_maker f_fired f_firedCount f_needed f_module f_asked) s.heap.size = A at hH ⊢
  have hx := X.1.1
  have hb := X.1.2.1
  have hl : lv_has ls 5 [(0, .ref (ad 0)), (1, .int x1), (2, .int x2)] := hl
  unfold wpX52_isDirect at hw
  refine lv_aload_n hx hb dX52_isDirect_0 rfl (lv_at hl 0 rfl) ?_
  refine k_get X hH in_X52 0 rfl hc 14 (by decide) q6395 rfl dX52_isDirect_1 ?_
  refine lv_iload_n hx hb dX52_isDirect_4 rfl (lv_at hl 2 rfl) ?_
  have hq_1 := hw.1
  have hw := hw.2
  refine k_zald X hH 8 7 rfl rfl (z_in (rfl : x2.toInt = _) hq_1) dX52_isDirect_5 ?_
  have e_2 := z_ld (f := f_placed) (rfl : x2.toInt = _) hq_1.1
  refine lv_if_eq (tgt := 22) hx hb dX52_isDirect_6 (by decide) (fun c_3 => ?_) (fun c_3 => ?_)
  · have hw := hw.1 (z_eq e_2 (rfl : (0 : Int32).toInt = 0) c_3)
    refine lv_iconst (v := 0) hx hb dX52_isDirect_22 (by decide) ?_
    refine lv_istore_n (lv' := [(3, .int 0), (0, .ref (ad 0)), (1, .int x1), (2, .int x2)]) hx hb dX52_isDirect_23 rfl hl (by decide) rfl (fun ls hl => ?_)
    refine lv_iconst (v := 0) hx hb dX52_isDirect_24 (by decide) ?_
    refine lv_istore (lv' := [(4, .int 0), (3, .int 0), (0, .ref (ad 0)), (1, .int x1), (2, .int x2)]) hx hb dX52_isDirect_25 hl (by decide) rfl (fun ls hl => ?_)
    obtain ⟨fu, hw⟩ := hw
    refine atX52_isDirect_27 hc X ?_ fu 0 0 hw _ _ ls hH (lv_sub hl [2, 3, 4, 1, 0] rfl)
    · intro x3_23 hw H locs ls hH hl
      refine lv_iload_n hx hb dX52_isDirect_82 rfl (lv_at hl 0 rfl) ?_
      have hq_24 := hw.1
      have hw := hw.2
      exact k_iret (v := x3_23) X hH () hw rfl (k_zn (z_boolE (rfl : x3_23.toInt = _) hq_24)) dX52_isDirect_83
  · have hw := hw.2 (z_neq e_2 (rfl : (0 : Int32).toInt = 0) c_3)
    refine lv_aload_n hx hb dX52_isDirect_9 rfl (lv_at hl 0 rfl) ?_
    refine lv_iload_n hx hb dX52_isDirect_10 rfl (lv_at hl 1 rfl) ?_
    refine lv_iload_n hx hb dX52_isDirect_11 rfl (lv_at hl 2 rfl) ?_
    refine k_i0 hH (k_runV (As := [.int x1, .int x2]) (rest := []) X hH.1 hH.2.1 X.2.2.2 (walkX52_isUnder hc (x1 := x1) (x2 := x2) (f_thrown := f_thrown) (f_classes := f_classes) (f_things := f_things) (f_axioms := f_axioms) (f_fuel := f_fuel) (f_questions := f_questions) (f_sorted := f_sorted) (f_left := f_left) (f_other := f_other) (f_right := f_right) (f_there := f_there) (f_member := f_member) (f_state := f_state) (f_before := f_before) (f_placed := f_placed) (f_looked := f_looked) (f_fact := f_fact) (f_maker := f_maker) (f_fired := f_fired) (f_firedCount := f_firedCount) (f_needed := f_needed) (f_module := f_module) (f_asked := f_asked) hw) (cwV 2 X.1.2.2.2.2 gX52_128 rfl rfl rfl hX52_isUnder ⟨Nat.le_of_ble_eq_true rfl, Nat.le_of_ble_eq_true rfl⟩) hc (q0 := 0) rfl rfl hl.1 rfl (Nat.le_of_ble_eq_true rfl) dX52_isDirect_12 ⟨Nat.le_refl 0, Nat.le_refl 0⟩) (fun r_25 _ H locs hw hH => ?_)
    have hH : kH (dC, dI) cl A s.heap H locs (wX52 ci ad d f_thrown f_classes f_things f_axioms f_fuel f_questions f_sorted f_left f_other f_right f_there f_member f_state f_before f_placed f_looked f_fact f_maker f_fired f_firedCount f_needed f_module f_asked) := hH
    refine lv_if_eq (tgt := 22) hx hb dX52_isDirect_15 (by decide) (fun c_26 => ?_) (fun c_26 => ?_)
    · have hw := hw.1 (z_eq (rfl : r_25.toInt = _) (rfl : (0 : Int32).toInt = 0) c_26)
      refine lv_iconst (v := 0) hx hb dX52_isDirect_22 (by decide) ?_
      refine lv_istore_n (lv' := [(3, .int 0), (0, .ref (ad 0)), (1, .int x1), (2, .int x2)]) hx hb dX52_isDirect_23 rfl hl (by decide) rfl (fun ls hl => ?_)
      refine lv_iconst (v := 0) hx hb dX52_isDirect_24 (by decide) ?_
      refine lv_istore (lv' := [(4, .int 0), (3, .int 0), (0, .ref (ad 0)), (1, .int x1), (2, .int x2)]) hx hb dX52_isDirect_25 hl (by decide) rfl (fun ls hl => ?_)
      obtain ⟨fu, hw⟩ := hw
      refine atX52_isDirect_27 hc X ?_ fu 0 0 hw _ _ ls hH (lv_sub hl [2, 3, 4, 1, 0] rfl)
      · intro x3_27 hw H locs ls hH hl
        refine lv_iload_n hx hb dX52_isDirect_82 rfl (lv_at hl 0 rfl) ?_
        have hq_28 := hw.1
        have hw := hw.2
        exact k_iret (v := x3_27) X hH () hw rfl (k_zn (z_boolE (rfl : x3_27.toInt = _) hq_28)) dX52_isDirect_83
    · have hw := hw.2 (z_neq (rfl : r_25.toInt = _) (rfl : (0 : Int32).toInt = 0) c_26)
      refine lv_iconst (v := 1) hx hb dX52_isDirect_18 (by decide) ?_
      refine lv_goto (tgt := 23) hx hb dX52_isDirect_19 (by decide) ?_
      refine lv_istore_n (lv' := [(3, .int 1), (0, .ref (ad 0)), (1, .int x1), (2, .int x2)]) hx hb dX52_isDirect_23 rfl hl (by decide) rfl (fun ls hl => ?_)
      refine lv_iconst (v := 0) hx hb dX52_isDirect_24 (by decide) ?_
      refine lv_istore (lv' := [(4, .int 0), (3, .int 1), (0, .ref (ad 0)), (1, .int x1), (2, .int x2)]) hx hb dX52_isDirect_25 hl (by decide) rfl (fun ls hl => ?_)
      obtain ⟨fu, hw⟩ := hw
      refine atX52_isDirect_27 hc X ?_ fu 1 0 hw _ _ ls hH (lv_sub hl [2, 3, 4, 1, 0] rfl)
      · intro x3_29 hw H locs ls hH hl
        refine lv_iload_n hx hb dX52_isDirect_82 rfl (lv_at hl 0 rfl) ?_
        have hq_30 := hw.1
        have hw := hw.2
        exact k_iret (v := x3_29) X hH () hw rfl (k_zn (z_boolE (rfl : x3_29.toInt = _) hq_30)) dX52_isDirect_83
set_option maxHeartbeats 4000000 in
theorem atX52_nextFor_125 {p : Program} {l : Launch} {e : Env} {s : State} {m : MethodId} {args : Array Value} {below : List Frame} {meth : Method} {c : Code} {dC : Nat → ClassId} {dI : Nat → Nat → Nat} {cl : List vw_C} {ci : Nat} (hc : cl[ci]? = some (RX52, TX52, 23)) {ad : Nat → Nat} {d : Nat → ClassId} {A : Nat → Prop} {post : Int → Prop} {f_thrown : Int32} {f_classes : Int32} {f_things : Int32} {f_axioms : Int32} {f_fuel : Int32} {f_questions : Int32} {f_sorted : Int32} {f_left : Nat → Int32} {f_other : Nat → Int32} {f_right : Nat → Int32} {f_there : Nat → Int32} {f_member : Nat → Int32} {f_state : Nat → Int32} {f_before : Nat → Int32} {f_placed : Nat → Int32} {f_looked : Nat → Int32} {f_fact : Nat → Int32} {f_maker : Nat → Int32} {f_fired : Nat → Int32} {f_firedCount : Int32} {f_needed : Nat → Int32} {f_module : Nat → Int32} {f_asked : Int32} (X : kX p s m args meth c cX52_nextFor 7 RX52 (some .int) (dC, dI) cl (tX52 d)) {K45 : Int → Int → Prop} {x1 : Int32} {x2 : Int32} {x3 : Int32} {x4 : Int32}  (hk45 : ∀ (x5 : Int32) (x6 : Int32), K45 x5.toInt x6.toInt → ∀ (H : Heap) (locs : List Loc) (ls : Array Slot), kH (dC, dI) cl A s.heap H locs (wX52 ci ad d f_thrown f_classes f_things f_axioms f_fuel f_questions f_sorted f_left f_other f_right f_there f_member f_state f_before f_placed f_looked f_fact f_maker f_fired f_firedCount f_needed f_module f_asked) → lv_has ls 7 [(0, .ref (ad 0)), (1, .int x1), (2, .int x2), (3, .int x3), (4, .int x4), (5, .int x5), (6, .int x6)] → W p l e ({ frames := 3, cells := 0, slots := 0, locals := 68 } : Room) s m args below meth c H locs 0 0 (MQ below (va_Qi (fun (r : Int32) (_ : Unit) => post r.toInt) (kB (dC, dI) cl (tX52 d) A (fun _ : Unit => (wX52 ci ad d f_thrown f_classes f_things f_axioms f_fuel f_questions f_sorted f_left f_other f_right f_there f_member f_state f_before f_placed f_looked f_fact f_maker f_fired f_firedCount f_needed f_module f_asked))) A) args s 0 0 A) (F0 m 45 ls [])) :
    ∀ (x6 : Int32), wX52_nextFor_125 K45 x1.toInt x4.toInt x6.toInt f_classes.toInt (zF f_state) (zF f_placed) → ∀ (H : Heap) (locs : List Loc) (ls : Array Slot), kH (dC, dI) cl A s.heap H locs (wX52 ci ad d f_thrown f_classes f_things f_axioms f_fuel f_questions f_sorted f_left f_other f_right f_there f_member f_state f_before f_placed f_looked f_fact f_maker f_fired f_firedCount f_needed f_module f_asked) → lv_has ls 7 [(0, .ref (ad 0)), (1, .int x1), (2, .int x2), (3, .int x3), (4, .int x4), (6, .int x6)] → W p l e ({ frames := 3, cells := 0, slots := 0, locals := 68 } : Room) s m args below meth c H locs 0 0 (MQ below (va_Qi (fun (r : Int32) (_ : Unit) => post r.toInt) (kB (dC, dI) cl (tX52 d) A (fun _ : Unit => (wX52 ci ad d f_thrown f_classes f_things f_axioms f_fuel f_questions f_sorted f_left f_other f_right f_there f_member f_state f_before f_placed f_looked f_fact f_maker f_fired f_firedCount f_needed f_module f_asked))) A) args s 0 0 A) (F0 m 125 ls []) := by
  have hx := X.1.1
  have hb := X.1.2.1
  intro x6 hw H locs ls hH hl
  unfold wX52_nextFor_125 at hw
  refine lv_aload_n hx hb dX52_nextFor_125 rfl (lv_at hl 0 rfl) ?_
  refine k_get X hH in_X52 0 rfl hc 14 (by decide) q6395 rfl dX52_nextFor_126 ?_
  refine lv_iload hx hb dX52_nextFor_129 (lv_at hl 5 rfl) ?_
  have hq_15 := hw.1
  have hw := hw.2
  refine k_zald X hH 8 7 rfl rfl (z_in (rfl : x6.toInt = _) hq_15) dX52_nextFor_131 ?_
  have e_16 := z_ld (f := f_placed) (rfl : x6.toInt = _) hq_15.1
  refine lv_if_eq (tgt := 156) hx hb dX52_nextFor_132 (by decide) (fun c_17 => ?_) (fun c_17 => ?_)
  · have hw := hw.1 (z_eq e_16 (rfl : (0 : Int32).toInt = 0) c_17)
    refine lv_iconst (v := 1) hx hb dX52_nextFor_156 (by decide) ?_
    refine lv_goto (tgt := 161) hx hb dX52_nextFor_157 (by decide) ?_
    refine lv_istore (lv' := [(5, .int 1), (0, .ref (ad 0)), (1, .int x1), (2, .int x2), (3, .int x3), (4, .int x4), (6, .int x6)]) hx hb dX52_nextFor_161 hl (by decide) rfl (fun ls hl => ?_)
    have hq_19 := hw.1
    have hw := hw.2
    obtain ⟨x6_18, ex6_18⟩ : ∃ y : Int32, y = x6 + 1 := ⟨_, rfl⟩
    have hw := hw x6_18.toInt (by rw [ex6_18]; exact (z_x (z_add (z_m (rfl : x6.toInt = _)) (z_m (rfl : (1 : Int32).toInt = 1))) hq_19))
    refine lv_iinc (v := x6_18) (lv' := [(6, .int x6_18), (5, .int 1), (0, .ref (ad 0)), (1, .int x1), (2, .int x2), (3, .int x3), (4, .int x4)]) hx hb dX52_nextFor_163 hl (k := 6) rfl (by rw [ex6_18]; rfl) (by decide) rfl (fun ls hl => ?_)
    refine lv_goto (tgt := 45) hx hb dX52_nextFor_166 (by decide) ?_
    exact hk45 1 x6_18 hw _ _ ls hH (lv_sub hl [2, 3, 4, 5, 6, 1, 0] rfl)
  · have hw := hw.2 (z_neq e_16 (rfl : (0 : Int32).toInt = 0) c_17)
    refine lv_aload_n hx hb dX52_nextFor_135 rfl (lv_at hl 0 rfl) ?_
    refine lv_iload hx hb dX52_nextFor_136 (lv_at hl 5 rfl) ?_
    refine lv_iload hx hb dX52_nextFor_138 (lv_at hl 4 rfl) ?_
    refine k_i0 hH (k_runV (As := [.int x6, .int x4]) (rest := []) X hH.1 hH.2.1 X.2.2.2 (walkX52_isDirect hc (x1 := x6) (x2 := x4) (f_thrown := f_thrown) (f_classes := f_classes) (f_things := f_things) (f_axioms := f_axioms) (f_fuel := f_fuel) (f_questions := f_questions) (f_sorted := f_sorted) (f_left := f_left) (f_other := f_other) (f_right := f_right) (f_there := f_there) (f_member := f_member) (f_state := f_state) (f_before := f_before) (f_placed := f_placed) (f_looked := f_looked) (f_fact := f_fact) (f_maker := f_maker) (f_fired := f_fired) (f_firedCount := f_firedCount) (f_needed := f_needed) (f_module := f_module) (f_asked := f_asked) hw) (cwV 2 X.1.2.2.2.2 gX52_131 rfl rfl rfl hX52_isDirect ⟨Nat.le_of_ble_eq_true rfl, Nat.le_of_ble_eq_true rfl⟩) hc (q0 := 0) rfl rfl hl.1 rfl (Nat.le_of_ble_eq_true rfl) dX52_nextFor_140 ⟨Nat.le_refl 0, Nat.le_refl 0⟩) (fun r_20 _ H locs hw hH => ?_)
    have hH : kH (dC, dI) cl A s.heap H locs (wX52 ci ad d f_thrown f_classes f_things f_axioms f_fuel f_questions f_sorted f_left f_other f_right f_there f_member f_state f_before f_placed f_looked f_fact f_maker f_fired f_firedCount f_needed f_module f_asked) := hH
    refine lv_if_eq (tgt := 156) hx hb dX52_nextFor_143 (by decide) (fun c_21 => ?_) (fun c_21 => ?_)
    · have hw := hw.1 (z_eq (rfl : r_20.toInt = _) (rfl : (0 : Int32).toInt = 0) c_21)
      refine lv_iconst (v := 1) hx hb dX52_nextFor_156 (by decide) ?_
      refine lv_goto (tgt := 161) hx hb dX52_nextFor_157 (by decide) ?_
      refine lv_istore (lv' := [(5, .int 1), (0, .ref (ad 0)), (1, .int x1), (2, .int x2), (3, .int x3), (4, .int x4), (6, .int x6)]) hx hb dX52_nextFor_161 hl (by decide) rfl (fun ls hl => ?_)
      have hq_23 := hw.1
      have hw := hw.2
      obtain ⟨x6_22, ex6_22⟩ : ∃ y : Int32, y = x6 + 1 := ⟨_, rfl⟩
      have hw := hw x6_22.toInt (by rw [ex6_22]; exact (z_x (z_add (z_m (rfl : x6.toInt = _)) (z_m (rfl : (1 : Int32).toInt = 1))) hq_23))
      refine lv_iinc (v := x6_22) (lv' := [(6, .int x6_22), (5, .int 1), (0, .ref (ad 0)), (1, .int x1), (2, .int x2), (3, .int x3), (4, .int x4)]) hx hb dX52_nextFor_163 hl (k := 6) rfl (by rw [ex6_22]; rfl) (by decide) rfl (fun ls hl => ?_)
      refine lv_goto (tgt := 45) hx hb dX52_nextFor_166 (by decide) ?_
      exact hk45 1 x6_22 hw _ _ ls hH (lv_sub hl [2, 3, 4, 5, 6, 1, 0] rfl)
    · have hw := hw.2 (z_neq (rfl : r_20.toInt = _) (rfl : (0 : Int32).toInt = 0) c_21)
      refine lv_aload_n hx hb dX52_nextFor_146 rfl (lv_at hl 0 rfl) ?_
      refine lv_iload hx hb dX52_nextFor_147 (lv_at hl 5 rfl) ?_
      refine lv_iload_n hx hb dX52_nextFor_149 rfl (lv_at hl 1 rfl) ?_
      refine k_i0 hH (k_runV (As := [.int x6, .int x1]) (rest := []) X hH.1 hH.2.1 X.2.2.2 (walkX52_below hc (x1 := x6) (x2 := x1) (f_thrown := f_thrown) (f_classes := f_classes) (f_things := f_things) (f_axioms := f_axioms) (f_fuel := f_fuel) (f_questions := f_questions) (f_sorted := f_sorted) (f_left := f_left) (f_other := f_other) (f_right := f_right) (f_there := f_there) (f_member := f_member) (f_state := f_state) (f_before := f_before) (f_placed := f_placed) (f_looked := f_looked) (f_fact := f_fact) (f_maker := f_maker) (f_fired := f_fired) (f_firedCount := f_firedCount) (f_needed := f_needed) (f_module := f_module) (f_asked := f_asked) hw) (cwV 2 X.1.2.2.2.2 gX52_77 rfl rfl rfl hX52_below ⟨Nat.le_of_ble_eq_true rfl, Nat.le_of_ble_eq_true rfl⟩) hc (q0 := 0) rfl rfl hl.1 rfl (Nat.le_of_ble_eq_true rfl) dX52_nextFor_150 ⟨Nat.le_refl 0, Nat.le_refl 0⟩) (fun r_24 _ H locs hw hH => ?_)
      have hH : kH (dC, dI) cl A s.heap H locs (wX52 ci ad d f_thrown f_classes f_things f_axioms f_fuel f_questions f_sorted f_left f_other f_right f_there f_member f_state f_before f_placed f_looked f_fact f_maker f_fired f_firedCount f_needed f_module f_asked) := hH
      refine lv_if_eq (tgt := 160) hx hb dX52_nextFor_153 (by decide) (fun c_25 => ?_) (fun c_25 => ?_)
      · have hw := hw.1 (z_eq (rfl : r_24.toInt = _) (rfl : (0 : Int32).toInt = 0) c_25)
        refine lv_iconst (v := 0) hx hb dX52_nextFor_160 (by decide) ?_
        refine lv_istore (lv' := [(5, .int 0), (0, .ref (ad 0)), (1, .int x1), (2, .int x2), (3, .int x3), (4, .int x4), (6, .int x6)]) hx hb dX52_nextFor_161 hl (by decide) rfl (fun ls hl => ?_)
        have hq_27 := hw.1
        have hw := hw.2
        obtain ⟨x6_26, ex6_26⟩ : ∃ y : Int32, y = x6 + 1 := ⟨_, rfl⟩
        have hw := hw x6_26.toInt (by rw [ex6_26]; exact (z_x (z_add (z_m (rfl : x6.toInt = _)) (z_m (rfl : (1 : Int32).toInt = 1))) hq_27))
        refine lv_iinc (v := x6_26) (lv' := [(6, .int x6_26), (5, .int 0), (0, .ref (ad 0)), (1, .int x1), (2, .int x2), (3, .int x3), (4, .int x4)]) hx hb dX52_nextFor_163 hl (k := 6) rfl (by rw [ex6_26]; rfl) (by decide) rfl (fun ls hl => ?_)
        refine lv_goto (tgt := 45) hx hb dX52_nextFor_166 (by decide) ?_
        exact hk45 0 x6_26 hw _ _ ls hH (lv_sub hl [2, 3, 4, 5, 6, 1, 0] rfl)
      · have hw := hw.2 (z_neq (rfl : r_24.toInt = _) (rfl : (0 : Int32).toInt = 0) c_25)
        refine lv_iconst (v := 1) hx hb dX52_nextFor_156 (by decide) ?_
        refine lv_goto (tgt := 161) hx hb dX52_nextFor_157 (by decide) ?_
        refine lv_istore (lv' := [(5, .int 1), (0, .ref (ad 0)), (1, .int x1), (2, .int x2), (3, .int x3), (4, .int x4), (6, .int x6)]) hx hb dX52_nextFor_161 hl (by decide) rfl (fun ls hl => ?_)
        have hq_29 := hw.1
        have hw := hw.2
        obtain ⟨x6_28, ex6_28⟩ : ∃ y : Int32, y = x6 + 1 := ⟨_, rfl⟩
        have hw := hw x6_28.toInt (by rw [ex6_28]; exact (z_x (z_add (z_m (rfl : x6.toInt = _)) (z_m (rfl : (1 : Int32).toInt = 1))) hq_29))
        refine lv_iinc (v := x6_28) (lv' := [(6, .int x6_28), (5, .int 1), (0, .ref (ad 0)), (1, .int x1), (2, .int x2), (3, .int x3), (4, .int x4)]) hx hb dX52_nextFor_163 hl (k := 6) rfl (by rw [ex6_28]; rfl) (by decide) rfl (fun ls hl => ?_)
        refine lv_goto (tgt := 45) hx hb dX52_nextFor_166 (by decide) ?_
        exact hk45 1 x6_28 hw _ _ ls hH (lv_sub hl [2, 3, 4, 5, 6, 1, 0] rfl)
set_option maxHeartbeats 4000000 in
theorem atX52_nextFor_45 {p : Program} {l : Launch} {e : Env} {s : State} {m : MethodId} {args : Array Value} {below : List Frame} {meth : Method} {c : Code} {dC : Nat → ClassId} {dI : Nat → Nat → Nat} {cl : List vw_C} {ci : Nat} (hc : cl[ci]? = some (RX52, TX52, 23)) {ad : Nat → Nat} {d : Nat → ClassId} {A : Nat → Prop} {post : Int → Prop} {f_thrown : Int32} {f_classes : Int32} {f_things : Int32} {f_axioms : Int32} {f_fuel : Int32} {f_questions : Int32} {f_sorted : Int32} {f_left : Nat → Int32} {f_other : Nat → Int32} {f_right : Nat → Int32} {f_there : Nat → Int32} {f_member : Nat → Int32} {f_state : Nat → Int32} {f_before : Nat → Int32} {f_placed : Nat → Int32} {f_looked : Nat → Int32} {f_fact : Nat → Int32} {f_maker : Nat → Int32} {f_fired : Nat → Int32} {f_firedCount : Int32} {f_needed : Nat → Int32} {f_module : Nat → Int32} {f_asked : Int32} (X : kX p s m args meth c cX52_nextFor 7 RX52 (some .int) (dC, dI) cl (tX52 d)) {K169 : Int → Prop} {x1 : Int32} {x2 : Int32} {x3 : Int32} {x4 : Int32}  (hk169 : ∀ (x5 : Int32), K169 x5.toInt → ∀ (H : Heap) (locs : List Loc) (ls : Array Slot), kH (dC, dI) cl A s.heap H locs (wX52 ci ad d f_thrown f_classes f_things f_axioms f_fuel f_questions f_sorted f_left f_other f_right f_there f_member f_state f_before f_placed f_looked f_fact f_maker f_fired f_firedCount f_needed f_module f_asked) → lv_has ls 7 [(0, .ref (ad 0)), (1, .int x1), (2, .int x2), (3, .int x3), (4, .int x4), (5, .int x5)] → W p l e ({ frames := 3, cells := 0, slots := 0, locals := 68 } : Room) s m args below meth c H locs 0 0 (MQ below (va_Qi (fun (r : Int32) (_ : Unit) => post r.toInt) (kB (dC, dI) cl (tX52 d) A (fun _ : Unit => (wX52 ci ad d f_thrown f_classes f_things f_axioms f_fuel f_questions f_sorted f_left f_other f_right f_there f_member f_state f_before f_placed f_looked f_fact f_maker f_fired f_firedCount f_needed f_module f_asked))) A) args s 0 0 A) (F0 m 169 ls [])) :
    ∀ (nn : Nat) (x5 : Int32) (x6 : Int32), wX52_nextFor_45 K169 x1.toInt x2.toInt x4.toInt f_classes.toInt (zF f_state) (zF f_placed) nn x5.toInt x6.toInt → ∀ (H : Heap) (locs : List Loc) (ls : Array Slot), kH (dC, dI) cl A s.heap H locs (wX52 ci ad d f_thrown f_classes f_things f_axioms f_fuel f_questions f_sorted f_left f_other f_right f_there f_member f_state f_before f_placed f_looked f_fact f_maker f_fired f_firedCount f_needed f_module f_asked) → lv_has ls 7 [(0, .ref (ad 0)), (1, .int x1), (2, .int x2), (3, .int x3), (4, .int x4), (5, .int x5), (6, .int x6)] → W p l e ({ frames := 3, cells := 0, slots := 0, locals := 68 } : Room) s m args below meth c H locs 0 0 (MQ below (va_Qi (fun (r : Int32) (_ : Unit) => post r.toInt) (kB (dC, dI) cl (tX52 d) A (fun _ : Unit => (wX52 ci ad d f_thrown f_classes f_things f_axioms f_fuel f_questions f_sorted f_left f_other f_right f_there f_member f_state f_before f_placed f_looked f_fact f_maker f_fired f_firedCount f_needed f_module f_asked))) A) args s 0 0 A) (F0 m 45 ls []) := by
  have hx := X.1.1
  have hb := X.1.2.1
  intro nn
  induction nn with
  | zero =>
    intro x5 x6 hw
    exact False.elim hw
  | succ n ih =>
    intro x5 x6 hw H locs ls hH hl
    rw [wX52_nextFor_45] at hw
    refine lv_iload hx hb dX52_nextFor_45 (lv_at hl 6 rfl) ?_
    refine lv_aload_n hx hb dX52_nextFor_47 rfl (lv_at hl 0 rfl) ?_
    refine k_get X hH in_X52 0 rfl hc 1 (by decide) q6382 rfl dX52_nextFor_48 ?_
    refine lv_icmp_ge (tgt := 169) hx hb dX52_nextFor_51 (by decide) (fun c_9 => ?_) (fun c_9 => ?_)
    · have hw := hw.1 (z_le (rfl : f_classes.toInt = _) (rfl : x6.toInt = _) c_9)
      exact hk169 x5 hw _ _ ls hH (lv_sub hl [0, 1, 2, 3, 4, 5] rfl)
    · have hw := hw.2 (z_nle (rfl : f_classes.toInt = _) (rfl : x6.toInt = _) c_9)
      refine lv_iload hx hb dX52_nextFor_54 (lv_at hl 5 rfl) ?_
      refine lv_if_eq (tgt := 169) hx hb dX52_nextFor_56 (by decide) (fun c_10 => ?_) (fun c_10 => ?_)
      · have hw := hw.1 (z_eq (rfl : x5.toInt = _) (rfl : (0 : Int32).toInt = 0) c_10)
        exact hk169 x5 hw _ _ ls hH (lv_sub hl [0, 1, 2, 3, 4, 5] rfl)
      · have hw := hw.2 (z_neq (rfl : x5.toInt = _) (rfl : (0 : Int32).toInt = 0) c_10)
        refine lv_iload_n hx hb dX52_nextFor_59 rfl (lv_at hl 2 rfl) ?_
        refine lv_if_eq (tgt := 94) hx hb dX52_nextFor_60 (by decide) (fun c_11 => ?_) (fun c_11 => ?_)
        · have hw := hw.1 (z_eq (rfl : x2.toInt = _) (rfl : (0 : Int32).toInt = 0) c_11)
          refine lv_aload_n hx hb dX52_nextFor_94 rfl (lv_at hl 0 rfl) ?_
          refine k_get X hH in_X52 0 rfl hc 14 (by decide) q6395 rfl dX52_nextFor_95 ?_
          refine lv_iload hx hb dX52_nextFor_98 (lv_at hl 6 rfl) ?_
          have hq_12 := hw.1
          have hw := hw.2
          refine k_zald X hH 8 7 rfl rfl (z_in (rfl : x6.toInt = _) hq_12) dX52_nextFor_100 ?_
          have e_13 := z_ld (f := f_placed) (rfl : x6.toInt = _) hq_12.1
          refine lv_if_eq (tgt := 125) hx hb dX52_nextFor_101 (by decide) (fun c_14 => ?_) (fun c_14 => ?_)
          · have hw := hw.1 (z_eq e_13 (rfl : (0 : Int32).toInt = 0) c_14)
            exact atX52_nextFor_125 hc X (fun x5 x6 hw H locs ls hH hl => ih x5 x6 hw _ _ ls hH (lv_sub hl [0, 1, 2, 3, 4, 5, 6] rfl)) x6 hw _ _ ls hH (lv_sub hl [0, 1, 2, 3, 4, 6] rfl)
          · have hw := hw.2 (z_neq e_13 (rfl : (0 : Int32).toInt = 0) c_14)
            refine lv_aload_n hx hb dX52_nextFor_104 rfl (lv_at hl 0 rfl) ?_
            refine lv_iload_n hx hb dX52_nextFor_105 rfl (lv_at hl 1 rfl) ?_
            refine lv_iload hx hb dX52_nextFor_106 (lv_at hl 6 rfl) ?_
            refine k_i0 hH (k_runV (As := [.int x1, .int x6]) (rest := []) X hH.1 hH.2.1 X.2.2.2 (walkX52_below hc (x1 := x1) (x2 := x6) (f_thrown := f_thrown) (f_classes := f_classes) (f_things := f_things) (f_axioms := f_axioms) (f_fuel := f_fuel) (f_questions := f_questions) (f_sorted := f_sorted) (f_left := f_left) (f_other := f_other) (f_right := f_right) (f_there := f_there) (f_member := f_member) (f_state := f_state) (f_before := f_before) (f_placed := f_placed) (f_looked := f_looked) (f_fact := f_fact) (f_maker := f_maker) (f_fired := f_fired) (f_firedCount := f_firedCount) (f_needed := f_needed) (f_module := f_module) (f_asked := f_asked) hw) (cwV 2 X.1.2.2.2.2 gX52_77 rfl rfl rfl hX52_below ⟨Nat.le_of_ble_eq_true rfl, Nat.le_of_ble_eq_true rfl⟩) hc (q0 := 0) rfl rfl hl.1 rfl (Nat.le_of_ble_eq_true rfl) dX52_nextFor_108 ⟨Nat.le_refl 0, Nat.le_refl 0⟩) (fun r_30 _ H locs hw hH => ?_)
            have hH : kH (dC, dI) cl A s.heap H locs (wX52 ci ad d f_thrown f_classes f_things f_axioms f_fuel f_questions f_sorted f_left f_other f_right f_there f_member f_state f_before f_placed f_looked f_fact f_maker f_fired f_firedCount f_needed f_module f_asked) := hH
            refine lv_if_eq (tgt := 125) hx hb dX52_nextFor_111 (by decide) (fun c_31 => ?_) (fun c_31 => ?_)
            · have hw := hw.1 (z_eq (rfl : r_30.toInt = _) (rfl : (0 : Int32).toInt = 0) c_31)
              exact atX52_nextFor_125 hc X (fun x5 x6 hw H locs ls hH hl => ih x5 x6 hw _ _ ls hH (lv_sub hl [0, 1, 2, 3, 4, 5, 6] rfl)) x6 hw _ _ ls hH (lv_sub hl [0, 1, 2, 3, 4, 6] rfl)
            · have hw := hw.2 (z_neq (rfl : r_30.toInt = _) (rfl : (0 : Int32).toInt = 0) c_31)
              refine lv_aload_n hx hb dX52_nextFor_114 rfl (lv_at hl 0 rfl) ?_
              refine lv_iload hx hb dX52_nextFor_115 (lv_at hl 4 rfl) ?_
              refine lv_iload hx hb dX52_nextFor_117 (lv_at hl 6 rfl) ?_
              refine k_i0 hH (k_runV (As := [.int x4, .int x6]) (rest := []) X hH.1 hH.2.1 X.2.2.2 (walkX52_below hc (x1 := x4) (x2 := x6) (f_thrown := f_thrown) (f_classes := f_classes) (f_things := f_things) (f_axioms := f_axioms) (f_fuel := f_fuel) (f_questions := f_questions) (f_sorted := f_sorted) (f_left := f_left) (f_other := f_other) (f_right := f_right) (f_there := f_there) (f_member := f_member) (f_state := f_state) (f_before := f_before) (f_placed := f_placed) (f_looked := f_looked) (f_fact := f_fact) (f_maker := f_maker) (f_fired := f_fired) (f_firedCount := f_firedCount) (f_needed := f_needed) (f_module := f_module) (f_asked := f_asked) hw) (cwV 2 X.1.2.2.2.2 gX52_77 rfl rfl rfl hX52_below ⟨Nat.le_of_ble_eq_true rfl, Nat.le_of_ble_eq_true rfl⟩) hc (q0 := 0) rfl rfl hl.1 rfl (Nat.le_of_ble_eq_true rfl) dX52_nextFor_119 ⟨Nat.le_refl 0, Nat.le_refl 0⟩) (fun r_32 _ H locs hw hH => ?_)
              have hH : kH (dC, dI) cl A s.heap H locs (wX52 ci ad d f_thrown f_classes f_things f_axioms f_fuel f_questions f_sorted f_left f_other f_right f_there f_member f_state f_before f_placed f_looked f_fact f_maker f_fired f_firedCount f_needed f_module f_asked) := hH
              refine lv_if_eq (tgt := 160) hx hb dX52_nextFor_122 (by decide) (fun c_33 => ?_) (fun c_33 => ?_)
              · have hw := hw.1 (z_eq (rfl : r_32.toInt = _) (rfl : (0 : Int32).toInt = 0) c_33)
                refine lv_iconst (v := 0) hx hb dX52_nextFor_160 (by decide) ?_
                refine lv_istore (lv' := [(5, .int 0), (0, .ref (ad 0)), (1, .int x1), (2, .int x2), (3, .int x3), (4, .int x4), (6, .int x6)]) hx hb dX52_nextFor_161 hl (by decide) rfl (fun ls hl => ?_)
                have hq_35 := hw.1
                have hw := hw.2
                obtain ⟨x6_34, ex6_34⟩ : ∃ y : Int32, y = x6 + 1 := ⟨_, rfl⟩
                have hw := hw x6_34.toInt (by rw [ex6_34]; exact (z_x (z_add (z_m (rfl : x6.toInt = _)) (z_m (rfl : (1 : Int32).toInt = 1))) hq_35))
                refine lv_iinc (v := x6_34) (lv' := [(6, .int x6_34), (5, .int 0), (0, .ref (ad 0)), (1, .int x1), (2, .int x2), (3, .int x3), (4, .int x4)]) hx hb dX52_nextFor_163 hl (k := 6) rfl (by rw [ex6_34]; rfl) (by decide) rfl (fun ls hl => ?_)
                refine lv_goto (tgt := 45) hx hb dX52_nextFor_166 (by decide) ?_
                exact ih 0 x6_34 hw _ _ ls hH (lv_sub hl [2, 3, 4, 5, 6, 1, 0] rfl)
              · have hw := hw.2 (z_neq (rfl : r_32.toInt = _) (rfl : (0 : Int32).toInt = 0) c_33)
                exact atX52_nextFor_125 hc X (fun x5 x6 hw H locs ls hH hl => ih x5 x6 hw _ _ ls hH (lv_sub hl [0, 1, 2, 3, 4, 5, 6] rfl)) x6 hw _ _ ls hH (lv_sub hl [0, 1, 2, 3, 4, 6] rfl)
        · have hw := hw.2 (z_neq (rfl : x2.toInt = _) (rfl : (0 : Int32).toInt = 0) c_11)
          refine lv_aload_n hx hb dX52_nextFor_63 rfl (lv_at hl 0 rfl) ?_
          refine lv_iload hx hb dX52_nextFor_64 (lv_at hl 4 rfl) ?_
          refine lv_iload hx hb dX52_nextFor_66 (lv_at hl 6 rfl) ?_
          refine k_i0 hH (k_runV (As := [.int x4, .int x6]) (rest := []) X hH.1 hH.2.1 X.2.2.2 (walkX52_isDirect hc (x1 := x4) (x2 := x6) (f_thrown := f_thrown) (f_classes := f_classes) (f_things := f_things) (f_axioms := f_axioms) (f_fuel := f_fuel) (f_questions := f_questions) (f_sorted := f_sorted) (f_left := f_left) (f_other := f_other) (f_right := f_right) (f_there := f_there) (f_member := f_member) (f_state := f_state) (f_before := f_before) (f_placed := f_placed) (f_looked := f_looked) (f_fact := f_fact) (f_maker := f_maker) (f_fired := f_fired) (f_firedCount := f_firedCount) (f_needed := f_needed) (f_module := f_module) (f_asked := f_asked) hw) (cwV 2 X.1.2.2.2.2 gX52_131 rfl rfl rfl hX52_isDirect ⟨Nat.le_of_ble_eq_true rfl, Nat.le_of_ble_eq_true rfl⟩) hc (q0 := 0) rfl rfl hl.1 rfl (Nat.le_of_ble_eq_true rfl) dX52_nextFor_68 ⟨Nat.le_refl 0, Nat.le_refl 0⟩) (fun r_36 _ H locs hw hH => ?_)
          have hH : kH (dC, dI) cl A s.heap H locs (wX52 ci ad d f_thrown f_classes f_things f_axioms f_fuel f_questions f_sorted f_left f_other f_right f_there f_member f_state f_before f_placed f_looked f_fact f_maker f_fired f_firedCount f_needed f_module f_asked) := hH
          refine lv_if_eq (tgt := 84) hx hb dX52_nextFor_71 (by decide) (fun c_37 => ?_) (fun c_37 => ?_)
          · have hw := hw.1 (z_eq (rfl : r_36.toInt = _) (rfl : (0 : Int32).toInt = 0) c_37)
            refine lv_iconst (v := 1) hx hb dX52_nextFor_84 (by decide) ?_
            refine lv_goto (tgt := 89) hx hb dX52_nextFor_85 (by decide) ?_
            refine lv_istore (lv' := [(5, .int 1), (0, .ref (ad 0)), (1, .int x1), (2, .int x2), (3, .int x3), (4, .int x4), (6, .int x6)]) hx hb dX52_nextFor_89 hl (by decide) rfl (fun ls hl => ?_)
            refine lv_goto (tgt := 163) hx hb dX52_nextFor_91 (by decide) ?_
            have hq_39 := hw.1
            have hw := hw.2
            obtain ⟨x6_38, ex6_38⟩ : ∃ y : Int32, y = x6 + 1 := ⟨_, rfl⟩
            have hw := hw x6_38.toInt (by rw [ex6_38]; exact (z_x (z_add (z_m (rfl : x6.toInt = _)) (z_m (rfl : (1 : Int32).toInt = 1))) hq_39))
            refine lv_iinc (v := x6_38) (lv' := [(6, .int x6_38), (5, .int 1), (0, .ref (ad 0)), (1, .int x1), (2, .int x2), (3, .int x3), (4, .int x4)]) hx hb dX52_nextFor_163 hl (k := 6) rfl (by rw [ex6_38]; rfl) (by decide) rfl (fun ls hl => ?_)
            refine lv_goto (tgt := 45) hx hb dX52_nextFor_166 (by decide) ?_
            exact ih 1 x6_38 hw _ _ ls hH (lv_sub hl [2, 3, 4, 5, 6, 1, 0] rfl)
          · have hw := hw.2 (z_neq (rfl : r_36.toInt = _) (rfl : (0 : Int32).toInt = 0) c_37)
            refine lv_aload_n hx hb dX52_nextFor_74 rfl (lv_at hl 0 rfl) ?_
            refine lv_iload_n hx hb dX52_nextFor_75 rfl (lv_at hl 1 rfl) ?_
            refine lv_iload hx hb dX52_nextFor_76 (lv_at hl 6 rfl) ?_
            refine k_i0 hH (k_runV (As := [.int x1, .int x6]) (rest := []) X hH.1 hH.2.1 X.2.2.2 (walkX52_below hc (x1 := x1) (x2 := x6) (f_thrown := f_thrown) (f_classes := f_classes) (f_things := f_things) (f_axioms := f_axioms) (f_fuel := f_fuel) (f_questions := f_questions) (f_sorted := f_sorted) (f_left := f_left) (f_other := f_other) (f_right := f_right) (f_there := f_there) (f_member := f_member) (f_state := f_state) (f_before := f_before) (f_placed := f_placed) (f_looked := f_looked) (f_fact := f_fact) (f_maker := f_maker) (f_fired := f_fired) (f_firedCount := f_firedCount) (f_needed := f_needed) (f_module := f_module) (f_asked := f_asked) hw) (cwV 2 X.1.2.2.2.2 gX52_77 rfl rfl rfl hX52_below ⟨Nat.le_of_ble_eq_true rfl, Nat.le_of_ble_eq_true rfl⟩) hc (q0 := 0) rfl rfl hl.1 rfl (Nat.le_of_ble_eq_true rfl) dX52_nextFor_78 ⟨Nat.le_refl 0, Nat.le_refl 0⟩) (fun r_40 _ H locs hw hH => ?_)
            have hH : kH (dC, dI) cl A s.heap H locs (wX52 ci ad d f_thrown f_classes f_things f_axioms f_fuel f_questions f_sorted f_left f_other f_right f_there f_member f_state f_before f_placed f_looked f_fact f_maker f_fired f_firedCount f_needed f_module f_asked) := hH
            refine lv_if_eq (tgt := 88) hx hb dX52_nextFor_81 (by decide) (fun c_41 => ?_) (fun c_41 => ?_)
            · have hw := hw.1 (z_eq (rfl : r_40.toInt = _) (rfl : (0 : Int32).toInt = 0) c_41)
              refine lv_iconst (v := 0) hx hb dX52_nextFor_88 (by decide) ?_
              refine lv_istore (lv' := [(5, .int 0), (0, .ref (ad 0)), (1, .int x1), (2, .int x2), (3, .int x3), (4, .int x4), (6, .int x6)]) hx hb dX52_nextFor_89 hl (by decide) rfl (fun ls hl => ?_)
              refine lv_goto (tgt := 163) hx hb dX52_nextFor_91 (by decide) ?_
              have hq_43 := hw.1
              have hw := hw.2
              obtain ⟨x6_42, ex6_42⟩ : ∃ y : Int32, y = x6 + 1 := ⟨_, rfl⟩
              have hw := hw x6_42.toInt (by rw [ex6_42]; exact (z_x (z_add (z_m (rfl : x6.toInt = _)) (z_m (rfl : (1 : Int32).toInt = 1))) hq_43))
              refine lv_iinc (v := x6_42) (lv' := [(6, .int x6_42), (5, .int 0), (0, .ref (ad 0)), (1, .int x1), (2, .int x2), (3, .int x3), (4, .int x4)]) hx hb dX52_nextFor_163 hl (k := 6) rfl (by rw [ex6_42]; rfl) (by decide) rfl (fun ls hl => ?_)
              refine lv_goto (tgt := 45) hx hb dX52_nextFor_166 (by decide) ?_
              exact ih 0 x6_42 hw _ _ ls hH (lv_sub hl [2, 3, 4, 5, 6, 1, 0] rfl)
            · have hw := hw.2 (z_neq (rfl : r_40.toInt = _) (rfl : (0 : Int32).toInt = 0) c_41)
              refine lv_iconst (v := 1) hx hb dX52_nextFor_84 (by decide) ?_
              refine lv_goto (tgt := 89) hx hb dX52_nextFor_85 (by decide) ?_
              refine lv_istore (lv' := [(5, .int 1), (0, .ref (ad 0)), (1, .int x1), (2, .int x2), (3, .int x3), (4, .int x4), (6, .int x6)]) hx hb dX52_nextFor_89 hl (by decide) rfl (fun ls hl => ?_)
              refine lv_goto (tgt := 163) hx hb dX52_nextFor_91 (by decide) ?_
              have hq_45 := hw.1
              have hw := hw.2
              obtain ⟨x6_44, ex6_44⟩ : ∃ y : Int32, y = x6 + 1 := ⟨_, rfl⟩
              have hw := hw x6_44.toInt (by rw [ex6_44]; exact (z_x (z_add (z_m (rfl : x6.toInt = _)) (z_m (rfl : (1 : Int32).toInt = 1))) hq_45))
              refine lv_iinc (v := x6_44) (lv' := [(6, .int x6_44), (5, .int 1), (0, .ref (ad 0)), (1, .int x1), (2, .int x2), (3, .int x3), (4, .int x4)]) hx hb dX52_nextFor_163 hl (k := 6) rfl (by rw [ex6_44]; rfl) (by decide) rfl (fun ls hl => ?_)
              refine lv_goto (tgt := 45) hx hb dX52_nextFor_166 (by decide) ?_
              exact ih 1 x6_44 hw _ _ ls hH (lv_sub hl [2, 3, 4, 5, 6, 1, 0] rfl)
set_option maxHeartbeats 4000000 in
theorem atX52_nextFor_10 {p : Program} {l : Launch} {e : Env} {s : State} {m : MethodId} {args : Array Value} {below : List Frame} {meth : Method} {c : Code} {dC : Nat → ClassId} {dI : Nat → Nat → Nat} {cl : List vw_C} {ci : Nat} (hc : cl[ci]? = some (RX52, TX52, 23)) {ad : Nat → Nat} {d : Nat → ClassId} {A : Nat → Prop} {post : Int → Prop} {f_thrown : Int32} {f_classes : Int32} {f_things : Int32} {f_axioms : Int32} {f_fuel : Int32} {f_questions : Int32} {f_sorted : Int32} {f_left : Nat → Int32} {f_other : Nat → Int32} {f_right : Nat → Int32} {f_there : Nat → Int32} {f_member : Nat → Int32} {f_state : Nat → Int32} {f_before : Nat → Int32} {f_placed : Nat → Int32} {f_looked : Nat → Int32} {f_fact : Nat → Int32} {f_maker : Nat → Int32} {f_fired : Nat → Int32} {f_firedCount : Int32} {f_needed : Nat → Int32} {f_module : Nat → Int32} {f_asked : Int32} (X : kX p s m args meth c cX52_nextFor 7 RX52 (some .int) (dC, dI) cl (tX52 d)) {K187 : Int → Prop} {x1 : Int32} {x2 : Int32}  (hk187 : ∀ (x3 : Int32), K187 x3.toInt → ∀ (H : Heap) (locs : List Loc) (ls : Array Slot), kH (dC, dI) cl A s.heap H locs (wX52 ci ad d f_thrown f_classes f_things f_axioms f_fuel f_questions f_sorted f_left f_other f_right f_there f_member f_state f_before f_placed f_looked f_fact f_maker f_fired f_firedCount f_needed f_module f_asked) → lv_has ls 7 [(3, .int x3)] → W p l e ({ frames := 3, cells := 0, slots := 0, locals := 68 } : Room) s m args below meth c H locs 0 0 (MQ below (va_Qi (fun (r : Int32) (_ : Unit) => post r.toInt) (kB (dC, dI) cl (tX52 d) A (fun _ : Unit => (wX52 ci ad d f_thrown f_classes f_things f_axioms f_fuel f_questions f_sorted f_left f_other f_right f_there f_member f_state f_before f_placed f_looked f_fact f_maker f_fired f_firedCount f_needed f_module f_asked))) A) args s 0 0 A) (F0 m 187 ls [])) :
    ∀ (nn : Nat) (x3 : Int32) (x4 : Int32), wX52_nextFor_10 K187 x1.toInt x2.toInt f_classes.toInt (zF f_state) (zF f_placed) (zF f_looked) nn x3.toInt x4.toInt → ∀ (H : Heap) (locs : List Loc) (ls : Array Slot), kH (dC, dI) cl A s.heap H locs (wX52 ci ad d f_thrown f_classes f_things f_axioms f_fuel f_questions f_sorted f_left f_other f_right f_there f_member f_state f_before f_placed f_looked f_fact f_maker f_fired f_firedCount f_needed f_module f_asked) → lv_has ls 7 [(0, .ref (ad 0)), (1, .int x1), (2, .int x2), (3, .int x3), (4, .int x4)] → W p l e ({ frames := 3, cells := 0, slots := 0, locals := 68 } : Room) s m args below meth c H locs 0 0 (MQ below (va_Qi (fun (r : Int32) (_ : Unit) => post r.toInt) (kB (dC, dI) cl (tX52 d) A (fun _ : Unit => (wX52 ci ad d f_thrown f_classes f_things f_axioms f_fuel f_questions f_sorted f_left f_other f_right f_there f_member f_state f_before f_placed f_looked f_fact f_maker f_fired f_firedCount f_needed f_module f_asked))) A) args s 0 0 A) (F0 m 10 ls []) := by
  have hx := X.1.1
  have hb := X.1.2.1
  intro nn
  induction nn with
  | zero =>
    intro x3 x4 hw
    exact False.elim hw
  | succ n ih =>
    intro x3 x4 hw H locs ls hH hl
    rw [wX52_nextFor_10] at hw
    refine lv_iload hx hb dX52_nextFor_10 (lv_at hl 4 rfl) ?_
    refine lv_if_lt (tgt := 187) hx hb dX52_nextFor_12 (by decide) (fun c_5 => ?_) (fun c_5 => ?_)
    · have hw := hw.1 (z_lt (rfl : x4.toInt = _) (rfl : (0 : Int32).toInt = 0) c_5)
      exact hk187 x3 hw _ _ ls hH (lv_sub hl [3] rfl)
    · have hw := hw.2 (z_nlt (rfl : x4.toInt = _) (rfl : (0 : Int32).toInt = 0) c_5)
      refine lv_aload_n hx hb dX52_nextFor_15 rfl (lv_at hl 0 rfl) ?_
      refine k_get X hH in_X52 0 rfl hc 14 (by decide) q6395 rfl dX52_nextFor_16 ?_
      refine lv_iload hx hb dX52_nextFor_19 (lv_at hl 4 rfl) ?_
      have hq_6 := hw.1
      have hw := hw.2
      refine k_zald X hH 8 7 rfl rfl (z_in (rfl : x4.toInt = _) hq_6) dX52_nextFor_21 ?_
      have e_7 := z_ld (f := f_placed) (rfl : x4.toInt = _) hq_6.1
      refine lv_if_eq (tgt := 39) hx hb dX52_nextFor_22 (by decide) (fun c_8 => ?_) (fun c_8 => ?_)
      · have hw := hw.1 (z_eq e_7 (rfl : (0 : Int32).toInt = 0) c_8)
        refine lv_iconst (v := 0) hx hb dX52_nextFor_39 (by decide) ?_
        refine lv_istore (lv' := [(5, .int 0), (0, .ref (ad 0)), (1, .int x1), (2, .int x2), (3, .int x3), (4, .int x4)]) hx hb dX52_nextFor_40 hl (by decide) rfl (fun ls hl => ?_)
        refine lv_iconst (v := 0) hx hb dX52_nextFor_42 (by decide) ?_
        refine lv_istore (lv' := [(6, .int 0), (5, .int 0), (0, .ref (ad 0)), (1, .int x1), (2, .int x2), (3, .int x3), (4, .int x4)]) hx hb dX52_nextFor_43 hl (by decide) rfl (fun ls hl => ?_)
        obtain ⟨fu, hw⟩ := hw
        refine atX52_nextFor_45 hc X ?_ fu 0 0 hw _ _ ls hH (lv_sub hl [2, 3, 4, 5, 6, 1, 0] rfl)
        · intro x5_46 hw H locs ls hH hl
          refine lv_iload hx hb dX52_nextFor_169 (lv_at hl 5 rfl) ?_
          refine lv_if_eq (tgt := 179) hx hb dX52_nextFor_171 (by decide) (fun c_47 => ?_) (fun c_47 => ?_)
          · have hw := hw.1 (z_eq (rfl : x5_46.toInt = _) (rfl : (0 : Int32).toInt = 0) c_47)
            refine lv_iload_n hx hb dX52_nextFor_179 rfl (lv_at hl 3 rfl) ?_
            refine lv_istore_n (lv' := [(3, .int x3), (0, .ref (ad 0)), (1, .int x1), (2, .int x2), (4, .int x4), (5, .int x5_46)]) hx hb dX52_nextFor_180 rfl hl (by decide) rfl (fun ls hl => ?_)
            have hq_49 := hw.1
            have hw := hw.2
            obtain ⟨x4_48, ex4_48⟩ : ∃ y : Int32, y = x4 + (-1) := ⟨_, rfl⟩
            have hw := hw x4_48.toInt (by rw [ex4_48]; exact (z_x (z_add (z_m (rfl : x4.toInt = _)) (z_m (rfl : ((-1) : Int32).toInt = (-1)))) hq_49))
            refine lv_iinc (v := x4_48) (lv' := [(4, .int x4_48), (3, .int x3), (0, .ref (ad 0)), (1, .int x1), (2, .int x2), (5, .int x5_46)]) hx hb dX52_nextFor_181 hl (k := 4) rfl (by rw [ex4_48]; rfl) (by decide) rfl (fun ls hl => ?_)
            refine lv_goto (tgt := 10) hx hb dX52_nextFor_184 (by decide) ?_
            exact ih x3 x4_48 hw _ _ ls hH (lv_sub hl [2, 3, 4, 1, 0] rfl)
          · have hw := hw.2 (z_neq (rfl : x5_46.toInt = _) (rfl : (0 : Int32).toInt = 0) c_47)
            refine lv_iload hx hb dX52_nextFor_174 (lv_at hl 4 rfl) ?_
            refine lv_goto (tgt := 180) hx hb dX52_nextFor_176 (by decide) ?_
            refine lv_istore_n (lv' := [(3, .int x4), (0, .ref (ad 0)), (1, .int x1), (2, .int x2), (4, .int x4), (5, .int x5_46)]) hx hb dX52_nextFor_180 rfl hl (by decide) rfl (fun ls hl => ?_)
            have hq_51 := hw.1
            have hw := hw.2
            obtain ⟨x4_50, ex4_50⟩ : ∃ y : Int32, y = x4 + (-1) := ⟨_, rfl⟩
            have hw := hw x4_50.toInt (by rw [ex4_50]; exact (z_x (z_add (z_m (rfl : x4.toInt = _)) (z_m (rfl : ((-1) : Int32).toInt = (-1)))) hq_51))
            refine lv_iinc (v := x4_50) (lv' := [(4, .int x4_50), (3, .int x4), (0, .ref (ad 0)), (1, .int x1), (2, .int x2), (5, .int x5_46)]) hx hb dX52_nextFor_181 hl (k := 4) rfl (by rw [ex4_50]; rfl) (by decide) rfl (fun ls hl => ?_)
            refine lv_goto (tgt := 10) hx hb dX52_nextFor_184 (by decide) ?_
            exact ih x4 x4_50 hw _ _ ls hH (lv_sub hl [2, 3, 4, 1, 0] rfl)
      · have hw := hw.2 (z_neq e_7 (rfl : (0 : Int32).toInt = 0) c_8)
        refine lv_aload_n hx hb dX52_nextFor_25 rfl (lv_at hl 0 rfl) ?_
        refine k_get X hH in_X52 0 rfl hc 15 (by decide) q6396 rfl dX52_nextFor_26 ?_
        refine lv_iload hx hb dX52_nextFor_29 (lv_at hl 4 rfl) ?_
        refine k_zald X hH 9 8 rfl rfl (z_in (rfl : x4.toInt = _) hq_6) dX52_nextFor_31 ?_
        have e_52 := z_ld (f := f_looked) (rfl : x4.toInt = _) hq_6.1
        refine lv_if_ne (tgt := 39) hx hb dX52_nextFor_32 (by decide) (fun c_53 => ?_) (fun c_53 => ?_)
        · have hw := hw.2 (z_ne e_52 (rfl : (0 : Int32).toInt = 0) c_53)
          refine lv_iconst (v := 0) hx hb dX52_nextFor_39 (by decide) ?_
          refine lv_istore (lv' := [(5, .int 0), (0, .ref (ad 0)), (1, .int x1), (2, .int x2), (3, .int x3), (4, .int x4)]) hx hb dX52_nextFor_40 hl (by decide) rfl (fun ls hl => ?_)
          refine lv_iconst (v := 0) hx hb dX52_nextFor_42 (by decide) ?_
          refine lv_istore (lv' := [(6, .int 0), (5, .int 0), (0, .ref (ad 0)), (1, .int x1), (2, .int x2), (3, .int x3), (4, .int x4)]) hx hb dX52_nextFor_43 hl (by decide) rfl (fun ls hl => ?_)
          obtain ⟨fu, hw⟩ := hw
          refine atX52_nextFor_45 hc X ?_ fu 0 0 hw _ _ ls hH (lv_sub hl [2, 3, 4, 5, 6, 1, 0] rfl)
          · intro x5_54 hw H locs ls hH hl
            refine lv_iload hx hb dX52_nextFor_169 (lv_at hl 5 rfl) ?_
            refine lv_if_eq (tgt := 179) hx hb dX52_nextFor_171 (by decide) (fun c_55 => ?_) (fun c_55 => ?_)
            · have hw := hw.1 (z_eq (rfl : x5_54.toInt = _) (rfl : (0 : Int32).toInt = 0) c_55)
              refine lv_iload_n hx hb dX52_nextFor_179 rfl (lv_at hl 3 rfl) ?_
              refine lv_istore_n (lv' := [(3, .int x3), (0, .ref (ad 0)), (1, .int x1), (2, .int x2), (4, .int x4), (5, .int x5_54)]) hx hb dX52_nextFor_180 rfl hl (by decide) rfl (fun ls hl => ?_)
              have hq_57 := hw.1
              have hw := hw.2
              obtain ⟨x4_56, ex4_56⟩ : ∃ y : Int32, y = x4 + (-1) := ⟨_, rfl⟩
              have hw := hw x4_56.toInt (by rw [ex4_56]; exact (z_x (z_add (z_m (rfl : x4.toInt = _)) (z_m (rfl : ((-1) : Int32).toInt = (-1)))) hq_57))
              refine lv_iinc (v := x4_56) (lv' := [(4, .int x4_56), (3, .int x3), (0, .ref (ad 0)), (1, .int x1), (2, .int x2), (5, .int x5_54)]) hx hb dX52_nextFor_181 hl (k := 4) rfl (by rw [ex4_56]; rfl) (by decide) rfl (fun ls hl => ?_)
              refine lv_goto (tgt := 10) hx hb dX52_nextFor_184 (by decide) ?_
              exact ih x3 x4_56 hw _ _ ls hH (lv_sub hl [2, 3, 4, 1, 0] rfl)
            · have hw := hw.2 (z_neq (rfl : x5_54.toInt = _) (rfl : (0 : Int32).toInt = 0) c_55)
              refine lv_iload hx hb dX52_nextFor_174 (lv_at hl 4 rfl) ?_
              refine lv_goto (tgt := 180) hx hb dX52_nextFor_176 (by decide) ?_
              refine lv_istore_n (lv' := [(3, .int x4), (0, .ref (ad 0)), (1, .int x1), (2, .int x2), (4, .int x4), (5, .int x5_54)]) hx hb dX52_nextFor_180 rfl hl (by decide) rfl (fun ls hl => ?_)
              have hq_59 := hw.1
              have hw := hw.2
              obtain ⟨x4_58, ex4_58⟩ : ∃ y : Int32, y = x4 + (-1) := ⟨_, rfl⟩
              have hw := hw x4_58.toInt (by rw [ex4_58]; exact (z_x (z_add (z_m (rfl : x4.toInt = _)) (z_m (rfl : ((-1) : Int32).toInt = (-1)))) hq_59))
              refine lv_iinc (v := x4_58) (lv' := [(4, .int x4_58), (3, .int x4), (0, .ref (ad 0)), (1, .int x1), (2, .int x2), (5, .int x5_54)]) hx hb dX52_nextFor_181 hl (k := 4) rfl (by rw [ex4_58]; rfl) (by decide) rfl (fun ls hl => ?_)
              refine lv_goto (tgt := 10) hx hb dX52_nextFor_184 (by decide) ?_
              exact ih x4 x4_58 hw _ _ ls hH (lv_sub hl [2, 3, 4, 1, 0] rfl)
        · have hw := hw.1 (z_eq e_52 (rfl : (0 : Int32).toInt = 0) c_53)
          refine lv_iconst (v := 1) hx hb dX52_nextFor_35 (by decide) ?_
          refine lv_goto (tgt := 40) hx hb dX52_nextFor_36 (by decide) ?_
          refine lv_istore (lv' := [(5, .int 1), (0, .ref (ad 0)), (1, .int x1), (2, .int x2), (3, .int x3), (4, .int x4)]) hx hb dX52_nextFor_40 hl (by decide) rfl (fun ls hl => ?_)
          refine lv_iconst (v := 0) hx hb dX52_nextFor_42 (by decide) ?_
          refine lv_istore (lv' := [(6, .int 0), (5, .int 1), (0, .ref (ad 0)), (1, .int x1), (2, .int x2), (3, .int x3), (4, .int x4)]) hx hb dX52_nextFor_43 hl (by decide) rfl (fun ls hl => ?_)
          obtain ⟨fu, hw⟩ := hw
          refine atX52_nextFor_45 hc X ?_ fu 1 0 hw _ _ ls hH (lv_sub hl [2, 3, 4, 5, 6, 1, 0] rfl)
          · intro x5_60 hw H locs ls hH hl
            refine lv_iload hx hb dX52_nextFor_169 (lv_at hl 5 rfl) ?_
            refine lv_if_eq (tgt := 179) hx hb dX52_nextFor_171 (by decide) (fun c_61 => ?_) (fun c_61 => ?_)
            · have hw := hw.1 (z_eq (rfl : x5_60.toInt = _) (rfl : (0 : Int32).toInt = 0) c_61)
              refine lv_iload_n hx hb dX52_nextFor_179 rfl (lv_at hl 3 rfl) ?_
              refine lv_istore_n (lv' := [(3, .int x3), (0, .ref (ad 0)), (1, .int x1), (2, .int x2), (4, .int x4), (5, .int x5_60)]) hx hb dX52_nextFor_180 rfl hl (by decide) rfl (fun ls hl => ?_)
              have hq_63 := hw.1
              have hw := hw.2
              obtain ⟨x4_62, ex4_62⟩ : ∃ y : Int32, y = x4 + (-1) := ⟨_, rfl⟩
              have hw := hw x4_62.toInt (by rw [ex4_62]; exact (z_x (z_add (z_m (rfl : x4.toInt = _)) (z_m (rfl : ((-1) : Int32).toInt = (-1)))) hq_63))
              refine lv_iinc (v := x4_62) (lv' := [(4, .int x4_62), (3, .int x3), (0, .ref (ad 0)), (1, .int x1), (2, .int x2), (5, .int x5_60)]) hx hb dX52_nextFor_181 hl (k := 4) rfl (by rw [ex4_62]; rfl) (by decide) rfl (fun ls hl => ?_)
              refine lv_goto (tgt := 10) hx hb dX52_nextFor_184 (by decide) ?_
              exact ih x3 x4_62 hw _ _ ls hH (lv_sub hl [2, 3, 4, 1, 0] rfl)
            · have hw := hw.2 (z_neq (rfl : x5_60.toInt = _) (rfl : (0 : Int32).toInt = 0) c_61)
              refine lv_iload hx hb dX52_nextFor_174 (lv_at hl 4 rfl) ?_
              refine lv_goto (tgt := 180) hx hb dX52_nextFor_176 (by decide) ?_
              refine lv_istore_n (lv' := [(3, .int x4), (0, .ref (ad 0)), (1, .int x1), (2, .int x2), (4, .int x4), (5, .int x5_60)]) hx hb dX52_nextFor_180 rfl hl (by decide) rfl (fun ls hl => ?_)
              have hq_65 := hw.1
              have hw := hw.2
              obtain ⟨x4_64, ex4_64⟩ : ∃ y : Int32, y = x4 + (-1) := ⟨_, rfl⟩
              have hw := hw x4_64.toInt (by rw [ex4_64]; exact (z_x (z_add (z_m (rfl : x4.toInt = _)) (z_m (rfl : ((-1) : Int32).toInt = (-1)))) hq_65))
              refine lv_iinc (v := x4_64) (lv' := [(4, .int x4_64), (3, .int x4), (0, .ref (ad 0)), (1, .int x1), (2, .int x2), (5, .int x5_60)]) hx hb dX52_nextFor_181 hl (k := 4) rfl (by rw [ex4_64]; rfl) (by decide) rfl (fun ls hl => ?_)
              refine lv_goto (tgt := 10) hx hb dX52_nextFor_184 (by decide) ?_
              exact ih x4 x4_64 hw _ _ ls hH (lv_sub hl [2, 3, 4, 1, 0] rfl)
set_option maxHeartbeats 4000000 in
theorem walkX52_nextFor {l : Launch} {dC : Nat → ClassId} {dI : Nat → Nat → Nat} {cl : List vw_C} {ci : Nat} (hc : cl[ci]? = some (RX52, TX52, 23)) {ad : Nat → Nat} {d : Nat → ClassId} {sz : Nat} {f_thrown : Int32} {f_classes : Int32} {f_things : Int32} {f_axioms : Int32} {f_fuel : Int32} {f_questions : Int32} {f_sorted : Int32} {f_left : Nat → Int32} {f_other : Nat → Int32} {f_right : Nat → Int32} {f_there : Nat → Int32} {f_member : Nat → Int32} {f_state : Nat → Int32} {f_before : Nat → Int32} {f_placed : Nat → Int32} {f_looked : Nat → Int32} {f_fact : Nat → Int32} {f_maker : Nat → Int32} {f_fired : Nat → Int32} {f_firedCount : Int32} {f_needed : Nat → Int32} {f_module : Nat → Int32} {f_asked : Int32} {x1 : Int32} {x2 : Int32} {post : Int → Prop} (hw : wpX52_nextFor post f_classes.toInt (zF f_state) (zF f_placed) (zF f_looked) x1.toInt x2.toInt) :
    Met l yX52_nextFor (ws_ yX52_nextFor cX52_nextFor 7 (some .int)) ({ frames := 3, cells := 0, slots := 0, locals := 68 } : Room) (kPc (dC, dI) cl (tX52 d) [.ref (ad 0), .int x1, .int x2] sz (wX52 ci ad d f_thrown f_classes f_things f_axioms f_fuel f_questions f_sorted f_left f_other f_right f_there f_member f_state f_before f_placed f_looked f_fact f_maker f_fired f_firedCount f_needed f_module f_asked)) (va_Qi (fun (r : Int32) (_ : Unit) => post r.toInt) (kB (dC, dI) cl (tX52 d) (va_A (wX52 ci ad d f_thrown f_classes f_things f_axioms f_fuel f_questions f_sorted f_left f_other f_right f_there f_member f_state f_before f_placed f_looked f_fact f_maker f_fired f_firedCount f_needed f_module f_asked) sz) (fun _ : Unit => (wX52 ci ad d f_thrown f_classes f_things f_axioms f_fuel f_questions f_sorted f_left f_other f_right f_there f_member f_state f_before f_placed f_looked f_fact f_maker f_fired f_firedCount f_needed f_module f_asked))) (va_A (wX52 ci ad d f_thrown f_classes f_things f_axioms f_fuel f_questions f_sorted f_left f_other f_right f_there f_member f_state f_before f_placed f_looked f_fact f_maker f_fired f_firedCount f_needed f_module f_asked) sz)) 0 0 (va_A (wX52 ci ad d f_thrown f_classes f_things f_axioms f_fuel f_questions f_sorted f_left f_other f_right f_there f_member f_state f_before f_placed f_looked f_fact f_maker f_fired f_firedCount f_needed f_module f_asked) sz) := by
  refine k_enter (by decide) (Nat.le_of_ble_eq_true rfl) ?_
  intro p e s m below meth c ls X hsz hH hl
  subst hsz
  generalize va_A (wX52 ci ad d f_thrown f_classes f_things f_axioms f_fuel f_questions f_sorted f_left f_other f_right f_there f_member f_state f_before f_placed f_looked f_fact f_maker f_fired f_firedCount f_needed f_module f_asked) s.heap.size = A at hH ⊢
  have hx := X.1.1
  have hb := X.1.2.1
  have hl : lv_has ls 7 [(0, .ref (ad 0)), (1, .int x1), (2, .int x2)] := hl
  unfold wpX52_nextFor at hw
  refine lv_iconst (v := (-1)) hx hb dX52_nextFor_0 (by decide) ?_
  refine lv_istore_n (lv' := [(3, .int ((-1))), (0, .ref (ad 0)), (1, .int x1), (2, .int x2)]) hx hb dX52_nextFor_1 rfl hl (by decide) rfl (fun ls hl => ?_)
  refine lv_aload_n hx hb dX52_nextFor_2 rfl (lv_at hl 1 rfl) ?_
  refine k_get X hH in_X52 0 rfl hc 1 (by decide) q6382 rfl dX52_nextFor_3 ?_
  refine lv_iconst (v := 1) hx hb dX52_nextFor_6 (by decide) ?_
  refine lv_isub hx hb dX52_nextFor_7 ?_
  have e_1 := z_sub (z_m (rfl : f_classes.toInt = _)) (z_m (rfl : (1 : Int32).toInt = 1))
  have hq_2 := hw.1
  have hw := hw.2
  have e_3 := z_x e_1 hq_2
  refine lv_topi (fun x4_4 ex4_4 => ?_)
  have hw := hw x4_4.toInt (by rw [ex4_4]; exact e_3)
  refine lv_istore (lv' := [(4, .int x4_4), (3, .int ((-1))), (0, .ref (ad 0)), (1, .int x1), (2, .int x2)]) hx hb dX52_nextFor_8 hl (by decide) rfl (fun ls hl => ?_)
  obtain ⟨fu, hw⟩ := hw
  refine atX52_nextFor_10 hc X ?_ fu (-1) x4_4 hw _ _ ls hH (lv_sub hl [2, 3, 4, 1, 0] rfl)
  · intro x3_66 hw H locs ls hH hl
    refine lv_iload_n hx hb dX52_nextFor_187 rfl (lv_at hl 0 rfl) ?_
    exact k_iret (v := x3_66) X hH () hw rfl rfl dX52_nextFor_188
set_option maxHeartbeats 4000000 in
theorem atX52_go_2 {p : Program} {l : Launch} {e : Env} {s : State} {m : MethodId} {args : Array Value} {below : List Frame} {meth : Method} {c : Code} {dC : Nat → ClassId} {dI : Nat → Nat → Nat} {cl : List vw_C} {ci : Nat} (hc : cl[ci]? = some (RX52, TX52, 23)) {ad : Nat → Nat} {d : Nat → ClassId} {A : Nat → Prop} {post : (Int → Int) → (Int → Int) → (Int → Int) → (Int → Int) → (Int → Int) → Int → Int → Prop} {f_thrown : Int32} {f_classes : Int32} {f_things : Int32} {f_axioms : Int32} {f_fuel : Int32} {f_questions : Int32} {f_sorted : Int32} {f_left : Nat → Int32} {f_other : Nat → Int32} {f_right : Nat → Int32} {f_there : Nat → Int32} {f_member : Nat → Int32} {f_before : Nat → Int32} {f_placed : Nat → Int32} {f_needed : Nat → Int32} {f_module : Nat → Int32} (X : kX p s m args meth c cX52_go 5 RX52 none (dC, dI) cl (tX52 d)) {K21 : (Int → Int) → Prop} {x1 : Int32} {x2 : Int32} {f_state : Nat → Int32} {f_fact : Nat → Int32} {f_maker : Nat → Int32} {f_fired : Nat → Int32} {f_firedCount : Int32} {f_asked : Int32} (hk21 : ∀ (f_looked : Nat → Int32), K21 (zF f_looked) → ∀ (H : Heap) (locs : List Loc) (ls : Array Slot), kH (dC, dI) cl A s.heap H locs (wX52 ci ad d f_thrown f_classes f_things f_axioms f_fuel f_questions f_sorted f_left f_other f_right f_there f_member f_state f_before f_placed f_looked f_fact f_maker f_fired f_firedCount f_needed f_module f_asked) → lv_has ls 5 [(0, .ref (ad 0)), (1, .int x1), (2, .int x2)] → W p l e ({ frames := 5, cells := 0, slots := 0, locals := 115 } : Room) s m args below meth c H locs 0 0 (MQ below (va_Qv (fun (u : (Nat → Int32) × (Nat → Int32) × (Nat → Int32) × (Nat → Int32) × (Nat → Int32) × Int32 × Int32) => post (zF (u.1)) (zF (u.2.1)) (zF (u.2.2.1)) (zF (u.2.2.2.1)) (zF (u.2.2.2.2.1)) (u.2.2.2.2.2.1).toInt (u.2.2.2.2.2.2).toInt) (kB (dC, dI) cl (tX52 d) A (fun u : (Nat → Int32) × (Nat → Int32) × (Nat → Int32) × (Nat → Int32) × (Nat → Int32) × Int32 × Int32 => (wX52 ci ad d f_thrown f_classes f_things f_axioms f_fuel f_questions f_sorted f_left f_other f_right f_there f_member (u.1) f_before f_placed (u.2.1) (u.2.2.1) (u.2.2.2.1) (u.2.2.2.2.1) (u.2.2.2.2.2.1) f_needed f_module (u.2.2.2.2.2.2)))) A) args s 0 0 A) (F0 m 21 ls [])) :
    ∀ (nn : Nat) (x3 : Int32) (f_looked : Nat → Int32), wX52_go_2 K21 nn x3.toInt (zF f_looked) → ∀ (H : Heap) (locs : List Loc) (ls : Array Slot), kH (dC, dI) cl A s.heap H locs (wX52 ci ad d f_thrown f_classes f_things f_axioms f_fuel f_questions f_sorted f_left f_other f_right f_there f_member f_state f_before f_placed f_looked f_fact f_maker f_fired f_firedCount f_needed f_module f_asked) → lv_has ls 5 [(0, .ref (ad 0)), (1, .int x1), (2, .int x2), (3, .int x3)] → W p l e ({ frames := 5, cells := 0, slots := 0, locals := 115 } : Room) s m args below meth c H locs 0 0 (MQ below (va_Qv (fun (u : (Nat → Int32) × (Nat → Int32) × (Nat → Int32) × (Nat → Int32) × (Nat → Int32) × Int32 × Int32) => post (zF (u.1)) (zF (u.2.1)) (zF (u.2.2.1)) (zF (u.2.2.2.1)) (zF (u.2.2.2.2.1)) (u.2.2.2.2.2.1).toInt (u.2.2.2.2.2.2).toInt) (kB (dC, dI) cl (tX52 d) A (fun u : (Nat → Int32) × (Nat → Int32) × (Nat → Int32) × (Nat → Int32) × (Nat → Int32) × Int32 × Int32 => (wX52 ci ad d f_thrown f_classes f_things f_axioms f_fuel f_questions f_sorted f_left f_other f_right f_there f_member (u.1) f_before f_placed (u.2.1) (u.2.2.1) (u.2.2.2.1) (u.2.2.2.2.1) (u.2.2.2.2.2.1) f_needed f_module (u.2.2.2.2.2.2)))) A) args s 0 0 A) (F0 m 2 ls []) := by
  have hx := X.1.1
  have hb := X.1.2.1
  intro nn
  induction nn with
  | zero =>
    intro x3 f_looked hw
    exact False.elim hw
  | succ n ih =>
    intro x3 f_looked hw H locs ls hH hl
    rw [wX52_go_2] at hw
    refine lv_iload_n hx hb dX52_go_2 rfl (lv_at hl 3 rfl) ?_
    refine lv_bipush (v := 20) hx hb dX52_go_3 (by decide) ?_
    refine lv_icmp_ge (tgt := 21) hx hb dX52_go_5 (by decide) (fun c_1 => ?_) (fun c_1 => ?_)
    · have hw := hw.1 (z_le (rfl : (20 : Int32).toInt = 20) (rfl : x3.toInt = _) c_1)
      exact hk21 f_looked hw _ _ ls hH (lv_sub hl [0, 1, 2] rfl)
    · have hw := hw.2 (z_nle (rfl : (20 : Int32).toInt = 20) (rfl : x3.toInt = _) c_1)
      refine lv_aload_n hx hb dX52_go_8 rfl (lv_at hl 0 rfl) ?_
      refine k_get X hH in_X52 0 rfl hc 15 (by decide) q6396 rfl dX52_go_9 ?_
      refine lv_iload_n hx hb dX52_go_12 rfl (lv_at hl 3 rfl) ?_
      refine lv_iconst (v := 0) hx hb dX52_go_13 (by decide) ?_
      have hq_3 := hw.1
      have hw := hw.2
      obtain ⟨f_looked_2, ef_looked_2⟩ : ∃ y : Nat → Int32, y = upd f_looked x3.toNatClampNeg (vp_nar .boolean 0) := ⟨_, rfl⟩
      refine k_zast X hH 9 8 rfl rfl (z_in (rfl : x3.toInt = _) hq_3) dX52_go_14 ef_looked_2 (ws1 := (wX52 ci ad d f_thrown f_classes f_things f_axioms f_fuel f_questions f_sorted f_left f_other f_right f_there f_member f_state f_before f_placed f_looked_2 f_fact f_maker f_fired f_firedCount f_needed f_module f_asked)) rfl (fun H locs hH => ?_)
      have hw := hw (zF f_looked_2) (by rw [ef_looked_2]; exact z_st (f := f_looked) (rfl : x3.toInt = _) hq_3.1 (z_narZ (rfl : (0 : Int32).toInt = 0) (by decide)))
      have hq_5 := hw.1
      have hw := hw.2
      obtain ⟨x3_4, ex3_4⟩ : ∃ y : Int32, y = x3 + 1 := ⟨_, rfl⟩
      have hw := hw x3_4.toInt (by rw [ex3_4]; exact (z_x (z_add (z_m (rfl : x3.toInt = _)) (z_m (rfl : (1 : Int32).toInt = 1))) hq_5))
      refine lv_iinc (v := x3_4) (lv' := [(3, .int x3_4), (0, .ref (ad 0)), (1, .int x1), (2, .int x2)]) hx hb dX52_go_15 hl (k := 3) rfl (by rw [ex3_4]; rfl) (by decide) rfl (fun ls hl => ?_)
      refine lv_goto (tgt := 2) hx hb dX52_go_18 (by decide) ?_
      exact ih x3_4 f_looked_2 hw _ _ ls hH (lv_sub hl [1, 2, 3, 0] rfl)
set_option maxHeartbeats 4000000 in
theorem atX52_go_28 {p : Program} {l : Launch} {e : Env} {s : State} {m : MethodId} {args : Array Value} {below : List Frame} {meth : Method} {c : Code} {dC : Nat → ClassId} {dI : Nat → Nat → Nat} {cl : List vw_C} {ci : Nat} (hc : cl[ci]? = some (RX52, TX52, 23)) {ad : Nat → Nat} {d : Nat → ClassId} {A : Nat → Prop} {post : (Int → Int) → (Int → Int) → (Int → Int) → (Int → Int) → (Int → Int) → Int → Int → Prop} {f_thrown : Int32} {f_classes : Int32} {f_things : Int32} {f_axioms : Int32} {f_fuel : Int32} {f_questions : Int32} {f_sorted : Int32} {f_left : Nat → Int32} {f_other : Nat → Int32} {f_right : Nat → Int32} {f_there : Nat → Int32} {f_member : Nat → Int32} {f_before : Nat → Int32} {f_placed : Nat → Int32} {f_needed : Nat → Int32} {f_module : Nat → Int32} (X : kX p s m args meth c cX52_go 5 RX52 none (dC, dI) cl (tX52 d)) {K70 : (Int → Int) → (Int → Int) → (Int → Int) → (Int → Int) → (Int → Int) → Int → Int → Prop} {x1 : Int32} {x2 : Int32}  (hk70 : ∀ (f_state : Nat → Int32) (f_looked : Nat → Int32) (f_fact : Nat → Int32) (f_maker : Nat → Int32) (f_fired : Nat → Int32) (f_firedCount : Int32) (f_asked : Int32), K70 (zF f_state) (zF f_looked) (zF f_fact) (zF f_maker) (zF f_fired) f_firedCount.toInt f_asked.toInt → ∀ (H : Heap) (locs : List Loc) (ls : Array Slot), kH (dC, dI) cl A s.heap H locs (wX52 ci ad d f_thrown f_classes f_things f_axioms f_fuel f_questions f_sorted f_left f_other f_right f_there f_member f_state f_before f_placed f_looked f_fact f_maker f_fired f_firedCount f_needed f_module f_asked) → lv_has ls 5 [] → W p l e ({ frames := 5, cells := 0, slots := 0, locals := 115 } : Room) s m args below meth c H locs 0 0 (MQ below (va_Qv (fun (u : (Nat → Int32) × (Nat → Int32) × (Nat → Int32) × (Nat → Int32) × (Nat → Int32) × Int32 × Int32) => post (zF (u.1)) (zF (u.2.1)) (zF (u.2.2.1)) (zF (u.2.2.2.1)) (zF (u.2.2.2.2.1)) (u.2.2.2.2.2.1).toInt (u.2.2.2.2.2.2).toInt) (kB (dC, dI) cl (tX52 d) A (fun u : (Nat → Int32) × (Nat → Int32) × (Nat → Int32) × (Nat → Int32) × (Nat → Int32) × Int32 × Int32 => (wX52 ci ad d f_thrown f_classes f_things f_axioms f_fuel f_questions f_sorted f_left f_other f_right f_there f_member (u.1) f_before f_placed (u.2.1) (u.2.2.1) (u.2.2.2.1) (u.2.2.2.2.1) (u.2.2.2.2.2.1) f_needed f_module (u.2.2.2.2.2.2)))) A) args s 0 0 A) (F0 m 70 ls [])) :
    ∀ (nn : Nat) (x3 : Int32) (f_state : Nat → Int32) (f_looked : Nat → Int32) (f_fact : Nat → Int32) (f_maker : Nat → Int32) (f_fired : Nat → Int32) (f_firedCount : Int32) (f_asked : Int32), wX52_go_28 K70 x1.toInt x2.toInt f_classes.toInt f_axioms.toInt f_fuel.toInt (zF f_left) (zF f_other) (zF f_right) (zF f_there) (zF f_placed) nn x3.toInt (zF f_state) (zF f_looked) (zF f_fact) (zF f_maker) (zF f_fired) f_firedCount.toInt f_asked.toInt → ∀ (H : Heap) (locs : List Loc) (ls : Array Slot), kH (dC, dI) cl A s.heap H locs (wX52 ci ad d f_thrown f_classes f_things f_axioms f_fuel f_questions f_sorted f_left f_other f_right f_there f_member f_state f_before f_placed f_looked f_fact f_maker f_fired f_firedCount f_needed f_module f_asked) → lv_has ls 5 [(0, .ref (ad 0)), (1, .int x1), (2, .int x2), (3, .int x3)] → W p l e ({ frames := 5, cells := 0, slots := 0, locals := 115 } : Room) s m args below meth c H locs 0 0 (MQ below (va_Qv (fun (u : (Nat → Int32) × (Nat → Int32) × (Nat → Int32) × (Nat → Int32) × (Nat → Int32) × Int32 × Int32) => post (zF (u.1)) (zF (u.2.1)) (zF (u.2.2.1)) (zF (u.2.2.2.1)) (zF (u.2.2.2.2.1)) (u.2.2.2.2.2.1).toInt (u.2.2.2.2.2.2).toInt) (kB (dC, dI) cl (tX52 d) A (fun u : (Nat → Int32) × (Nat → Int32) × (Nat → Int32) × (Nat → Int32) × (Nat → Int32) × Int32 × Int32 => (wX52 ci ad d f_thrown f_classes f_things f_axioms f_fuel f_questions f_sorted f_left f_other f_right f_there f_member (u.1) f_before f_placed (u.2.1) (u.2.2.1) (u.2.2.2.1) (u.2.2.2.2.1) (u.2.2.2.2.2.1) f_needed f_module (u.2.2.2.2.2.2)))) A) args s 0 0 A) (F0 m 28 ls []) := by
  have hx := X.1.1
  have hb := X.1.2.1
  intro nn
  induction nn with
  | zero =>
    intro x3 f_state f_looked f_fact f_maker f_fired f_firedCount f_asked hw
    exact False.elim hw
  | succ n ih =>
    intro x3 f_state f_looked f_fact f_maker f_fired f_firedCount f_asked hw H locs ls hH hl
    rw [wX52_go_28] at hw
    refine lv_iload_n hx hb dX52_go_28 rfl (lv_at hl 3 rfl) ?_
    refine lv_if_lt (tgt := 70) hx hb dX52_go_29 (by decide) (fun c_8 => ?_) (fun c_8 => ?_)
    · have hw := hw.1 (z_lt (rfl : x3.toInt = _) (rfl : (0 : Int32).toInt = 0) c_8)
      exact hk70 f_state f_looked f_fact f_maker f_fired f_firedCount f_asked hw _ _ ls hH (lv_sub hl [] rfl)
    · have hw := hw.2 (z_nlt (rfl : x3.toInt = _) (rfl : (0 : Int32).toInt = 0) c_8)
      refine lv_aload_n hx hb dX52_go_32 rfl (lv_at hl 0 rfl) ?_
      refine k_get X hH in_X52 0 rfl hc 15 (by decide) q6396 rfl dX52_go_33 ?_
      refine lv_iload_n hx hb dX52_go_36 rfl (lv_at hl 3 rfl) ?_
      refine lv_iconst (v := 1) hx hb dX52_go_37 (by decide) ?_
      have hq_10 := hw.1
      have hw := hw.2
      obtain ⟨f_looked_9, ef_looked_9⟩ : ∃ y : Nat → Int32, y = upd f_looked x3.toNatClampNeg (vp_nar .boolean 1) := ⟨_, rfl⟩
      refine k_zast X hH 9 8 rfl rfl (z_in (rfl : x3.toInt = _) hq_10) dX52_go_38 ef_looked_9 (ws1 := (wX52 ci ad d f_thrown f_classes f_things f_axioms f_fuel f_questions f_sorted f_left f_other f_right f_there f_member f_state f_before f_placed f_looked_9 f_fact f_maker f_fired f_firedCount f_needed f_module f_asked)) rfl (fun H locs hH => ?_)
      have hw := hw (zF f_looked_9) (by rw [ef_looked_9]; exact z_st (f := f_looked) (rfl : x3.toInt = _) hq_10.1 (z_narZ (rfl : (1 : Int32).toInt = 1) (by decide)))
      refine lv_iload_n hx hb dX52_go_39 rfl (lv_at hl 2 rfl) ?_
      refine lv_if_eq (tgt := 52) hx hb dX52_go_40 (by decide) (fun c_11 => ?_) (fun c_11 => ?_)
      · have hw := hw.1 (z_eq (rfl : x2.toInt = _) (rfl : (0 : Int32).toInt = 0) c_11)
        refine lv_aload_n hx hb dX52_go_52 rfl (lv_at hl 0 rfl) ?_
        refine lv_iload_n hx hb dX52_go_53 rfl (lv_at hl 3 rfl) ?_
        refine lv_iload_n hx hb dX52_go_54 rfl (lv_at hl 1 rfl) ?_
        refine k_i0 hH (k_runV (As := [.int x3, .int x1]) (rest := []) X hH.1 hH.2.1 X.2.2.2 (walkX52_look hc (x1 := x3) (x2 := x1) (f_thrown := f_thrown) (f_classes := f_classes) (f_things := f_things) (f_axioms := f_axioms) (f_fuel := f_fuel) (f_questions := f_questions) (f_sorted := f_sorted) (f_left := f_left) (f_other := f_other) (f_right := f_right) (f_there := f_there) (f_member := f_member) (f_state := f_state) (f_before := f_before) (f_placed := f_placed) (f_looked := f_looked_9) (f_fact := f_fact) (f_maker := f_maker) (f_fired := f_fired) (f_firedCount := f_firedCount) (f_needed := f_needed) (f_module := f_module) (f_asked := f_asked) hw) (cwV 2 X.1.2.2.2.2 gX52_138 rfl rfl rfl hX52_look ⟨Nat.le_of_ble_eq_true rfl, Nat.le_of_ble_eq_true rfl⟩) hc (q0 := 0) rfl rfl hl.1 rfl (Nat.le_of_ble_eq_true rfl) dX52_go_55 ⟨Nat.le_refl 0, Nat.le_refl 0⟩) (fun r_12 u H locs hw hH => ?_)
        obtain ⟨f_state_13, f_fact_14, f_maker_15, f_fired_16, f_firedCount_17, f_asked_18⟩ := u
        have hH : kH (dC, dI) cl A s.heap H locs (wX52 ci ad d f_thrown f_classes f_things f_axioms f_fuel f_questions f_sorted f_left f_other f_right f_there f_member f_state_13 f_before f_placed f_looked_9 f_fact_14 f_maker_15 f_fired_16 f_firedCount_17 f_needed f_module f_asked_18) := hH
        refine lv_istore (lv' := [(4, .int r_12), (0, .ref (ad 0)), (1, .int x1), (2, .int x2), (3, .int x3)]) hx hb dX52_go_58 hl (by decide) rfl (fun ls hl => ?_)
        refine lv_aload_n hx hb dX52_go_60 rfl (lv_at hl 1 rfl) ?_
        refine lv_iload_n hx hb dX52_go_61 rfl (lv_at hl 2 rfl) ?_
        refine lv_iload_n hx hb dX52_go_62 rfl (lv_at hl 3 rfl) ?_
        refine k_i0 hH (k_runV (As := [.int x1, .int x2]) (rest := []) X hH.1 hH.2.1 X.2.2.2 (walkX52_nextFor hc (x1 := x1) (x2 := x2) (f_thrown := f_thrown) (f_classes := f_classes) (f_things := f_things) (f_axioms := f_axioms) (f_fuel := f_fuel) (f_questions := f_questions) (f_sorted := f_sorted) (f_left := f_left) (f_other := f_other) (f_right := f_right) (f_there := f_there) (f_member := f_member) (f_state := f_state_13) (f_before := f_before) (f_placed := f_placed) (f_looked := f_looked_9) (f_fact := f_fact_14) (f_maker := f_maker_15) (f_fired := f_fired_16) (f_firedCount := f_firedCount_17) (f_needed := f_needed) (f_module := f_module) (f_asked := f_asked_18) hw) (cwV 2 X.1.2.2.2.2 gX52_134 rfl rfl rfl hX52_nextFor ⟨Nat.le_of_ble_eq_true rfl, Nat.le_of_ble_eq_true rfl⟩) hc (q0 := 0) rfl rfl hl.1 rfl (Nat.le_of_ble_eq_true rfl) dX52_go_63 ⟨Nat.le_refl 0, Nat.le_refl 0⟩) (fun r_19 _ H locs hw hH => ?_)
        have hH : kH (dC, dI) cl A s.heap H locs (wX52 ci ad d f_thrown f_classes f_things f_axioms f_fuel f_questions f_sorted f_left f_other f_right f_there f_member f_state_13 f_before f_placed f_looked_9 f_fact_14 f_maker_15 f_fired_16 f_firedCount_17 f_needed f_module f_asked_18) := hH
        refine lv_istore_n (lv' := [(3, .int r_19), (4, .int r_12), (0, .ref (ad 0)), (1, .int x1), (2, .int x2)]) hx hb dX52_go_66 rfl hl (by decide) rfl (fun ls hl => ?_)
        refine lv_goto (tgt := 28) hx hb dX52_go_67 (by decide) ?_
        exact ih r_19 f_state_13 f_looked_9 f_fact_14 f_maker_15 f_fired_16 f_firedCount_17 f_asked_18 hw _ _ ls hH (lv_sub hl [2, 3, 4, 0] rfl)
      · have hw := hw.2 (z_neq (rfl : x2.toInt = _) (rfl : (0 : Int32).toInt = 0) c_11)
        refine lv_aload_n hx hb dX52_go_43 rfl (lv_at hl 0 rfl) ?_
        refine lv_iload_n hx hb dX52_go_44 rfl (lv_at hl 1 rfl) ?_
        refine lv_iload_n hx hb dX52_go_45 rfl (lv_at hl 3 rfl) ?_
        refine k_i0 hH (k_runV (As := [.int x1, .int x3]) (rest := []) X hH.1 hH.2.1 X.2.2.2 (walkX52_look hc (x1 := x1) (x2 := x3) (f_thrown := f_thrown) (f_classes := f_classes) (f_things := f_things) (f_axioms := f_axioms) (f_fuel := f_fuel) (f_questions := f_questions) (f_sorted := f_sorted) (f_left := f_left) (f_other := f_other) (f_right := f_right) (f_there := f_there) (f_member := f_member) (f_state := f_state) (f_before := f_before) (f_placed := f_placed) (f_looked := f_looked_9) (f_fact := f_fact) (f_maker := f_maker) (f_fired := f_fired) (f_firedCount := f_firedCount) (f_needed := f_needed) (f_module := f_module) (f_asked := f_asked) hw) (cwV 2 X.1.2.2.2.2 gX52_138 rfl rfl rfl hX52_look ⟨Nat.le_of_ble_eq_true rfl, Nat.le_of_ble_eq_true rfl⟩) hc (q0 := 0) rfl rfl hl.1 rfl (Nat.le_of_ble_eq_true rfl) dX52_go_46 ⟨Nat.le_refl 0, Nat.le_refl 0⟩) (fun r_20 u H locs hw hH => ?_)
        obtain ⟨f_state_21, f_fact_22, f_maker_23, f_fired_24, f_firedCount_25, f_asked_26⟩ := u
        have hH : kH (dC, dI) cl A s.heap H locs (wX52 ci ad d f_thrown f_classes f_things f_axioms f_fuel f_questions f_sorted f_left f_other f_right f_there f_member f_state_21 f_before f_placed f_looked_9 f_fact_22 f_maker_23 f_fired_24 f_firedCount_25 f_needed f_module f_asked_26) := hH
        refine lv_goto (tgt := 58) hx hb dX52_go_49 (by decide) ?_
        refine lv_istore (lv' := [(4, .int r_20), (0, .ref (ad 0)), (1, .int x1), (2, .int x2), (3, .int x3)]) hx hb dX52_go_58 hl (by decide) rfl (fun ls hl => ?_)
        refine lv_aload_n hx hb dX52_go_60 rfl (lv_at hl 1 rfl) ?_
        refine lv_iload_n hx hb dX52_go_61 rfl (lv_at hl 2 rfl) ?_
        refine lv_iload_n hx hb dX52_go_62 rfl (lv_at hl 3 rfl) ?_
        refine k_i0 hH (k_runV (As := [.int x1, .int x2]) (rest := []) X hH.1 hH.2.1 X.2.2.2 (walkX52_nextFor hc (x1 := x1) (x2 := x2) (f_thrown := f_thrown) (f_classes := f_classes) (f_things := f_things) (f_axioms := f_axioms) (f_fuel := f_fuel) (f_questions := f_questions) (f_sorted := f_sorted) (f_left := f_left) (f_other := f_other) (f_right := f_right) (f_there := f_there) (f_member := f_member) (f_state := f_state_21) (f_before := f_before) (f_placed := f_placed) (f_looked := f_looked_9) (f_fact := f_fact_22) (f_maker := f_maker_23) (f_fired := f_fired_24) (f_firedCount := f_firedCount_25) (f_needed := f_needed) (f_module := f_module) (f_asked := f_asked_26) hw) (cwV 2 X.1.2.2.2.2 gX52_134 rfl rfl rfl hX52_nextFor ⟨Nat.le_of_ble_eq_true rfl, Nat.le_of_ble_eq_true rfl⟩) hc (q0 := 0) rfl rfl hl.1 rfl (Nat.le_of_ble_eq_true rfl) dX52_go_63 ⟨Nat.le_refl 0, Nat.le_refl 0⟩) (fun r_27 _ H locs hw hH => ?_)
        have hH : kH (dC, dI) cl A s.heap H locs (wX52 ci ad d f_thrown f_classes f_things f_axioms f_fuel f_questions f_sorted f_left f_other f_right f_there f_member f_state_21 f_before f_placed f_looked_9 f_fact_22 f_maker_23 f_fired_24 f_firedCount_25 f_needed f_module f_asked_26) := hH
        refine lv_istore_n (lv' := [(3, .int r_27), (4, .int r_20), (0, .ref (ad 0)), (1, .int x1), (2, .int x2)]) hx hb dX52_go_66 rfl hl (by decide) rfl (fun ls hl => ?_)
        refine lv_goto (tgt := 28) hx hb dX52_go_67 (by decide) ?_
        exact ih r_27 f_state_21 f_looked_9 f_fact_22 f_maker_23 f_fired_24 f_firedCount_25 f_asked_26 hw _ _ ls hH (lv_sub hl [2, 3, 4, 0] rfl)
set_option maxHeartbeats 4000000 in
theorem walkX52_go {l : Launch} {dC : Nat → ClassId} {dI : Nat → Nat → Nat} {cl : List vw_C} {ci : Nat} (hc : cl[ci]? = some (RX52, TX52, 23)) {ad : Nat → Nat} {d : Nat → ClassId} {sz : Nat} {f_thrown : Int32} {f_classes : Int32} {f_things : Int32} {f_axioms : Int32} {f_fuel : Int32} {f_questions : Int32} {f_sorted : Int32} {f_left : Nat → Int32} {f_other : Nat → Int32} {f_right : Nat → Int32} {f_there : Nat → Int32} {f_member : Nat → Int32} {f_state : Nat → Int32} {f_before : Nat → Int32} {f_placed : Nat → Int32} {f_looked : Nat → Int32} {f_fact : Nat → Int32} {f_maker : Nat → Int32} {f_fired : Nat → Int32} {f_firedCount : Int32} {f_needed : Nat → Int32} {f_module : Nat → Int32} {f_asked : Int32} {x1 : Int32} {x2 : Int32} {post : (Int → Int) → (Int → Int) → (Int → Int) → (Int → Int) → (Int → Int) → Int → Int → Prop} (hw : wpX52_go post f_classes.toInt f_axioms.toInt f_fuel.toInt (zF f_left) (zF f_other) (zF f_right) (zF f_there) (zF f_state) (zF f_placed) (zF f_looked) (zF f_fact) (zF f_maker) (zF f_fired) f_firedCount.toInt f_asked.toInt x1.toInt x2.toInt) :
    Met l yX52_go (ws_ yX52_go cX52_go 5 none) ({ frames := 5, cells := 0, slots := 0, locals := 115 } : Room) (kPc (dC, dI) cl (tX52 d) [.ref (ad 0), .int x1, .int x2] sz (wX52 ci ad d f_thrown f_classes f_things f_axioms f_fuel f_questions f_sorted f_left f_other f_right f_there f_member f_state f_before f_placed f_looked f_fact f_maker f_fired f_firedCount f_needed f_module f_asked)) (va_Qv (fun (u : (Nat → Int32) × (Nat → Int32) × (Nat → Int32) × (Nat → Int32) × (Nat → Int32) × Int32 × Int32) => post (zF (u.1)) (zF (u.2.1)) (zF (u.2.2.1)) (zF (u.2.2.2.1)) (zF (u.2.2.2.2.1)) (u.2.2.2.2.2.1).toInt (u.2.2.2.2.2.2).toInt) (kB (dC, dI) cl (tX52 d) (va_A (wX52 ci ad d f_thrown f_classes f_things f_axioms f_fuel f_questions f_sorted f_left f_other f_right f_there f_member f_state f_before f_placed f_looked f_fact f_maker f_fired f_firedCount f_needed f_module f_asked) sz) (fun u : (Nat → Int32) × (Nat → Int32) × (Nat → Int32) × (Nat → Int32) × (Nat → Int32) × Int32 × Int32 => (wX52 ci ad d f_thrown f_classes f_things f_axioms f_fuel f_questions f_sorted f_left f_other f_right f_there f_member (u.1) f_before f_placed (u.2.1) (u.2.2.1) (u.2.2.2.1) (u.2.2.2.2.1) (u.2.2.2.2.2.1) f_needed f_module (u.2.2.2.2.2.2)))) (va_A (wX52 ci ad d f_thrown f_classes f_things f_axioms f_fuel f_questions f_sorted f_left f_other f_right f_there f_member f_state f_before f_placed f_looked f_fact f_maker f_fired f_firedCount f_needed f_module f_asked) sz)) 0 0 (va_A (wX52 ci ad d f_thrown f_classes f_things f_axioms f_fuel f_questions f_sorted f_left f_other f_right f_there f_member f_state f_before f_placed f_looked f_fact f_maker f_fired f_firedCount f_needed f_module f_asked) sz) := by
  refine k_enter (by decide) (Nat.le_of_ble_eq_true rfl) ?_
  intro p e s m below meth c ls X hsz hH hl
  subst hsz
  generalize va_A (wX52 ci ad d f_thrown f_classes f_things f_axioms f_fuel f_questions f_sorted f_left f_other f_right f_there f_member f_state f_before f_placed f_looked f_fact f_maker f_fired f_firedCount f_needed f_module f_asked) s.heap.size = A at hH ⊢
  have hx := X.1.1
  have hb := X.1.2.1
  have hl : lv_has ls 5 [(0, .ref (ad 0)), (1, .int x1), (2, .int x2)] := hl
  unfold wpX52_go at hw
  refine lv_iconst (v := 0) hx hb dX52_go_0 (by decide) ?_
  refine lv_istore_n (lv' := [(3, .int 0), (0, .ref (ad 0)), (1, .int x1), (2, .int x2)]) hx hb dX52_go_1 rfl hl (by decide) rfl (fun ls hl => ?_)
  obtain ⟨fu, hw⟩ := hw
  refine atX52_go_2 hc X ?_ fu 0 f_looked hw _ _ ls hH (lv_sub hl [1, 2, 3, 0] rfl)
  · intro f_looked_6 hw H locs ls hH hl
    refine lv_aload_n hx hb dX52_go_21 rfl (lv_at hl 0 rfl) ?_
    refine lv_iload_n hx hb dX52_go_22 rfl (lv_at hl 1 rfl) ?_
    refine lv_iload_n hx hb dX52_go_23 rfl (lv_at hl 2 rfl) ?_
    refine k_i0 hH (k_runV (As := [.int x1, .int x2]) (rest := []) X hH.1 hH.2.1 X.2.2.2 (walkX52_nextFor hc (x1 := x1) (x2 := x2) (f_thrown := f_thrown) (f_classes := f_classes) (f_things := f_things) (f_axioms := f_axioms) (f_fuel := f_fuel) (f_questions := f_questions) (f_sorted := f_sorted) (f_left := f_left) (f_other := f_other) (f_right := f_right) (f_there := f_there) (f_member := f_member) (f_state := f_state) (f_before := f_before) (f_placed := f_placed) (f_looked := f_looked_6) (f_fact := f_fact) (f_maker := f_maker) (f_fired := f_fired) (f_firedCount := f_firedCount) (f_needed := f_needed) (f_module := f_module) (f_asked := f_asked) hw) (cwV 2 X.1.2.2.2.2 gX52_134 rfl rfl rfl hX52_nextFor ⟨Nat.le_of_ble_eq_true rfl, Nat.le_of_ble_eq_true rfl⟩) hc (q0 := 0) rfl rfl hl.1 rfl (Nat.le_of_ble_eq_true rfl) dX52_go_24 ⟨Nat.le_refl 0, Nat.le_refl 0⟩) (fun r_7 _ H locs hw hH => ?_)
    have hH : kH (dC, dI) cl A s.heap H locs (wX52 ci ad d f_thrown f_classes f_things f_axioms f_fuel f_questions f_sorted f_left f_other f_right f_there f_member f_state f_before f_placed f_looked_6 f_fact f_maker f_fired f_firedCount f_needed f_module f_asked) := hH
    refine lv_istore_n (lv' := [(3, .int r_7), (0, .ref (ad 0)), (1, .int x1), (2, .int x2)]) hx hb dX52_go_27 rfl hl (by decide) rfl (fun ls hl => ?_)
    obtain ⟨fu, hw⟩ := hw
    refine atX52_go_28 hc X ?_ fu r_7 f_state f_looked_6 f_fact f_maker f_fired f_firedCount f_asked hw _ _ ls hH (lv_sub hl [1, 2, 3, 0] rfl)
    · intro f_state_28 f_looked_29 f_fact_30 f_maker_31 f_fired_32 f_firedCount_33 f_asked_34 hw H locs ls hH hl
      exact k_vret X hH (f_state_28, f_looked_29, f_fact_30, f_maker_31, f_fired_32, f_firedCount_33, f_asked_34) hw rfl dX52_go_70
set_option maxHeartbeats 4000000 in
theorem atX52_run_7 {p : Program} {l : Launch} {e : Env} {s : State} {m : MethodId} {args : Array Value} {below : List Frame} {meth : Method} {c : Code} {dC : Nat → ClassId} {dI : Nat → Nat → Nat} {cl : List vw_C} {ci : Nat} (hc : cl[ci]? = some (RX52, TX52, 23)) {ad : Nat → Nat} {d : Nat → ClassId} {A : Nat → Prop} {post : Int → Int → Int → (Int → Int) → (Int → Int) → (Int → Int) → (Int → Int) → (Int → Int) → (Int → Int) → Int → Int → Prop} {f_thrown : Int32} {f_classes : Int32} {f_things : Int32} {f_axioms : Int32} {f_fuel : Int32} {f_left : Nat → Int32} {f_other : Nat → Int32} {f_right : Nat → Int32} {f_there : Nat → Int32} {f_member : Nat → Int32} {f_before : Nat → Int32} {f_needed : Nat → Int32} {f_module : Nat → Int32} (X : kX p s m args meth c cX52_run 2 RX52 (some .int) (dC, dI) cl (tX52 d)) {K26 : (Int → Int) → Prop}  {f_questions : Int32} {f_sorted : Int32} {f_state : Nat → Int32} {f_looked : Nat → Int32} {f_fact : Nat → Int32} {f_maker : Nat → Int32} {f_fired : Nat → Int32} {f_firedCount : Int32} {f_asked : Int32} (hk26 : ∀ (f_placed : Nat → Int32), K26 (zF f_placed) → ∀ (H : Heap) (locs : List Loc) (ls : Array Slot), kH (dC, dI) cl A s.heap H locs (wX52 ci ad d f_thrown f_classes f_things f_axioms f_fuel f_questions f_sorted f_left f_other f_right f_there f_member f_state f_before f_placed f_looked f_fact f_maker f_fired f_firedCount f_needed f_module f_asked) → lv_has ls 2 [(0, .ref (ad 0))] → W p l e ({ frames := 6, cells := 0, slots := 0, locals := 139 } : Room) s m args below meth c H locs 0 0 (MQ below (va_Qi (fun (r : Int32) (u : Int32 × Int32 × (Nat → Int32) × (Nat → Int32) × (Nat → Int32) × (Nat → Int32) × (Nat → Int32) × (Nat → Int32) × Int32 × Int32) => post r.toInt (u.1).toInt (u.2.1).toInt (zF (u.2.2.1)) (zF (u.2.2.2.1)) (zF (u.2.2.2.2.1)) (zF (u.2.2.2.2.2.1)) (zF (u.2.2.2.2.2.2.1)) (zF (u.2.2.2.2.2.2.2.1)) (u.2.2.2.2.2.2.2.2.1).toInt (u.2.2.2.2.2.2.2.2.2).toInt) (kB (dC, dI) cl (tX52 d) A (fun u : Int32 × Int32 × (Nat → Int32) × (Nat → Int32) × (Nat → Int32) × (Nat → Int32) × (Nat → Int32) × (Nat → Int32) × Int32 × Int32 => (wX52 ci ad d f_thrown f_classes f_things f_axioms f_fuel (u.1) (u.2.1) f_left f_other f_right f_there f_member (u.2.2.1) f_before (u.2.2.2.1) (u.2.2.2.2.1) (u.2.2.2.2.2.1) (u.2.2.2.2.2.2.1) (u.2.2.2.2.2.2.2.1) (u.2.2.2.2.2.2.2.2.1) f_needed f_module (u.2.2.2.2.2.2.2.2.2)))) A) args s 0 0 A) (F0 m 26 ls [])) :
    ∀ (nn : Nat) (x1 : Int32) (f_placed : Nat → Int32), wX52_run_7 K26 nn x1.toInt (zF f_placed) → ∀ (H : Heap) (locs : List Loc) (ls : Array Slot), kH (dC, dI) cl A s.heap H locs (wX52 ci ad d f_thrown f_classes f_things f_axioms f_fuel f_questions f_sorted f_left f_other f_right f_there f_member f_state f_before f_placed f_looked f_fact f_maker f_fired f_firedCount f_needed f_module f_asked) → lv_has ls 2 [(0, .ref (ad 0)), (1, .int x1)] → W p l e ({ frames := 6, cells := 0, slots := 0, locals := 139 } : Room) s m args below meth c H locs 0 0 (MQ below (va_Qi (fun (r : Int32) (u : Int32 × Int32 × (Nat → Int32) × (Nat → Int32) × (Nat → Int32) × (Nat → Int32) × (Nat → Int32) × (Nat → Int32) × Int32 × Int32) => post r.toInt (u.1).toInt (u.2.1).toInt (zF (u.2.2.1)) (zF (u.2.2.2.1)) (zF (u.2.2.2.2.1)) (zF (u.2.2.2.2.2.1)) (zF (u.2.2.2.2.2.2.1)) (zF (u.2.2.2.2.2.2.2.1)) (u.2.2.2.2.2.2.2.2.1).toInt (u.2.2.2.2.2.2.2.2.2).toInt) (kB (dC, dI) cl (tX52 d) A (fun u : Int32 × Int32 × (Nat → Int32) × (Nat → Int32) × (Nat → Int32) × (Nat → Int32) × (Nat → Int32) × (Nat → Int32) × Int32 × Int32 => (wX52 ci ad d f_thrown f_classes f_things f_axioms f_fuel (u.1) (u.2.1) f_left f_other f_right f_there f_member (u.2.2.1) f_before (u.2.2.2.1) (u.2.2.2.2.1) (u.2.2.2.2.2.1) (u.2.2.2.2.2.2.1) (u.2.2.2.2.2.2.2.1) (u.2.2.2.2.2.2.2.2.1) f_needed f_module (u.2.2.2.2.2.2.2.2.2)))) A) args s 0 0 A) (F0 m 7 ls []) := by
  have hx := X.1.1
  have hb := X.1.2.1
  intro nn
  induction nn with
  | zero =>
    intro x1 f_placed hw
    exact False.elim hw
  | succ n ih =>
    intro x1 f_placed hw H locs ls hH hl
    rw [wX52_run_7] at hw
    refine lv_iload_n hx hb dX52_run_7 rfl (lv_at hl 1 rfl) ?_
    refine lv_bipush (v := 20) hx hb dX52_run_8 (by decide) ?_
    refine lv_icmp_ge (tgt := 26) hx hb dX52_run_10 (by decide) (fun c_1 => ?_) (fun c_1 => ?_)
    · have hw := hw.1 (z_le (rfl : (20 : Int32).toInt = 20) (rfl : x1.toInt = _) c_1)
      exact hk26 f_placed hw _ _ ls hH (lv_sub hl [0] rfl)
    · have hw := hw.2 (z_nle (rfl : (20 : Int32).toInt = 20) (rfl : x1.toInt = _) c_1)
      refine lv_aload_n hx hb dX52_run_13 rfl (lv_at hl 0 rfl) ?_
      refine k_get X hH in_X52 0 rfl hc 14 (by decide) q6395 rfl dX52_run_14 ?_
      refine lv_iload_n hx hb dX52_run_17 rfl (lv_at hl 1 rfl) ?_
      refine lv_iconst (v := 0) hx hb dX52_run_18 (by decide) ?_
      have hq_3 := hw.1
      have hw := hw.2
      obtain ⟨f_placed_2, ef_placed_2⟩ : ∃ y : Nat → Int32, y = upd f_placed x1.toNatClampNeg (vp_nar .boolean 0) := ⟨_, rfl⟩
      refine k_zast X hH 8 7 rfl rfl (z_in (rfl : x1.toInt = _) hq_3) dX52_run_19 ef_placed_2 (ws1 := (wX52 ci ad d f_thrown f_classes f_things f_axioms f_fuel f_questions f_sorted f_left f_other f_right f_there f_member f_state f_before f_placed_2 f_looked f_fact f_maker f_fired f_firedCount f_needed f_module f_asked)) rfl (fun H locs hH => ?_)
      have hw := hw (zF f_placed_2) (by rw [ef_placed_2]; exact z_st (f := f_placed) (rfl : x1.toInt = _) hq_3.1 (z_narZ (rfl : (0 : Int32).toInt = 0) (by decide)))
      have hq_5 := hw.1
      have hw := hw.2
      obtain ⟨x1_4, ex1_4⟩ : ∃ y : Int32, y = x1 + 1 := ⟨_, rfl⟩
      have hw := hw x1_4.toInt (by rw [ex1_4]; exact (z_x (z_add (z_m (rfl : x1.toInt = _)) (z_m (rfl : (1 : Int32).toInt = 1))) hq_5))
      refine lv_iinc (v := x1_4) (lv' := [(1, .int x1_4), (0, .ref (ad 0))]) hx hb dX52_run_20 hl (k := 1) rfl (by rw [ex1_4]; rfl) (by decide) rfl (fun ls hl => ?_)
      refine lv_goto (tgt := 7) hx hb dX52_run_23 (by decide) ?_
      exact ih x1_4 f_placed_2 hw _ _ ls hH (lv_sub hl [1, 0] rfl)
set_option maxHeartbeats 4000000 in
theorem atX52_run_28 {p : Program} {l : Launch} {e : Env} {s : State} {m : MethodId} {args : Array Value} {below : List Frame} {meth : Method} {c : Code} {dC : Nat → ClassId} {dI : Nat → Nat → Nat} {cl : List vw_C} {ci : Nat} (hc : cl[ci]? = some (RX52, TX52, 23)) {ad : Nat → Nat} {d : Nat → ClassId} {A : Nat → Prop} {post : Int → Int → Int → (Int → Int) → (Int → Int) → (Int → Int) → (Int → Int) → (Int → Int) → (Int → Int) → Int → Int → Prop} {f_thrown : Int32} {f_classes : Int32} {f_things : Int32} {f_axioms : Int32} {f_fuel : Int32} {f_left : Nat → Int32} {f_other : Nat → Int32} {f_right : Nat → Int32} {f_there : Nat → Int32} {f_member : Nat → Int32} {f_before : Nat → Int32} {f_needed : Nat → Int32} {f_module : Nat → Int32} (X : kX p s m args meth c cX52_run 2 RX52 (some .int) (dC, dI) cl (tX52 d)) {K71 : (Int → Int) → (Int → Int) → (Int → Int) → (Int → Int) → (Int → Int) → (Int → Int) → Int → Int → Prop}  {f_questions : Int32} {f_sorted : Int32} (hk71 : ∀ (f_state : Nat → Int32) (f_placed : Nat → Int32) (f_looked : Nat → Int32) (f_fact : Nat → Int32) (f_maker : Nat → Int32) (f_fired : Nat → Int32) (f_firedCount : Int32) (f_asked : Int32), K71 (zF f_state) (zF f_placed) (zF f_looked) (zF f_fact) (zF f_maker) (zF f_fired) f_firedCount.toInt f_asked.toInt → ∀ (H : Heap) (locs : List Loc) (ls : Array Slot), kH (dC, dI) cl A s.heap H locs (wX52 ci ad d f_thrown f_classes f_things f_axioms f_fuel f_questions f_sorted f_left f_other f_right f_there f_member f_state f_before f_placed f_looked f_fact f_maker f_fired f_firedCount f_needed f_module f_asked) → lv_has ls 2 [(0, .ref (ad 0))] → W p l e ({ frames := 6, cells := 0, slots := 0, locals := 139 } : Room) s m args below meth c H locs 0 0 (MQ below (va_Qi (fun (r : Int32) (u : Int32 × Int32 × (Nat → Int32) × (Nat → Int32) × (Nat → Int32) × (Nat → Int32) × (Nat → Int32) × (Nat → Int32) × Int32 × Int32) => post r.toInt (u.1).toInt (u.2.1).toInt (zF (u.2.2.1)) (zF (u.2.2.2.1)) (zF (u.2.2.2.2.1)) (zF (u.2.2.2.2.2.1)) (zF (u.2.2.2.2.2.2.1)) (zF (u.2.2.2.2.2.2.2.1)) (u.2.2.2.2.2.2.2.2.1).toInt (u.2.2.2.2.2.2.2.2.2).toInt) (kB (dC, dI) cl (tX52 d) A (fun u : Int32 × Int32 × (Nat → Int32) × (Nat → Int32) × (Nat → Int32) × (Nat → Int32) × (Nat → Int32) × (Nat → Int32) × Int32 × Int32 => (wX52 ci ad d f_thrown f_classes f_things f_axioms f_fuel (u.1) (u.2.1) f_left f_other f_right f_there f_member (u.2.2.1) f_before (u.2.2.2.1) (u.2.2.2.2.1) (u.2.2.2.2.2.1) (u.2.2.2.2.2.2.1) (u.2.2.2.2.2.2.2.1) (u.2.2.2.2.2.2.2.2.1) f_needed f_module (u.2.2.2.2.2.2.2.2.2)))) A) args s 0 0 A) (F0 m 71 ls [])) :
    ∀ (nn : Nat) (x1 : Int32) (f_state : Nat → Int32) (f_placed : Nat → Int32) (f_looked : Nat → Int32) (f_fact : Nat → Int32) (f_maker : Nat → Int32) (f_fired : Nat → Int32) (f_firedCount : Int32) (f_asked : Int32), wX52_run_28 K71 f_classes.toInt f_axioms.toInt f_fuel.toInt (zF f_left) (zF f_other) (zF f_right) (zF f_there) nn x1.toInt (zF f_state) (zF f_placed) (zF f_looked) (zF f_fact) (zF f_maker) (zF f_fired) f_firedCount.toInt f_asked.toInt → ∀ (H : Heap) (locs : List Loc) (ls : Array Slot), kH (dC, dI) cl A s.heap H locs (wX52 ci ad d f_thrown f_classes f_things f_axioms f_fuel f_questions f_sorted f_left f_other f_right f_there f_member f_state f_before f_placed f_looked f_fact f_maker f_fired f_firedCount f_needed f_module f_asked) → lv_has ls 2 [(0, .ref (ad 0)), (1, .int x1)] → W p l e ({ frames := 6, cells := 0, slots := 0, locals := 139 } : Room) s m args below meth c H locs 0 0 (MQ below (va_Qi (fun (r : Int32) (u : Int32 × Int32 × (Nat → Int32) × (Nat → Int32) × (Nat → Int32) × (Nat → Int32) × (Nat → Int32) × (Nat → Int32) × Int32 × Int32) => post r.toInt (u.1).toInt (u.2.1).toInt (zF (u.2.2.1)) (zF (u.2.2.2.1)) (zF (u.2.2.2.2.1)) (zF (u.2.2.2.2.2.1)) (zF (u.2.2.2.2.2.2.1)) (zF (u.2.2.2.2.2.2.2.1)) (u.2.2.2.2.2.2.2.2.1).toInt (u.2.2.2.2.2.2.2.2.2).toInt) (kB (dC, dI) cl (tX52 d) A (fun u : Int32 × Int32 × (Nat → Int32) × (Nat → Int32) × (Nat → Int32) × (Nat → Int32) × (Nat → Int32) × (Nat → Int32) × Int32 × Int32 => (wX52 ci ad d f_thrown f_classes f_things f_axioms f_fuel (u.1) (u.2.1) f_left f_other f_right f_there f_member (u.2.2.1) f_before (u.2.2.2.1) (u.2.2.2.2.1) (u.2.2.2.2.2.1) (u.2.2.2.2.2.2.1) (u.2.2.2.2.2.2.2.1) (u.2.2.2.2.2.2.2.2.1) f_needed f_module (u.2.2.2.2.2.2.2.2.2)))) A) args s 0 0 A) (F0 m 28 ls []) := by
  have hx := X.1.1
  have hb := X.1.2.1
  intro nn
  induction nn with
  | zero =>
    intro x1 f_state f_placed f_looked f_fact f_maker f_fired f_firedCount f_asked hw
    exact False.elim hw
  | succ n ih =>
    intro x1 f_state f_placed f_looked f_fact f_maker f_fired f_firedCount f_asked hw H locs ls hH hl
    rw [wX52_run_28] at hw
    refine lv_iload_n hx hb dX52_run_28 rfl (lv_at hl 1 rfl) ?_
    refine lv_aload_n hx hb dX52_run_29 rfl (lv_at hl 0 rfl) ?_
    refine k_get X hH in_X52 0 rfl hc 1 (by decide) q6382 rfl dX52_run_30 ?_
    refine lv_icmp_ge (tgt := 71) hx hb dX52_run_33 (by decide) (fun c_7 => ?_) (fun c_7 => ?_)
    · have hw := hw.1 (z_le (rfl : f_classes.toInt = _) (rfl : x1.toInt = _) c_7)
      exact hk71 f_state f_placed f_looked f_fact f_maker f_fired f_firedCount f_asked hw _ _ ls hH (lv_sub hl [0] rfl)
    · have hw := hw.2 (z_nle (rfl : f_classes.toInt = _) (rfl : x1.toInt = _) c_7)
      refine lv_aload_n hx hb dX52_run_36 rfl (lv_at hl 0 rfl) ?_
      refine lv_iload_n hx hb dX52_run_37 rfl (lv_at hl 1 rfl) ?_
      refine lv_bipush (v := 20) hx hb dX52_run_38 (by decide) ?_
      refine k_i0 hH (k_runV (As := [.int x1, .int 20]) (rest := []) X hH.1 hH.2.1 X.2.2.2 (walkX52_look hc (x1 := x1) (x2 := 20) (f_thrown := f_thrown) (f_classes := f_classes) (f_things := f_things) (f_axioms := f_axioms) (f_fuel := f_fuel) (f_questions := f_questions) (f_sorted := f_sorted) (f_left := f_left) (f_other := f_other) (f_right := f_right) (f_there := f_there) (f_member := f_member) (f_state := f_state) (f_before := f_before) (f_placed := f_placed) (f_looked := f_looked) (f_fact := f_fact) (f_maker := f_maker) (f_fired := f_fired) (f_firedCount := f_firedCount) (f_needed := f_needed) (f_module := f_module) (f_asked := f_asked) hw) (cwV 2 X.1.2.2.2.2 gX52_138 rfl rfl rfl hX52_look ⟨Nat.le_of_ble_eq_true rfl, Nat.le_of_ble_eq_true rfl⟩) hc (q0 := 0) rfl rfl hl.1 rfl (Nat.le_of_ble_eq_true rfl) dX52_run_40 ⟨Nat.le_refl 0, Nat.le_refl 0⟩) (fun r_8 u H locs hw hH => ?_)
      obtain ⟨f_state_9, f_fact_10, f_maker_11, f_fired_12, f_firedCount_13, f_asked_14⟩ := u
      have hH : kH (dC, dI) cl A s.heap H locs (wX52 ci ad d f_thrown f_classes f_things f_axioms f_fuel f_questions f_sorted f_left f_other f_right f_there f_member f_state_9 f_before f_placed f_looked f_fact_10 f_maker_11 f_fired_12 f_firedCount_13 f_needed f_module f_asked_14) := hH
      refine lv_if_ne (tgt := 65) hx hb dX52_run_43 (by decide) (fun c_15 => ?_) (fun c_15 => ?_)
      · have hw := hw.2 (z_ne (rfl : r_8.toInt = _) (rfl : (0 : Int32).toInt = 0) c_15)
        have hq_17 := hw.1
        have hw := hw.2
        obtain ⟨x1_16, ex1_16⟩ : ∃ y : Int32, y = x1 + 1 := ⟨_, rfl⟩
        have hw := hw x1_16.toInt (by rw [ex1_16]; exact (z_x (z_add (z_m (rfl : x1.toInt = _)) (z_m (rfl : (1 : Int32).toInt = 1))) hq_17))
        refine lv_iinc (v := x1_16) (lv' := [(1, .int x1_16), (0, .ref (ad 0))]) hx hb dX52_run_65 hl (k := 1) rfl (by rw [ex1_16]; rfl) (by decide) rfl (fun ls hl => ?_)
        refine lv_goto (tgt := 28) hx hb dX52_run_68 (by decide) ?_
        exact ih x1_16 f_state_9 f_placed f_looked f_fact_10 f_maker_11 f_fired_12 f_firedCount_13 f_asked_14 hw _ _ ls hH (lv_sub hl [1, 0] rfl)
      · have hw := hw.1 (z_eq (rfl : r_8.toInt = _) (rfl : (0 : Int32).toInt = 0) c_15)
        refine lv_aload_n hx hb dX52_run_46 rfl (lv_at hl 0 rfl) ?_
        refine lv_iload_n hx hb dX52_run_47 rfl (lv_at hl 1 rfl) ?_
        refine lv_iconst (v := 1) hx hb dX52_run_48 (by decide) ?_
        refine k_v0 hH (k_runV (As := [.int x1, .int 1]) (rest := []) X hH.1 hH.2.1 X.2.2.2 (walkX52_go hc (x1 := x1) (x2 := 1) (f_thrown := f_thrown) (f_classes := f_classes) (f_things := f_things) (f_axioms := f_axioms) (f_fuel := f_fuel) (f_questions := f_questions) (f_sorted := f_sorted) (f_left := f_left) (f_other := f_other) (f_right := f_right) (f_there := f_there) (f_member := f_member) (f_state := f_state_9) (f_before := f_before) (f_placed := f_placed) (f_looked := f_looked) (f_fact := f_fact_10) (f_maker := f_maker_11) (f_fired := f_fired_12) (f_firedCount := f_firedCount_13) (f_needed := f_needed) (f_module := f_module) (f_asked := f_asked_14) hw) (cwV 2 X.1.2.2.2.2 gX52_141 rfl rfl rfl hX52_go ⟨Nat.le_of_ble_eq_true rfl, Nat.le_of_ble_eq_true rfl⟩) hc (q0 := 0) rfl rfl hl.1 rfl (Nat.le_of_ble_eq_true rfl) dX52_run_49 ⟨Nat.le_refl 0, Nat.le_refl 0⟩) (fun u H locs hw hH => ?_)
        obtain ⟨f_state_18, f_looked_19, f_fact_20, f_maker_21, f_fired_22, f_firedCount_23, f_asked_24⟩ := u
        have hH : kH (dC, dI) cl A s.heap H locs (wX52 ci ad d f_thrown f_classes f_things f_axioms f_fuel f_questions f_sorted f_left f_other f_right f_there f_member f_state_18 f_before f_placed f_looked_19 f_fact_20 f_maker_21 f_fired_22 f_firedCount_23 f_needed f_module f_asked_24) := hH
        refine lv_aload_n hx hb dX52_run_52 rfl (lv_at hl 0 rfl) ?_
        refine lv_iload_n hx hb dX52_run_53 rfl (lv_at hl 1 rfl) ?_
        refine lv_iconst (v := 0) hx hb dX52_run_54 (by decide) ?_
        refine k_v0 hH (k_runV (As := [.int x1, .int 0]) (rest := []) X hH.1 hH.2.1 X.2.2.2 (walkX52_go hc (x1 := x1) (x2 := 0) (f_thrown := f_thrown) (f_classes := f_classes) (f_things := f_things) (f_axioms := f_axioms) (f_fuel := f_fuel) (f_questions := f_questions) (f_sorted := f_sorted) (f_left := f_left) (f_other := f_other) (f_right := f_right) (f_there := f_there) (f_member := f_member) (f_state := f_state_18) (f_before := f_before) (f_placed := f_placed) (f_looked := f_looked_19) (f_fact := f_fact_20) (f_maker := f_maker_21) (f_fired := f_fired_22) (f_firedCount := f_firedCount_23) (f_needed := f_needed) (f_module := f_module) (f_asked := f_asked_24) hw) (cwV 2 X.1.2.2.2.2 gX52_141 rfl rfl rfl hX52_go ⟨Nat.le_of_ble_eq_true rfl, Nat.le_of_ble_eq_true rfl⟩) hc (q0 := 0) rfl rfl hl.1 rfl (Nat.le_of_ble_eq_true rfl) dX52_run_55 ⟨Nat.le_refl 0, Nat.le_refl 0⟩) (fun u H locs hw hH => ?_)
        obtain ⟨f_state_25, f_looked_26, f_fact_27, f_maker_28, f_fired_29, f_firedCount_30, f_asked_31⟩ := u
        have hH : kH (dC, dI) cl A s.heap H locs (wX52 ci ad d f_thrown f_classes f_things f_axioms f_fuel f_questions f_sorted f_left f_other f_right f_there f_member f_state_25 f_before f_placed f_looked_26 f_fact_27 f_maker_28 f_fired_29 f_firedCount_30 f_needed f_module f_asked_31) := hH
        refine lv_aload_n hx hb dX52_run_58 rfl (lv_at hl 0 rfl) ?_
        refine k_get X hH in_X52 0 rfl hc 14 (by decide) q6395 rfl dX52_run_59 ?_
        refine lv_iload_n hx hb dX52_run_62 rfl (lv_at hl 1 rfl) ?_
        refine lv_iconst (v := 1) hx hb dX52_run_63 (by decide) ?_
        have hq_33 := hw.1
        have hw := hw.2
        obtain ⟨f_placed_32, ef_placed_32⟩ : ∃ y : Nat → Int32, y = upd f_placed x1.toNatClampNeg (vp_nar .boolean 1) := ⟨_, rfl⟩
        refine k_zast X hH 8 7 rfl rfl (z_in (rfl : x1.toInt = _) hq_33) dX52_run_64 ef_placed_32 (ws1 := (wX52 ci ad d f_thrown f_classes f_things f_axioms f_fuel f_questions f_sorted f_left f_other f_right f_there f_member f_state_25 f_before f_placed_32 f_looked_26 f_fact_27 f_maker_28 f_fired_29 f_firedCount_30 f_needed f_module f_asked_31)) rfl (fun H locs hH => ?_)
        have hw := hw (zF f_placed_32) (by rw [ef_placed_32]; exact z_st (f := f_placed) (rfl : x1.toInt = _) hq_33.1 (z_narZ (rfl : (1 : Int32).toInt = 1) (by decide)))
        have hq_35 := hw.1
        have hw := hw.2
        obtain ⟨x1_34, ex1_34⟩ : ∃ y : Int32, y = x1 + 1 := ⟨_, rfl⟩
        have hw := hw x1_34.toInt (by rw [ex1_34]; exact (z_x (z_add (z_m (rfl : x1.toInt = _)) (z_m (rfl : (1 : Int32).toInt = 1))) hq_35))
        refine lv_iinc (v := x1_34) (lv' := [(1, .int x1_34), (0, .ref (ad 0))]) hx hb dX52_run_65 hl (k := 1) rfl (by rw [ex1_34]; rfl) (by decide) rfl (fun ls hl => ?_)
        refine lv_goto (tgt := 28) hx hb dX52_run_68 (by decide) ?_
        exact ih x1_34 f_state_25 f_placed_32 f_looked_26 f_fact_27 f_maker_28 f_fired_29 f_firedCount_30 f_asked_31 hw _ _ ls hH (lv_sub hl [1, 0] rfl)
set_option maxHeartbeats 4000000 in
theorem walkX52_run {l : Launch} {dC : Nat → ClassId} {dI : Nat → Nat → Nat} {cl : List vw_C} {ci : Nat} (hc : cl[ci]? = some (RX52, TX52, 23)) {ad : Nat → Nat} {d : Nat → ClassId} {sz : Nat} {f_thrown : Int32} {f_classes : Int32} {f_things : Int32} {f_axioms : Int32} {f_fuel : Int32} {f_questions : Int32} {f_sorted : Int32} {f_left : Nat → Int32} {f_other : Nat → Int32} {f_right : Nat → Int32} {f_there : Nat → Int32} {f_member : Nat → Int32} {f_state : Nat → Int32} {f_before : Nat → Int32} {f_placed : Nat → Int32} {f_looked : Nat → Int32} {f_fact : Nat → Int32} {f_maker : Nat → Int32} {f_fired : Nat → Int32} {f_firedCount : Int32} {f_needed : Nat → Int32} {f_module : Nat → Int32} {f_asked : Int32}  {post : Int → Int → Int → (Int → Int) → (Int → Int) → (Int → Int) → (Int → Int) → (Int → Int) → (Int → Int) → Int → Int → Prop} (hw : wpX52_run post f_classes.toInt f_axioms.toInt f_fuel.toInt f_questions.toInt (zF f_left) (zF f_other) (zF f_right) (zF f_there) (zF f_state) (zF f_placed) (zF f_looked) (zF f_fact) (zF f_maker) (zF f_fired) f_firedCount.toInt ) :
    Met l yX52_run (ws_ yX52_run cX52_run 2 (some .int)) ({ frames := 6, cells := 0, slots := 0, locals := 139 } : Room) (kPc (dC, dI) cl (tX52 d) [.ref (ad 0)] sz (wX52 ci ad d f_thrown f_classes f_things f_axioms f_fuel f_questions f_sorted f_left f_other f_right f_there f_member f_state f_before f_placed f_looked f_fact f_maker f_fired f_firedCount f_needed f_module f_asked)) (va_Qi (fun (r : Int32) (u : Int32 × Int32 × (Nat → Int32) × (Nat → Int32) × (Nat → Int32) × (Nat → Int32) × (Nat → Int32) × (Nat → Int32) × Int32 × Int32) => post r.toInt (u.1).toInt (u.2.1).toInt (zF (u.2.2.1)) (zF (u.2.2.2.1)) (zF (u.2.2.2.2.1)) (zF (u.2.2.2.2.2.1)) (zF (u.2.2.2.2.2.2.1)) (zF (u.2.2.2.2.2.2.2.1)) (u.2.2.2.2.2.2.2.2.1).toInt (u.2.2.2.2.2.2.2.2.2).toInt) (kB (dC, dI) cl (tX52 d) (va_A (wX52 ci ad d f_thrown f_classes f_things f_axioms f_fuel f_questions f_sorted f_left f_other f_right f_there f_member f_state f_before f_placed f_looked f_fact f_maker f_fired f_firedCount f_needed f_module f_asked) sz) (fun u : Int32 × Int32 × (Nat → Int32) × (Nat → Int32) × (Nat → Int32) × (Nat → Int32) × (Nat → Int32) × (Nat → Int32) × Int32 × Int32 => (wX52 ci ad d f_thrown f_classes f_things f_axioms f_fuel (u.1) (u.2.1) f_left f_other f_right f_there f_member (u.2.2.1) f_before (u.2.2.2.1) (u.2.2.2.2.1) (u.2.2.2.2.2.1) (u.2.2.2.2.2.2.1) (u.2.2.2.2.2.2.2.1) (u.2.2.2.2.2.2.2.2.1) f_needed f_module (u.2.2.2.2.2.2.2.2.2)))) (va_A (wX52 ci ad d f_thrown f_classes f_things f_axioms f_fuel f_questions f_sorted f_left f_other f_right f_there f_member f_state f_before f_placed f_looked f_fact f_maker f_fired f_firedCount f_needed f_module f_asked) sz)) 0 0 (va_A (wX52 ci ad d f_thrown f_classes f_things f_axioms f_fuel f_questions f_sorted f_left f_other f_right f_there f_member f_state f_before f_placed f_looked f_fact f_maker f_fired f_firedCount f_needed f_module f_asked) sz) := by
  refine k_enter (by decide) (Nat.le_of_ble_eq_true rfl) ?_
  intro p e s m below meth c ls X hsz hH hl
  subst hsz
  generalize va_A (wX52 ci ad d f_thrown f_classes f_things f_axioms f_fuel f_questions f_sorted f_left f_other f_right f_there f_member f_state f_before f_placed f_looked f_fact f_maker f_fired f_firedCount f_needed f_module f_asked) s.heap.size = A at hH ⊢
  have hx := X.1.1
  have hb := X.1.2.1
  have hl : lv_has ls 2 [(0, .ref (ad 0))] := hl
  unfold wpX52_run at hw
  refine lv_aload_n hx hb dX52_run_0 rfl (lv_at hl 0 rfl) ?_
  refine lv_iconst (v := 0) hx hb dX52_run_1 (by decide) ?_
  refine k_put X hH in_X52 tyX52_ok nmX52 0 rfl hc 22 (by decide) q6403 rfl (ty := .int) rfl rfl rfl (Nat.le_of_ble_eq_true rfl) dX52_run_2 (ws1 := (wX52 ci ad d f_thrown f_classes f_things f_axioms f_fuel f_questions f_sorted f_left f_other f_right f_there f_member f_state f_before f_placed f_looked f_fact f_maker f_fired f_firedCount f_needed f_module 0)) rfl (fun H locs hH => ?_)
  refine lv_iconst (v := 0) hx hb dX52_run_5 (by decide) ?_
  refine lv_istore_n (lv' := [(1, .int 0), (0, .ref (ad 0))]) hx hb dX52_run_6 rfl hl (by decide) rfl (fun ls hl => ?_)
  obtain ⟨fu, hw⟩ := hw
  refine atX52_run_7 hc X ?_ fu 0 f_placed hw _ _ ls hH (lv_sub hl [1, 0] rfl)
  · intro f_placed_6 hw H locs ls hH hl
    refine lv_iconst (v := 0) hx hb dX52_run_26 (by decide) ?_
    refine lv_istore_n (lv' := [(1, .int 0), (0, .ref (ad 0))]) hx hb dX52_run_27 rfl hl (by decide) rfl (fun ls hl => ?_)
    obtain ⟨fu, hw⟩ := hw
    refine atX52_run_28 hc X ?_ fu 0 f_state f_placed_6 f_looked f_fact f_maker f_fired f_firedCount 0 hw _ _ ls hH (lv_sub hl [1, 0] rfl)
    · intro f_state_36 f_placed_37 f_looked_38 f_fact_39 f_maker_40 f_fired_41 f_firedCount_42 f_asked_43 hw H locs ls hH hl
      refine lv_aload_n hx hb dX52_run_71 rfl (lv_at hl 0 rfl) ?_
      refine lv_iconst (v := 1) hx hb dX52_run_72 (by decide) ?_
      refine k_put X hH in_X52 tyX52_ok nmX52 0 rfl hc 6 (by decide) q6387 rfl (ty := .boolean) rfl rfl rfl (Nat.le_of_ble_eq_true rfl) dX52_run_73 (ws1 := (wX52 ci ad d f_thrown f_classes f_things f_axioms f_fuel f_questions 1 f_left f_other f_right f_there f_member f_state_36 f_before f_placed_37 f_looked_38 f_fact_39 f_maker_40 f_fired_41 f_firedCount_42 f_needed f_module f_asked_43)) rfl (fun H locs hH => ?_)
      refine lv_aload_n hx hb dX52_run_76 rfl (lv_at hl 0 rfl) ?_
      refine lv_dup hx hb dX52_run_77 rfl ?_
      refine k_get X hH in_X52 0 rfl hc 5 (by decide) q6386 rfl dX52_run_78 ?_
      refine lv_aload_n hx hb dX52_run_81 rfl (lv_at hl 0 rfl) ?_
      refine k_get X hH in_X52 0 rfl hc 22 (by decide) q6403 rfl dX52_run_82 ?_
      refine lv_iadd hx hb dX52_run_85 ?_
      have e_44 := z_add (z_m (rfl : f_questions.toInt = _)) (z_m (rfl : f_asked_43.toInt = _))
      have hq_45 := hw.1
      have hw := hw.2
      have e_46 := z_x e_44 hq_45
      refine lv_topi (fun f_questions_47 ef_questions_47 => ?_)
      have hw := hw f_questions_47.toInt (by rw [ef_questions_47]; exact e_46)
      refine k_put X hH in_X52 tyX52_ok nmX52 0 rfl hc 5 (by decide) q6386 rfl (ty := .int) rfl rfl rfl (Nat.le_of_ble_eq_true rfl) dX52_run_86 (ws1 := (wX52 ci ad d f_thrown f_classes f_things f_axioms f_fuel f_questions_47 1 f_left f_other f_right f_there f_member f_state_36 f_before f_placed_37 f_looked_38 f_fact_39 f_maker_40 f_fired_41 f_firedCount_42 f_needed f_module f_asked_43)) rfl (fun H locs hH => ?_)
      refine lv_aload_n hx hb dX52_run_89 rfl (lv_at hl 0 rfl) ?_
      refine k_get X hH in_X52 0 rfl hc 22 (by decide) q6403 rfl dX52_run_90 ?_
      exact k_iret (v := f_asked_43) X hH (f_questions_47, 1, f_state_36, f_placed_37, f_looked_38, f_fact_39, f_maker_40, f_fired_41, f_firedCount_42, f_asked_43) hw rfl rfl dX52_run_93
set_option maxHeartbeats 4000000 in
theorem atX52_openPairs_4 {p : Program} {l : Launch} {e : Env} {s : State} {m : MethodId} {args : Array Value} {below : List Frame} {meth : Method} {c : Code} {dC : Nat → ClassId} {dI : Nat → Nat → Nat} {cl : List vw_C} {ci : Nat} (hc : cl[ci]? = some (RX52, TX52, 23)) {ad : Nat → Nat} {d : Nat → ClassId} {A : Nat → Prop} {post : Int → Prop} {f_thrown : Int32} {f_classes : Int32} {f_things : Int32} {f_axioms : Int32} {f_fuel : Int32} {f_questions : Int32} {f_sorted : Int32} {f_left : Nat → Int32} {f_other : Nat → Int32} {f_right : Nat → Int32} {f_there : Nat → Int32} {f_member : Nat → Int32} {f_state : Nat → Int32} {f_before : Nat → Int32} {f_placed : Nat → Int32} {f_looked : Nat → Int32} {f_fact : Nat → Int32} {f_maker : Nat → Int32} {f_fired : Nat → Int32} {f_firedCount : Int32} {f_needed : Nat → Int32} {f_module : Nat → Int32} {f_asked : Int32} (X : kX p s m args meth c cX52_openPairs 3 RX52 (some .int) (dC, dI) cl (tX52 d)) {K35 : Int → Prop}   (hk35 : ∀ (x1 : Int32), K35 x1.toInt → ∀ (H : Heap) (locs : List Loc) (ls : Array Slot), kH (dC, dI) cl A s.heap H locs (wX52 ci ad d f_thrown f_classes f_things f_axioms f_fuel f_questions f_sorted f_left f_other f_right f_there f_member f_state f_before f_placed f_looked f_fact f_maker f_fired f_firedCount f_needed f_module f_asked) → lv_has ls 3 [(1, .int x1)] → W p l e ({ frames := 0, cells := 0, slots := 0, locals := 0 } : Room) s m args below meth c H locs 0 0 (MQ below (va_Qi (fun (r : Int32) (_ : Unit) => post r.toInt) (kB (dC, dI) cl (tX52 d) A (fun _ : Unit => (wX52 ci ad d f_thrown f_classes f_things f_axioms f_fuel f_questions f_sorted f_left f_other f_right f_there f_member f_state f_before f_placed f_looked f_fact f_maker f_fired f_firedCount f_needed f_module f_asked))) A) args s 0 0 A) (F0 m 35 ls [])) :
    ∀ (nn : Nat) (x1 : Int32) (x2 : Int32), wX52_openPairs_4 K35 (zF f_state) nn x1.toInt x2.toInt → ∀ (H : Heap) (locs : List Loc) (ls : Array Slot), kH (dC, dI) cl A s.heap H locs (wX52 ci ad d f_thrown f_classes f_things f_axioms f_fuel f_questions f_sorted f_left f_other f_right f_there f_member f_state f_before f_placed f_looked f_fact f_maker f_fired f_firedCount f_needed f_module f_asked) → lv_has ls 3 [(0, .ref (ad 0)), (1, .int x1), (2, .int x2)] → W p l e ({ frames := 0, cells := 0, slots := 0, locals := 0 } : Room) s m args below meth c H locs 0 0 (MQ below (va_Qi (fun (r : Int32) (_ : Unit) => post r.toInt) (kB (dC, dI) cl (tX52 d) A (fun _ : Unit => (wX52 ci ad d f_thrown f_classes f_things f_axioms f_fuel f_questions f_sorted f_left f_other f_right f_there f_member f_state f_before f_placed f_looked f_fact f_maker f_fired f_firedCount f_needed f_module f_asked))) A) args s 0 0 A) (F0 m 4 ls []) := by
  have hx := X.1.1
  have hb := X.1.2.1
  intro nn
  induction nn with
  | zero =>
    intro x1 x2 hw
    exact False.elim hw
  | succ n ih =>
    intro x1 x2 hw H locs ls hH hl
    rw [wX52_openPairs_4] at hw
    refine lv_iload_n hx hb dX52_openPairs_4 rfl (lv_at hl 2 rfl) ?_
    refine lv_sipush (v := 420) hx hb dX52_openPairs_5 (by decide) ?_
    refine lv_icmp_ge (tgt := 35) hx hb dX52_openPairs_8 (by decide) (fun c_1 => ?_) (fun c_1 => ?_)
    · have hw := hw.1 (z_le (rfl : (420 : Int32).toInt = 420) (rfl : x2.toInt = _) c_1)
      exact hk35 x1 hw _ _ ls hH (lv_sub hl [1] rfl)
    · have hw := hw.2 (z_nle (rfl : (420 : Int32).toInt = 420) (rfl : x2.toInt = _) c_1)
      refine lv_iload_n hx hb dX52_openPairs_11 rfl (lv_at hl 1 rfl) ?_
      refine lv_aload_n hx hb dX52_openPairs_12 rfl (lv_at hl 0 rfl) ?_
      refine k_get X hH in_X52 0 rfl hc 12 (by decide) q6393 rfl dX52_openPairs_13 ?_
      refine lv_iload_n hx hb dX52_openPairs_16 rfl (lv_at hl 2 rfl) ?_
      have hq_2 := hw.1
      have hw := hw.2
      refine k_iald X hH 6 5 rfl rfl (z_in (rfl : x2.toInt = _) hq_2) dX52_openPairs_17 ?_
      have e_3 := z_ld (f := f_state) (rfl : x2.toInt = _) hq_2.1
      refine lv_iconst (v := 2) hx hb dX52_openPairs_18 (by decide) ?_
      refine lv_icmp_ne (tgt := 26) hx hb dX52_openPairs_19 (by decide) (fun c_4 => ?_) (fun c_4 => ?_)
      · have hw := hw.2 (z_ne e_3 (rfl : (2 : Int32).toInt = 2) c_4)
        refine lv_iconst (v := 0) hx hb dX52_openPairs_26 (by decide) ?_
        refine lv_iadd hx hb dX52_openPairs_27 ?_
        have e_5 := z_add (z_m (rfl : x1.toInt = _)) (z_m (rfl : (0 : Int32).toInt = 0))
        have hq_6 := hw.1
        have hw := hw.2
        have e_7 := z_x e_5 hq_6
        refine lv_topi (fun x1_8 ex1_8 => ?_)
        have hw := hw x1_8.toInt (by rw [ex1_8]; exact e_7)
        refine lv_istore_n (lv' := [(1, .int x1_8), (0, .ref (ad 0)), (2, .int x2)]) hx hb dX52_openPairs_28 rfl hl (by decide) rfl (fun ls hl => ?_)
        have hq_10 := hw.1
        have hw := hw.2
        obtain ⟨x2_9, ex2_9⟩ : ∃ y : Int32, y = x2 + 1 := ⟨_, rfl⟩
        have hw := hw x2_9.toInt (by rw [ex2_9]; exact (z_x (z_add (z_m (rfl : x2.toInt = _)) (z_m (rfl : (1 : Int32).toInt = 1))) hq_10))
        refine lv_iinc (v := x2_9) (lv' := [(2, .int x2_9), (1, .int x1_8), (0, .ref (ad 0))]) hx hb dX52_openPairs_29 hl (k := 2) rfl (by rw [ex2_9]; rfl) (by decide) rfl (fun ls hl => ?_)
        refine lv_goto (tgt := 4) hx hb dX52_openPairs_32 (by decide) ?_
        exact ih x1_8 x2_9 hw _ _ ls hH (lv_sub hl [2, 1, 0] rfl)
      · have hw := hw.1 (z_eq e_3 (rfl : (2 : Int32).toInt = 2) c_4)
        refine lv_iconst (v := 1) hx hb dX52_openPairs_22 (by decide) ?_
        refine lv_goto (tgt := 27) hx hb dX52_openPairs_23 (by decide) ?_
        refine lv_iadd hx hb dX52_openPairs_27 ?_
        have e_11 := z_add (z_m (rfl : x1.toInt = _)) (z_m (rfl : (1 : Int32).toInt = 1))
        have hq_12 := hw.1
        have hw := hw.2
        have e_13 := z_x e_11 hq_12
        refine lv_topi (fun x1_14 ex1_14 => ?_)
        have hw := hw x1_14.toInt (by rw [ex1_14]; exact e_13)
        refine lv_istore_n (lv' := [(1, .int x1_14), (0, .ref (ad 0)), (2, .int x2)]) hx hb dX52_openPairs_28 rfl hl (by decide) rfl (fun ls hl => ?_)
        have hq_16 := hw.1
        have hw := hw.2
        obtain ⟨x2_15, ex2_15⟩ : ∃ y : Int32, y = x2 + 1 := ⟨_, rfl⟩
        have hw := hw x2_15.toInt (by rw [ex2_15]; exact (z_x (z_add (z_m (rfl : x2.toInt = _)) (z_m (rfl : (1 : Int32).toInt = 1))) hq_16))
        refine lv_iinc (v := x2_15) (lv' := [(2, .int x2_15), (1, .int x1_14), (0, .ref (ad 0))]) hx hb dX52_openPairs_29 hl (k := 2) rfl (by rw [ex2_15]; rfl) (by decide) rfl (fun ls hl => ?_)
        refine lv_goto (tgt := 4) hx hb dX52_openPairs_32 (by decide) ?_
        exact ih x1_14 x2_15 hw _ _ ls hH (lv_sub hl [2, 1, 0] rfl)
set_option maxHeartbeats 4000000 in
theorem walkX52_openPairs {l : Launch} {dC : Nat → ClassId} {dI : Nat → Nat → Nat} {cl : List vw_C} {ci : Nat} (hc : cl[ci]? = some (RX52, TX52, 23)) {ad : Nat → Nat} {d : Nat → ClassId} {sz : Nat} {f_thrown : Int32} {f_classes : Int32} {f_things : Int32} {f_axioms : Int32} {f_fuel : Int32} {f_questions : Int32} {f_sorted : Int32} {f_left : Nat → Int32} {f_other : Nat → Int32} {f_right : Nat → Int32} {f_there : Nat → Int32} {f_member : Nat → Int32} {f_state : Nat → Int32} {f_before : Nat → Int32} {f_placed : Nat → Int32} {f_looked : Nat → Int32} {f_fact : Nat → Int32} {f_maker : Nat → Int32} {f_fired : Nat → Int32} {f_firedCount : Int32} {f_needed : Nat → Int32} {f_module : Nat → Int32} {f_asked : Int32}  {post : Int → Prop} (hw : wpX52_openPairs post (zF f_state) ) :
    Met l yX52_openPairs (ws_ yX52_openPairs cX52_openPairs 3 (some .int)) ({ frames := 0, cells := 0, slots := 0, locals := 0 } : Room) (kPc (dC, dI) cl (tX52 d) [.ref (ad 0)] sz (wX52 ci ad d f_thrown f_classes f_things f_axioms f_fuel f_questions f_sorted f_left f_other f_right f_there f_member f_state f_before f_placed f_looked f_fact f_maker f_fired f_firedCount f_needed f_module f_asked)) (va_Qi (fun (r : Int32) (_ : Unit) => post r.toInt) (kB (dC, dI) cl (tX52 d) (va_A (wX52 ci ad d f_thrown f_classes f_things f_axioms f_fuel f_questions f_sorted f_left f_other f_right f_there f_member f_state f_before f_placed f_looked f_fact f_maker f_fired f_firedCount f_needed f_module f_asked) sz) (fun _ : Unit => (wX52 ci ad d f_thrown f_classes f_things f_axioms f_fuel f_questions f_sorted f_left f_other f_right f_there f_member f_state f_before f_placed f_looked f_fact f_maker f_fired f_firedCount f_needed f_module f_asked))) (va_A (wX52 ci ad d f_thrown f_classes f_things f_axioms f_fuel f_questions f_sorted f_left f_other f_right f_there f_member f_state f_before f_placed f_looked f_fact f_maker f_fired f_firedCount f_needed f_module f_asked) sz)) 0 0 (va_A (wX52 ci ad d f_thrown f_classes f_things f_axioms f_fuel f_questions f_sorted f_left f_other f_right f_there f_member f_state f_before f_placed f_looked f_fact f_maker f_fired f_firedCount f_needed f_module f_asked) sz) := by
  refine k_enter (by decide) (Nat.le_of_ble_eq_true rfl) ?_
  intro p e s m below meth c ls X hsz hH hl
  subst hsz
  generalize va_A (wX52 ci ad d f_thrown f_classes f_things f_axioms f_fuel f_questions f_sorted f_left f_other f_right f_there f_member f_state f_before f_placed f_looked f_fact f_maker f_fired f_firedCount f_needed f_module f_asked) s.heap.size = A at hH ⊢
  have hx := X.1.1
  have hb := X.1.2.1
  have hl : lv_has ls 3 [(0, .ref (ad 0))] := hl
  unfold wpX52_openPairs at hw
  refine lv_iconst (v := 0) hx hb dX52_openPairs_0 (by decide) ?_
  refine lv_istore_n (lv' := [(1, .int 0), (0, .ref (ad 0))]) hx hb dX52_openPairs_1 rfl hl (by decide) rfl (fun ls hl => ?_)
  refine lv_iconst (v := 0) hx hb dX52_openPairs_2 (by decide) ?_
  refine lv_istore_n (lv' := [(2, .int 0), (1, .int 0), (0, .ref (ad 0))]) hx hb dX52_openPairs_3 rfl hl (by decide) rfl (fun ls hl => ?_)
  obtain ⟨fu, hw⟩ := hw
  refine atX52_openPairs_4 hc X ?_ fu 0 0 hw _ _ ls hH (lv_sub hl [2, 1, 0] rfl)
  · intro x1_17 hw H locs ls hH hl
    refine lv_iload_n hx hb dX52_openPairs_35 rfl (lv_at hl 0 rfl) ?_
    exact k_iret (v := x1_17) X hH () hw rfl rfl dX52_openPairs_36
set_option maxHeartbeats 4000000 in
theorem atX52_count_51 {p : Program} {l : Launch} {e : Env} {s : State} {m : MethodId} {args : Array Value} {below : List Frame} {meth : Method} {c : Code} {dC : Nat → ClassId} {dI : Nat → Nat → Nat} {cl : List vw_C} {ci : Nat} (hc : cl[ci]? = some (RX52, TX52, 23)) {ad : Nat → Nat} {d : Nat → ClassId} {A : Nat → Prop} {post : Int → Prop} {f_thrown : Int32} {f_classes : Int32} {f_things : Int32} {f_axioms : Int32} {f_fuel : Int32} {f_questions : Int32} {f_sorted : Int32} {f_left : Nat → Int32} {f_other : Nat → Int32} {f_right : Nat → Int32} {f_there : Nat → Int32} {f_member : Nat → Int32} {f_state : Nat → Int32} {f_before : Nat → Int32} {f_placed : Nat → Int32} {f_looked : Nat → Int32} {f_fact : Nat → Int32} {f_maker : Nat → Int32} {f_fired : Nat → Int32} {f_firedCount : Int32} {f_needed : Nat → Int32} {f_module : Nat → Int32} {f_asked : Int32} (X : kX p s m args meth c cX52_count 4 RX52 (some .int) (dC, dI) cl (tX52 d)) {K82 : Int → Prop}   (hk82 : ∀ (x2 : Int32), K82 x2.toInt → ∀ (H : Heap) (locs : List Loc) (ls : Array Slot), kH (dC, dI) cl A s.heap H locs (wX52 ci ad d f_thrown f_classes f_things f_axioms f_fuel f_questions f_sorted f_left f_other f_right f_there f_member f_state f_before f_placed f_looked f_fact f_maker f_fired f_firedCount f_needed f_module f_asked) → lv_has ls 4 [(2, .int x2)] → W p l e ({ frames := 1, cells := 0, slots := 0, locals := 22 } : Room) s m args below meth c H locs 0 0 (MQ below (va_Qi (fun (r : Int32) (_ : Unit) => post r.toInt) (kB (dC, dI) cl (tX52 d) A (fun _ : Unit => (wX52 ci ad d f_thrown f_classes f_things f_axioms f_fuel f_questions f_sorted f_left f_other f_right f_there f_member f_state f_before f_placed f_looked f_fact f_maker f_fired f_firedCount f_needed f_module f_asked))) A) args s 0 0 A) (F0 m 82 ls [])) :
    ∀ (nn : Nat) (x2 : Int32) (x3 : Int32), wX52_count_51 K82 f_axioms.toInt (zF f_there) nn x2.toInt x3.toInt → ∀ (H : Heap) (locs : List Loc) (ls : Array Slot), kH (dC, dI) cl A s.heap H locs (wX52 ci ad d f_thrown f_classes f_things f_axioms f_fuel f_questions f_sorted f_left f_other f_right f_there f_member f_state f_before f_placed f_looked f_fact f_maker f_fired f_firedCount f_needed f_module f_asked) → lv_has ls 4 [(0, .ref (ad 0)), (2, .int x2), (3, .int x3)] → W p l e ({ frames := 1, cells := 0, slots := 0, locals := 22 } : Room) s m args below meth c H locs 0 0 (MQ below (va_Qi (fun (r : Int32) (_ : Unit) => post r.toInt) (kB (dC, dI) cl (tX52 d) A (fun _ : Unit => (wX52 ci ad d f_thrown f_classes f_things f_axioms f_fuel f_questions f_sorted f_left f_other f_right f_there f_member f_state f_before f_placed f_looked f_fact f_maker f_fired f_firedCount f_needed f_module f_asked))) A) args s 0 0 A) (F0 m 51 ls []) := by
  have hx := X.1.1
  have hb := X.1.2.1
  intro nn
  induction nn with
  | zero =>
    intro x2 x3 hw
    exact False.elim hw
  | succ n ih =>
    intro x2 x3 hw H locs ls hH hl
    rw [wX52_count_51] at hw
    refine lv_iload_n hx hb dX52_count_51 rfl (lv_at hl 2 rfl) ?_
    refine lv_aload_n hx hb dX52_count_52 rfl (lv_at hl 0 rfl) ?_
    refine k_get X hH in_X52 0 rfl hc 3 (by decide) q6384 rfl dX52_count_53 ?_
    refine lv_icmp_ge (tgt := 82) hx hb dX52_count_56 (by decide) (fun c_3 => ?_) (fun c_3 => ?_)
    · have hw := hw.1 (z_le (rfl : f_axioms.toInt = _) (rfl : x3.toInt = _) c_3)
      exact hk82 x2 hw _ _ ls hH (lv_sub hl [1] rfl)
    · have hw := hw.2 (z_nle (rfl : f_axioms.toInt = _) (rfl : x3.toInt = _) c_3)
      refine lv_iload_n hx hb dX52_count_59 rfl (lv_at hl 1 rfl) ?_
      refine lv_aload_n hx hb dX52_count_60 rfl (lv_at hl 0 rfl) ?_
      refine k_get X hH in_X52 0 rfl hc 10 (by decide) q6391 rfl dX52_count_61 ?_
      refine lv_iload_n hx hb dX52_count_64 rfl (lv_at hl 2 rfl) ?_
      have hq_4 := hw.1
      have hw := hw.2
      refine k_zald X hH 4 3 rfl rfl (z_in (rfl : x3.toInt = _) hq_4) dX52_count_65 ?_
      have e_5 := z_ld (f := f_there) (rfl : x3.toInt = _) hq_4.1
      refine lv_if_eq (tgt := 73) hx hb dX52_count_66 (by decide) (fun c_6 => ?_) (fun c_6 => ?_)
      · have hw := hw.1 (z_eq e_5 (rfl : (0 : Int32).toInt = 0) c_6)
        refine lv_iconst (v := 0) hx hb dX52_count_73 (by decide) ?_
        refine lv_iadd hx hb dX52_count_74 ?_
        have e_7 := z_add (z_m (rfl : x2.toInt = _)) (z_m (rfl : (0 : Int32).toInt = 0))
        have hq_8 := hw.1
        have hw := hw.2
        have e_9 := z_x e_7 hq_8
        refine lv_topi (fun x2_10 ex2_10 => ?_)
        have hw := hw x2_10.toInt (by rw [ex2_10]; exact e_9)
        refine lv_istore_n (lv' := [(2, .int x2_10), (0, .ref (ad 0)), (3, .int x3)]) hx hb dX52_count_75 rfl hl (by decide) rfl (fun ls hl => ?_)
        have hq_12 := hw.1
        have hw := hw.2
        obtain ⟨x3_11, ex3_11⟩ : ∃ y : Int32, y = x3 + 1 := ⟨_, rfl⟩
        have hw := hw x3_11.toInt (by rw [ex3_11]; exact (z_x (z_add (z_m (rfl : x3.toInt = _)) (z_m (rfl : (1 : Int32).toInt = 1))) hq_12))
        refine lv_iinc (v := x3_11) (lv' := [(3, .int x3_11), (2, .int x2_10), (0, .ref (ad 0))]) hx hb dX52_count_76 hl (k := 2) rfl (by rw [ex3_11]; rfl) (by decide) rfl (fun ls hl => ?_)
        refine lv_goto (tgt := 51) hx hb dX52_count_79 (by decide) ?_
        exact ih x2_10 x3_11 hw _ _ ls hH (lv_sub hl [2, 1, 0] rfl)
      · have hw := hw.2 (z_neq e_5 (rfl : (0 : Int32).toInt = 0) c_6)
        refine lv_iconst (v := 1) hx hb dX52_count_69 (by decide) ?_
        refine lv_goto (tgt := 74) hx hb dX52_count_70 (by decide) ?_
        refine lv_iadd hx hb dX52_count_74 ?_
        have e_13 := z_add (z_m (rfl : x2.toInt = _)) (z_m (rfl : (1 : Int32).toInt = 1))
        have hq_14 := hw.1
        have hw := hw.2
        have e_15 := z_x e_13 hq_14
        refine lv_topi (fun x2_16 ex2_16 => ?_)
        have hw := hw x2_16.toInt (by rw [ex2_16]; exact e_15)
        refine lv_istore_n (lv' := [(2, .int x2_16), (0, .ref (ad 0)), (3, .int x3)]) hx hb dX52_count_75 rfl hl (by decide) rfl (fun ls hl => ?_)
        have hq_18 := hw.1
        have hw := hw.2
        obtain ⟨x3_17, ex3_17⟩ : ∃ y : Int32, y = x3 + 1 := ⟨_, rfl⟩
        have hw := hw x3_17.toInt (by rw [ex3_17]; exact (z_x (z_add (z_m (rfl : x3.toInt = _)) (z_m (rfl : (1 : Int32).toInt = 1))) hq_18))
        refine lv_iinc (v := x3_17) (lv' := [(3, .int x3_17), (2, .int x2_16), (0, .ref (ad 0))]) hx hb dX52_count_76 hl (k := 2) rfl (by rw [ex3_17]; rfl) (by decide) rfl (fun ls hl => ?_)
        refine lv_goto (tgt := 51) hx hb dX52_count_79 (by decide) ?_
        exact ih x2_16 x3_17 hw _ _ ls hH (lv_sub hl [2, 1, 0] rfl)
set_option maxHeartbeats 4000000 in
theorem atX52_count_114 {p : Program} {l : Launch} {e : Env} {s : State} {m : MethodId} {args : Array Value} {below : List Frame} {meth : Method} {c : Code} {dC : Nat → ClassId} {dI : Nat → Nat → Nat} {cl : List vw_C} {ci : Nat} (hc : cl[ci]? = some (RX52, TX52, 23)) {ad : Nat → Nat} {d : Nat → ClassId} {A : Nat → Prop} {post : Int → Prop} {f_thrown : Int32} {f_classes : Int32} {f_things : Int32} {f_axioms : Int32} {f_fuel : Int32} {f_questions : Int32} {f_sorted : Int32} {f_left : Nat → Int32} {f_other : Nat → Int32} {f_right : Nat → Int32} {f_there : Nat → Int32} {f_member : Nat → Int32} {f_state : Nat → Int32} {f_before : Nat → Int32} {f_placed : Nat → Int32} {f_looked : Nat → Int32} {f_fact : Nat → Int32} {f_maker : Nat → Int32} {f_fired : Nat → Int32} {f_firedCount : Int32} {f_needed : Nat → Int32} {f_module : Nat → Int32} {f_asked : Int32} (X : kX p s m args meth c cX52_count 4 RX52 (some .int) (dC, dI) cl (tX52 d)) {K152 : Int → Prop}   (hk152 : ∀ (x2 : Int32), K152 x2.toInt → ∀ (H : Heap) (locs : List Loc) (ls : Array Slot), kH (dC, dI) cl A s.heap H locs (wX52 ci ad d f_thrown f_classes f_things f_axioms f_fuel f_questions f_sorted f_left f_other f_right f_there f_member f_state f_before f_placed f_looked f_fact f_maker f_fired f_firedCount f_needed f_module f_asked) → lv_has ls 4 [(2, .int x2)] → W p l e ({ frames := 1, cells := 0, slots := 0, locals := 22 } : Room) s m args below meth c H locs 0 0 (MQ below (va_Qi (fun (r : Int32) (_ : Unit) => post r.toInt) (kB (dC, dI) cl (tX52 d) A (fun _ : Unit => (wX52 ci ad d f_thrown f_classes f_things f_axioms f_fuel f_questions f_sorted f_left f_other f_right f_there f_member f_state f_before f_placed f_looked f_fact f_maker f_fired f_firedCount f_needed f_module f_asked))) A) args s 0 0 A) (F0 m 152 ls [])) :
    ∀ (nn : Nat) (x2 : Int32) (x3 : Int32), wX52_count_114 K152 f_classes.toInt f_sorted.toInt (zF f_placed) nn x2.toInt x3.toInt → ∀ (H : Heap) (locs : List Loc) (ls : Array Slot), kH (dC, dI) cl A s.heap H locs (wX52 ci ad d f_thrown f_classes f_things f_axioms f_fuel f_questions f_sorted f_left f_other f_right f_there f_member f_state f_before f_placed f_looked f_fact f_maker f_fired f_firedCount f_needed f_module f_asked) → lv_has ls 4 [(0, .ref (ad 0)), (2, .int x2), (3, .int x3)] → W p l e ({ frames := 1, cells := 0, slots := 0, locals := 22 } : Room) s m args below meth c H locs 0 0 (MQ below (va_Qi (fun (r : Int32) (_ : Unit) => post r.toInt) (kB (dC, dI) cl (tX52 d) A (fun _ : Unit => (wX52 ci ad d f_thrown f_classes f_things f_axioms f_fuel f_questions f_sorted f_left f_other f_right f_there f_member f_state f_before f_placed f_looked f_fact f_maker f_fired f_firedCount f_needed f_module f_asked))) A) args s 0 0 A) (F0 m 114 ls []) := by
  have hx := X.1.1
  have hb := X.1.2.1
  intro nn
  induction nn with
  | zero =>
    intro x2 x3 hw
    exact False.elim hw
  | succ n ih =>
    intro x2 x3 hw H locs ls hH hl
    rw [wX52_count_114] at hw
    refine lv_iload_n hx hb dX52_count_114 rfl (lv_at hl 2 rfl) ?_
    refine lv_aload_n hx hb dX52_count_115 rfl (lv_at hl 0 rfl) ?_
    refine k_get X hH in_X52 0 rfl hc 1 (by decide) q6382 rfl dX52_count_116 ?_
    refine lv_icmp_ge (tgt := 152) hx hb dX52_count_119 (by decide) (fun c_27 => ?_) (fun c_27 => ?_)
    · have hw := hw.1 (z_le (rfl : f_classes.toInt = _) (rfl : x3.toInt = _) c_27)
      exact hk152 x2 hw _ _ ls hH (lv_sub hl [1] rfl)
    · have hw := hw.2 (z_nle (rfl : f_classes.toInt = _) (rfl : x3.toInt = _) c_27)
      refine lv_iload_n hx hb dX52_count_122 rfl (lv_at hl 1 rfl) ?_
      refine lv_aload_n hx hb dX52_count_123 rfl (lv_at hl 0 rfl) ?_
      refine k_get X hH in_X52 0 rfl hc 6 (by decide) q6387 rfl dX52_count_124 ?_
      refine lv_if_eq (tgt := 143) hx hb dX52_count_127 (by decide) (fun c_28 => ?_) (fun c_28 => ?_)
      · have hw := hw.1 (z_eq (rfl : f_sorted.toInt = _) (rfl : (0 : Int32).toInt = 0) c_28)
        refine lv_iconst (v := 0) hx hb dX52_count_143 (by decide) ?_
        refine lv_iadd hx hb dX52_count_144 ?_
        have e_29 := z_add (z_m (rfl : x2.toInt = _)) (z_m (rfl : (0 : Int32).toInt = 0))
        have hq_30 := hw.1
        have hw := hw.2
        have e_31 := z_x e_29 hq_30
        refine lv_topi (fun x2_32 ex2_32 => ?_)
        have hw := hw x2_32.toInt (by rw [ex2_32]; exact e_31)
        refine lv_istore_n (lv' := [(2, .int x2_32), (0, .ref (ad 0)), (3, .int x3)]) hx hb dX52_count_145 rfl hl (by decide) rfl (fun ls hl => ?_)
        have hq_34 := hw.1
        have hw := hw.2
        obtain ⟨x3_33, ex3_33⟩ : ∃ y : Int32, y = x3 + 1 := ⟨_, rfl⟩
        have hw := hw x3_33.toInt (by rw [ex3_33]; exact (z_x (z_add (z_m (rfl : x3.toInt = _)) (z_m (rfl : (1 : Int32).toInt = 1))) hq_34))
        refine lv_iinc (v := x3_33) (lv' := [(3, .int x3_33), (2, .int x2_32), (0, .ref (ad 0))]) hx hb dX52_count_146 hl (k := 2) rfl (by rw [ex3_33]; rfl) (by decide) rfl (fun ls hl => ?_)
        refine lv_goto (tgt := 114) hx hb dX52_count_149 (by decide) ?_
        exact ih x2_32 x3_33 hw _ _ ls hH (lv_sub hl [2, 1, 0] rfl)
      · have hw := hw.2 (z_neq (rfl : f_sorted.toInt = _) (rfl : (0 : Int32).toInt = 0) c_28)
        refine lv_aload_n hx hb dX52_count_130 rfl (lv_at hl 0 rfl) ?_
        refine k_get X hH in_X52 0 rfl hc 14 (by decide) q6395 rfl dX52_count_131 ?_
        refine lv_iload_n hx hb dX52_count_134 rfl (lv_at hl 2 rfl) ?_
        have hq_35 := hw.1
        have hw := hw.2
        refine k_zald X hH 8 7 rfl rfl (z_in (rfl : x3.toInt = _) hq_35) dX52_count_135 ?_
        have e_36 := z_ld (f := f_placed) (rfl : x3.toInt = _) hq_35.1
        refine lv_if_eq (tgt := 143) hx hb dX52_count_136 (by decide) (fun c_37 => ?_) (fun c_37 => ?_)
        · have hw := hw.1 (z_eq e_36 (rfl : (0 : Int32).toInt = 0) c_37)
          refine lv_iconst (v := 0) hx hb dX52_count_143 (by decide) ?_
          refine lv_iadd hx hb dX52_count_144 ?_
          have e_38 := z_add (z_m (rfl : x2.toInt = _)) (z_m (rfl : (0 : Int32).toInt = 0))
          have hq_39 := hw.1
          have hw := hw.2
          have e_40 := z_x e_38 hq_39
          refine lv_topi (fun x2_41 ex2_41 => ?_)
          have hw := hw x2_41.toInt (by rw [ex2_41]; exact e_40)
          refine lv_istore_n (lv' := [(2, .int x2_41), (0, .ref (ad 0)), (3, .int x3)]) hx hb dX52_count_145 rfl hl (by decide) rfl (fun ls hl => ?_)
          have hq_43 := hw.1
          have hw := hw.2
          obtain ⟨x3_42, ex3_42⟩ : ∃ y : Int32, y = x3 + 1 := ⟨_, rfl⟩
          have hw := hw x3_42.toInt (by rw [ex3_42]; exact (z_x (z_add (z_m (rfl : x3.toInt = _)) (z_m (rfl : (1 : Int32).toInt = 1))) hq_43))
          refine lv_iinc (v := x3_42) (lv' := [(3, .int x3_42), (2, .int x2_41), (0, .ref (ad 0))]) hx hb dX52_count_146 hl (k := 2) rfl (by rw [ex3_42]; rfl) (by decide) rfl (fun ls hl => ?_)
          refine lv_goto (tgt := 114) hx hb dX52_count_149 (by decide) ?_
          exact ih x2_41 x3_42 hw _ _ ls hH (lv_sub hl [2, 1, 0] rfl)
        · have hw := hw.2 (z_neq e_36 (rfl : (0 : Int32).toInt = 0) c_37)
          refine lv_iconst (v := 1) hx hb dX52_count_139 (by decide) ?_
          refine lv_goto (tgt := 144) hx hb dX52_count_140 (by decide) ?_
          refine lv_iadd hx hb dX52_count_144 ?_
          have e_44 := z_add (z_m (rfl : x2.toInt = _)) (z_m (rfl : (1 : Int32).toInt = 1))
          have hq_45 := hw.1
          have hw := hw.2
          have e_46 := z_x e_44 hq_45
          refine lv_topi (fun x2_47 ex2_47 => ?_)
          have hw := hw x2_47.toInt (by rw [ex2_47]; exact e_46)
          refine lv_istore_n (lv' := [(2, .int x2_47), (0, .ref (ad 0)), (3, .int x3)]) hx hb dX52_count_145 rfl hl (by decide) rfl (fun ls hl => ?_)
          have hq_49 := hw.1
          have hw := hw.2
          obtain ⟨x3_48, ex3_48⟩ : ∃ y : Int32, y = x3 + 1 := ⟨_, rfl⟩
          have hw := hw x3_48.toInt (by rw [ex3_48]; exact (z_x (z_add (z_m (rfl : x3.toInt = _)) (z_m (rfl : (1 : Int32).toInt = 1))) hq_49))
          refine lv_iinc (v := x3_48) (lv' := [(3, .int x3_48), (2, .int x2_47), (0, .ref (ad 0))]) hx hb dX52_count_146 hl (k := 2) rfl (by rw [ex3_48]; rfl) (by decide) rfl (fun ls hl => ?_)
          refine lv_goto (tgt := 114) hx hb dX52_count_149 (by decide) ?_
          exact ih x2_47 x3_48 hw _ _ ls hH (lv_sub hl [2, 1, 0] rfl)
set_option maxHeartbeats 4000000 in
theorem walkX52_count {l : Launch} {dC : Nat → ClassId} {dI : Nat → Nat → Nat} {cl : List vw_C} {ci : Nat} (hc : cl[ci]? = some (RX52, TX52, 23)) {ad : Nat → Nat} {d : Nat → ClassId} {sz : Nat} {f_thrown : Int32} {f_classes : Int32} {f_things : Int32} {f_axioms : Int32} {f_fuel : Int32} {f_questions : Int32} {f_sorted : Int32} {f_left : Nat → Int32} {f_other : Nat → Int32} {f_right : Nat → Int32} {f_there : Nat → Int32} {f_member : Nat → Int32} {f_state : Nat → Int32} {f_before : Nat → Int32} {f_placed : Nat → Int32} {f_looked : Nat → Int32} {f_fact : Nat → Int32} {f_maker : Nat → Int32} {f_fired : Nat → Int32} {f_firedCount : Int32} {f_needed : Nat → Int32} {f_module : Nat → Int32} {f_asked : Int32} {x1 : Int32} {post : Int → Prop} (hw : wpX52_count post f_classes.toInt f_things.toInt f_axioms.toInt f_questions.toInt f_sorted.toInt (zF f_there) (zF f_state) (zF f_placed) x1.toInt) :
    Met l yX52_count (ws_ yX52_count cX52_count 4 (some .int)) ({ frames := 1, cells := 0, slots := 0, locals := 22 } : Room) (kPc (dC, dI) cl (tX52 d) [.ref (ad 0), .int x1] sz (wX52 ci ad d f_thrown f_classes f_things f_axioms f_fuel f_questions f_sorted f_left f_other f_right f_there f_member f_state f_before f_placed f_looked f_fact f_maker f_fired f_firedCount f_needed f_module f_asked)) (va_Qi (fun (r : Int32) (_ : Unit) => post r.toInt) (kB (dC, dI) cl (tX52 d) (va_A (wX52 ci ad d f_thrown f_classes f_things f_axioms f_fuel f_questions f_sorted f_left f_other f_right f_there f_member f_state f_before f_placed f_looked f_fact f_maker f_fired f_firedCount f_needed f_module f_asked) sz) (fun _ : Unit => (wX52 ci ad d f_thrown f_classes f_things f_axioms f_fuel f_questions f_sorted f_left f_other f_right f_there f_member f_state f_before f_placed f_looked f_fact f_maker f_fired f_firedCount f_needed f_module f_asked))) (va_A (wX52 ci ad d f_thrown f_classes f_things f_axioms f_fuel f_questions f_sorted f_left f_other f_right f_there f_member f_state f_before f_placed f_looked f_fact f_maker f_fired f_firedCount f_needed f_module f_asked) sz)) 0 0 (va_A (wX52 ci ad d f_thrown f_classes f_things f_axioms f_fuel f_questions f_sorted f_left f_other f_right f_there f_member f_state f_before f_placed f_looked f_fact f_maker f_fired f_firedCount f_needed f_module f_asked) sz) := by
  refine k_enter (by decide) (Nat.le_of_ble_eq_true rfl) ?_
  intro p e s m below meth c ls X hsz hH hl
  subst hsz
  generalize va_A (wX52 ci ad d f_thrown f_classes f_things f_axioms f_fuel f_questions f_sorted f_left f_other f_right f_there f_member f_state f_before f_placed f_looked f_fact f_maker f_fired f_firedCount f_needed f_module f_asked) s.heap.size = A at hH ⊢
  have hx := X.1.1
  have hb := X.1.2.1
  have hl : lv_has ls 4 [(0, .ref (ad 0)), (1, .int x1)] := hl
  unfold wpX52_count at hw
  refine lv_iconst (v := 0) hx hb dX52_count_0 (by decide) ?_
  refine lv_istore_n (lv' := [(2, .int 0), (0, .ref (ad 0)), (1, .int x1)]) hx hb dX52_count_1 rfl hl (by decide) rfl (fun ls hl => ?_)
  refine lv_iload_n hx hb dX52_count_2 rfl (lv_at hl 2 rfl) ?_
  by_cases c_1 : x1 = 0
  · have hw := hw.1 (z_eq (rfl : x1.toInt = _) (rfl : (0 : Int32).toInt = 0) c_1)
    refine lv_tableIn (off := 41) (tgt := 44) hx hb dX52_count_3 (by rw [c_1]; decide) (by rw [c_1]; decide) (by rw [c_1]; rfl) (by decide) ?_
    refine lv_aload_n hx hb dX52_count_44 rfl (lv_at hl 1 rfl) ?_
    refine k_get X hH in_X52 0 rfl hc 1 (by decide) q6382 rfl dX52_count_45 ?_
    exact k_iret (v := f_classes) X hH () hw rfl rfl dX52_count_48
  · have hw := hw.2 (z_ne (rfl : x1.toInt = _) (rfl : (0 : Int32).toInt = 0) c_1)
    by_cases c_2 : x1 = 1
    · have hw := hw.1 (z_eq (rfl : x1.toInt = _) (rfl : (1 : Int32).toInt = 1) c_2)
      refine lv_tableIn (off := 46) (tgt := 49) hx hb dX52_count_3 (by rw [c_2]; decide) (by rw [c_2]; decide) (by rw [c_2]; rfl) (by decide) ?_
      refine lv_iconst (v := 0) hx hb dX52_count_49 (by decide) ?_
      refine lv_istore_n (lv' := [(3, .int 0), (2, .int 0), (0, .ref (ad 0)), (1, .int x1)]) hx hb dX52_count_50 rfl hl (by decide) rfl (fun ls hl => ?_)
      obtain ⟨fu, hw⟩ := hw
      refine atX52_count_51 hc X ?_ fu 0 0 hw _ _ ls hH (lv_sub hl [2, 1, 0] rfl)
      · intro x2_19 hw H locs ls hH hl
        refine lv_iload_n hx hb dX52_count_82 rfl (lv_at hl 0 rfl) ?_
        exact k_iret (v := x2_19) X hH () hw rfl rfl dX52_count_83
    · have hw := hw.2 (z_ne (rfl : x1.toInt = _) (rfl : (1 : Int32).toInt = 1) c_2)
      by_cases c_20 : x1 = 2
      · have hw := hw.1 (z_eq (rfl : x1.toInt = _) (rfl : (2 : Int32).toInt = 2) c_20)
        refine lv_tableIn (off := 81) (tgt := 84) hx hb dX52_count_3 (by rw [c_20]; decide) (by rw [c_20]; decide) (by rw [c_20]; rfl) (by decide) ?_
        refine lv_aload_n hx hb dX52_count_84 rfl (lv_at hl 1 rfl) ?_
        refine k_get X hH in_X52 0 rfl hc 2 (by decide) q6383 rfl dX52_count_85 ?_
        exact k_iret (v := f_things) X hH () hw rfl rfl dX52_count_88
      · have hw := hw.2 (z_ne (rfl : x1.toInt = _) (rfl : (2 : Int32).toInt = 2) c_20)
        by_cases c_21 : x1 = 3
        · have hw := hw.1 (z_eq (rfl : x1.toInt = _) (rfl : (3 : Int32).toInt = 3) c_21)
          refine lv_tableIn (off := 86) (tgt := 89) hx hb dX52_count_3 (by rw [c_21]; decide) (by rw [c_21]; decide) (by rw [c_21]; rfl) (by decide) ?_
          refine lv_aload_n hx hb dX52_count_89 rfl (lv_at hl 1 rfl) ?_
          refine k_get X hH in_X52 0 rfl hc 5 (by decide) q6386 rfl dX52_count_90 ?_
          exact k_iret (v := f_questions) X hH () hw rfl rfl dX52_count_93
        · have hw := hw.2 (z_ne (rfl : x1.toInt = _) (rfl : (3 : Int32).toInt = 3) c_21)
          by_cases c_22 : x1 = 4
          · have hw := hw.1 (z_eq (rfl : x1.toInt = _) (rfl : (4 : Int32).toInt = 4) c_22)
            refine lv_tableIn (off := 91) (tgt := 94) hx hb dX52_count_3 (by rw [c_22]; decide) (by rw [c_22]; decide) (by rw [c_22]; rfl) (by decide) ?_
            refine lv_aload_n hx hb dX52_count_94 rfl (lv_at hl 1 rfl) ?_
            refine k_i0 hH (k_runV (As := []) (rest := []) X hH.1 hH.2.1 X.2.2.2 (walkX52_openPairs hc (f_thrown := f_thrown) (f_classes := f_classes) (f_things := f_things) (f_axioms := f_axioms) (f_fuel := f_fuel) (f_questions := f_questions) (f_sorted := f_sorted) (f_left := f_left) (f_other := f_other) (f_right := f_right) (f_there := f_there) (f_member := f_member) (f_state := f_state) (f_before := f_before) (f_placed := f_placed) (f_looked := f_looked) (f_fact := f_fact) (f_maker := f_maker) (f_fired := f_fired) (f_firedCount := f_firedCount) (f_needed := f_needed) (f_module := f_module) (f_asked := f_asked) hw) (cwV 0 X.1.2.2.2.2 gX52_114 rfl rfl rfl hX52_openPairs ⟨Nat.le_of_ble_eq_true rfl, Nat.le_of_ble_eq_true rfl⟩) hc (q0 := 0) rfl rfl hl.1 rfl (Nat.le_of_ble_eq_true rfl) dX52_count_95 ⟨Nat.le_refl 0, Nat.le_refl 0⟩) (fun r_23 _ H locs hw hH => ?_)
            have hH : kH (dC, dI) cl A s.heap H locs (wX52 ci ad d f_thrown f_classes f_things f_axioms f_fuel f_questions f_sorted f_left f_other f_right f_there f_member f_state f_before f_placed f_looked f_fact f_maker f_fired f_firedCount f_needed f_module f_asked) := hH
            exact k_iret (v := r_23) X hH () hw rfl rfl dX52_count_98
          · have hw := hw.2 (z_ne (rfl : x1.toInt = _) (rfl : (4 : Int32).toInt = 4) c_22)
            by_cases c_24 : x1 = 5
            · have hw := hw.1 (z_eq (rfl : x1.toInt = _) (rfl : (5 : Int32).toInt = 5) c_24)
              refine lv_tableIn (off := 96) (tgt := 99) hx hb dX52_count_3 (by rw [c_24]; decide) (by rw [c_24]; decide) (by rw [c_24]; rfl) (by decide) ?_
              refine lv_aload_n hx hb dX52_count_99 rfl (lv_at hl 1 rfl) ?_
              refine k_get X hH in_X52 0 rfl hc 6 (by decide) q6387 rfl dX52_count_100 ?_
              refine lv_if_eq (tgt := 110) hx hb dX52_count_103 (by decide) (fun c_25 => ?_) (fun c_25 => ?_)
              · have hw := hw.1 (z_eq (rfl : f_sorted.toInt = _) (rfl : (0 : Int32).toInt = 0) c_25)
                refine lv_iconst (v := 0) hx hb dX52_count_110 (by decide) ?_
                exact k_iret (v := 0) X hH () hw rfl rfl dX52_count_111
              · have hw := hw.2 (z_neq (rfl : f_sorted.toInt = _) (rfl : (0 : Int32).toInt = 0) c_25)
                refine lv_iconst (v := 1) hx hb dX52_count_106 (by decide) ?_
                refine lv_goto (tgt := 111) hx hb dX52_count_107 (by decide) ?_
                exact k_iret (v := 1) X hH () hw rfl rfl dX52_count_111
            · have hw := hw.2 (z_ne (rfl : x1.toInt = _) (rfl : (5 : Int32).toInt = 5) c_24)
              by_cases c_26 : x1 = 6
              · have hw := hw.1 (z_eq (rfl : x1.toInt = _) (rfl : (6 : Int32).toInt = 6) c_26)
                refine lv_tableIn (off := 109) (tgt := 112) hx hb dX52_count_3 (by rw [c_26]; decide) (by rw [c_26]; decide) (by rw [c_26]; rfl) (by decide) ?_
                refine lv_iconst (v := 0) hx hb dX52_count_112 (by decide) ?_
                refine lv_istore_n (lv' := [(3, .int 0), (2, .int 0), (0, .ref (ad 0)), (1, .int x1)]) hx hb dX52_count_113 rfl hl (by decide) rfl (fun ls hl => ?_)
                obtain ⟨fu, hw⟩ := hw
                refine atX52_count_114 hc X ?_ fu 0 0 hw _ _ ls hH (lv_sub hl [2, 1, 0] rfl)
                · intro x2_50 hw H locs ls hH hl
                  refine lv_iload_n hx hb dX52_count_152 rfl (lv_at hl 0 rfl) ?_
                  exact k_iret (v := x2_50) X hH () hw rfl rfl dX52_count_153
              · have hw := hw.2 (z_ne (rfl : x1.toInt = _) (rfl : (6 : Int32).toInt = 6) c_26)
                refine lv_tableOut (tgt := 154) hx hb dX52_count_3 (by have qc_1 := k_ne c_1 (k := 0) rfl; have qc_2 := k_ne c_2 (k := 1) rfl; have qc_20 := k_ne c_20 (k := 2) rfl; have qc_21 := k_ne c_21 (k := 3) rfl; have qc_22 := k_ne c_22 (k := 4) rfl; have qc_24 := k_ne c_24 (k := 5) rfl; have qc_26 := k_ne c_26 (k := 6) rfl; omega) (by decide) ?_
                refine lv_bipush (v := (-2)) hx hb dX52_count_154 (by decide) ?_
                exact k_iret (v := (-2)) X hH () hw rfl rfl dX52_count_156
set_option maxHeartbeats 4000000 in
theorem atX52_isSecond_4 {p : Program} {l : Launch} {e : Env} {s : State} {m : MethodId} {args : Array Value} {below : List Frame} {meth : Method} {c : Code} {dC : Nat → ClassId} {dI : Nat → Nat → Nat} {cl : List vw_C} {ci : Nat} (hc : cl[ci]? = some (RX52, TX52, 23)) {ad : Nat → Nat} {d : Nat → ClassId} {A : Nat → Prop} {post : Int → Prop} {f_thrown : Int32} {f_classes : Int32} {f_things : Int32} {f_axioms : Int32} {f_fuel : Int32} {f_questions : Int32} {f_sorted : Int32} {f_left : Nat → Int32} {f_other : Nat → Int32} {f_right : Nat → Int32} {f_there : Nat → Int32} {f_member : Nat → Int32} {f_state : Nat → Int32} {f_before : Nat → Int32} {f_placed : Nat → Int32} {f_looked : Nat → Int32} {f_fact : Nat → Int32} {f_maker : Nat → Int32} {f_fired : Nat → Int32} {f_firedCount : Int32} {f_needed : Nat → Int32} {f_module : Nat → Int32} {f_asked : Int32} (X : kX p s m args meth c cX52_isSecond 4 RX52 (some .boolean) (dC, dI) cl (tX52 d)) {K52 : Int → Prop} {x1 : Int32}  (hk52 : ∀ (x2 : Int32), K52 x2.toInt → ∀ (H : Heap) (locs : List Loc) (ls : Array Slot), kH (dC, dI) cl A s.heap H locs (wX52 ci ad d f_thrown f_classes f_things f_axioms f_fuel f_questions f_sorted f_left f_other f_right f_there f_member f_state f_before f_placed f_looked f_fact f_maker f_fired f_firedCount f_needed f_module f_asked) → lv_has ls 4 [(2, .int x2)] → W p l e ({ frames := 1, cells := 0, slots := 0, locals := 22 } : Room) s m args below meth c H locs 0 0 (MQ below (va_Qi (fun (r : Int32) (_ : Unit) => post r.toInt) (kB (dC, dI) cl (tX52 d) A (fun _ : Unit => (wX52 ci ad d f_thrown f_classes f_things f_axioms f_fuel f_questions f_sorted f_left f_other f_right f_there f_member f_state f_before f_placed f_looked f_fact f_maker f_fired f_firedCount f_needed f_module f_asked))) A) args s 0 0 A) (F0 m 52 ls [])) :
    ∀ (nn : Nat) (x2 : Int32) (x3 : Int32), wX52_isSecond_4 K52 x1.toInt (zF f_state) (zF f_placed) nn x2.toInt x3.toInt → ∀ (H : Heap) (locs : List Loc) (ls : Array Slot), kH (dC, dI) cl A s.heap H locs (wX52 ci ad d f_thrown f_classes f_things f_axioms f_fuel f_questions f_sorted f_left f_other f_right f_there f_member f_state f_before f_placed f_looked f_fact f_maker f_fired f_firedCount f_needed f_module f_asked) → lv_has ls 4 [(0, .ref (ad 0)), (1, .int x1), (2, .int x2), (3, .int x3)] → W p l e ({ frames := 1, cells := 0, slots := 0, locals := 22 } : Room) s m args below meth c H locs 0 0 (MQ below (va_Qi (fun (r : Int32) (_ : Unit) => post r.toInt) (kB (dC, dI) cl (tX52 d) A (fun _ : Unit => (wX52 ci ad d f_thrown f_classes f_things f_axioms f_fuel f_questions f_sorted f_left f_other f_right f_there f_member f_state f_before f_placed f_looked f_fact f_maker f_fired f_firedCount f_needed f_module f_asked))) A) args s 0 0 A) (F0 m 4 ls []) := by
  have hx := X.1.1
  have hb := X.1.2.1
  intro nn
  induction nn with
  | zero =>
    intro x2 x3 hw
    exact False.elim hw
  | succ n ih =>
    intro x2 x3 hw H locs ls hH hl
    rw [wX52_isSecond_4] at hw
    refine lv_iload_n hx hb dX52_isSecond_4 rfl (lv_at hl 3 rfl) ?_
    refine lv_iload_n hx hb dX52_isSecond_5 rfl (lv_at hl 1 rfl) ?_
    refine lv_icmp_ge (tgt := 52) hx hb dX52_isSecond_6 (by decide) (fun c_1 => ?_) (fun c_1 => ?_)
    · have hw := hw.1 (z_le (rfl : x1.toInt = _) (rfl : x3.toInt = _) c_1)
      exact hk52 x2 hw _ _ ls hH (lv_sub hl [2] rfl)
    · have hw := hw.2 (z_nle (rfl : x1.toInt = _) (rfl : x3.toInt = _) c_1)
      refine lv_iload_n hx hb dX52_isSecond_9 rfl (lv_at hl 2 rfl) ?_
      refine lv_if_ne (tgt := 40) hx hb dX52_isSecond_10 (by decide) (fun c_2 => ?_) (fun c_2 => ?_)
      · have hw := hw.2 (z_ne (rfl : x2.toInt = _) (rfl : (0 : Int32).toInt = 0) c_2)
        refine lv_iconst (v := 1) hx hb dX52_isSecond_40 (by decide) ?_
        refine lv_goto (tgt := 45) hx hb dX52_isSecond_41 (by decide) ?_
        refine lv_istore_n (lv' := [(2, .int 1), (0, .ref (ad 0)), (1, .int x1), (3, .int x3)]) hx hb dX52_isSecond_45 rfl hl (by decide) rfl (fun ls hl => ?_)
        have hq_4 := hw.1
        have hw := hw.2
        obtain ⟨x3_3, ex3_3⟩ : ∃ y : Int32, y = x3 + 1 := ⟨_, rfl⟩
        have hw := hw x3_3.toInt (by rw [ex3_3]; exact (z_x (z_add (z_m (rfl : x3.toInt = _)) (z_m (rfl : (1 : Int32).toInt = 1))) hq_4))
        refine lv_iinc (v := x3_3) (lv' := [(3, .int x3_3), (2, .int 1), (0, .ref (ad 0)), (1, .int x1)]) hx hb dX52_isSecond_46 hl (k := 3) rfl (by rw [ex3_3]; rfl) (by decide) rfl (fun ls hl => ?_)
        refine lv_goto (tgt := 4) hx hb dX52_isSecond_49 (by decide) ?_
        exact ih 1 x3_3 hw _ _ ls hH (lv_sub hl [2, 3, 1, 0] rfl)
      · have hw := hw.1 (z_eq (rfl : x2.toInt = _) (rfl : (0 : Int32).toInt = 0) c_2)
        refine lv_aload_n hx hb dX52_isSecond_13 rfl (lv_at hl 0 rfl) ?_
        refine k_get X hH in_X52 0 rfl hc 14 (by decide) q6395 rfl dX52_isSecond_14 ?_
        refine lv_iload_n hx hb dX52_isSecond_17 rfl (lv_at hl 3 rfl) ?_
        have hq_5 := hw.1
        have hw := hw.2
        refine k_zald X hH 8 7 rfl rfl (z_in (rfl : x3.toInt = _) hq_5) dX52_isSecond_18 ?_
        have e_6 := z_ld (f := f_placed) (rfl : x3.toInt = _) hq_5.1
        refine lv_if_eq (tgt := 44) hx hb dX52_isSecond_19 (by decide) (fun c_7 => ?_) (fun c_7 => ?_)
        · have hw := hw.1 (z_eq e_6 (rfl : (0 : Int32).toInt = 0) c_7)
          refine lv_iconst (v := 0) hx hb dX52_isSecond_44 (by decide) ?_
          refine lv_istore_n (lv' := [(2, .int 0), (0, .ref (ad 0)), (1, .int x1), (3, .int x3)]) hx hb dX52_isSecond_45 rfl hl (by decide) rfl (fun ls hl => ?_)
          have hq_9 := hw.1
          have hw := hw.2
          obtain ⟨x3_8, ex3_8⟩ : ∃ y : Int32, y = x3 + 1 := ⟨_, rfl⟩
          have hw := hw x3_8.toInt (by rw [ex3_8]; exact (z_x (z_add (z_m (rfl : x3.toInt = _)) (z_m (rfl : (1 : Int32).toInt = 1))) hq_9))
          refine lv_iinc (v := x3_8) (lv' := [(3, .int x3_8), (2, .int 0), (0, .ref (ad 0)), (1, .int x1)]) hx hb dX52_isSecond_46 hl (k := 3) rfl (by rw [ex3_8]; rfl) (by decide) rfl (fun ls hl => ?_)
          refine lv_goto (tgt := 4) hx hb dX52_isSecond_49 (by decide) ?_
          exact ih 0 x3_8 hw _ _ ls hH (lv_sub hl [2, 3, 1, 0] rfl)
        · have hw := hw.2 (z_neq e_6 (rfl : (0 : Int32).toInt = 0) c_7)
          refine lv_aload_n hx hb dX52_isSecond_22 rfl (lv_at hl 0 rfl) ?_
          refine lv_iload_n hx hb dX52_isSecond_23 rfl (lv_at hl 3 rfl) ?_
          refine lv_iload_n hx hb dX52_isSecond_24 rfl (lv_at hl 1 rfl) ?_
          refine k_i0 hH (k_runV (As := [.int x3, .int x1]) (rest := []) X hH.1 hH.2.1 X.2.2.2 (walkX52_below hc (x1 := x3) (x2 := x1) (f_thrown := f_thrown) (f_classes := f_classes) (f_things := f_things) (f_axioms := f_axioms) (f_fuel := f_fuel) (f_questions := f_questions) (f_sorted := f_sorted) (f_left := f_left) (f_other := f_other) (f_right := f_right) (f_there := f_there) (f_member := f_member) (f_state := f_state) (f_before := f_before) (f_placed := f_placed) (f_looked := f_looked) (f_fact := f_fact) (f_maker := f_maker) (f_fired := f_fired) (f_firedCount := f_firedCount) (f_needed := f_needed) (f_module := f_module) (f_asked := f_asked) hw) (cwV 2 X.1.2.2.2.2 gX52_77 rfl rfl rfl hX52_below ⟨Nat.le_of_ble_eq_true rfl, Nat.le_of_ble_eq_true rfl⟩) hc (q0 := 0) rfl rfl hl.1 rfl (Nat.le_of_ble_eq_true rfl) dX52_isSecond_25 ⟨Nat.le_refl 0, Nat.le_refl 0⟩) (fun r_10 _ H locs hw hH => ?_)
          have hH : kH (dC, dI) cl A s.heap H locs (wX52 ci ad d f_thrown f_classes f_things f_axioms f_fuel f_questions f_sorted f_left f_other f_right f_there f_member f_state f_before f_placed f_looked f_fact f_maker f_fired f_firedCount f_needed f_module f_asked) := hH
          refine lv_if_eq (tgt := 44) hx hb dX52_isSecond_28 (by decide) (fun c_11 => ?_) (fun c_11 => ?_)
          · have hw := hw.1 (z_eq (rfl : r_10.toInt = _) (rfl : (0 : Int32).toInt = 0) c_11)
            refine lv_iconst (v := 0) hx hb dX52_isSecond_44 (by decide) ?_
            refine lv_istore_n (lv' := [(2, .int 0), (0, .ref (ad 0)), (1, .int x1), (3, .int x3)]) hx hb dX52_isSecond_45 rfl hl (by decide) rfl (fun ls hl => ?_)
            have hq_13 := hw.1
            have hw := hw.2
            obtain ⟨x3_12, ex3_12⟩ : ∃ y : Int32, y = x3 + 1 := ⟨_, rfl⟩
            have hw := hw x3_12.toInt (by rw [ex3_12]; exact (z_x (z_add (z_m (rfl : x3.toInt = _)) (z_m (rfl : (1 : Int32).toInt = 1))) hq_13))
            refine lv_iinc (v := x3_12) (lv' := [(3, .int x3_12), (2, .int 0), (0, .ref (ad 0)), (1, .int x1)]) hx hb dX52_isSecond_46 hl (k := 3) rfl (by rw [ex3_12]; rfl) (by decide) rfl (fun ls hl => ?_)
            refine lv_goto (tgt := 4) hx hb dX52_isSecond_49 (by decide) ?_
            exact ih 0 x3_12 hw _ _ ls hH (lv_sub hl [2, 3, 1, 0] rfl)
          · have hw := hw.2 (z_neq (rfl : r_10.toInt = _) (rfl : (0 : Int32).toInt = 0) c_11)
            refine lv_aload_n hx hb dX52_isSecond_31 rfl (lv_at hl 0 rfl) ?_
            refine lv_iload_n hx hb dX52_isSecond_32 rfl (lv_at hl 1 rfl) ?_
            refine lv_iload_n hx hb dX52_isSecond_33 rfl (lv_at hl 3 rfl) ?_
            refine k_i0 hH (k_runV (As := [.int x1, .int x3]) (rest := []) X hH.1 hH.2.1 X.2.2.2 (walkX52_below hc (x1 := x1) (x2 := x3) (f_thrown := f_thrown) (f_classes := f_classes) (f_things := f_things) (f_axioms := f_axioms) (f_fuel := f_fuel) (f_questions := f_questions) (f_sorted := f_sorted) (f_left := f_left) (f_other := f_other) (f_right := f_right) (f_there := f_there) (f_member := f_member) (f_state := f_state) (f_before := f_before) (f_placed := f_placed) (f_looked := f_looked) (f_fact := f_fact) (f_maker := f_maker) (f_fired := f_fired) (f_firedCount := f_firedCount) (f_needed := f_needed) (f_module := f_module) (f_asked := f_asked) hw) (cwV 2 X.1.2.2.2.2 gX52_77 rfl rfl rfl hX52_below ⟨Nat.le_of_ble_eq_true rfl, Nat.le_of_ble_eq_true rfl⟩) hc (q0 := 0) rfl rfl hl.1 rfl (Nat.le_of_ble_eq_true rfl) dX52_isSecond_34 ⟨Nat.le_refl 0, Nat.le_refl 0⟩) (fun r_14 _ H locs hw hH => ?_)
            have hH : kH (dC, dI) cl A s.heap H locs (wX52 ci ad d f_thrown f_classes f_things f_axioms f_fuel f_questions f_sorted f_left f_other f_right f_there f_member f_state f_before f_placed f_looked f_fact f_maker f_fired f_firedCount f_needed f_module f_asked) := hH
            refine lv_if_eq (tgt := 44) hx hb dX52_isSecond_37 (by decide) (fun c_15 => ?_) (fun c_15 => ?_)
            · have hw := hw.1 (z_eq (rfl : r_14.toInt = _) (rfl : (0 : Int32).toInt = 0) c_15)
              refine lv_iconst (v := 0) hx hb dX52_isSecond_44 (by decide) ?_
              refine lv_istore_n (lv' := [(2, .int 0), (0, .ref (ad 0)), (1, .int x1), (3, .int x3)]) hx hb dX52_isSecond_45 rfl hl (by decide) rfl (fun ls hl => ?_)
              have hq_17 := hw.1
              have hw := hw.2
              obtain ⟨x3_16, ex3_16⟩ : ∃ y : Int32, y = x3 + 1 := ⟨_, rfl⟩
              have hw := hw x3_16.toInt (by rw [ex3_16]; exact (z_x (z_add (z_m (rfl : x3.toInt = _)) (z_m (rfl : (1 : Int32).toInt = 1))) hq_17))
              refine lv_iinc (v := x3_16) (lv' := [(3, .int x3_16), (2, .int 0), (0, .ref (ad 0)), (1, .int x1)]) hx hb dX52_isSecond_46 hl (k := 3) rfl (by rw [ex3_16]; rfl) (by decide) rfl (fun ls hl => ?_)
              refine lv_goto (tgt := 4) hx hb dX52_isSecond_49 (by decide) ?_
              exact ih 0 x3_16 hw _ _ ls hH (lv_sub hl [2, 3, 1, 0] rfl)
            · have hw := hw.2 (z_neq (rfl : r_14.toInt = _) (rfl : (0 : Int32).toInt = 0) c_15)
              refine lv_iconst (v := 1) hx hb dX52_isSecond_40 (by decide) ?_
              refine lv_goto (tgt := 45) hx hb dX52_isSecond_41 (by decide) ?_
              refine lv_istore_n (lv' := [(2, .int 1), (0, .ref (ad 0)), (1, .int x1), (3, .int x3)]) hx hb dX52_isSecond_45 rfl hl (by decide) rfl (fun ls hl => ?_)
              have hq_19 := hw.1
              have hw := hw.2
              obtain ⟨x3_18, ex3_18⟩ : ∃ y : Int32, y = x3 + 1 := ⟨_, rfl⟩
              have hw := hw x3_18.toInt (by rw [ex3_18]; exact (z_x (z_add (z_m (rfl : x3.toInt = _)) (z_m (rfl : (1 : Int32).toInt = 1))) hq_19))
              refine lv_iinc (v := x3_18) (lv' := [(3, .int x3_18), (2, .int 1), (0, .ref (ad 0)), (1, .int x1)]) hx hb dX52_isSecond_46 hl (k := 3) rfl (by rw [ex3_18]; rfl) (by decide) rfl (fun ls hl => ?_)
              refine lv_goto (tgt := 4) hx hb dX52_isSecond_49 (by decide) ?_
              exact ih 1 x3_18 hw _ _ ls hH (lv_sub hl [2, 3, 1, 0] rfl)
set_option maxHeartbeats 4000000 in
theorem walkX52_isSecond {l : Launch} {dC : Nat → ClassId} {dI : Nat → Nat → Nat} {cl : List vw_C} {ci : Nat} (hc : cl[ci]? = some (RX52, TX52, 23)) {ad : Nat → Nat} {d : Nat → ClassId} {sz : Nat} {f_thrown : Int32} {f_classes : Int32} {f_things : Int32} {f_axioms : Int32} {f_fuel : Int32} {f_questions : Int32} {f_sorted : Int32} {f_left : Nat → Int32} {f_other : Nat → Int32} {f_right : Nat → Int32} {f_there : Nat → Int32} {f_member : Nat → Int32} {f_state : Nat → Int32} {f_before : Nat → Int32} {f_placed : Nat → Int32} {f_looked : Nat → Int32} {f_fact : Nat → Int32} {f_maker : Nat → Int32} {f_fired : Nat → Int32} {f_firedCount : Int32} {f_needed : Nat → Int32} {f_module : Nat → Int32} {f_asked : Int32} {x1 : Int32} {post : Int → Prop} (hw : wpX52_isSecond post (zF f_state) (zF f_placed) x1.toInt) :
    Met l yX52_isSecond (ws_ yX52_isSecond cX52_isSecond 4 (some .boolean)) ({ frames := 1, cells := 0, slots := 0, locals := 22 } : Room) (kPc (dC, dI) cl (tX52 d) [.ref (ad 0), .int x1] sz (wX52 ci ad d f_thrown f_classes f_things f_axioms f_fuel f_questions f_sorted f_left f_other f_right f_there f_member f_state f_before f_placed f_looked f_fact f_maker f_fired f_firedCount f_needed f_module f_asked)) (va_Qi (fun (r : Int32) (_ : Unit) => post r.toInt) (kB (dC, dI) cl (tX52 d) (va_A (wX52 ci ad d f_thrown f_classes f_things f_axioms f_fuel f_questions f_sorted f_left f_other f_right f_there f_member f_state f_before f_placed f_looked f_fact f_maker f_fired f_firedCount f_needed f_module f_asked) sz) (fun _ : Unit => (wX52 ci ad d f_thrown f_classes f_things f_axioms f_fuel f_questions f_sorted f_left f_other f_right f_there f_member f_state f_before f_placed f_looked f_fact f_maker f_fired f_firedCount f_needed f_module f_asked))) (va_A (wX52 ci ad d f_thrown f_classes f_things f_axioms f_fuel f_questions f_sorted f_left f_other f_right f_there f_member f_state f_before f_placed f_looked f_fact f_maker f_fired f_firedCount f_needed f_module f_asked) sz)) 0 0 (va_A (wX52 ci ad d f_thrown f_classes f_things f_axioms f_fuel f_questions f_sorted f_left f_other f_right f_there f_member f_state f_before f_placed f_looked f_fact f_maker f_fired f_firedCount f_needed f_module f_asked) sz) := by
  refine k_enter (by decide) (Nat.le_of_ble_eq_true rfl) ?_
  intro p e s m below meth c ls X hsz hH hl
  subst hsz
  generalize va_A (wX52 ci ad d f_thrown f_classes f_things f_axioms f_fuel f_questions f_sorted f_left f_other f_right f_there f_member f_state f_before f_placed f_looked f_fact f_maker f_fired f_firedCount f_needed f_module f_asked) s.heap.size = A at hH ⊢
  have hx := X.1.1
  have hb := X.1.2.1
  have hl : lv_has ls 4 [(0, .ref (ad 0)), (1, .int x1)] := hl
  unfold wpX52_isSecond at hw
  refine lv_iconst (v := 0) hx hb dX52_isSecond_0 (by decide) ?_
  refine lv_istore_n (lv' := [(2, .int 0), (0, .ref (ad 0)), (1, .int x1)]) hx hb dX52_isSecond_1 rfl hl (by decide) rfl (fun ls hl => ?_)
  refine lv_iconst (v := 0) hx hb dX52_isSecond_2 (by decide) ?_
  refine lv_istore_n (lv' := [(3, .int 0), (2, .int 0), (0, .ref (ad 0)), (1, .int x1)]) hx hb dX52_isSecond_3 rfl hl (by decide) rfl (fun ls hl => ?_)
  obtain ⟨fu, hw⟩ := hw
  refine atX52_isSecond_4 hc X ?_ fu 0 0 hw _ _ ls hH (lv_sub hl [2, 3, 1, 0] rfl)
  · intro x2_20 hw H locs ls hH hl
    refine lv_iload_n hx hb dX52_isSecond_52 rfl (lv_at hl 0 rfl) ?_
    have hq_21 := hw.1
    have hw := hw.2
    exact k_iret (v := x2_20) X hH () hw rfl (k_zn (z_boolE (rfl : x2_20.toInt = _) hq_21)) dX52_isSecond_53
set_option maxHeartbeats 4000000 in
theorem atX52_hasBelow_4 {p : Program} {l : Launch} {e : Env} {s : State} {m : MethodId} {args : Array Value} {below : List Frame} {meth : Method} {c : Code} {dC : Nat → ClassId} {dI : Nat → Nat → Nat} {cl : List vw_C} {ci : Nat} (hc : cl[ci]? = some (RX52, TX52, 23)) {ad : Nat → Nat} {d : Nat → ClassId} {A : Nat → Prop} {post : Int → Prop} {f_thrown : Int32} {f_classes : Int32} {f_things : Int32} {f_axioms : Int32} {f_fuel : Int32} {f_questions : Int32} {f_sorted : Int32} {f_left : Nat → Int32} {f_other : Nat → Int32} {f_right : Nat → Int32} {f_there : Nat → Int32} {f_member : Nat → Int32} {f_state : Nat → Int32} {f_before : Nat → Int32} {f_placed : Nat → Int32} {f_looked : Nat → Int32} {f_fact : Nat → Int32} {f_maker : Nat → Int32} {f_fired : Nat → Int32} {f_firedCount : Int32} {f_needed : Nat → Int32} {f_module : Nat → Int32} {f_asked : Int32} (X : kX p s m args meth c cX52_hasBelow 4 RX52 (some .boolean) (dC, dI) cl (tX52 d)) {K46 : Int → Prop} {x1 : Int32}  (hk46 : ∀ (x2 : Int32), K46 x2.toInt → ∀ (H : Heap) (locs : List Loc) (ls : Array Slot), kH (dC, dI) cl A s.heap H locs (wX52 ci ad d f_thrown f_classes f_things f_axioms f_fuel f_questions f_sorted f_left f_other f_right f_there f_member f_state f_before f_placed f_looked f_fact f_maker f_fired f_firedCount f_needed f_module f_asked) → lv_has ls 4 [(2, .int x2)] → W p l e ({ frames := 3, cells := 0, slots := 0, locals := 68 } : Room) s m args below meth c H locs 0 0 (MQ below (va_Qi (fun (r : Int32) (_ : Unit) => post r.toInt) (kB (dC, dI) cl (tX52 d) A (fun _ : Unit => (wX52 ci ad d f_thrown f_classes f_things f_axioms f_fuel f_questions f_sorted f_left f_other f_right f_there f_member f_state f_before f_placed f_looked f_fact f_maker f_fired f_firedCount f_needed f_module f_asked))) A) args s 0 0 A) (F0 m 46 ls [])) :
    ∀ (nn : Nat) (x2 : Int32) (x3 : Int32), wX52_hasBelow_4 K46 x1.toInt f_classes.toInt (zF f_state) (zF f_placed) nn x2.toInt x3.toInt → ∀ (H : Heap) (locs : List Loc) (ls : Array Slot), kH (dC, dI) cl A s.heap H locs (wX52 ci ad d f_thrown f_classes f_things f_axioms f_fuel f_questions f_sorted f_left f_other f_right f_there f_member f_state f_before f_placed f_looked f_fact f_maker f_fired f_firedCount f_needed f_module f_asked) → lv_has ls 4 [(0, .ref (ad 0)), (1, .int x1), (2, .int x2), (3, .int x3)] → W p l e ({ frames := 3, cells := 0, slots := 0, locals := 68 } : Room) s m args below meth c H locs 0 0 (MQ below (va_Qi (fun (r : Int32) (_ : Unit) => post r.toInt) (kB (dC, dI) cl (tX52 d) A (fun _ : Unit => (wX52 ci ad d f_thrown f_classes f_things f_axioms f_fuel f_questions f_sorted f_left f_other f_right f_there f_member f_state f_before f_placed f_looked f_fact f_maker f_fired f_firedCount f_needed f_module f_asked))) A) args s 0 0 A) (F0 m 4 ls []) := by
  have hx := X.1.1
  have hb := X.1.2.1
  intro nn
  induction nn with
  | zero =>
    intro x2 x3 hw
    exact False.elim hw
  | succ n ih =>
    intro x2 x3 hw H locs ls hH hl
    rw [wX52_hasBelow_4] at hw
    refine lv_iload_n hx hb dX52_hasBelow_4 rfl (lv_at hl 3 rfl) ?_
    refine lv_aload_n hx hb dX52_hasBelow_5 rfl (lv_at hl 0 rfl) ?_
    refine k_get X hH in_X52 0 rfl hc 1 (by decide) q6382 rfl dX52_hasBelow_6 ?_
    refine lv_icmp_ge (tgt := 46) hx hb dX52_hasBelow_9 (by decide) (fun c_1 => ?_) (fun c_1 => ?_)
    · have hw := hw.1 (z_le (rfl : f_classes.toInt = _) (rfl : x3.toInt = _) c_1)
      exact hk46 x2 hw _ _ ls hH (lv_sub hl [2] rfl)
    · have hw := hw.2 (z_nle (rfl : f_classes.toInt = _) (rfl : x3.toInt = _) c_1)
      refine lv_iload_n hx hb dX52_hasBelow_12 rfl (lv_at hl 2 rfl) ?_
      refine lv_if_ne (tgt := 34) hx hb dX52_hasBelow_13 (by decide) (fun c_2 => ?_) (fun c_2 => ?_)
      · have hw := hw.2 (z_ne (rfl : x2.toInt = _) (rfl : (0 : Int32).toInt = 0) c_2)
        refine lv_iconst (v := 1) hx hb dX52_hasBelow_34 (by decide) ?_
        refine lv_goto (tgt := 39) hx hb dX52_hasBelow_35 (by decide) ?_
        refine lv_istore_n (lv' := [(2, .int 1), (0, .ref (ad 0)), (1, .int x1), (3, .int x3)]) hx hb dX52_hasBelow_39 rfl hl (by decide) rfl (fun ls hl => ?_)
        have hq_4 := hw.1
        have hw := hw.2
        obtain ⟨x3_3, ex3_3⟩ : ∃ y : Int32, y = x3 + 1 := ⟨_, rfl⟩
        have hw := hw x3_3.toInt (by rw [ex3_3]; exact (z_x (z_add (z_m (rfl : x3.toInt = _)) (z_m (rfl : (1 : Int32).toInt = 1))) hq_4))
        refine lv_iinc (v := x3_3) (lv' := [(3, .int x3_3), (2, .int 1), (0, .ref (ad 0)), (1, .int x1)]) hx hb dX52_hasBelow_40 hl (k := 3) rfl (by rw [ex3_3]; rfl) (by decide) rfl (fun ls hl => ?_)
        refine lv_goto (tgt := 4) hx hb dX52_hasBelow_43 (by decide) ?_
        exact ih 1 x3_3 hw _ _ ls hH (lv_sub hl [2, 3, 1, 0] rfl)
      · have hw := hw.1 (z_eq (rfl : x2.toInt = _) (rfl : (0 : Int32).toInt = 0) c_2)
        refine lv_aload_n hx hb dX52_hasBelow_16 rfl (lv_at hl 0 rfl) ?_
        refine k_get X hH in_X52 0 rfl hc 14 (by decide) q6395 rfl dX52_hasBelow_17 ?_
        refine lv_iload_n hx hb dX52_hasBelow_20 rfl (lv_at hl 3 rfl) ?_
        have hq_5 := hw.1
        have hw := hw.2
        refine k_zald X hH 8 7 rfl rfl (z_in (rfl : x3.toInt = _) hq_5) dX52_hasBelow_21 ?_
        have e_6 := z_ld (f := f_placed) (rfl : x3.toInt = _) hq_5.1
        refine lv_if_eq (tgt := 38) hx hb dX52_hasBelow_22 (by decide) (fun c_7 => ?_) (fun c_7 => ?_)
        · have hw := hw.1 (z_eq e_6 (rfl : (0 : Int32).toInt = 0) c_7)
          refine lv_iconst (v := 0) hx hb dX52_hasBelow_38 (by decide) ?_
          refine lv_istore_n (lv' := [(2, .int 0), (0, .ref (ad 0)), (1, .int x1), (3, .int x3)]) hx hb dX52_hasBelow_39 rfl hl (by decide) rfl (fun ls hl => ?_)
          have hq_9 := hw.1
          have hw := hw.2
          obtain ⟨x3_8, ex3_8⟩ : ∃ y : Int32, y = x3 + 1 := ⟨_, rfl⟩
          have hw := hw x3_8.toInt (by rw [ex3_8]; exact (z_x (z_add (z_m (rfl : x3.toInt = _)) (z_m (rfl : (1 : Int32).toInt = 1))) hq_9))
          refine lv_iinc (v := x3_8) (lv' := [(3, .int x3_8), (2, .int 0), (0, .ref (ad 0)), (1, .int x1)]) hx hb dX52_hasBelow_40 hl (k := 3) rfl (by rw [ex3_8]; rfl) (by decide) rfl (fun ls hl => ?_)
          refine lv_goto (tgt := 4) hx hb dX52_hasBelow_43 (by decide) ?_
          exact ih 0 x3_8 hw _ _ ls hH (lv_sub hl [2, 3, 1, 0] rfl)
        · have hw := hw.2 (z_neq e_6 (rfl : (0 : Int32).toInt = 0) c_7)
          refine lv_aload_n hx hb dX52_hasBelow_25 rfl (lv_at hl 0 rfl) ?_
          refine lv_iload_n hx hb dX52_hasBelow_26 rfl (lv_at hl 3 rfl) ?_
          refine lv_iload_n hx hb dX52_hasBelow_27 rfl (lv_at hl 1 rfl) ?_
          refine k_i0 hH (k_runV (As := [.int x3, .int x1]) (rest := []) X hH.1 hH.2.1 X.2.2.2 (walkX52_isDirect hc (x1 := x3) (x2 := x1) (f_thrown := f_thrown) (f_classes := f_classes) (f_things := f_things) (f_axioms := f_axioms) (f_fuel := f_fuel) (f_questions := f_questions) (f_sorted := f_sorted) (f_left := f_left) (f_other := f_other) (f_right := f_right) (f_there := f_there) (f_member := f_member) (f_state := f_state) (f_before := f_before) (f_placed := f_placed) (f_looked := f_looked) (f_fact := f_fact) (f_maker := f_maker) (f_fired := f_fired) (f_firedCount := f_firedCount) (f_needed := f_needed) (f_module := f_module) (f_asked := f_asked) hw) (cwV 2 X.1.2.2.2.2 gX52_131 rfl rfl rfl hX52_isDirect ⟨Nat.le_of_ble_eq_true rfl, Nat.le_of_ble_eq_true rfl⟩) hc (q0 := 0) rfl rfl hl.1 rfl (Nat.le_of_ble_eq_true rfl) dX52_hasBelow_28 ⟨Nat.le_refl 0, Nat.le_refl 0⟩) (fun r_10 _ H locs hw hH => ?_)
          have hH : kH (dC, dI) cl A s.heap H locs (wX52 ci ad d f_thrown f_classes f_things f_axioms f_fuel f_questions f_sorted f_left f_other f_right f_there f_member f_state f_before f_placed f_looked f_fact f_maker f_fired f_firedCount f_needed f_module f_asked) := hH
          refine lv_if_eq (tgt := 38) hx hb dX52_hasBelow_31 (by decide) (fun c_11 => ?_) (fun c_11 => ?_)
          · have hw := hw.1 (z_eq (rfl : r_10.toInt = _) (rfl : (0 : Int32).toInt = 0) c_11)
            refine lv_iconst (v := 0) hx hb dX52_hasBelow_38 (by decide) ?_
            refine lv_istore_n (lv' := [(2, .int 0), (0, .ref (ad 0)), (1, .int x1), (3, .int x3)]) hx hb dX52_hasBelow_39 rfl hl (by decide) rfl (fun ls hl => ?_)
            have hq_13 := hw.1
            have hw := hw.2
            obtain ⟨x3_12, ex3_12⟩ : ∃ y : Int32, y = x3 + 1 := ⟨_, rfl⟩
            have hw := hw x3_12.toInt (by rw [ex3_12]; exact (z_x (z_add (z_m (rfl : x3.toInt = _)) (z_m (rfl : (1 : Int32).toInt = 1))) hq_13))
            refine lv_iinc (v := x3_12) (lv' := [(3, .int x3_12), (2, .int 0), (0, .ref (ad 0)), (1, .int x1)]) hx hb dX52_hasBelow_40 hl (k := 3) rfl (by rw [ex3_12]; rfl) (by decide) rfl (fun ls hl => ?_)
            refine lv_goto (tgt := 4) hx hb dX52_hasBelow_43 (by decide) ?_
            exact ih 0 x3_12 hw _ _ ls hH (lv_sub hl [2, 3, 1, 0] rfl)
          · have hw := hw.2 (z_neq (rfl : r_10.toInt = _) (rfl : (0 : Int32).toInt = 0) c_11)
            refine lv_iconst (v := 1) hx hb dX52_hasBelow_34 (by decide) ?_
            refine lv_goto (tgt := 39) hx hb dX52_hasBelow_35 (by decide) ?_
            refine lv_istore_n (lv' := [(2, .int 1), (0, .ref (ad 0)), (1, .int x1), (3, .int x3)]) hx hb dX52_hasBelow_39 rfl hl (by decide) rfl (fun ls hl => ?_)
            have hq_15 := hw.1
            have hw := hw.2
            obtain ⟨x3_14, ex3_14⟩ : ∃ y : Int32, y = x3 + 1 := ⟨_, rfl⟩
            have hw := hw x3_14.toInt (by rw [ex3_14]; exact (z_x (z_add (z_m (rfl : x3.toInt = _)) (z_m (rfl : (1 : Int32).toInt = 1))) hq_15))
            refine lv_iinc (v := x3_14) (lv' := [(3, .int x3_14), (2, .int 1), (0, .ref (ad 0)), (1, .int x1)]) hx hb dX52_hasBelow_40 hl (k := 3) rfl (by rw [ex3_14]; rfl) (by decide) rfl (fun ls hl => ?_)
            refine lv_goto (tgt := 4) hx hb dX52_hasBelow_43 (by decide) ?_
            exact ih 1 x3_14 hw _ _ ls hH (lv_sub hl [2, 3, 1, 0] rfl)
set_option maxHeartbeats 4000000 in
theorem walkX52_hasBelow {l : Launch} {dC : Nat → ClassId} {dI : Nat → Nat → Nat} {cl : List vw_C} {ci : Nat} (hc : cl[ci]? = some (RX52, TX52, 23)) {ad : Nat → Nat} {d : Nat → ClassId} {sz : Nat} {f_thrown : Int32} {f_classes : Int32} {f_things : Int32} {f_axioms : Int32} {f_fuel : Int32} {f_questions : Int32} {f_sorted : Int32} {f_left : Nat → Int32} {f_other : Nat → Int32} {f_right : Nat → Int32} {f_there : Nat → Int32} {f_member : Nat → Int32} {f_state : Nat → Int32} {f_before : Nat → Int32} {f_placed : Nat → Int32} {f_looked : Nat → Int32} {f_fact : Nat → Int32} {f_maker : Nat → Int32} {f_fired : Nat → Int32} {f_firedCount : Int32} {f_needed : Nat → Int32} {f_module : Nat → Int32} {f_asked : Int32} {x1 : Int32} {post : Int → Prop} (hw : wpX52_hasBelow post f_classes.toInt (zF f_state) (zF f_placed) x1.toInt) :
    Met l yX52_hasBelow (ws_ yX52_hasBelow cX52_hasBelow 4 (some .boolean)) ({ frames := 3, cells := 0, slots := 0, locals := 68 } : Room) (kPc (dC, dI) cl (tX52 d) [.ref (ad 0), .int x1] sz (wX52 ci ad d f_thrown f_classes f_things f_axioms f_fuel f_questions f_sorted f_left f_other f_right f_there f_member f_state f_before f_placed f_looked f_fact f_maker f_fired f_firedCount f_needed f_module f_asked)) (va_Qi (fun (r : Int32) (_ : Unit) => post r.toInt) (kB (dC, dI) cl (tX52 d) (va_A (wX52 ci ad d f_thrown f_classes f_things f_axioms f_fuel f_questions f_sorted f_left f_other f_right f_there f_member f_state f_before f_placed f_looked f_fact f_maker f_fired f_firedCount f_needed f_module f_asked) sz) (fun _ : Unit => (wX52 ci ad d f_thrown f_classes f_things f_axioms f_fuel f_questions f_sorted f_left f_other f_right f_there f_member f_state f_before f_placed f_looked f_fact f_maker f_fired f_firedCount f_needed f_module f_asked))) (va_A (wX52 ci ad d f_thrown f_classes f_things f_axioms f_fuel f_questions f_sorted f_left f_other f_right f_there f_member f_state f_before f_placed f_looked f_fact f_maker f_fired f_firedCount f_needed f_module f_asked) sz)) 0 0 (va_A (wX52 ci ad d f_thrown f_classes f_things f_axioms f_fuel f_questions f_sorted f_left f_other f_right f_there f_member f_state f_before f_placed f_looked f_fact f_maker f_fired f_firedCount f_needed f_module f_asked) sz) := by
  refine k_enter (by decide) (Nat.le_of_ble_eq_true rfl) ?_
  intro p e s m below meth c ls X hsz hH hl
  subst hsz
  generalize va_A (wX52 ci ad d f_thrown f_classes f_things f_axioms f_fuel f_questions f_sorted f_left f_other f_right f_there f_member f_state f_before f_placed f_looked f_fact f_maker f_fired f_firedCount f_needed f_module f_asked) s.heap.size = A at hH ⊢
  have hx := X.1.1
  have hb := X.1.2.1
  have hl : lv_has ls 4 [(0, .ref (ad 0)), (1, .int x1)] := hl
  unfold wpX52_hasBelow at hw
  refine lv_iconst (v := 0) hx hb dX52_hasBelow_0 (by decide) ?_
  refine lv_istore_n (lv' := [(2, .int 0), (0, .ref (ad 0)), (1, .int x1)]) hx hb dX52_hasBelow_1 rfl hl (by decide) rfl (fun ls hl => ?_)
  refine lv_iconst (v := 0) hx hb dX52_hasBelow_2 (by decide) ?_
  refine lv_istore_n (lv' := [(3, .int 0), (2, .int 0), (0, .ref (ad 0)), (1, .int x1)]) hx hb dX52_hasBelow_3 rfl hl (by decide) rfl (fun ls hl => ?_)
  obtain ⟨fu, hw⟩ := hw
  refine atX52_hasBelow_4 hc X ?_ fu 0 0 hw _ _ ls hH (lv_sub hl [2, 3, 1, 0] rfl)
  · intro x2_16 hw H locs ls hH hl
    refine lv_iload_n hx hb dX52_hasBelow_46 rfl (lv_at hl 0 rfl) ?_
    have hq_17 := hw.1
    have hw := hw.2
    exact k_iret (v := x2_16) X hH () hw rfl (k_zn (z_boolE (rfl : x2_16.toInt = _) hq_17)) dX52_hasBelow_47
set_option maxHeartbeats 4000000 in
theorem atX52_parent_107 {p : Program} {l : Launch} {e : Env} {s : State} {m : MethodId} {args : Array Value} {below : List Frame} {meth : Method} {c : Code} {dC : Nat → ClassId} {dI : Nat → Nat → Nat} {cl : List vw_C} {ci : Nat} (hc : cl[ci]? = some (RX52, TX52, 23)) {ad : Nat → Nat} {d : Nat → ClassId} {A : Nat → Prop} {post : Int → Prop} {f_thrown : Int32} {f_classes : Int32} {f_things : Int32} {f_axioms : Int32} {f_fuel : Int32} {f_questions : Int32} {f_sorted : Int32} {f_left : Nat → Int32} {f_other : Nat → Int32} {f_right : Nat → Int32} {f_there : Nat → Int32} {f_member : Nat → Int32} {f_state : Nat → Int32} {f_before : Nat → Int32} {f_placed : Nat → Int32} {f_looked : Nat → Int32} {f_fact : Nat → Int32} {f_maker : Nat → Int32} {f_fired : Nat → Int32} {f_firedCount : Int32} {f_needed : Nat → Int32} {f_module : Nat → Int32} {f_asked : Int32} (X : kX p s m args meth c cX52_parent 6 RX52 (some .int) (dC, dI) cl (tX52 d)) {K25 : Int → Int → Prop} {x1 : Int32} {x2 : Int32}  (hk25 : ∀ (x3 : Int32) (x4 : Int32), K25 x3.toInt x4.toInt → ∀ (H : Heap) (locs : List Loc) (ls : Array Slot), kH (dC, dI) cl A s.heap H locs (wX52 ci ad d f_thrown f_classes f_things f_axioms f_fuel f_questions f_sorted f_left f_other f_right f_there f_member f_state f_before f_placed f_looked f_fact f_maker f_fired f_firedCount f_needed f_module f_asked) → lv_has ls 6 [(0, .ref (ad 0)), (1, .int x1), (2, .int x2), (3, .int x3), (4, .int x4)] → W p l e ({ frames := 4, cells := 0, slots := 0, locals := 91 } : Room) s m args below meth c H locs 0 0 (MQ below (va_Qi (fun (r : Int32) (_ : Unit) => post r.toInt) (kB (dC, dI) cl (tX52 d) A (fun _ : Unit => (wX52 ci ad d f_thrown f_classes f_things f_axioms f_fuel f_questions f_sorted f_left f_other f_right f_there f_member f_state f_before f_placed f_looked f_fact f_maker f_fired f_firedCount f_needed f_module f_asked))) A) args s 0 0 A) (F0 m 25 ls [])) :
    ∀ (x3 : Int32) (x4 : Int32) (x5 : Int32), wX52_parent_107 K25 x3.toInt x4.toInt x5.toInt → ∀ (H : Heap) (locs : List Loc) (ls : Array Slot), kH (dC, dI) cl A s.heap H locs (wX52 ci ad d f_thrown f_classes f_things f_axioms f_fuel f_questions f_sorted f_left f_other f_right f_there f_member f_state f_before f_placed f_looked f_fact f_maker f_fired f_firedCount f_needed f_module f_asked) → lv_has ls 6 [(0, .ref (ad 0)), (1, .int x1), (2, .int x2), (3, .int x3), (4, .int x4), (5, .int x5)] → W p l e ({ frames := 4, cells := 0, slots := 0, locals := 91 } : Room) s m args below meth c H locs 0 0 (MQ below (va_Qi (fun (r : Int32) (_ : Unit) => post r.toInt) (kB (dC, dI) cl (tX52 d) A (fun _ : Unit => (wX52 ci ad d f_thrown f_classes f_things f_axioms f_fuel f_questions f_sorted f_left f_other f_right f_there f_member f_state f_before f_placed f_looked f_fact f_maker f_fired f_firedCount f_needed f_module f_asked))) A) args s 0 0 A) (F0 m 107 ls []) := by
  have hx := X.1.1
  have hb := X.1.2.1
  intro x3 x4 x5 hw H locs ls hH hl
  unfold wX52_parent_107 at hw
  refine lv_iload_n hx hb dX52_parent_107 rfl (lv_at hl 3 rfl) ?_
  refine lv_iload hx hb dX52_parent_108 (lv_at hl 5 rfl) ?_
  refine lv_if_eq (tgt := 117) hx hb dX52_parent_110 (by decide) (fun c_10 => ?_) (fun c_10 => ?_)
  · have hw := hw.1 (z_eq (rfl : x5.toInt = _) (rfl : (0 : Int32).toInt = 0) c_10)
    refine lv_iconst (v := 0) hx hb dX52_parent_117 (by decide) ?_
    refine lv_isub hx hb dX52_parent_118 ?_
    have e_11 := z_sub (z_m (rfl : x3.toInt = _)) (z_m (rfl : (0 : Int32).toInt = 0))
    have hq_12 := hw.1
    have hw := hw.2
    have e_13 := z_x e_11 hq_12
    refine lv_topi (fun x3_14 ex3_14 => ?_)
    have hw := hw x3_14.toInt (by rw [ex3_14]; exact e_13)
    refine lv_istore_n (lv' := [(3, .int x3_14), (0, .ref (ad 0)), (1, .int x1), (2, .int x2), (4, .int x4), (5, .int x5)]) hx hb dX52_parent_119 rfl hl (by decide) rfl (fun ls hl => ?_)
    have hq_16 := hw.1
    have hw := hw.2
    obtain ⟨x4_15, ex4_15⟩ : ∃ y : Int32, y = x4 + 1 := ⟨_, rfl⟩
    have hw := hw x4_15.toInt (by rw [ex4_15]; exact (z_x (z_add (z_m (rfl : x4.toInt = _)) (z_m (rfl : (1 : Int32).toInt = 1))) hq_16))
    refine lv_iinc (v := x4_15) (lv' := [(4, .int x4_15), (3, .int x3_14), (0, .ref (ad 0)), (1, .int x1), (2, .int x2), (5, .int x5)]) hx hb dX52_parent_120 hl (k := 4) rfl (by rw [ex4_15]; rfl) (by decide) rfl (fun ls hl => ?_)
    refine lv_goto (tgt := 25) hx hb dX52_parent_123 (by decide) ?_
    exact hk25 x3_14 x4_15 hw _ _ ls hH (lv_sub hl [2, 3, 4, 1, 0] rfl)
  · have hw := hw.2 (z_neq (rfl : x5.toInt = _) (rfl : (0 : Int32).toInt = 0) c_10)
    refine lv_iconst (v := 1) hx hb dX52_parent_113 (by decide) ?_
    refine lv_goto (tgt := 118) hx hb dX52_parent_114 (by decide) ?_
    refine lv_isub hx hb dX52_parent_118 ?_
    have e_17 := z_sub (z_m (rfl : x3.toInt = _)) (z_m (rfl : (1 : Int32).toInt = 1))
    have hq_18 := hw.1
    have hw := hw.2
    have e_19 := z_x e_17 hq_18
    refine lv_topi (fun x3_20 ex3_20 => ?_)
    have hw := hw x3_20.toInt (by rw [ex3_20]; exact e_19)
    refine lv_istore_n (lv' := [(3, .int x3_20), (0, .ref (ad 0)), (1, .int x1), (2, .int x2), (4, .int x4), (5, .int x5)]) hx hb dX52_parent_119 rfl hl (by decide) rfl (fun ls hl => ?_)
    have hq_22 := hw.1
    have hw := hw.2
    obtain ⟨x4_21, ex4_21⟩ : ∃ y : Int32, y = x4 + 1 := ⟨_, rfl⟩
    have hw := hw x4_21.toInt (by rw [ex4_21]; exact (z_x (z_add (z_m (rfl : x4.toInt = _)) (z_m (rfl : (1 : Int32).toInt = 1))) hq_22))
    refine lv_iinc (v := x4_21) (lv' := [(4, .int x4_21), (3, .int x3_20), (0, .ref (ad 0)), (1, .int x1), (2, .int x2), (5, .int x5)]) hx hb dX52_parent_120 hl (k := 4) rfl (by rw [ex4_21]; rfl) (by decide) rfl (fun ls hl => ?_)
    refine lv_goto (tgt := 25) hx hb dX52_parent_123 (by decide) ?_
    exact hk25 x3_20 x4_21 hw _ _ ls hH (lv_sub hl [2, 3, 4, 1, 0] rfl)
set_option maxHeartbeats 4000000 in
theorem atX52_parent_25 {p : Program} {l : Launch} {e : Env} {s : State} {m : MethodId} {args : Array Value} {below : List Frame} {meth : Method} {c : Code} {dC : Nat → ClassId} {dI : Nat → Nat → Nat} {cl : List vw_C} {ci : Nat} (hc : cl[ci]? = some (RX52, TX52, 23)) {ad : Nat → Nat} {d : Nat → ClassId} {A : Nat → Prop} {post : Int → Prop} {f_thrown : Int32} {f_classes : Int32} {f_things : Int32} {f_axioms : Int32} {f_fuel : Int32} {f_questions : Int32} {f_sorted : Int32} {f_left : Nat → Int32} {f_other : Nat → Int32} {f_right : Nat → Int32} {f_there : Nat → Int32} {f_member : Nat → Int32} {f_state : Nat → Int32} {f_before : Nat → Int32} {f_placed : Nat → Int32} {f_looked : Nat → Int32} {f_fact : Nat → Int32} {f_maker : Nat → Int32} {f_fired : Nat → Int32} {f_firedCount : Int32} {f_needed : Nat → Int32} {f_module : Nat → Int32} {f_asked : Int32} (X : kX p s m args meth c cX52_parent 6 RX52 (some .int) (dC, dI) cl (tX52 d)) {K104 : Int → Prop} {K126 : Prop} {x1 : Int32} {x2 : Int32}  (hk104 : ∀ (x4 : Int32), K104 x4.toInt → ∀ (H : Heap) (locs : List Loc) (ls : Array Slot), kH (dC, dI) cl A s.heap H locs (wX52 ci ad d f_thrown f_classes f_things f_axioms f_fuel f_questions f_sorted f_left f_other f_right f_there f_member f_state f_before f_placed f_looked f_fact f_maker f_fired f_firedCount f_needed f_module f_asked) → lv_has ls 6 [(4, .int x4)] → W p l e ({ frames := 4, cells := 0, slots := 0, locals := 91 } : Room) s m args below meth c H locs 0 0 (MQ below (va_Qi (fun (r : Int32) (_ : Unit) => post r.toInt) (kB (dC, dI) cl (tX52 d) A (fun _ : Unit => (wX52 ci ad d f_thrown f_classes f_things f_axioms f_fuel f_questions f_sorted f_left f_other f_right f_there f_member f_state f_before f_placed f_looked f_fact f_maker f_fired f_firedCount f_needed f_module f_asked))) A) args s 0 0 A) (F0 m 104 ls [])) (hk126 : K126  → ∀ (H : Heap) (locs : List Loc) (ls : Array Slot), kH (dC, dI) cl A s.heap H locs (wX52 ci ad d f_thrown f_classes f_things f_axioms f_fuel f_questions f_sorted f_left f_other f_right f_there f_member f_state f_before f_placed f_looked f_fact f_maker f_fired f_firedCount f_needed f_module f_asked) → lv_has ls 6 [] → W p l e ({ frames := 4, cells := 0, slots := 0, locals := 91 } : Room) s m args below meth c H locs 0 0 (MQ below (va_Qi (fun (r : Int32) (_ : Unit) => post r.toInt) (kB (dC, dI) cl (tX52 d) A (fun _ : Unit => (wX52 ci ad d f_thrown f_classes f_things f_axioms f_fuel f_questions f_sorted f_left f_other f_right f_there f_member f_state f_before f_placed f_looked f_fact f_maker f_fired f_firedCount f_needed f_module f_asked))) A) args s 0 0 A) (F0 m 126 ls [])) :
    ∀ (nn : Nat) (x3 : Int32) (x4 : Int32), wX52_parent_25 K104 K126 x1.toInt x2.toInt f_classes.toInt (zF f_state) (zF f_placed) nn x3.toInt x4.toInt → ∀ (H : Heap) (locs : List Loc) (ls : Array Slot), kH (dC, dI) cl A s.heap H locs (wX52 ci ad d f_thrown f_classes f_things f_axioms f_fuel f_questions f_sorted f_left f_other f_right f_there f_member f_state f_before f_placed f_looked f_fact f_maker f_fired f_firedCount f_needed f_module f_asked) → lv_has ls 6 [(0, .ref (ad 0)), (1, .int x1), (2, .int x2), (3, .int x3), (4, .int x4)] → W p l e ({ frames := 4, cells := 0, slots := 0, locals := 91 } : Room) s m args below meth c H locs 0 0 (MQ below (va_Qi (fun (r : Int32) (_ : Unit) => post r.toInt) (kB (dC, dI) cl (tX52 d) A (fun _ : Unit => (wX52 ci ad d f_thrown f_classes f_things f_axioms f_fuel f_questions f_sorted f_left f_other f_right f_there f_member f_state f_before f_placed f_looked f_fact f_maker f_fired f_firedCount f_needed f_module f_asked))) A) args s 0 0 A) (F0 m 25 ls []) := by
  have hx := X.1.1
  have hb := X.1.2.1
  intro nn
  induction nn with
  | zero =>
    intro x3 x4 hw
    exact False.elim hw
  | succ n ih =>
    intro x3 x4 hw H locs ls hH hl
    rw [wX52_parent_25] at hw
    refine lv_iload hx hb dX52_parent_25 (lv_at hl 4 rfl) ?_
    refine lv_aload_n hx hb dX52_parent_27 rfl (lv_at hl 0 rfl) ?_
    refine k_get X hH in_X52 0 rfl hc 1 (by decide) q6382 rfl dX52_parent_28 ?_
    refine lv_icmp_ge (tgt := 126) hx hb dX52_parent_31 (by decide) (fun c_4 => ?_) (fun c_4 => ?_)
    · have hw := hw.1 (z_le (rfl : f_classes.toInt = _) (rfl : x4.toInt = _) c_4)
      exact hk126  hw _ _ ls hH (lv_sub hl [] rfl)
    · have hw := hw.2 (z_nle (rfl : f_classes.toInt = _) (rfl : x4.toInt = _) c_4)
      refine lv_iload_n hx hb dX52_parent_34 rfl (lv_at hl 2 rfl) ?_
      refine lv_if_lt (tgt := 126) hx hb dX52_parent_35 (by decide) (fun c_5 => ?_) (fun c_5 => ?_)
      · have hw := hw.1 (z_lt (rfl : x2.toInt = _) (rfl : (0 : Int32).toInt = 0) c_5)
        exact hk126  hw _ _ ls hH (lv_sub hl [] rfl)
      · have hw := hw.2 (z_nlt (rfl : x2.toInt = _) (rfl : (0 : Int32).toInt = 0) c_5)
        refine lv_aload_n hx hb dX52_parent_38 rfl (lv_at hl 0 rfl) ?_
        refine k_get X hH in_X52 0 rfl hc 14 (by decide) q6395 rfl dX52_parent_39 ?_
        refine lv_iload hx hb dX52_parent_42 (lv_at hl 4 rfl) ?_
        have hq_6 := hw.1
        have hw := hw.2
        refine k_zald X hH 8 7 rfl rfl (z_in (rfl : x4.toInt = _) hq_6) dX52_parent_44 ?_
        have e_7 := z_ld (f := f_placed) (rfl : x4.toInt = _) hq_6.1
        refine lv_if_eq (tgt := 92) hx hb dX52_parent_45 (by decide) (fun c_8 => ?_) (fun c_8 => ?_)
        · have hw := hw.1 (z_eq e_7 (rfl : (0 : Int32).toInt = 0) c_8)
          refine lv_iconst (v := 0) hx hb dX52_parent_92 (by decide) ?_
          refine lv_istore (lv' := [(5, .int 0), (0, .ref (ad 0)), (1, .int x1), (2, .int x2), (3, .int x3), (4, .int x4)]) hx hb dX52_parent_93 hl (by decide) rfl (fun ls hl => ?_)
          refine lv_iload hx hb dX52_parent_95 (lv_at hl 0 rfl) ?_
          refine lv_if_eq (tgt := 107) hx hb dX52_parent_97 (by decide) (fun c_9 => ?_) (fun c_9 => ?_)
          · have hw := hw.1 (z_eq (rfl : (0 : Int32).toInt = 0) (rfl : (0 : Int32).toInt = 0) c_9)
            exact atX52_parent_107 hc X (fun x3 x4 hw H locs ls hH hl => ih x3 x4 hw _ _ ls hH (lv_sub hl [0, 1, 2, 3, 4] rfl)) x3 x4 0 hw _ _ ls hH (lv_sub hl [1, 2, 3, 4, 5, 0] rfl)
          · have hw := hw.2 (z_neq (rfl : (0 : Int32).toInt = 0) (rfl : (0 : Int32).toInt = 0) c_9)
            refine lv_iload_n hx hb dX52_parent_100 rfl (lv_at hl 4 rfl) ?_
            refine lv_if_ne (tgt := 107) hx hb dX52_parent_101 (by decide) (fun c_23 => ?_) (fun c_23 => ?_)
            · have hw := hw.2 (z_ne (rfl : x3.toInt = _) (rfl : (0 : Int32).toInt = 0) c_23)
              exact atX52_parent_107 hc X (fun x3 x4 hw H locs ls hH hl => ih x3 x4 hw _ _ ls hH (lv_sub hl [0, 1, 2, 3, 4] rfl)) x3 x4 0 hw _ _ ls hH (lv_sub hl [1, 2, 3, 4, 5, 0] rfl)
            · have hw := hw.1 (z_eq (rfl : x3.toInt = _) (rfl : (0 : Int32).toInt = 0) c_23)
              exact hk104 x4 hw _ _ ls hH (lv_sub hl [5] rfl)
        · have hw := hw.2 (z_neq e_7 (rfl : (0 : Int32).toInt = 0) c_8)
          refine lv_aload_n hx hb dX52_parent_48 rfl (lv_at hl 0 rfl) ?_
          refine lv_iload hx hb dX52_parent_49 (lv_at hl 4 rfl) ?_
          refine k_i0 hH (k_runV (As := [.int x4]) (rest := []) X hH.1 hH.2.1 X.2.2.2 (walkX52_isSecond hc (x1 := x4) (f_thrown := f_thrown) (f_classes := f_classes) (f_things := f_things) (f_axioms := f_axioms) (f_fuel := f_fuel) (f_questions := f_questions) (f_sorted := f_sorted) (f_left := f_left) (f_other := f_other) (f_right := f_right) (f_there := f_there) (f_member := f_member) (f_state := f_state) (f_before := f_before) (f_placed := f_placed) (f_looked := f_looked) (f_fact := f_fact) (f_maker := f_maker) (f_fired := f_fired) (f_firedCount := f_firedCount) (f_needed := f_needed) (f_module := f_module) (f_asked := f_asked) hw) (cwV 1 X.1.2.2.2.2 gX52_148 rfl rfl rfl hX52_isSecond ⟨Nat.le_of_ble_eq_true rfl, Nat.le_of_ble_eq_true rfl⟩) hc (q0 := 0) rfl rfl hl.1 rfl (Nat.le_of_ble_eq_true rfl) dX52_parent_51 ⟨Nat.le_refl 0, Nat.le_refl 0⟩) (fun r_24 _ H locs hw hH => ?_)
          have hH : kH (dC, dI) cl A s.heap H locs (wX52 ci ad d f_thrown f_classes f_things f_axioms f_fuel f_questions f_sorted f_left f_other f_right f_there f_member f_state f_before f_placed f_looked f_fact f_maker f_fired f_firedCount f_needed f_module f_asked) := hH
          refine lv_if_ne (tgt := 92) hx hb dX52_parent_54 (by decide) (fun c_25 => ?_) (fun c_25 => ?_)
          · have hw := hw.2 (z_ne (rfl : r_24.toInt = _) (rfl : (0 : Int32).toInt = 0) c_25)
            refine lv_iconst (v := 0) hx hb dX52_parent_92 (by decide) ?_
            refine lv_istore (lv' := [(5, .int 0), (0, .ref (ad 0)), (1, .int x1), (2, .int x2), (3, .int x3), (4, .int x4)]) hx hb dX52_parent_93 hl (by decide) rfl (fun ls hl => ?_)
            refine lv_iload hx hb dX52_parent_95 (lv_at hl 0 rfl) ?_
            refine lv_if_eq (tgt := 107) hx hb dX52_parent_97 (by decide) (fun c_26 => ?_) (fun c_26 => ?_)
            · have hw := hw.1 (z_eq (rfl : (0 : Int32).toInt = 0) (rfl : (0 : Int32).toInt = 0) c_26)
              exact atX52_parent_107 hc X (fun x3 x4 hw H locs ls hH hl => ih x3 x4 hw _ _ ls hH (lv_sub hl [0, 1, 2, 3, 4] rfl)) x3 x4 0 hw _ _ ls hH (lv_sub hl [1, 2, 3, 4, 5, 0] rfl)
            · have hw := hw.2 (z_neq (rfl : (0 : Int32).toInt = 0) (rfl : (0 : Int32).toInt = 0) c_26)
              refine lv_iload_n hx hb dX52_parent_100 rfl (lv_at hl 4 rfl) ?_
              refine lv_if_ne (tgt := 107) hx hb dX52_parent_101 (by decide) (fun c_27 => ?_) (fun c_27 => ?_)
              · have hw := hw.2 (z_ne (rfl : x3.toInt = _) (rfl : (0 : Int32).toInt = 0) c_27)
                exact atX52_parent_107 hc X (fun x3 x4 hw H locs ls hH hl => ih x3 x4 hw _ _ ls hH (lv_sub hl [0, 1, 2, 3, 4] rfl)) x3 x4 0 hw _ _ ls hH (lv_sub hl [1, 2, 3, 4, 5, 0] rfl)
              · have hw := hw.1 (z_eq (rfl : x3.toInt = _) (rfl : (0 : Int32).toInt = 0) c_27)
                exact hk104 x4 hw _ _ ls hH (lv_sub hl [5] rfl)
          · have hw := hw.1 (z_eq (rfl : r_24.toInt = _) (rfl : (0 : Int32).toInt = 0) c_25)
            refine lv_aload_n hx hb dX52_parent_57 rfl (lv_at hl 0 rfl) ?_
            refine k_get X hH in_X52 0 rfl hc 14 (by decide) q6395 rfl dX52_parent_58 ?_
            refine lv_iload_n hx hb dX52_parent_61 rfl (lv_at hl 1 rfl) ?_
            have hq_28 := hw.1
            have hw := hw.2
            refine k_zald X hH 8 7 rfl rfl (z_in (rfl : x1.toInt = _) hq_28) dX52_parent_62 ?_
            have e_29 := z_ld (f := f_placed) (rfl : x1.toInt = _) hq_28.1
            refine lv_if_eq (tgt := 79) hx hb dX52_parent_63 (by decide) (fun c_30 => ?_) (fun c_30 => ?_)
            · have hw := hw.1 (z_eq e_29 (rfl : (0 : Int32).toInt = 0) c_30)
              refine lv_aload_n hx hb dX52_parent_79 rfl (lv_at hl 0 rfl) ?_
              refine lv_iload hx hb dX52_parent_80 (lv_at hl 4 rfl) ?_
              refine k_i0 hH (k_runV (As := [.int x4]) (rest := []) X hH.1 hH.2.1 X.2.2.2 (walkX52_hasBelow hc (x1 := x4) (f_thrown := f_thrown) (f_classes := f_classes) (f_things := f_things) (f_axioms := f_axioms) (f_fuel := f_fuel) (f_questions := f_questions) (f_sorted := f_sorted) (f_left := f_left) (f_other := f_other) (f_right := f_right) (f_there := f_there) (f_member := f_member) (f_state := f_state) (f_before := f_before) (f_placed := f_placed) (f_looked := f_looked) (f_fact := f_fact) (f_maker := f_maker) (f_fired := f_fired) (f_firedCount := f_firedCount) (f_needed := f_needed) (f_module := f_module) (f_asked := f_asked) hw) (cwV 1 X.1.2.2.2.2 gX52_151 rfl rfl rfl hX52_hasBelow ⟨Nat.le_of_ble_eq_true rfl, Nat.le_of_ble_eq_true rfl⟩) hc (q0 := 0) rfl rfl hl.1 rfl (Nat.le_of_ble_eq_true rfl) dX52_parent_82 ⟨Nat.le_refl 0, Nat.le_refl 0⟩) (fun r_31 _ H locs hw hH => ?_)
              have hH : kH (dC, dI) cl A s.heap H locs (wX52 ci ad d f_thrown f_classes f_things f_axioms f_fuel f_questions f_sorted f_left f_other f_right f_there f_member f_state f_before f_placed f_looked f_fact f_maker f_fired f_firedCount f_needed f_module f_asked) := hH
              refine lv_if_ne (tgt := 92) hx hb dX52_parent_85 (by decide) (fun c_32 => ?_) (fun c_32 => ?_)
              · have hw := hw.2 (z_ne (rfl : r_31.toInt = _) (rfl : (0 : Int32).toInt = 0) c_32)
                refine lv_iconst (v := 0) hx hb dX52_parent_92 (by decide) ?_
                refine lv_istore (lv' := [(5, .int 0), (0, .ref (ad 0)), (1, .int x1), (2, .int x2), (3, .int x3), (4, .int x4)]) hx hb dX52_parent_93 hl (by decide) rfl (fun ls hl => ?_)
                refine lv_iload hx hb dX52_parent_95 (lv_at hl 0 rfl) ?_
                refine lv_if_eq (tgt := 107) hx hb dX52_parent_97 (by decide) (fun c_33 => ?_) (fun c_33 => ?_)
                · have hw := hw.1 (z_eq (rfl : (0 : Int32).toInt = 0) (rfl : (0 : Int32).toInt = 0) c_33)
                  exact atX52_parent_107 hc X (fun x3 x4 hw H locs ls hH hl => ih x3 x4 hw _ _ ls hH (lv_sub hl [0, 1, 2, 3, 4] rfl)) x3 x4 0 hw _ _ ls hH (lv_sub hl [1, 2, 3, 4, 5, 0] rfl)
                · have hw := hw.2 (z_neq (rfl : (0 : Int32).toInt = 0) (rfl : (0 : Int32).toInt = 0) c_33)
                  refine lv_iload_n hx hb dX52_parent_100 rfl (lv_at hl 4 rfl) ?_
                  refine lv_if_ne (tgt := 107) hx hb dX52_parent_101 (by decide) (fun c_34 => ?_) (fun c_34 => ?_)
                  · have hw := hw.2 (z_ne (rfl : x3.toInt = _) (rfl : (0 : Int32).toInt = 0) c_34)
                    exact atX52_parent_107 hc X (fun x3 x4 hw H locs ls hH hl => ih x3 x4 hw _ _ ls hH (lv_sub hl [0, 1, 2, 3, 4] rfl)) x3 x4 0 hw _ _ ls hH (lv_sub hl [1, 2, 3, 4, 5, 0] rfl)
                  · have hw := hw.1 (z_eq (rfl : x3.toInt = _) (rfl : (0 : Int32).toInt = 0) c_34)
                    exact hk104 x4 hw _ _ ls hH (lv_sub hl [5] rfl)
              · have hw := hw.1 (z_eq (rfl : r_31.toInt = _) (rfl : (0 : Int32).toInt = 0) c_32)
                refine lv_iconst (v := 1) hx hb dX52_parent_88 (by decide) ?_
                refine lv_goto (tgt := 93) hx hb dX52_parent_89 (by decide) ?_
                refine lv_istore (lv' := [(5, .int 1), (0, .ref (ad 0)), (1, .int x1), (2, .int x2), (3, .int x3), (4, .int x4)]) hx hb dX52_parent_93 hl (by decide) rfl (fun ls hl => ?_)
                refine lv_iload hx hb dX52_parent_95 (lv_at hl 0 rfl) ?_
                refine lv_if_eq (tgt := 107) hx hb dX52_parent_97 (by decide) (fun c_35 => ?_) (fun c_35 => ?_)
                · have hw := hw.1 (z_eq (rfl : (1 : Int32).toInt = 1) (rfl : (0 : Int32).toInt = 0) c_35)
                  exact atX52_parent_107 hc X (fun x3 x4 hw H locs ls hH hl => ih x3 x4 hw _ _ ls hH (lv_sub hl [0, 1, 2, 3, 4] rfl)) x3 x4 1 hw _ _ ls hH (lv_sub hl [1, 2, 3, 4, 5, 0] rfl)
                · have hw := hw.2 (z_neq (rfl : (1 : Int32).toInt = 1) (rfl : (0 : Int32).toInt = 0) c_35)
                  refine lv_iload_n hx hb dX52_parent_100 rfl (lv_at hl 4 rfl) ?_
                  refine lv_if_ne (tgt := 107) hx hb dX52_parent_101 (by decide) (fun c_36 => ?_) (fun c_36 => ?_)
                  · have hw := hw.2 (z_ne (rfl : x3.toInt = _) (rfl : (0 : Int32).toInt = 0) c_36)
                    exact atX52_parent_107 hc X (fun x3 x4 hw H locs ls hH hl => ih x3 x4 hw _ _ ls hH (lv_sub hl [0, 1, 2, 3, 4] rfl)) x3 x4 1 hw _ _ ls hH (lv_sub hl [1, 2, 3, 4, 5, 0] rfl)
                  · have hw := hw.1 (z_eq (rfl : x3.toInt = _) (rfl : (0 : Int32).toInt = 0) c_36)
                    exact hk104 x4 hw _ _ ls hH (lv_sub hl [5] rfl)
            · have hw := hw.2 (z_neq e_29 (rfl : (0 : Int32).toInt = 0) c_30)
              refine lv_aload_n hx hb dX52_parent_66 rfl (lv_at hl 0 rfl) ?_
              refine lv_iload_n hx hb dX52_parent_67 rfl (lv_at hl 1 rfl) ?_
              refine lv_iload hx hb dX52_parent_68 (lv_at hl 4 rfl) ?_
              refine k_i0 hH (k_runV (As := [.int x1, .int x4]) (rest := []) X hH.1 hH.2.1 X.2.2.2 (walkX52_isDirect hc (x1 := x1) (x2 := x4) (f_thrown := f_thrown) (f_classes := f_classes) (f_things := f_things) (f_axioms := f_axioms) (f_fuel := f_fuel) (f_questions := f_questions) (f_sorted := f_sorted) (f_left := f_left) (f_other := f_other) (f_right := f_right) (f_there := f_there) (f_member := f_member) (f_state := f_state) (f_before := f_before) (f_placed := f_placed) (f_looked := f_looked) (f_fact := f_fact) (f_maker := f_maker) (f_fired := f_fired) (f_firedCount := f_firedCount) (f_needed := f_needed) (f_module := f_module) (f_asked := f_asked) hw) (cwV 2 X.1.2.2.2.2 gX52_131 rfl rfl rfl hX52_isDirect ⟨Nat.le_of_ble_eq_true rfl, Nat.le_of_ble_eq_true rfl⟩) hc (q0 := 0) rfl rfl hl.1 rfl (Nat.le_of_ble_eq_true rfl) dX52_parent_70 ⟨Nat.le_refl 0, Nat.le_refl 0⟩) (fun r_37 _ H locs hw hH => ?_)
              have hH : kH (dC, dI) cl A s.heap H locs (wX52 ci ad d f_thrown f_classes f_things f_axioms f_fuel f_questions f_sorted f_left f_other f_right f_there f_member f_state f_before f_placed f_looked f_fact f_maker f_fired f_firedCount f_needed f_module f_asked) := hH
              refine lv_if_eq (tgt := 92) hx hb dX52_parent_73 (by decide) (fun c_38 => ?_) (fun c_38 => ?_)
              · have hw := hw.1 (z_eq (rfl : r_37.toInt = _) (rfl : (0 : Int32).toInt = 0) c_38)
                refine lv_iconst (v := 0) hx hb dX52_parent_92 (by decide) ?_
                refine lv_istore (lv' := [(5, .int 0), (0, .ref (ad 0)), (1, .int x1), (2, .int x2), (3, .int x3), (4, .int x4)]) hx hb dX52_parent_93 hl (by decide) rfl (fun ls hl => ?_)
                refine lv_iload hx hb dX52_parent_95 (lv_at hl 0 rfl) ?_
                refine lv_if_eq (tgt := 107) hx hb dX52_parent_97 (by decide) (fun c_39 => ?_) (fun c_39 => ?_)
                · have hw := hw.1 (z_eq (rfl : (0 : Int32).toInt = 0) (rfl : (0 : Int32).toInt = 0) c_39)
                  exact atX52_parent_107 hc X (fun x3 x4 hw H locs ls hH hl => ih x3 x4 hw _ _ ls hH (lv_sub hl [0, 1, 2, 3, 4] rfl)) x3 x4 0 hw _ _ ls hH (lv_sub hl [1, 2, 3, 4, 5, 0] rfl)
                · have hw := hw.2 (z_neq (rfl : (0 : Int32).toInt = 0) (rfl : (0 : Int32).toInt = 0) c_39)
                  refine lv_iload_n hx hb dX52_parent_100 rfl (lv_at hl 4 rfl) ?_
                  refine lv_if_ne (tgt := 107) hx hb dX52_parent_101 (by decide) (fun c_40 => ?_) (fun c_40 => ?_)
                  · have hw := hw.2 (z_ne (rfl : x3.toInt = _) (rfl : (0 : Int32).toInt = 0) c_40)
                    exact atX52_parent_107 hc X (fun x3 x4 hw H locs ls hH hl => ih x3 x4 hw _ _ ls hH (lv_sub hl [0, 1, 2, 3, 4] rfl)) x3 x4 0 hw _ _ ls hH (lv_sub hl [1, 2, 3, 4, 5, 0] rfl)
                  · have hw := hw.1 (z_eq (rfl : x3.toInt = _) (rfl : (0 : Int32).toInt = 0) c_40)
                    exact hk104 x4 hw _ _ ls hH (lv_sub hl [5] rfl)
              · have hw := hw.2 (z_neq (rfl : r_37.toInt = _) (rfl : (0 : Int32).toInt = 0) c_38)
                refine lv_goto (tgt := 88) hx hb dX52_parent_76 (by decide) ?_
                refine lv_iconst (v := 1) hx hb dX52_parent_88 (by decide) ?_
                refine lv_goto (tgt := 93) hx hb dX52_parent_89 (by decide) ?_
                refine lv_istore (lv' := [(5, .int 1), (0, .ref (ad 0)), (1, .int x1), (2, .int x2), (3, .int x3), (4, .int x4)]) hx hb dX52_parent_93 hl (by decide) rfl (fun ls hl => ?_)
                refine lv_iload hx hb dX52_parent_95 (lv_at hl 0 rfl) ?_
                refine lv_if_eq (tgt := 107) hx hb dX52_parent_97 (by decide) (fun c_41 => ?_) (fun c_41 => ?_)
                · have hw := hw.1 (z_eq (rfl : (1 : Int32).toInt = 1) (rfl : (0 : Int32).toInt = 0) c_41)
                  exact atX52_parent_107 hc X (fun x3 x4 hw H locs ls hH hl => ih x3 x4 hw _ _ ls hH (lv_sub hl [0, 1, 2, 3, 4] rfl)) x3 x4 1 hw _ _ ls hH (lv_sub hl [1, 2, 3, 4, 5, 0] rfl)
                · have hw := hw.2 (z_neq (rfl : (1 : Int32).toInt = 1) (rfl : (0 : Int32).toInt = 0) c_41)
                  refine lv_iload_n hx hb dX52_parent_100 rfl (lv_at hl 4 rfl) ?_
                  refine lv_if_ne (tgt := 107) hx hb dX52_parent_101 (by decide) (fun c_42 => ?_) (fun c_42 => ?_)
                  · have hw := hw.2 (z_ne (rfl : x3.toInt = _) (rfl : (0 : Int32).toInt = 0) c_42)
                    exact atX52_parent_107 hc X (fun x3 x4 hw H locs ls hH hl => ih x3 x4 hw _ _ ls hH (lv_sub hl [0, 1, 2, 3, 4] rfl)) x3 x4 1 hw _ _ ls hH (lv_sub hl [1, 2, 3, 4, 5, 0] rfl)
                  · have hw := hw.1 (z_eq (rfl : x3.toInt = _) (rfl : (0 : Int32).toInt = 0) c_42)
                    exact hk104 x4 hw _ _ ls hH (lv_sub hl [5] rfl)
set_option maxHeartbeats 4000000 in
theorem walkX52_parent {l : Launch} {dC : Nat → ClassId} {dI : Nat → Nat → Nat} {cl : List vw_C} {ci : Nat} (hc : cl[ci]? = some (RX52, TX52, 23)) {ad : Nat → Nat} {d : Nat → ClassId} {sz : Nat} {f_thrown : Int32} {f_classes : Int32} {f_things : Int32} {f_axioms : Int32} {f_fuel : Int32} {f_questions : Int32} {f_sorted : Int32} {f_left : Nat → Int32} {f_other : Nat → Int32} {f_right : Nat → Int32} {f_there : Nat → Int32} {f_member : Nat → Int32} {f_state : Nat → Int32} {f_before : Nat → Int32} {f_placed : Nat → Int32} {f_looked : Nat → Int32} {f_fact : Nat → Int32} {f_maker : Nat → Int32} {f_fired : Nat → Int32} {f_firedCount : Int32} {f_needed : Nat → Int32} {f_module : Nat → Int32} {f_asked : Int32} {x1 : Int32} {x2 : Int32} {post : Int → Prop} (hw : wpX52_parent post f_classes.toInt f_sorted.toInt (zF f_state) (zF f_placed) x1.toInt x2.toInt) :
    Met l yX52_parent (ws_ yX52_parent cX52_parent 6 (some .int)) ({ frames := 4, cells := 0, slots := 0, locals := 91 } : Room) (kPc (dC, dI) cl (tX52 d) [.ref (ad 0), .int x1, .int x2] sz (wX52 ci ad d f_thrown f_classes f_things f_axioms f_fuel f_questions f_sorted f_left f_other f_right f_there f_member f_state f_before f_placed f_looked f_fact f_maker f_fired f_firedCount f_needed f_module f_asked)) (va_Qi (fun (r : Int32) (_ : Unit) => post r.toInt) (kB (dC, dI) cl (tX52 d) (va_A (wX52 ci ad d f_thrown f_classes f_things f_axioms f_fuel f_questions f_sorted f_left f_other f_right f_there f_member f_state f_before f_placed f_looked f_fact f_maker f_fired f_firedCount f_needed f_module f_asked) sz) (fun _ : Unit => (wX52 ci ad d f_thrown f_classes f_things f_axioms f_fuel f_questions f_sorted f_left f_other f_right f_there f_member f_state f_before f_placed f_looked f_fact f_maker f_fired f_firedCount f_needed f_module f_asked))) (va_A (wX52 ci ad d f_thrown f_classes f_things f_axioms f_fuel f_questions f_sorted f_left f_other f_right f_there f_member f_state f_before f_placed f_looked f_fact f_maker f_fired f_firedCount f_needed f_module f_asked) sz)) 0 0 (va_A (wX52 ci ad d f_thrown f_classes f_things f_axioms f_fuel f_questions f_sorted f_left f_other f_right f_there f_member f_state f_before f_placed f_looked f_fact f_maker f_fired f_firedCount f_needed f_module f_asked) sz) := by
  refine k_enter (by decide) (Nat.le_of_ble_eq_true rfl) ?_
  intro p e s m below meth c ls X hsz hH hl
  subst hsz
  generalize va_A (wX52 ci ad d f_thrown f_classes f_things f_axioms f_fuel f_questions f_sorted f_left f_other f_right f_there f_member f_state f_before f_placed f_looked f_fact f_maker f_fired f_firedCount f_needed f_module f_asked) s.heap.size = A at hH ⊢
  have hx := X.1.1
  have hb := X.1.2.1
  have hl : lv_has ls 6 [(0, .ref (ad 0)), (1, .int x1), (2, .int x2)] := hl
  unfold wpX52_parent at hw
  refine lv_aload_n hx hb dX52_parent_0 rfl (lv_at hl 0 rfl) ?_
  refine lv_iload_n hx hb dX52_parent_1 rfl (lv_at hl 1 rfl) ?_
  refine k_i0 hH (k_runV (As := [.int x1]) (rest := []) X hH.1 hH.2.1 X.2.2.2 (walkX52_isClass hc (x1 := x1) (f_thrown := f_thrown) (f_classes := f_classes) (f_things := f_things) (f_axioms := f_axioms) (f_fuel := f_fuel) (f_questions := f_questions) (f_sorted := f_sorted) (f_left := f_left) (f_other := f_other) (f_right := f_right) (f_there := f_there) (f_member := f_member) (f_state := f_state) (f_before := f_before) (f_placed := f_placed) (f_looked := f_looked) (f_fact := f_fact) (f_maker := f_maker) (f_fired := f_fired) (f_firedCount := f_firedCount) (f_needed := f_needed) (f_module := f_module) (f_asked := f_asked) hw) (cwV 1 X.1.2.2.2.2 gX52_63 rfl rfl rfl hX52_isClass ⟨Nat.le_of_ble_eq_true rfl, Nat.le_of_ble_eq_true rfl⟩) hc (q0 := 0) rfl rfl hl.1 rfl (Nat.le_of_ble_eq_true rfl) dX52_parent_2 ⟨Nat.le_refl 0, Nat.le_refl 0⟩) (fun r_1 _ H locs hw hH => ?_)
  have hH : kH (dC, dI) cl A s.heap H locs (wX52 ci ad d f_thrown f_classes f_things f_axioms f_fuel f_questions f_sorted f_left f_other f_right f_there f_member f_state f_before f_placed f_looked f_fact f_maker f_fired f_firedCount f_needed f_module f_asked) := hH
  refine lv_if_ne (tgt := 10) hx hb dX52_parent_5 (by decide) (fun c_2 => ?_) (fun c_2 => ?_)
  · have hw := hw.2 (z_ne (rfl : r_1.toInt = _) (rfl : (0 : Int32).toInt = 0) c_2)
    refine lv_aload_n hx hb dX52_parent_10 rfl (lv_at hl 0 rfl) ?_
    refine k_get X hH in_X52 0 rfl hc 6 (by decide) q6387 rfl dX52_parent_11 ?_
    refine lv_if_ne (tgt := 20) hx hb dX52_parent_14 (by decide) (fun c_3 => ?_) (fun c_3 => ?_)
    · have hw := hw.2 (z_ne (rfl : f_sorted.toInt = _) (rfl : (0 : Int32).toInt = 0) c_3)
      refine lv_iload_n hx hb dX52_parent_20 rfl (lv_at hl 2 rfl) ?_
      refine lv_istore_n (lv' := [(3, .int x2), (0, .ref (ad 0)), (1, .int x1), (2, .int x2)]) hx hb dX52_parent_21 rfl hl (by decide) rfl (fun ls hl => ?_)
      refine lv_iconst (v := 0) hx hb dX52_parent_22 (by decide) ?_
      refine lv_istore (lv' := [(4, .int 0), (3, .int x2), (0, .ref (ad 0)), (1, .int x1), (2, .int x2)]) hx hb dX52_parent_23 hl (by decide) rfl (fun ls hl => ?_)
      obtain ⟨fu, hw⟩ := hw
      refine atX52_parent_25 hc X ?_ ?_ fu x2 0 hw _ _ ls hH (lv_sub hl [2, 3, 4, 1, 0] rfl)
      · intro x4_43 hw H locs ls hH hl
        refine lv_iload hx hb dX52_parent_104 (lv_at hl 0 rfl) ?_
        exact k_iret (v := x4_43) X hH () hw rfl rfl dX52_parent_106
      · intro hw H locs ls hH hl
        refine lv_bipush (v := (-6)) hx hb dX52_parent_126 (by decide) ?_
        exact k_iret (v := (-6)) X hH () hw rfl rfl dX52_parent_128
    · have hw := hw.1 (z_eq (rfl : f_sorted.toInt = _) (rfl : (0 : Int32).toInt = 0) c_3)
      refine lv_bipush (v := (-3)) hx hb dX52_parent_17 (by decide) ?_
      exact k_iret (v := (-3)) X hH () hw rfl rfl dX52_parent_19
  · have hw := hw.1 (z_eq (rfl : r_1.toInt = _) (rfl : (0 : Int32).toInt = 0) c_2)
    refine lv_iconst (v := (-1)) hx hb dX52_parent_8 (by decide) ?_
    exact k_iret (v := (-1)) X hH () hw rfl rfl dX52_parent_9
set_option maxHeartbeats 4000000 in
theorem walkX52_class0 {l : Launch} {dC : Nat → ClassId} {dI : Nat → Nat → Nat} {cl : List vw_C} {ci : Nat} (hc : cl[ci]? = some (RX52, TX52, 23)) {ad : Nat → Nat} {d : Nat → ClassId} {sz : Nat} {f_thrown : Int32} {f_classes : Int32} {f_things : Int32} {f_axioms : Int32} {f_fuel : Int32} {f_questions : Int32} {f_sorted : Int32} {f_left : Nat → Int32} {f_other : Nat → Int32} {f_right : Nat → Int32} {f_there : Nat → Int32} {f_member : Nat → Int32} {f_state : Nat → Int32} {f_before : Nat → Int32} {f_placed : Nat → Int32} {f_looked : Nat → Int32} {f_fact : Nat → Int32} {f_maker : Nat → Int32} {f_fired : Nat → Int32} {f_firedCount : Int32} {f_needed : Nat → Int32} {f_module : Nat → Int32} {f_asked : Int32}  {post : Int → Int → Int → (Int → Int) → Prop} (hw : wpX52_class0 post f_classes.toInt f_axioms.toInt f_sorted.toInt (zF f_left) (zF f_other) (zF f_right) (zF f_there) (zF f_state) ) :
    Met l yX52_class0 (ws_ yX52_class0 cX52_class0 1 (some .int)) ({ frames := 4, cells := 0, slots := 0, locals := 93 } : Room) (kPc (dC, dI) cl (tX52 d) [.ref (ad 0)] sz (wX52 ci ad d f_thrown f_classes f_things f_axioms f_fuel f_questions f_sorted f_left f_other f_right f_there f_member f_state f_before f_placed f_looked f_fact f_maker f_fired f_firedCount f_needed f_module f_asked)) (va_Qi (fun (r : Int32) (u : Int32 × Int32 × (Nat → Int32)) => post r.toInt (u.1).toInt (u.2.1).toInt (zF (u.2.2))) (kB (dC, dI) cl (tX52 d) (va_A (wX52 ci ad d f_thrown f_classes f_things f_axioms f_fuel f_questions f_sorted f_left f_other f_right f_there f_member f_state f_before f_placed f_looked f_fact f_maker f_fired f_firedCount f_needed f_module f_asked) sz) (fun u : Int32 × Int32 × (Nat → Int32) => (wX52 ci ad d f_thrown (u.1) f_things f_axioms f_fuel f_questions (u.2.1) f_left f_other f_right f_there f_member (u.2.2) f_before f_placed f_looked f_fact f_maker f_fired f_firedCount f_needed f_module f_asked))) (va_A (wX52 ci ad d f_thrown f_classes f_things f_axioms f_fuel f_questions f_sorted f_left f_other f_right f_there f_member f_state f_before f_placed f_looked f_fact f_maker f_fired f_firedCount f_needed f_module f_asked) sz)) 0 0 (va_A (wX52 ci ad d f_thrown f_classes f_things f_axioms f_fuel f_questions f_sorted f_left f_other f_right f_there f_member f_state f_before f_placed f_looked f_fact f_maker f_fired f_firedCount f_needed f_module f_asked) sz) := by
  refine k_enter (by decide) (Nat.le_of_ble_eq_true rfl) ?_
  intro p e s m below meth c ls X hsz hH hl
  subst hsz
  generalize va_A (wX52 ci ad d f_thrown f_classes f_things f_axioms f_fuel f_questions f_sorted f_left f_other f_right f_there f_member f_state f_before f_placed f_looked f_fact f_maker f_fired f_firedCount f_needed f_module f_asked) s.heap.size = A at hH ⊢
  have hx := X.1.1
  have hb := X.1.2.1
  have hl : lv_has ls 1 [(0, .ref (ad 0))] := hl
  unfold wpX52_class0 at hw
  refine lv_aload_n hx hb dX52_class0_0 rfl (lv_at hl 0 rfl) ?_
  refine k_get X hH in_X52 0 rfl hc 1 (by decide) q6382 rfl dX52_class0_1 ?_
  refine lv_bipush (v := 20) hx hb dX52_class0_4 (by decide) ?_
  refine lv_icmp_ne (tgt := 12) hx hb dX52_class0_6 (by decide) (fun c_1 => ?_) (fun c_1 => ?_)
  · have hw := hw.2 (z_ne (rfl : f_classes.toInt = _) (rfl : (20 : Int32).toInt = 20) c_1)
    refine lv_aload_n hx hb dX52_class0_12 rfl (lv_at hl 0 rfl) ?_
    refine lv_dup hx hb dX52_class0_13 rfl ?_
    refine k_get X hH in_X52 0 rfl hc 1 (by decide) q6382 rfl dX52_class0_14 ?_
    refine lv_iconst (v := 1) hx hb dX52_class0_17 (by decide) ?_
    refine lv_iadd hx hb dX52_class0_18 ?_
    have e_2 := z_add (z_m (rfl : f_classes.toInt = _)) (z_m (rfl : (1 : Int32).toInt = 1))
    have hq_3 := hw.1
    have hw := hw.2
    have e_4 := z_x e_2 hq_3
    refine lv_topi (fun f_classes_5 ef_classes_5 => ?_)
    have hw := hw f_classes_5.toInt (by rw [ef_classes_5]; exact e_4)
    refine k_put X hH in_X52 tyX52_ok nmX52 0 rfl hc 1 (by decide) q6382 rfl (ty := .int) rfl rfl rfl (Nat.le_of_ble_eq_true rfl) dX52_class0_19 (ws1 := (wX52 ci ad d f_thrown f_classes_5 f_things f_axioms f_fuel f_questions f_sorted f_left f_other f_right f_there f_member f_state f_before f_placed f_looked f_fact f_maker f_fired f_firedCount f_needed f_module f_asked)) rfl (fun H locs hH => ?_)
    refine lv_aload_n hx hb dX52_class0_22 rfl (lv_at hl 0 rfl) ?_
    refine lv_iconst (v := 0) hx hb dX52_class0_23 (by decide) ?_
    refine k_put X hH in_X52 tyX52_ok nmX52 0 rfl hc 6 (by decide) q6387 rfl (ty := .boolean) rfl rfl rfl (Nat.le_of_ble_eq_true rfl) dX52_class0_24 (ws1 := (wX52 ci ad d f_thrown f_classes_5 f_things f_axioms f_fuel f_questions 0 f_left f_other f_right f_there f_member f_state f_before f_placed f_looked f_fact f_maker f_fired f_firedCount f_needed f_module f_asked)) rfl (fun H locs hH => ?_)
    refine lv_aload_n hx hb dX52_class0_27 rfl (lv_at hl 0 rfl) ?_
    refine k_v0 hH (k_runV (As := []) (rest := []) X hH.1 hH.2.1 X.2.2.2 (walkX52_close hc (f_thrown := f_thrown) (f_classes := f_classes_5) (f_things := f_things) (f_axioms := f_axioms) (f_fuel := f_fuel) (f_questions := f_questions) (f_sorted := 0) (f_left := f_left) (f_other := f_other) (f_right := f_right) (f_there := f_there) (f_member := f_member) (f_state := f_state) (f_before := f_before) (f_placed := f_placed) (f_looked := f_looked) (f_fact := f_fact) (f_maker := f_maker) (f_fired := f_fired) (f_firedCount := f_firedCount) (f_needed := f_needed) (f_module := f_module) (f_asked := f_asked) hw) (cwV 0 X.1.2.2.2.2 gX52_101 rfl rfl rfl hX52_close ⟨Nat.le_of_ble_eq_true rfl, Nat.le_of_ble_eq_true rfl⟩) hc (q0 := 0) rfl rfl hl.1 rfl (Nat.le_of_ble_eq_true rfl) dX52_class0_28 ⟨Nat.le_refl 0, Nat.le_refl 0⟩) (fun u H locs hw hH => ?_)
    obtain ⟨f_state_6, eu⟩ : ∃ z, z = u := ⟨_, rfl⟩
    subst eu
    have hH : kH (dC, dI) cl A s.heap H locs (wX52 ci ad d f_thrown f_classes_5 f_things f_axioms f_fuel f_questions 0 f_left f_other f_right f_there f_member f_state_6 f_before f_placed f_looked f_fact f_maker f_fired f_firedCount f_needed f_module f_asked) := hH
    refine lv_aload_n hx hb dX52_class0_31 rfl (lv_at hl 0 rfl) ?_
    refine k_get X hH in_X52 0 rfl hc 1 (by decide) q6382 rfl dX52_class0_32 ?_
    refine lv_iconst (v := 1) hx hb dX52_class0_35 (by decide) ?_
    refine lv_isub hx hb dX52_class0_36 ?_
    have e_7 := z_sub (z_m (rfl : f_classes_5.toInt = _)) (z_m (rfl : (1 : Int32).toInt = 1))
    have hq_8 := hw.1
    have hw := hw.2
    have e_9 := z_x e_7 hq_8
    exact k_iret (v := f_classes_5 - 1) X hH (f_classes_5, 0, f_state_6) (by rw [show (f_classes_5 - 1 : Int32).toInt = _ from e_9]; exact hw) rfl rfl dX52_class0_37
  · have hw := hw.1 (z_eq (rfl : f_classes.toInt = _) (rfl : (20 : Int32).toInt = 20) c_1)
    refine lv_bipush (v := (-4)) hx hb dX52_class0_9 (by decide) ?_
    exact k_iret (v := (-4)) X hH (f_classes, f_sorted, f_state) hw rfl rfl dX52_class0_11
set_option maxHeartbeats 4000000 in
theorem walkX52_thing {l : Launch} {dC : Nat → ClassId} {dI : Nat → Nat → Nat} {cl : List vw_C} {ci : Nat} (hc : cl[ci]? = some (RX52, TX52, 23)) {ad : Nat → Nat} {d : Nat → ClassId} {sz : Nat} {f_thrown : Int32} {f_classes : Int32} {f_things : Int32} {f_axioms : Int32} {f_fuel : Int32} {f_questions : Int32} {f_sorted : Int32} {f_left : Nat → Int32} {f_other : Nat → Int32} {f_right : Nat → Int32} {f_there : Nat → Int32} {f_member : Nat → Int32} {f_state : Nat → Int32} {f_before : Nat → Int32} {f_placed : Nat → Int32} {f_looked : Nat → Int32} {f_fact : Nat → Int32} {f_maker : Nat → Int32} {f_fired : Nat → Int32} {f_firedCount : Int32} {f_needed : Nat → Int32} {f_module : Nat → Int32} {f_asked : Int32}  {post : Int → Int → Prop} (hw : wpX52_thing post f_things.toInt ) :
    Met l yX52_thing (ws_ yX52_thing cX52_thing 1 (some .int)) ({ frames := 0, cells := 0, slots := 0, locals := 0 } : Room) (kPc (dC, dI) cl (tX52 d) [.ref (ad 0)] sz (wX52 ci ad d f_thrown f_classes f_things f_axioms f_fuel f_questions f_sorted f_left f_other f_right f_there f_member f_state f_before f_placed f_looked f_fact f_maker f_fired f_firedCount f_needed f_module f_asked)) (va_Qi (fun (r : Int32) (u : Int32) => post r.toInt (u).toInt) (kB (dC, dI) cl (tX52 d) (va_A (wX52 ci ad d f_thrown f_classes f_things f_axioms f_fuel f_questions f_sorted f_left f_other f_right f_there f_member f_state f_before f_placed f_looked f_fact f_maker f_fired f_firedCount f_needed f_module f_asked) sz) (fun u : Int32 => (wX52 ci ad d f_thrown f_classes (u) f_axioms f_fuel f_questions f_sorted f_left f_other f_right f_there f_member f_state f_before f_placed f_looked f_fact f_maker f_fired f_firedCount f_needed f_module f_asked))) (va_A (wX52 ci ad d f_thrown f_classes f_things f_axioms f_fuel f_questions f_sorted f_left f_other f_right f_there f_member f_state f_before f_placed f_looked f_fact f_maker f_fired f_firedCount f_needed f_module f_asked) sz)) 0 0 (va_A (wX52 ci ad d f_thrown f_classes f_things f_axioms f_fuel f_questions f_sorted f_left f_other f_right f_there f_member f_state f_before f_placed f_looked f_fact f_maker f_fired f_firedCount f_needed f_module f_asked) sz) := by
  refine k_enter (by decide) (Nat.le_of_ble_eq_true rfl) ?_
  intro p e s m below meth c ls X hsz hH hl
  subst hsz
  generalize va_A (wX52 ci ad d f_thrown f_classes f_things f_axioms f_fuel f_questions f_sorted f_left f_other f_right f_there f_member f_state f_before f_placed f_looked f_fact f_maker f_fired f_firedCount f_needed f_module f_asked) s.heap.size = A at hH ⊢
  have hx := X.1.1
  have hb := X.1.2.1
  have hl : lv_has ls 1 [(0, .ref (ad 0))] := hl
  unfold wpX52_thing at hw
  refine lv_aload_n hx hb dX52_thing_0 rfl (lv_at hl 0 rfl) ?_
  refine k_get X hH in_X52 0 rfl hc 2 (by decide) q6383 rfl dX52_thing_1 ?_
  refine lv_bipush (v := 8) hx hb dX52_thing_4 (by decide) ?_
  refine lv_icmp_ne (tgt := 12) hx hb dX52_thing_6 (by decide) (fun c_1 => ?_) (fun c_1 => ?_)
  · have hw := hw.2 (z_ne (rfl : f_things.toInt = _) (rfl : (8 : Int32).toInt = 8) c_1)
    refine lv_aload_n hx hb dX52_thing_12 rfl (lv_at hl 0 rfl) ?_
    refine lv_dup hx hb dX52_thing_13 rfl ?_
    refine k_get X hH in_X52 0 rfl hc 2 (by decide) q6383 rfl dX52_thing_14 ?_
    refine lv_iconst (v := 1) hx hb dX52_thing_17 (by decide) ?_
    refine lv_iadd hx hb dX52_thing_18 ?_
    have e_2 := z_add (z_m (rfl : f_things.toInt = _)) (z_m (rfl : (1 : Int32).toInt = 1))
    have hq_3 := hw.1
    have hw := hw.2
    have e_4 := z_x e_2 hq_3
    refine lv_topi (fun f_things_5 ef_things_5 => ?_)
    have hw := hw f_things_5.toInt (by rw [ef_things_5]; exact e_4)
    refine k_put X hH in_X52 tyX52_ok nmX52 0 rfl hc 2 (by decide) q6383 rfl (ty := .int) rfl rfl rfl (Nat.le_of_ble_eq_true rfl) dX52_thing_19 (ws1 := (wX52 ci ad d f_thrown f_classes f_things_5 f_axioms f_fuel f_questions f_sorted f_left f_other f_right f_there f_member f_state f_before f_placed f_looked f_fact f_maker f_fired f_firedCount f_needed f_module f_asked)) rfl (fun H locs hH => ?_)
    refine lv_aload_n hx hb dX52_thing_22 rfl (lv_at hl 0 rfl) ?_
    refine k_get X hH in_X52 0 rfl hc 2 (by decide) q6383 rfl dX52_thing_23 ?_
    refine lv_iconst (v := 1) hx hb dX52_thing_26 (by decide) ?_
    refine lv_isub hx hb dX52_thing_27 ?_
    have e_6 := z_sub (z_m (rfl : f_things_5.toInt = _)) (z_m (rfl : (1 : Int32).toInt = 1))
    have hq_7 := hw.1
    have hw := hw.2
    have e_8 := z_x e_6 hq_7
    exact k_iret (v := f_things_5 - 1) X hH (f_things_5) (by rw [show (f_things_5 - 1 : Int32).toInt = _ from e_8]; exact hw) rfl rfl dX52_thing_28
  · have hw := hw.1 (z_eq (rfl : f_things.toInt = _) (rfl : (8 : Int32).toInt = 8) c_1)
    refine lv_bipush (v := (-4)) hx hb dX52_thing_9 (by decide) ?_
    exact k_iret (v := (-4)) X hH (f_things) hw rfl rfl dX52_thing_11
set_option maxHeartbeats 4000000 in
theorem atX52_remove_25 {p : Program} {l : Launch} {e : Env} {s : State} {m : MethodId} {args : Array Value} {below : List Frame} {meth : Method} {c : Code} {dC : Nat → ClassId} {dI : Nat → Nat → Nat} {cl : List vw_C} {ci : Nat} (hc : cl[ci]? = some (RX52, TX52, 23)) {ad : Nat → Nat} {d : Nat → ClassId} {A : Nat → Prop} {post : Int → Int → (Int → Int) → (Int → Int) → (Int → Int) → (Int → Int) → Prop} {f_thrown : Int32} {f_classes : Int32} {f_things : Int32} {f_axioms : Int32} {f_fuel : Int32} {f_questions : Int32} {f_left : Nat → Int32} {f_other : Nat → Int32} {f_right : Nat → Int32} {f_member : Nat → Int32} {f_placed : Nat → Int32} {f_looked : Nat → Int32} {f_fact : Nat → Int32} {f_maker : Nat → Int32} {f_fired : Nat → Int32} {f_firedCount : Int32} {f_needed : Nat → Int32} {f_asked : Int32} (X : kX p s m args meth c cX52_remove 4 RX52 (some .int) (dC, dI) cl (tX52 d)) {K50 : (Int → Int) → Prop} {x1 : Int32} {f_sorted : Int32} {f_there : Nat → Int32} {f_state : Nat → Int32} {f_module : Nat → Int32} (hk50 : ∀ (f_before : Nat → Int32), K50 (zF f_before) → ∀ (H : Heap) (locs : List Loc) (ls : Array Slot), kH (dC, dI) cl A s.heap H locs (wX52 ci ad d f_thrown f_classes f_things f_axioms f_fuel f_questions f_sorted f_left f_other f_right f_there f_member f_state f_before f_placed f_looked f_fact f_maker f_fired f_firedCount f_needed f_module f_asked) → lv_has ls 4 [(0, .ref (ad 0)), (1, .int x1)] → W p l e ({ frames := 4, cells := 0, slots := 0, locals := 93 } : Room) s m args below meth c H locs 0 0 (MQ below (va_Qi (fun (r : Int32) (u : Int32 × (Nat → Int32) × (Nat → Int32) × (Nat → Int32) × (Nat → Int32)) => post r.toInt (u.1).toInt (zF (u.2.1)) (zF (u.2.2.1)) (zF (u.2.2.2.1)) (zF (u.2.2.2.2))) (kB (dC, dI) cl (tX52 d) A (fun u : Int32 × (Nat → Int32) × (Nat → Int32) × (Nat → Int32) × (Nat → Int32) => (wX52 ci ad d f_thrown f_classes f_things f_axioms f_fuel f_questions (u.1) f_left f_other f_right (u.2.1) f_member (u.2.2.1) (u.2.2.2.1) f_placed f_looked f_fact f_maker f_fired f_firedCount f_needed (u.2.2.2.2) f_asked))) A) args s 0 0 A) (F0 m 50 ls [])) :
    ∀ (nn : Nat) (x2 : Int32) (f_before : Nat → Int32), wX52_remove_25 K50 (zF f_state) nn x2.toInt (zF f_before) → ∀ (H : Heap) (locs : List Loc) (ls : Array Slot), kH (dC, dI) cl A s.heap H locs (wX52 ci ad d f_thrown f_classes f_things f_axioms f_fuel f_questions f_sorted f_left f_other f_right f_there f_member f_state f_before f_placed f_looked f_fact f_maker f_fired f_firedCount f_needed f_module f_asked) → lv_has ls 4 [(0, .ref (ad 0)), (1, .int x1), (2, .int x2)] → W p l e ({ frames := 4, cells := 0, slots := 0, locals := 93 } : Room) s m args below meth c H locs 0 0 (MQ below (va_Qi (fun (r : Int32) (u : Int32 × (Nat → Int32) × (Nat → Int32) × (Nat → Int32) × (Nat → Int32)) => post r.toInt (u.1).toInt (zF (u.2.1)) (zF (u.2.2.1)) (zF (u.2.2.2.1)) (zF (u.2.2.2.2))) (kB (dC, dI) cl (tX52 d) A (fun u : Int32 × (Nat → Int32) × (Nat → Int32) × (Nat → Int32) × (Nat → Int32) => (wX52 ci ad d f_thrown f_classes f_things f_axioms f_fuel f_questions (u.1) f_left f_other f_right (u.2.1) f_member (u.2.2.1) (u.2.2.2.1) f_placed f_looked f_fact f_maker f_fired f_firedCount f_needed (u.2.2.2.2) f_asked))) A) args s 0 0 A) (F0 m 25 ls []) := by
  have hx := X.1.1
  have hb := X.1.2.1
  intro nn
  induction nn with
  | zero =>
    intro x2 f_before hw
    exact False.elim hw
  | succ n ih =>
    intro x2 f_before hw H locs ls hH hl
    rw [wX52_remove_25] at hw
    refine lv_iload_n hx hb dX52_remove_25 rfl (lv_at hl 2 rfl) ?_
    refine lv_sipush (v := 420) hx hb dX52_remove_26 (by decide) ?_
    refine lv_icmp_ge (tgt := 50) hx hb dX52_remove_29 (by decide) (fun c_6 => ?_) (fun c_6 => ?_)
    · have hw := hw.1 (z_le (rfl : (420 : Int32).toInt = 420) (rfl : x2.toInt = _) c_6)
      exact hk50 f_before hw _ _ ls hH (lv_sub hl [0, 1] rfl)
    · have hw := hw.2 (z_nle (rfl : (420 : Int32).toInt = 420) (rfl : x2.toInt = _) c_6)
      refine lv_aload_n hx hb dX52_remove_32 rfl (lv_at hl 0 rfl) ?_
      refine k_get X hH in_X52 0 rfl hc 13 (by decide) q6394 rfl dX52_remove_33 ?_
      refine lv_iload_n hx hb dX52_remove_36 rfl (lv_at hl 2 rfl) ?_
      refine lv_aload_n hx hb dX52_remove_37 rfl (lv_at hl 0 rfl) ?_
      refine k_get X hH in_X52 0 rfl hc 12 (by decide) q6393 rfl dX52_remove_38 ?_
      refine lv_iload_n hx hb dX52_remove_41 rfl (lv_at hl 2 rfl) ?_
      have hq_7 := hw.1
      have hw := hw.2
      refine k_iald X hH 6 5 rfl rfl (z_in (rfl : x2.toInt = _) hq_7) dX52_remove_42 ?_
      have e_8 := z_ld (f := f_state) (rfl : x2.toInt = _) hq_7.1
      refine lv_topi (fun v_9 ev_9 => ?_)
      have hw := hw v_9.toInt (by rw [ev_9]; exact e_8)
      obtain ⟨f_before_10, ef_before_10⟩ : ∃ y : Nat → Int32, y = upd f_before x2.toNatClampNeg v_9 := ⟨_, rfl⟩
      refine k_iast X hH 7 6 rfl rfl (z_in (rfl : x2.toInt = _) hq_7) dX52_remove_43 ef_before_10 (ws1 := (wX52 ci ad d f_thrown f_classes f_things f_axioms f_fuel f_questions f_sorted f_left f_other f_right f_there f_member f_state f_before_10 f_placed f_looked f_fact f_maker f_fired f_firedCount f_needed f_module f_asked)) rfl (fun H locs hH => ?_)
      have hw := hw (zF f_before_10) (by rw [ef_before_10]; exact z_st (f := f_before) (rfl : x2.toInt = _) hq_7.1 (rfl : v_9.toInt = _))
      have hq_12 := hw.1
      have hw := hw.2
      obtain ⟨x2_11, ex2_11⟩ : ∃ y : Int32, y = x2 + 1 := ⟨_, rfl⟩
      have hw := hw x2_11.toInt (by rw [ex2_11]; exact (z_x (z_add (z_m (rfl : x2.toInt = _)) (z_m (rfl : (1 : Int32).toInt = 1))) hq_12))
      refine lv_iinc (v := x2_11) (lv' := [(2, .int x2_11), (0, .ref (ad 0)), (1, .int x1)]) hx hb dX52_remove_44 hl (k := 2) rfl (by rw [ex2_11]; rfl) (by decide) rfl (fun ls hl => ?_)
      refine lv_goto (tgt := 25) hx hb dX52_remove_47 (by decide) ?_
      exact ih x2_11 f_before_10 hw _ _ ls hH (lv_sub hl [1, 2, 0] rfl)
set_option maxHeartbeats 4000000 in
theorem atX52_remove_76 {p : Program} {l : Launch} {e : Env} {s : State} {m : MethodId} {args : Array Value} {below : List Frame} {meth : Method} {c : Code} {dC : Nat → ClassId} {dI : Nat → Nat → Nat} {cl : List vw_C} {ci : Nat} (hc : cl[ci]? = some (RX52, TX52, 23)) {ad : Nat → Nat} {d : Nat → ClassId} {A : Nat → Prop} {post : Int → Int → (Int → Int) → (Int → Int) → (Int → Int) → (Int → Int) → Prop} {f_thrown : Int32} {f_classes : Int32} {f_things : Int32} {f_axioms : Int32} {f_fuel : Int32} {f_questions : Int32} {f_left : Nat → Int32} {f_other : Nat → Int32} {f_right : Nat → Int32} {f_member : Nat → Int32} {f_placed : Nat → Int32} {f_looked : Nat → Int32} {f_fact : Nat → Int32} {f_maker : Nat → Int32} {f_fired : Nat → Int32} {f_firedCount : Int32} {f_needed : Nat → Int32} {f_asked : Int32} (X : kX p s m args meth c cX52_remove 4 RX52 (some .int) (dC, dI) cl (tX52 d)) {K117 : Int → Prop}  {f_sorted : Int32} {f_there : Nat → Int32} {f_state : Nat → Int32} {f_before : Nat → Int32} {f_module : Nat → Int32} (hk117 : ∀ (x2 : Int32), K117 x2.toInt → ∀ (H : Heap) (locs : List Loc) (ls : Array Slot), kH (dC, dI) cl A s.heap H locs (wX52 ci ad d f_thrown f_classes f_things f_axioms f_fuel f_questions f_sorted f_left f_other f_right f_there f_member f_state f_before f_placed f_looked f_fact f_maker f_fired f_firedCount f_needed f_module f_asked) → lv_has ls 4 [(2, .int x2)] → W p l e ({ frames := 4, cells := 0, slots := 0, locals := 93 } : Room) s m args below meth c H locs 0 0 (MQ below (va_Qi (fun (r : Int32) (u : Int32 × (Nat → Int32) × (Nat → Int32) × (Nat → Int32) × (Nat → Int32)) => post r.toInt (u.1).toInt (zF (u.2.1)) (zF (u.2.2.1)) (zF (u.2.2.2.1)) (zF (u.2.2.2.2))) (kB (dC, dI) cl (tX52 d) A (fun u : Int32 × (Nat → Int32) × (Nat → Int32) × (Nat → Int32) × (Nat → Int32) => (wX52 ci ad d f_thrown f_classes f_things f_axioms f_fuel f_questions (u.1) f_left f_other f_right (u.2.1) f_member (u.2.2.1) (u.2.2.2.1) f_placed f_looked f_fact f_maker f_fired f_firedCount f_needed (u.2.2.2.2) f_asked))) A) args s 0 0 A) (F0 m 117 ls [])) :
    ∀ (nn : Nat) (x2 : Int32) (x3 : Int32), wX52_remove_76 K117 (zF f_state) (zF f_before) nn x2.toInt x3.toInt → ∀ (H : Heap) (locs : List Loc) (ls : Array Slot), kH (dC, dI) cl A s.heap H locs (wX52 ci ad d f_thrown f_classes f_things f_axioms f_fuel f_questions f_sorted f_left f_other f_right f_there f_member f_state f_before f_placed f_looked f_fact f_maker f_fired f_firedCount f_needed f_module f_asked) → lv_has ls 4 [(0, .ref (ad 0)), (2, .int x2), (3, .int x3)] → W p l e ({ frames := 4, cells := 0, slots := 0, locals := 93 } : Room) s m args below meth c H locs 0 0 (MQ below (va_Qi (fun (r : Int32) (u : Int32 × (Nat → Int32) × (Nat → Int32) × (Nat → Int32) × (Nat → Int32)) => post r.toInt (u.1).toInt (zF (u.2.1)) (zF (u.2.2.1)) (zF (u.2.2.2.1)) (zF (u.2.2.2.2))) (kB (dC, dI) cl (tX52 d) A (fun u : Int32 × (Nat → Int32) × (Nat → Int32) × (Nat → Int32) × (Nat → Int32) => (wX52 ci ad d f_thrown f_classes f_things f_axioms f_fuel f_questions (u.1) f_left f_other f_right (u.2.1) f_member (u.2.2.1) (u.2.2.2.1) f_placed f_looked f_fact f_maker f_fired f_firedCount f_needed (u.2.2.2.2) f_asked))) A) args s 0 0 A) (F0 m 76 ls []) := by
  have hx := X.1.1
  have hb := X.1.2.1
  intro nn
  induction nn with
  | zero =>
    intro x2 x3 hw
    exact False.elim hw
  | succ n ih =>
    intro x2 x3 hw H locs ls hH hl
    rw [wX52_remove_76] at hw
    refine lv_iload_n hx hb dX52_remove_76 rfl (lv_at hl 2 rfl) ?_
    refine lv_sipush (v := 420) hx hb dX52_remove_77 (by decide) ?_
    refine lv_icmp_ge (tgt := 117) hx hb dX52_remove_80 (by decide) (fun c_18 => ?_) (fun c_18 => ?_)
    · have hw := hw.1 (z_le (rfl : (420 : Int32).toInt = 420) (rfl : x3.toInt = _) c_18)
      exact hk117 x2 hw _ _ ls hH (lv_sub hl [1] rfl)
    · have hw := hw.2 (z_nle (rfl : (420 : Int32).toInt = 420) (rfl : x3.toInt = _) c_18)
      refine lv_iload_n hx hb dX52_remove_83 rfl (lv_at hl 1 rfl) ?_
      refine lv_aload_n hx hb dX52_remove_84 rfl (lv_at hl 0 rfl) ?_
      refine k_get X hH in_X52 0 rfl hc 13 (by decide) q6394 rfl dX52_remove_85 ?_
      refine lv_iload_n hx hb dX52_remove_88 rfl (lv_at hl 2 rfl) ?_
      have hq_19 := hw.1
      have hw := hw.2
      refine k_iald X hH 7 6 rfl rfl (z_in (rfl : x3.toInt = _) hq_19) dX52_remove_89 ?_
      have e_20 := z_ld (f := f_before) (rfl : x3.toInt = _) hq_19.1
      refine lv_iconst (v := 3) hx hb dX52_remove_90 (by decide) ?_
      refine lv_icmp_eq (tgt := 108) hx hb dX52_remove_91 (by decide) (fun c_21 => ?_) (fun c_21 => ?_)
      · have hw := hw.1 (z_eq e_20 (rfl : (3 : Int32).toInt = 3) c_21)
        refine lv_iconst (v := 0) hx hb dX52_remove_108 (by decide) ?_
        refine lv_iadd hx hb dX52_remove_109 ?_
        have e_22 := z_add (z_m (rfl : x2.toInt = _)) (z_m (rfl : (0 : Int32).toInt = 0))
        have hq_23 := hw.1
        have hw := hw.2
        have e_24 := z_x e_22 hq_23
        refine lv_topi (fun x2_25 ex2_25 => ?_)
        have hw := hw x2_25.toInt (by rw [ex2_25]; exact e_24)
        refine lv_istore_n (lv' := [(2, .int x2_25), (0, .ref (ad 0)), (3, .int x3)]) hx hb dX52_remove_110 rfl hl (by decide) rfl (fun ls hl => ?_)
        have hq_27 := hw.1
        have hw := hw.2
        obtain ⟨x3_26, ex3_26⟩ : ∃ y : Int32, y = x3 + 1 := ⟨_, rfl⟩
        have hw := hw x3_26.toInt (by rw [ex3_26]; exact (z_x (z_add (z_m (rfl : x3.toInt = _)) (z_m (rfl : (1 : Int32).toInt = 1))) hq_27))
        refine lv_iinc (v := x3_26) (lv' := [(3, .int x3_26), (2, .int x2_25), (0, .ref (ad 0))]) hx hb dX52_remove_111 hl (k := 2) rfl (by rw [ex3_26]; rfl) (by decide) rfl (fun ls hl => ?_)
        refine lv_goto (tgt := 76) hx hb dX52_remove_114 (by decide) ?_
        exact ih x2_25 x3_26 hw _ _ ls hH (lv_sub hl [2, 1, 0] rfl)
      · have hw := hw.2 (z_neq e_20 (rfl : (3 : Int32).toInt = 3) c_21)
        refine lv_aload_n hx hb dX52_remove_94 rfl (lv_at hl 0 rfl) ?_
        refine k_get X hH in_X52 0 rfl hc 12 (by decide) q6393 rfl dX52_remove_95 ?_
        refine lv_iload_n hx hb dX52_remove_98 rfl (lv_at hl 2 rfl) ?_
        refine k_iald X hH 6 5 rfl rfl (z_in (rfl : x3.toInt = _) hq_19) dX52_remove_99 ?_
        have e_28 := z_ld (f := f_state) (rfl : x3.toInt = _) hq_19.1
        refine lv_iconst (v := 3) hx hb dX52_remove_100 (by decide) ?_
        refine lv_icmp_ne (tgt := 108) hx hb dX52_remove_101 (by decide) (fun c_29 => ?_) (fun c_29 => ?_)
        · have hw := hw.2 (z_ne e_28 (rfl : (3 : Int32).toInt = 3) c_29)
          refine lv_iconst (v := 0) hx hb dX52_remove_108 (by decide) ?_
          refine lv_iadd hx hb dX52_remove_109 ?_
          have e_30 := z_add (z_m (rfl : x2.toInt = _)) (z_m (rfl : (0 : Int32).toInt = 0))
          have hq_31 := hw.1
          have hw := hw.2
          have e_32 := z_x e_30 hq_31
          refine lv_topi (fun x2_33 ex2_33 => ?_)
          have hw := hw x2_33.toInt (by rw [ex2_33]; exact e_32)
          refine lv_istore_n (lv' := [(2, .int x2_33), (0, .ref (ad 0)), (3, .int x3)]) hx hb dX52_remove_110 rfl hl (by decide) rfl (fun ls hl => ?_)
          have hq_35 := hw.1
          have hw := hw.2
          obtain ⟨x3_34, ex3_34⟩ : ∃ y : Int32, y = x3 + 1 := ⟨_, rfl⟩
          have hw := hw x3_34.toInt (by rw [ex3_34]; exact (z_x (z_add (z_m (rfl : x3.toInt = _)) (z_m (rfl : (1 : Int32).toInt = 1))) hq_35))
          refine lv_iinc (v := x3_34) (lv' := [(3, .int x3_34), (2, .int x2_33), (0, .ref (ad 0))]) hx hb dX52_remove_111 hl (k := 2) rfl (by rw [ex3_34]; rfl) (by decide) rfl (fun ls hl => ?_)
          refine lv_goto (tgt := 76) hx hb dX52_remove_114 (by decide) ?_
          exact ih x2_33 x3_34 hw _ _ ls hH (lv_sub hl [2, 1, 0] rfl)
        · have hw := hw.1 (z_eq e_28 (rfl : (3 : Int32).toInt = 3) c_29)
          refine lv_iconst (v := 1) hx hb dX52_remove_104 (by decide) ?_
          refine lv_goto (tgt := 109) hx hb dX52_remove_105 (by decide) ?_
          refine lv_iadd hx hb dX52_remove_109 ?_
          have e_36 := z_add (z_m (rfl : x2.toInt = _)) (z_m (rfl : (1 : Int32).toInt = 1))
          have hq_37 := hw.1
          have hw := hw.2
          have e_38 := z_x e_36 hq_37
          refine lv_topi (fun x2_39 ex2_39 => ?_)
          have hw := hw x2_39.toInt (by rw [ex2_39]; exact e_38)
          refine lv_istore_n (lv' := [(2, .int x2_39), (0, .ref (ad 0)), (3, .int x3)]) hx hb dX52_remove_110 rfl hl (by decide) rfl (fun ls hl => ?_)
          have hq_41 := hw.1
          have hw := hw.2
          obtain ⟨x3_40, ex3_40⟩ : ∃ y : Int32, y = x3 + 1 := ⟨_, rfl⟩
          have hw := hw x3_40.toInt (by rw [ex3_40]; exact (z_x (z_add (z_m (rfl : x3.toInt = _)) (z_m (rfl : (1 : Int32).toInt = 1))) hq_41))
          refine lv_iinc (v := x3_40) (lv' := [(3, .int x3_40), (2, .int x2_39), (0, .ref (ad 0))]) hx hb dX52_remove_111 hl (k := 2) rfl (by rw [ex3_40]; rfl) (by decide) rfl (fun ls hl => ?_)
          refine lv_goto (tgt := 76) hx hb dX52_remove_114 (by decide) ?_
          exact ih x2_39 x3_40 hw _ _ ls hH (lv_sub hl [2, 1, 0] rfl)
set_option maxHeartbeats 4000000 in
theorem walkX52_remove {l : Launch} {dC : Nat → ClassId} {dI : Nat → Nat → Nat} {cl : List vw_C} {ci : Nat} (hc : cl[ci]? = some (RX52, TX52, 23)) {ad : Nat → Nat} {d : Nat → ClassId} {sz : Nat} {f_thrown : Int32} {f_classes : Int32} {f_things : Int32} {f_axioms : Int32} {f_fuel : Int32} {f_questions : Int32} {f_sorted : Int32} {f_left : Nat → Int32} {f_other : Nat → Int32} {f_right : Nat → Int32} {f_there : Nat → Int32} {f_member : Nat → Int32} {f_state : Nat → Int32} {f_before : Nat → Int32} {f_placed : Nat → Int32} {f_looked : Nat → Int32} {f_fact : Nat → Int32} {f_maker : Nat → Int32} {f_fired : Nat → Int32} {f_firedCount : Int32} {f_needed : Nat → Int32} {f_module : Nat → Int32} {f_asked : Int32} {x1 : Int32} {post : Int → Int → (Int → Int) → (Int → Int) → (Int → Int) → (Int → Int) → Prop} (hw : wpX52_remove post f_classes.toInt f_axioms.toInt f_sorted.toInt (zF f_left) (zF f_other) (zF f_right) (zF f_there) (zF f_state) (zF f_before) (zF f_module) x1.toInt) :
    Met l yX52_remove (ws_ yX52_remove cX52_remove 4 (some .int)) ({ frames := 4, cells := 0, slots := 0, locals := 93 } : Room) (kPc (dC, dI) cl (tX52 d) [.ref (ad 0), .int x1] sz (wX52 ci ad d f_thrown f_classes f_things f_axioms f_fuel f_questions f_sorted f_left f_other f_right f_there f_member f_state f_before f_placed f_looked f_fact f_maker f_fired f_firedCount f_needed f_module f_asked)) (va_Qi (fun (r : Int32) (u : Int32 × (Nat → Int32) × (Nat → Int32) × (Nat → Int32) × (Nat → Int32)) => post r.toInt (u.1).toInt (zF (u.2.1)) (zF (u.2.2.1)) (zF (u.2.2.2.1)) (zF (u.2.2.2.2))) (kB (dC, dI) cl (tX52 d) (va_A (wX52 ci ad d f_thrown f_classes f_things f_axioms f_fuel f_questions f_sorted f_left f_other f_right f_there f_member f_state f_before f_placed f_looked f_fact f_maker f_fired f_firedCount f_needed f_module f_asked) sz) (fun u : Int32 × (Nat → Int32) × (Nat → Int32) × (Nat → Int32) × (Nat → Int32) => (wX52 ci ad d f_thrown f_classes f_things f_axioms f_fuel f_questions (u.1) f_left f_other f_right (u.2.1) f_member (u.2.2.1) (u.2.2.2.1) f_placed f_looked f_fact f_maker f_fired f_firedCount f_needed (u.2.2.2.2) f_asked))) (va_A (wX52 ci ad d f_thrown f_classes f_things f_axioms f_fuel f_questions f_sorted f_left f_other f_right f_there f_member f_state f_before f_placed f_looked f_fact f_maker f_fired f_firedCount f_needed f_module f_asked) sz)) 0 0 (va_A (wX52 ci ad d f_thrown f_classes f_things f_axioms f_fuel f_questions f_sorted f_left f_other f_right f_there f_member f_state f_before f_placed f_looked f_fact f_maker f_fired f_firedCount f_needed f_module f_asked) sz) := by
  refine k_enter (by decide) (Nat.le_of_ble_eq_true rfl) ?_
  intro p e s m below meth c ls X hsz hH hl
  subst hsz
  generalize va_A (wX52 ci ad d f_thrown f_classes f_things f_axioms f_fuel f_questions f_sorted f_left f_other f_right f_there f_member f_state f_before f_placed f_looked f_fact f_maker f_fired f_firedCount f_needed f_module f_asked) s.heap.size = A at hH ⊢
  have hx := X.1.1
  have hb := X.1.2.1
  have hl : lv_has ls 4 [(0, .ref (ad 0)), (1, .int x1)] := hl
  unfold wpX52_remove at hw
  refine lv_iload_n hx hb dX52_remove_0 rfl (lv_at hl 1 rfl) ?_
  refine lv_if_lt (tgt := 21) hx hb dX52_remove_1 (by decide) (fun c_1 => ?_) (fun c_1 => ?_)
  · have hw := hw.1 (z_lt (rfl : x1.toInt = _) (rfl : (0 : Int32).toInt = 0) c_1)
    refine lv_iconst (v := (-1)) hx hb dX52_remove_21 (by decide) ?_
    exact k_iret (v := (-1)) X hH (f_sorted, f_there, f_state, f_before, f_module) hw rfl rfl dX52_remove_22
  · have hw := hw.2 (z_nlt (rfl : x1.toInt = _) (rfl : (0 : Int32).toInt = 0) c_1)
    refine lv_iload_n hx hb dX52_remove_4 rfl (lv_at hl 1 rfl) ?_
    refine lv_aload_n hx hb dX52_remove_5 rfl (lv_at hl 0 rfl) ?_
    refine k_get X hH in_X52 0 rfl hc 3 (by decide) q6384 rfl dX52_remove_6 ?_
    refine lv_icmp_ge (tgt := 21) hx hb dX52_remove_9 (by decide) (fun c_2 => ?_) (fun c_2 => ?_)
    · have hw := hw.1 (z_le (rfl : f_axioms.toInt = _) (rfl : x1.toInt = _) c_2)
      refine lv_iconst (v := (-1)) hx hb dX52_remove_21 (by decide) ?_
      exact k_iret (v := (-1)) X hH (f_sorted, f_there, f_state, f_before, f_module) hw rfl rfl dX52_remove_22
    · have hw := hw.2 (z_nle (rfl : f_axioms.toInt = _) (rfl : x1.toInt = _) c_2)
      refine lv_aload_n hx hb dX52_remove_12 rfl (lv_at hl 0 rfl) ?_
      refine k_get X hH in_X52 0 rfl hc 10 (by decide) q6391 rfl dX52_remove_13 ?_
      refine lv_iload_n hx hb dX52_remove_16 rfl (lv_at hl 1 rfl) ?_
      have hq_3 := hw.1
      have hw := hw.2
      refine k_zald X hH 4 3 rfl rfl (z_in (rfl : x1.toInt = _) hq_3) dX52_remove_17 ?_
      have e_4 := z_ld (f := f_there) (rfl : x1.toInt = _) hq_3.1
      refine lv_if_ne (tgt := 23) hx hb dX52_remove_18 (by decide) (fun c_5 => ?_) (fun c_5 => ?_)
      · have hw := hw.2 (z_ne e_4 (rfl : (0 : Int32).toInt = 0) c_5)
        refine lv_iconst (v := 0) hx hb dX52_remove_23 (by decide) ?_
        refine lv_istore_n (lv' := [(2, .int 0), (0, .ref (ad 0)), (1, .int x1)]) hx hb dX52_remove_24 rfl hl (by decide) rfl (fun ls hl => ?_)
        obtain ⟨fu, hw⟩ := hw
        refine atX52_remove_25 hc X ?_ fu 0 f_before hw _ _ ls hH (lv_sub hl [1, 2, 0] rfl)
        · intro f_before_13 hw H locs ls hH hl
          refine lv_aload_n hx hb dX52_remove_50 rfl (lv_at hl 0 rfl) ?_
          refine lv_iload_n hx hb dX52_remove_51 rfl (lv_at hl 1 rfl) ?_
          refine lv_iconst (v := 1) hx hb dX52_remove_52 (by decide) ?_
          refine k_v0 hH (k_runV (As := [.int x1, .int 1]) (rest := []) X hH.1 hH.2.1 X.2.2.2 (walkX52_forget hc (x1 := x1) (x2 := 1) (f_thrown := f_thrown) (f_classes := f_classes) (f_things := f_things) (f_axioms := f_axioms) (f_fuel := f_fuel) (f_questions := f_questions) (f_sorted := f_sorted) (f_left := f_left) (f_other := f_other) (f_right := f_right) (f_there := f_there) (f_member := f_member) (f_state := f_state) (f_before := f_before_13) (f_placed := f_placed) (f_looked := f_looked) (f_fact := f_fact) (f_maker := f_maker) (f_fired := f_fired) (f_firedCount := f_firedCount) (f_needed := f_needed) (f_module := f_module) (f_asked := f_asked) hw) (cwV 2 X.1.2.2.2.2 gX52_110 rfl rfl rfl hX52_forget ⟨Nat.le_of_ble_eq_true rfl, Nat.le_of_ble_eq_true rfl⟩) hc (q0 := 0) rfl rfl hl.1 rfl (Nat.le_of_ble_eq_true rfl) dX52_remove_53 ⟨Nat.le_refl 0, Nat.le_refl 0⟩) (fun u H locs hw hH => ?_)
          obtain ⟨f_state_14, f_module_15⟩ := u
          have hH : kH (dC, dI) cl A s.heap H locs (wX52 ci ad d f_thrown f_classes f_things f_axioms f_fuel f_questions f_sorted f_left f_other f_right f_there f_member f_state_14 f_before_13 f_placed f_looked f_fact f_maker f_fired f_firedCount f_needed f_module_15 f_asked) := hH
          refine lv_aload_n hx hb dX52_remove_56 rfl (lv_at hl 0 rfl) ?_
          refine k_get X hH in_X52 0 rfl hc 10 (by decide) q6391 rfl dX52_remove_57 ?_
          refine lv_iload_n hx hb dX52_remove_60 rfl (lv_at hl 1 rfl) ?_
          refine lv_iconst (v := 0) hx hb dX52_remove_61 (by decide) ?_
          obtain ⟨f_there_16, ef_there_16⟩ : ∃ y : Nat → Int32, y = upd f_there x1.toNatClampNeg (vp_nar .boolean 0) := ⟨_, rfl⟩
          refine k_zast X hH 4 3 rfl rfl (z_in (rfl : x1.toInt = _) hq_3) dX52_remove_62 ef_there_16 (ws1 := (wX52 ci ad d f_thrown f_classes f_things f_axioms f_fuel f_questions f_sorted f_left f_other f_right f_there_16 f_member f_state_14 f_before_13 f_placed f_looked f_fact f_maker f_fired f_firedCount f_needed f_module_15 f_asked)) rfl (fun H locs hH => ?_)
          have hw := hw (zF f_there_16) (by rw [ef_there_16]; exact z_st (f := f_there) (rfl : x1.toInt = _) hq_3.1 (z_narZ (rfl : (0 : Int32).toInt = 0) (by decide)))
          refine lv_aload_n hx hb dX52_remove_63 rfl (lv_at hl 0 rfl) ?_
          refine lv_iconst (v := 0) hx hb dX52_remove_64 (by decide) ?_
          refine k_put X hH in_X52 tyX52_ok nmX52 0 rfl hc 6 (by decide) q6387 rfl (ty := .boolean) rfl rfl rfl (Nat.le_of_ble_eq_true rfl) dX52_remove_65 (ws1 := (wX52 ci ad d f_thrown f_classes f_things f_axioms f_fuel f_questions 0 f_left f_other f_right f_there_16 f_member f_state_14 f_before_13 f_placed f_looked f_fact f_maker f_fired f_firedCount f_needed f_module_15 f_asked)) rfl (fun H locs hH => ?_)
          refine lv_aload_n hx hb dX52_remove_68 rfl (lv_at hl 0 rfl) ?_
          refine k_v0 hH (k_runV (As := []) (rest := []) X hH.1 hH.2.1 X.2.2.2 (walkX52_close hc (f_thrown := f_thrown) (f_classes := f_classes) (f_things := f_things) (f_axioms := f_axioms) (f_fuel := f_fuel) (f_questions := f_questions) (f_sorted := 0) (f_left := f_left) (f_other := f_other) (f_right := f_right) (f_there := f_there_16) (f_member := f_member) (f_state := f_state_14) (f_before := f_before_13) (f_placed := f_placed) (f_looked := f_looked) (f_fact := f_fact) (f_maker := f_maker) (f_fired := f_fired) (f_firedCount := f_firedCount) (f_needed := f_needed) (f_module := f_module_15) (f_asked := f_asked) hw) (cwV 0 X.1.2.2.2.2 gX52_101 rfl rfl rfl hX52_close ⟨Nat.le_of_ble_eq_true rfl, Nat.le_of_ble_eq_true rfl⟩) hc (q0 := 0) rfl rfl hl.1 rfl (Nat.le_of_ble_eq_true rfl) dX52_remove_69 ⟨Nat.le_refl 0, Nat.le_refl 0⟩) (fun u H locs hw hH => ?_)
          obtain ⟨f_state_17, eu⟩ : ∃ z, z = u := ⟨_, rfl⟩
          subst eu
          have hH : kH (dC, dI) cl A s.heap H locs (wX52 ci ad d f_thrown f_classes f_things f_axioms f_fuel f_questions 0 f_left f_other f_right f_there_16 f_member f_state_17 f_before_13 f_placed f_looked f_fact f_maker f_fired f_firedCount f_needed f_module_15 f_asked) := hH
          refine lv_iconst (v := 0) hx hb dX52_remove_72 (by decide) ?_
          refine lv_istore_n (lv' := [(2, .int 0), (0, .ref (ad 0)), (1, .int x1)]) hx hb dX52_remove_73 rfl hl (by decide) rfl (fun ls hl => ?_)
          refine lv_iconst (v := 0) hx hb dX52_remove_74 (by decide) ?_
          refine lv_istore_n (lv' := [(3, .int 0), (2, .int 0), (0, .ref (ad 0)), (1, .int x1)]) hx hb dX52_remove_75 rfl hl (by decide) rfl (fun ls hl => ?_)
          obtain ⟨fu, hw⟩ := hw
          refine atX52_remove_76 hc X ?_ fu 0 0 hw _ _ ls hH (lv_sub hl [2, 1, 0] rfl)
          · intro x2_42 hw H locs ls hH hl
            refine lv_iload_n hx hb dX52_remove_117 rfl (lv_at hl 0 rfl) ?_
            exact k_iret (v := x2_42) X hH (0, f_there_16, f_state_17, f_before_13, f_module_15) hw rfl rfl dX52_remove_118
      · have hw := hw.1 (z_eq e_4 (rfl : (0 : Int32).toInt = 0) c_5)
        refine lv_iconst (v := (-1)) hx hb dX52_remove_21 (by decide) ?_
        exact k_iret (v := (-1)) X hH (f_sorted, f_there, f_state, f_before, f_module) hw rfl rfl dX52_remove_22
set_option maxHeartbeats 4000000 in
theorem atX52_fuel_20 {p : Program} {l : Launch} {e : Env} {s : State} {m : MethodId} {args : Array Value} {below : List Frame} {meth : Method} {c : Code} {dC : Nat → ClassId} {dI : Nat → Nat → Nat} {cl : List vw_C} {ci : Nat} (hc : cl[ci]? = some (RX52, TX52, 23)) {ad : Nat → Nat} {d : Nat → ClassId} {A : Nat → Prop} {post : Int → Int → Int → (Int → Int) → Prop} {f_thrown : Int32} {f_classes : Int32} {f_things : Int32} {f_axioms : Int32} {f_questions : Int32} {f_left : Nat → Int32} {f_other : Nat → Int32} {f_right : Nat → Int32} {f_there : Nat → Int32} {f_member : Nat → Int32} {f_before : Nat → Int32} {f_placed : Nat → Int32} {f_looked : Nat → Int32} {f_fact : Nat → Int32} {f_maker : Nat → Int32} {f_fired : Nat → Int32} {f_firedCount : Int32} {f_needed : Nat → Int32} {f_module : Nat → Int32} {f_asked : Int32} (X : kX p s m args meth c cX52_fuel 4 RX52 (some .int) (dC, dI) cl (tX52 d)) {K59 : (Int → Int) → Prop} {x1 : Int32} {x2 : Int32} {f_fuel : Int32} {f_sorted : Int32} (hk59 : ∀ (f_state : Nat → Int32), K59 (zF f_state) → ∀ (H : Heap) (locs : List Loc) (ls : Array Slot), kH (dC, dI) cl A s.heap H locs (wX52 ci ad d f_thrown f_classes f_things f_axioms f_fuel f_questions f_sorted f_left f_other f_right f_there f_member f_state f_before f_placed f_looked f_fact f_maker f_fired f_firedCount f_needed f_module f_asked) → lv_has ls 4 [(0, .ref (ad 0)), (1, .int x1), (2, .int x2)] → W p l e ({ frames := 1, cells := 0, slots := 0, locals := 22 } : Room) s m args below meth c H locs 0 0 (MQ below (va_Qi (fun (r : Int32) (u : Int32 × Int32 × (Nat → Int32)) => post r.toInt (u.1).toInt (u.2.1).toInt (zF (u.2.2))) (kB (dC, dI) cl (tX52 d) A (fun u : Int32 × Int32 × (Nat → Int32) => (wX52 ci ad d f_thrown f_classes f_things f_axioms (u.1) f_questions (u.2.1) f_left f_other f_right f_there f_member (u.2.2) f_before f_placed f_looked f_fact f_maker f_fired f_firedCount f_needed f_module f_asked))) A) args s 0 0 A) (F0 m 59 ls [])) :
    ∀ (nn : Nat) (x3 : Int32) (f_state : Nat → Int32), wX52_fuel_20 K59 nn x3.toInt (zF f_state) → ∀ (H : Heap) (locs : List Loc) (ls : Array Slot), kH (dC, dI) cl A s.heap H locs (wX52 ci ad d f_thrown f_classes f_things f_axioms f_fuel f_questions f_sorted f_left f_other f_right f_there f_member f_state f_before f_placed f_looked f_fact f_maker f_fired f_firedCount f_needed f_module f_asked) → lv_has ls 4 [(0, .ref (ad 0)), (1, .int x1), (2, .int x2), (3, .int x3)] → W p l e ({ frames := 1, cells := 0, slots := 0, locals := 22 } : Room) s m args below meth c H locs 0 0 (MQ below (va_Qi (fun (r : Int32) (u : Int32 × Int32 × (Nat → Int32)) => post r.toInt (u.1).toInt (u.2.1).toInt (zF (u.2.2))) (kB (dC, dI) cl (tX52 d) A (fun u : Int32 × Int32 × (Nat → Int32) => (wX52 ci ad d f_thrown f_classes f_things f_axioms (u.1) f_questions (u.2.1) f_left f_other f_right f_there f_member (u.2.2) f_before f_placed f_looked f_fact f_maker f_fired f_firedCount f_needed f_module f_asked))) A) args s 0 0 A) (F0 m 20 ls []) := by
  have hx := X.1.1
  have hb := X.1.2.1
  intro nn
  induction nn with
  | zero =>
    intro x3 f_state hw
    exact False.elim hw
  | succ n ih =>
    intro x3 f_state hw H locs ls hH hl
    rw [wX52_fuel_20] at hw
    refine lv_iload_n hx hb dX52_fuel_20 rfl (lv_at hl 3 rfl) ?_
    refine lv_sipush (v := 420) hx hb dX52_fuel_21 (by decide) ?_
    refine lv_icmp_ge (tgt := 59) hx hb dX52_fuel_24 (by decide) (fun c_4 => ?_) (fun c_4 => ?_)
    · have hw := hw.1 (z_le (rfl : (420 : Int32).toInt = 420) (rfl : x3.toInt = _) c_4)
      exact hk59 f_state hw _ _ ls hH (lv_sub hl [0, 1, 2] rfl)
    · have hw := hw.2 (z_nle (rfl : (420 : Int32).toInt = 420) (rfl : x3.toInt = _) c_4)
      refine lv_aload_n hx hb dX52_fuel_27 rfl (lv_at hl 0 rfl) ?_
      refine k_get X hH in_X52 0 rfl hc 12 (by decide) q6393 rfl dX52_fuel_28 ?_
      refine lv_iload_n hx hb dX52_fuel_31 rfl (lv_at hl 3 rfl) ?_
      refine lv_aload_n hx hb dX52_fuel_32 rfl (lv_at hl 0 rfl) ?_
      refine k_get X hH in_X52 0 rfl hc 12 (by decide) q6393 rfl dX52_fuel_33 ?_
      refine lv_iload_n hx hb dX52_fuel_36 rfl (lv_at hl 3 rfl) ?_
      have hq_5 := hw.1
      have hw := hw.2
      refine k_iald X hH 6 5 rfl rfl (z_in (rfl : x3.toInt = _) hq_5) dX52_fuel_37 ?_
      have e_6 := z_ld (f := f_state) (rfl : x3.toInt = _) hq_5.1
      refine lv_iconst (v := 2) hx hb dX52_fuel_38 (by decide) ?_
      refine lv_icmp_ne (tgt := 46) hx hb dX52_fuel_39 (by decide) (fun c_7 => ?_) (fun c_7 => ?_)
      · have hw := hw.2 (z_ne e_6 (rfl : (2 : Int32).toInt = 2) c_7)
        refine lv_aload_n hx hb dX52_fuel_46 rfl (lv_at hl 0 rfl) ?_
        refine k_get X hH in_X52 0 rfl hc 12 (by decide) q6393 rfl dX52_fuel_47 ?_
        refine lv_iload_n hx hb dX52_fuel_50 rfl (lv_at hl 3 rfl) ?_
        refine k_iald X hH 6 5 rfl rfl (z_in (rfl : x3.toInt = _) hq_5) dX52_fuel_51 ?_
        have e_8 := z_ld (f := f_state) (rfl : x3.toInt = _) hq_5.1
        refine lv_topi (fun v_9 ev_9 => ?_)
        have hw := hw v_9.toInt (by rw [ev_9]; exact e_8)
        obtain ⟨f_state_10, ef_state_10⟩ : ∃ y : Nat → Int32, y = upd f_state x3.toNatClampNeg v_9 := ⟨_, rfl⟩
        refine k_iast X hH 6 5 rfl rfl (z_in (rfl : x3.toInt = _) hq_5) dX52_fuel_52 ef_state_10 (ws1 := (wX52 ci ad d f_thrown f_classes f_things f_axioms f_fuel f_questions f_sorted f_left f_other f_right f_there f_member f_state_10 f_before f_placed f_looked f_fact f_maker f_fired f_firedCount f_needed f_module f_asked)) rfl (fun H locs hH => ?_)
        have hw := hw (zF f_state_10) (by rw [ef_state_10]; exact z_st (f := f_state) (rfl : x3.toInt = _) hq_5.1 (rfl : v_9.toInt = _))
        have hq_12 := hw.1
        have hw := hw.2
        obtain ⟨x3_11, ex3_11⟩ : ∃ y : Int32, y = x3 + 1 := ⟨_, rfl⟩
        have hw := hw x3_11.toInt (by rw [ex3_11]; exact (z_x (z_add (z_m (rfl : x3.toInt = _)) (z_m (rfl : (1 : Int32).toInt = 1))) hq_12))
        refine lv_iinc (v := x3_11) (lv' := [(3, .int x3_11), (0, .ref (ad 0)), (1, .int x1), (2, .int x2)]) hx hb dX52_fuel_53 hl (k := 3) rfl (by rw [ex3_11]; rfl) (by decide) rfl (fun ls hl => ?_)
        refine lv_goto (tgt := 20) hx hb dX52_fuel_56 (by decide) ?_
        exact ih x3_11 f_state_10 hw _ _ ls hH (lv_sub hl [1, 2, 3, 0] rfl)
      · have hw := hw.1 (z_eq e_6 (rfl : (2 : Int32).toInt = 2) c_7)
        refine lv_iconst (v := 3) hx hb dX52_fuel_42 (by decide) ?_
        refine lv_goto (tgt := 52) hx hb dX52_fuel_43 (by decide) ?_
        obtain ⟨f_state_13, ef_state_13⟩ : ∃ y : Nat → Int32, y = upd f_state x3.toNatClampNeg 3 := ⟨_, rfl⟩
        refine k_iast X hH 6 5 rfl rfl (z_in (rfl : x3.toInt = _) hq_5) dX52_fuel_52 ef_state_13 (ws1 := (wX52 ci ad d f_thrown f_classes f_things f_axioms f_fuel f_questions f_sorted f_left f_other f_right f_there f_member f_state_13 f_before f_placed f_looked f_fact f_maker f_fired f_firedCount f_needed f_module f_asked)) rfl (fun H locs hH => ?_)
        have hw := hw (zF f_state_13) (by rw [ef_state_13]; exact z_st (f := f_state) (rfl : x3.toInt = _) hq_5.1 (rfl : (3 : Int32).toInt = 3))
        have hq_15 := hw.1
        have hw := hw.2
        obtain ⟨x3_14, ex3_14⟩ : ∃ y : Int32, y = x3 + 1 := ⟨_, rfl⟩
        have hw := hw x3_14.toInt (by rw [ex3_14]; exact (z_x (z_add (z_m (rfl : x3.toInt = _)) (z_m (rfl : (1 : Int32).toInt = 1))) hq_15))
        refine lv_iinc (v := x3_14) (lv' := [(3, .int x3_14), (0, .ref (ad 0)), (1, .int x1), (2, .int x2)]) hx hb dX52_fuel_53 hl (k := 3) rfl (by rw [ex3_14]; rfl) (by decide) rfl (fun ls hl => ?_)
        refine lv_goto (tgt := 20) hx hb dX52_fuel_56 (by decide) ?_
        exact ih x3_14 f_state_13 hw _ _ ls hH (lv_sub hl [1, 2, 3, 0] rfl)
set_option maxHeartbeats 4000000 in
theorem walkX52_fuel {l : Launch} {dC : Nat → ClassId} {dI : Nat → Nat → Nat} {cl : List vw_C} {ci : Nat} (hc : cl[ci]? = some (RX52, TX52, 23)) {ad : Nat → Nat} {d : Nat → ClassId} {sz : Nat} {f_thrown : Int32} {f_classes : Int32} {f_things : Int32} {f_axioms : Int32} {f_fuel : Int32} {f_questions : Int32} {f_sorted : Int32} {f_left : Nat → Int32} {f_other : Nat → Int32} {f_right : Nat → Int32} {f_there : Nat → Int32} {f_member : Nat → Int32} {f_state : Nat → Int32} {f_before : Nat → Int32} {f_placed : Nat → Int32} {f_looked : Nat → Int32} {f_fact : Nat → Int32} {f_maker : Nat → Int32} {f_fired : Nat → Int32} {f_firedCount : Int32} {f_needed : Nat → Int32} {f_module : Nat → Int32} {f_asked : Int32} {x1 : Int32} {post : Int → Int → Int → (Int → Int) → Prop} (hw : wpX52_fuel post f_fuel.toInt f_sorted.toInt (zF f_state) x1.toInt) :
    Met l yX52_fuel (ws_ yX52_fuel cX52_fuel 4 (some .int)) ({ frames := 1, cells := 0, slots := 0, locals := 22 } : Room) (kPc (dC, dI) cl (tX52 d) [.ref (ad 0), .int x1] sz (wX52 ci ad d f_thrown f_classes f_things f_axioms f_fuel f_questions f_sorted f_left f_other f_right f_there f_member f_state f_before f_placed f_looked f_fact f_maker f_fired f_firedCount f_needed f_module f_asked)) (va_Qi (fun (r : Int32) (u : Int32 × Int32 × (Nat → Int32)) => post r.toInt (u.1).toInt (u.2.1).toInt (zF (u.2.2))) (kB (dC, dI) cl (tX52 d) (va_A (wX52 ci ad d f_thrown f_classes f_things f_axioms f_fuel f_questions f_sorted f_left f_other f_right f_there f_member f_state f_before f_placed f_looked f_fact f_maker f_fired f_firedCount f_needed f_module f_asked) sz) (fun u : Int32 × Int32 × (Nat → Int32) => (wX52 ci ad d f_thrown f_classes f_things f_axioms (u.1) f_questions (u.2.1) f_left f_other f_right f_there f_member (u.2.2) f_before f_placed f_looked f_fact f_maker f_fired f_firedCount f_needed f_module f_asked))) (va_A (wX52 ci ad d f_thrown f_classes f_things f_axioms f_fuel f_questions f_sorted f_left f_other f_right f_there f_member f_state f_before f_placed f_looked f_fact f_maker f_fired f_firedCount f_needed f_module f_asked) sz)) 0 0 (va_A (wX52 ci ad d f_thrown f_classes f_things f_axioms f_fuel f_questions f_sorted f_left f_other f_right f_there f_member f_state f_before f_placed f_looked f_fact f_maker f_fired f_firedCount f_needed f_module f_asked) sz) := by
  refine k_enter (by decide) (Nat.le_of_ble_eq_true rfl) ?_
  intro p e s m below meth c ls X hsz hH hl
  subst hsz
  generalize va_A (wX52 ci ad d f_thrown f_classes f_things f_axioms f_fuel f_questions f_sorted f_left f_other f_right f_there f_member f_state f_before f_placed f_looked f_fact f_maker f_fired f_firedCount f_needed f_module f_asked) s.heap.size = A at hH ⊢
  have hx := X.1.1
  have hb := X.1.2.1
  have hl : lv_has ls 4 [(0, .ref (ad 0)), (1, .int x1)] := hl
  unfold wpX52_fuel at hw
  refine lv_iload_n hx hb dX52_fuel_0 rfl (lv_at hl 1 rfl) ?_
  refine lv_if_lt (tgt := 10) hx hb dX52_fuel_1 (by decide) (fun c_1 => ?_) (fun c_1 => ?_)
  · have hw := hw.1 (z_lt (rfl : x1.toInt = _) (rfl : (0 : Int32).toInt = 0) c_1)
    refine lv_bipush (v := (-2)) hx hb dX52_fuel_10 (by decide) ?_
    exact k_iret (v := (-2)) X hH (f_fuel, f_sorted, f_state) hw rfl rfl dX52_fuel_12
  · have hw := hw.2 (z_nlt (rfl : x1.toInt = _) (rfl : (0 : Int32).toInt = 0) c_1)
    refine lv_iload_n hx hb dX52_fuel_4 rfl (lv_at hl 1 rfl) ?_
    refine lv_bipush (v := 20) hx hb dX52_fuel_5 (by decide) ?_
    refine lv_icmp_le (tgt := 13) hx hb dX52_fuel_7 (by decide) (fun c_2 => ?_) (fun c_2 => ?_)
    · have hw := hw.1 (z_le (rfl : x1.toInt = _) (rfl : (20 : Int32).toInt = 20) c_2)
      refine lv_aload_n hx hb dX52_fuel_13 rfl (lv_at hl 0 rfl) ?_
      refine k_i0 hH (k_runV (As := []) (rest := []) X hH.1 hH.2.1 X.2.2.2 (walkX52_openPairs hc (f_thrown := f_thrown) (f_classes := f_classes) (f_things := f_things) (f_axioms := f_axioms) (f_fuel := f_fuel) (f_questions := f_questions) (f_sorted := f_sorted) (f_left := f_left) (f_other := f_other) (f_right := f_right) (f_there := f_there) (f_member := f_member) (f_state := f_state) (f_before := f_before) (f_placed := f_placed) (f_looked := f_looked) (f_fact := f_fact) (f_maker := f_maker) (f_fired := f_fired) (f_firedCount := f_firedCount) (f_needed := f_needed) (f_module := f_module) (f_asked := f_asked) hw) (cwV 0 X.1.2.2.2.2 gX52_114 rfl rfl rfl hX52_openPairs ⟨Nat.le_of_ble_eq_true rfl, Nat.le_of_ble_eq_true rfl⟩) hc (q0 := 0) rfl rfl hl.1 rfl (Nat.le_of_ble_eq_true rfl) dX52_fuel_14 ⟨Nat.le_refl 0, Nat.le_refl 0⟩) (fun r_3 _ H locs hw hH => ?_)
      have hH : kH (dC, dI) cl A s.heap H locs (wX52 ci ad d f_thrown f_classes f_things f_axioms f_fuel f_questions f_sorted f_left f_other f_right f_there f_member f_state f_before f_placed f_looked f_fact f_maker f_fired f_firedCount f_needed f_module f_asked) := hH
      refine lv_istore_n (lv' := [(2, .int r_3), (0, .ref (ad 0)), (1, .int x1)]) hx hb dX52_fuel_17 rfl hl (by decide) rfl (fun ls hl => ?_)
      refine lv_iconst (v := 0) hx hb dX52_fuel_18 (by decide) ?_
      refine lv_istore_n (lv' := [(3, .int 0), (2, .int r_3), (0, .ref (ad 0)), (1, .int x1)]) hx hb dX52_fuel_19 rfl hl (by decide) rfl (fun ls hl => ?_)
      obtain ⟨fu, hw⟩ := hw
      refine atX52_fuel_20 hc X ?_ fu 0 f_state hw _ _ ls hH (lv_sub hl [2, 3, 1, 0] rfl)
      · intro f_state_16 hw H locs ls hH hl
        refine lv_aload_n hx hb dX52_fuel_59 rfl (lv_at hl 0 rfl) ?_
        refine lv_iload_n hx hb dX52_fuel_60 rfl (lv_at hl 1 rfl) ?_
        refine k_put X hH in_X52 tyX52_ok nmX52 0 rfl hc 4 (by decide) q6385 rfl (ty := .int) rfl rfl rfl (Nat.le_of_ble_eq_true rfl) dX52_fuel_61 (ws1 := (wX52 ci ad d f_thrown f_classes f_things f_axioms x1 f_questions f_sorted f_left f_other f_right f_there f_member f_state_16 f_before f_placed f_looked f_fact f_maker f_fired f_firedCount f_needed f_module f_asked)) rfl (fun H locs hH => ?_)
        refine lv_aload_n hx hb dX52_fuel_64 rfl (lv_at hl 0 rfl) ?_
        refine lv_iconst (v := 0) hx hb dX52_fuel_65 (by decide) ?_
        refine k_put X hH in_X52 tyX52_ok nmX52 0 rfl hc 6 (by decide) q6387 rfl (ty := .boolean) rfl rfl rfl (Nat.le_of_ble_eq_true rfl) dX52_fuel_66 (ws1 := (wX52 ci ad d f_thrown f_classes f_things f_axioms x1 f_questions 0 f_left f_other f_right f_there f_member f_state_16 f_before f_placed f_looked f_fact f_maker f_fired f_firedCount f_needed f_module f_asked)) rfl (fun H locs hH => ?_)
        refine lv_iload_n hx hb dX52_fuel_69 rfl (lv_at hl 2 rfl) ?_
        exact k_iret (v := r_3) X hH (x1, 0, f_state_16) hw rfl rfl dX52_fuel_70
    · have hw := hw.2 (z_nle (rfl : x1.toInt = _) (rfl : (20 : Int32).toInt = 20) c_2)
      refine lv_bipush (v := (-2)) hx hb dX52_fuel_10 (by decide) ?_
      exact k_iret (v := (-2)) X hH (f_fuel, f_sorted, f_state) hw rfl rfl dX52_fuel_12
set_option maxHeartbeats 4000000 in
theorem walkX52_goalOf {l : Launch} {dC : Nat → ClassId} {dI : Nat → Nat → Nat} {cl : List vw_C} {ci : Nat} (hc : cl[ci]? = some (RX52, TX52, 23)) {ad : Nat → Nat} {d : Nat → ClassId} {sz : Nat} {f_thrown : Int32} {f_classes : Int32} {f_things : Int32} {f_axioms : Int32} {f_fuel : Int32} {f_questions : Int32} {f_sorted : Int32} {f_left : Nat → Int32} {f_other : Nat → Int32} {f_right : Nat → Int32} {f_there : Nat → Int32} {f_member : Nat → Int32} {f_state : Nat → Int32} {f_before : Nat → Int32} {f_placed : Nat → Int32} {f_looked : Nat → Int32} {f_fact : Nat → Int32} {f_maker : Nat → Int32} {f_fired : Nat → Int32} {f_firedCount : Int32} {f_needed : Nat → Int32} {f_module : Nat → Int32} {f_asked : Int32} {x1 : Int32} {post : Int → Prop} (hw : wpX52_goalOf post f_classes.toInt x1.toInt) :
    Met l yX52_goalOf (ws_ yX52_goalOf cX52_goalOf 2 (some .int)) ({ frames := 1, cells := 0, slots := 0, locals := 21 } : Room) (kPc (dC, dI) cl (tX52 d) [.ref (ad 0), .int x1] sz (wX52 ci ad d f_thrown f_classes f_things f_axioms f_fuel f_questions f_sorted f_left f_other f_right f_there f_member f_state f_before f_placed f_looked f_fact f_maker f_fired f_firedCount f_needed f_module f_asked)) (va_Qi (fun (r : Int32) (_ : Unit) => post r.toInt) (kB (dC, dI) cl (tX52 d) (va_A (wX52 ci ad d f_thrown f_classes f_things f_axioms f_fuel f_questions f_sorted f_left f_other f_right f_there f_member f_state f_before f_placed f_looked f_fact f_maker f_fired f_firedCount f_needed f_module f_asked) sz) (fun _ : Unit => (wX52 ci ad d f_thrown f_classes f_things f_axioms f_fuel f_questions f_sorted f_left f_other f_right f_there f_member f_state f_before f_placed f_looked f_fact f_maker f_fired f_firedCount f_needed f_module f_asked))) (va_A (wX52 ci ad d f_thrown f_classes f_things f_axioms f_fuel f_questions f_sorted f_left f_other f_right f_there f_member f_state f_before f_placed f_looked f_fact f_maker f_fired f_firedCount f_needed f_module f_asked) sz)) 0 0 (va_A (wX52 ci ad d f_thrown f_classes f_things f_axioms f_fuel f_questions f_sorted f_left f_other f_right f_there f_member f_state f_before f_placed f_looked f_fact f_maker f_fired f_firedCount f_needed f_module f_asked) sz) := by
  refine k_enter (by decide) (Nat.le_of_ble_eq_true rfl) ?_
  intro p e s m below meth c ls X hsz hH hl
  subst hsz
  generalize va_A (wX52 ci ad d f_thrown f_classes f_things f_axioms f_fuel f_questions f_sorted f_left f_other f_right f_there f_member f_state f_before f_placed f_looked f_fact f_maker f_fired f_firedCount f_needed f_module f_asked) s.heap.size = A at hH ⊢
  have hx := X.1.1
  have hb := X.1.2.1
  have hl : lv_has ls 2 [(0, .ref (ad 0)), (1, .int x1)] := hl
  unfold wpX52_goalOf at hw
  refine lv_iload_n hx hb dX52_goalOf_0 rfl (lv_at hl 1 rfl) ?_
  refine lv_iconst (v := (-1)) hx hb dX52_goalOf_1 (by decide) ?_
  refine lv_icmp_ne (tgt := 10) hx hb dX52_goalOf_2 (by decide) (fun c_1 => ?_) (fun c_1 => ?_)
  · have hw := hw.2 (z_ne (rfl : x1.toInt = _) (rfl : ((-1) : Int32).toInt = (-1)) c_1)
    refine lv_aload_n hx hb dX52_goalOf_10 rfl (lv_at hl 0 rfl) ?_
    refine lv_iload_n hx hb dX52_goalOf_11 rfl (lv_at hl 1 rfl) ?_
    refine k_i0 hH (k_runV (As := [.int x1]) (rest := []) X hH.1 hH.2.1 X.2.2.2 (walkX52_isClass hc (x1 := x1) (f_thrown := f_thrown) (f_classes := f_classes) (f_things := f_things) (f_axioms := f_axioms) (f_fuel := f_fuel) (f_questions := f_questions) (f_sorted := f_sorted) (f_left := f_left) (f_other := f_other) (f_right := f_right) (f_there := f_there) (f_member := f_member) (f_state := f_state) (f_before := f_before) (f_placed := f_placed) (f_looked := f_looked) (f_fact := f_fact) (f_maker := f_maker) (f_fired := f_fired) (f_firedCount := f_firedCount) (f_needed := f_needed) (f_module := f_module) (f_asked := f_asked) hw) (cwV 1 X.1.2.2.2.2 gX52_63 rfl rfl rfl hX52_isClass ⟨Nat.le_of_ble_eq_true rfl, Nat.le_of_ble_eq_true rfl⟩) hc (q0 := 0) rfl rfl hl.1 rfl (Nat.le_of_ble_eq_true rfl) dX52_goalOf_12 ⟨Nat.le_refl 0, Nat.le_refl 0⟩) (fun r_2 _ H locs hw hH => ?_)
    have hH : kH (dC, dI) cl A s.heap H locs (wX52 ci ad d f_thrown f_classes f_things f_axioms f_fuel f_questions f_sorted f_left f_other f_right f_there f_member f_state f_before f_placed f_looked f_fact f_maker f_fired f_firedCount f_needed f_module f_asked) := hH
    refine lv_if_eq (tgt := 22) hx hb dX52_goalOf_15 (by decide) (fun c_3 => ?_) (fun c_3 => ?_)
    · have hw := hw.1 (z_eq (rfl : r_2.toInt = _) (rfl : (0 : Int32).toInt = 0) c_3)
      refine lv_iconst (v := (-1)) hx hb dX52_goalOf_22 (by decide) ?_
      exact k_iret (v := (-1)) X hH () hw rfl rfl dX52_goalOf_23
    · have hw := hw.2 (z_neq (rfl : r_2.toInt = _) (rfl : (0 : Int32).toInt = 0) c_3)
      refine lv_iload_n hx hb dX52_goalOf_18 rfl (lv_at hl 1 rfl) ?_
      refine lv_goto (tgt := 23) hx hb dX52_goalOf_19 (by decide) ?_
      exact k_iret (v := x1) X hH () hw rfl rfl dX52_goalOf_23
  · have hw := hw.1 (z_eq (rfl : x1.toInt = _) (rfl : ((-1) : Int32).toInt = (-1)) c_1)
    refine lv_bipush (v := 20) hx hb dX52_goalOf_5 (by decide) ?_
    refine lv_goto (tgt := 23) hx hb dX52_goalOf_7 (by decide) ?_
    exact k_iret (v := 20) X hH () hw rfl rfl dX52_goalOf_23
set_option maxHeartbeats 4000000 in
theorem walkX52_known {l : Launch} {dC : Nat → ClassId} {dI : Nat → Nat → Nat} {cl : List vw_C} {ci : Nat} (hc : cl[ci]? = some (RX52, TX52, 23)) {ad : Nat → Nat} {d : Nat → ClassId} {sz : Nat} {f_thrown : Int32} {f_classes : Int32} {f_things : Int32} {f_axioms : Int32} {f_fuel : Int32} {f_questions : Int32} {f_sorted : Int32} {f_left : Nat → Int32} {f_other : Nat → Int32} {f_right : Nat → Int32} {f_there : Nat → Int32} {f_member : Nat → Int32} {f_state : Nat → Int32} {f_before : Nat → Int32} {f_placed : Nat → Int32} {f_looked : Nat → Int32} {f_fact : Nat → Int32} {f_maker : Nat → Int32} {f_fired : Nat → Int32} {f_firedCount : Int32} {f_needed : Nat → Int32} {f_module : Nat → Int32} {f_asked : Int32} {x1 : Int32} {x2 : Int32} {post : Int → Prop} (hw : wpX52_known post f_classes.toInt (zF f_state) x1.toInt x2.toInt) :
    Met l yX52_known (ws_ yX52_known cX52_known 4 (some .int)) ({ frames := 2, cells := 0, slots := 0, locals := 42 } : Room) (kPc (dC, dI) cl (tX52 d) [.ref (ad 0), .int x1, .int x2] sz (wX52 ci ad d f_thrown f_classes f_things f_axioms f_fuel f_questions f_sorted f_left f_other f_right f_there f_member f_state f_before f_placed f_looked f_fact f_maker f_fired f_firedCount f_needed f_module f_asked)) (va_Qi (fun (r : Int32) (_ : Unit) => post r.toInt) (kB (dC, dI) cl (tX52 d) (va_A (wX52 ci ad d f_thrown f_classes f_things f_axioms f_fuel f_questions f_sorted f_left f_other f_right f_there f_member f_state f_before f_placed f_looked f_fact f_maker f_fired f_firedCount f_needed f_module f_asked) sz) (fun _ : Unit => (wX52 ci ad d f_thrown f_classes f_things f_axioms f_fuel f_questions f_sorted f_left f_other f_right f_there f_member f_state f_before f_placed f_looked f_fact f_maker f_fired f_firedCount f_needed f_module f_asked))) (va_A (wX52 ci ad d f_thrown f_classes f_things f_axioms f_fuel f_questions f_sorted f_left f_other f_right f_there f_member f_state f_before f_placed f_looked f_fact f_maker f_fired f_firedCount f_needed f_module f_asked) sz)) 0 0 (va_A (wX52 ci ad d f_thrown f_classes f_things f_axioms f_fuel f_questions f_sorted f_left f_other f_right f_there f_member f_state f_before f_placed f_looked f_fact f_maker f_fired f_firedCount f_needed f_module f_asked) sz) := by
  refine k_enter (by decide) (Nat.le_of_ble_eq_true rfl) ?_
  intro p e s m below meth c ls X hsz hH hl
  subst hsz
  generalize va_A (wX52 ci ad d f_thrown f_classes f_things f_axioms f_fuel f_questions f_sorted f_left f_other f_right f_there f_member f_state f_before f_placed f_looked f_fact f_maker f_fired f_firedCount f_needed f_module f_asked) s.heap.size = A at hH ⊢
  have hx := X.1.1
  have hb := X.1.2.1
  have hl : lv_has ls 4 [(0, .ref (ad 0)), (1, .int x1), (2, .int x2)] := hl
  unfold wpX52_known at hw
  refine lv_aload_n hx hb dX52_known_0 rfl (lv_at hl 0 rfl) ?_
  refine lv_iload_n hx hb dX52_known_1 rfl (lv_at hl 2 rfl) ?_
  refine k_i0 hH (k_runV (As := [.int x2]) (rest := []) X hH.1 hH.2.1 X.2.2.2 (walkX52_goalOf hc (x1 := x2) (f_thrown := f_thrown) (f_classes := f_classes) (f_things := f_things) (f_axioms := f_axioms) (f_fuel := f_fuel) (f_questions := f_questions) (f_sorted := f_sorted) (f_left := f_left) (f_other := f_other) (f_right := f_right) (f_there := f_there) (f_member := f_member) (f_state := f_state) (f_before := f_before) (f_placed := f_placed) (f_looked := f_looked) (f_fact := f_fact) (f_maker := f_maker) (f_fired := f_fired) (f_firedCount := f_firedCount) (f_needed := f_needed) (f_module := f_module) (f_asked := f_asked) hw) (cwV 1 X.1.2.2.2.2 gX52_118 rfl rfl rfl hX52_goalOf ⟨Nat.le_of_ble_eq_true rfl, Nat.le_of_ble_eq_true rfl⟩) hc (q0 := 0) rfl rfl hl.1 rfl (Nat.le_of_ble_eq_true rfl) dX52_known_2 ⟨Nat.le_refl 0, Nat.le_refl 0⟩) (fun r_1 _ H locs hw hH => ?_)
  have hH : kH (dC, dI) cl A s.heap H locs (wX52 ci ad d f_thrown f_classes f_things f_axioms f_fuel f_questions f_sorted f_left f_other f_right f_there f_member f_state f_before f_placed f_looked f_fact f_maker f_fired f_firedCount f_needed f_module f_asked) := hH
  refine lv_istore_n (lv' := [(3, .int r_1), (0, .ref (ad 0)), (1, .int x1), (2, .int x2)]) hx hb dX52_known_5 rfl hl (by decide) rfl (fun ls hl => ?_)
  refine lv_aload_n hx hb dX52_known_6 rfl (lv_at hl 1 rfl) ?_
  refine lv_iload_n hx hb dX52_known_7 rfl (lv_at hl 2 rfl) ?_
  refine k_i0 hH (k_runV (As := [.int x1]) (rest := []) X hH.1 hH.2.1 X.2.2.2 (walkX52_isClass hc (x1 := x1) (f_thrown := f_thrown) (f_classes := f_classes) (f_things := f_things) (f_axioms := f_axioms) (f_fuel := f_fuel) (f_questions := f_questions) (f_sorted := f_sorted) (f_left := f_left) (f_other := f_other) (f_right := f_right) (f_there := f_there) (f_member := f_member) (f_state := f_state) (f_before := f_before) (f_placed := f_placed) (f_looked := f_looked) (f_fact := f_fact) (f_maker := f_maker) (f_fired := f_fired) (f_firedCount := f_firedCount) (f_needed := f_needed) (f_module := f_module) (f_asked := f_asked) hw) (cwV 1 X.1.2.2.2.2 gX52_63 rfl rfl rfl hX52_isClass ⟨Nat.le_of_ble_eq_true rfl, Nat.le_of_ble_eq_true rfl⟩) hc (q0 := 0) rfl rfl hl.1 rfl (Nat.le_of_ble_eq_true rfl) dX52_known_8 ⟨Nat.le_refl 0, Nat.le_refl 0⟩) (fun r_2 _ H locs hw hH => ?_)
  have hH : kH (dC, dI) cl A s.heap H locs (wX52 ci ad d f_thrown f_classes f_things f_axioms f_fuel f_questions f_sorted f_left f_other f_right f_there f_member f_state f_before f_placed f_looked f_fact f_maker f_fired f_firedCount f_needed f_module f_asked) := hH
  refine lv_if_eq (tgt := 18) hx hb dX52_known_11 (by decide) (fun c_3 => ?_) (fun c_3 => ?_)
  · have hw := hw.1 (z_eq (rfl : r_2.toInt = _) (rfl : (0 : Int32).toInt = 0) c_3)
    refine lv_iconst (v := (-1)) hx hb dX52_known_18 (by decide) ?_
    refine lv_goto (tgt := 33) hx hb dX52_known_19 (by decide) ?_
    exact k_iret (v := (-1)) X hH () hw rfl rfl dX52_known_33
  · have hw := hw.2 (z_neq (rfl : r_2.toInt = _) (rfl : (0 : Int32).toInt = 0) c_3)
    refine lv_iload_n hx hb dX52_known_14 rfl (lv_at hl 0 rfl) ?_
    refine lv_if_ge (tgt := 22) hx hb dX52_known_15 (by decide) (fun c_4 => ?_) (fun c_4 => ?_)
    · have hw := hw.1 (z_le (rfl : (0 : Int32).toInt = 0) (rfl : r_1.toInt = _) c_4)
      refine lv_aload_n hx hb dX52_known_22 rfl (lv_at hl 1 rfl) ?_
      refine k_get X hH in_X52 0 rfl hc 12 (by decide) q6393 rfl dX52_known_23 ?_
      refine lv_bipush (v := 21) hx hb dX52_known_26 (by decide) ?_
      refine lv_iload_n hx hb dX52_known_28 rfl (lv_at hl 2 rfl) ?_
      refine lv_imul hx hb dX52_known_29 ?_
      have e_5 := z_mul (z_m (rfl : (21 : Int32).toInt = 21)) (z_m (rfl : x1.toInt = _))
      refine lv_iload_n hx hb dX52_known_30 rfl (lv_at hl 0 rfl) ?_
      refine lv_iadd hx hb dX52_known_31 ?_
      have e_6 := z_add e_5 (z_m (rfl : r_1.toInt = _))
      have hq_7 := hw.1
      have hw := hw.2
      have e_8 := z_xi e_6 hq_7 (by decide)
      refine k_iald X hH 6 5 rfl rfl (z_in e_8 hq_7) dX52_known_32 ?_
      have e_9 := z_ld (f := f_state) e_8 hq_7.1
      exact k_iret (v := f_state ((21 * x1) + r_1).toNatClampNeg) X hH () (by rw [show (f_state ((21 * x1) + r_1).toNatClampNeg : Int32).toInt = _ from e_9]; exact hw) rfl rfl dX52_known_33
    · have hw := hw.2 (z_nle (rfl : (0 : Int32).toInt = 0) (rfl : r_1.toInt = _) c_4)
      refine lv_iconst (v := (-1)) hx hb dX52_known_18 (by decide) ?_
      refine lv_goto (tgt := 33) hx hb dX52_known_19 (by decide) ?_
      exact k_iret (v := (-1)) X hH () hw rfl rfl dX52_known_33
set_option maxHeartbeats 4000000 in
theorem walkX52_ask {l : Launch} {dC : Nat → ClassId} {dI : Nat → Nat → Nat} {cl : List vw_C} {ci : Nat} (hc : cl[ci]? = some (RX52, TX52, 23)) {ad : Nat → Nat} {d : Nat → ClassId} {sz : Nat} {f_thrown : Int32} {f_classes : Int32} {f_things : Int32} {f_axioms : Int32} {f_fuel : Int32} {f_questions : Int32} {f_sorted : Int32} {f_left : Nat → Int32} {f_other : Nat → Int32} {f_right : Nat → Int32} {f_there : Nat → Int32} {f_member : Nat → Int32} {f_state : Nat → Int32} {f_before : Nat → Int32} {f_placed : Nat → Int32} {f_looked : Nat → Int32} {f_fact : Nat → Int32} {f_maker : Nat → Int32} {f_fired : Nat → Int32} {f_firedCount : Int32} {f_needed : Nat → Int32} {f_module : Nat → Int32} {f_asked : Int32} {x1 : Int32} {x2 : Int32} {post : Int → (Int → Int) → (Int → Int) → (Int → Int) → Int → Prop} (hw : wpX52_ask post f_classes.toInt f_axioms.toInt f_fuel.toInt (zF f_left) (zF f_other) (zF f_right) (zF f_there) (zF f_fact) (zF f_maker) (zF f_fired) f_firedCount.toInt x1.toInt x2.toInt) :
    Met l yX52_ask (ws_ yX52_ask cX52_ask 4 (some .int)) ({ frames := 2, cells := 0, slots := 0, locals := 47 } : Room) (kPc (dC, dI) cl (tX52 d) [.ref (ad 0), .int x1, .int x2] sz (wX52 ci ad d f_thrown f_classes f_things f_axioms f_fuel f_questions f_sorted f_left f_other f_right f_there f_member f_state f_before f_placed f_looked f_fact f_maker f_fired f_firedCount f_needed f_module f_asked)) (va_Qi (fun (r : Int32) (u : (Nat → Int32) × (Nat → Int32) × (Nat → Int32) × Int32) => post r.toInt (zF (u.1)) (zF (u.2.1)) (zF (u.2.2.1)) (u.2.2.2).toInt) (kB (dC, dI) cl (tX52 d) (va_A (wX52 ci ad d f_thrown f_classes f_things f_axioms f_fuel f_questions f_sorted f_left f_other f_right f_there f_member f_state f_before f_placed f_looked f_fact f_maker f_fired f_firedCount f_needed f_module f_asked) sz) (fun u : (Nat → Int32) × (Nat → Int32) × (Nat → Int32) × Int32 => (wX52 ci ad d f_thrown f_classes f_things f_axioms f_fuel f_questions f_sorted f_left f_other f_right f_there f_member f_state f_before f_placed f_looked (u.1) (u.2.1) (u.2.2.1) (u.2.2.2) f_needed f_module f_asked))) (va_A (wX52 ci ad d f_thrown f_classes f_things f_axioms f_fuel f_questions f_sorted f_left f_other f_right f_there f_member f_state f_before f_placed f_looked f_fact f_maker f_fired f_firedCount f_needed f_module f_asked) sz)) 0 0 (va_A (wX52 ci ad d f_thrown f_classes f_things f_axioms f_fuel f_questions f_sorted f_left f_other f_right f_there f_member f_state f_before f_placed f_looked f_fact f_maker f_fired f_firedCount f_needed f_module f_asked) sz) := by
  refine k_enter (by decide) (Nat.le_of_ble_eq_true rfl) ?_
  intro p e s m below meth c ls X hsz hH hl
  subst hsz
  generalize va_A (wX52 ci ad d f_thrown f_classes f_things f_axioms f_fuel f_questions f_sorted f_left f_other f_right f_there f_member f_state f_before f_placed f_looked f_fact f_maker f_fired f_firedCount f_needed f_module f_asked) s.heap.size = A at hH ⊢
  have hx := X.1.1
  have hb := X.1.2.1
  have hl : lv_has ls 4 [(0, .ref (ad 0)), (1, .int x1), (2, .int x2)] := hl
  unfold wpX52_ask at hw
  refine lv_aload_n hx hb dX52_ask_0 rfl (lv_at hl 0 rfl) ?_
  refine lv_iload_n hx hb dX52_ask_1 rfl (lv_at hl 2 rfl) ?_
  refine k_i0 hH (k_runV (As := [.int x2]) (rest := []) X hH.1 hH.2.1 X.2.2.2 (walkX52_goalOf hc (x1 := x2) (f_thrown := f_thrown) (f_classes := f_classes) (f_things := f_things) (f_axioms := f_axioms) (f_fuel := f_fuel) (f_questions := f_questions) (f_sorted := f_sorted) (f_left := f_left) (f_other := f_other) (f_right := f_right) (f_there := f_there) (f_member := f_member) (f_state := f_state) (f_before := f_before) (f_placed := f_placed) (f_looked := f_looked) (f_fact := f_fact) (f_maker := f_maker) (f_fired := f_fired) (f_firedCount := f_firedCount) (f_needed := f_needed) (f_module := f_module) (f_asked := f_asked) hw) (cwV 1 X.1.2.2.2.2 gX52_118 rfl rfl rfl hX52_goalOf ⟨Nat.le_of_ble_eq_true rfl, Nat.le_of_ble_eq_true rfl⟩) hc (q0 := 0) rfl rfl hl.1 rfl (Nat.le_of_ble_eq_true rfl) dX52_ask_2 ⟨Nat.le_refl 0, Nat.le_refl 0⟩) (fun r_1 _ H locs hw hH => ?_)
  have hH : kH (dC, dI) cl A s.heap H locs (wX52 ci ad d f_thrown f_classes f_things f_axioms f_fuel f_questions f_sorted f_left f_other f_right f_there f_member f_state f_before f_placed f_looked f_fact f_maker f_fired f_firedCount f_needed f_module f_asked) := hH
  refine lv_istore_n (lv' := [(3, .int r_1), (0, .ref (ad 0)), (1, .int x1), (2, .int x2)]) hx hb dX52_ask_5 rfl hl (by decide) rfl (fun ls hl => ?_)
  refine lv_aload_n hx hb dX52_ask_6 rfl (lv_at hl 1 rfl) ?_
  refine lv_iload_n hx hb dX52_ask_7 rfl (lv_at hl 2 rfl) ?_
  refine k_i0 hH (k_runV (As := [.int x1]) (rest := []) X hH.1 hH.2.1 X.2.2.2 (walkX52_isClass hc (x1 := x1) (f_thrown := f_thrown) (f_classes := f_classes) (f_things := f_things) (f_axioms := f_axioms) (f_fuel := f_fuel) (f_questions := f_questions) (f_sorted := f_sorted) (f_left := f_left) (f_other := f_other) (f_right := f_right) (f_there := f_there) (f_member := f_member) (f_state := f_state) (f_before := f_before) (f_placed := f_placed) (f_looked := f_looked) (f_fact := f_fact) (f_maker := f_maker) (f_fired := f_fired) (f_firedCount := f_firedCount) (f_needed := f_needed) (f_module := f_module) (f_asked := f_asked) hw) (cwV 1 X.1.2.2.2.2 gX52_63 rfl rfl rfl hX52_isClass ⟨Nat.le_of_ble_eq_true rfl, Nat.le_of_ble_eq_true rfl⟩) hc (q0 := 0) rfl rfl hl.1 rfl (Nat.le_of_ble_eq_true rfl) dX52_ask_8 ⟨Nat.le_refl 0, Nat.le_refl 0⟩) (fun r_2 _ H locs hw hH => ?_)
  have hH : kH (dC, dI) cl A s.heap H locs (wX52 ci ad d f_thrown f_classes f_things f_axioms f_fuel f_questions f_sorted f_left f_other f_right f_there f_member f_state f_before f_placed f_looked f_fact f_maker f_fired f_firedCount f_needed f_module f_asked) := hH
  refine lv_if_eq (tgt := 18) hx hb dX52_ask_11 (by decide) (fun c_3 => ?_) (fun c_3 => ?_)
  · have hw := hw.1 (z_eq (rfl : r_2.toInt = _) (rfl : (0 : Int32).toInt = 0) c_3)
    refine lv_iconst (v := (-1)) hx hb dX52_ask_18 (by decide) ?_
    refine lv_goto (tgt := 28) hx hb dX52_ask_19 (by decide) ?_
    exact k_iret (v := (-1)) X hH (f_fact, f_maker, f_fired, f_firedCount) hw rfl rfl dX52_ask_28
  · have hw := hw.2 (z_neq (rfl : r_2.toInt = _) (rfl : (0 : Int32).toInt = 0) c_3)
    refine lv_iload_n hx hb dX52_ask_14 rfl (lv_at hl 0 rfl) ?_
    refine lv_if_ge (tgt := 22) hx hb dX52_ask_15 (by decide) (fun c_4 => ?_) (fun c_4 => ?_)
    · have hw := hw.1 (z_le (rfl : (0 : Int32).toInt = 0) (rfl : r_1.toInt = _) c_4)
      refine lv_aload_n hx hb dX52_ask_22 rfl (lv_at hl 1 rfl) ?_
      refine lv_iload_n hx hb dX52_ask_23 rfl (lv_at hl 2 rfl) ?_
      refine lv_iload_n hx hb dX52_ask_24 rfl (lv_at hl 0 rfl) ?_
      refine k_i0 hH (k_runV (As := [.int x1, .int r_1]) (rest := []) X hH.1 hH.2.1 X.2.2.2 (walkX52_reasonAlone hc (x1 := x1) (x2 := r_1) (f_thrown := f_thrown) (f_classes := f_classes) (f_things := f_things) (f_axioms := f_axioms) (f_fuel := f_fuel) (f_questions := f_questions) (f_sorted := f_sorted) (f_left := f_left) (f_other := f_other) (f_right := f_right) (f_there := f_there) (f_member := f_member) (f_state := f_state) (f_before := f_before) (f_placed := f_placed) (f_looked := f_looked) (f_fact := f_fact) (f_maker := f_maker) (f_fired := f_fired) (f_firedCount := f_firedCount) (f_needed := f_needed) (f_module := f_module) (f_asked := f_asked) hw) (cwV 2 X.1.2.2.2.2 gX52_121 rfl rfl rfl hX52_reasonAlone ⟨Nat.le_of_ble_eq_true rfl, Nat.le_of_ble_eq_true rfl⟩) hc (q0 := 0) rfl rfl hl.1 rfl (Nat.le_of_ble_eq_true rfl) dX52_ask_25 ⟨Nat.le_refl 0, Nat.le_refl 0⟩) (fun r_5 u H locs hw hH => ?_)
      obtain ⟨f_fact_6, f_maker_7, f_fired_8, f_firedCount_9⟩ := u
      have hH : kH (dC, dI) cl A s.heap H locs (wX52 ci ad d f_thrown f_classes f_things f_axioms f_fuel f_questions f_sorted f_left f_other f_right f_there f_member f_state f_before f_placed f_looked f_fact_6 f_maker_7 f_fired_8 f_firedCount_9 f_needed f_module f_asked) := hH
      exact k_iret (v := r_5) X hH (f_fact_6, f_maker_7, f_fired_8, f_firedCount_9) hw rfl rfl dX52_ask_28
    · have hw := hw.2 (z_nle (rfl : (0 : Int32).toInt = 0) (rfl : r_1.toInt = _) c_4)
      refine lv_iconst (v := (-1)) hx hb dX52_ask_18 (by decide) ?_
      refine lv_goto (tgt := 28) hx hb dX52_ask_19 (by decide) ?_
      exact k_iret (v := (-1)) X hH (f_fact, f_maker, f_fired, f_firedCount) hw rfl rfl dX52_ask_28
set_option maxHeartbeats 4000000 in
theorem atX52_child_95 {p : Program} {l : Launch} {e : Env} {s : State} {m : MethodId} {args : Array Value} {below : List Frame} {meth : Method} {c : Code} {dC : Nat → ClassId} {dI : Nat → Nat → Nat} {cl : List vw_C} {ci : Nat} (hc : cl[ci]? = some (RX52, TX52, 23)) {ad : Nat → Nat} {d : Nat → ClassId} {A : Nat → Prop} {post : Int → Prop} {f_thrown : Int32} {f_classes : Int32} {f_things : Int32} {f_axioms : Int32} {f_fuel : Int32} {f_questions : Int32} {f_sorted : Int32} {f_left : Nat → Int32} {f_other : Nat → Int32} {f_right : Nat → Int32} {f_there : Nat → Int32} {f_member : Nat → Int32} {f_state : Nat → Int32} {f_before : Nat → Int32} {f_placed : Nat → Int32} {f_looked : Nat → Int32} {f_fact : Nat → Int32} {f_maker : Nat → Int32} {f_fired : Nat → Int32} {f_firedCount : Int32} {f_needed : Nat → Int32} {f_module : Nat → Int32} {f_asked : Int32} (X : kX p s m args meth c cX52_child 6 RX52 (some .int) (dC, dI) cl (tX52 d)) {K25 : Int → Int → Prop} {x1 : Int32} {x2 : Int32}  (hk25 : ∀ (x3 : Int32) (x4 : Int32), K25 x3.toInt x4.toInt → ∀ (H : Heap) (locs : List Loc) (ls : Array Slot), kH (dC, dI) cl A s.heap H locs (wX52 ci ad d f_thrown f_classes f_things f_axioms f_fuel f_questions f_sorted f_left f_other f_right f_there f_member f_state f_before f_placed f_looked f_fact f_maker f_fired f_firedCount f_needed f_module f_asked) → lv_has ls 6 [(0, .ref (ad 0)), (1, .int x1), (2, .int x2), (3, .int x3), (4, .int x4)] → W p l e ({ frames := 3, cells := 0, slots := 0, locals := 68 } : Room) s m args below meth c H locs 0 0 (MQ below (va_Qi (fun (r : Int32) (_ : Unit) => post r.toInt) (kB (dC, dI) cl (tX52 d) A (fun _ : Unit => (wX52 ci ad d f_thrown f_classes f_things f_axioms f_fuel f_questions f_sorted f_left f_other f_right f_there f_member f_state f_before f_placed f_looked f_fact f_maker f_fired f_firedCount f_needed f_module f_asked))) A) args s 0 0 A) (F0 m 25 ls [])) :
    ∀ (x3 : Int32) (x4 : Int32) (x5 : Int32), wX52_child_95 K25 x3.toInt x4.toInt x5.toInt → ∀ (H : Heap) (locs : List Loc) (ls : Array Slot), kH (dC, dI) cl A s.heap H locs (wX52 ci ad d f_thrown f_classes f_things f_axioms f_fuel f_questions f_sorted f_left f_other f_right f_there f_member f_state f_before f_placed f_looked f_fact f_maker f_fired f_firedCount f_needed f_module f_asked) → lv_has ls 6 [(0, .ref (ad 0)), (1, .int x1), (2, .int x2), (3, .int x3), (4, .int x4), (5, .int x5)] → W p l e ({ frames := 3, cells := 0, slots := 0, locals := 68 } : Room) s m args below meth c H locs 0 0 (MQ below (va_Qi (fun (r : Int32) (_ : Unit) => post r.toInt) (kB (dC, dI) cl (tX52 d) A (fun _ : Unit => (wX52 ci ad d f_thrown f_classes f_things f_axioms f_fuel f_questions f_sorted f_left f_other f_right f_there f_member f_state f_before f_placed f_looked f_fact f_maker f_fired f_firedCount f_needed f_module f_asked))) A) args s 0 0 A) (F0 m 95 ls []) := by
  have hx := X.1.1
  have hb := X.1.2.1
  intro x3 x4 x5 hw H locs ls hH hl
  unfold wX52_child_95 at hw
  refine lv_iload_n hx hb dX52_child_95 rfl (lv_at hl 3 rfl) ?_
  refine lv_iload hx hb dX52_child_96 (lv_at hl 5 rfl) ?_
  refine lv_if_eq (tgt := 105) hx hb dX52_child_98 (by decide) (fun c_13 => ?_) (fun c_13 => ?_)
  · have hw := hw.1 (z_eq (rfl : x5.toInt = _) (rfl : (0 : Int32).toInt = 0) c_13)
    refine lv_iconst (v := 0) hx hb dX52_child_105 (by decide) ?_
    refine lv_isub hx hb dX52_child_106 ?_
    have e_14 := z_sub (z_m (rfl : x3.toInt = _)) (z_m (rfl : (0 : Int32).toInt = 0))
    have hq_15 := hw.1
    have hw := hw.2
    have e_16 := z_x e_14 hq_15
    refine lv_topi (fun x3_17 ex3_17 => ?_)
    have hw := hw x3_17.toInt (by rw [ex3_17]; exact e_16)
    refine lv_istore_n (lv' := [(3, .int x3_17), (0, .ref (ad 0)), (1, .int x1), (2, .int x2), (4, .int x4), (5, .int x5)]) hx hb dX52_child_107 rfl hl (by decide) rfl (fun ls hl => ?_)
    have hq_19 := hw.1
    have hw := hw.2
    obtain ⟨x4_18, ex4_18⟩ : ∃ y : Int32, y = x4 + 1 := ⟨_, rfl⟩
    have hw := hw x4_18.toInt (by rw [ex4_18]; exact (z_x (z_add (z_m (rfl : x4.toInt = _)) (z_m (rfl : (1 : Int32).toInt = 1))) hq_19))
    refine lv_iinc (v := x4_18) (lv' := [(4, .int x4_18), (3, .int x3_17), (0, .ref (ad 0)), (1, .int x1), (2, .int x2), (5, .int x5)]) hx hb dX52_child_108 hl (k := 4) rfl (by rw [ex4_18]; rfl) (by decide) rfl (fun ls hl => ?_)
    refine lv_goto (tgt := 25) hx hb dX52_child_111 (by decide) ?_
    exact hk25 x3_17 x4_18 hw _ _ ls hH (lv_sub hl [2, 3, 4, 1, 0] rfl)
  · have hw := hw.2 (z_neq (rfl : x5.toInt = _) (rfl : (0 : Int32).toInt = 0) c_13)
    refine lv_iconst (v := 1) hx hb dX52_child_101 (by decide) ?_
    refine lv_goto (tgt := 106) hx hb dX52_child_102 (by decide) ?_
    refine lv_isub hx hb dX52_child_106 ?_
    have e_20 := z_sub (z_m (rfl : x3.toInt = _)) (z_m (rfl : (1 : Int32).toInt = 1))
    have hq_21 := hw.1
    have hw := hw.2
    have e_22 := z_x e_20 hq_21
    refine lv_topi (fun x3_23 ex3_23 => ?_)
    have hw := hw x3_23.toInt (by rw [ex3_23]; exact e_22)
    refine lv_istore_n (lv' := [(3, .int x3_23), (0, .ref (ad 0)), (1, .int x1), (2, .int x2), (4, .int x4), (5, .int x5)]) hx hb dX52_child_107 rfl hl (by decide) rfl (fun ls hl => ?_)
    have hq_25 := hw.1
    have hw := hw.2
    obtain ⟨x4_24, ex4_24⟩ : ∃ y : Int32, y = x4 + 1 := ⟨_, rfl⟩
    have hw := hw x4_24.toInt (by rw [ex4_24]; exact (z_x (z_add (z_m (rfl : x4.toInt = _)) (z_m (rfl : (1 : Int32).toInt = 1))) hq_25))
    refine lv_iinc (v := x4_24) (lv' := [(4, .int x4_24), (3, .int x3_23), (0, .ref (ad 0)), (1, .int x1), (2, .int x2), (5, .int x5)]) hx hb dX52_child_108 hl (k := 4) rfl (by rw [ex4_24]; rfl) (by decide) rfl (fun ls hl => ?_)
    refine lv_goto (tgt := 25) hx hb dX52_child_111 (by decide) ?_
    exact hk25 x3_23 x4_24 hw _ _ ls hH (lv_sub hl [2, 3, 4, 1, 0] rfl)
set_option maxHeartbeats 4000000 in
theorem atX52_child_25 {p : Program} {l : Launch} {e : Env} {s : State} {m : MethodId} {args : Array Value} {below : List Frame} {meth : Method} {c : Code} {dC : Nat → ClassId} {dI : Nat → Nat → Nat} {cl : List vw_C} {ci : Nat} (hc : cl[ci]? = some (RX52, TX52, 23)) {ad : Nat → Nat} {d : Nat → ClassId} {A : Nat → Prop} {post : Int → Prop} {f_thrown : Int32} {f_classes : Int32} {f_things : Int32} {f_axioms : Int32} {f_fuel : Int32} {f_questions : Int32} {f_sorted : Int32} {f_left : Nat → Int32} {f_other : Nat → Int32} {f_right : Nat → Int32} {f_there : Nat → Int32} {f_member : Nat → Int32} {f_state : Nat → Int32} {f_before : Nat → Int32} {f_placed : Nat → Int32} {f_looked : Nat → Int32} {f_fact : Nat → Int32} {f_maker : Nat → Int32} {f_fired : Nat → Int32} {f_firedCount : Int32} {f_needed : Nat → Int32} {f_module : Nat → Int32} {f_asked : Int32} (X : kX p s m args meth c cX52_child 6 RX52 (some .int) (dC, dI) cl (tX52 d)) {K92 : Int → Prop} {K114 : Prop} {x1 : Int32} {x2 : Int32}  (hk92 : ∀ (x4 : Int32), K92 x4.toInt → ∀ (H : Heap) (locs : List Loc) (ls : Array Slot), kH (dC, dI) cl A s.heap H locs (wX52 ci ad d f_thrown f_classes f_things f_axioms f_fuel f_questions f_sorted f_left f_other f_right f_there f_member f_state f_before f_placed f_looked f_fact f_maker f_fired f_firedCount f_needed f_module f_asked) → lv_has ls 6 [(4, .int x4)] → W p l e ({ frames := 3, cells := 0, slots := 0, locals := 68 } : Room) s m args below meth c H locs 0 0 (MQ below (va_Qi (fun (r : Int32) (_ : Unit) => post r.toInt) (kB (dC, dI) cl (tX52 d) A (fun _ : Unit => (wX52 ci ad d f_thrown f_classes f_things f_axioms f_fuel f_questions f_sorted f_left f_other f_right f_there f_member f_state f_before f_placed f_looked f_fact f_maker f_fired f_firedCount f_needed f_module f_asked))) A) args s 0 0 A) (F0 m 92 ls [])) (hk114 : K114  → ∀ (H : Heap) (locs : List Loc) (ls : Array Slot), kH (dC, dI) cl A s.heap H locs (wX52 ci ad d f_thrown f_classes f_things f_axioms f_fuel f_questions f_sorted f_left f_other f_right f_there f_member f_state f_before f_placed f_looked f_fact f_maker f_fired f_firedCount f_needed f_module f_asked) → lv_has ls 6 [] → W p l e ({ frames := 3, cells := 0, slots := 0, locals := 68 } : Room) s m args below meth c H locs 0 0 (MQ below (va_Qi (fun (r : Int32) (_ : Unit) => post r.toInt) (kB (dC, dI) cl (tX52 d) A (fun _ : Unit => (wX52 ci ad d f_thrown f_classes f_things f_axioms f_fuel f_questions f_sorted f_left f_other f_right f_there f_member f_state f_before f_placed f_looked f_fact f_maker f_fired f_firedCount f_needed f_module f_asked))) A) args s 0 0 A) (F0 m 114 ls [])) :
    ∀ (nn : Nat) (x3 : Int32) (x4 : Int32), wX52_child_25 K92 K114 x1.toInt x2.toInt f_classes.toInt (zF f_state) (zF f_placed) nn x3.toInt x4.toInt → ∀ (H : Heap) (locs : List Loc) (ls : Array Slot), kH (dC, dI) cl A s.heap H locs (wX52 ci ad d f_thrown f_classes f_things f_axioms f_fuel f_questions f_sorted f_left f_other f_right f_there f_member f_state f_before f_placed f_looked f_fact f_maker f_fired f_firedCount f_needed f_module f_asked) → lv_has ls 6 [(0, .ref (ad 0)), (1, .int x1), (2, .int x2), (3, .int x3), (4, .int x4)] → W p l e ({ frames := 3, cells := 0, slots := 0, locals := 68 } : Room) s m args below meth c H locs 0 0 (MQ below (va_Qi (fun (r : Int32) (_ : Unit) => post r.toInt) (kB (dC, dI) cl (tX52 d) A (fun _ : Unit => (wX52 ci ad d f_thrown f_classes f_things f_axioms f_fuel f_questions f_sorted f_left f_other f_right f_there f_member f_state f_before f_placed f_looked f_fact f_maker f_fired f_firedCount f_needed f_module f_asked))) A) args s 0 0 A) (F0 m 25 ls []) := by
  have hx := X.1.1
  have hb := X.1.2.1
  intro nn
  induction nn with
  | zero =>
    intro x3 x4 hw
    exact False.elim hw
  | succ n ih =>
    intro x3 x4 hw H locs ls hH hl
    rw [wX52_child_25] at hw
    refine lv_iload hx hb dX52_child_25 (lv_at hl 4 rfl) ?_
    refine lv_aload_n hx hb dX52_child_27 rfl (lv_at hl 0 rfl) ?_
    refine k_get X hH in_X52 0 rfl hc 1 (by decide) q6382 rfl dX52_child_28 ?_
    refine lv_icmp_ge (tgt := 114) hx hb dX52_child_31 (by decide) (fun c_4 => ?_) (fun c_4 => ?_)
    · have hw := hw.1 (z_le (rfl : f_classes.toInt = _) (rfl : x4.toInt = _) c_4)
      exact hk114  hw _ _ ls hH (lv_sub hl [] rfl)
    · have hw := hw.2 (z_nle (rfl : f_classes.toInt = _) (rfl : x4.toInt = _) c_4)
      refine lv_iload_n hx hb dX52_child_34 rfl (lv_at hl 2 rfl) ?_
      refine lv_if_lt (tgt := 114) hx hb dX52_child_35 (by decide) (fun c_5 => ?_) (fun c_5 => ?_)
      · have hw := hw.1 (z_lt (rfl : x2.toInt = _) (rfl : (0 : Int32).toInt = 0) c_5)
        exact hk114  hw _ _ ls hH (lv_sub hl [] rfl)
      · have hw := hw.2 (z_nlt (rfl : x2.toInt = _) (rfl : (0 : Int32).toInt = 0) c_5)
        refine lv_aload_n hx hb dX52_child_38 rfl (lv_at hl 0 rfl) ?_
        refine k_get X hH in_X52 0 rfl hc 14 (by decide) q6395 rfl dX52_child_39 ?_
        refine lv_iload_n hx hb dX52_child_42 rfl (lv_at hl 1 rfl) ?_
        have hq_6 := hw.1
        have hw := hw.2
        refine k_zald X hH 8 7 rfl rfl (z_in (rfl : x1.toInt = _) hq_6) dX52_child_43 ?_
        have e_7 := z_ld (f := f_placed) (rfl : x1.toInt = _) hq_6.1
        refine lv_if_eq (tgt := 114) hx hb dX52_child_44 (by decide) (fun c_8 => ?_) (fun c_8 => ?_)
        · have hw := hw.1 (z_eq e_7 (rfl : (0 : Int32).toInt = 0) c_8)
          exact hk114  hw _ _ ls hH (lv_sub hl [] rfl)
        · have hw := hw.2 (z_neq e_7 (rfl : (0 : Int32).toInt = 0) c_8)
          refine lv_aload_n hx hb dX52_child_47 rfl (lv_at hl 0 rfl) ?_
          refine k_get X hH in_X52 0 rfl hc 14 (by decide) q6395 rfl dX52_child_48 ?_
          refine lv_iload hx hb dX52_child_51 (lv_at hl 4 rfl) ?_
          have hq_9 := hw.1
          have hw := hw.2
          refine k_zald X hH 8 7 rfl rfl (z_in (rfl : x4.toInt = _) hq_9) dX52_child_53 ?_
          have e_10 := z_ld (f := f_placed) (rfl : x4.toInt = _) hq_9.1
          refine lv_if_eq (tgt := 80) hx hb dX52_child_54 (by decide) (fun c_11 => ?_) (fun c_11 => ?_)
          · have hw := hw.1 (z_eq e_10 (rfl : (0 : Int32).toInt = 0) c_11)
            refine lv_iconst (v := 0) hx hb dX52_child_80 (by decide) ?_
            refine lv_istore (lv' := [(5, .int 0), (0, .ref (ad 0)), (1, .int x1), (2, .int x2), (3, .int x3), (4, .int x4)]) hx hb dX52_child_81 hl (by decide) rfl (fun ls hl => ?_)
            refine lv_iload hx hb dX52_child_83 (lv_at hl 0 rfl) ?_
            refine lv_if_eq (tgt := 95) hx hb dX52_child_85 (by decide) (fun c_12 => ?_) (fun c_12 => ?_)
            · have hw := hw.1 (z_eq (rfl : (0 : Int32).toInt = 0) (rfl : (0 : Int32).toInt = 0) c_12)
              exact atX52_child_95 hc X (fun x3 x4 hw H locs ls hH hl => ih x3 x4 hw _ _ ls hH (lv_sub hl [0, 1, 2, 3, 4] rfl)) x3 x4 0 hw _ _ ls hH (lv_sub hl [1, 2, 3, 4, 5, 0] rfl)
            · have hw := hw.2 (z_neq (rfl : (0 : Int32).toInt = 0) (rfl : (0 : Int32).toInt = 0) c_12)
              refine lv_iload_n hx hb dX52_child_88 rfl (lv_at hl 4 rfl) ?_
              refine lv_if_ne (tgt := 95) hx hb dX52_child_89 (by decide) (fun c_26 => ?_) (fun c_26 => ?_)
              · have hw := hw.2 (z_ne (rfl : x3.toInt = _) (rfl : (0 : Int32).toInt = 0) c_26)
                exact atX52_child_95 hc X (fun x3 x4 hw H locs ls hH hl => ih x3 x4 hw _ _ ls hH (lv_sub hl [0, 1, 2, 3, 4] rfl)) x3 x4 0 hw _ _ ls hH (lv_sub hl [1, 2, 3, 4, 5, 0] rfl)
              · have hw := hw.1 (z_eq (rfl : x3.toInt = _) (rfl : (0 : Int32).toInt = 0) c_26)
                exact hk92 x4 hw _ _ ls hH (lv_sub hl [5] rfl)
          · have hw := hw.2 (z_neq e_10 (rfl : (0 : Int32).toInt = 0) c_11)
            refine lv_aload_n hx hb dX52_child_57 rfl (lv_at hl 0 rfl) ?_
            refine lv_iload hx hb dX52_child_58 (lv_at hl 4 rfl) ?_
            refine k_i0 hH (k_runV (As := [.int x4]) (rest := []) X hH.1 hH.2.1 X.2.2.2 (walkX52_isSecond hc (x1 := x4) (f_thrown := f_thrown) (f_classes := f_classes) (f_things := f_things) (f_axioms := f_axioms) (f_fuel := f_fuel) (f_questions := f_questions) (f_sorted := f_sorted) (f_left := f_left) (f_other := f_other) (f_right := f_right) (f_there := f_there) (f_member := f_member) (f_state := f_state) (f_before := f_before) (f_placed := f_placed) (f_looked := f_looked) (f_fact := f_fact) (f_maker := f_maker) (f_fired := f_fired) (f_firedCount := f_firedCount) (f_needed := f_needed) (f_module := f_module) (f_asked := f_asked) hw) (cwV 1 X.1.2.2.2.2 gX52_148 rfl rfl rfl hX52_isSecond ⟨Nat.le_of_ble_eq_true rfl, Nat.le_of_ble_eq_true rfl⟩) hc (q0 := 0) rfl rfl hl.1 rfl (Nat.le_of_ble_eq_true rfl) dX52_child_60 ⟨Nat.le_refl 0, Nat.le_refl 0⟩) (fun r_27 _ H locs hw hH => ?_)
            have hH : kH (dC, dI) cl A s.heap H locs (wX52 ci ad d f_thrown f_classes f_things f_axioms f_fuel f_questions f_sorted f_left f_other f_right f_there f_member f_state f_before f_placed f_looked f_fact f_maker f_fired f_firedCount f_needed f_module f_asked) := hH
            refine lv_if_ne (tgt := 80) hx hb dX52_child_63 (by decide) (fun c_28 => ?_) (fun c_28 => ?_)
            · have hw := hw.2 (z_ne (rfl : r_27.toInt = _) (rfl : (0 : Int32).toInt = 0) c_28)
              refine lv_iconst (v := 0) hx hb dX52_child_80 (by decide) ?_
              refine lv_istore (lv' := [(5, .int 0), (0, .ref (ad 0)), (1, .int x1), (2, .int x2), (3, .int x3), (4, .int x4)]) hx hb dX52_child_81 hl (by decide) rfl (fun ls hl => ?_)
              refine lv_iload hx hb dX52_child_83 (lv_at hl 0 rfl) ?_
              refine lv_if_eq (tgt := 95) hx hb dX52_child_85 (by decide) (fun c_29 => ?_) (fun c_29 => ?_)
              · have hw := hw.1 (z_eq (rfl : (0 : Int32).toInt = 0) (rfl : (0 : Int32).toInt = 0) c_29)
                exact atX52_child_95 hc X (fun x3 x4 hw H locs ls hH hl => ih x3 x4 hw _ _ ls hH (lv_sub hl [0, 1, 2, 3, 4] rfl)) x3 x4 0 hw _ _ ls hH (lv_sub hl [1, 2, 3, 4, 5, 0] rfl)
              · have hw := hw.2 (z_neq (rfl : (0 : Int32).toInt = 0) (rfl : (0 : Int32).toInt = 0) c_29)
                refine lv_iload_n hx hb dX52_child_88 rfl (lv_at hl 4 rfl) ?_
                refine lv_if_ne (tgt := 95) hx hb dX52_child_89 (by decide) (fun c_30 => ?_) (fun c_30 => ?_)
                · have hw := hw.2 (z_ne (rfl : x3.toInt = _) (rfl : (0 : Int32).toInt = 0) c_30)
                  exact atX52_child_95 hc X (fun x3 x4 hw H locs ls hH hl => ih x3 x4 hw _ _ ls hH (lv_sub hl [0, 1, 2, 3, 4] rfl)) x3 x4 0 hw _ _ ls hH (lv_sub hl [1, 2, 3, 4, 5, 0] rfl)
                · have hw := hw.1 (z_eq (rfl : x3.toInt = _) (rfl : (0 : Int32).toInt = 0) c_30)
                  exact hk92 x4 hw _ _ ls hH (lv_sub hl [5] rfl)
            · have hw := hw.1 (z_eq (rfl : r_27.toInt = _) (rfl : (0 : Int32).toInt = 0) c_28)
              refine lv_aload_n hx hb dX52_child_66 rfl (lv_at hl 0 rfl) ?_
              refine lv_iload hx hb dX52_child_67 (lv_at hl 4 rfl) ?_
              refine lv_iload_n hx hb dX52_child_69 rfl (lv_at hl 1 rfl) ?_
              refine k_i0 hH (k_runV (As := [.int x4, .int x1]) (rest := []) X hH.1 hH.2.1 X.2.2.2 (walkX52_isDirect hc (x1 := x4) (x2 := x1) (f_thrown := f_thrown) (f_classes := f_classes) (f_things := f_things) (f_axioms := f_axioms) (f_fuel := f_fuel) (f_questions := f_questions) (f_sorted := f_sorted) (f_left := f_left) (f_other := f_other) (f_right := f_right) (f_there := f_there) (f_member := f_member) (f_state := f_state) (f_before := f_before) (f_placed := f_placed) (f_looked := f_looked) (f_fact := f_fact) (f_maker := f_maker) (f_fired := f_fired) (f_firedCount := f_firedCount) (f_needed := f_needed) (f_module := f_module) (f_asked := f_asked) hw) (cwV 2 X.1.2.2.2.2 gX52_131 rfl rfl rfl hX52_isDirect ⟨Nat.le_of_ble_eq_true rfl, Nat.le_of_ble_eq_true rfl⟩) hc (q0 := 0) rfl rfl hl.1 rfl (Nat.le_of_ble_eq_true rfl) dX52_child_70 ⟨Nat.le_refl 0, Nat.le_refl 0⟩) (fun r_31 _ H locs hw hH => ?_)
              have hH : kH (dC, dI) cl A s.heap H locs (wX52 ci ad d f_thrown f_classes f_things f_axioms f_fuel f_questions f_sorted f_left f_other f_right f_there f_member f_state f_before f_placed f_looked f_fact f_maker f_fired f_firedCount f_needed f_module f_asked) := hH
              refine lv_if_eq (tgt := 80) hx hb dX52_child_73 (by decide) (fun c_32 => ?_) (fun c_32 => ?_)
              · have hw := hw.1 (z_eq (rfl : r_31.toInt = _) (rfl : (0 : Int32).toInt = 0) c_32)
                refine lv_iconst (v := 0) hx hb dX52_child_80 (by decide) ?_
                refine lv_istore (lv' := [(5, .int 0), (0, .ref (ad 0)), (1, .int x1), (2, .int x2), (3, .int x3), (4, .int x4)]) hx hb dX52_child_81 hl (by decide) rfl (fun ls hl => ?_)
                refine lv_iload hx hb dX52_child_83 (lv_at hl 0 rfl) ?_
                refine lv_if_eq (tgt := 95) hx hb dX52_child_85 (by decide) (fun c_33 => ?_) (fun c_33 => ?_)
                · have hw := hw.1 (z_eq (rfl : (0 : Int32).toInt = 0) (rfl : (0 : Int32).toInt = 0) c_33)
                  exact atX52_child_95 hc X (fun x3 x4 hw H locs ls hH hl => ih x3 x4 hw _ _ ls hH (lv_sub hl [0, 1, 2, 3, 4] rfl)) x3 x4 0 hw _ _ ls hH (lv_sub hl [1, 2, 3, 4, 5, 0] rfl)
                · have hw := hw.2 (z_neq (rfl : (0 : Int32).toInt = 0) (rfl : (0 : Int32).toInt = 0) c_33)
                  refine lv_iload_n hx hb dX52_child_88 rfl (lv_at hl 4 rfl) ?_
                  refine lv_if_ne (tgt := 95) hx hb dX52_child_89 (by decide) (fun c_34 => ?_) (fun c_34 => ?_)
                  · have hw := hw.2 (z_ne (rfl : x3.toInt = _) (rfl : (0 : Int32).toInt = 0) c_34)
                    exact atX52_child_95 hc X (fun x3 x4 hw H locs ls hH hl => ih x3 x4 hw _ _ ls hH (lv_sub hl [0, 1, 2, 3, 4] rfl)) x3 x4 0 hw _ _ ls hH (lv_sub hl [1, 2, 3, 4, 5, 0] rfl)
                  · have hw := hw.1 (z_eq (rfl : x3.toInt = _) (rfl : (0 : Int32).toInt = 0) c_34)
                    exact hk92 x4 hw _ _ ls hH (lv_sub hl [5] rfl)
              · have hw := hw.2 (z_neq (rfl : r_31.toInt = _) (rfl : (0 : Int32).toInt = 0) c_32)
                refine lv_iconst (v := 1) hx hb dX52_child_76 (by decide) ?_
                refine lv_goto (tgt := 81) hx hb dX52_child_77 (by decide) ?_
                refine lv_istore (lv' := [(5, .int 1), (0, .ref (ad 0)), (1, .int x1), (2, .int x2), (3, .int x3), (4, .int x4)]) hx hb dX52_child_81 hl (by decide) rfl (fun ls hl => ?_)
                refine lv_iload hx hb dX52_child_83 (lv_at hl 0 rfl) ?_
                refine lv_if_eq (tgt := 95) hx hb dX52_child_85 (by decide) (fun c_35 => ?_) (fun c_35 => ?_)
                · have hw := hw.1 (z_eq (rfl : (1 : Int32).toInt = 1) (rfl : (0 : Int32).toInt = 0) c_35)
                  exact atX52_child_95 hc X (fun x3 x4 hw H locs ls hH hl => ih x3 x4 hw _ _ ls hH (lv_sub hl [0, 1, 2, 3, 4] rfl)) x3 x4 1 hw _ _ ls hH (lv_sub hl [1, 2, 3, 4, 5, 0] rfl)
                · have hw := hw.2 (z_neq (rfl : (1 : Int32).toInt = 1) (rfl : (0 : Int32).toInt = 0) c_35)
                  refine lv_iload_n hx hb dX52_child_88 rfl (lv_at hl 4 rfl) ?_
                  refine lv_if_ne (tgt := 95) hx hb dX52_child_89 (by decide) (fun c_36 => ?_) (fun c_36 => ?_)
                  · have hw := hw.2 (z_ne (rfl : x3.toInt = _) (rfl : (0 : Int32).toInt = 0) c_36)
                    exact atX52_child_95 hc X (fun x3 x4 hw H locs ls hH hl => ih x3 x4 hw _ _ ls hH (lv_sub hl [0, 1, 2, 3, 4] rfl)) x3 x4 1 hw _ _ ls hH (lv_sub hl [1, 2, 3, 4, 5, 0] rfl)
                  · have hw := hw.1 (z_eq (rfl : x3.toInt = _) (rfl : (0 : Int32).toInt = 0) c_36)
                    exact hk92 x4 hw _ _ ls hH (lv_sub hl [5] rfl)
set_option maxHeartbeats 4000000 in
theorem walkX52_child {l : Launch} {dC : Nat → ClassId} {dI : Nat → Nat → Nat} {cl : List vw_C} {ci : Nat} (hc : cl[ci]? = some (RX52, TX52, 23)) {ad : Nat → Nat} {d : Nat → ClassId} {sz : Nat} {f_thrown : Int32} {f_classes : Int32} {f_things : Int32} {f_axioms : Int32} {f_fuel : Int32} {f_questions : Int32} {f_sorted : Int32} {f_left : Nat → Int32} {f_other : Nat → Int32} {f_right : Nat → Int32} {f_there : Nat → Int32} {f_member : Nat → Int32} {f_state : Nat → Int32} {f_before : Nat → Int32} {f_placed : Nat → Int32} {f_looked : Nat → Int32} {f_fact : Nat → Int32} {f_maker : Nat → Int32} {f_fired : Nat → Int32} {f_firedCount : Int32} {f_needed : Nat → Int32} {f_module : Nat → Int32} {f_asked : Int32} {x1 : Int32} {x2 : Int32} {post : Int → Prop} (hw : wpX52_child post f_classes.toInt f_sorted.toInt (zF f_state) (zF f_placed) x1.toInt x2.toInt) :
    Met l yX52_child (ws_ yX52_child cX52_child 6 (some .int)) ({ frames := 3, cells := 0, slots := 0, locals := 68 } : Room) (kPc (dC, dI) cl (tX52 d) [.ref (ad 0), .int x1, .int x2] sz (wX52 ci ad d f_thrown f_classes f_things f_axioms f_fuel f_questions f_sorted f_left f_other f_right f_there f_member f_state f_before f_placed f_looked f_fact f_maker f_fired f_firedCount f_needed f_module f_asked)) (va_Qi (fun (r : Int32) (_ : Unit) => post r.toInt) (kB (dC, dI) cl (tX52 d) (va_A (wX52 ci ad d f_thrown f_classes f_things f_axioms f_fuel f_questions f_sorted f_left f_other f_right f_there f_member f_state f_before f_placed f_looked f_fact f_maker f_fired f_firedCount f_needed f_module f_asked) sz) (fun _ : Unit => (wX52 ci ad d f_thrown f_classes f_things f_axioms f_fuel f_questions f_sorted f_left f_other f_right f_there f_member f_state f_before f_placed f_looked f_fact f_maker f_fired f_firedCount f_needed f_module f_asked))) (va_A (wX52 ci ad d f_thrown f_classes f_things f_axioms f_fuel f_questions f_sorted f_left f_other f_right f_there f_member f_state f_before f_placed f_looked f_fact f_maker f_fired f_firedCount f_needed f_module f_asked) sz)) 0 0 (va_A (wX52 ci ad d f_thrown f_classes f_things f_axioms f_fuel f_questions f_sorted f_left f_other f_right f_there f_member f_state f_before f_placed f_looked f_fact f_maker f_fired f_firedCount f_needed f_module f_asked) sz) := by
  refine k_enter (by decide) (Nat.le_of_ble_eq_true rfl) ?_
  intro p e s m below meth c ls X hsz hH hl
  subst hsz
  generalize va_A (wX52 ci ad d f_thrown f_classes f_things f_axioms f_fuel f_questions f_sorted f_left f_other f_right f_there f_member f_state f_before f_placed f_looked f_fact f_maker f_fired f_firedCount f_needed f_module f_asked) s.heap.size = A at hH ⊢
  have hx := X.1.1
  have hb := X.1.2.1
  have hl : lv_has ls 6 [(0, .ref (ad 0)), (1, .int x1), (2, .int x2)] := hl
  unfold wpX52_child at hw
  refine lv_aload_n hx hb dX52_child_0 rfl (lv_at hl 0 rfl) ?_
  refine lv_iload_n hx hb dX52_child_1 rfl (lv_at hl 1 rfl) ?_
  refine k_i0 hH (k_runV (As := [.int x1]) (rest := []) X hH.1 hH.2.1 X.2.2.2 (walkX52_isClass hc (x1 := x1) (f_thrown := f_thrown) (f_classes := f_classes) (f_things := f_things) (f_axioms := f_axioms) (f_fuel := f_fuel) (f_questions := f_questions) (f_sorted := f_sorted) (f_left := f_left) (f_other := f_other) (f_right := f_right) (f_there := f_there) (f_member := f_member) (f_state := f_state) (f_before := f_before) (f_placed := f_placed) (f_looked := f_looked) (f_fact := f_fact) (f_maker := f_maker) (f_fired := f_fired) (f_firedCount := f_firedCount) (f_needed := f_needed) (f_module := f_module) (f_asked := f_asked) hw) (cwV 1 X.1.2.2.2.2 gX52_63 rfl rfl rfl hX52_isClass ⟨Nat.le_of_ble_eq_true rfl, Nat.le_of_ble_eq_true rfl⟩) hc (q0 := 0) rfl rfl hl.1 rfl (Nat.le_of_ble_eq_true rfl) dX52_child_2 ⟨Nat.le_refl 0, Nat.le_refl 0⟩) (fun r_1 _ H locs hw hH => ?_)
  have hH : kH (dC, dI) cl A s.heap H locs (wX52 ci ad d f_thrown f_classes f_things f_axioms f_fuel f_questions f_sorted f_left f_other f_right f_there f_member f_state f_before f_placed f_looked f_fact f_maker f_fired f_firedCount f_needed f_module f_asked) := hH
  refine lv_if_ne (tgt := 10) hx hb dX52_child_5 (by decide) (fun c_2 => ?_) (fun c_2 => ?_)
  · have hw := hw.2 (z_ne (rfl : r_1.toInt = _) (rfl : (0 : Int32).toInt = 0) c_2)
    refine lv_aload_n hx hb dX52_child_10 rfl (lv_at hl 0 rfl) ?_
    refine k_get X hH in_X52 0 rfl hc 6 (by decide) q6387 rfl dX52_child_11 ?_
    refine lv_if_ne (tgt := 20) hx hb dX52_child_14 (by decide) (fun c_3 => ?_) (fun c_3 => ?_)
    · have hw := hw.2 (z_ne (rfl : f_sorted.toInt = _) (rfl : (0 : Int32).toInt = 0) c_3)
      refine lv_iload_n hx hb dX52_child_20 rfl (lv_at hl 2 rfl) ?_
      refine lv_istore_n (lv' := [(3, .int x2), (0, .ref (ad 0)), (1, .int x1), (2, .int x2)]) hx hb dX52_child_21 rfl hl (by decide) rfl (fun ls hl => ?_)
      refine lv_iconst (v := 0) hx hb dX52_child_22 (by decide) ?_
      refine lv_istore (lv' := [(4, .int 0), (3, .int x2), (0, .ref (ad 0)), (1, .int x1), (2, .int x2)]) hx hb dX52_child_23 hl (by decide) rfl (fun ls hl => ?_)
      obtain ⟨fu, hw⟩ := hw
      refine atX52_child_25 hc X ?_ ?_ fu x2 0 hw _ _ ls hH (lv_sub hl [2, 3, 4, 1, 0] rfl)
      · intro x4_37 hw H locs ls hH hl
        refine lv_iload hx hb dX52_child_92 (lv_at hl 0 rfl) ?_
        exact k_iret (v := x4_37) X hH () hw rfl rfl dX52_child_94
      · intro hw H locs ls hH hl
        refine lv_bipush (v := (-6)) hx hb dX52_child_114 (by decide) ?_
        exact k_iret (v := (-6)) X hH () hw rfl rfl dX52_child_116
    · have hw := hw.1 (z_eq (rfl : f_sorted.toInt = _) (rfl : (0 : Int32).toInt = 0) c_3)
      refine lv_bipush (v := (-3)) hx hb dX52_child_17 (by decide) ?_
      exact k_iret (v := (-3)) X hH () hw rfl rfl dX52_child_19
  · have hw := hw.1 (z_eq (rfl : r_1.toInt = _) (rfl : (0 : Int32).toInt = 0) c_2)
    refine lv_iconst (v := (-1)) hx hb dX52_child_8 (by decide) ?_
    exact k_iret (v := (-1)) X hH () hw rfl rfl dX52_child_9
set_option maxHeartbeats 4000000 in
theorem atX52_equal_77 {p : Program} {l : Launch} {e : Env} {s : State} {m : MethodId} {args : Array Value} {below : List Frame} {meth : Method} {c : Code} {dC : Nat → ClassId} {dI : Nat → Nat → Nat} {cl : List vw_C} {ci : Nat} (hc : cl[ci]? = some (RX52, TX52, 23)) {ad : Nat → Nat} {d : Nat → ClassId} {A : Nat → Prop} {post : Int → Prop} {f_thrown : Int32} {f_classes : Int32} {f_things : Int32} {f_axioms : Int32} {f_fuel : Int32} {f_questions : Int32} {f_sorted : Int32} {f_left : Nat → Int32} {f_other : Nat → Int32} {f_right : Nat → Int32} {f_there : Nat → Int32} {f_member : Nat → Int32} {f_state : Nat → Int32} {f_before : Nat → Int32} {f_placed : Nat → Int32} {f_looked : Nat → Int32} {f_fact : Nat → Int32} {f_maker : Nat → Int32} {f_fired : Nat → Int32} {f_firedCount : Int32} {f_needed : Nat → Int32} {f_module : Nat → Int32} {f_asked : Int32} (X : kX p s m args meth c cX52_equal 6 RX52 (some .int) (dC, dI) cl (tX52 d)) {K25 : Int → Int → Prop} {x1 : Int32} {x2 : Int32}  (hk25 : ∀ (x3 : Int32) (x4 : Int32), K25 x3.toInt x4.toInt → ∀ (H : Heap) (locs : List Loc) (ls : Array Slot), kH (dC, dI) cl A s.heap H locs (wX52 ci ad d f_thrown f_classes f_things f_axioms f_fuel f_questions f_sorted f_left f_other f_right f_there f_member f_state f_before f_placed f_looked f_fact f_maker f_fired f_firedCount f_needed f_module f_asked) → lv_has ls 6 [(0, .ref (ad 0)), (1, .int x1), (2, .int x2), (3, .int x3), (4, .int x4)] → W p l e ({ frames := 1, cells := 0, slots := 0, locals := 22 } : Room) s m args below meth c H locs 0 0 (MQ below (va_Qi (fun (r : Int32) (_ : Unit) => post r.toInt) (kB (dC, dI) cl (tX52 d) A (fun _ : Unit => (wX52 ci ad d f_thrown f_classes f_things f_axioms f_fuel f_questions f_sorted f_left f_other f_right f_there f_member f_state f_before f_placed f_looked f_fact f_maker f_fired f_firedCount f_needed f_module f_asked))) A) args s 0 0 A) (F0 m 25 ls [])) :
    ∀ (x3 : Int32) (x4 : Int32) (x5 : Int32), wX52_equal_77 K25 x3.toInt x4.toInt x5.toInt → ∀ (H : Heap) (locs : List Loc) (ls : Array Slot), kH (dC, dI) cl A s.heap H locs (wX52 ci ad d f_thrown f_classes f_things f_axioms f_fuel f_questions f_sorted f_left f_other f_right f_there f_member f_state f_before f_placed f_looked f_fact f_maker f_fired f_firedCount f_needed f_module f_asked) → lv_has ls 6 [(0, .ref (ad 0)), (1, .int x1), (2, .int x2), (3, .int x3), (4, .int x4), (5, .int x5)] → W p l e ({ frames := 1, cells := 0, slots := 0, locals := 22 } : Room) s m args below meth c H locs 0 0 (MQ below (va_Qi (fun (r : Int32) (_ : Unit) => post r.toInt) (kB (dC, dI) cl (tX52 d) A (fun _ : Unit => (wX52 ci ad d f_thrown f_classes f_things f_axioms f_fuel f_questions f_sorted f_left f_other f_right f_there f_member f_state f_before f_placed f_looked f_fact f_maker f_fired f_firedCount f_needed f_module f_asked))) A) args s 0 0 A) (F0 m 77 ls []) := by
  have hx := X.1.1
  have hb := X.1.2.1
  intro x3 x4 x5 hw H locs ls hH hl
  unfold wX52_equal_77 at hw
  refine lv_iload_n hx hb dX52_equal_77 rfl (lv_at hl 3 rfl) ?_
  refine lv_iload hx hb dX52_equal_78 (lv_at hl 5 rfl) ?_
  refine lv_if_eq (tgt := 87) hx hb dX52_equal_80 (by decide) (fun c_9 => ?_) (fun c_9 => ?_)
  · have hw := hw.1 (z_eq (rfl : x5.toInt = _) (rfl : (0 : Int32).toInt = 0) c_9)
    refine lv_iconst (v := 0) hx hb dX52_equal_87 (by decide) ?_
    refine lv_isub hx hb dX52_equal_88 ?_
    have e_10 := z_sub (z_m (rfl : x3.toInt = _)) (z_m (rfl : (0 : Int32).toInt = 0))
    have hq_11 := hw.1
    have hw := hw.2
    have e_12 := z_x e_10 hq_11
    refine lv_topi (fun x3_13 ex3_13 => ?_)
    have hw := hw x3_13.toInt (by rw [ex3_13]; exact e_12)
    refine lv_istore_n (lv' := [(3, .int x3_13), (0, .ref (ad 0)), (1, .int x1), (2, .int x2), (4, .int x4), (5, .int x5)]) hx hb dX52_equal_89 rfl hl (by decide) rfl (fun ls hl => ?_)
    have hq_15 := hw.1
    have hw := hw.2
    obtain ⟨x4_14, ex4_14⟩ : ∃ y : Int32, y = x4 + 1 := ⟨_, rfl⟩
    have hw := hw x4_14.toInt (by rw [ex4_14]; exact (z_x (z_add (z_m (rfl : x4.toInt = _)) (z_m (rfl : (1 : Int32).toInt = 1))) hq_15))
    refine lv_iinc (v := x4_14) (lv' := [(4, .int x4_14), (3, .int x3_13), (0, .ref (ad 0)), (1, .int x1), (2, .int x2), (5, .int x5)]) hx hb dX52_equal_90 hl (k := 4) rfl (by rw [ex4_14]; rfl) (by decide) rfl (fun ls hl => ?_)
    refine lv_goto (tgt := 25) hx hb dX52_equal_93 (by decide) ?_
    exact hk25 x3_13 x4_14 hw _ _ ls hH (lv_sub hl [2, 3, 4, 1, 0] rfl)
  · have hw := hw.2 (z_neq (rfl : x5.toInt = _) (rfl : (0 : Int32).toInt = 0) c_9)
    refine lv_iconst (v := 1) hx hb dX52_equal_83 (by decide) ?_
    refine lv_goto (tgt := 88) hx hb dX52_equal_84 (by decide) ?_
    refine lv_isub hx hb dX52_equal_88 ?_
    have e_16 := z_sub (z_m (rfl : x3.toInt = _)) (z_m (rfl : (1 : Int32).toInt = 1))
    have hq_17 := hw.1
    have hw := hw.2
    have e_18 := z_x e_16 hq_17
    refine lv_topi (fun x3_19 ex3_19 => ?_)
    have hw := hw x3_19.toInt (by rw [ex3_19]; exact e_18)
    refine lv_istore_n (lv' := [(3, .int x3_19), (0, .ref (ad 0)), (1, .int x1), (2, .int x2), (4, .int x4), (5, .int x5)]) hx hb dX52_equal_89 rfl hl (by decide) rfl (fun ls hl => ?_)
    have hq_21 := hw.1
    have hw := hw.2
    obtain ⟨x4_20, ex4_20⟩ : ∃ y : Int32, y = x4 + 1 := ⟨_, rfl⟩
    have hw := hw x4_20.toInt (by rw [ex4_20]; exact (z_x (z_add (z_m (rfl : x4.toInt = _)) (z_m (rfl : (1 : Int32).toInt = 1))) hq_21))
    refine lv_iinc (v := x4_20) (lv' := [(4, .int x4_20), (3, .int x3_19), (0, .ref (ad 0)), (1, .int x1), (2, .int x2), (5, .int x5)]) hx hb dX52_equal_90 hl (k := 4) rfl (by rw [ex4_20]; rfl) (by decide) rfl (fun ls hl => ?_)
    refine lv_goto (tgt := 25) hx hb dX52_equal_93 (by decide) ?_
    exact hk25 x3_19 x4_20 hw _ _ ls hH (lv_sub hl [2, 3, 4, 1, 0] rfl)
set_option maxHeartbeats 4000000 in
theorem atX52_equal_25 {p : Program} {l : Launch} {e : Env} {s : State} {m : MethodId} {args : Array Value} {below : List Frame} {meth : Method} {c : Code} {dC : Nat → ClassId} {dI : Nat → Nat → Nat} {cl : List vw_C} {ci : Nat} (hc : cl[ci]? = some (RX52, TX52, 23)) {ad : Nat → Nat} {d : Nat → ClassId} {A : Nat → Prop} {post : Int → Prop} {f_thrown : Int32} {f_classes : Int32} {f_things : Int32} {f_axioms : Int32} {f_fuel : Int32} {f_questions : Int32} {f_sorted : Int32} {f_left : Nat → Int32} {f_other : Nat → Int32} {f_right : Nat → Int32} {f_there : Nat → Int32} {f_member : Nat → Int32} {f_state : Nat → Int32} {f_before : Nat → Int32} {f_placed : Nat → Int32} {f_looked : Nat → Int32} {f_fact : Nat → Int32} {f_maker : Nat → Int32} {f_fired : Nat → Int32} {f_firedCount : Int32} {f_needed : Nat → Int32} {f_module : Nat → Int32} {f_asked : Int32} (X : kX p s m args meth c cX52_equal 6 RX52 (some .int) (dC, dI) cl (tX52 d)) {K74 : Int → Prop} {K96 : Prop} {x1 : Int32} {x2 : Int32}  (hk74 : ∀ (x4 : Int32), K74 x4.toInt → ∀ (H : Heap) (locs : List Loc) (ls : Array Slot), kH (dC, dI) cl A s.heap H locs (wX52 ci ad d f_thrown f_classes f_things f_axioms f_fuel f_questions f_sorted f_left f_other f_right f_there f_member f_state f_before f_placed f_looked f_fact f_maker f_fired f_firedCount f_needed f_module f_asked) → lv_has ls 6 [(4, .int x4)] → W p l e ({ frames := 1, cells := 0, slots := 0, locals := 22 } : Room) s m args below meth c H locs 0 0 (MQ below (va_Qi (fun (r : Int32) (_ : Unit) => post r.toInt) (kB (dC, dI) cl (tX52 d) A (fun _ : Unit => (wX52 ci ad d f_thrown f_classes f_things f_axioms f_fuel f_questions f_sorted f_left f_other f_right f_there f_member f_state f_before f_placed f_looked f_fact f_maker f_fired f_firedCount f_needed f_module f_asked))) A) args s 0 0 A) (F0 m 74 ls [])) (hk96 : K96  → ∀ (H : Heap) (locs : List Loc) (ls : Array Slot), kH (dC, dI) cl A s.heap H locs (wX52 ci ad d f_thrown f_classes f_things f_axioms f_fuel f_questions f_sorted f_left f_other f_right f_there f_member f_state f_before f_placed f_looked f_fact f_maker f_fired f_firedCount f_needed f_module f_asked) → lv_has ls 6 [] → W p l e ({ frames := 1, cells := 0, slots := 0, locals := 22 } : Room) s m args below meth c H locs 0 0 (MQ below (va_Qi (fun (r : Int32) (_ : Unit) => post r.toInt) (kB (dC, dI) cl (tX52 d) A (fun _ : Unit => (wX52 ci ad d f_thrown f_classes f_things f_axioms f_fuel f_questions f_sorted f_left f_other f_right f_there f_member f_state f_before f_placed f_looked f_fact f_maker f_fired f_firedCount f_needed f_module f_asked))) A) args s 0 0 A) (F0 m 96 ls [])) :
    ∀ (nn : Nat) (x3 : Int32) (x4 : Int32), wX52_equal_25 K74 K96 x1.toInt x2.toInt f_classes.toInt (zF f_state) nn x3.toInt x4.toInt → ∀ (H : Heap) (locs : List Loc) (ls : Array Slot), kH (dC, dI) cl A s.heap H locs (wX52 ci ad d f_thrown f_classes f_things f_axioms f_fuel f_questions f_sorted f_left f_other f_right f_there f_member f_state f_before f_placed f_looked f_fact f_maker f_fired f_firedCount f_needed f_module f_asked) → lv_has ls 6 [(0, .ref (ad 0)), (1, .int x1), (2, .int x2), (3, .int x3), (4, .int x4)] → W p l e ({ frames := 1, cells := 0, slots := 0, locals := 22 } : Room) s m args below meth c H locs 0 0 (MQ below (va_Qi (fun (r : Int32) (_ : Unit) => post r.toInt) (kB (dC, dI) cl (tX52 d) A (fun _ : Unit => (wX52 ci ad d f_thrown f_classes f_things f_axioms f_fuel f_questions f_sorted f_left f_other f_right f_there f_member f_state f_before f_placed f_looked f_fact f_maker f_fired f_firedCount f_needed f_module f_asked))) A) args s 0 0 A) (F0 m 25 ls []) := by
  have hx := X.1.1
  have hb := X.1.2.1
  intro nn
  induction nn with
  | zero =>
    intro x3 x4 hw
    exact False.elim hw
  | succ n ih =>
    intro x3 x4 hw H locs ls hH hl
    rw [wX52_equal_25] at hw
    refine lv_iload hx hb dX52_equal_25 (lv_at hl 4 rfl) ?_
    refine lv_aload_n hx hb dX52_equal_27 rfl (lv_at hl 0 rfl) ?_
    refine k_get X hH in_X52 0 rfl hc 1 (by decide) q6382 rfl dX52_equal_28 ?_
    refine lv_icmp_ge (tgt := 96) hx hb dX52_equal_31 (by decide) (fun c_4 => ?_) (fun c_4 => ?_)
    · have hw := hw.1 (z_le (rfl : f_classes.toInt = _) (rfl : x4.toInt = _) c_4)
      exact hk96  hw _ _ ls hH (lv_sub hl [] rfl)
    · have hw := hw.2 (z_nle (rfl : f_classes.toInt = _) (rfl : x4.toInt = _) c_4)
      refine lv_iload_n hx hb dX52_equal_34 rfl (lv_at hl 2 rfl) ?_
      refine lv_if_lt (tgt := 96) hx hb dX52_equal_35 (by decide) (fun c_5 => ?_) (fun c_5 => ?_)
      · have hw := hw.1 (z_lt (rfl : x2.toInt = _) (rfl : (0 : Int32).toInt = 0) c_5)
        exact hk96  hw _ _ ls hH (lv_sub hl [] rfl)
      · have hw := hw.2 (z_nlt (rfl : x2.toInt = _) (rfl : (0 : Int32).toInt = 0) c_5)
        refine lv_aload_n hx hb dX52_equal_38 rfl (lv_at hl 0 rfl) ?_
        refine lv_iload_n hx hb dX52_equal_39 rfl (lv_at hl 1 rfl) ?_
        refine lv_iload hx hb dX52_equal_40 (lv_at hl 4 rfl) ?_
        refine k_i0 hH (k_runV (As := [.int x1, .int x4]) (rest := []) X hH.1 hH.2.1 X.2.2.2 (walkX52_below hc (x1 := x1) (x2 := x4) (f_thrown := f_thrown) (f_classes := f_classes) (f_things := f_things) (f_axioms := f_axioms) (f_fuel := f_fuel) (f_questions := f_questions) (f_sorted := f_sorted) (f_left := f_left) (f_other := f_other) (f_right := f_right) (f_there := f_there) (f_member := f_member) (f_state := f_state) (f_before := f_before) (f_placed := f_placed) (f_looked := f_looked) (f_fact := f_fact) (f_maker := f_maker) (f_fired := f_fired) (f_firedCount := f_firedCount) (f_needed := f_needed) (f_module := f_module) (f_asked := f_asked) hw) (cwV 2 X.1.2.2.2.2 gX52_77 rfl rfl rfl hX52_below ⟨Nat.le_of_ble_eq_true rfl, Nat.le_of_ble_eq_true rfl⟩) hc (q0 := 0) rfl rfl hl.1 rfl (Nat.le_of_ble_eq_true rfl) dX52_equal_42 ⟨Nat.le_refl 0, Nat.le_refl 0⟩) (fun r_6 _ H locs hw hH => ?_)
        have hH : kH (dC, dI) cl A s.heap H locs (wX52 ci ad d f_thrown f_classes f_things f_axioms f_fuel f_questions f_sorted f_left f_other f_right f_there f_member f_state f_before f_placed f_looked f_fact f_maker f_fired f_firedCount f_needed f_module f_asked) := hH
        refine lv_if_eq (tgt := 62) hx hb dX52_equal_45 (by decide) (fun c_7 => ?_) (fun c_7 => ?_)
        · have hw := hw.1 (z_eq (rfl : r_6.toInt = _) (rfl : (0 : Int32).toInt = 0) c_7)
          refine lv_iconst (v := 0) hx hb dX52_equal_62 (by decide) ?_
          refine lv_istore (lv' := [(5, .int 0), (0, .ref (ad 0)), (1, .int x1), (2, .int x2), (3, .int x3), (4, .int x4)]) hx hb dX52_equal_63 hl (by decide) rfl (fun ls hl => ?_)
          refine lv_iload hx hb dX52_equal_65 (lv_at hl 0 rfl) ?_
          refine lv_if_eq (tgt := 77) hx hb dX52_equal_67 (by decide) (fun c_8 => ?_) (fun c_8 => ?_)
          · have hw := hw.1 (z_eq (rfl : (0 : Int32).toInt = 0) (rfl : (0 : Int32).toInt = 0) c_8)
            exact atX52_equal_77 hc X (fun x3 x4 hw H locs ls hH hl => ih x3 x4 hw _ _ ls hH (lv_sub hl [0, 1, 2, 3, 4] rfl)) x3 x4 0 hw _ _ ls hH (lv_sub hl [1, 2, 3, 4, 5, 0] rfl)
          · have hw := hw.2 (z_neq (rfl : (0 : Int32).toInt = 0) (rfl : (0 : Int32).toInt = 0) c_8)
            refine lv_iload_n hx hb dX52_equal_70 rfl (lv_at hl 4 rfl) ?_
            refine lv_if_ne (tgt := 77) hx hb dX52_equal_71 (by decide) (fun c_22 => ?_) (fun c_22 => ?_)
            · have hw := hw.2 (z_ne (rfl : x3.toInt = _) (rfl : (0 : Int32).toInt = 0) c_22)
              exact atX52_equal_77 hc X (fun x3 x4 hw H locs ls hH hl => ih x3 x4 hw _ _ ls hH (lv_sub hl [0, 1, 2, 3, 4] rfl)) x3 x4 0 hw _ _ ls hH (lv_sub hl [1, 2, 3, 4, 5, 0] rfl)
            · have hw := hw.1 (z_eq (rfl : x3.toInt = _) (rfl : (0 : Int32).toInt = 0) c_22)
              exact hk74 x4 hw _ _ ls hH (lv_sub hl [5] rfl)
        · have hw := hw.2 (z_neq (rfl : r_6.toInt = _) (rfl : (0 : Int32).toInt = 0) c_7)
          refine lv_aload_n hx hb dX52_equal_48 rfl (lv_at hl 0 rfl) ?_
          refine lv_iload hx hb dX52_equal_49 (lv_at hl 4 rfl) ?_
          refine lv_iload_n hx hb dX52_equal_51 rfl (lv_at hl 1 rfl) ?_
          refine k_i0 hH (k_runV (As := [.int x4, .int x1]) (rest := []) X hH.1 hH.2.1 X.2.2.2 (walkX52_below hc (x1 := x4) (x2 := x1) (f_thrown := f_thrown) (f_classes := f_classes) (f_things := f_things) (f_axioms := f_axioms) (f_fuel := f_fuel) (f_questions := f_questions) (f_sorted := f_sorted) (f_left := f_left) (f_other := f_other) (f_right := f_right) (f_there := f_there) (f_member := f_member) (f_state := f_state) (f_before := f_before) (f_placed := f_placed) (f_looked := f_looked) (f_fact := f_fact) (f_maker := f_maker) (f_fired := f_fired) (f_firedCount := f_firedCount) (f_needed := f_needed) (f_module := f_module) (f_asked := f_asked) hw) (cwV 2 X.1.2.2.2.2 gX52_77 rfl rfl rfl hX52_below ⟨Nat.le_of_ble_eq_true rfl, Nat.le_of_ble_eq_true rfl⟩) hc (q0 := 0) rfl rfl hl.1 rfl (Nat.le_of_ble_eq_true rfl) dX52_equal_52 ⟨Nat.le_refl 0, Nat.le_refl 0⟩) (fun r_23 _ H locs hw hH => ?_)
          have hH : kH (dC, dI) cl A s.heap H locs (wX52 ci ad d f_thrown f_classes f_things f_axioms f_fuel f_questions f_sorted f_left f_other f_right f_there f_member f_state f_before f_placed f_looked f_fact f_maker f_fired f_firedCount f_needed f_module f_asked) := hH
          refine lv_if_eq (tgt := 62) hx hb dX52_equal_55 (by decide) (fun c_24 => ?_) (fun c_24 => ?_)
          · have hw := hw.1 (z_eq (rfl : r_23.toInt = _) (rfl : (0 : Int32).toInt = 0) c_24)
            refine lv_iconst (v := 0) hx hb dX52_equal_62 (by decide) ?_
            refine lv_istore (lv' := [(5, .int 0), (0, .ref (ad 0)), (1, .int x1), (2, .int x2), (3, .int x3), (4, .int x4)]) hx hb dX52_equal_63 hl (by decide) rfl (fun ls hl => ?_)
            refine lv_iload hx hb dX52_equal_65 (lv_at hl 0 rfl) ?_
            refine lv_if_eq (tgt := 77) hx hb dX52_equal_67 (by decide) (fun c_25 => ?_) (fun c_25 => ?_)
            · have hw := hw.1 (z_eq (rfl : (0 : Int32).toInt = 0) (rfl : (0 : Int32).toInt = 0) c_25)
              exact atX52_equal_77 hc X (fun x3 x4 hw H locs ls hH hl => ih x3 x4 hw _ _ ls hH (lv_sub hl [0, 1, 2, 3, 4] rfl)) x3 x4 0 hw _ _ ls hH (lv_sub hl [1, 2, 3, 4, 5, 0] rfl)
            · have hw := hw.2 (z_neq (rfl : (0 : Int32).toInt = 0) (rfl : (0 : Int32).toInt = 0) c_25)
              refine lv_iload_n hx hb dX52_equal_70 rfl (lv_at hl 4 rfl) ?_
              refine lv_if_ne (tgt := 77) hx hb dX52_equal_71 (by decide) (fun c_26 => ?_) (fun c_26 => ?_)
              · have hw := hw.2 (z_ne (rfl : x3.toInt = _) (rfl : (0 : Int32).toInt = 0) c_26)
                exact atX52_equal_77 hc X (fun x3 x4 hw H locs ls hH hl => ih x3 x4 hw _ _ ls hH (lv_sub hl [0, 1, 2, 3, 4] rfl)) x3 x4 0 hw _ _ ls hH (lv_sub hl [1, 2, 3, 4, 5, 0] rfl)
              · have hw := hw.1 (z_eq (rfl : x3.toInt = _) (rfl : (0 : Int32).toInt = 0) c_26)
                exact hk74 x4 hw _ _ ls hH (lv_sub hl [5] rfl)
          · have hw := hw.2 (z_neq (rfl : r_23.toInt = _) (rfl : (0 : Int32).toInt = 0) c_24)
            refine lv_iconst (v := 1) hx hb dX52_equal_58 (by decide) ?_
            refine lv_goto (tgt := 63) hx hb dX52_equal_59 (by decide) ?_
            refine lv_istore (lv' := [(5, .int 1), (0, .ref (ad 0)), (1, .int x1), (2, .int x2), (3, .int x3), (4, .int x4)]) hx hb dX52_equal_63 hl (by decide) rfl (fun ls hl => ?_)
            refine lv_iload hx hb dX52_equal_65 (lv_at hl 0 rfl) ?_
            refine lv_if_eq (tgt := 77) hx hb dX52_equal_67 (by decide) (fun c_27 => ?_) (fun c_27 => ?_)
            · have hw := hw.1 (z_eq (rfl : (1 : Int32).toInt = 1) (rfl : (0 : Int32).toInt = 0) c_27)
              exact atX52_equal_77 hc X (fun x3 x4 hw H locs ls hH hl => ih x3 x4 hw _ _ ls hH (lv_sub hl [0, 1, 2, 3, 4] rfl)) x3 x4 1 hw _ _ ls hH (lv_sub hl [1, 2, 3, 4, 5, 0] rfl)
            · have hw := hw.2 (z_neq (rfl : (1 : Int32).toInt = 1) (rfl : (0 : Int32).toInt = 0) c_27)
              refine lv_iload_n hx hb dX52_equal_70 rfl (lv_at hl 4 rfl) ?_
              refine lv_if_ne (tgt := 77) hx hb dX52_equal_71 (by decide) (fun c_28 => ?_) (fun c_28 => ?_)
              · have hw := hw.2 (z_ne (rfl : x3.toInt = _) (rfl : (0 : Int32).toInt = 0) c_28)
                exact atX52_equal_77 hc X (fun x3 x4 hw H locs ls hH hl => ih x3 x4 hw _ _ ls hH (lv_sub hl [0, 1, 2, 3, 4] rfl)) x3 x4 1 hw _ _ ls hH (lv_sub hl [1, 2, 3, 4, 5, 0] rfl)
              · have hw := hw.1 (z_eq (rfl : x3.toInt = _) (rfl : (0 : Int32).toInt = 0) c_28)
                exact hk74 x4 hw _ _ ls hH (lv_sub hl [5] rfl)
set_option maxHeartbeats 4000000 in
theorem walkX52_equal {l : Launch} {dC : Nat → ClassId} {dI : Nat → Nat → Nat} {cl : List vw_C} {ci : Nat} (hc : cl[ci]? = some (RX52, TX52, 23)) {ad : Nat → Nat} {d : Nat → ClassId} {sz : Nat} {f_thrown : Int32} {f_classes : Int32} {f_things : Int32} {f_axioms : Int32} {f_fuel : Int32} {f_questions : Int32} {f_sorted : Int32} {f_left : Nat → Int32} {f_other : Nat → Int32} {f_right : Nat → Int32} {f_there : Nat → Int32} {f_member : Nat → Int32} {f_state : Nat → Int32} {f_before : Nat → Int32} {f_placed : Nat → Int32} {f_looked : Nat → Int32} {f_fact : Nat → Int32} {f_maker : Nat → Int32} {f_fired : Nat → Int32} {f_firedCount : Int32} {f_needed : Nat → Int32} {f_module : Nat → Int32} {f_asked : Int32} {x1 : Int32} {x2 : Int32} {post : Int → Prop} (hw : wpX52_equal post f_classes.toInt f_sorted.toInt (zF f_state) x1.toInt x2.toInt) :
    Met l yX52_equal (ws_ yX52_equal cX52_equal 6 (some .int)) ({ frames := 1, cells := 0, slots := 0, locals := 22 } : Room) (kPc (dC, dI) cl (tX52 d) [.ref (ad 0), .int x1, .int x2] sz (wX52 ci ad d f_thrown f_classes f_things f_axioms f_fuel f_questions f_sorted f_left f_other f_right f_there f_member f_state f_before f_placed f_looked f_fact f_maker f_fired f_firedCount f_needed f_module f_asked)) (va_Qi (fun (r : Int32) (_ : Unit) => post r.toInt) (kB (dC, dI) cl (tX52 d) (va_A (wX52 ci ad d f_thrown f_classes f_things f_axioms f_fuel f_questions f_sorted f_left f_other f_right f_there f_member f_state f_before f_placed f_looked f_fact f_maker f_fired f_firedCount f_needed f_module f_asked) sz) (fun _ : Unit => (wX52 ci ad d f_thrown f_classes f_things f_axioms f_fuel f_questions f_sorted f_left f_other f_right f_there f_member f_state f_before f_placed f_looked f_fact f_maker f_fired f_firedCount f_needed f_module f_asked))) (va_A (wX52 ci ad d f_thrown f_classes f_things f_axioms f_fuel f_questions f_sorted f_left f_other f_right f_there f_member f_state f_before f_placed f_looked f_fact f_maker f_fired f_firedCount f_needed f_module f_asked) sz)) 0 0 (va_A (wX52 ci ad d f_thrown f_classes f_things f_axioms f_fuel f_questions f_sorted f_left f_other f_right f_there f_member f_state f_before f_placed f_looked f_fact f_maker f_fired f_firedCount f_needed f_module f_asked) sz) := by
  refine k_enter (by decide) (Nat.le_of_ble_eq_true rfl) ?_
  intro p e s m below meth c ls X hsz hH hl
  subst hsz
  generalize va_A (wX52 ci ad d f_thrown f_classes f_things f_axioms f_fuel f_questions f_sorted f_left f_other f_right f_there f_member f_state f_before f_placed f_looked f_fact f_maker f_fired f_firedCount f_needed f_module f_asked) s.heap.size = A at hH ⊢
  have hx := X.1.1
  have hb := X.1.2.1
  have hl : lv_has ls 6 [(0, .ref (ad 0)), (1, .int x1), (2, .int x2)] := hl
  unfold wpX52_equal at hw
  refine lv_aload_n hx hb dX52_equal_0 rfl (lv_at hl 0 rfl) ?_
  refine lv_iload_n hx hb dX52_equal_1 rfl (lv_at hl 1 rfl) ?_
  refine k_i0 hH (k_runV (As := [.int x1]) (rest := []) X hH.1 hH.2.1 X.2.2.2 (walkX52_isClass hc (x1 := x1) (f_thrown := f_thrown) (f_classes := f_classes) (f_things := f_things) (f_axioms := f_axioms) (f_fuel := f_fuel) (f_questions := f_questions) (f_sorted := f_sorted) (f_left := f_left) (f_other := f_other) (f_right := f_right) (f_there := f_there) (f_member := f_member) (f_state := f_state) (f_before := f_before) (f_placed := f_placed) (f_looked := f_looked) (f_fact := f_fact) (f_maker := f_maker) (f_fired := f_fired) (f_firedCount := f_firedCount) (f_needed := f_needed) (f_module := f_module) (f_asked := f_asked) hw) (cwV 1 X.1.2.2.2.2 gX52_63 rfl rfl rfl hX52_isClass ⟨Nat.le_of_ble_eq_true rfl, Nat.le_of_ble_eq_true rfl⟩) hc (q0 := 0) rfl rfl hl.1 rfl (Nat.le_of_ble_eq_true rfl) dX52_equal_2 ⟨Nat.le_refl 0, Nat.le_refl 0⟩) (fun r_1 _ H locs hw hH => ?_)
  have hH : kH (dC, dI) cl A s.heap H locs (wX52 ci ad d f_thrown f_classes f_things f_axioms f_fuel f_questions f_sorted f_left f_other f_right f_there f_member f_state f_before f_placed f_looked f_fact f_maker f_fired f_firedCount f_needed f_module f_asked) := hH
  refine lv_if_ne (tgt := 10) hx hb dX52_equal_5 (by decide) (fun c_2 => ?_) (fun c_2 => ?_)
  · have hw := hw.2 (z_ne (rfl : r_1.toInt = _) (rfl : (0 : Int32).toInt = 0) c_2)
    refine lv_aload_n hx hb dX52_equal_10 rfl (lv_at hl 0 rfl) ?_
    refine k_get X hH in_X52 0 rfl hc 6 (by decide) q6387 rfl dX52_equal_11 ?_
    refine lv_if_ne (tgt := 20) hx hb dX52_equal_14 (by decide) (fun c_3 => ?_) (fun c_3 => ?_)
    · have hw := hw.2 (z_ne (rfl : f_sorted.toInt = _) (rfl : (0 : Int32).toInt = 0) c_3)
      refine lv_iload_n hx hb dX52_equal_20 rfl (lv_at hl 2 rfl) ?_
      refine lv_istore_n (lv' := [(3, .int x2), (0, .ref (ad 0)), (1, .int x1), (2, .int x2)]) hx hb dX52_equal_21 rfl hl (by decide) rfl (fun ls hl => ?_)
      refine lv_iconst (v := 0) hx hb dX52_equal_22 (by decide) ?_
      refine lv_istore (lv' := [(4, .int 0), (3, .int x2), (0, .ref (ad 0)), (1, .int x1), (2, .int x2)]) hx hb dX52_equal_23 hl (by decide) rfl (fun ls hl => ?_)
      obtain ⟨fu, hw⟩ := hw
      refine atX52_equal_25 hc X ?_ ?_ fu x2 0 hw _ _ ls hH (lv_sub hl [2, 3, 4, 1, 0] rfl)
      · intro x4_29 hw H locs ls hH hl
        refine lv_iload hx hb dX52_equal_74 (lv_at hl 0 rfl) ?_
        exact k_iret (v := x4_29) X hH () hw rfl rfl dX52_equal_76
      · intro hw H locs ls hH hl
        refine lv_bipush (v := (-6)) hx hb dX52_equal_96 (by decide) ?_
        exact k_iret (v := (-6)) X hH () hw rfl rfl dX52_equal_98
    · have hw := hw.1 (z_eq (rfl : f_sorted.toInt = _) (rfl : (0 : Int32).toInt = 0) c_3)
      refine lv_bipush (v := (-3)) hx hb dX52_equal_17 (by decide) ?_
      exact k_iret (v := (-3)) X hH () hw rfl rfl dX52_equal_19
  · have hw := hw.1 (z_eq (rfl : r_1.toInt = _) (rfl : (0 : Int32).toInt = 0) c_2)
    refine lv_iconst (v := (-1)) hx hb dX52_equal_8 (by decide) ?_
    exact k_iret (v := (-1)) X hH () hw rfl rfl dX52_equal_9
set_option maxHeartbeats 4000000 in
theorem atX52_empty_41 {p : Program} {l : Launch} {e : Env} {s : State} {m : MethodId} {args : Array Value} {below : List Frame} {meth : Method} {c : Code} {dC : Nat → ClassId} {dI : Nat → Nat → Nat} {cl : List vw_C} {ci : Nat} (hc : cl[ci]? = some (RX52, TX52, 23)) {ad : Nat → Nat} {d : Nat → ClassId} {A : Nat → Prop} {post : Int → Prop} {f_thrown : Int32} {f_classes : Int32} {f_things : Int32} {f_axioms : Int32} {f_fuel : Int32} {f_questions : Int32} {f_sorted : Int32} {f_left : Nat → Int32} {f_other : Nat → Int32} {f_right : Nat → Int32} {f_there : Nat → Int32} {f_member : Nat → Int32} {f_state : Nat → Int32} {f_before : Nat → Int32} {f_placed : Nat → Int32} {f_looked : Nat → Int32} {f_fact : Nat → Int32} {f_maker : Nat → Int32} {f_fired : Nat → Int32} {f_firedCount : Int32} {f_needed : Nat → Int32} {f_module : Nat → Int32} {f_asked : Int32} (X : kX p s m args meth c cX52_empty 4 RX52 (some .int) (dC, dI) cl (tX52 d)) {K14 : Int → Int → Prop} {x1 : Int32}  (hk14 : ∀ (x2 : Int32) (x3 : Int32), K14 x2.toInt x3.toInt → ∀ (H : Heap) (locs : List Loc) (ls : Array Slot), kH (dC, dI) cl A s.heap H locs (wX52 ci ad d f_thrown f_classes f_things f_axioms f_fuel f_questions f_sorted f_left f_other f_right f_there f_member f_state f_before f_placed f_looked f_fact f_maker f_fired f_firedCount f_needed f_module f_asked) → lv_has ls 4 [(0, .ref (ad 0)), (1, .int x1), (2, .int x2), (3, .int x3)] → W p l e ({ frames := 0, cells := 0, slots := 0, locals := 0 } : Room) s m args below meth c H locs 0 0 (MQ below (va_Qi (fun (r : Int32) (_ : Unit) => post r.toInt) (kB (dC, dI) cl (tX52 d) A (fun _ : Unit => (wX52 ci ad d f_thrown f_classes f_things f_axioms f_fuel f_questions f_sorted f_left f_other f_right f_there f_member f_state f_before f_placed f_looked f_fact f_maker f_fired f_firedCount f_needed f_module f_asked))) A) args s 0 0 A) (F0 m 14 ls [])) :
    ∀ (x2 : Int32) (x3 : Int32), wX52_empty_41 K14 x2.toInt x3.toInt (zF f_placed) → ∀ (H : Heap) (locs : List Loc) (ls : Array Slot), kH (dC, dI) cl A s.heap H locs (wX52 ci ad d f_thrown f_classes f_things f_axioms f_fuel f_questions f_sorted f_left f_other f_right f_there f_member f_state f_before f_placed f_looked f_fact f_maker f_fired f_firedCount f_needed f_module f_asked) → lv_has ls 4 [(0, .ref (ad 0)), (1, .int x1), (2, .int x2), (3, .int x3)] → W p l e ({ frames := 0, cells := 0, slots := 0, locals := 0 } : Room) s m args below meth c H locs 0 0 (MQ below (va_Qi (fun (r : Int32) (_ : Unit) => post r.toInt) (kB (dC, dI) cl (tX52 d) A (fun _ : Unit => (wX52 ci ad d f_thrown f_classes f_things f_axioms f_fuel f_questions f_sorted f_left f_other f_right f_there f_member f_state f_before f_placed f_looked f_fact f_maker f_fired f_firedCount f_needed f_module f_asked))) A) args s 0 0 A) (F0 m 41 ls []) := by
  have hx := X.1.1
  have hb := X.1.2.1
  intro x2 x3 hw H locs ls hH hl
  unfold wX52_empty_41 at hw
  refine lv_iload_n hx hb dX52_empty_41 rfl (lv_at hl 2 rfl) ?_
  refine lv_aload_n hx hb dX52_empty_42 rfl (lv_at hl 0 rfl) ?_
  refine k_get X hH in_X52 0 rfl hc 14 (by decide) q6395 rfl dX52_empty_43 ?_
  refine lv_iload_n hx hb dX52_empty_46 rfl (lv_at hl 3 rfl) ?_
  have hq_7 := hw.1
  have hw := hw.2
  refine k_zald X hH 8 7 rfl rfl (z_in (rfl : x3.toInt = _) hq_7) dX52_empty_47 ?_
  have e_8 := z_ld (f := f_placed) (rfl : x3.toInt = _) hq_7.1
  refine lv_if_eq (tgt := 55) hx hb dX52_empty_48 (by decide) (fun c_9 => ?_) (fun c_9 => ?_)
  · have hw := hw.1 (z_eq e_8 (rfl : (0 : Int32).toInt = 0) c_9)
    refine lv_iconst (v := 1) hx hb dX52_empty_55 (by decide) ?_
    refine lv_isub hx hb dX52_empty_56 ?_
    have e_10 := z_sub (z_m (rfl : x2.toInt = _)) (z_m (rfl : (1 : Int32).toInt = 1))
    have hq_11 := hw.1
    have hw := hw.2
    have e_12 := z_x e_10 hq_11
    refine lv_topi (fun x2_13 ex2_13 => ?_)
    have hw := hw x2_13.toInt (by rw [ex2_13]; exact e_12)
    refine lv_istore_n (lv' := [(2, .int x2_13), (0, .ref (ad 0)), (1, .int x1), (3, .int x3)]) hx hb dX52_empty_57 rfl hl (by decide) rfl (fun ls hl => ?_)
    have hq_15 := hw.1
    have hw := hw.2
    obtain ⟨x3_14, ex3_14⟩ : ∃ y : Int32, y = x3 + 1 := ⟨_, rfl⟩
    have hw := hw x3_14.toInt (by rw [ex3_14]; exact (z_x (z_add (z_m (rfl : x3.toInt = _)) (z_m (rfl : (1 : Int32).toInt = 1))) hq_15))
    refine lv_iinc (v := x3_14) (lv' := [(3, .int x3_14), (2, .int x2_13), (0, .ref (ad 0)), (1, .int x1)]) hx hb dX52_empty_58 hl (k := 3) rfl (by rw [ex3_14]; rfl) (by decide) rfl (fun ls hl => ?_)
    refine lv_goto (tgt := 14) hx hb dX52_empty_61 (by decide) ?_
    exact hk14 x2_13 x3_14 hw _ _ ls hH (lv_sub hl [2, 3, 1, 0] rfl)
  · have hw := hw.2 (z_neq e_8 (rfl : (0 : Int32).toInt = 0) c_9)
    refine lv_iconst (v := 0) hx hb dX52_empty_51 (by decide) ?_
    refine lv_goto (tgt := 56) hx hb dX52_empty_52 (by decide) ?_
    refine lv_isub hx hb dX52_empty_56 ?_
    have e_16 := z_sub (z_m (rfl : x2.toInt = _)) (z_m (rfl : (0 : Int32).toInt = 0))
    have hq_17 := hw.1
    have hw := hw.2
    have e_18 := z_x e_16 hq_17
    refine lv_topi (fun x2_19 ex2_19 => ?_)
    have hw := hw x2_19.toInt (by rw [ex2_19]; exact e_18)
    refine lv_istore_n (lv' := [(2, .int x2_19), (0, .ref (ad 0)), (1, .int x1), (3, .int x3)]) hx hb dX52_empty_57 rfl hl (by decide) rfl (fun ls hl => ?_)
    have hq_21 := hw.1
    have hw := hw.2
    obtain ⟨x3_20, ex3_20⟩ : ∃ y : Int32, y = x3 + 1 := ⟨_, rfl⟩
    have hw := hw x3_20.toInt (by rw [ex3_20]; exact (z_x (z_add (z_m (rfl : x3.toInt = _)) (z_m (rfl : (1 : Int32).toInt = 1))) hq_21))
    refine lv_iinc (v := x3_20) (lv' := [(3, .int x3_20), (2, .int x2_19), (0, .ref (ad 0)), (1, .int x1)]) hx hb dX52_empty_58 hl (k := 3) rfl (by rw [ex3_20]; rfl) (by decide) rfl (fun ls hl => ?_)
    refine lv_goto (tgt := 14) hx hb dX52_empty_61 (by decide) ?_
    exact hk14 x2_19 x3_20 hw _ _ ls hH (lv_sub hl [2, 3, 1, 0] rfl)
set_option maxHeartbeats 4000000 in
theorem atX52_empty_14 {p : Program} {l : Launch} {e : Env} {s : State} {m : MethodId} {args : Array Value} {below : List Frame} {meth : Method} {c : Code} {dC : Nat → ClassId} {dI : Nat → Nat → Nat} {cl : List vw_C} {ci : Nat} (hc : cl[ci]? = some (RX52, TX52, 23)) {ad : Nat → Nat} {d : Nat → ClassId} {A : Nat → Prop} {post : Int → Prop} {f_thrown : Int32} {f_classes : Int32} {f_things : Int32} {f_axioms : Int32} {f_fuel : Int32} {f_questions : Int32} {f_sorted : Int32} {f_left : Nat → Int32} {f_other : Nat → Int32} {f_right : Nat → Int32} {f_there : Nat → Int32} {f_member : Nat → Int32} {f_state : Nat → Int32} {f_before : Nat → Int32} {f_placed : Nat → Int32} {f_looked : Nat → Int32} {f_fact : Nat → Int32} {f_maker : Nat → Int32} {f_fired : Nat → Int32} {f_firedCount : Int32} {f_needed : Nat → Int32} {f_module : Nat → Int32} {f_asked : Int32} (X : kX p s m args meth c cX52_empty 4 RX52 (some .int) (dC, dI) cl (tX52 d)) {K39 : Int → Prop} {K64 : Prop} {x1 : Int32}  (hk39 : ∀ (x3 : Int32), K39 x3.toInt → ∀ (H : Heap) (locs : List Loc) (ls : Array Slot), kH (dC, dI) cl A s.heap H locs (wX52 ci ad d f_thrown f_classes f_things f_axioms f_fuel f_questions f_sorted f_left f_other f_right f_there f_member f_state f_before f_placed f_looked f_fact f_maker f_fired f_firedCount f_needed f_module f_asked) → lv_has ls 4 [(3, .int x3)] → W p l e ({ frames := 0, cells := 0, slots := 0, locals := 0 } : Room) s m args below meth c H locs 0 0 (MQ below (va_Qi (fun (r : Int32) (_ : Unit) => post r.toInt) (kB (dC, dI) cl (tX52 d) A (fun _ : Unit => (wX52 ci ad d f_thrown f_classes f_things f_axioms f_fuel f_questions f_sorted f_left f_other f_right f_there f_member f_state f_before f_placed f_looked f_fact f_maker f_fired f_firedCount f_needed f_module f_asked))) A) args s 0 0 A) (F0 m 39 ls [])) (hk64 : K64  → ∀ (H : Heap) (locs : List Loc) (ls : Array Slot), kH (dC, dI) cl A s.heap H locs (wX52 ci ad d f_thrown f_classes f_things f_axioms f_fuel f_questions f_sorted f_left f_other f_right f_there f_member f_state f_before f_placed f_looked f_fact f_maker f_fired f_firedCount f_needed f_module f_asked) → lv_has ls 4 [] → W p l e ({ frames := 0, cells := 0, slots := 0, locals := 0 } : Room) s m args below meth c H locs 0 0 (MQ below (va_Qi (fun (r : Int32) (_ : Unit) => post r.toInt) (kB (dC, dI) cl (tX52 d) A (fun _ : Unit => (wX52 ci ad d f_thrown f_classes f_things f_axioms f_fuel f_questions f_sorted f_left f_other f_right f_there f_member f_state f_before f_placed f_looked f_fact f_maker f_fired f_firedCount f_needed f_module f_asked))) A) args s 0 0 A) (F0 m 64 ls [])) :
    ∀ (nn : Nat) (x2 : Int32) (x3 : Int32), wX52_empty_14 K39 K64 x1.toInt f_classes.toInt (zF f_placed) nn x2.toInt x3.toInt → ∀ (H : Heap) (locs : List Loc) (ls : Array Slot), kH (dC, dI) cl A s.heap H locs (wX52 ci ad d f_thrown f_classes f_things f_axioms f_fuel f_questions f_sorted f_left f_other f_right f_there f_member f_state f_before f_placed f_looked f_fact f_maker f_fired f_firedCount f_needed f_module f_asked) → lv_has ls 4 [(0, .ref (ad 0)), (1, .int x1), (2, .int x2), (3, .int x3)] → W p l e ({ frames := 0, cells := 0, slots := 0, locals := 0 } : Room) s m args below meth c H locs 0 0 (MQ below (va_Qi (fun (r : Int32) (_ : Unit) => post r.toInt) (kB (dC, dI) cl (tX52 d) A (fun _ : Unit => (wX52 ci ad d f_thrown f_classes f_things f_axioms f_fuel f_questions f_sorted f_left f_other f_right f_there f_member f_state f_before f_placed f_looked f_fact f_maker f_fired f_firedCount f_needed f_module f_asked))) A) args s 0 0 A) (F0 m 14 ls []) := by
  have hx := X.1.1
  have hb := X.1.2.1
  intro nn
  induction nn with
  | zero =>
    intro x2 x3 hw
    exact False.elim hw
  | succ n ih =>
    intro x2 x3 hw H locs ls hH hl
    rw [wX52_empty_14] at hw
    refine lv_iload_n hx hb dX52_empty_14 rfl (lv_at hl 3 rfl) ?_
    refine lv_aload_n hx hb dX52_empty_15 rfl (lv_at hl 0 rfl) ?_
    refine k_get X hH in_X52 0 rfl hc 1 (by decide) q6382 rfl dX52_empty_16 ?_
    refine lv_icmp_ge (tgt := 64) hx hb dX52_empty_19 (by decide) (fun c_2 => ?_) (fun c_2 => ?_)
    · have hw := hw.1 (z_le (rfl : f_classes.toInt = _) (rfl : x3.toInt = _) c_2)
      exact hk64  hw _ _ ls hH (lv_sub hl [] rfl)
    · have hw := hw.2 (z_nle (rfl : f_classes.toInt = _) (rfl : x3.toInt = _) c_2)
      refine lv_iload_n hx hb dX52_empty_22 rfl (lv_at hl 1 rfl) ?_
      refine lv_if_lt (tgt := 64) hx hb dX52_empty_23 (by decide) (fun c_3 => ?_) (fun c_3 => ?_)
      · have hw := hw.1 (z_lt (rfl : x1.toInt = _) (rfl : (0 : Int32).toInt = 0) c_3)
        exact hk64  hw _ _ ls hH (lv_sub hl [] rfl)
      · have hw := hw.2 (z_nlt (rfl : x1.toInt = _) (rfl : (0 : Int32).toInt = 0) c_3)
        refine lv_aload_n hx hb dX52_empty_26 rfl (lv_at hl 0 rfl) ?_
        refine k_get X hH in_X52 0 rfl hc 14 (by decide) q6395 rfl dX52_empty_27 ?_
        refine lv_iload_n hx hb dX52_empty_30 rfl (lv_at hl 3 rfl) ?_
        have hq_4 := hw.1
        have hw := hw.2
        refine k_zald X hH 8 7 rfl rfl (z_in (rfl : x3.toInt = _) hq_4) dX52_empty_31 ?_
        have e_5 := z_ld (f := f_placed) (rfl : x3.toInt = _) hq_4.1
        refine lv_if_ne (tgt := 41) hx hb dX52_empty_32 (by decide) (fun c_6 => ?_) (fun c_6 => ?_)
        · have hw := hw.2 (z_ne e_5 (rfl : (0 : Int32).toInt = 0) c_6)
          exact atX52_empty_41 hc X (fun x2 x3 hw H locs ls hH hl => ih x2 x3 hw _ _ ls hH (lv_sub hl [0, 1, 2, 3] rfl)) x2 x3 hw _ _ ls hH (lv_sub hl [0, 1, 2, 3] rfl)
        · have hw := hw.1 (z_eq e_5 (rfl : (0 : Int32).toInt = 0) c_6)
          refine lv_iload_n hx hb dX52_empty_35 rfl (lv_at hl 2 rfl) ?_
          refine lv_if_ne (tgt := 41) hx hb dX52_empty_36 (by decide) (fun c_22 => ?_) (fun c_22 => ?_)
          · have hw := hw.2 (z_ne (rfl : x2.toInt = _) (rfl : (0 : Int32).toInt = 0) c_22)
            exact atX52_empty_41 hc X (fun x2 x3 hw H locs ls hH hl => ih x2 x3 hw _ _ ls hH (lv_sub hl [0, 1, 2, 3] rfl)) x2 x3 hw _ _ ls hH (lv_sub hl [0, 1, 2, 3] rfl)
          · have hw := hw.1 (z_eq (rfl : x2.toInt = _) (rfl : (0 : Int32).toInt = 0) c_22)
            exact hk39 x3 hw _ _ ls hH (lv_sub hl [3] rfl)
set_option maxHeartbeats 4000000 in
theorem walkX52_empty {l : Launch} {dC : Nat → ClassId} {dI : Nat → Nat → Nat} {cl : List vw_C} {ci : Nat} (hc : cl[ci]? = some (RX52, TX52, 23)) {ad : Nat → Nat} {d : Nat → ClassId} {sz : Nat} {f_thrown : Int32} {f_classes : Int32} {f_things : Int32} {f_axioms : Int32} {f_fuel : Int32} {f_questions : Int32} {f_sorted : Int32} {f_left : Nat → Int32} {f_other : Nat → Int32} {f_right : Nat → Int32} {f_there : Nat → Int32} {f_member : Nat → Int32} {f_state : Nat → Int32} {f_before : Nat → Int32} {f_placed : Nat → Int32} {f_looked : Nat → Int32} {f_fact : Nat → Int32} {f_maker : Nat → Int32} {f_fired : Nat → Int32} {f_firedCount : Int32} {f_needed : Nat → Int32} {f_module : Nat → Int32} {f_asked : Int32} {x1 : Int32} {post : Int → Prop} (hw : wpX52_empty post f_classes.toInt f_sorted.toInt (zF f_placed) x1.toInt) :
    Met l yX52_empty (ws_ yX52_empty cX52_empty 4 (some .int)) ({ frames := 0, cells := 0, slots := 0, locals := 0 } : Room) (kPc (dC, dI) cl (tX52 d) [.ref (ad 0), .int x1] sz (wX52 ci ad d f_thrown f_classes f_things f_axioms f_fuel f_questions f_sorted f_left f_other f_right f_there f_member f_state f_before f_placed f_looked f_fact f_maker f_fired f_firedCount f_needed f_module f_asked)) (va_Qi (fun (r : Int32) (_ : Unit) => post r.toInt) (kB (dC, dI) cl (tX52 d) (va_A (wX52 ci ad d f_thrown f_classes f_things f_axioms f_fuel f_questions f_sorted f_left f_other f_right f_there f_member f_state f_before f_placed f_looked f_fact f_maker f_fired f_firedCount f_needed f_module f_asked) sz) (fun _ : Unit => (wX52 ci ad d f_thrown f_classes f_things f_axioms f_fuel f_questions f_sorted f_left f_other f_right f_there f_member f_state f_before f_placed f_looked f_fact f_maker f_fired f_firedCount f_needed f_module f_asked))) (va_A (wX52 ci ad d f_thrown f_classes f_things f_axioms f_fuel f_questions f_sorted f_left f_other f_right f_there f_member f_state f_before f_placed f_looked f_fact f_maker f_fired f_firedCount f_needed f_module f_asked) sz)) 0 0 (va_A (wX52 ci ad d f_thrown f_classes f_things f_axioms f_fuel f_questions f_sorted f_left f_other f_right f_there f_member f_state f_before f_placed f_looked f_fact f_maker f_fired f_firedCount f_needed f_module f_asked) sz) := by
  refine k_enter (by decide) (Nat.le_of_ble_eq_true rfl) ?_
  intro p e s m below meth c ls X hsz hH hl
  subst hsz
  generalize va_A (wX52 ci ad d f_thrown f_classes f_things f_axioms f_fuel f_questions f_sorted f_left f_other f_right f_there f_member f_state f_before f_placed f_looked f_fact f_maker f_fired f_firedCount f_needed f_module f_asked) s.heap.size = A at hH ⊢
  have hx := X.1.1
  have hb := X.1.2.1
  have hl : lv_has ls 4 [(0, .ref (ad 0)), (1, .int x1)] := hl
  unfold wpX52_empty at hw
  refine lv_aload_n hx hb dX52_empty_0 rfl (lv_at hl 0 rfl) ?_
  refine k_get X hH in_X52 0 rfl hc 6 (by decide) q6387 rfl dX52_empty_1 ?_
  refine lv_if_ne (tgt := 10) hx hb dX52_empty_4 (by decide) (fun c_1 => ?_) (fun c_1 => ?_)
  · have hw := hw.2 (z_ne (rfl : f_sorted.toInt = _) (rfl : (0 : Int32).toInt = 0) c_1)
    refine lv_iload_n hx hb dX52_empty_10 rfl (lv_at hl 1 rfl) ?_
    refine lv_istore_n (lv' := [(2, .int x1), (0, .ref (ad 0)), (1, .int x1)]) hx hb dX52_empty_11 rfl hl (by decide) rfl (fun ls hl => ?_)
    refine lv_iconst (v := 0) hx hb dX52_empty_12 (by decide) ?_
    refine lv_istore_n (lv' := [(3, .int 0), (2, .int x1), (0, .ref (ad 0)), (1, .int x1)]) hx hb dX52_empty_13 rfl hl (by decide) rfl (fun ls hl => ?_)
    obtain ⟨fu, hw⟩ := hw
    refine atX52_empty_14 hc X ?_ ?_ fu x1 0 hw _ _ ls hH (lv_sub hl [2, 3, 1, 0] rfl)
    · intro x3_23 hw H locs ls hH hl
      refine lv_iload_n hx hb dX52_empty_39 rfl (lv_at hl 0 rfl) ?_
      exact k_iret (v := x3_23) X hH () hw rfl rfl dX52_empty_40
    · intro hw H locs ls hH hl
      refine lv_bipush (v := (-6)) hx hb dX52_empty_64 (by decide) ?_
      exact k_iret (v := (-6)) X hH () hw rfl rfl dX52_empty_66
  · have hw := hw.1 (z_eq (rfl : f_sorted.toInt = _) (rfl : (0 : Int32).toInt = 0) c_1)
    refine lv_bipush (v := (-3)) hx hb dX52_empty_7 (by decide) ?_
    exact k_iret (v := (-3)) X hH () hw rfl rfl dX52_empty_9
set_option maxHeartbeats 4000000 in
theorem atX52_open_68 {p : Program} {l : Launch} {e : Env} {s : State} {m : MethodId} {args : Array Value} {below : List Frame} {meth : Method} {c : Code} {dC : Nat → ClassId} {dI : Nat → Nat → Nat} {cl : List vw_C} {ci : Nat} (hc : cl[ci]? = some (RX52, TX52, 23)) {ad : Nat → Nat} {d : Nat → ClassId} {A : Nat → Prop} {post : Int → Prop} {f_thrown : Int32} {f_classes : Int32} {f_things : Int32} {f_axioms : Int32} {f_fuel : Int32} {f_questions : Int32} {f_sorted : Int32} {f_left : Nat → Int32} {f_other : Nat → Int32} {f_right : Nat → Int32} {f_there : Nat → Int32} {f_member : Nat → Int32} {f_state : Nat → Int32} {f_before : Nat → Int32} {f_placed : Nat → Int32} {f_looked : Nat → Int32} {f_fact : Nat → Int32} {f_maker : Nat → Int32} {f_fired : Nat → Int32} {f_firedCount : Int32} {f_needed : Nat → Int32} {f_module : Nat → Int32} {f_asked : Int32} (X : kX p s m args meth c cX52_open 5 RX52 (some .int) (dC, dI) cl (tX52 d)) {K4 : Int → Int → Prop} {x1 : Int32}  (hk4 : ∀ (x2 : Int32) (x3 : Int32), K4 x2.toInt x3.toInt → ∀ (H : Heap) (locs : List Loc) (ls : Array Slot), kH (dC, dI) cl A s.heap H locs (wX52 ci ad d f_thrown f_classes f_things f_axioms f_fuel f_questions f_sorted f_left f_other f_right f_there f_member f_state f_before f_placed f_looked f_fact f_maker f_fired f_firedCount f_needed f_module f_asked) → lv_has ls 5 [(0, .ref (ad 0)), (1, .int x1), (2, .int x2), (3, .int x3)] → W p l e ({ frames := 0, cells := 0, slots := 0, locals := 0 } : Room) s m args below meth c H locs 0 0 (MQ below (va_Qi (fun (r : Int32) (_ : Unit) => post r.toInt) (kB (dC, dI) cl (tX52 d) A (fun _ : Unit => (wX52 ci ad d f_thrown f_classes f_things f_axioms f_fuel f_questions f_sorted f_left f_other f_right f_there f_member f_state f_before f_placed f_looked f_fact f_maker f_fired f_firedCount f_needed f_module f_asked))) A) args s 0 0 A) (F0 m 4 ls [])) :
    ∀ (x2 : Int32) (x3 : Int32) (x4 : Int32), wX52_open_68 K4 x2.toInt x3.toInt x4.toInt → ∀ (H : Heap) (locs : List Loc) (ls : Array Slot), kH (dC, dI) cl A s.heap H locs (wX52 ci ad d f_thrown f_classes f_things f_axioms f_fuel f_questions f_sorted f_left f_other f_right f_there f_member f_state f_before f_placed f_looked f_fact f_maker f_fired f_firedCount f_needed f_module f_asked) → lv_has ls 5 [(0, .ref (ad 0)), (1, .int x1), (2, .int x2), (3, .int x3), (4, .int x4)] → W p l e ({ frames := 0, cells := 0, slots := 0, locals := 0 } : Room) s m args below meth c H locs 0 0 (MQ below (va_Qi (fun (r : Int32) (_ : Unit) => post r.toInt) (kB (dC, dI) cl (tX52 d) A (fun _ : Unit => (wX52 ci ad d f_thrown f_classes f_things f_axioms f_fuel f_questions f_sorted f_left f_other f_right f_there f_member f_state f_before f_placed f_looked f_fact f_maker f_fired f_firedCount f_needed f_module f_asked))) A) args s 0 0 A) (F0 m 68 ls []) := by
  have hx := X.1.1
  have hb := X.1.2.1
  intro x2 x3 x4 hw H locs ls hH hl
  unfold wX52_open_68 at hw
  refine lv_iload_n hx hb dX52_open_68 rfl (lv_at hl 2 rfl) ?_
  refine lv_iload hx hb dX52_open_69 (lv_at hl 4 rfl) ?_
  refine lv_if_eq (tgt := 78) hx hb dX52_open_71 (by decide) (fun c_7 => ?_) (fun c_7 => ?_)
  · have hw := hw.1 (z_eq (rfl : x4.toInt = _) (rfl : (0 : Int32).toInt = 0) c_7)
    refine lv_iconst (v := 0) hx hb dX52_open_78 (by decide) ?_
    refine lv_isub hx hb dX52_open_79 ?_
    have e_8 := z_sub (z_m (rfl : x2.toInt = _)) (z_m (rfl : (0 : Int32).toInt = 0))
    have hq_9 := hw.1
    have hw := hw.2
    have e_10 := z_x e_8 hq_9
    refine lv_topi (fun x2_11 ex2_11 => ?_)
    have hw := hw x2_11.toInt (by rw [ex2_11]; exact e_10)
    refine lv_istore_n (lv' := [(2, .int x2_11), (0, .ref (ad 0)), (1, .int x1), (3, .int x3), (4, .int x4)]) hx hb dX52_open_80 rfl hl (by decide) rfl (fun ls hl => ?_)
    have hq_13 := hw.1
    have hw := hw.2
    obtain ⟨x3_12, ex3_12⟩ : ∃ y : Int32, y = x3 + 1 := ⟨_, rfl⟩
    have hw := hw x3_12.toInt (by rw [ex3_12]; exact (z_x (z_add (z_m (rfl : x3.toInt = _)) (z_m (rfl : (1 : Int32).toInt = 1))) hq_13))
    refine lv_iinc (v := x3_12) (lv' := [(3, .int x3_12), (2, .int x2_11), (0, .ref (ad 0)), (1, .int x1), (4, .int x4)]) hx hb dX52_open_81 hl (k := 3) rfl (by rw [ex3_12]; rfl) (by decide) rfl (fun ls hl => ?_)
    refine lv_goto (tgt := 4) hx hb dX52_open_84 (by decide) ?_
    exact hk4 x2_11 x3_12 hw _ _ ls hH (lv_sub hl [2, 3, 1, 0] rfl)
  · have hw := hw.2 (z_neq (rfl : x4.toInt = _) (rfl : (0 : Int32).toInt = 0) c_7)
    refine lv_iconst (v := 1) hx hb dX52_open_74 (by decide) ?_
    refine lv_goto (tgt := 79) hx hb dX52_open_75 (by decide) ?_
    refine lv_isub hx hb dX52_open_79 ?_
    have e_14 := z_sub (z_m (rfl : x2.toInt = _)) (z_m (rfl : (1 : Int32).toInt = 1))
    have hq_15 := hw.1
    have hw := hw.2
    have e_16 := z_x e_14 hq_15
    refine lv_topi (fun x2_17 ex2_17 => ?_)
    have hw := hw x2_17.toInt (by rw [ex2_17]; exact e_16)
    refine lv_istore_n (lv' := [(2, .int x2_17), (0, .ref (ad 0)), (1, .int x1), (3, .int x3), (4, .int x4)]) hx hb dX52_open_80 rfl hl (by decide) rfl (fun ls hl => ?_)
    have hq_19 := hw.1
    have hw := hw.2
    obtain ⟨x3_18, ex3_18⟩ : ∃ y : Int32, y = x3 + 1 := ⟨_, rfl⟩
    have hw := hw x3_18.toInt (by rw [ex3_18]; exact (z_x (z_add (z_m (rfl : x3.toInt = _)) (z_m (rfl : (1 : Int32).toInt = 1))) hq_19))
    refine lv_iinc (v := x3_18) (lv' := [(3, .int x3_18), (2, .int x2_17), (0, .ref (ad 0)), (1, .int x1), (4, .int x4)]) hx hb dX52_open_81 hl (k := 3) rfl (by rw [ex3_18]; rfl) (by decide) rfl (fun ls hl => ?_)
    refine lv_goto (tgt := 4) hx hb dX52_open_84 (by decide) ?_
    exact hk4 x2_17 x3_18 hw _ _ ls hH (lv_sub hl [2, 3, 1, 0] rfl)
set_option maxHeartbeats 4000000 in
theorem atX52_open_30 {p : Program} {l : Launch} {e : Env} {s : State} {m : MethodId} {args : Array Value} {below : List Frame} {meth : Method} {c : Code} {dC : Nat → ClassId} {dI : Nat → Nat → Nat} {cl : List vw_C} {ci : Nat} (hc : cl[ci]? = some (RX52, TX52, 23)) {ad : Nat → Nat} {d : Nat → ClassId} {A : Nat → Prop} {post : Int → Prop} {f_thrown : Int32} {f_classes : Int32} {f_things : Int32} {f_axioms : Int32} {f_fuel : Int32} {f_questions : Int32} {f_sorted : Int32} {f_left : Nat → Int32} {f_other : Nat → Int32} {f_right : Nat → Int32} {f_there : Nat → Int32} {f_member : Nat → Int32} {f_state : Nat → Int32} {f_before : Nat → Int32} {f_placed : Nat → Int32} {f_looked : Nat → Int32} {f_fact : Nat → Int32} {f_maker : Nat → Int32} {f_fired : Nat → Int32} {f_firedCount : Int32} {f_needed : Nat → Int32} {f_module : Nat → Int32} {f_asked : Int32} (X : kX p s m args meth c cX52_open 5 RX52 (some .int) (dC, dI) cl (tX52 d)) {K4 : Int → Int → Prop} {K41 : Int → Prop} {x1 : Int32}  (hk4 : ∀ (x2 : Int32) (x3 : Int32), K4 x2.toInt x3.toInt → ∀ (H : Heap) (locs : List Loc) (ls : Array Slot), kH (dC, dI) cl A s.heap H locs (wX52 ci ad d f_thrown f_classes f_things f_axioms f_fuel f_questions f_sorted f_left f_other f_right f_there f_member f_state f_before f_placed f_looked f_fact f_maker f_fired f_firedCount f_needed f_module f_asked) → lv_has ls 5 [(0, .ref (ad 0)), (1, .int x1), (2, .int x2), (3, .int x3)] → W p l e ({ frames := 0, cells := 0, slots := 0, locals := 0 } : Room) s m args below meth c H locs 0 0 (MQ below (va_Qi (fun (r : Int32) (_ : Unit) => post r.toInt) (kB (dC, dI) cl (tX52 d) A (fun _ : Unit => (wX52 ci ad d f_thrown f_classes f_things f_axioms f_fuel f_questions f_sorted f_left f_other f_right f_there f_member f_state f_before f_placed f_looked f_fact f_maker f_fired f_firedCount f_needed f_module f_asked))) A) args s 0 0 A) (F0 m 4 ls [])) (hk41 : ∀ (x3 : Int32), K41 x3.toInt → ∀ (H : Heap) (locs : List Loc) (ls : Array Slot), kH (dC, dI) cl A s.heap H locs (wX52 ci ad d f_thrown f_classes f_things f_axioms f_fuel f_questions f_sorted f_left f_other f_right f_there f_member f_state f_before f_placed f_looked f_fact f_maker f_fired f_firedCount f_needed f_module f_asked) → lv_has ls 5 [(3, .int x3)] → W p l e ({ frames := 0, cells := 0, slots := 0, locals := 0 } : Room) s m args below meth c H locs 0 0 (MQ below (va_Qi (fun (r : Int32) (_ : Unit) => post r.toInt) (kB (dC, dI) cl (tX52 d) A (fun _ : Unit => (wX52 ci ad d f_thrown f_classes f_things f_axioms f_fuel f_questions f_sorted f_left f_other f_right f_there f_member f_state f_before f_placed f_looked f_fact f_maker f_fired f_firedCount f_needed f_module f_asked))) A) args s 0 0 A) (F0 m 41 ls [])) :
    ∀ (x2 : Int32) (x3 : Int32) (y0 : Int32), wX52_open_30 K4 K41 x2.toInt x3.toInt y0.toInt → ∀ (H : Heap) (locs : List Loc) (ls : Array Slot), kH (dC, dI) cl A s.heap H locs (wX52 ci ad d f_thrown f_classes f_things f_axioms f_fuel f_questions f_sorted f_left f_other f_right f_there f_member f_state f_before f_placed f_looked f_fact f_maker f_fired f_firedCount f_needed f_module f_asked) → lv_has ls 5 [(0, .ref (ad 0)), (1, .int x1), (2, .int x2), (3, .int x3)] → W p l e ({ frames := 0, cells := 0, slots := 0, locals := 0 } : Room) s m args below meth c H locs 0 0 (MQ below (va_Qi (fun (r : Int32) (_ : Unit) => post r.toInt) (kB (dC, dI) cl (tX52 d) A (fun _ : Unit => (wX52 ci ad d f_thrown f_classes f_things f_axioms f_fuel f_questions f_sorted f_left f_other f_right f_there f_member f_state f_before f_placed f_looked f_fact f_maker f_fired f_firedCount f_needed f_module f_asked))) A) args s 0 0 A) (F0 m 30 ls [.int y0]) := by
  have hx := X.1.1
  have hb := X.1.2.1
  intro x2 x3 y0 hw H locs ls hH hl
  unfold wX52_open_30 at hw
  refine lv_istore (lv' := [(4, .int y0), (0, .ref (ad 0)), (1, .int x1), (2, .int x2), (3, .int x3)]) hx hb dX52_open_30 hl (by decide) rfl (fun ls hl => ?_)
  refine lv_iload hx hb dX52_open_32 (lv_at hl 0 rfl) ?_
  refine lv_if_eq (tgt := 68) hx hb dX52_open_34 (by decide) (fun c_6 => ?_) (fun c_6 => ?_)
  · have hw := hw.1 (z_eq (rfl : y0.toInt = _) (rfl : (0 : Int32).toInt = 0) c_6)
    exact atX52_open_68 hc X hk4 x2 x3 y0 hw _ _ ls hH (lv_sub hl [1, 2, 3, 4, 0] rfl)
  · have hw := hw.2 (z_neq (rfl : y0.toInt = _) (rfl : (0 : Int32).toInt = 0) c_6)
    refine lv_iload_n hx hb dX52_open_37 rfl (lv_at hl 3 rfl) ?_
    refine lv_if_ne (tgt := 68) hx hb dX52_open_38 (by decide) (fun c_20 => ?_) (fun c_20 => ?_)
    · have hw := hw.2 (z_ne (rfl : x2.toInt = _) (rfl : (0 : Int32).toInt = 0) c_20)
      exact atX52_open_68 hc X hk4 x2 x3 y0 hw _ _ ls hH (lv_sub hl [1, 2, 3, 4, 0] rfl)
    · have hw := hw.1 (z_eq (rfl : x2.toInt = _) (rfl : (0 : Int32).toInt = 0) c_20)
      exact hk41 x3 hw _ _ ls hH (lv_sub hl [4] rfl)
set_option maxHeartbeats 4000000 in
theorem atX52_open_4 {p : Program} {l : Launch} {e : Env} {s : State} {m : MethodId} {args : Array Value} {below : List Frame} {meth : Method} {c : Code} {dC : Nat → ClassId} {dI : Nat → Nat → Nat} {cl : List vw_C} {ci : Nat} (hc : cl[ci]? = some (RX52, TX52, 23)) {ad : Nat → Nat} {d : Nat → ClassId} {A : Nat → Prop} {post : Int → Prop} {f_thrown : Int32} {f_classes : Int32} {f_things : Int32} {f_axioms : Int32} {f_fuel : Int32} {f_questions : Int32} {f_sorted : Int32} {f_left : Nat → Int32} {f_other : Nat → Int32} {f_right : Nat → Int32} {f_there : Nat → Int32} {f_member : Nat → Int32} {f_state : Nat → Int32} {f_before : Nat → Int32} {f_placed : Nat → Int32} {f_looked : Nat → Int32} {f_fact : Nat → Int32} {f_maker : Nat → Int32} {f_fired : Nat → Int32} {f_firedCount : Int32} {f_needed : Nat → Int32} {f_module : Nat → Int32} {f_asked : Int32} (X : kX p s m args meth c cX52_open 5 RX52 (some .int) (dC, dI) cl (tX52 d)) {K41 : Int → Prop} {K87 : Prop} {x1 : Int32}  (hk41 : ∀ (x3 : Int32), K41 x3.toInt → ∀ (H : Heap) (locs : List Loc) (ls : Array Slot), kH (dC, dI) cl A s.heap H locs (wX52 ci ad d f_thrown f_classes f_things f_axioms f_fuel f_questions f_sorted f_left f_other f_right f_there f_member f_state f_before f_placed f_looked f_fact f_maker f_fired f_firedCount f_needed f_module f_asked) → lv_has ls 5 [(3, .int x3)] → W p l e ({ frames := 0, cells := 0, slots := 0, locals := 0 } : Room) s m args below meth c H locs 0 0 (MQ below (va_Qi (fun (r : Int32) (_ : Unit) => post r.toInt) (kB (dC, dI) cl (tX52 d) A (fun _ : Unit => (wX52 ci ad d f_thrown f_classes f_things f_axioms f_fuel f_questions f_sorted f_left f_other f_right f_there f_member f_state f_before f_placed f_looked f_fact f_maker f_fired f_firedCount f_needed f_module f_asked))) A) args s 0 0 A) (F0 m 41 ls [])) (hk87 : K87  → ∀ (H : Heap) (locs : List Loc) (ls : Array Slot), kH (dC, dI) cl A s.heap H locs (wX52 ci ad d f_thrown f_classes f_things f_axioms f_fuel f_questions f_sorted f_left f_other f_right f_there f_member f_state f_before f_placed f_looked f_fact f_maker f_fired f_firedCount f_needed f_module f_asked) → lv_has ls 5 [] → W p l e ({ frames := 0, cells := 0, slots := 0, locals := 0 } : Room) s m args below meth c H locs 0 0 (MQ below (va_Qi (fun (r : Int32) (_ : Unit) => post r.toInt) (kB (dC, dI) cl (tX52 d) A (fun _ : Unit => (wX52 ci ad d f_thrown f_classes f_things f_axioms f_fuel f_questions f_sorted f_left f_other f_right f_there f_member f_state f_before f_placed f_looked f_fact f_maker f_fired f_firedCount f_needed f_module f_asked))) A) args s 0 0 A) (F0 m 87 ls [])) :
    ∀ (nn : Nat) (x2 : Int32) (x3 : Int32), wX52_open_4 K41 K87 x1.toInt (zF f_state) nn x2.toInt x3.toInt → ∀ (H : Heap) (locs : List Loc) (ls : Array Slot), kH (dC, dI) cl A s.heap H locs (wX52 ci ad d f_thrown f_classes f_things f_axioms f_fuel f_questions f_sorted f_left f_other f_right f_there f_member f_state f_before f_placed f_looked f_fact f_maker f_fired f_firedCount f_needed f_module f_asked) → lv_has ls 5 [(0, .ref (ad 0)), (1, .int x1), (2, .int x2), (3, .int x3)] → W p l e ({ frames := 0, cells := 0, slots := 0, locals := 0 } : Room) s m args below meth c H locs 0 0 (MQ below (va_Qi (fun (r : Int32) (_ : Unit) => post r.toInt) (kB (dC, dI) cl (tX52 d) A (fun _ : Unit => (wX52 ci ad d f_thrown f_classes f_things f_axioms f_fuel f_questions f_sorted f_left f_other f_right f_there f_member f_state f_before f_placed f_looked f_fact f_maker f_fired f_firedCount f_needed f_module f_asked))) A) args s 0 0 A) (F0 m 4 ls []) := by
  have hx := X.1.1
  have hb := X.1.2.1
  intro nn
  induction nn with
  | zero =>
    intro x2 x3 hw
    exact False.elim hw
  | succ n ih =>
    intro x2 x3 hw H locs ls hH hl
    rw [wX52_open_4] at hw
    refine lv_iload_n hx hb dX52_open_4 rfl (lv_at hl 3 rfl) ?_
    refine lv_sipush (v := 420) hx hb dX52_open_5 (by decide) ?_
    refine lv_icmp_ge (tgt := 87) hx hb dX52_open_8 (by decide) (fun c_1 => ?_) (fun c_1 => ?_)
    · have hw := hw.1 (z_le (rfl : (420 : Int32).toInt = 420) (rfl : x3.toInt = _) c_1)
      exact hk87  hw _ _ ls hH (lv_sub hl [] rfl)
    · have hw := hw.2 (z_nle (rfl : (420 : Int32).toInt = 420) (rfl : x3.toInt = _) c_1)
      refine lv_iload_n hx hb dX52_open_11 rfl (lv_at hl 1 rfl) ?_
      refine lv_if_lt (tgt := 87) hx hb dX52_open_12 (by decide) (fun c_2 => ?_) (fun c_2 => ?_)
      · have hw := hw.1 (z_lt (rfl : x1.toInt = _) (rfl : (0 : Int32).toInt = 0) c_2)
        exact hk87  hw _ _ ls hH (lv_sub hl [] rfl)
      · have hw := hw.2 (z_nlt (rfl : x1.toInt = _) (rfl : (0 : Int32).toInt = 0) c_2)
        refine lv_aload_n hx hb dX52_open_15 rfl (lv_at hl 0 rfl) ?_
        refine k_get X hH in_X52 0 rfl hc 12 (by decide) q6393 rfl dX52_open_16 ?_
        refine lv_iload_n hx hb dX52_open_19 rfl (lv_at hl 3 rfl) ?_
        have hq_3 := hw.1
        have hw := hw.2
        refine k_iald X hH 6 5 rfl rfl (z_in (rfl : x3.toInt = _) hq_3) dX52_open_20 ?_
        have e_4 := z_ld (f := f_state) (rfl : x3.toInt = _) hq_3.1
        refine lv_iconst (v := 2) hx hb dX52_open_21 (by decide) ?_
        refine lv_icmp_ne (tgt := 29) hx hb dX52_open_22 (by decide) (fun c_5 => ?_) (fun c_5 => ?_)
        · have hw := hw.2 (z_ne e_4 (rfl : (2 : Int32).toInt = 2) c_5)
          refine lv_iconst (v := 0) hx hb dX52_open_29 (by decide) ?_
          exact atX52_open_30 hc X (fun x2 x3 hw H locs ls hH hl => ih x2 x3 hw _ _ ls hH (lv_sub hl [0, 1, 2, 3] rfl)) hk41 x2 x3 0 hw _ _ ls hH (lv_sub hl [0, 1, 2, 3] rfl)
        · have hw := hw.1 (z_eq e_4 (rfl : (2 : Int32).toInt = 2) c_5)
          refine lv_iconst (v := 1) hx hb dX52_open_25 (by decide) ?_
          refine lv_goto (tgt := 30) hx hb dX52_open_26 (by decide) ?_
          exact atX52_open_30 hc X (fun x2 x3 hw H locs ls hH hl => ih x2 x3 hw _ _ ls hH (lv_sub hl [0, 1, 2, 3] rfl)) hk41 x2 x3 1 hw _ _ ls hH (lv_sub hl [0, 1, 2, 3] rfl)
set_option maxHeartbeats 4000000 in
theorem walkX52_open {l : Launch} {dC : Nat → ClassId} {dI : Nat → Nat → Nat} {cl : List vw_C} {ci : Nat} (hc : cl[ci]? = some (RX52, TX52, 23)) {ad : Nat → Nat} {d : Nat → ClassId} {sz : Nat} {f_thrown : Int32} {f_classes : Int32} {f_things : Int32} {f_axioms : Int32} {f_fuel : Int32} {f_questions : Int32} {f_sorted : Int32} {f_left : Nat → Int32} {f_other : Nat → Int32} {f_right : Nat → Int32} {f_there : Nat → Int32} {f_member : Nat → Int32} {f_state : Nat → Int32} {f_before : Nat → Int32} {f_placed : Nat → Int32} {f_looked : Nat → Int32} {f_fact : Nat → Int32} {f_maker : Nat → Int32} {f_fired : Nat → Int32} {f_firedCount : Int32} {f_needed : Nat → Int32} {f_module : Nat → Int32} {f_asked : Int32} {x1 : Int32} {post : Int → Prop} (hw : wpX52_open post (zF f_state) x1.toInt) :
    Met l yX52_open (ws_ yX52_open cX52_open 5 (some .int)) ({ frames := 0, cells := 0, slots := 0, locals := 0 } : Room) (kPc (dC, dI) cl (tX52 d) [.ref (ad 0), .int x1] sz (wX52 ci ad d f_thrown f_classes f_things f_axioms f_fuel f_questions f_sorted f_left f_other f_right f_there f_member f_state f_before f_placed f_looked f_fact f_maker f_fired f_firedCount f_needed f_module f_asked)) (va_Qi (fun (r : Int32) (_ : Unit) => post r.toInt) (kB (dC, dI) cl (tX52 d) (va_A (wX52 ci ad d f_thrown f_classes f_things f_axioms f_fuel f_questions f_sorted f_left f_other f_right f_there f_member f_state f_before f_placed f_looked f_fact f_maker f_fired f_firedCount f_needed f_module f_asked) sz) (fun _ : Unit => (wX52 ci ad d f_thrown f_classes f_things f_axioms f_fuel f_questions f_sorted f_left f_other f_right f_there f_member f_state f_before f_placed f_looked f_fact f_maker f_fired f_firedCount f_needed f_module f_asked))) (va_A (wX52 ci ad d f_thrown f_classes f_things f_axioms f_fuel f_questions f_sorted f_left f_other f_right f_there f_member f_state f_before f_placed f_looked f_fact f_maker f_fired f_firedCount f_needed f_module f_asked) sz)) 0 0 (va_A (wX52 ci ad d f_thrown f_classes f_things f_axioms f_fuel f_questions f_sorted f_left f_other f_right f_there f_member f_state f_before f_placed f_looked f_fact f_maker f_fired f_firedCount f_needed f_module f_asked) sz) := by
  refine k_enter (by decide) (Nat.le_of_ble_eq_true rfl) ?_
  intro p e s m below meth c ls X hsz hH hl
  subst hsz
  generalize va_A (wX52 ci ad d f_thrown f_classes f_things f_axioms f_fuel f_questions f_sorted f_left f_other f_right f_there f_member f_state f_before f_placed f_looked f_fact f_maker f_fired f_firedCount f_needed f_module f_asked) s.heap.size = A at hH ⊢
  have hx := X.1.1
  have hb := X.1.2.1
  have hl : lv_has ls 5 [(0, .ref (ad 0)), (1, .int x1)] := hl
  unfold wpX52_open at hw
  refine lv_iload_n hx hb dX52_open_0 rfl (lv_at hl 1 rfl) ?_
  refine lv_istore_n (lv' := [(2, .int x1), (0, .ref (ad 0)), (1, .int x1)]) hx hb dX52_open_1 rfl hl (by decide) rfl (fun ls hl => ?_)
  refine lv_iconst (v := 0) hx hb dX52_open_2 (by decide) ?_
  refine lv_istore_n (lv' := [(3, .int 0), (2, .int x1), (0, .ref (ad 0)), (1, .int x1)]) hx hb dX52_open_3 rfl hl (by decide) rfl (fun ls hl => ?_)
  obtain ⟨fu, hw⟩ := hw
  refine atX52_open_4 hc X ?_ ?_ fu x1 0 hw _ _ ls hH (lv_sub hl [2, 3, 1, 0] rfl)
  · intro x3_21 hw H locs ls hH hl
    refine lv_bipush (v := 32) hx hb dX52_open_41 (by decide) ?_
    refine lv_iload_n hx hb dX52_open_43 rfl (lv_at hl 0 rfl) ?_
    refine lv_bipush (v := 21) hx hb dX52_open_44 (by decide) ?_
    have hq_22 := hw.1
    have hw := hw.2
    refine lv_idiv hx hb dX52_open_46 (by decide) ?_
    have e_23 := z_div (rfl : x3_21.toInt = _) (rfl : (21 : Int32).toInt = 21) hq_22 (by decide)
    refine lv_imul hx hb dX52_open_47 ?_
    have e_24 := z_mul (z_m (rfl : (32 : Int32).toInt = 32)) (z_m e_23)
    refine lv_iload_n hx hb dX52_open_48 rfl (lv_at hl 0 rfl) ?_
    refine lv_bipush (v := 21) hx hb dX52_open_49 (by decide) ?_
    refine lv_irem hx hb dX52_open_51 (by decide) ?_
    have e_25 := z_rem (rfl : x3_21.toInt = _) (rfl : (21 : Int32).toInt = 21) hq_22 (by decide)
    refine lv_bipush (v := 20) hx hb dX52_open_52 (by decide) ?_
    refine lv_icmp_ne (tgt := 62) hx hb dX52_open_54 (by decide) (fun c_26 => ?_) (fun c_26 => ?_)
    · have hw := hw.2 (z_ne e_25 (rfl : (20 : Int32).toInt = 20) c_26)
      refine lv_iload_n hx hb dX52_open_62 rfl (lv_at hl 0 rfl) ?_
      refine lv_bipush (v := 21) hx hb dX52_open_63 (by decide) ?_
      refine lv_irem hx hb dX52_open_65 (by decide) ?_
      have e_27 := z_rem (rfl : x3_21.toInt = _) (rfl : (21 : Int32).toInt = 21) hq_22 (by decide)
      refine lv_iadd hx hb dX52_open_66 ?_
      have e_28 := z_add e_24 (z_m e_27)
      have hq_29 := hw.1
      have hw := hw.2
      have e_30 := z_x e_28 hq_29
      exact k_iret (v := (32 * (x3_21 / 21)) + (x3_21 - x3_21 / 21 * 21)) X hH () (by rw [show ((32 * (x3_21 / 21)) + (x3_21 - x3_21 / 21 * 21) : Int32).toInt = _ from e_30]; exact hw) rfl rfl dX52_open_67
    · have hw := hw.1 (z_eq e_25 (rfl : (20 : Int32).toInt = 20) c_26)
      refine lv_bipush (v := 31) hx hb dX52_open_57 (by decide) ?_
      refine lv_goto (tgt := 66) hx hb dX52_open_59 (by decide) ?_
      refine lv_iadd hx hb dX52_open_66 ?_
      have e_31 := z_add e_24 (z_m (rfl : (31 : Int32).toInt = 31))
      have hq_32 := hw.1
      have hw := hw.2
      have e_33 := z_x e_31 hq_32
      exact k_iret (v := (32 * (x3_21 / 21)) + 31) X hH () (by rw [show ((32 * (x3_21 / 21)) + 31 : Int32).toInt = _ from e_33]; exact hw) rfl rfl dX52_open_67
  · intro hw H locs ls hH hl
    refine lv_bipush (v := (-6)) hx hb dX52_open_87 (by decide) ?_
    exact k_iret (v := (-6)) X hH () hw rfl rfl dX52_open_89
set_option maxHeartbeats 4000000 in
theorem atX52_reasonThing_2 {p : Program} {l : Launch} {e : Env} {s : State} {m : MethodId} {args : Array Value} {below : List Frame} {meth : Method} {c : Code} {dC : Nat → ClassId} {dI : Nat → Nat → Nat} {cl : List vw_C} {ci : Nat} (hc : cl[ci]? = some (RX52, TX52, 23)) {ad : Nat → Nat} {d : Nat → ClassId} {A : Nat → Prop} {post : Int → (Int → Int) → (Int → Int) → (Int → Int) → Int → Prop} {f_thrown : Int32} {f_classes : Int32} {f_things : Int32} {f_axioms : Int32} {f_fuel : Int32} {f_questions : Int32} {f_sorted : Int32} {f_left : Nat → Int32} {f_other : Nat → Int32} {f_right : Nat → Int32} {f_there : Nat → Int32} {f_member : Nat → Int32} {f_state : Nat → Int32} {f_before : Nat → Int32} {f_placed : Nat → Int32} {f_looked : Nat → Int32} {f_needed : Nat → Int32} {f_module : Nat → Int32} {f_asked : Int32} (X : kX p s m args meth c cX52_reasonThing 4 RX52 (some .int) (dC, dI) cl (tX52 d)) {K45 : (Int → Int) → Prop} {x1 : Int32} {x2 : Int32} {f_maker : Nat → Int32} {f_fired : Nat → Int32} {f_firedCount : Int32} (hk45 : ∀ (f_fact : Nat → Int32), K45 (zF f_fact) → ∀ (H : Heap) (locs : List Loc) (ls : Array Slot), kH (dC, dI) cl A s.heap H locs (wX52 ci ad d f_thrown f_classes f_things f_axioms f_fuel f_questions f_sorted f_left f_other f_right f_there f_member f_state f_before f_placed f_looked f_fact f_maker f_fired f_firedCount f_needed f_module f_asked) → lv_has ls 4 [(0, .ref (ad 0)), (2, .int x2)] → W p l e ({ frames := 1, cells := 0, slots := 0, locals := 24 } : Room) s m args below meth c H locs 0 0 (MQ below (va_Qi (fun (r : Int32) (u : (Nat → Int32) × (Nat → Int32) × (Nat → Int32) × Int32) => post r.toInt (zF (u.1)) (zF (u.2.1)) (zF (u.2.2.1)) (u.2.2.2).toInt) (kB (dC, dI) cl (tX52 d) A (fun u : (Nat → Int32) × (Nat → Int32) × (Nat → Int32) × Int32 => (wX52 ci ad d f_thrown f_classes f_things f_axioms f_fuel f_questions f_sorted f_left f_other f_right f_there f_member f_state f_before f_placed f_looked (u.1) (u.2.1) (u.2.2.1) (u.2.2.2) f_needed f_module f_asked))) A) args s 0 0 A) (F0 m 45 ls [])) :
    ∀ (nn : Nat) (x3 : Int32) (f_fact : Nat → Int32), wX52_reasonThing_2 K45 x1.toInt (zF f_member) nn x3.toInt (zF f_fact) → ∀ (H : Heap) (locs : List Loc) (ls : Array Slot), kH (dC, dI) cl A s.heap H locs (wX52 ci ad d f_thrown f_classes f_things f_axioms f_fuel f_questions f_sorted f_left f_other f_right f_there f_member f_state f_before f_placed f_looked f_fact f_maker f_fired f_firedCount f_needed f_module f_asked) → lv_has ls 4 [(0, .ref (ad 0)), (1, .int x1), (2, .int x2), (3, .int x3)] → W p l e ({ frames := 1, cells := 0, slots := 0, locals := 24 } : Room) s m args below meth c H locs 0 0 (MQ below (va_Qi (fun (r : Int32) (u : (Nat → Int32) × (Nat → Int32) × (Nat → Int32) × Int32) => post r.toInt (zF (u.1)) (zF (u.2.1)) (zF (u.2.2.1)) (u.2.2.2).toInt) (kB (dC, dI) cl (tX52 d) A (fun u : (Nat → Int32) × (Nat → Int32) × (Nat → Int32) × Int32 => (wX52 ci ad d f_thrown f_classes f_things f_axioms f_fuel f_questions f_sorted f_left f_other f_right f_there f_member f_state f_before f_placed f_looked (u.1) (u.2.1) (u.2.2.1) (u.2.2.2) f_needed f_module f_asked))) A) args s 0 0 A) (F0 m 2 ls []) := by
  have hx := X.1.1
  have hb := X.1.2.1
  intro nn
  induction nn with
  | zero =>
    intro x3 f_fact hw
    exact False.elim hw
  | succ n ih =>
    intro x3 f_fact hw H locs ls hH hl
    rw [wX52_reasonThing_2] at hw
    refine lv_iload_n hx hb dX52_reasonThing_2 rfl (lv_at hl 3 rfl) ?_
    refine lv_bipush (v := 20) hx hb dX52_reasonThing_3 (by decide) ?_
    refine lv_icmp_gt (tgt := 45) hx hb dX52_reasonThing_5 (by decide) (fun c_1 => ?_) (fun c_1 => ?_)
    · have hw := hw.1 (z_lt (rfl : (20 : Int32).toInt = 20) (rfl : x3.toInt = _) c_1)
      exact hk45 f_fact hw _ _ ls hH (lv_sub hl [0, 2] rfl)
    · have hw := hw.2 (z_nlt (rfl : (20 : Int32).toInt = 20) (rfl : x3.toInt = _) c_1)
      refine lv_aload_n hx hb dX52_reasonThing_8 rfl (lv_at hl 0 rfl) ?_
      refine k_get X hH in_X52 0 rfl hc 16 (by decide) q6397 rfl dX52_reasonThing_9 ?_
      refine lv_iload_n hx hb dX52_reasonThing_12 rfl (lv_at hl 3 rfl) ?_
      refine lv_iload_n hx hb dX52_reasonThing_13 rfl (lv_at hl 3 rfl) ?_
      refine lv_bipush (v := 20) hx hb dX52_reasonThing_14 (by decide) ?_
      refine lv_icmp_ge (tgt := 37) hx hb dX52_reasonThing_16 (by decide) (fun c_2 => ?_) (fun c_2 => ?_)
      · have hw := hw.1 (z_le (rfl : (20 : Int32).toInt = 20) (rfl : x3.toInt = _) c_2)
        refine lv_iconst (v := 0) hx hb dX52_reasonThing_37 (by decide) ?_
        have hq_4 := hw.1
        have hw := hw.2
        obtain ⟨f_fact_3, ef_fact_3⟩ : ∃ y : Nat → Int32, y = upd f_fact x3.toNatClampNeg (vp_nar .boolean 0) := ⟨_, rfl⟩
        refine k_zast X hH 10 9 rfl rfl (z_in (rfl : x3.toInt = _) hq_4) dX52_reasonThing_38 ef_fact_3 (ws1 := (wX52 ci ad d f_thrown f_classes f_things f_axioms f_fuel f_questions f_sorted f_left f_other f_right f_there f_member f_state f_before f_placed f_looked f_fact_3 f_maker f_fired f_firedCount f_needed f_module f_asked)) rfl (fun H locs hH => ?_)
        have hw := hw (zF f_fact_3) (by rw [ef_fact_3]; exact z_st (f := f_fact) (rfl : x3.toInt = _) hq_4.1 (z_narZ (rfl : (0 : Int32).toInt = 0) (by decide)))
        have hq_6 := hw.1
        have hw := hw.2
        obtain ⟨x3_5, ex3_5⟩ : ∃ y : Int32, y = x3 + 1 := ⟨_, rfl⟩
        have hw := hw x3_5.toInt (by rw [ex3_5]; exact (z_x (z_add (z_m (rfl : x3.toInt = _)) (z_m (rfl : (1 : Int32).toInt = 1))) hq_6))
        refine lv_iinc (v := x3_5) (lv' := [(3, .int x3_5), (0, .ref (ad 0)), (1, .int x1), (2, .int x2)]) hx hb dX52_reasonThing_39 hl (k := 3) rfl (by rw [ex3_5]; rfl) (by decide) rfl (fun ls hl => ?_)
        refine lv_goto (tgt := 2) hx hb dX52_reasonThing_42 (by decide) ?_
        exact ih x3_5 f_fact_3 hw _ _ ls hH (lv_sub hl [1, 2, 3, 0] rfl)
      · have hw := hw.2 (z_nle (rfl : (20 : Int32).toInt = 20) (rfl : x3.toInt = _) c_2)
        refine lv_aload_n hx hb dX52_reasonThing_19 rfl (lv_at hl 0 rfl) ?_
        refine k_get X hH in_X52 0 rfl hc 11 (by decide) q6392 rfl dX52_reasonThing_20 ?_
        refine lv_bipush (v := 20) hx hb dX52_reasonThing_23 (by decide) ?_
        refine lv_iload_n hx hb dX52_reasonThing_25 rfl (lv_at hl 1 rfl) ?_
        refine lv_imul hx hb dX52_reasonThing_26 ?_
        have e_7 := z_mul (z_m (rfl : (20 : Int32).toInt = 20)) (z_m (rfl : x1.toInt = _))
        refine lv_iload_n hx hb dX52_reasonThing_27 rfl (lv_at hl 3 rfl) ?_
        refine lv_iadd hx hb dX52_reasonThing_28 ?_
        have e_8 := z_add e_7 (z_m (rfl : x3.toInt = _))
        have hq_9 := hw.1
        have hw := hw.2
        have e_10 := z_xi e_8 hq_9 (by decide)
        refine k_zald X hH 5 4 rfl rfl (z_in e_10 hq_9) dX52_reasonThing_29 ?_
        have e_11 := z_ld (f := f_member) e_10 hq_9.1
        refine lv_if_eq (tgt := 37) hx hb dX52_reasonThing_30 (by decide) (fun c_12 => ?_) (fun c_12 => ?_)
        · have hw := hw.1 (z_eq e_11 (rfl : (0 : Int32).toInt = 0) c_12)
          refine lv_iconst (v := 0) hx hb dX52_reasonThing_37 (by decide) ?_
          have hq_14 := hw.1
          have hw := hw.2
          obtain ⟨f_fact_13, ef_fact_13⟩ : ∃ y : Nat → Int32, y = upd f_fact x3.toNatClampNeg (vp_nar .boolean 0) := ⟨_, rfl⟩
          refine k_zast X hH 10 9 rfl rfl (z_in (rfl : x3.toInt = _) hq_14) dX52_reasonThing_38 ef_fact_13 (ws1 := (wX52 ci ad d f_thrown f_classes f_things f_axioms f_fuel f_questions f_sorted f_left f_other f_right f_there f_member f_state f_before f_placed f_looked f_fact_13 f_maker f_fired f_firedCount f_needed f_module f_asked)) rfl (fun H locs hH => ?_)
          have hw := hw (zF f_fact_13) (by rw [ef_fact_13]; exact z_st (f := f_fact) (rfl : x3.toInt = _) hq_14.1 (z_narZ (rfl : (0 : Int32).toInt = 0) (by decide)))
          have hq_16 := hw.1
          have hw := hw.2
          obtain ⟨x3_15, ex3_15⟩ : ∃ y : Int32, y = x3 + 1 := ⟨_, rfl⟩
          have hw := hw x3_15.toInt (by rw [ex3_15]; exact (z_x (z_add (z_m (rfl : x3.toInt = _)) (z_m (rfl : (1 : Int32).toInt = 1))) hq_16))
          refine lv_iinc (v := x3_15) (lv' := [(3, .int x3_15), (0, .ref (ad 0)), (1, .int x1), (2, .int x2)]) hx hb dX52_reasonThing_39 hl (k := 3) rfl (by rw [ex3_15]; rfl) (by decide) rfl (fun ls hl => ?_)
          refine lv_goto (tgt := 2) hx hb dX52_reasonThing_42 (by decide) ?_
          exact ih x3_15 f_fact_13 hw _ _ ls hH (lv_sub hl [1, 2, 3, 0] rfl)
        · have hw := hw.2 (z_neq e_11 (rfl : (0 : Int32).toInt = 0) c_12)
          refine lv_iconst (v := 1) hx hb dX52_reasonThing_33 (by decide) ?_
          refine lv_goto (tgt := 38) hx hb dX52_reasonThing_34 (by decide) ?_
          have hq_18 := hw.1
          have hw := hw.2
          obtain ⟨f_fact_17, ef_fact_17⟩ : ∃ y : Nat → Int32, y = upd f_fact x3.toNatClampNeg (vp_nar .boolean 1) := ⟨_, rfl⟩
          refine k_zast X hH 10 9 rfl rfl (z_in (rfl : x3.toInt = _) hq_18) dX52_reasonThing_38 ef_fact_17 (ws1 := (wX52 ci ad d f_thrown f_classes f_things f_axioms f_fuel f_questions f_sorted f_left f_other f_right f_there f_member f_state f_before f_placed f_looked f_fact_17 f_maker f_fired f_firedCount f_needed f_module f_asked)) rfl (fun H locs hH => ?_)
          have hw := hw (zF f_fact_17) (by rw [ef_fact_17]; exact z_st (f := f_fact) (rfl : x3.toInt = _) hq_18.1 (z_narZ (rfl : (1 : Int32).toInt = 1) (by decide)))
          have hq_20 := hw.1
          have hw := hw.2
          obtain ⟨x3_19, ex3_19⟩ : ∃ y : Int32, y = x3 + 1 := ⟨_, rfl⟩
          have hw := hw x3_19.toInt (by rw [ex3_19]; exact (z_x (z_add (z_m (rfl : x3.toInt = _)) (z_m (rfl : (1 : Int32).toInt = 1))) hq_20))
          refine lv_iinc (v := x3_19) (lv' := [(3, .int x3_19), (0, .ref (ad 0)), (1, .int x1), (2, .int x2)]) hx hb dX52_reasonThing_39 hl (k := 3) rfl (by rw [ex3_19]; rfl) (by decide) rfl (fun ls hl => ?_)
          refine lv_goto (tgt := 2) hx hb dX52_reasonThing_42 (by decide) ?_
          exact ih x3_19 f_fact_17 hw _ _ ls hH (lv_sub hl [1, 2, 3, 0] rfl)
set_option maxHeartbeats 4000000 in
theorem walkX52_reasonThing {l : Launch} {dC : Nat → ClassId} {dI : Nat → Nat → Nat} {cl : List vw_C} {ci : Nat} (hc : cl[ci]? = some (RX52, TX52, 23)) {ad : Nat → Nat} {d : Nat → ClassId} {sz : Nat} {f_thrown : Int32} {f_classes : Int32} {f_things : Int32} {f_axioms : Int32} {f_fuel : Int32} {f_questions : Int32} {f_sorted : Int32} {f_left : Nat → Int32} {f_other : Nat → Int32} {f_right : Nat → Int32} {f_there : Nat → Int32} {f_member : Nat → Int32} {f_state : Nat → Int32} {f_before : Nat → Int32} {f_placed : Nat → Int32} {f_looked : Nat → Int32} {f_fact : Nat → Int32} {f_maker : Nat → Int32} {f_fired : Nat → Int32} {f_firedCount : Int32} {f_needed : Nat → Int32} {f_module : Nat → Int32} {f_asked : Int32} {x1 : Int32} {x2 : Int32} {post : Int → (Int → Int) → (Int → Int) → (Int → Int) → Int → Prop} (hw : wpX52_reasonThing post f_axioms.toInt f_fuel.toInt (zF f_left) (zF f_other) (zF f_right) (zF f_there) (zF f_member) (zF f_fact) (zF f_maker) (zF f_fired) x1.toInt x2.toInt) :
    Met l yX52_reasonThing (ws_ yX52_reasonThing cX52_reasonThing 4 (some .int)) ({ frames := 1, cells := 0, slots := 0, locals := 24 } : Room) (kPc (dC, dI) cl (tX52 d) [.ref (ad 0), .int x1, .int x2] sz (wX52 ci ad d f_thrown f_classes f_things f_axioms f_fuel f_questions f_sorted f_left f_other f_right f_there f_member f_state f_before f_placed f_looked f_fact f_maker f_fired f_firedCount f_needed f_module f_asked)) (va_Qi (fun (r : Int32) (u : (Nat → Int32) × (Nat → Int32) × (Nat → Int32) × Int32) => post r.toInt (zF (u.1)) (zF (u.2.1)) (zF (u.2.2.1)) (u.2.2.2).toInt) (kB (dC, dI) cl (tX52 d) (va_A (wX52 ci ad d f_thrown f_classes f_things f_axioms f_fuel f_questions f_sorted f_left f_other f_right f_there f_member f_state f_before f_placed f_looked f_fact f_maker f_fired f_firedCount f_needed f_module f_asked) sz) (fun u : (Nat → Int32) × (Nat → Int32) × (Nat → Int32) × Int32 => (wX52 ci ad d f_thrown f_classes f_things f_axioms f_fuel f_questions f_sorted f_left f_other f_right f_there f_member f_state f_before f_placed f_looked (u.1) (u.2.1) (u.2.2.1) (u.2.2.2) f_needed f_module f_asked))) (va_A (wX52 ci ad d f_thrown f_classes f_things f_axioms f_fuel f_questions f_sorted f_left f_other f_right f_there f_member f_state f_before f_placed f_looked f_fact f_maker f_fired f_firedCount f_needed f_module f_asked) sz)) 0 0 (va_A (wX52 ci ad d f_thrown f_classes f_things f_axioms f_fuel f_questions f_sorted f_left f_other f_right f_there f_member f_state f_before f_placed f_looked f_fact f_maker f_fired f_firedCount f_needed f_module f_asked) sz) := by
  refine k_enter (by decide) (Nat.le_of_ble_eq_true rfl) ?_
  intro p e s m below meth c ls X hsz hH hl
  subst hsz
  generalize va_A (wX52 ci ad d f_thrown f_classes f_things f_axioms f_fuel f_questions f_sorted f_left f_other f_right f_there f_member f_state f_before f_placed f_looked f_fact f_maker f_fired f_firedCount f_needed f_module f_asked) s.heap.size = A at hH ⊢
  have hx := X.1.1
  have hb := X.1.2.1
  have hl : lv_has ls 4 [(0, .ref (ad 0)), (1, .int x1), (2, .int x2)] := hl
  unfold wpX52_reasonThing at hw
  refine lv_iconst (v := 0) hx hb dX52_reasonThing_0 (by decide) ?_
  refine lv_istore_n (lv' := [(3, .int 0), (0, .ref (ad 0)), (1, .int x1), (2, .int x2)]) hx hb dX52_reasonThing_1 rfl hl (by decide) rfl (fun ls hl => ?_)
  obtain ⟨fu, hw⟩ := hw
  refine atX52_reasonThing_2 hc X ?_ fu 0 f_fact hw _ _ ls hH (lv_sub hl [1, 2, 3, 0] rfl)
  · intro f_fact_21 hw H locs ls hH hl
    refine lv_aload_n hx hb dX52_reasonThing_45 rfl (lv_at hl 0 rfl) ?_
    refine lv_iload_n hx hb dX52_reasonThing_46 rfl (lv_at hl 1 rfl) ?_
    refine k_i0 hH (k_runV (As := [.int x2]) (rest := []) X hH.1 hH.2.1 X.2.2.2 (walkX52_reason hc (x1 := x2) (f_thrown := f_thrown) (f_classes := f_classes) (f_things := f_things) (f_axioms := f_axioms) (f_fuel := f_fuel) (f_questions := f_questions) (f_sorted := f_sorted) (f_left := f_left) (f_other := f_other) (f_right := f_right) (f_there := f_there) (f_member := f_member) (f_state := f_state) (f_before := f_before) (f_placed := f_placed) (f_looked := f_looked) (f_fact := f_fact_21) (f_maker := f_maker) (f_fired := f_fired) (f_firedCount := f_firedCount) (f_needed := f_needed) (f_module := f_module) (f_asked := f_asked) hw) (cwV 1 X.1.2.2.2.2 gX52_93 rfl rfl rfl hX52_reason ⟨Nat.le_of_ble_eq_true rfl, Nat.le_of_ble_eq_true rfl⟩) hc (q0 := 0) rfl rfl hl.1 rfl (Nat.le_of_ble_eq_true rfl) dX52_reasonThing_47 ⟨Nat.le_refl 0, Nat.le_refl 0⟩) (fun r_22 u H locs hw hH => ?_)
    obtain ⟨f_fact_23, f_maker_24, f_fired_25, f_firedCount_26⟩ := u
    have hH : kH (dC, dI) cl A s.heap H locs (wX52 ci ad d f_thrown f_classes f_things f_axioms f_fuel f_questions f_sorted f_left f_other f_right f_there f_member f_state f_before f_placed f_looked f_fact_23 f_maker_24 f_fired_25 f_firedCount_26 f_needed f_module f_asked) := hH
    exact k_iret (v := r_22) X hH (f_fact_23, f_maker_24, f_fired_25, f_firedCount_26) hw rfl rfl dX52_reasonThing_50
set_option maxHeartbeats 4000000 in
theorem walkX52_isIn {l : Launch} {dC : Nat → ClassId} {dI : Nat → Nat → Nat} {cl : List vw_C} {ci : Nat} (hc : cl[ci]? = some (RX52, TX52, 23)) {ad : Nat → Nat} {d : Nat → ClassId} {sz : Nat} {f_thrown : Int32} {f_classes : Int32} {f_things : Int32} {f_axioms : Int32} {f_fuel : Int32} {f_questions : Int32} {f_sorted : Int32} {f_left : Nat → Int32} {f_other : Nat → Int32} {f_right : Nat → Int32} {f_there : Nat → Int32} {f_member : Nat → Int32} {f_state : Nat → Int32} {f_before : Nat → Int32} {f_placed : Nat → Int32} {f_looked : Nat → Int32} {f_fact : Nat → Int32} {f_maker : Nat → Int32} {f_fired : Nat → Int32} {f_firedCount : Int32} {f_needed : Nat → Int32} {f_module : Nat → Int32} {f_asked : Int32} {x1 : Int32} {x2 : Int32} {post : Int → (Int → Int) → (Int → Int) → (Int → Int) → Int → Prop} (hw : wpX52_isIn post f_axioms.toInt f_fuel.toInt (zF f_left) (zF f_other) (zF f_right) (zF f_there) (zF f_member) (zF f_fact) (zF f_maker) (zF f_fired) x1.toInt x2.toInt) :
    Met l yX52_isIn (ws_ yX52_isIn cX52_isIn 3 (some .boolean)) ({ frames := 2, cells := 0, slots := 0, locals := 47 } : Room) (kPc (dC, dI) cl (tX52 d) [.ref (ad 0), .int x1, .int x2] sz (wX52 ci ad d f_thrown f_classes f_things f_axioms f_fuel f_questions f_sorted f_left f_other f_right f_there f_member f_state f_before f_placed f_looked f_fact f_maker f_fired f_firedCount f_needed f_module f_asked)) (va_Qi (fun (r : Int32) (u : (Nat → Int32) × (Nat → Int32) × (Nat → Int32) × Int32) => post r.toInt (zF (u.1)) (zF (u.2.1)) (zF (u.2.2.1)) (u.2.2.2).toInt) (kB (dC, dI) cl (tX52 d) (va_A (wX52 ci ad d f_thrown f_classes f_things f_axioms f_fuel f_questions f_sorted f_left f_other f_right f_there f_member f_state f_before f_placed f_looked f_fact f_maker f_fired f_firedCount f_needed f_module f_asked) sz) (fun u : (Nat → Int32) × (Nat → Int32) × (Nat → Int32) × Int32 => (wX52 ci ad d f_thrown f_classes f_things f_axioms f_fuel f_questions f_sorted f_left f_other f_right f_there f_member f_state f_before f_placed f_looked (u.1) (u.2.1) (u.2.2.1) (u.2.2.2) f_needed f_module f_asked))) (va_A (wX52 ci ad d f_thrown f_classes f_things f_axioms f_fuel f_questions f_sorted f_left f_other f_right f_there f_member f_state f_before f_placed f_looked f_fact f_maker f_fired f_firedCount f_needed f_module f_asked) sz)) 0 0 (va_A (wX52 ci ad d f_thrown f_classes f_things f_axioms f_fuel f_questions f_sorted f_left f_other f_right f_there f_member f_state f_before f_placed f_looked f_fact f_maker f_fired f_firedCount f_needed f_module f_asked) sz) := by
  refine k_enter (by decide) (Nat.le_of_ble_eq_true rfl) ?_
  intro p e s m below meth c ls X hsz hH hl
  subst hsz
  generalize va_A (wX52 ci ad d f_thrown f_classes f_things f_axioms f_fuel f_questions f_sorted f_left f_other f_right f_there f_member f_state f_before f_placed f_looked f_fact f_maker f_fired f_firedCount f_needed f_module f_asked) s.heap.size = A at hH ⊢
  have hx := X.1.1
  have hb := X.1.2.1
  have hl : lv_has ls 3 [(0, .ref (ad 0)), (1, .int x1), (2, .int x2)] := hl
  unfold wpX52_isIn at hw
  refine lv_aload_n hx hb dX52_isIn_0 rfl (lv_at hl 0 rfl) ?_
  refine lv_iload_n hx hb dX52_isIn_1 rfl (lv_at hl 1 rfl) ?_
  refine lv_iload_n hx hb dX52_isIn_2 rfl (lv_at hl 2 rfl) ?_
  refine k_i0 hH (k_runV (As := [.int x1, .int x2]) (rest := []) X hH.1 hH.2.1 X.2.2.2 (walkX52_reasonThing hc (x1 := x1) (x2 := x2) (f_thrown := f_thrown) (f_classes := f_classes) (f_things := f_things) (f_axioms := f_axioms) (f_fuel := f_fuel) (f_questions := f_questions) (f_sorted := f_sorted) (f_left := f_left) (f_other := f_other) (f_right := f_right) (f_there := f_there) (f_member := f_member) (f_state := f_state) (f_before := f_before) (f_placed := f_placed) (f_looked := f_looked) (f_fact := f_fact) (f_maker := f_maker) (f_fired := f_fired) (f_firedCount := f_firedCount) (f_needed := f_needed) (f_module := f_module) (f_asked := f_asked) hw) (cwV 2 X.1.2.2.2.2 gX52_154 rfl rfl rfl hX52_reasonThing ⟨Nat.le_of_ble_eq_true rfl, Nat.le_of_ble_eq_true rfl⟩) hc (q0 := 0) rfl rfl hl.1 rfl (Nat.le_of_ble_eq_true rfl) dX52_isIn_3 ⟨Nat.le_refl 0, Nat.le_refl 0⟩) (fun r_1 u H locs hw hH => ?_)
  obtain ⟨f_fact_2, f_maker_3, f_fired_4, f_firedCount_5⟩ := u
  have hH : kH (dC, dI) cl A s.heap H locs (wX52 ci ad d f_thrown f_classes f_things f_axioms f_fuel f_questions f_sorted f_left f_other f_right f_there f_member f_state f_before f_placed f_looked f_fact_2 f_maker_3 f_fired_4 f_firedCount_5 f_needed f_module f_asked) := hH
  refine lv_iconst (v := 1) hx hb dX52_isIn_6 (by decide) ?_
  refine lv_icmp_ne (tgt := 14) hx hb dX52_isIn_7 (by decide) (fun c_6 => ?_) (fun c_6 => ?_)
  · have hw := hw.2 (z_ne (rfl : r_1.toInt = _) (rfl : (1 : Int32).toInt = 1) c_6)
    refine lv_iconst (v := 0) hx hb dX52_isIn_14 (by decide) ?_
    exact k_iret (v := 0) X hH (f_fact_2, f_maker_3, f_fired_4, f_firedCount_5) hw rfl rfl dX52_isIn_15
  · have hw := hw.1 (z_eq (rfl : r_1.toInt = _) (rfl : (1 : Int32).toInt = 1) c_6)
    refine lv_iconst (v := 1) hx hb dX52_isIn_10 (by decide) ?_
    refine lv_goto (tgt := 15) hx hb dX52_isIn_11 (by decide) ?_
    exact k_iret (v := 1) X hH (f_fact_2, f_maker_3, f_fired_4, f_firedCount_5) hw rfl rfl dX52_isIn_15
set_option maxHeartbeats 4000000 in
theorem atX52_type_95 {p : Program} {l : Launch} {e : Env} {s : State} {m : MethodId} {args : Array Value} {below : List Frame} {meth : Method} {c : Code} {dC : Nat → ClassId} {dI : Nat → Nat → Nat} {cl : List vw_C} {ci : Nat} (hc : cl[ci]? = some (RX52, TX52, 23)) {ad : Nat → Nat} {d : Nat → ClassId} {A : Nat → Prop} {post : Int → (Int → Int) → (Int → Int) → (Int → Int) → Int → Prop} {f_thrown : Int32} {f_classes : Int32} {f_things : Int32} {f_axioms : Int32} {f_fuel : Int32} {f_questions : Int32} {f_sorted : Int32} {f_left : Nat → Int32} {f_other : Nat → Int32} {f_right : Nat → Int32} {f_there : Nat → Int32} {f_member : Nat → Int32} {f_state : Nat → Int32} {f_before : Nat → Int32} {f_placed : Nat → Int32} {f_looked : Nat → Int32} {f_needed : Nat → Int32} {f_module : Nat → Int32} {f_asked : Int32} (X : kX p s m args meth c cX52_type 7 RX52 (some .int) (dC, dI) cl (tX52 d)) {K153 : Int → (Int → Int) → (Int → Int) → (Int → Int) → Int → Prop} {x1 : Int32} {x2 : Int32} {x3 : Int32} {x4 : Int32}  (hk153 : ∀ (x5 : Int32) (f_fact : Nat → Int32) (f_maker : Nat → Int32) (f_fired : Nat → Int32) (f_firedCount : Int32), K153 x5.toInt (zF f_fact) (zF f_maker) (zF f_fired) f_firedCount.toInt → ∀ (H : Heap) (locs : List Loc) (ls : Array Slot), kH (dC, dI) cl A s.heap H locs (wX52 ci ad d f_thrown f_classes f_things f_axioms f_fuel f_questions f_sorted f_left f_other f_right f_there f_member f_state f_before f_placed f_looked f_fact f_maker f_fired f_firedCount f_needed f_module f_asked) → lv_has ls 7 [(0, .ref (ad 0)), (1, .int x1), (2, .int x2), (3, .int x3), (4, .int x4), (5, .int x5)] → W p l e ({ frames := 3, cells := 0, slots := 0, locals := 69 } : Room) s m args below meth c H locs 0 0 (MQ below (va_Qi (fun (r : Int32) (u : (Nat → Int32) × (Nat → Int32) × (Nat → Int32) × Int32) => post r.toInt (zF (u.1)) (zF (u.2.1)) (zF (u.2.2.1)) (u.2.2.2).toInt) (kB (dC, dI) cl (tX52 d) A (fun u : (Nat → Int32) × (Nat → Int32) × (Nat → Int32) × Int32 => (wX52 ci ad d f_thrown f_classes f_things f_axioms f_fuel f_questions f_sorted f_left f_other f_right f_there f_member f_state f_before f_placed f_looked (u.1) (u.2.1) (u.2.2.1) (u.2.2.2) f_needed f_module f_asked))) A) args s 0 0 A) (F0 m 153 ls [])) :
    ∀ (nn : Nat) (x5 : Int32) (x6 : Int32) (f_fact : Nat → Int32) (f_maker : Nat → Int32) (f_fired : Nat → Int32) (f_firedCount : Int32), wX52_type_95 K153 x1.toInt x4.toInt f_classes.toInt f_axioms.toInt f_fuel.toInt (zF f_left) (zF f_other) (zF f_right) (zF f_there) (zF f_member) (zF f_state) (zF f_placed) nn x5.toInt x6.toInt (zF f_fact) (zF f_maker) (zF f_fired) f_firedCount.toInt → ∀ (H : Heap) (locs : List Loc) (ls : Array Slot), kH (dC, dI) cl A s.heap H locs (wX52 ci ad d f_thrown f_classes f_things f_axioms f_fuel f_questions f_sorted f_left f_other f_right f_there f_member f_state f_before f_placed f_looked f_fact f_maker f_fired f_firedCount f_needed f_module f_asked) → lv_has ls 7 [(0, .ref (ad 0)), (1, .int x1), (2, .int x2), (3, .int x3), (4, .int x4), (5, .int x5), (6, .int x6)] → W p l e ({ frames := 3, cells := 0, slots := 0, locals := 69 } : Room) s m args below meth c H locs 0 0 (MQ below (va_Qi (fun (r : Int32) (u : (Nat → Int32) × (Nat → Int32) × (Nat → Int32) × Int32) => post r.toInt (zF (u.1)) (zF (u.2.1)) (zF (u.2.2.1)) (u.2.2.2).toInt) (kB (dC, dI) cl (tX52 d) A (fun u : (Nat → Int32) × (Nat → Int32) × (Nat → Int32) × Int32 => (wX52 ci ad d f_thrown f_classes f_things f_axioms f_fuel f_questions f_sorted f_left f_other f_right f_there f_member f_state f_before f_placed f_looked (u.1) (u.2.1) (u.2.2.1) (u.2.2.2) f_needed f_module f_asked))) A) args s 0 0 A) (F0 m 95 ls []) := by
  have hx := X.1.1
  have hb := X.1.2.1
  intro nn
  induction nn with
  | zero =>
    intro x5 x6 f_fact f_maker f_fired f_firedCount hw
    exact False.elim hw
  | succ n ih =>
    intro x5 x6 f_fact f_maker f_fired f_firedCount hw H locs ls hH hl
    rw [wX52_type_95] at hw
    refine lv_iload hx hb dX52_type_95 (lv_at hl 6 rfl) ?_
    refine lv_aload_n hx hb dX52_type_97 rfl (lv_at hl 0 rfl) ?_
    refine k_get X hH in_X52 0 rfl hc 1 (by decide) q6382 rfl dX52_type_98 ?_
    refine lv_icmp_ge (tgt := 153) hx hb dX52_type_101 (by decide) (fun c_15 => ?_) (fun c_15 => ?_)
    · have hw := hw.1 (z_le (rfl : f_classes.toInt = _) (rfl : x6.toInt = _) c_15)
      exact hk153 x5 f_fact f_maker f_fired f_firedCount hw _ _ ls hH (lv_sub hl [0, 1, 2, 3, 4, 5] rfl)
    · have hw := hw.2 (z_nle (rfl : f_classes.toInt = _) (rfl : x6.toInt = _) c_15)
      refine lv_iload hx hb dX52_type_104 (lv_at hl 5 rfl) ?_
      refine lv_if_eq (tgt := 153) hx hb dX52_type_106 (by decide) (fun c_16 => ?_) (fun c_16 => ?_)
      · have hw := hw.1 (z_eq (rfl : x5.toInt = _) (rfl : (0 : Int32).toInt = 0) c_16)
        exact hk153 x5 f_fact f_maker f_fired f_firedCount hw _ _ ls hH (lv_sub hl [0, 1, 2, 3, 4, 5] rfl)
      · have hw := hw.2 (z_neq (rfl : x5.toInt = _) (rfl : (0 : Int32).toInt = 0) c_16)
        refine lv_aload_n hx hb dX52_type_109 rfl (lv_at hl 0 rfl) ?_
        refine k_get X hH in_X52 0 rfl hc 14 (by decide) q6395 rfl dX52_type_110 ?_
        refine lv_iload hx hb dX52_type_113 (lv_at hl 6 rfl) ?_
        have hq_17 := hw.1
        have hw := hw.2
        refine k_zald X hH 8 7 rfl rfl (z_in (rfl : x6.toInt = _) hq_17) dX52_type_115 ?_
        have e_18 := z_ld (f := f_placed) (rfl : x6.toInt = _) hq_17.1
        refine lv_if_eq (tgt := 140) hx hb dX52_type_116 (by decide) (fun c_19 => ?_) (fun c_19 => ?_)
        · have hw := hw.1 (z_eq e_18 (rfl : (0 : Int32).toInt = 0) c_19)
          refine lv_iconst (v := 1) hx hb dX52_type_140 (by decide) ?_
          refine lv_goto (tgt := 145) hx hb dX52_type_141 (by decide) ?_
          refine lv_istore (lv' := [(5, .int 1), (0, .ref (ad 0)), (1, .int x1), (2, .int x2), (3, .int x3), (4, .int x4), (6, .int x6)]) hx hb dX52_type_145 hl (by decide) rfl (fun ls hl => ?_)
          have hq_21 := hw.1
          have hw := hw.2
          obtain ⟨x6_20, ex6_20⟩ : ∃ y : Int32, y = x6 + 1 := ⟨_, rfl⟩
          have hw := hw x6_20.toInt (by rw [ex6_20]; exact (z_x (z_add (z_m (rfl : x6.toInt = _)) (z_m (rfl : (1 : Int32).toInt = 1))) hq_21))
          refine lv_iinc (v := x6_20) (lv' := [(6, .int x6_20), (5, .int 1), (0, .ref (ad 0)), (1, .int x1), (2, .int x2), (3, .int x3), (4, .int x4)]) hx hb dX52_type_147 hl (k := 6) rfl (by rw [ex6_20]; rfl) (by decide) rfl (fun ls hl => ?_)
          refine lv_goto (tgt := 95) hx hb dX52_type_150 (by decide) ?_
          exact ih 1 x6_20 f_fact f_maker f_fired f_firedCount hw _ _ ls hH (lv_sub hl [2, 3, 4, 5, 6, 1, 0] rfl)
        · have hw := hw.2 (z_neq e_18 (rfl : (0 : Int32).toInt = 0) c_19)
          refine lv_aload_n hx hb dX52_type_119 rfl (lv_at hl 0 rfl) ?_
          refine lv_iload hx hb dX52_type_120 (lv_at hl 6 rfl) ?_
          refine lv_iload hx hb dX52_type_122 (lv_at hl 4 rfl) ?_
          refine k_i0 hH (k_runV (As := [.int x6, .int x4]) (rest := []) X hH.1 hH.2.1 X.2.2.2 (walkX52_isDirect hc (x1 := x6) (x2 := x4) (f_thrown := f_thrown) (f_classes := f_classes) (f_things := f_things) (f_axioms := f_axioms) (f_fuel := f_fuel) (f_questions := f_questions) (f_sorted := f_sorted) (f_left := f_left) (f_other := f_other) (f_right := f_right) (f_there := f_there) (f_member := f_member) (f_state := f_state) (f_before := f_before) (f_placed := f_placed) (f_looked := f_looked) (f_fact := f_fact) (f_maker := f_maker) (f_fired := f_fired) (f_firedCount := f_firedCount) (f_needed := f_needed) (f_module := f_module) (f_asked := f_asked) hw) (cwV 2 X.1.2.2.2.2 gX52_131 rfl rfl rfl hX52_isDirect ⟨Nat.le_of_ble_eq_true rfl, Nat.le_of_ble_eq_true rfl⟩) hc (q0 := 0) rfl rfl hl.1 rfl (Nat.le_of_ble_eq_true rfl) dX52_type_124 ⟨Nat.le_refl 0, Nat.le_refl 0⟩) (fun r_22 _ H locs hw hH => ?_)
          have hH : kH (dC, dI) cl A s.heap H locs (wX52 ci ad d f_thrown f_classes f_things f_axioms f_fuel f_questions f_sorted f_left f_other f_right f_there f_member f_state f_before f_placed f_looked f_fact f_maker f_fired f_firedCount f_needed f_module f_asked) := hH
          refine lv_if_eq (tgt := 140) hx hb dX52_type_127 (by decide) (fun c_23 => ?_) (fun c_23 => ?_)
          · have hw := hw.1 (z_eq (rfl : r_22.toInt = _) (rfl : (0 : Int32).toInt = 0) c_23)
            refine lv_iconst (v := 1) hx hb dX52_type_140 (by decide) ?_
            refine lv_goto (tgt := 145) hx hb dX52_type_141 (by decide) ?_
            refine lv_istore (lv' := [(5, .int 1), (0, .ref (ad 0)), (1, .int x1), (2, .int x2), (3, .int x3), (4, .int x4), (6, .int x6)]) hx hb dX52_type_145 hl (by decide) rfl (fun ls hl => ?_)
            have hq_25 := hw.1
            have hw := hw.2
            obtain ⟨x6_24, ex6_24⟩ : ∃ y : Int32, y = x6 + 1 := ⟨_, rfl⟩
            have hw := hw x6_24.toInt (by rw [ex6_24]; exact (z_x (z_add (z_m (rfl : x6.toInt = _)) (z_m (rfl : (1 : Int32).toInt = 1))) hq_25))
            refine lv_iinc (v := x6_24) (lv' := [(6, .int x6_24), (5, .int 1), (0, .ref (ad 0)), (1, .int x1), (2, .int x2), (3, .int x3), (4, .int x4)]) hx hb dX52_type_147 hl (k := 6) rfl (by rw [ex6_24]; rfl) (by decide) rfl (fun ls hl => ?_)
            refine lv_goto (tgt := 95) hx hb dX52_type_150 (by decide) ?_
            exact ih 1 x6_24 f_fact f_maker f_fired f_firedCount hw _ _ ls hH (lv_sub hl [2, 3, 4, 5, 6, 1, 0] rfl)
          · have hw := hw.2 (z_neq (rfl : r_22.toInt = _) (rfl : (0 : Int32).toInt = 0) c_23)
            refine lv_aload_n hx hb dX52_type_130 rfl (lv_at hl 0 rfl) ?_
            refine lv_iload_n hx hb dX52_type_131 rfl (lv_at hl 1 rfl) ?_
            refine lv_iload hx hb dX52_type_132 (lv_at hl 6 rfl) ?_
            refine k_i0 hH (k_runV (As := [.int x1, .int x6]) (rest := []) X hH.1 hH.2.1 X.2.2.2 (walkX52_isIn hc (x1 := x1) (x2 := x6) (f_thrown := f_thrown) (f_classes := f_classes) (f_things := f_things) (f_axioms := f_axioms) (f_fuel := f_fuel) (f_questions := f_questions) (f_sorted := f_sorted) (f_left := f_left) (f_other := f_other) (f_right := f_right) (f_there := f_there) (f_member := f_member) (f_state := f_state) (f_before := f_before) (f_placed := f_placed) (f_looked := f_looked) (f_fact := f_fact) (f_maker := f_maker) (f_fired := f_fired) (f_firedCount := f_firedCount) (f_needed := f_needed) (f_module := f_module) (f_asked := f_asked) hw) (cwV 2 X.1.2.2.2.2 gX52_157 rfl rfl rfl hX52_isIn ⟨Nat.le_of_ble_eq_true rfl, Nat.le_of_ble_eq_true rfl⟩) hc (q0 := 0) rfl rfl hl.1 rfl (Nat.le_of_ble_eq_true rfl) dX52_type_134 ⟨Nat.le_refl 0, Nat.le_refl 0⟩) (fun r_26 u H locs hw hH => ?_)
            obtain ⟨f_fact_27, f_maker_28, f_fired_29, f_firedCount_30⟩ := u
            have hH : kH (dC, dI) cl A s.heap H locs (wX52 ci ad d f_thrown f_classes f_things f_axioms f_fuel f_questions f_sorted f_left f_other f_right f_there f_member f_state f_before f_placed f_looked f_fact_27 f_maker_28 f_fired_29 f_firedCount_30 f_needed f_module f_asked) := hH
            refine lv_if_ne (tgt := 144) hx hb dX52_type_137 (by decide) (fun c_31 => ?_) (fun c_31 => ?_)
            · have hw := hw.2 (z_ne (rfl : r_26.toInt = _) (rfl : (0 : Int32).toInt = 0) c_31)
              refine lv_iconst (v := 0) hx hb dX52_type_144 (by decide) ?_
              refine lv_istore (lv' := [(5, .int 0), (0, .ref (ad 0)), (1, .int x1), (2, .int x2), (3, .int x3), (4, .int x4), (6, .int x6)]) hx hb dX52_type_145 hl (by decide) rfl (fun ls hl => ?_)
              have hq_33 := hw.1
              have hw := hw.2
              obtain ⟨x6_32, ex6_32⟩ : ∃ y : Int32, y = x6 + 1 := ⟨_, rfl⟩
              have hw := hw x6_32.toInt (by rw [ex6_32]; exact (z_x (z_add (z_m (rfl : x6.toInt = _)) (z_m (rfl : (1 : Int32).toInt = 1))) hq_33))
              refine lv_iinc (v := x6_32) (lv' := [(6, .int x6_32), (5, .int 0), (0, .ref (ad 0)), (1, .int x1), (2, .int x2), (3, .int x3), (4, .int x4)]) hx hb dX52_type_147 hl (k := 6) rfl (by rw [ex6_32]; rfl) (by decide) rfl (fun ls hl => ?_)
              refine lv_goto (tgt := 95) hx hb dX52_type_150 (by decide) ?_
              exact ih 0 x6_32 f_fact_27 f_maker_28 f_fired_29 f_firedCount_30 hw _ _ ls hH (lv_sub hl [2, 3, 4, 5, 6, 1, 0] rfl)
            · have hw := hw.1 (z_eq (rfl : r_26.toInt = _) (rfl : (0 : Int32).toInt = 0) c_31)
              refine lv_iconst (v := 1) hx hb dX52_type_140 (by decide) ?_
              refine lv_goto (tgt := 145) hx hb dX52_type_141 (by decide) ?_
              refine lv_istore (lv' := [(5, .int 1), (0, .ref (ad 0)), (1, .int x1), (2, .int x2), (3, .int x3), (4, .int x4), (6, .int x6)]) hx hb dX52_type_145 hl (by decide) rfl (fun ls hl => ?_)
              have hq_35 := hw.1
              have hw := hw.2
              obtain ⟨x6_34, ex6_34⟩ : ∃ y : Int32, y = x6 + 1 := ⟨_, rfl⟩
              have hw := hw x6_34.toInt (by rw [ex6_34]; exact (z_x (z_add (z_m (rfl : x6.toInt = _)) (z_m (rfl : (1 : Int32).toInt = 1))) hq_35))
              refine lv_iinc (v := x6_34) (lv' := [(6, .int x6_34), (5, .int 1), (0, .ref (ad 0)), (1, .int x1), (2, .int x2), (3, .int x3), (4, .int x4)]) hx hb dX52_type_147 hl (k := 6) rfl (by rw [ex6_34]; rfl) (by decide) rfl (fun ls hl => ?_)
              refine lv_goto (tgt := 95) hx hb dX52_type_150 (by decide) ?_
              exact ih 1 x6_34 f_fact_27 f_maker_28 f_fired_29 f_firedCount_30 hw _ _ ls hH (lv_sub hl [2, 3, 4, 5, 6, 1, 0] rfl)
set_option maxHeartbeats 4000000 in
theorem atX52_type_165 {p : Program} {l : Launch} {e : Env} {s : State} {m : MethodId} {args : Array Value} {below : List Frame} {meth : Method} {c : Code} {dC : Nat → ClassId} {dI : Nat → Nat → Nat} {cl : List vw_C} {ci : Nat} (hc : cl[ci]? = some (RX52, TX52, 23)) {ad : Nat → Nat} {d : Nat → ClassId} {A : Nat → Prop} {post : Int → (Int → Int) → (Int → Int) → (Int → Int) → Int → Prop} {f_thrown : Int32} {f_classes : Int32} {f_things : Int32} {f_axioms : Int32} {f_fuel : Int32} {f_questions : Int32} {f_sorted : Int32} {f_left : Nat → Int32} {f_other : Nat → Int32} {f_right : Nat → Int32} {f_there : Nat → Int32} {f_member : Nat → Int32} {f_state : Nat → Int32} {f_before : Nat → Int32} {f_placed : Nat → Int32} {f_looked : Nat → Int32} {f_needed : Nat → Int32} {f_module : Nat → Int32} {f_asked : Int32} (X : kX p s m args meth c cX52_type 7 RX52 (some .int) (dC, dI) cl (tX52 d)) {K43 : Int → Int → (Int → Int) → (Int → Int) → (Int → Int) → Int → Prop} {x1 : Int32} {x2 : Int32}  (hk43 : ∀ (x3 : Int32) (x4 : Int32) (f_fact : Nat → Int32) (f_maker : Nat → Int32) (f_fired : Nat → Int32) (f_firedCount : Int32), K43 x3.toInt x4.toInt (zF f_fact) (zF f_maker) (zF f_fired) f_firedCount.toInt → ∀ (H : Heap) (locs : List Loc) (ls : Array Slot), kH (dC, dI) cl A s.heap H locs (wX52 ci ad d f_thrown f_classes f_things f_axioms f_fuel f_questions f_sorted f_left f_other f_right f_there f_member f_state f_before f_placed f_looked f_fact f_maker f_fired f_firedCount f_needed f_module f_asked) → lv_has ls 7 [(0, .ref (ad 0)), (1, .int x1), (2, .int x2), (3, .int x3), (4, .int x4)] → W p l e ({ frames := 3, cells := 0, slots := 0, locals := 69 } : Room) s m args below meth c H locs 0 0 (MQ below (va_Qi (fun (r : Int32) (u : (Nat → Int32) × (Nat → Int32) × (Nat → Int32) × Int32) => post r.toInt (zF (u.1)) (zF (u.2.1)) (zF (u.2.2.1)) (u.2.2.2).toInt) (kB (dC, dI) cl (tX52 d) A (fun u : (Nat → Int32) × (Nat → Int32) × (Nat → Int32) × Int32 => (wX52 ci ad d f_thrown f_classes f_things f_axioms f_fuel f_questions f_sorted f_left f_other f_right f_there f_member f_state f_before f_placed f_looked (u.1) (u.2.1) (u.2.2.1) (u.2.2.2) f_needed f_module f_asked))) A) args s 0 0 A) (F0 m 43 ls [])) :
    ∀ (x3 : Int32) (x4 : Int32) (x5 : Int32) (f_fact : Nat → Int32) (f_maker : Nat → Int32) (f_fired : Nat → Int32) (f_firedCount : Int32), wX52_type_165 K43 x3.toInt x4.toInt x5.toInt (zF f_fact) (zF f_maker) (zF f_fired) f_firedCount.toInt → ∀ (H : Heap) (locs : List Loc) (ls : Array Slot), kH (dC, dI) cl A s.heap H locs (wX52 ci ad d f_thrown f_classes f_things f_axioms f_fuel f_questions f_sorted f_left f_other f_right f_there f_member f_state f_before f_placed f_looked f_fact f_maker f_fired f_firedCount f_needed f_module f_asked) → lv_has ls 7 [(0, .ref (ad 0)), (1, .int x1), (2, .int x2), (3, .int x3), (4, .int x4), (5, .int x5)] → W p l e ({ frames := 3, cells := 0, slots := 0, locals := 69 } : Room) s m args below meth c H locs 0 0 (MQ below (va_Qi (fun (r : Int32) (u : (Nat → Int32) × (Nat → Int32) × (Nat → Int32) × Int32) => post r.toInt (zF (u.1)) (zF (u.2.1)) (zF (u.2.2.1)) (u.2.2.2).toInt) (kB (dC, dI) cl (tX52 d) A (fun u : (Nat → Int32) × (Nat → Int32) × (Nat → Int32) × Int32 => (wX52 ci ad d f_thrown f_classes f_things f_axioms f_fuel f_questions f_sorted f_left f_other f_right f_there f_member f_state f_before f_placed f_looked (u.1) (u.2.1) (u.2.2.1) (u.2.2.2) f_needed f_module f_asked))) A) args s 0 0 A) (F0 m 165 ls []) := by
  have hx := X.1.1
  have hb := X.1.2.1
  intro x3 x4 x5 f_fact f_maker f_fired f_firedCount hw H locs ls hH hl
  unfold wX52_type_165 at hw
  refine lv_iload_n hx hb dX52_type_165 rfl (lv_at hl 3 rfl) ?_
  refine lv_iload hx hb dX52_type_166 (lv_at hl 5 rfl) ?_
  refine lv_if_eq (tgt := 175) hx hb dX52_type_168 (by decide) (fun c_42 => ?_) (fun c_42 => ?_)
  · have hw := hw.1 (z_eq (rfl : x5.toInt = _) (rfl : (0 : Int32).toInt = 0) c_42)
    refine lv_iconst (v := 0) hx hb dX52_type_175 (by decide) ?_
    refine lv_isub hx hb dX52_type_176 ?_
    have e_43 := z_sub (z_m (rfl : x3.toInt = _)) (z_m (rfl : (0 : Int32).toInt = 0))
    have hq_44 := hw.1
    have hw := hw.2
    have e_45 := z_x e_43 hq_44
    refine lv_topi (fun x3_46 ex3_46 => ?_)
    have hw := hw x3_46.toInt (by rw [ex3_46]; exact e_45)
    refine lv_istore_n (lv' := [(3, .int x3_46), (0, .ref (ad 0)), (1, .int x1), (2, .int x2), (4, .int x4), (5, .int x5)]) hx hb dX52_type_177 rfl hl (by decide) rfl (fun ls hl => ?_)
    have hq_48 := hw.1
    have hw := hw.2
    obtain ⟨x4_47, ex4_47⟩ : ∃ y : Int32, y = x4 + 1 := ⟨_, rfl⟩
    have hw := hw x4_47.toInt (by rw [ex4_47]; exact (z_x (z_add (z_m (rfl : x4.toInt = _)) (z_m (rfl : (1 : Int32).toInt = 1))) hq_48))
    refine lv_iinc (v := x4_47) (lv' := [(4, .int x4_47), (3, .int x3_46), (0, .ref (ad 0)), (1, .int x1), (2, .int x2), (5, .int x5)]) hx hb dX52_type_178 hl (k := 4) rfl (by rw [ex4_47]; rfl) (by decide) rfl (fun ls hl => ?_)
    refine lv_goto (tgt := 43) hx hb dX52_type_181 (by decide) ?_
    exact hk43 x3_46 x4_47 f_fact f_maker f_fired f_firedCount hw _ _ ls hH (lv_sub hl [2, 3, 4, 1, 0] rfl)
  · have hw := hw.2 (z_neq (rfl : x5.toInt = _) (rfl : (0 : Int32).toInt = 0) c_42)
    refine lv_iconst (v := 1) hx hb dX52_type_171 (by decide) ?_
    refine lv_goto (tgt := 176) hx hb dX52_type_172 (by decide) ?_
    refine lv_isub hx hb dX52_type_176 ?_
    have e_49 := z_sub (z_m (rfl : x3.toInt = _)) (z_m (rfl : (1 : Int32).toInt = 1))
    have hq_50 := hw.1
    have hw := hw.2
    have e_51 := z_x e_49 hq_50
    refine lv_topi (fun x3_52 ex3_52 => ?_)
    have hw := hw x3_52.toInt (by rw [ex3_52]; exact e_51)
    refine lv_istore_n (lv' := [(3, .int x3_52), (0, .ref (ad 0)), (1, .int x1), (2, .int x2), (4, .int x4), (5, .int x5)]) hx hb dX52_type_177 rfl hl (by decide) rfl (fun ls hl => ?_)
    have hq_54 := hw.1
    have hw := hw.2
    obtain ⟨x4_53, ex4_53⟩ : ∃ y : Int32, y = x4 + 1 := ⟨_, rfl⟩
    have hw := hw x4_53.toInt (by rw [ex4_53]; exact (z_x (z_add (z_m (rfl : x4.toInt = _)) (z_m (rfl : (1 : Int32).toInt = 1))) hq_54))
    refine lv_iinc (v := x4_53) (lv' := [(4, .int x4_53), (3, .int x3_52), (0, .ref (ad 0)), (1, .int x1), (2, .int x2), (5, .int x5)]) hx hb dX52_type_178 hl (k := 4) rfl (by rw [ex4_53]; rfl) (by decide) rfl (fun ls hl => ?_)
    refine lv_goto (tgt := 43) hx hb dX52_type_181 (by decide) ?_
    exact hk43 x3_52 x4_53 f_fact f_maker f_fired f_firedCount hw _ _ ls hH (lv_sub hl [2, 3, 4, 1, 0] rfl)
set_option maxHeartbeats 4000000 in
theorem atX52_type_43 {p : Program} {l : Launch} {e : Env} {s : State} {m : MethodId} {args : Array Value} {below : List Frame} {meth : Method} {c : Code} {dC : Nat → ClassId} {dI : Nat → Nat → Nat} {cl : List vw_C} {ci : Nat} (hc : cl[ci]? = some (RX52, TX52, 23)) {ad : Nat → Nat} {d : Nat → ClassId} {A : Nat → Prop} {post : Int → (Int → Int) → (Int → Int) → (Int → Int) → Int → Prop} {f_thrown : Int32} {f_classes : Int32} {f_things : Int32} {f_axioms : Int32} {f_fuel : Int32} {f_questions : Int32} {f_sorted : Int32} {f_left : Nat → Int32} {f_other : Nat → Int32} {f_right : Nat → Int32} {f_there : Nat → Int32} {f_member : Nat → Int32} {f_state : Nat → Int32} {f_before : Nat → Int32} {f_placed : Nat → Int32} {f_looked : Nat → Int32} {f_needed : Nat → Int32} {f_module : Nat → Int32} {f_asked : Int32} (X : kX p s m args meth c cX52_type 7 RX52 (some .int) (dC, dI) cl (tX52 d)) {K162 : Int → (Int → Int) → (Int → Int) → (Int → Int) → Int → Prop} {K184 : (Int → Int) → (Int → Int) → (Int → Int) → Int → Prop} {x1 : Int32} {x2 : Int32}  (hk162 : ∀ (x4 : Int32) (f_fact : Nat → Int32) (f_maker : Nat → Int32) (f_fired : Nat → Int32) (f_firedCount : Int32), K162 x4.toInt (zF f_fact) (zF f_maker) (zF f_fired) f_firedCount.toInt → ∀ (H : Heap) (locs : List Loc) (ls : Array Slot), kH (dC, dI) cl A s.heap H locs (wX52 ci ad d f_thrown f_classes f_things f_axioms f_fuel f_questions f_sorted f_left f_other f_right f_there f_member f_state f_before f_placed f_looked f_fact f_maker f_fired f_firedCount f_needed f_module f_asked) → lv_has ls 7 [(4, .int x4)] → W p l e ({ frames := 3, cells := 0, slots := 0, locals := 69 } : Room) s m args below meth c H locs 0 0 (MQ below (va_Qi (fun (r : Int32) (u : (Nat → Int32) × (Nat → Int32) × (Nat → Int32) × Int32) => post r.toInt (zF (u.1)) (zF (u.2.1)) (zF (u.2.2.1)) (u.2.2.2).toInt) (kB (dC, dI) cl (tX52 d) A (fun u : (Nat → Int32) × (Nat → Int32) × (Nat → Int32) × Int32 => (wX52 ci ad d f_thrown f_classes f_things f_axioms f_fuel f_questions f_sorted f_left f_other f_right f_there f_member f_state f_before f_placed f_looked (u.1) (u.2.1) (u.2.2.1) (u.2.2.2) f_needed f_module f_asked))) A) args s 0 0 A) (F0 m 162 ls [])) (hk184 : ∀ (f_fact : Nat → Int32) (f_maker : Nat → Int32) (f_fired : Nat → Int32) (f_firedCount : Int32), K184 (zF f_fact) (zF f_maker) (zF f_fired) f_firedCount.toInt → ∀ (H : Heap) (locs : List Loc) (ls : Array Slot), kH (dC, dI) cl A s.heap H locs (wX52 ci ad d f_thrown f_classes f_things f_axioms f_fuel f_questions f_sorted f_left f_other f_right f_there f_member f_state f_before f_placed f_looked f_fact f_maker f_fired f_firedCount f_needed f_module f_asked) → lv_has ls 7 [] → W p l e ({ frames := 3, cells := 0, slots := 0, locals := 69 } : Room) s m args below meth c H locs 0 0 (MQ below (va_Qi (fun (r : Int32) (u : (Nat → Int32) × (Nat → Int32) × (Nat → Int32) × Int32) => post r.toInt (zF (u.1)) (zF (u.2.1)) (zF (u.2.2.1)) (u.2.2.2).toInt) (kB (dC, dI) cl (tX52 d) A (fun u : (Nat → Int32) × (Nat → Int32) × (Nat → Int32) × Int32 => (wX52 ci ad d f_thrown f_classes f_things f_axioms f_fuel f_questions f_sorted f_left f_other f_right f_there f_member f_state f_before f_placed f_looked (u.1) (u.2.1) (u.2.2.1) (u.2.2.2) f_needed f_module f_asked))) A) args s 0 0 A) (F0 m 184 ls [])) :
    ∀ (nn : Nat) (x3 : Int32) (x4 : Int32) (f_fact : Nat → Int32) (f_maker : Nat → Int32) (f_fired : Nat → Int32) (f_firedCount : Int32), wX52_type_43 K162 K184 x1.toInt x2.toInt f_classes.toInt f_axioms.toInt f_fuel.toInt (zF f_left) (zF f_other) (zF f_right) (zF f_there) (zF f_member) (zF f_state) (zF f_placed) nn x3.toInt x4.toInt (zF f_fact) (zF f_maker) (zF f_fired) f_firedCount.toInt → ∀ (H : Heap) (locs : List Loc) (ls : Array Slot), kH (dC, dI) cl A s.heap H locs (wX52 ci ad d f_thrown f_classes f_things f_axioms f_fuel f_questions f_sorted f_left f_other f_right f_there f_member f_state f_before f_placed f_looked f_fact f_maker f_fired f_firedCount f_needed f_module f_asked) → lv_has ls 7 [(0, .ref (ad 0)), (1, .int x1), (2, .int x2), (3, .int x3), (4, .int x4)] → W p l e ({ frames := 3, cells := 0, slots := 0, locals := 69 } : Room) s m args below meth c H locs 0 0 (MQ below (va_Qi (fun (r : Int32) (u : (Nat → Int32) × (Nat → Int32) × (Nat → Int32) × Int32) => post r.toInt (zF (u.1)) (zF (u.2.1)) (zF (u.2.2.1)) (u.2.2.2).toInt) (kB (dC, dI) cl (tX52 d) A (fun u : (Nat → Int32) × (Nat → Int32) × (Nat → Int32) × Int32 => (wX52 ci ad d f_thrown f_classes f_things f_axioms f_fuel f_questions f_sorted f_left f_other f_right f_there f_member f_state f_before f_placed f_looked (u.1) (u.2.1) (u.2.2.1) (u.2.2.2) f_needed f_module f_asked))) A) args s 0 0 A) (F0 m 43 ls []) := by
  have hx := X.1.1
  have hb := X.1.2.1
  intro nn
  induction nn with
  | zero =>
    intro x3 x4 f_fact f_maker f_fired f_firedCount hw
    exact False.elim hw
  | succ n ih =>
    intro x3 x4 f_fact f_maker f_fired f_firedCount hw H locs ls hH hl
    rw [wX52_type_43] at hw
    refine lv_iload hx hb dX52_type_43 (lv_at hl 4 rfl) ?_
    refine lv_aload_n hx hb dX52_type_45 rfl (lv_at hl 0 rfl) ?_
    refine k_get X hH in_X52 0 rfl hc 1 (by decide) q6382 rfl dX52_type_46 ?_
    refine lv_icmp_ge (tgt := 184) hx hb dX52_type_49 (by decide) (fun c_10 => ?_) (fun c_10 => ?_)
    · have hw := hw.1 (z_le (rfl : f_classes.toInt = _) (rfl : x4.toInt = _) c_10)
      exact hk184 f_fact f_maker f_fired f_firedCount hw _ _ ls hH (lv_sub hl [] rfl)
    · have hw := hw.2 (z_nle (rfl : f_classes.toInt = _) (rfl : x4.toInt = _) c_10)
      refine lv_iload_n hx hb dX52_type_52 rfl (lv_at hl 2 rfl) ?_
      refine lv_if_lt (tgt := 184) hx hb dX52_type_53 (by decide) (fun c_11 => ?_) (fun c_11 => ?_)
      · have hw := hw.1 (z_lt (rfl : x2.toInt = _) (rfl : (0 : Int32).toInt = 0) c_11)
        exact hk184 f_fact f_maker f_fired f_firedCount hw _ _ ls hH (lv_sub hl [] rfl)
      · have hw := hw.2 (z_nlt (rfl : x2.toInt = _) (rfl : (0 : Int32).toInt = 0) c_11)
        refine lv_aload_n hx hb dX52_type_56 rfl (lv_at hl 0 rfl) ?_
        refine k_get X hH in_X52 0 rfl hc 14 (by decide) q6395 rfl dX52_type_57 ?_
        refine lv_iload hx hb dX52_type_60 (lv_at hl 4 rfl) ?_
        have hq_12 := hw.1
        have hw := hw.2
        refine k_zald X hH 8 7 rfl rfl (z_in (rfl : x4.toInt = _) hq_12) dX52_type_62 ?_
        have e_13 := z_ld (f := f_placed) (rfl : x4.toInt = _) hq_12.1
        refine lv_if_eq (tgt := 89) hx hb dX52_type_63 (by decide) (fun c_14 => ?_) (fun c_14 => ?_)
        · have hw := hw.1 (z_eq e_13 (rfl : (0 : Int32).toInt = 0) c_14)
          refine lv_iconst (v := 0) hx hb dX52_type_89 (by decide) ?_
          refine lv_istore (lv' := [(5, .int 0), (0, .ref (ad 0)), (1, .int x1), (2, .int x2), (3, .int x3), (4, .int x4)]) hx hb dX52_type_90 hl (by decide) rfl (fun ls hl => ?_)
          refine lv_iconst (v := 0) hx hb dX52_type_92 (by decide) ?_
          refine lv_istore (lv' := [(6, .int 0), (5, .int 0), (0, .ref (ad 0)), (1, .int x1), (2, .int x2), (3, .int x3), (4, .int x4)]) hx hb dX52_type_93 hl (by decide) rfl (fun ls hl => ?_)
          obtain ⟨fu, hw⟩ := hw
          refine atX52_type_95 hc X ?_ fu 0 0 f_fact f_maker f_fired f_firedCount hw _ _ ls hH (lv_sub hl [2, 3, 4, 5, 6, 1, 0] rfl)
          · intro x5_36 f_fact_37 f_maker_38 f_fired_39 f_firedCount_40 hw H locs ls hH hl
            refine lv_iload hx hb dX52_type_153 (lv_at hl 5 rfl) ?_
            refine lv_if_eq (tgt := 165) hx hb dX52_type_155 (by decide) (fun c_41 => ?_) (fun c_41 => ?_)
            · have hw := hw.1 (z_eq (rfl : x5_36.toInt = _) (rfl : (0 : Int32).toInt = 0) c_41)
              exact atX52_type_165 hc X (fun x3 x4 f_fact f_maker f_fired f_firedCount hw H locs ls hH hl => ih x3 x4 f_fact f_maker f_fired f_firedCount hw _ _ ls hH (lv_sub hl [0, 1, 2, 3, 4] rfl)) x3 x4 x5_36 f_fact_37 f_maker_38 f_fired_39 f_firedCount_40 hw _ _ ls hH (lv_sub hl [0, 1, 2, 3, 4, 5] rfl)
            · have hw := hw.2 (z_neq (rfl : x5_36.toInt = _) (rfl : (0 : Int32).toInt = 0) c_41)
              refine lv_iload_n hx hb dX52_type_158 rfl (lv_at hl 3 rfl) ?_
              refine lv_if_ne (tgt := 165) hx hb dX52_type_159 (by decide) (fun c_55 => ?_) (fun c_55 => ?_)
              · have hw := hw.2 (z_ne (rfl : x3.toInt = _) (rfl : (0 : Int32).toInt = 0) c_55)
                exact atX52_type_165 hc X (fun x3 x4 f_fact f_maker f_fired f_firedCount hw H locs ls hH hl => ih x3 x4 f_fact f_maker f_fired f_firedCount hw _ _ ls hH (lv_sub hl [0, 1, 2, 3, 4] rfl)) x3 x4 x5_36 f_fact_37 f_maker_38 f_fired_39 f_firedCount_40 hw _ _ ls hH (lv_sub hl [0, 1, 2, 3, 4, 5] rfl)
              · have hw := hw.1 (z_eq (rfl : x3.toInt = _) (rfl : (0 : Int32).toInt = 0) c_55)
                exact hk162 x4 f_fact_37 f_maker_38 f_fired_39 f_firedCount_40 hw _ _ ls hH (lv_sub hl [4] rfl)
        · have hw := hw.2 (z_neq e_13 (rfl : (0 : Int32).toInt = 0) c_14)
          refine lv_aload_n hx hb dX52_type_66 rfl (lv_at hl 0 rfl) ?_
          refine lv_iload hx hb dX52_type_67 (lv_at hl 4 rfl) ?_
          refine k_i0 hH (k_runV (As := [.int x4]) (rest := []) X hH.1 hH.2.1 X.2.2.2 (walkX52_isSecond hc (x1 := x4) (f_thrown := f_thrown) (f_classes := f_classes) (f_things := f_things) (f_axioms := f_axioms) (f_fuel := f_fuel) (f_questions := f_questions) (f_sorted := f_sorted) (f_left := f_left) (f_other := f_other) (f_right := f_right) (f_there := f_there) (f_member := f_member) (f_state := f_state) (f_before := f_before) (f_placed := f_placed) (f_looked := f_looked) (f_fact := f_fact) (f_maker := f_maker) (f_fired := f_fired) (f_firedCount := f_firedCount) (f_needed := f_needed) (f_module := f_module) (f_asked := f_asked) hw) (cwV 1 X.1.2.2.2.2 gX52_148 rfl rfl rfl hX52_isSecond ⟨Nat.le_of_ble_eq_true rfl, Nat.le_of_ble_eq_true rfl⟩) hc (q0 := 0) rfl rfl hl.1 rfl (Nat.le_of_ble_eq_true rfl) dX52_type_69 ⟨Nat.le_refl 0, Nat.le_refl 0⟩) (fun r_56 _ H locs hw hH => ?_)
          have hH : kH (dC, dI) cl A s.heap H locs (wX52 ci ad d f_thrown f_classes f_things f_axioms f_fuel f_questions f_sorted f_left f_other f_right f_there f_member f_state f_before f_placed f_looked f_fact f_maker f_fired f_firedCount f_needed f_module f_asked) := hH
          refine lv_if_ne (tgt := 89) hx hb dX52_type_72 (by decide) (fun c_57 => ?_) (fun c_57 => ?_)
          · have hw := hw.2 (z_ne (rfl : r_56.toInt = _) (rfl : (0 : Int32).toInt = 0) c_57)
            refine lv_iconst (v := 0) hx hb dX52_type_89 (by decide) ?_
            refine lv_istore (lv' := [(5, .int 0), (0, .ref (ad 0)), (1, .int x1), (2, .int x2), (3, .int x3), (4, .int x4)]) hx hb dX52_type_90 hl (by decide) rfl (fun ls hl => ?_)
            refine lv_iconst (v := 0) hx hb dX52_type_92 (by decide) ?_
            refine lv_istore (lv' := [(6, .int 0), (5, .int 0), (0, .ref (ad 0)), (1, .int x1), (2, .int x2), (3, .int x3), (4, .int x4)]) hx hb dX52_type_93 hl (by decide) rfl (fun ls hl => ?_)
            obtain ⟨fu, hw⟩ := hw
            refine atX52_type_95 hc X ?_ fu 0 0 f_fact f_maker f_fired f_firedCount hw _ _ ls hH (lv_sub hl [2, 3, 4, 5, 6, 1, 0] rfl)
            · intro x5_58 f_fact_59 f_maker_60 f_fired_61 f_firedCount_62 hw H locs ls hH hl
              refine lv_iload hx hb dX52_type_153 (lv_at hl 5 rfl) ?_
              refine lv_if_eq (tgt := 165) hx hb dX52_type_155 (by decide) (fun c_63 => ?_) (fun c_63 => ?_)
              · have hw := hw.1 (z_eq (rfl : x5_58.toInt = _) (rfl : (0 : Int32).toInt = 0) c_63)
                exact atX52_type_165 hc X (fun x3 x4 f_fact f_maker f_fired f_firedCount hw H locs ls hH hl => ih x3 x4 f_fact f_maker f_fired f_firedCount hw _ _ ls hH (lv_sub hl [0, 1, 2, 3, 4] rfl)) x3 x4 x5_58 f_fact_59 f_maker_60 f_fired_61 f_firedCount_62 hw _ _ ls hH (lv_sub hl [0, 1, 2, 3, 4, 5] rfl)
              · have hw := hw.2 (z_neq (rfl : x5_58.toInt = _) (rfl : (0 : Int32).toInt = 0) c_63)
                refine lv_iload_n hx hb dX52_type_158 rfl (lv_at hl 3 rfl) ?_
                refine lv_if_ne (tgt := 165) hx hb dX52_type_159 (by decide) (fun c_64 => ?_) (fun c_64 => ?_)
                · have hw := hw.2 (z_ne (rfl : x3.toInt = _) (rfl : (0 : Int32).toInt = 0) c_64)
                  exact atX52_type_165 hc X (fun x3 x4 f_fact f_maker f_fired f_firedCount hw H locs ls hH hl => ih x3 x4 f_fact f_maker f_fired f_firedCount hw _ _ ls hH (lv_sub hl [0, 1, 2, 3, 4] rfl)) x3 x4 x5_58 f_fact_59 f_maker_60 f_fired_61 f_firedCount_62 hw _ _ ls hH (lv_sub hl [0, 1, 2, 3, 4, 5] rfl)
                · have hw := hw.1 (z_eq (rfl : x3.toInt = _) (rfl : (0 : Int32).toInt = 0) c_64)
                  exact hk162 x4 f_fact_59 f_maker_60 f_fired_61 f_firedCount_62 hw _ _ ls hH (lv_sub hl [4] rfl)
          · have hw := hw.1 (z_eq (rfl : r_56.toInt = _) (rfl : (0 : Int32).toInt = 0) c_57)
            refine lv_aload_n hx hb dX52_type_75 rfl (lv_at hl 0 rfl) ?_
            refine lv_iload_n hx hb dX52_type_76 rfl (lv_at hl 1 rfl) ?_
            refine lv_iload hx hb dX52_type_77 (lv_at hl 4 rfl) ?_
            refine k_i0 hH (k_runV (As := [.int x1, .int x4]) (rest := []) X hH.1 hH.2.1 X.2.2.2 (walkX52_isIn hc (x1 := x1) (x2 := x4) (f_thrown := f_thrown) (f_classes := f_classes) (f_things := f_things) (f_axioms := f_axioms) (f_fuel := f_fuel) (f_questions := f_questions) (f_sorted := f_sorted) (f_left := f_left) (f_other := f_other) (f_right := f_right) (f_there := f_there) (f_member := f_member) (f_state := f_state) (f_before := f_before) (f_placed := f_placed) (f_looked := f_looked) (f_fact := f_fact) (f_maker := f_maker) (f_fired := f_fired) (f_firedCount := f_firedCount) (f_needed := f_needed) (f_module := f_module) (f_asked := f_asked) hw) (cwV 2 X.1.2.2.2.2 gX52_157 rfl rfl rfl hX52_isIn ⟨Nat.le_of_ble_eq_true rfl, Nat.le_of_ble_eq_true rfl⟩) hc (q0 := 0) rfl rfl hl.1 rfl (Nat.le_of_ble_eq_true rfl) dX52_type_79 ⟨Nat.le_refl 0, Nat.le_refl 0⟩) (fun r_65 u H locs hw hH => ?_)
            obtain ⟨f_fact_66, f_maker_67, f_fired_68, f_firedCount_69⟩ := u
            have hH : kH (dC, dI) cl A s.heap H locs (wX52 ci ad d f_thrown f_classes f_things f_axioms f_fuel f_questions f_sorted f_left f_other f_right f_there f_member f_state f_before f_placed f_looked f_fact_66 f_maker_67 f_fired_68 f_firedCount_69 f_needed f_module f_asked) := hH
            refine lv_if_eq (tgt := 89) hx hb dX52_type_82 (by decide) (fun c_70 => ?_) (fun c_70 => ?_)
            · have hw := hw.1 (z_eq (rfl : r_65.toInt = _) (rfl : (0 : Int32).toInt = 0) c_70)
              refine lv_iconst (v := 0) hx hb dX52_type_89 (by decide) ?_
              refine lv_istore (lv' := [(5, .int 0), (0, .ref (ad 0)), (1, .int x1), (2, .int x2), (3, .int x3), (4, .int x4)]) hx hb dX52_type_90 hl (by decide) rfl (fun ls hl => ?_)
              refine lv_iconst (v := 0) hx hb dX52_type_92 (by decide) ?_
              refine lv_istore (lv' := [(6, .int 0), (5, .int 0), (0, .ref (ad 0)), (1, .int x1), (2, .int x2), (3, .int x3), (4, .int x4)]) hx hb dX52_type_93 hl (by decide) rfl (fun ls hl => ?_)
              obtain ⟨fu, hw⟩ := hw
              refine atX52_type_95 hc X ?_ fu 0 0 f_fact_66 f_maker_67 f_fired_68 f_firedCount_69 hw _ _ ls hH (lv_sub hl [2, 3, 4, 5, 6, 1, 0] rfl)
              · intro x5_71 f_fact_72 f_maker_73 f_fired_74 f_firedCount_75 hw H locs ls hH hl
                refine lv_iload hx hb dX52_type_153 (lv_at hl 5 rfl) ?_
                refine lv_if_eq (tgt := 165) hx hb dX52_type_155 (by decide) (fun c_76 => ?_) (fun c_76 => ?_)
                · have hw := hw.1 (z_eq (rfl : x5_71.toInt = _) (rfl : (0 : Int32).toInt = 0) c_76)
                  exact atX52_type_165 hc X (fun x3 x4 f_fact f_maker f_fired f_firedCount hw H locs ls hH hl => ih x3 x4 f_fact f_maker f_fired f_firedCount hw _ _ ls hH (lv_sub hl [0, 1, 2, 3, 4] rfl)) x3 x4 x5_71 f_fact_72 f_maker_73 f_fired_74 f_firedCount_75 hw _ _ ls hH (lv_sub hl [0, 1, 2, 3, 4, 5] rfl)
                · have hw := hw.2 (z_neq (rfl : x5_71.toInt = _) (rfl : (0 : Int32).toInt = 0) c_76)
                  refine lv_iload_n hx hb dX52_type_158 rfl (lv_at hl 3 rfl) ?_
                  refine lv_if_ne (tgt := 165) hx hb dX52_type_159 (by decide) (fun c_77 => ?_) (fun c_77 => ?_)
                  · have hw := hw.2 (z_ne (rfl : x3.toInt = _) (rfl : (0 : Int32).toInt = 0) c_77)
                    exact atX52_type_165 hc X (fun x3 x4 f_fact f_maker f_fired f_firedCount hw H locs ls hH hl => ih x3 x4 f_fact f_maker f_fired f_firedCount hw _ _ ls hH (lv_sub hl [0, 1, 2, 3, 4] rfl)) x3 x4 x5_71 f_fact_72 f_maker_73 f_fired_74 f_firedCount_75 hw _ _ ls hH (lv_sub hl [0, 1, 2, 3, 4, 5] rfl)
                  · have hw := hw.1 (z_eq (rfl : x3.toInt = _) (rfl : (0 : Int32).toInt = 0) c_77)
                    exact hk162 x4 f_fact_72 f_maker_73 f_fired_74 f_firedCount_75 hw _ _ ls hH (lv_sub hl [4] rfl)
            · have hw := hw.2 (z_neq (rfl : r_65.toInt = _) (rfl : (0 : Int32).toInt = 0) c_70)
              refine lv_iconst (v := 1) hx hb dX52_type_85 (by decide) ?_
              refine lv_goto (tgt := 90) hx hb dX52_type_86 (by decide) ?_
              refine lv_istore (lv' := [(5, .int 1), (0, .ref (ad 0)), (1, .int x1), (2, .int x2), (3, .int x3), (4, .int x4)]) hx hb dX52_type_90 hl (by decide) rfl (fun ls hl => ?_)
              refine lv_iconst (v := 0) hx hb dX52_type_92 (by decide) ?_
              refine lv_istore (lv' := [(6, .int 0), (5, .int 1), (0, .ref (ad 0)), (1, .int x1), (2, .int x2), (3, .int x3), (4, .int x4)]) hx hb dX52_type_93 hl (by decide) rfl (fun ls hl => ?_)
              obtain ⟨fu, hw⟩ := hw
              refine atX52_type_95 hc X ?_ fu 1 0 f_fact_66 f_maker_67 f_fired_68 f_firedCount_69 hw _ _ ls hH (lv_sub hl [2, 3, 4, 5, 6, 1, 0] rfl)
              · intro x5_78 f_fact_79 f_maker_80 f_fired_81 f_firedCount_82 hw H locs ls hH hl
                refine lv_iload hx hb dX52_type_153 (lv_at hl 5 rfl) ?_
                refine lv_if_eq (tgt := 165) hx hb dX52_type_155 (by decide) (fun c_83 => ?_) (fun c_83 => ?_)
                · have hw := hw.1 (z_eq (rfl : x5_78.toInt = _) (rfl : (0 : Int32).toInt = 0) c_83)
                  exact atX52_type_165 hc X (fun x3 x4 f_fact f_maker f_fired f_firedCount hw H locs ls hH hl => ih x3 x4 f_fact f_maker f_fired f_firedCount hw _ _ ls hH (lv_sub hl [0, 1, 2, 3, 4] rfl)) x3 x4 x5_78 f_fact_79 f_maker_80 f_fired_81 f_firedCount_82 hw _ _ ls hH (lv_sub hl [0, 1, 2, 3, 4, 5] rfl)
                · have hw := hw.2 (z_neq (rfl : x5_78.toInt = _) (rfl : (0 : Int32).toInt = 0) c_83)
                  refine lv_iload_n hx hb dX52_type_158 rfl (lv_at hl 3 rfl) ?_
                  refine lv_if_ne (tgt := 165) hx hb dX52_type_159 (by decide) (fun c_84 => ?_) (fun c_84 => ?_)
                  · have hw := hw.2 (z_ne (rfl : x3.toInt = _) (rfl : (0 : Int32).toInt = 0) c_84)
                    exact atX52_type_165 hc X (fun x3 x4 f_fact f_maker f_fired f_firedCount hw H locs ls hH hl => ih x3 x4 f_fact f_maker f_fired f_firedCount hw _ _ ls hH (lv_sub hl [0, 1, 2, 3, 4] rfl)) x3 x4 x5_78 f_fact_79 f_maker_80 f_fired_81 f_firedCount_82 hw _ _ ls hH (lv_sub hl [0, 1, 2, 3, 4, 5] rfl)
                  · have hw := hw.1 (z_eq (rfl : x3.toInt = _) (rfl : (0 : Int32).toInt = 0) c_84)
                    exact hk162 x4 f_fact_79 f_maker_80 f_fired_81 f_firedCount_82 hw _ _ ls hH (lv_sub hl [4] rfl)
set_option maxHeartbeats 4000000 in
theorem walkX52_type {l : Launch} {dC : Nat → ClassId} {dI : Nat → Nat → Nat} {cl : List vw_C} {ci : Nat} (hc : cl[ci]? = some (RX52, TX52, 23)) {ad : Nat → Nat} {d : Nat → ClassId} {sz : Nat} {f_thrown : Int32} {f_classes : Int32} {f_things : Int32} {f_axioms : Int32} {f_fuel : Int32} {f_questions : Int32} {f_sorted : Int32} {f_left : Nat → Int32} {f_other : Nat → Int32} {f_right : Nat → Int32} {f_there : Nat → Int32} {f_member : Nat → Int32} {f_state : Nat → Int32} {f_before : Nat → Int32} {f_placed : Nat → Int32} {f_looked : Nat → Int32} {f_fact : Nat → Int32} {f_maker : Nat → Int32} {f_fired : Nat → Int32} {f_firedCount : Int32} {f_needed : Nat → Int32} {f_module : Nat → Int32} {f_asked : Int32} {x1 : Int32} {x2 : Int32} {post : Int → (Int → Int) → (Int → Int) → (Int → Int) → Int → Prop} (hw : wpX52_type post f_classes.toInt f_things.toInt f_axioms.toInt f_fuel.toInt f_sorted.toInt (zF f_left) (zF f_other) (zF f_right) (zF f_there) (zF f_member) (zF f_state) (zF f_placed) (zF f_fact) (zF f_maker) (zF f_fired) f_firedCount.toInt x1.toInt x2.toInt) :
    Met l yX52_type (ws_ yX52_type cX52_type 7 (some .int)) ({ frames := 3, cells := 0, slots := 0, locals := 69 } : Room) (kPc (dC, dI) cl (tX52 d) [.ref (ad 0), .int x1, .int x2] sz (wX52 ci ad d f_thrown f_classes f_things f_axioms f_fuel f_questions f_sorted f_left f_other f_right f_there f_member f_state f_before f_placed f_looked f_fact f_maker f_fired f_firedCount f_needed f_module f_asked)) (va_Qi (fun (r : Int32) (u : (Nat → Int32) × (Nat → Int32) × (Nat → Int32) × Int32) => post r.toInt (zF (u.1)) (zF (u.2.1)) (zF (u.2.2.1)) (u.2.2.2).toInt) (kB (dC, dI) cl (tX52 d) (va_A (wX52 ci ad d f_thrown f_classes f_things f_axioms f_fuel f_questions f_sorted f_left f_other f_right f_there f_member f_state f_before f_placed f_looked f_fact f_maker f_fired f_firedCount f_needed f_module f_asked) sz) (fun u : (Nat → Int32) × (Nat → Int32) × (Nat → Int32) × Int32 => (wX52 ci ad d f_thrown f_classes f_things f_axioms f_fuel f_questions f_sorted f_left f_other f_right f_there f_member f_state f_before f_placed f_looked (u.1) (u.2.1) (u.2.2.1) (u.2.2.2) f_needed f_module f_asked))) (va_A (wX52 ci ad d f_thrown f_classes f_things f_axioms f_fuel f_questions f_sorted f_left f_other f_right f_there f_member f_state f_before f_placed f_looked f_fact f_maker f_fired f_firedCount f_needed f_module f_asked) sz)) 0 0 (va_A (wX52 ci ad d f_thrown f_classes f_things f_axioms f_fuel f_questions f_sorted f_left f_other f_right f_there f_member f_state f_before f_placed f_looked f_fact f_maker f_fired f_firedCount f_needed f_module f_asked) sz) := by
  refine k_enter (by decide) (Nat.le_of_ble_eq_true rfl) ?_
  intro p e s m below meth c ls X hsz hH hl
  subst hsz
  generalize va_A (wX52 ci ad d f_thrown f_classes f_things f_axioms f_fuel f_questions f_sorted f_left f_other f_right f_there f_member f_state f_before f_placed f_looked f_fact f_maker f_fired f_firedCount f_needed f_module f_asked) s.heap.size = A at hH ⊢
  have hx := X.1.1
  have hb := X.1.2.1
  have hl : lv_has ls 7 [(0, .ref (ad 0)), (1, .int x1), (2, .int x2)] := hl
  unfold wpX52_type at hw
  refine lv_iload_n hx hb dX52_type_0 rfl (lv_at hl 1 rfl) ?_
  refine lv_if_lt (tgt := 12) hx hb dX52_type_1 (by decide) (fun c_1 => ?_) (fun c_1 => ?_)
  · have hw := hw.1 (z_lt (rfl : x1.toInt = _) (rfl : (0 : Int32).toInt = 0) c_1)
    refine lv_iconst (v := (-1)) hx hb dX52_type_12 (by decide) ?_
    exact k_iret (v := (-1)) X hH (f_fact, f_maker, f_fired, f_firedCount) hw rfl rfl dX52_type_13
  · have hw := hw.2 (z_nlt (rfl : x1.toInt = _) (rfl : (0 : Int32).toInt = 0) c_1)
    refine lv_iload_n hx hb dX52_type_4 rfl (lv_at hl 1 rfl) ?_
    refine lv_aload_n hx hb dX52_type_5 rfl (lv_at hl 0 rfl) ?_
    refine k_get X hH in_X52 0 rfl hc 2 (by decide) q6383 rfl dX52_type_6 ?_
    refine lv_icmp_lt (tgt := 14) hx hb dX52_type_9 (by decide) (fun c_2 => ?_) (fun c_2 => ?_)
    · have hw := hw.1 (z_lt (rfl : x1.toInt = _) (rfl : f_things.toInt = _) c_2)
      refine lv_aload_n hx hb dX52_type_14 rfl (lv_at hl 0 rfl) ?_
      refine k_get X hH in_X52 0 rfl hc 6 (by decide) q6387 rfl dX52_type_15 ?_
      refine lv_if_ne (tgt := 24) hx hb dX52_type_18 (by decide) (fun c_3 => ?_) (fun c_3 => ?_)
      · have hw := hw.2 (z_ne (rfl : f_sorted.toInt = _) (rfl : (0 : Int32).toInt = 0) c_3)
        refine lv_aload_n hx hb dX52_type_24 rfl (lv_at hl 0 rfl) ?_
        refine lv_iload_n hx hb dX52_type_25 rfl (lv_at hl 1 rfl) ?_
        refine lv_bipush (v := 20) hx hb dX52_type_26 (by decide) ?_
        refine k_i0 hH (k_runV (As := [.int x1, .int 20]) (rest := []) X hH.1 hH.2.1 X.2.2.2 (walkX52_reasonThing hc (x1 := x1) (x2 := 20) (f_thrown := f_thrown) (f_classes := f_classes) (f_things := f_things) (f_axioms := f_axioms) (f_fuel := f_fuel) (f_questions := f_questions) (f_sorted := f_sorted) (f_left := f_left) (f_other := f_other) (f_right := f_right) (f_there := f_there) (f_member := f_member) (f_state := f_state) (f_before := f_before) (f_placed := f_placed) (f_looked := f_looked) (f_fact := f_fact) (f_maker := f_maker) (f_fired := f_fired) (f_firedCount := f_firedCount) (f_needed := f_needed) (f_module := f_module) (f_asked := f_asked) hw) (cwV 2 X.1.2.2.2.2 gX52_154 rfl rfl rfl hX52_reasonThing ⟨Nat.le_of_ble_eq_true rfl, Nat.le_of_ble_eq_true rfl⟩) hc (q0 := 0) rfl rfl hl.1 rfl (Nat.le_of_ble_eq_true rfl) dX52_type_28 ⟨Nat.le_refl 0, Nat.le_refl 0⟩) (fun r_4 u H locs hw hH => ?_)
        obtain ⟨f_fact_5, f_maker_6, f_fired_7, f_firedCount_8⟩ := u
        have hH : kH (dC, dI) cl A s.heap H locs (wX52 ci ad d f_thrown f_classes f_things f_axioms f_fuel f_questions f_sorted f_left f_other f_right f_there f_member f_state f_before f_placed f_looked f_fact_5 f_maker_6 f_fired_7 f_firedCount_8 f_needed f_module f_asked) := hH
        refine lv_iconst (v := 1) hx hb dX52_type_31 (by decide) ?_
        refine lv_icmp_ne (tgt := 38) hx hb dX52_type_32 (by decide) (fun c_9 => ?_) (fun c_9 => ?_)
        · have hw := hw.2 (z_ne (rfl : r_4.toInt = _) (rfl : (1 : Int32).toInt = 1) c_9)
          refine lv_iload_n hx hb dX52_type_38 rfl (lv_at hl 2 rfl) ?_
          refine lv_istore_n (lv' := [(3, .int x2), (0, .ref (ad 0)), (1, .int x1), (2, .int x2)]) hx hb dX52_type_39 rfl hl (by decide) rfl (fun ls hl => ?_)
          refine lv_iconst (v := 0) hx hb dX52_type_40 (by decide) ?_
          refine lv_istore (lv' := [(4, .int 0), (3, .int x2), (0, .ref (ad 0)), (1, .int x1), (2, .int x2)]) hx hb dX52_type_41 hl (by decide) rfl (fun ls hl => ?_)
          obtain ⟨fu, hw⟩ := hw
          refine atX52_type_43 hc X ?_ ?_ fu x2 0 f_fact_5 f_maker_6 f_fired_7 f_firedCount_8 hw _ _ ls hH (lv_sub hl [2, 3, 4, 1, 0] rfl)
          · intro x4_85 f_fact_86 f_maker_87 f_fired_88 f_firedCount_89 hw H locs ls hH hl
            refine lv_iload hx hb dX52_type_162 (lv_at hl 0 rfl) ?_
            exact k_iret (v := x4_85) X hH (f_fact_86, f_maker_87, f_fired_88, f_firedCount_89) hw rfl rfl dX52_type_164
          · intro f_fact_90 f_maker_91 f_fired_92 f_firedCount_93 hw H locs ls hH hl
            refine lv_bipush (v := (-6)) hx hb dX52_type_184 (by decide) ?_
            exact k_iret (v := (-6)) X hH (f_fact_90, f_maker_91, f_fired_92, f_firedCount_93) hw rfl rfl dX52_type_186
        · have hw := hw.1 (z_eq (rfl : r_4.toInt = _) (rfl : (1 : Int32).toInt = 1) c_9)
          refine lv_bipush (v := (-5)) hx hb dX52_type_35 (by decide) ?_
          exact k_iret (v := (-5)) X hH (f_fact_5, f_maker_6, f_fired_7, f_firedCount_8) hw rfl rfl dX52_type_37
      · have hw := hw.1 (z_eq (rfl : f_sorted.toInt = _) (rfl : (0 : Int32).toInt = 0) c_3)
        refine lv_bipush (v := (-3)) hx hb dX52_type_21 (by decide) ?_
        exact k_iret (v := (-3)) X hH (f_fact, f_maker, f_fired, f_firedCount) hw rfl rfl dX52_type_23
    · have hw := hw.2 (z_nlt (rfl : x1.toInt = _) (rfl : f_things.toInt = _) c_2)
      refine lv_iconst (v := (-1)) hx hb dX52_type_12 (by decide) ?_
      exact k_iret (v := (-1)) X hH (f_fact, f_maker, f_fired, f_firedCount) hw rfl rfl dX52_type_13
set_option maxHeartbeats 4000000 in
theorem atX52_trace_46 {p : Program} {l : Launch} {e : Env} {s : State} {m : MethodId} {args : Array Value} {below : List Frame} {meth : Method} {c : Code} {dC : Nat → ClassId} {dI : Nat → Nat → Nat} {cl : List vw_C} {ci : Nat} (hc : cl[ci]? = some (RX52, TX52, 23)) {ad : Nat → Nat} {d : Nat → ClassId} {A : Nat → Prop} {post : Int → (Int → Int) → (Int → Int) → (Int → Int) → Int → (Int → Int) → Prop} {f_thrown : Int32} {f_classes : Int32} {f_things : Int32} {f_axioms : Int32} {f_fuel : Int32} {f_questions : Int32} {f_sorted : Int32} {f_left : Nat → Int32} {f_other : Nat → Int32} {f_right : Nat → Int32} {f_there : Nat → Int32} {f_member : Nat → Int32} {f_state : Nat → Int32} {f_before : Nat → Int32} {f_placed : Nat → Int32} {f_looked : Nat → Int32} {f_module : Nat → Int32} {f_asked : Int32} (X : kX p s m args meth c cX52_trace 8 RX52 (some .int) (dC, dI) cl (tX52 d)) {K67 : (Int → Int) → Prop} {x3 : Int32} {f_fact : Nat → Int32} {f_maker : Nat → Int32} {f_fired : Nat → Int32} {f_firedCount : Int32} (hk67 : ∀ (f_needed : Nat → Int32), K67 (zF f_needed) → ∀ (H : Heap) (locs : List Loc) (ls : Array Slot), kH (dC, dI) cl A s.heap H locs (wX52 ci ad d f_thrown f_classes f_things f_axioms f_fuel f_questions f_sorted f_left f_other f_right f_there f_member f_state f_before f_placed f_looked f_fact f_maker f_fired f_firedCount f_needed f_module f_asked) → lv_has ls 8 [(0, .ref (ad 0)), (3, .int x3)] → W p l e ({ frames := 2, cells := 0, slots := 0, locals := 47 } : Room) s m args below meth c H locs 0 0 (MQ below (va_Qi (fun (r : Int32) (u : (Nat → Int32) × (Nat → Int32) × (Nat → Int32) × Int32 × (Nat → Int32)) => post r.toInt (zF (u.1)) (zF (u.2.1)) (zF (u.2.2.1)) (u.2.2.2.1).toInt (zF (u.2.2.2.2))) (kB (dC, dI) cl (tX52 d) A (fun u : (Nat → Int32) × (Nat → Int32) × (Nat → Int32) × Int32 × (Nat → Int32) => (wX52 ci ad d f_thrown f_classes f_things f_axioms f_fuel f_questions f_sorted f_left f_other f_right f_there f_member f_state f_before f_placed f_looked (u.1) (u.2.1) (u.2.2.1) (u.2.2.2.1) (u.2.2.2.2) f_module f_asked))) A) args s 0 0 A) (F0 m 67 ls [])) :
    ∀ (nn : Nat) (x5 : Int32) (f_needed : Nat → Int32), wX52_trace_46 K67 nn x5.toInt (zF f_needed) → ∀ (H : Heap) (locs : List Loc) (ls : Array Slot), kH (dC, dI) cl A s.heap H locs (wX52 ci ad d f_thrown f_classes f_things f_axioms f_fuel f_questions f_sorted f_left f_other f_right f_there f_member f_state f_before f_placed f_looked f_fact f_maker f_fired f_firedCount f_needed f_module f_asked) → lv_has ls 8 [(0, .ref (ad 0)), (3, .int x3), (5, .int x5)] → W p l e ({ frames := 2, cells := 0, slots := 0, locals := 47 } : Room) s m args below meth c H locs 0 0 (MQ below (va_Qi (fun (r : Int32) (u : (Nat → Int32) × (Nat → Int32) × (Nat → Int32) × Int32 × (Nat → Int32)) => post r.toInt (zF (u.1)) (zF (u.2.1)) (zF (u.2.2.1)) (u.2.2.2.1).toInt (zF (u.2.2.2.2))) (kB (dC, dI) cl (tX52 d) A (fun u : (Nat → Int32) × (Nat → Int32) × (Nat → Int32) × Int32 × (Nat → Int32) => (wX52 ci ad d f_thrown f_classes f_things f_axioms f_fuel f_questions f_sorted f_left f_other f_right f_there f_member f_state f_before f_placed f_looked (u.1) (u.2.1) (u.2.2.1) (u.2.2.2.1) (u.2.2.2.2) f_module f_asked))) A) args s 0 0 A) (F0 m 46 ls []) := by
  have hx := X.1.1
  have hb := X.1.2.1
  intro nn
  induction nn with
  | zero =>
    intro x5 f_needed hw
    exact False.elim hw
  | succ n ih =>
    intro x5 f_needed hw H locs ls hH hl
    rw [wX52_trace_46] at hw
    refine lv_iload hx hb dX52_trace_46 (lv_at hl 2 rfl) ?_
    refine lv_bipush (v := 40) hx hb dX52_trace_48 (by decide) ?_
    refine lv_icmp_ge (tgt := 67) hx hb dX52_trace_50 (by decide) (fun c_12 => ?_) (fun c_12 => ?_)
    · have hw := hw.1 (z_le (rfl : (40 : Int32).toInt = 40) (rfl : x5.toInt = _) c_12)
      exact hk67 f_needed hw _ _ ls hH (lv_sub hl [0, 1] rfl)
    · have hw := hw.2 (z_nle (rfl : (40 : Int32).toInt = 40) (rfl : x5.toInt = _) c_12)
      refine lv_aload_n hx hb dX52_trace_53 rfl (lv_at hl 0 rfl) ?_
      refine k_get X hH in_X52 0 rfl hc 20 (by decide) q6401 rfl dX52_trace_54 ?_
      refine lv_iload hx hb dX52_trace_57 (lv_at hl 2 rfl) ?_
      refine lv_iconst (v := 0) hx hb dX52_trace_59 (by decide) ?_
      have hq_14 := hw.1
      have hw := hw.2
      obtain ⟨f_needed_13, ef_needed_13⟩ : ∃ y : Nat → Int32, y = upd f_needed x5.toNatClampNeg (vp_nar .boolean 0) := ⟨_, rfl⟩
      refine k_zast X hH 13 12 rfl rfl (z_in (rfl : x5.toInt = _) hq_14) dX52_trace_60 ef_needed_13 (ws1 := (wX52 ci ad d f_thrown f_classes f_things f_axioms f_fuel f_questions f_sorted f_left f_other f_right f_there f_member f_state f_before f_placed f_looked f_fact f_maker f_fired f_firedCount f_needed_13 f_module f_asked)) rfl (fun H locs hH => ?_)
      have hw := hw (zF f_needed_13) (by rw [ef_needed_13]; exact z_st (f := f_needed) (rfl : x5.toInt = _) hq_14.1 (z_narZ (rfl : (0 : Int32).toInt = 0) (by decide)))
      have hq_16 := hw.1
      have hw := hw.2
      obtain ⟨x5_15, ex5_15⟩ : ∃ y : Int32, y = x5 + 1 := ⟨_, rfl⟩
      have hw := hw x5_15.toInt (by rw [ex5_15]; exact (z_x (z_add (z_m (rfl : x5.toInt = _)) (z_m (rfl : (1 : Int32).toInt = 1))) hq_16))
      refine lv_iinc (v := x5_15) (lv' := [(5, .int x5_15), (0, .ref (ad 0)), (3, .int x3)]) hx hb dX52_trace_61 hl (k := 2) rfl (by rw [ex5_15]; rfl) (by decide) rfl (fun ls hl => ?_)
      refine lv_goto (tgt := 46) hx hb dX52_trace_64 (by decide) ?_
      exact ih x5_15 f_needed_13 hw _ _ ls hH (lv_sub hl [1, 2, 0] rfl)
set_option maxHeartbeats 4000000 in
theorem atX52_trace_149 {p : Program} {l : Launch} {e : Env} {s : State} {m : MethodId} {args : Array Value} {below : List Frame} {meth : Method} {c : Code} {dC : Nat → ClassId} {dI : Nat → Nat → Nat} {cl : List vw_C} {ci : Nat} (hc : cl[ci]? = some (RX52, TX52, 23)) {ad : Nat → Nat} {d : Nat → ClassId} {A : Nat → Prop} {post : Int → (Int → Int) → (Int → Int) → (Int → Int) → Int → (Int → Int) → Prop} {f_thrown : Int32} {f_classes : Int32} {f_things : Int32} {f_axioms : Int32} {f_fuel : Int32} {f_questions : Int32} {f_sorted : Int32} {f_left : Nat → Int32} {f_other : Nat → Int32} {f_right : Nat → Int32} {f_there : Nat → Int32} {f_member : Nat → Int32} {f_state : Nat → Int32} {f_before : Nat → Int32} {f_placed : Nat → Int32} {f_looked : Nat → Int32} {f_module : Nat → Int32} {f_asked : Int32} (X : kX p s m args meth c cX52_trace 8 RX52 (some .int) (dC, dI) cl (tX52 d)) {K92 : Int → (Int → Int) → Prop} {x3 : Int32} {f_fact : Nat → Int32} {f_maker : Nat → Int32} {f_fired : Nat → Int32} {f_firedCount : Int32} (hk92 : ∀ (x5 : Int32) (f_needed : Nat → Int32), K92 x5.toInt (zF f_needed) → ∀ (H : Heap) (locs : List Loc) (ls : Array Slot), kH (dC, dI) cl A s.heap H locs (wX52 ci ad d f_thrown f_classes f_things f_axioms f_fuel f_questions f_sorted f_left f_other f_right f_there f_member f_state f_before f_placed f_looked f_fact f_maker f_fired f_firedCount f_needed f_module f_asked) → lv_has ls 8 [(0, .ref (ad 0)), (3, .int x3), (5, .int x5)] → W p l e ({ frames := 2, cells := 0, slots := 0, locals := 47 } : Room) s m args below meth c H locs 0 0 (MQ below (va_Qi (fun (r : Int32) (u : (Nat → Int32) × (Nat → Int32) × (Nat → Int32) × Int32 × (Nat → Int32)) => post r.toInt (zF (u.1)) (zF (u.2.1)) (zF (u.2.2.1)) (u.2.2.2.1).toInt (zF (u.2.2.2.2))) (kB (dC, dI) cl (tX52 d) A (fun u : (Nat → Int32) × (Nat → Int32) × (Nat → Int32) × Int32 × (Nat → Int32) => (wX52 ci ad d f_thrown f_classes f_things f_axioms f_fuel f_questions f_sorted f_left f_other f_right f_there f_member f_state f_before f_placed f_looked (u.1) (u.2.1) (u.2.2.1) (u.2.2.2.1) (u.2.2.2.2) f_module f_asked))) A) args s 0 0 A) (F0 m 92 ls [])) :
    ∀ (x5 : Int32) (x6 : Int32) (f_needed : Nat → Int32), wX52_trace_149 K92 x5.toInt x6.toInt (zF f_other) (zF f_maker) (zF f_needed) → ∀ (H : Heap) (locs : List Loc) (ls : Array Slot), kH (dC, dI) cl A s.heap H locs (wX52 ci ad d f_thrown f_classes f_things f_axioms f_fuel f_questions f_sorted f_left f_other f_right f_there f_member f_state f_before f_placed f_looked f_fact f_maker f_fired f_firedCount f_needed f_module f_asked) → lv_has ls 8 [(0, .ref (ad 0)), (3, .int x3), (5, .int x5), (6, .int x6)] → W p l e ({ frames := 2, cells := 0, slots := 0, locals := 47 } : Room) s m args below meth c H locs 0 0 (MQ below (va_Qi (fun (r : Int32) (u : (Nat → Int32) × (Nat → Int32) × (Nat → Int32) × Int32 × (Nat → Int32)) => post r.toInt (zF (u.1)) (zF (u.2.1)) (zF (u.2.2.1)) (u.2.2.2.1).toInt (zF (u.2.2.2.2))) (kB (dC, dI) cl (tX52 d) A (fun u : (Nat → Int32) × (Nat → Int32) × (Nat → Int32) × Int32 × (Nat → Int32) => (wX52 ci ad d f_thrown f_classes f_things f_axioms f_fuel f_questions f_sorted f_left f_other f_right f_there f_member f_state f_before f_placed f_looked (u.1) (u.2.1) (u.2.2.1) (u.2.2.2.1) (u.2.2.2.2) f_module f_asked))) A) args s 0 0 A) (F0 m 149 ls []) := by
  have hx := X.1.1
  have hb := X.1.2.1
  intro x5 x6 f_needed hw H locs ls hH hl
  unfold wX52_trace_149 at hw
  refine lv_aload_n hx hb dX52_trace_149 rfl (lv_at hl 0 rfl) ?_
  refine k_get X hH in_X52 0 rfl hc 8 (by decide) q6389 rfl dX52_trace_150 ?_
  refine lv_iload hx hb dX52_trace_153 (lv_at hl 3 rfl) ?_
  have hq_41 := hw.1
  have hw := hw.2
  refine k_iald X hH 2 1 rfl rfl (z_in (rfl : x6.toInt = _) hq_41) dX52_trace_155 ?_
  have e_42 := z_ld (f := f_other) (rfl : x6.toInt = _) hq_41.1
  refine lv_if_lt (tgt := 192) hx hb dX52_trace_156 (by decide) (fun c_43 => ?_) (fun c_43 => ?_)
  · have hw := hw.1 (z_lt e_42 (rfl : (0 : Int32).toInt = 0) c_43)
    have hq_45 := hw.1
    have hw := hw.2
    obtain ⟨x5_44, ex5_44⟩ : ∃ y : Int32, y = x5 + (-1) := ⟨_, rfl⟩
    have hw := hw x5_44.toInt (by rw [ex5_44]; exact (z_x (z_add (z_m (rfl : x5.toInt = _)) (z_m (rfl : ((-1) : Int32).toInt = (-1)))) hq_45))
    refine lv_iinc (v := x5_44) (lv' := [(5, .int x5_44), (0, .ref (ad 0)), (3, .int x3), (6, .int x6)]) hx hb dX52_trace_192 hl (k := 2) rfl (by rw [ex5_44]; rfl) (by decide) rfl (fun ls hl => ?_)
    refine lv_goto (tgt := 92) hx hb dX52_trace_195 (by decide) ?_
    exact hk92 x5_44 f_needed hw _ _ ls hH (lv_sub hl [1, 2, 0] rfl)
  · have hw := hw.2 (z_nlt e_42 (rfl : (0 : Int32).toInt = 0) c_43)
    refine lv_aload_n hx hb dX52_trace_159 rfl (lv_at hl 0 rfl) ?_
    refine k_get X hH in_X52 0 rfl hc 17 (by decide) q6398 rfl dX52_trace_160 ?_
    refine lv_aload_n hx hb dX52_trace_163 rfl (lv_at hl 0 rfl) ?_
    refine k_get X hH in_X52 0 rfl hc 8 (by decide) q6389 rfl dX52_trace_164 ?_
    refine lv_iload hx hb dX52_trace_167 (lv_at hl 3 rfl) ?_
    refine k_iald X hH 2 1 rfl rfl (z_in (rfl : x6.toInt = _) hq_41) dX52_trace_169 ?_
    have e_46 := z_ld (f := f_other) (rfl : x6.toInt = _) hq_41.1
    have hq_47 := hw.1
    have hw := hw.2
    refine k_iald X hH 11 10 rfl rfl (z_in e_46 hq_47) dX52_trace_170 ?_
    have e_48 := z_ld (f := f_maker) e_46 hq_47.1
    refine lv_if_lt (tgt := 192) hx hb dX52_trace_171 (by decide) (fun c_49 => ?_) (fun c_49 => ?_)
    · have hw := hw.1 (z_lt e_48 (rfl : (0 : Int32).toInt = 0) c_49)
      have hq_51 := hw.1
      have hw := hw.2
      obtain ⟨x5_50, ex5_50⟩ : ∃ y : Int32, y = x5 + (-1) := ⟨_, rfl⟩
      have hw := hw x5_50.toInt (by rw [ex5_50]; exact (z_x (z_add (z_m (rfl : x5.toInt = _)) (z_m (rfl : ((-1) : Int32).toInt = (-1)))) hq_51))
      refine lv_iinc (v := x5_50) (lv' := [(5, .int x5_50), (0, .ref (ad 0)), (3, .int x3), (6, .int x6)]) hx hb dX52_trace_192 hl (k := 2) rfl (by rw [ex5_50]; rfl) (by decide) rfl (fun ls hl => ?_)
      refine lv_goto (tgt := 92) hx hb dX52_trace_195 (by decide) ?_
      exact hk92 x5_50 f_needed hw _ _ ls hH (lv_sub hl [1, 2, 0] rfl)
    · have hw := hw.2 (z_nlt e_48 (rfl : (0 : Int32).toInt = 0) c_49)
      refine lv_aload_n hx hb dX52_trace_174 rfl (lv_at hl 0 rfl) ?_
      refine k_get X hH in_X52 0 rfl hc 20 (by decide) q6401 rfl dX52_trace_175 ?_
      refine lv_aload_n hx hb dX52_trace_178 rfl (lv_at hl 0 rfl) ?_
      refine k_get X hH in_X52 0 rfl hc 17 (by decide) q6398 rfl dX52_trace_179 ?_
      refine lv_aload_n hx hb dX52_trace_182 rfl (lv_at hl 0 rfl) ?_
      refine k_get X hH in_X52 0 rfl hc 8 (by decide) q6389 rfl dX52_trace_183 ?_
      refine lv_iload hx hb dX52_trace_186 (lv_at hl 3 rfl) ?_
      refine k_iald X hH 2 1 rfl rfl (z_in (rfl : x6.toInt = _) hq_41) dX52_trace_188 ?_
      have e_52 := z_ld (f := f_other) (rfl : x6.toInt = _) hq_41.1
      refine k_iald X hH 11 10 rfl rfl (z_in e_52 hq_47) dX52_trace_189 ?_
      have e_53 := z_ld (f := f_maker) e_52 hq_47.1
      refine lv_iconst (v := 1) hx hb dX52_trace_190 (by decide) ?_
      have hq_55 := hw.1
      have hw := hw.2
      obtain ⟨f_needed_54, ef_needed_54⟩ : ∃ y : Nat → Int32, y = upd f_needed (f_maker (f_other x6.toNatClampNeg).toNatClampNeg).toNatClampNeg (vp_nar .boolean 1) := ⟨_, rfl⟩
      refine k_zast X hH 13 12 rfl rfl (z_in e_53 hq_55) dX52_trace_191 ef_needed_54 (ws1 := (wX52 ci ad d f_thrown f_classes f_things f_axioms f_fuel f_questions f_sorted f_left f_other f_right f_there f_member f_state f_before f_placed f_looked f_fact f_maker f_fired f_firedCount f_needed_54 f_module f_asked)) rfl (fun H locs hH => ?_)
      have hw := hw (zF f_needed_54) (by rw [ef_needed_54]; exact z_st (f := f_needed) e_53 hq_55.1 (z_narZ (rfl : (1 : Int32).toInt = 1) (by decide)))
      have hq_57 := hw.1
      have hw := hw.2
      obtain ⟨x5_56, ex5_56⟩ : ∃ y : Int32, y = x5 + (-1) := ⟨_, rfl⟩
      have hw := hw x5_56.toInt (by rw [ex5_56]; exact (z_x (z_add (z_m (rfl : x5.toInt = _)) (z_m (rfl : ((-1) : Int32).toInt = (-1)))) hq_57))
      refine lv_iinc (v := x5_56) (lv' := [(5, .int x5_56), (0, .ref (ad 0)), (3, .int x3), (6, .int x6)]) hx hb dX52_trace_192 hl (k := 2) rfl (by rw [ex5_56]; rfl) (by decide) rfl (fun ls hl => ?_)
      refine lv_goto (tgt := 92) hx hb dX52_trace_195 (by decide) ?_
      exact hk92 x5_56 f_needed_54 hw _ _ ls hH (lv_sub hl [1, 2, 0] rfl)
set_option maxHeartbeats 4000000 in
theorem atX52_trace_92 {p : Program} {l : Launch} {e : Env} {s : State} {m : MethodId} {args : Array Value} {below : List Frame} {meth : Method} {c : Code} {dC : Nat → ClassId} {dI : Nat → Nat → Nat} {cl : List vw_C} {ci : Nat} (hc : cl[ci]? = some (RX52, TX52, 23)) {ad : Nat → Nat} {d : Nat → ClassId} {A : Nat → Prop} {post : Int → (Int → Int) → (Int → Int) → (Int → Int) → Int → (Int → Int) → Prop} {f_thrown : Int32} {f_classes : Int32} {f_things : Int32} {f_axioms : Int32} {f_fuel : Int32} {f_questions : Int32} {f_sorted : Int32} {f_left : Nat → Int32} {f_other : Nat → Int32} {f_right : Nat → Int32} {f_there : Nat → Int32} {f_member : Nat → Int32} {f_state : Nat → Int32} {f_before : Nat → Int32} {f_placed : Nat → Int32} {f_looked : Nat → Int32} {f_module : Nat → Int32} {f_asked : Int32} (X : kX p s m args meth c cX52_trace 8 RX52 (some .int) (dC, dI) cl (tX52 d)) {K198 : (Int → Int) → Prop} {x3 : Int32} {f_fact : Nat → Int32} {f_maker : Nat → Int32} {f_fired : Nat → Int32} {f_firedCount : Int32} (hk198 : ∀ (f_needed : Nat → Int32), K198 (zF f_needed) → ∀ (H : Heap) (locs : List Loc) (ls : Array Slot), kH (dC, dI) cl A s.heap H locs (wX52 ci ad d f_thrown f_classes f_things f_axioms f_fuel f_questions f_sorted f_left f_other f_right f_there f_member f_state f_before f_placed f_looked f_fact f_maker f_fired f_firedCount f_needed f_module f_asked) → lv_has ls 8 [(0, .ref (ad 0)), (3, .int x3)] → W p l e ({ frames := 2, cells := 0, slots := 0, locals := 47 } : Room) s m args below meth c H locs 0 0 (MQ below (va_Qi (fun (r : Int32) (u : (Nat → Int32) × (Nat → Int32) × (Nat → Int32) × Int32 × (Nat → Int32)) => post r.toInt (zF (u.1)) (zF (u.2.1)) (zF (u.2.2.1)) (u.2.2.2.1).toInt (zF (u.2.2.2.2))) (kB (dC, dI) cl (tX52 d) A (fun u : (Nat → Int32) × (Nat → Int32) × (Nat → Int32) × Int32 × (Nat → Int32) => (wX52 ci ad d f_thrown f_classes f_things f_axioms f_fuel f_questions f_sorted f_left f_other f_right f_there f_member f_state f_before f_placed f_looked (u.1) (u.2.1) (u.2.2.1) (u.2.2.2.1) (u.2.2.2.2) f_module f_asked))) A) args s 0 0 A) (F0 m 198 ls [])) :
    ∀ (nn : Nat) (x5 : Int32) (f_needed : Nat → Int32), wX52_trace_92 K198 (zF f_left) (zF f_other) (zF f_maker) (zF f_fired) nn x5.toInt (zF f_needed) → ∀ (H : Heap) (locs : List Loc) (ls : Array Slot), kH (dC, dI) cl A s.heap H locs (wX52 ci ad d f_thrown f_classes f_things f_axioms f_fuel f_questions f_sorted f_left f_other f_right f_there f_member f_state f_before f_placed f_looked f_fact f_maker f_fired f_firedCount f_needed f_module f_asked) → lv_has ls 8 [(0, .ref (ad 0)), (3, .int x3), (5, .int x5)] → W p l e ({ frames := 2, cells := 0, slots := 0, locals := 47 } : Room) s m args below meth c H locs 0 0 (MQ below (va_Qi (fun (r : Int32) (u : (Nat → Int32) × (Nat → Int32) × (Nat → Int32) × Int32 × (Nat → Int32)) => post r.toInt (zF (u.1)) (zF (u.2.1)) (zF (u.2.2.1)) (u.2.2.2.1).toInt (zF (u.2.2.2.2))) (kB (dC, dI) cl (tX52 d) A (fun u : (Nat → Int32) × (Nat → Int32) × (Nat → Int32) × Int32 × (Nat → Int32) => (wX52 ci ad d f_thrown f_classes f_things f_axioms f_fuel f_questions f_sorted f_left f_other f_right f_there f_member f_state f_before f_placed f_looked (u.1) (u.2.1) (u.2.2.1) (u.2.2.2.1) (u.2.2.2.2) f_module f_asked))) A) args s 0 0 A) (F0 m 92 ls []) := by
  have hx := X.1.1
  have hb := X.1.2.1
  intro nn
  induction nn with
  | zero =>
    intro x5 f_needed hw
    exact False.elim hw
  | succ n ih =>
    intro x5 f_needed hw H locs ls hH hl
    rw [wX52_trace_92] at hw
    refine lv_iload hx hb dX52_trace_92 (lv_at hl 2 rfl) ?_
    refine lv_if_lt (tgt := 198) hx hb dX52_trace_94 (by decide) (fun c_28 => ?_) (fun c_28 => ?_)
    · have hw := hw.1 (z_lt (rfl : x5.toInt = _) (rfl : (0 : Int32).toInt = 0) c_28)
      exact hk198 f_needed hw _ _ ls hH (lv_sub hl [0, 1] rfl)
    · have hw := hw.2 (z_nlt (rfl : x5.toInt = _) (rfl : (0 : Int32).toInt = 0) c_28)
      refine lv_aload_n hx hb dX52_trace_97 rfl (lv_at hl 0 rfl) ?_
      refine k_get X hH in_X52 0 rfl hc 18 (by decide) q6399 rfl dX52_trace_98 ?_
      refine lv_iload hx hb dX52_trace_101 (lv_at hl 2 rfl) ?_
      have hq_29 := hw.1
      have hw := hw.2
      refine k_iald X hH 12 11 rfl rfl (z_in (rfl : x5.toInt = _) hq_29) dX52_trace_103 ?_
      have e_30 := z_ld (f := f_fired) (rfl : x5.toInt = _) hq_29.1
      refine lv_topi (fun x6_31 ex6_31 => ?_)
      have hw := hw x6_31.toInt (by rw [ex6_31]; exact e_30)
      refine lv_istore (lv' := [(6, .int x6_31), (0, .ref (ad 0)), (3, .int x3), (5, .int x5)]) hx hb dX52_trace_104 hl (by decide) rfl (fun ls hl => ?_)
      refine lv_aload_n hx hb dX52_trace_106 rfl (lv_at hl 1 rfl) ?_
      refine k_get X hH in_X52 0 rfl hc 20 (by decide) q6401 rfl dX52_trace_107 ?_
      refine lv_iload hx hb dX52_trace_110 (lv_at hl 0 rfl) ?_
      have hq_32 := hw.1
      have hw := hw.2
      refine k_zald X hH 13 12 rfl rfl (z_in (rfl : x6_31.toInt = _) hq_32) dX52_trace_112 ?_
      have e_33 := z_ld (f := f_needed) (rfl : x6_31.toInt = _) hq_32.1
      refine lv_if_eq (tgt := 192) hx hb dX52_trace_113 (by decide) (fun c_34 => ?_) (fun c_34 => ?_)
      · have hw := hw.1 (z_eq e_33 (rfl : (0 : Int32).toInt = 0) c_34)
        have hq_36 := hw.1
        have hw := hw.2
        obtain ⟨x5_35, ex5_35⟩ : ∃ y : Int32, y = x5 + (-1) := ⟨_, rfl⟩
        have hw := hw x5_35.toInt (by rw [ex5_35]; exact (z_x (z_add (z_m (rfl : x5.toInt = _)) (z_m (rfl : ((-1) : Int32).toInt = (-1)))) hq_36))
        refine lv_iinc (v := x5_35) (lv' := [(5, .int x5_35), (6, .int x6_31), (0, .ref (ad 0)), (3, .int x3)]) hx hb dX52_trace_192 hl (k := 3) rfl (by rw [ex5_35]; rfl) (by decide) rfl (fun ls hl => ?_)
        refine lv_goto (tgt := 92) hx hb dX52_trace_195 (by decide) ?_
        exact ih x5_35 f_needed hw _ _ ls hH (lv_sub hl [2, 3, 0] rfl)
      · have hw := hw.2 (z_neq e_33 (rfl : (0 : Int32).toInt = 0) c_34)
        refine lv_aload_n hx hb dX52_trace_116 rfl (lv_at hl 1 rfl) ?_
        refine k_get X hH in_X52 0 rfl hc 17 (by decide) q6398 rfl dX52_trace_117 ?_
        refine lv_aload_n hx hb dX52_trace_120 rfl (lv_at hl 1 rfl) ?_
        refine k_get X hH in_X52 0 rfl hc 7 (by decide) q6388 rfl dX52_trace_121 ?_
        refine lv_iload hx hb dX52_trace_124 (lv_at hl 0 rfl) ?_
        refine k_iald X hH 1 0 rfl rfl (z_in (rfl : x6_31.toInt = _) hq_32) dX52_trace_126 ?_
        have e_37 := z_ld (f := f_left) (rfl : x6_31.toInt = _) hq_32.1
        have hq_38 := hw.1
        have hw := hw.2
        refine k_iald X hH 11 10 rfl rfl (z_in e_37 hq_38) dX52_trace_127 ?_
        have e_39 := z_ld (f := f_maker) e_37 hq_38.1
        refine lv_if_lt (tgt := 149) hx hb dX52_trace_128 (by decide) (fun c_40 => ?_) (fun c_40 => ?_)
        · have hw := hw.1 (z_lt e_39 (rfl : (0 : Int32).toInt = 0) c_40)
          exact atX52_trace_149 hc X (fun x5 f_needed hw H locs ls hH hl => ih x5 f_needed hw _ _ ls hH (lv_sub hl [0, 1, 2] rfl)) x5 x6_31 f_needed hw _ _ ls hH (lv_sub hl [1, 2, 3, 0] rfl)
        · have hw := hw.2 (z_nlt e_39 (rfl : (0 : Int32).toInt = 0) c_40)
          refine lv_aload_n hx hb dX52_trace_131 rfl (lv_at hl 1 rfl) ?_
          refine k_get X hH in_X52 0 rfl hc 20 (by decide) q6401 rfl dX52_trace_132 ?_
          refine lv_aload_n hx hb dX52_trace_135 rfl (lv_at hl 1 rfl) ?_
          refine k_get X hH in_X52 0 rfl hc 17 (by decide) q6398 rfl dX52_trace_136 ?_
          refine lv_aload_n hx hb dX52_trace_139 rfl (lv_at hl 1 rfl) ?_
          refine k_get X hH in_X52 0 rfl hc 7 (by decide) q6388 rfl dX52_trace_140 ?_
          refine lv_iload hx hb dX52_trace_143 (lv_at hl 0 rfl) ?_
          refine k_iald X hH 1 0 rfl rfl (z_in (rfl : x6_31.toInt = _) hq_32) dX52_trace_145 ?_
          have e_58 := z_ld (f := f_left) (rfl : x6_31.toInt = _) hq_32.1
          refine k_iald X hH 11 10 rfl rfl (z_in e_58 hq_38) dX52_trace_146 ?_
          have e_59 := z_ld (f := f_maker) e_58 hq_38.1
          refine lv_iconst (v := 1) hx hb dX52_trace_147 (by decide) ?_
          have hq_61 := hw.1
          have hw := hw.2
          obtain ⟨f_needed_60, ef_needed_60⟩ : ∃ y : Nat → Int32, y = upd f_needed (f_maker (f_left x6_31.toNatClampNeg).toNatClampNeg).toNatClampNeg (vp_nar .boolean 1) := ⟨_, rfl⟩
          refine k_zast X hH 13 12 rfl rfl (z_in e_59 hq_61) dX52_trace_148 ef_needed_60 (ws1 := (wX52 ci ad d f_thrown f_classes f_things f_axioms f_fuel f_questions f_sorted f_left f_other f_right f_there f_member f_state f_before f_placed f_looked f_fact f_maker f_fired f_firedCount f_needed_60 f_module f_asked)) rfl (fun H locs hH => ?_)
          have hw := hw (zF f_needed_60) (by rw [ef_needed_60]; exact z_st (f := f_needed) e_59 hq_61.1 (z_narZ (rfl : (1 : Int32).toInt = 1) (by decide)))
          exact atX52_trace_149 hc X (fun x5 f_needed hw H locs ls hH hl => ih x5 f_needed hw _ _ ls hH (lv_sub hl [0, 1, 2] rfl)) x5 x6_31 f_needed_60 hw _ _ ls hH (lv_sub hl [1, 2, 3, 0] rfl)
set_option maxHeartbeats 4000000 in
theorem atX52_trace_249 {p : Program} {l : Launch} {e : Env} {s : State} {m : MethodId} {args : Array Value} {below : List Frame} {meth : Method} {c : Code} {dC : Nat → ClassId} {dI : Nat → Nat → Nat} {cl : List vw_C} {ci : Nat} (hc : cl[ci]? = some (RX52, TX52, 23)) {ad : Nat → Nat} {d : Nat → ClassId} {A : Nat → Prop} {post : Int → (Int → Int) → (Int → Int) → (Int → Int) → Int → (Int → Int) → Prop} {f_thrown : Int32} {f_classes : Int32} {f_things : Int32} {f_axioms : Int32} {f_fuel : Int32} {f_questions : Int32} {f_sorted : Int32} {f_left : Nat → Int32} {f_other : Nat → Int32} {f_right : Nat → Int32} {f_there : Nat → Int32} {f_member : Nat → Int32} {f_state : Nat → Int32} {f_before : Nat → Int32} {f_placed : Nat → Int32} {f_looked : Nat → Int32} {f_module : Nat → Int32} {f_asked : Int32} (X : kX p s m args meth c cX52_trace 8 RX52 (some .int) (dC, dI) cl (tX52 d)) {K204 : Int → Int → Prop} {x3 : Int32} {f_fact : Nat → Int32} {f_maker : Nat → Int32} {f_fired : Nat → Int32} {f_firedCount : Int32} {f_needed : Nat → Int32} (hk204 : ∀ (x5 : Int32) (x6 : Int32), K204 x5.toInt x6.toInt → ∀ (H : Heap) (locs : List Loc) (ls : Array Slot), kH (dC, dI) cl A s.heap H locs (wX52 ci ad d f_thrown f_classes f_things f_axioms f_fuel f_questions f_sorted f_left f_other f_right f_there f_member f_state f_before f_placed f_looked f_fact f_maker f_fired f_firedCount f_needed f_module f_asked) → lv_has ls 8 [(0, .ref (ad 0)), (3, .int x3), (5, .int x5), (6, .int x6)] → W p l e ({ frames := 2, cells := 0, slots := 0, locals := 47 } : Room) s m args below meth c H locs 0 0 (MQ below (va_Qi (fun (r : Int32) (u : (Nat → Int32) × (Nat → Int32) × (Nat → Int32) × Int32 × (Nat → Int32)) => post r.toInt (zF (u.1)) (zF (u.2.1)) (zF (u.2.2.1)) (u.2.2.2.1).toInt (zF (u.2.2.2.2))) (kB (dC, dI) cl (tX52 d) A (fun u : (Nat → Int32) × (Nat → Int32) × (Nat → Int32) × Int32 × (Nat → Int32) => (wX52 ci ad d f_thrown f_classes f_things f_axioms f_fuel f_questions f_sorted f_left f_other f_right f_there f_member f_state f_before f_placed f_looked (u.1) (u.2.1) (u.2.2.1) (u.2.2.2.1) (u.2.2.2.2) f_module f_asked))) A) args s 0 0 A) (F0 m 204 ls [])) :
    ∀ (x5 : Int32) (x6 : Int32) (x7 : Int32), wX52_trace_249 K204 x5.toInt x6.toInt x7.toInt → ∀ (H : Heap) (locs : List Loc) (ls : Array Slot), kH (dC, dI) cl A s.heap H locs (wX52 ci ad d f_thrown f_classes f_things f_axioms f_fuel f_questions f_sorted f_left f_other f_right f_there f_member f_state f_before f_placed f_looked f_fact f_maker f_fired f_firedCount f_needed f_module f_asked) → lv_has ls 8 [(0, .ref (ad 0)), (3, .int x3), (5, .int x5), (6, .int x6), (7, .int x7)] → W p l e ({ frames := 2, cells := 0, slots := 0, locals := 47 } : Room) s m args below meth c H locs 0 0 (MQ below (va_Qi (fun (r : Int32) (u : (Nat → Int32) × (Nat → Int32) × (Nat → Int32) × Int32 × (Nat → Int32)) => post r.toInt (zF (u.1)) (zF (u.2.1)) (zF (u.2.2.1)) (u.2.2.2.1).toInt (zF (u.2.2.2.2))) (kB (dC, dI) cl (tX52 d) A (fun u : (Nat → Int32) × (Nat → Int32) × (Nat → Int32) × Int32 × (Nat → Int32) => (wX52 ci ad d f_thrown f_classes f_things f_axioms f_fuel f_questions f_sorted f_left f_other f_right f_there f_member f_state f_before f_placed f_looked (u.1) (u.2.1) (u.2.2.1) (u.2.2.2.1) (u.2.2.2.2) f_module f_asked))) A) args s 0 0 A) (F0 m 249 ls []) := by
  have hx := X.1.1
  have hb := X.1.2.1
  intro x5 x6 x7 hw H locs ls hH hl
  unfold wX52_trace_249 at hw
  refine lv_iload hx hb dX52_trace_249 (lv_at hl 2 rfl) ?_
  refine lv_iload hx hb dX52_trace_251 (lv_at hl 4 rfl) ?_
  refine lv_if_eq (tgt := 260) hx hb dX52_trace_253 (by decide) (fun c_71 => ?_) (fun c_71 => ?_)
  · have hw := hw.1 (z_eq (rfl : x7.toInt = _) (rfl : (0 : Int32).toInt = 0) c_71)
    refine lv_iconst (v := 0) hx hb dX52_trace_260 (by decide) ?_
    refine lv_isub hx hb dX52_trace_261 ?_
    have e_72 := z_sub (z_m (rfl : x5.toInt = _)) (z_m (rfl : (0 : Int32).toInt = 0))
    have hq_73 := hw.1
    have hw := hw.2
    have e_74 := z_x e_72 hq_73
    refine lv_topi (fun x5_75 ex5_75 => ?_)
    have hw := hw x5_75.toInt (by rw [ex5_75]; exact e_74)
    refine lv_istore (lv' := [(5, .int x5_75), (0, .ref (ad 0)), (3, .int x3), (6, .int x6), (7, .int x7)]) hx hb dX52_trace_262 hl (by decide) rfl (fun ls hl => ?_)
    have hq_77 := hw.1
    have hw := hw.2
    obtain ⟨x6_76, ex6_76⟩ : ∃ y : Int32, y = x6 + 1 := ⟨_, rfl⟩
    have hw := hw x6_76.toInt (by rw [ex6_76]; exact (z_x (z_add (z_m (rfl : x6.toInt = _)) (z_m (rfl : (1 : Int32).toInt = 1))) hq_77))
    refine lv_iinc (v := x6_76) (lv' := [(6, .int x6_76), (5, .int x5_75), (0, .ref (ad 0)), (3, .int x3), (7, .int x7)]) hx hb dX52_trace_264 hl (k := 3) rfl (by rw [ex6_76]; rfl) (by decide) rfl (fun ls hl => ?_)
    refine lv_goto (tgt := 204) hx hb dX52_trace_267 (by decide) ?_
    exact hk204 x5_75 x6_76 hw _ _ ls hH (lv_sub hl [2, 3, 1, 0] rfl)
  · have hw := hw.2 (z_neq (rfl : x7.toInt = _) (rfl : (0 : Int32).toInt = 0) c_71)
    refine lv_iconst (v := 1) hx hb dX52_trace_256 (by decide) ?_
    refine lv_goto (tgt := 261) hx hb dX52_trace_257 (by decide) ?_
    refine lv_isub hx hb dX52_trace_261 ?_
    have e_78 := z_sub (z_m (rfl : x5.toInt = _)) (z_m (rfl : (1 : Int32).toInt = 1))
    have hq_79 := hw.1
    have hw := hw.2
    have e_80 := z_x e_78 hq_79
    refine lv_topi (fun x5_81 ex5_81 => ?_)
    have hw := hw x5_81.toInt (by rw [ex5_81]; exact e_80)
    refine lv_istore (lv' := [(5, .int x5_81), (0, .ref (ad 0)), (3, .int x3), (6, .int x6), (7, .int x7)]) hx hb dX52_trace_262 hl (by decide) rfl (fun ls hl => ?_)
    have hq_83 := hw.1
    have hw := hw.2
    obtain ⟨x6_82, ex6_82⟩ : ∃ y : Int32, y = x6 + 1 := ⟨_, rfl⟩
    have hw := hw x6_82.toInt (by rw [ex6_82]; exact (z_x (z_add (z_m (rfl : x6.toInt = _)) (z_m (rfl : (1 : Int32).toInt = 1))) hq_83))
    refine lv_iinc (v := x6_82) (lv' := [(6, .int x6_82), (5, .int x5_81), (0, .ref (ad 0)), (3, .int x3), (7, .int x7)]) hx hb dX52_trace_264 hl (k := 3) rfl (by rw [ex6_82]; rfl) (by decide) rfl (fun ls hl => ?_)
    refine lv_goto (tgt := 204) hx hb dX52_trace_267 (by decide) ?_
    exact hk204 x5_81 x6_82 hw _ _ ls hH (lv_sub hl [2, 3, 1, 0] rfl)
set_option maxHeartbeats 4000000 in
theorem atX52_trace_204 {p : Program} {l : Launch} {e : Env} {s : State} {m : MethodId} {args : Array Value} {below : List Frame} {meth : Method} {c : Code} {dC : Nat → ClassId} {dI : Nat → Nat → Nat} {cl : List vw_C} {ci : Nat} (hc : cl[ci]? = some (RX52, TX52, 23)) {ad : Nat → Nat} {d : Nat → ClassId} {A : Nat → Prop} {post : Int → (Int → Int) → (Int → Int) → (Int → Int) → Int → (Int → Int) → Prop} {f_thrown : Int32} {f_classes : Int32} {f_things : Int32} {f_axioms : Int32} {f_fuel : Int32} {f_questions : Int32} {f_sorted : Int32} {f_left : Nat → Int32} {f_other : Nat → Int32} {f_right : Nat → Int32} {f_there : Nat → Int32} {f_member : Nat → Int32} {f_state : Nat → Int32} {f_before : Nat → Int32} {f_placed : Nat → Int32} {f_looked : Nat → Int32} {f_module : Nat → Int32} {f_asked : Int32} (X : kX p s m args meth c cX52_trace 8 RX52 (some .int) (dC, dI) cl (tX52 d)) {K241 : Int → Prop} {K270 : Prop} {x3 : Int32} {f_fact : Nat → Int32} {f_maker : Nat → Int32} {f_fired : Nat → Int32} {f_firedCount : Int32} {f_needed : Nat → Int32} (hk241 : ∀ (x6 : Int32), K241 x6.toInt → ∀ (H : Heap) (locs : List Loc) (ls : Array Slot), kH (dC, dI) cl A s.heap H locs (wX52 ci ad d f_thrown f_classes f_things f_axioms f_fuel f_questions f_sorted f_left f_other f_right f_there f_member f_state f_before f_placed f_looked f_fact f_maker f_fired f_firedCount f_needed f_module f_asked) → lv_has ls 8 [(0, .ref (ad 0)), (6, .int x6)] → W p l e ({ frames := 2, cells := 0, slots := 0, locals := 47 } : Room) s m args below meth c H locs 0 0 (MQ below (va_Qi (fun (r : Int32) (u : (Nat → Int32) × (Nat → Int32) × (Nat → Int32) × Int32 × (Nat → Int32)) => post r.toInt (zF (u.1)) (zF (u.2.1)) (zF (u.2.2.1)) (u.2.2.2.1).toInt (zF (u.2.2.2.2))) (kB (dC, dI) cl (tX52 d) A (fun u : (Nat → Int32) × (Nat → Int32) × (Nat → Int32) × Int32 × (Nat → Int32) => (wX52 ci ad d f_thrown f_classes f_things f_axioms f_fuel f_questions f_sorted f_left f_other f_right f_there f_member f_state f_before f_placed f_looked (u.1) (u.2.1) (u.2.2.1) (u.2.2.2.1) (u.2.2.2.2) f_module f_asked))) A) args s 0 0 A) (F0 m 241 ls [])) (hk270 : K270  → ∀ (H : Heap) (locs : List Loc) (ls : Array Slot), kH (dC, dI) cl A s.heap H locs (wX52 ci ad d f_thrown f_classes f_things f_axioms f_fuel f_questions f_sorted f_left f_other f_right f_there f_member f_state f_before f_placed f_looked f_fact f_maker f_fired f_firedCount f_needed f_module f_asked) → lv_has ls 8 [] → W p l e ({ frames := 2, cells := 0, slots := 0, locals := 47 } : Room) s m args below meth c H locs 0 0 (MQ below (va_Qi (fun (r : Int32) (u : (Nat → Int32) × (Nat → Int32) × (Nat → Int32) × Int32 × (Nat → Int32)) => post r.toInt (zF (u.1)) (zF (u.2.1)) (zF (u.2.2.1)) (u.2.2.2.1).toInt (zF (u.2.2.2.2))) (kB (dC, dI) cl (tX52 d) A (fun u : (Nat → Int32) × (Nat → Int32) × (Nat → Int32) × Int32 × (Nat → Int32) => (wX52 ci ad d f_thrown f_classes f_things f_axioms f_fuel f_questions f_sorted f_left f_other f_right f_there f_member f_state f_before f_placed f_looked (u.1) (u.2.1) (u.2.2.1) (u.2.2.2.1) (u.2.2.2.2) f_module f_asked))) A) args s 0 0 A) (F0 m 270 ls [])) :
    ∀ (nn : Nat) (x5 : Int32) (x6 : Int32), wX52_trace_204 K241 K270 x3.toInt (zF f_fired) f_firedCount.toInt (zF f_needed) nn x5.toInt x6.toInt → ∀ (H : Heap) (locs : List Loc) (ls : Array Slot), kH (dC, dI) cl A s.heap H locs (wX52 ci ad d f_thrown f_classes f_things f_axioms f_fuel f_questions f_sorted f_left f_other f_right f_there f_member f_state f_before f_placed f_looked f_fact f_maker f_fired f_firedCount f_needed f_module f_asked) → lv_has ls 8 [(0, .ref (ad 0)), (3, .int x3), (5, .int x5), (6, .int x6)] → W p l e ({ frames := 2, cells := 0, slots := 0, locals := 47 } : Room) s m args below meth c H locs 0 0 (MQ below (va_Qi (fun (r : Int32) (u : (Nat → Int32) × (Nat → Int32) × (Nat → Int32) × Int32 × (Nat → Int32)) => post r.toInt (zF (u.1)) (zF (u.2.1)) (zF (u.2.2.1)) (u.2.2.2.1).toInt (zF (u.2.2.2.2))) (kB (dC, dI) cl (tX52 d) A (fun u : (Nat → Int32) × (Nat → Int32) × (Nat → Int32) × Int32 × (Nat → Int32) => (wX52 ci ad d f_thrown f_classes f_things f_axioms f_fuel f_questions f_sorted f_left f_other f_right f_there f_member f_state f_before f_placed f_looked (u.1) (u.2.1) (u.2.2.1) (u.2.2.2.1) (u.2.2.2.2) f_module f_asked))) A) args s 0 0 A) (F0 m 204 ls []) := by
  have hx := X.1.1
  have hb := X.1.2.1
  intro nn
  induction nn with
  | zero =>
    intro x5 x6 hw
    exact False.elim hw
  | succ n ih =>
    intro x5 x6 hw H locs ls hH hl
    rw [wX52_trace_204] at hw
    refine lv_iload hx hb dX52_trace_204 (lv_at hl 3 rfl) ?_
    refine lv_aload_n hx hb dX52_trace_206 rfl (lv_at hl 0 rfl) ?_
    refine k_get X hH in_X52 0 rfl hc 19 (by decide) q6400 rfl dX52_trace_207 ?_
    refine lv_icmp_ge (tgt := 270) hx hb dX52_trace_210 (by decide) (fun c_63 => ?_) (fun c_63 => ?_)
    · have hw := hw.1 (z_le (rfl : f_firedCount.toInt = _) (rfl : x6.toInt = _) c_63)
      exact hk270  hw _ _ ls hH (lv_sub hl [] rfl)
    · have hw := hw.2 (z_nle (rfl : f_firedCount.toInt = _) (rfl : x6.toInt = _) c_63)
      refine lv_iload_n hx hb dX52_trace_213 rfl (lv_at hl 1 rfl) ?_
      refine lv_if_lt (tgt := 270) hx hb dX52_trace_214 (by decide) (fun c_64 => ?_) (fun c_64 => ?_)
      · have hw := hw.1 (z_lt (rfl : x3.toInt = _) (rfl : (0 : Int32).toInt = 0) c_64)
        exact hk270  hw _ _ ls hH (lv_sub hl [] rfl)
      · have hw := hw.2 (z_nlt (rfl : x3.toInt = _) (rfl : (0 : Int32).toInt = 0) c_64)
        refine lv_aload_n hx hb dX52_trace_217 rfl (lv_at hl 0 rfl) ?_
        refine k_get X hH in_X52 0 rfl hc 20 (by decide) q6401 rfl dX52_trace_218 ?_
        refine lv_aload_n hx hb dX52_trace_221 rfl (lv_at hl 0 rfl) ?_
        refine k_get X hH in_X52 0 rfl hc 18 (by decide) q6399 rfl dX52_trace_222 ?_
        refine lv_iload hx hb dX52_trace_225 (lv_at hl 3 rfl) ?_
        have hq_65 := hw.1
        have hw := hw.2
        refine k_iald X hH 12 11 rfl rfl (z_in (rfl : x6.toInt = _) hq_65) dX52_trace_227 ?_
        have e_66 := z_ld (f := f_fired) (rfl : x6.toInt = _) hq_65.1
        have hq_67 := hw.1
        have hw := hw.2
        refine k_zald X hH 13 12 rfl rfl (z_in e_66 hq_67) dX52_trace_228 ?_
        have e_68 := z_ld (f := f_needed) e_66 hq_67.1
        refine lv_topi (fun x7_69 ex7_69 => ?_)
        have hw := hw x7_69.toInt (by rw [ex7_69]; exact e_68)
        refine lv_istore (lv' := [(7, .int x7_69), (0, .ref (ad 0)), (3, .int x3), (5, .int x5), (6, .int x6)]) hx hb dX52_trace_229 hl (by decide) rfl (fun ls hl => ?_)
        refine lv_iload hx hb dX52_trace_231 (lv_at hl 0 rfl) ?_
        refine lv_if_eq (tgt := 249) hx hb dX52_trace_233 (by decide) (fun c_70 => ?_) (fun c_70 => ?_)
        · have hw := hw.1 (z_eq (rfl : x7_69.toInt = _) (rfl : (0 : Int32).toInt = 0) c_70)
          exact atX52_trace_249 hc X (fun x5 x6 hw H locs ls hH hl => ih x5 x6 hw _ _ ls hH (lv_sub hl [0, 1, 2, 3] rfl)) x5 x6 x7_69 hw _ _ ls hH (lv_sub hl [1, 2, 3, 4, 0] rfl)
        · have hw := hw.2 (z_neq (rfl : x7_69.toInt = _) (rfl : (0 : Int32).toInt = 0) c_70)
          refine lv_iload hx hb dX52_trace_236 (lv_at hl 3 rfl) ?_
          refine lv_if_ne (tgt := 249) hx hb dX52_trace_238 (by decide) (fun c_84 => ?_) (fun c_84 => ?_)
          · have hw := hw.2 (z_ne (rfl : x5.toInt = _) (rfl : (0 : Int32).toInt = 0) c_84)
            exact atX52_trace_249 hc X (fun x5 x6 hw H locs ls hH hl => ih x5 x6 hw _ _ ls hH (lv_sub hl [0, 1, 2, 3] rfl)) x5 x6 x7_69 hw _ _ ls hH (lv_sub hl [1, 2, 3, 4, 0] rfl)
          · have hw := hw.1 (z_eq (rfl : x5.toInt = _) (rfl : (0 : Int32).toInt = 0) c_84)
            exact hk241 x6 hw _ _ ls hH (lv_sub hl [1, 4] rfl)
set_option maxHeartbeats 4000000 in
theorem walkX52_trace {l : Launch} {dC : Nat → ClassId} {dI : Nat → Nat → Nat} {cl : List vw_C} {ci : Nat} (hc : cl[ci]? = some (RX52, TX52, 23)) {ad : Nat → Nat} {d : Nat → ClassId} {sz : Nat} {f_thrown : Int32} {f_classes : Int32} {f_things : Int32} {f_axioms : Int32} {f_fuel : Int32} {f_questions : Int32} {f_sorted : Int32} {f_left : Nat → Int32} {f_other : Nat → Int32} {f_right : Nat → Int32} {f_there : Nat → Int32} {f_member : Nat → Int32} {f_state : Nat → Int32} {f_before : Nat → Int32} {f_placed : Nat → Int32} {f_looked : Nat → Int32} {f_fact : Nat → Int32} {f_maker : Nat → Int32} {f_fired : Nat → Int32} {f_firedCount : Int32} {f_needed : Nat → Int32} {f_module : Nat → Int32} {f_asked : Int32} {x1 : Int32} {x2 : Int32} {x3 : Int32} {post : Int → (Int → Int) → (Int → Int) → (Int → Int) → Int → (Int → Int) → Prop} (hw : wpX52_trace post f_classes.toInt f_axioms.toInt f_fuel.toInt (zF f_left) (zF f_other) (zF f_right) (zF f_there) (zF f_fact) (zF f_maker) (zF f_fired) f_firedCount.toInt (zF f_needed) x1.toInt x2.toInt x3.toInt) :
    Met l yX52_trace (ws_ yX52_trace cX52_trace 8 (some .int)) ({ frames := 2, cells := 0, slots := 0, locals := 47 } : Room) (kPc (dC, dI) cl (tX52 d) [.ref (ad 0), .int x1, .int x2, .int x3] sz (wX52 ci ad d f_thrown f_classes f_things f_axioms f_fuel f_questions f_sorted f_left f_other f_right f_there f_member f_state f_before f_placed f_looked f_fact f_maker f_fired f_firedCount f_needed f_module f_asked)) (va_Qi (fun (r : Int32) (u : (Nat → Int32) × (Nat → Int32) × (Nat → Int32) × Int32 × (Nat → Int32)) => post r.toInt (zF (u.1)) (zF (u.2.1)) (zF (u.2.2.1)) (u.2.2.2.1).toInt (zF (u.2.2.2.2))) (kB (dC, dI) cl (tX52 d) (va_A (wX52 ci ad d f_thrown f_classes f_things f_axioms f_fuel f_questions f_sorted f_left f_other f_right f_there f_member f_state f_before f_placed f_looked f_fact f_maker f_fired f_firedCount f_needed f_module f_asked) sz) (fun u : (Nat → Int32) × (Nat → Int32) × (Nat → Int32) × Int32 × (Nat → Int32) => (wX52 ci ad d f_thrown f_classes f_things f_axioms f_fuel f_questions f_sorted f_left f_other f_right f_there f_member f_state f_before f_placed f_looked (u.1) (u.2.1) (u.2.2.1) (u.2.2.2.1) (u.2.2.2.2) f_module f_asked))) (va_A (wX52 ci ad d f_thrown f_classes f_things f_axioms f_fuel f_questions f_sorted f_left f_other f_right f_there f_member f_state f_before f_placed f_looked f_fact f_maker f_fired f_firedCount f_needed f_module f_asked) sz)) 0 0 (va_A (wX52 ci ad d f_thrown f_classes f_things f_axioms f_fuel f_questions f_sorted f_left f_other f_right f_there f_member f_state f_before f_placed f_looked f_fact f_maker f_fired f_firedCount f_needed f_module f_asked) sz) := by
  refine k_enter (by decide) (Nat.le_of_ble_eq_true rfl) ?_
  intro p e s m below meth c ls X hsz hH hl
  subst hsz
  generalize va_A (wX52 ci ad d f_thrown f_classes f_things f_axioms f_fuel f_questions f_sorted f_left f_other f_right f_there f_member f_state f_before f_placed f_looked f_fact f_maker f_fired f_firedCount f_needed f_module f_asked) s.heap.size = A at hH ⊢
  have hx := X.1.1
  have hb := X.1.2.1
  have hl : lv_has ls 8 [(0, .ref (ad 0)), (1, .int x1), (2, .int x2), (3, .int x3)] := hl
  unfold wpX52_trace at hw
  refine lv_aload_n hx hb dX52_trace_0 rfl (lv_at hl 0 rfl) ?_
  refine lv_iload_n hx hb dX52_trace_1 rfl (lv_at hl 2 rfl) ?_
  refine k_i0 hH (k_runV (As := [.int x2]) (rest := []) X hH.1 hH.2.1 X.2.2.2 (walkX52_goalOf hc (x1 := x2) (f_thrown := f_thrown) (f_classes := f_classes) (f_things := f_things) (f_axioms := f_axioms) (f_fuel := f_fuel) (f_questions := f_questions) (f_sorted := f_sorted) (f_left := f_left) (f_other := f_other) (f_right := f_right) (f_there := f_there) (f_member := f_member) (f_state := f_state) (f_before := f_before) (f_placed := f_placed) (f_looked := f_looked) (f_fact := f_fact) (f_maker := f_maker) (f_fired := f_fired) (f_firedCount := f_firedCount) (f_needed := f_needed) (f_module := f_module) (f_asked := f_asked) hw) (cwV 1 X.1.2.2.2.2 gX52_118 rfl rfl rfl hX52_goalOf ⟨Nat.le_of_ble_eq_true rfl, Nat.le_of_ble_eq_true rfl⟩) hc (q0 := 0) rfl rfl hl.1 rfl (Nat.le_of_ble_eq_true rfl) dX52_trace_2 ⟨Nat.le_refl 0, Nat.le_refl 0⟩) (fun r_1 _ H locs hw hH => ?_)
  have hH : kH (dC, dI) cl A s.heap H locs (wX52 ci ad d f_thrown f_classes f_things f_axioms f_fuel f_questions f_sorted f_left f_other f_right f_there f_member f_state f_before f_placed f_looked f_fact f_maker f_fired f_firedCount f_needed f_module f_asked) := hH
  refine lv_istore (lv' := [(4, .int r_1), (0, .ref (ad 0)), (1, .int x1), (2, .int x2), (3, .int x3)]) hx hb dX52_trace_5 hl (by decide) rfl (fun ls hl => ?_)
  refine lv_aload_n hx hb dX52_trace_7 rfl (lv_at hl 1 rfl) ?_
  refine lv_iload_n hx hb dX52_trace_8 rfl (lv_at hl 2 rfl) ?_
  refine k_i0 hH (k_runV (As := [.int x1]) (rest := []) X hH.1 hH.2.1 X.2.2.2 (walkX52_isClass hc (x1 := x1) (f_thrown := f_thrown) (f_classes := f_classes) (f_things := f_things) (f_axioms := f_axioms) (f_fuel := f_fuel) (f_questions := f_questions) (f_sorted := f_sorted) (f_left := f_left) (f_other := f_other) (f_right := f_right) (f_there := f_there) (f_member := f_member) (f_state := f_state) (f_before := f_before) (f_placed := f_placed) (f_looked := f_looked) (f_fact := f_fact) (f_maker := f_maker) (f_fired := f_fired) (f_firedCount := f_firedCount) (f_needed := f_needed) (f_module := f_module) (f_asked := f_asked) hw) (cwV 1 X.1.2.2.2.2 gX52_63 rfl rfl rfl hX52_isClass ⟨Nat.le_of_ble_eq_true rfl, Nat.le_of_ble_eq_true rfl⟩) hc (q0 := 0) rfl rfl hl.1 rfl (Nat.le_of_ble_eq_true rfl) dX52_trace_9 ⟨Nat.le_refl 0, Nat.le_refl 0⟩) (fun r_2 _ H locs hw hH => ?_)
  have hH : kH (dC, dI) cl A s.heap H locs (wX52 ci ad d f_thrown f_classes f_things f_axioms f_fuel f_questions f_sorted f_left f_other f_right f_there f_member f_state f_before f_placed f_looked f_fact f_maker f_fired f_firedCount f_needed f_module f_asked) := hH
  refine lv_if_eq (tgt := 20) hx hb dX52_trace_12 (by decide) (fun c_3 => ?_) (fun c_3 => ?_)
  · have hw := hw.1 (z_eq (rfl : r_2.toInt = _) (rfl : (0 : Int32).toInt = 0) c_3)
    refine lv_iconst (v := (-1)) hx hb dX52_trace_20 (by decide) ?_
    exact k_iret (v := (-1)) X hH (f_fact, f_maker, f_fired, f_firedCount, f_needed) hw rfl rfl dX52_trace_21
  · have hw := hw.2 (z_neq (rfl : r_2.toInt = _) (rfl : (0 : Int32).toInt = 0) c_3)
    refine lv_iload hx hb dX52_trace_15 (lv_at hl 0 rfl) ?_
    refine lv_if_ge (tgt := 22) hx hb dX52_trace_17 (by decide) (fun c_4 => ?_) (fun c_4 => ?_)
    · have hw := hw.1 (z_le (rfl : (0 : Int32).toInt = 0) (rfl : r_1.toInt = _) c_4)
      refine lv_aload_n hx hb dX52_trace_22 rfl (lv_at hl 1 rfl) ?_
      refine lv_iload_n hx hb dX52_trace_23 rfl (lv_at hl 2 rfl) ?_
      refine lv_iload hx hb dX52_trace_24 (lv_at hl 0 rfl) ?_
      refine k_i0 hH (k_runV (As := [.int x1, .int r_1]) (rest := []) X hH.1 hH.2.1 X.2.2.2 (walkX52_reasonAlone hc (x1 := x1) (x2 := r_1) (f_thrown := f_thrown) (f_classes := f_classes) (f_things := f_things) (f_axioms := f_axioms) (f_fuel := f_fuel) (f_questions := f_questions) (f_sorted := f_sorted) (f_left := f_left) (f_other := f_other) (f_right := f_right) (f_there := f_there) (f_member := f_member) (f_state := f_state) (f_before := f_before) (f_placed := f_placed) (f_looked := f_looked) (f_fact := f_fact) (f_maker := f_maker) (f_fired := f_fired) (f_firedCount := f_firedCount) (f_needed := f_needed) (f_module := f_module) (f_asked := f_asked) hw) (cwV 2 X.1.2.2.2.2 gX52_121 rfl rfl rfl hX52_reasonAlone ⟨Nat.le_of_ble_eq_true rfl, Nat.le_of_ble_eq_true rfl⟩) hc (q0 := 0) rfl rfl hl.1 rfl (Nat.le_of_ble_eq_true rfl) dX52_trace_26 ⟨Nat.le_refl 0, Nat.le_refl 0⟩) (fun r_5 u H locs hw hH => ?_)
      obtain ⟨f_fact_6, f_maker_7, f_fired_8, f_firedCount_9⟩ := u
      have hH : kH (dC, dI) cl A s.heap H locs (wX52 ci ad d f_thrown f_classes f_things f_axioms f_fuel f_questions f_sorted f_left f_other f_right f_there f_member f_state f_before f_placed f_looked f_fact_6 f_maker_7 f_fired_8 f_firedCount_9 f_needed f_module f_asked) := hH
      refine lv_iconst (v := 1) hx hb dX52_trace_29 (by decide) ?_
      refine lv_icmp_ne (tgt := 40) hx hb dX52_trace_30 (by decide) (fun c_10 => ?_) (fun c_10 => ?_)
      · have hw := hw.2 (z_ne (rfl : r_5.toInt = _) (rfl : (1 : Int32).toInt = 1) c_10)
        refine lv_bipush (v := (-6)) hx hb dX52_trace_40 (by decide) ?_
        exact k_iret (v := (-6)) X hH (f_fact_6, f_maker_7, f_fired_8, f_firedCount_9, f_needed) hw rfl rfl dX52_trace_42
      · have hw := hw.1 (z_eq (rfl : r_5.toInt = _) (rfl : (1 : Int32).toInt = 1) c_10)
        refine lv_aload_n hx hb dX52_trace_33 rfl (lv_at hl 1 rfl) ?_
        refine k_get X hH in_X52 0 rfl hc 19 (by decide) q6400 rfl dX52_trace_34 ?_
        refine lv_if_ne (tgt := 43) hx hb dX52_trace_37 (by decide) (fun c_11 => ?_) (fun c_11 => ?_)
        · have hw := hw.2 (z_ne (rfl : f_firedCount_9.toInt = _) (rfl : (0 : Int32).toInt = 0) c_11)
          refine lv_iconst (v := 0) hx hb dX52_trace_43 (by decide) ?_
          refine lv_istore (lv' := [(5, .int 0), (4, .int r_1), (0, .ref (ad 0)), (1, .int x1), (2, .int x2), (3, .int x3)]) hx hb dX52_trace_44 hl (by decide) rfl (fun ls hl => ?_)
          obtain ⟨fu, hw⟩ := hw
          refine atX52_trace_46 hc X ?_ fu 0 f_needed hw _ _ ls hH (lv_sub hl [2, 5, 0] rfl)
          · intro f_needed_17 hw H locs ls hH hl
            refine lv_aload_n hx hb dX52_trace_67 rfl (lv_at hl 0 rfl) ?_
            refine k_get X hH in_X52 0 rfl hc 20 (by decide) q6401 rfl dX52_trace_68 ?_
            refine lv_aload_n hx hb dX52_trace_71 rfl (lv_at hl 0 rfl) ?_
            refine k_get X hH in_X52 0 rfl hc 18 (by decide) q6399 rfl dX52_trace_72 ?_
            refine lv_aload_n hx hb dX52_trace_75 rfl (lv_at hl 0 rfl) ?_
            refine k_get X hH in_X52 0 rfl hc 19 (by decide) q6400 rfl dX52_trace_76 ?_
            refine lv_iconst (v := 1) hx hb dX52_trace_79 (by decide) ?_
            refine lv_isub hx hb dX52_trace_80 ?_
            have e_18 := z_sub (z_m (rfl : f_firedCount_9.toInt = _)) (z_m (rfl : (1 : Int32).toInt = 1))
            have hq_19 := hw.1
            have hw := hw.2
            have e_20 := z_xi e_18 hq_19 (by decide)
            refine k_iald X hH 12 11 rfl rfl (z_in e_20 hq_19) dX52_trace_81 ?_
            have e_21 := z_ld (f := f_fired_8) e_20 hq_19.1
            refine lv_iconst (v := 1) hx hb dX52_trace_82 (by decide) ?_
            have hq_23 := hw.1
            have hw := hw.2
            obtain ⟨f_needed_22, ef_needed_22⟩ : ∃ y : Nat → Int32, y = upd f_needed_17 (f_fired_8 (f_firedCount_9 - 1).toNatClampNeg).toNatClampNeg (vp_nar .boolean 1) := ⟨_, rfl⟩
            refine k_zast X hH 13 12 rfl rfl (z_in e_21 hq_23) dX52_trace_83 ef_needed_22 (ws1 := (wX52 ci ad d f_thrown f_classes f_things f_axioms f_fuel f_questions f_sorted f_left f_other f_right f_there f_member f_state f_before f_placed f_looked f_fact_6 f_maker_7 f_fired_8 f_firedCount_9 f_needed_22 f_module f_asked)) rfl (fun H locs hH => ?_)
            have hw := hw (zF f_needed_22) (by rw [ef_needed_22]; exact z_st (f := f_needed_17) e_21 hq_23.1 (z_narZ (rfl : (1 : Int32).toInt = 1) (by decide)))
            refine lv_aload_n hx hb dX52_trace_84 rfl (lv_at hl 0 rfl) ?_
            refine k_get X hH in_X52 0 rfl hc 19 (by decide) q6400 rfl dX52_trace_85 ?_
            refine lv_iconst (v := 1) hx hb dX52_trace_88 (by decide) ?_
            refine lv_isub hx hb dX52_trace_89 ?_
            have e_24 := z_sub (z_m (rfl : f_firedCount_9.toInt = _)) (z_m (rfl : (1 : Int32).toInt = 1))
            have hq_25 := hw.1
            have hw := hw.2
            have e_26 := z_x e_24 hq_25
            refine lv_topi (fun x5_27 ex5_27 => ?_)
            have hw := hw x5_27.toInt (by rw [ex5_27]; exact e_26)
            refine lv_istore (lv' := [(5, .int x5_27), (0, .ref (ad 0)), (3, .int x3)]) hx hb dX52_trace_90 hl (by decide) rfl (fun ls hl => ?_)
            obtain ⟨fu, hw⟩ := hw
            refine atX52_trace_92 hc X ?_ fu x5_27 f_needed_22 hw _ _ ls hH (lv_sub hl [1, 2, 0] rfl)
            · intro f_needed_62 hw H locs ls hH hl
              refine lv_iload_n hx hb dX52_trace_198 rfl (lv_at hl 1 rfl) ?_
              refine lv_istore (lv' := [(5, .int x3), (0, .ref (ad 0)), (3, .int x3)]) hx hb dX52_trace_199 hl (by decide) rfl (fun ls hl => ?_)
              refine lv_iconst (v := 0) hx hb dX52_trace_201 (by decide) ?_
              refine lv_istore (lv' := [(6, .int 0), (5, .int x3), (0, .ref (ad 0)), (3, .int x3)]) hx hb dX52_trace_202 hl (by decide) rfl (fun ls hl => ?_)
              obtain ⟨fu, hw⟩ := hw
              refine atX52_trace_204 hc X ?_ ?_ fu x3 0 hw _ _ ls hH (lv_sub hl [2, 3, 1, 0] rfl)
              · intro x6_85 hw H locs ls hH hl
                refine lv_aload_n hx hb dX52_trace_241 rfl (lv_at hl 0 rfl) ?_
                refine k_get X hH in_X52 0 rfl hc 18 (by decide) q6399 rfl dX52_trace_242 ?_
                refine lv_iload hx hb dX52_trace_245 (lv_at hl 1 rfl) ?_
                have hq_86 := hw.1
                have hw := hw.2
                refine k_iald X hH 12 11 rfl rfl (z_in (rfl : x6_85.toInt = _) hq_86) dX52_trace_247 ?_
                have e_87 := z_ld (f := f_fired_8) (rfl : x6_85.toInt = _) hq_86.1
                exact k_iret (v := f_fired_8 x6_85.toNatClampNeg) X hH (f_fact_6, f_maker_7, f_fired_8, f_firedCount_9, f_needed_62) (by rw [show (f_fired_8 x6_85.toNatClampNeg : Int32).toInt = _ from e_87]; exact hw) rfl rfl dX52_trace_248
              · intro hw H locs ls hH hl
                refine lv_bipush (v := (-6)) hx hb dX52_trace_270 (by decide) ?_
                exact k_iret (v := (-6)) X hH (f_fact_6, f_maker_7, f_fired_8, f_firedCount_9, f_needed_62) hw rfl rfl dX52_trace_272
        · have hw := hw.1 (z_eq (rfl : f_firedCount_9.toInt = _) (rfl : (0 : Int32).toInt = 0) c_11)
          refine lv_bipush (v := (-6)) hx hb dX52_trace_40 (by decide) ?_
          exact k_iret (v := (-6)) X hH (f_fact_6, f_maker_7, f_fired_8, f_firedCount_9, f_needed) hw rfl rfl dX52_trace_42
    · have hw := hw.2 (z_nle (rfl : (0 : Int32).toInt = 0) (rfl : r_1.toInt = _) c_4)
      refine lv_iconst (v := (-1)) hx hb dX52_trace_20 (by decide) ?_
      exact k_iret (v := (-1)) X hH (f_fact, f_maker, f_fired, f_firedCount, f_needed) hw rfl rfl dX52_trace_21
