/-! KnowHouseModel$VirtualRewriteModel (printed by tools/zgen.py) -/
set_option maxRecDepth 100000
set_option maxHeartbeats 4000000 in
theorem walkX54_placeOf {l : Launch} {dC : Nat → ClassId} {dI : Nat → Nat → Nat} {cl : List vw_C} {ci : Nat} (hc : cl[ci]? = some (RX54, TX54, 23)) {ad : Nat → Nat} {d : Nat → ClassId} {sz : Nat} {f_thrown : Int32} {f_cells : Nat → Int32} {f_sizes : Nat → Int32} {f_keys : Nat → Int32} {f_maps : Nat → Int32} {f_mapCount : Int32} {f_atoms : Nat → Int32} {f_atomCount : Int32} {f_spans : Nat → Int32} {f_spanCount : Int32} {f_unions : Nat → Int32} {f_unionCount : Int32} {f_isLarge : Int32} {f_trial : Nat → Int32} {f_rowAt : Nat → Int32} {f_answers : Nat → Int32} {f_foundBy : Nat → Int32} {f_firstBy : Nat → Int32} {f_lastBy : Nat → Int32} {f_order : Nat → Int32} {f_answerCount : Int32} {f_asked : Nat → Int32} {f_tooMany : Int32} {x1 : Int32} {x2 : Int32} {post : Int → Prop} (hw : wpX54_placeOf post (zF f_atoms) x1.toInt x2.toInt) :
    Met l yX54_placeOf (ws_ yX54_placeOf cX54_placeOf 3 (some .int)) ({ frames := 0, cells := 0, slots := 0, locals := 0 } : Room) (kPc (dC, dI) cl (tX54 d) [.ref (ad 0), .int x1, .int x2] sz (wX54 ci ad d f_thrown f_cells f_sizes f_keys f_maps f_mapCount f_atoms f_atomCount f_spans f_spanCount f_unions f_unionCount f_isLarge f_trial f_rowAt f_answers f_foundBy f_firstBy f_lastBy f_order f_answerCount f_asked f_tooMany)) (va_Qi (fun (r : Int32) (_ : Unit) => post r.toInt) (kB (dC, dI) cl (tX54 d) (va_A (wX54 ci ad d f_thrown f_cells f_sizes f_keys f_maps f_mapCount f_atoms f_atomCount f_spans f_spanCount f_unions f_unionCount f_isLarge f_trial f_rowAt f_answers f_foundBy f_firstBy f_lastBy f_order f_answerCount f_asked f_tooMany) sz) (fun _ : Unit => (wX54 ci ad d f_thrown f_cells f_sizes f_keys f_maps f_mapCount f_atoms f_atomCount f_spans f_spanCount f_unions f_unionCount f_isLarge f_trial f_rowAt f_answers f_foundBy f_firstBy f_lastBy f_order f_answerCount f_asked f_tooMany))) (va_A (wX54 ci ad d f_thrown f_cells f_sizes f_keys f_maps f_mapCount f_atoms f_atomCount f_spans f_spanCount f_unions f_unionCount f_isLarge f_trial f_rowAt f_answers f_foundBy f_firstBy f_lastBy f_order f_answerCount f_asked f_tooMany) sz)) 0 0 (va_A (wX54 ci ad d f_thrown f_cells f_sizes f_keys f_maps f_mapCount f_atoms f_atomCount f_spans f_spanCount f_unions f_unionCount f_isLarge f_trial f_rowAt f_answers f_foundBy f_firstBy f_lastBy f_order f_answerCount f_asked f_tooMany) sz) := by
  refine k_enter (by decide) (Nat.le_of_ble_eq_true rfl) ?_
  intro p e s m below meth c ls X hsz hH hl
  subst hsz
  generalize va_A (wX54 ci ad d f_thrown f_cells f_sizes f_keys f_maps f_mapCount f_atoms f_atomCount f_spans f_spanCount f_unions f_unionCount f_isLarge f_trial f_rowAt f_answers f_foundBy f_firstBy f_lastBy f_order f_answerCount f_asked f_tooMany) s.heap.size = A at hH ⊢
  have hx := X.1.1
  have hb := X.1.2.1
  have hl : lv_has ls 3 [(0, .ref (ad 0)), (1, .int x1), (2, .int x2)] := hl
  unfold wpX54_placeOf at hw
  refine lv_aload_n hx hb dX54_placeOf_0 rfl (lv_at hl 0 rfl) ?_
  refine k_get X hH in_X54 0 rfl hc 6 (by decide) q6506 rfl dX54_placeOf_1 ?_
  refine lv_iconst (v := 3) hx hb dX54_placeOf_4 (by decide) ?_
  refine lv_iload_n hx hb dX54_placeOf_5 rfl (lv_at hl 1 rfl) ?_
  refine lv_imul hx hb dX54_placeOf_6 ?_
  have e_1 := z_mul (z_m (rfl : (3 : Int32).toInt = 3)) (z_m (rfl : x1.toInt = _))
  refine lv_iconst (v := 1) hx hb dX54_placeOf_7 (by decide) ?_
  refine lv_iadd hx hb dX54_placeOf_8 ?_
  have e_2 := z_add e_1 (z_m (rfl : (1 : Int32).toInt = 1))
  refine lv_iload_n hx hb dX54_placeOf_9 rfl (lv_at hl 2 rfl) ?_
  refine lv_iadd hx hb dX54_placeOf_10 ?_
  have e_3 := z_add e_2 (z_m (rfl : x2.toInt = _))
  have hq_4 := hw.1
  have hw := hw.2
  have e_5 := z_xi e_3 hq_4 (by decide)
  refine k_iald X hH 5 4 rfl rfl (z_in e_5 hq_4) dX54_placeOf_11 ?_
  have e_6 := z_ld (f := f_atoms) e_5 hq_4.1
  exact k_iret (v := f_atoms (((3 * x1) + 1) + x2).toNatClampNeg) X hH () (by rw [show (f_atoms (((3 * x1) + 1) + x2).toNatClampNeg : Int32).toInt = _ from e_6]; exact hw) rfl rfl dX54_placeOf_12
set_option maxHeartbeats 4000000 in
theorem walkX54_templateOf {l : Launch} {dC : Nat → ClassId} {dI : Nat → Nat → Nat} {cl : List vw_C} {ci : Nat} (hc : cl[ci]? = some (RX54, TX54, 23)) {ad : Nat → Nat} {d : Nat → ClassId} {sz : Nat} {f_thrown : Int32} {f_cells : Nat → Int32} {f_sizes : Nat → Int32} {f_keys : Nat → Int32} {f_maps : Nat → Int32} {f_mapCount : Int32} {f_atoms : Nat → Int32} {f_atomCount : Int32} {f_spans : Nat → Int32} {f_spanCount : Int32} {f_unions : Nat → Int32} {f_unionCount : Int32} {f_isLarge : Int32} {f_trial : Nat → Int32} {f_rowAt : Nat → Int32} {f_answers : Nat → Int32} {f_foundBy : Nat → Int32} {f_firstBy : Nat → Int32} {f_lastBy : Nat → Int32} {f_order : Nat → Int32} {f_answerCount : Int32} {f_asked : Nat → Int32} {f_tooMany : Int32} {x1 : Int32} {x2 : Int32} {post : Int → Prop} (hw : wpX54_templateOf post (zF f_maps) x1.toInt x2.toInt) :
    Met l yX54_templateOf (ws_ yX54_templateOf cX54_templateOf 3 (some .int)) ({ frames := 0, cells := 0, slots := 0, locals := 0 } : Room) (kPc (dC, dI) cl (tX54 d) [.ref (ad 0), .int x1, .int x2] sz (wX54 ci ad d f_thrown f_cells f_sizes f_keys f_maps f_mapCount f_atoms f_atomCount f_spans f_spanCount f_unions f_unionCount f_isLarge f_trial f_rowAt f_answers f_foundBy f_firstBy f_lastBy f_order f_answerCount f_asked f_tooMany)) (va_Qi (fun (r : Int32) (_ : Unit) => post r.toInt) (kB (dC, dI) cl (tX54 d) (va_A (wX54 ci ad d f_thrown f_cells f_sizes f_keys f_maps f_mapCount f_atoms f_atomCount f_spans f_spanCount f_unions f_unionCount f_isLarge f_trial f_rowAt f_answers f_foundBy f_firstBy f_lastBy f_order f_answerCount f_asked f_tooMany) sz) (fun _ : Unit => (wX54 ci ad d f_thrown f_cells f_sizes f_keys f_maps f_mapCount f_atoms f_atomCount f_spans f_spanCount f_unions f_unionCount f_isLarge f_trial f_rowAt f_answers f_foundBy f_firstBy f_lastBy f_order f_answerCount f_asked f_tooMany))) (va_A (wX54 ci ad d f_thrown f_cells f_sizes f_keys f_maps f_mapCount f_atoms f_atomCount f_spans f_spanCount f_unions f_unionCount f_isLarge f_trial f_rowAt f_answers f_foundBy f_firstBy f_lastBy f_order f_answerCount f_asked f_tooMany) sz)) 0 0 (va_A (wX54 ci ad d f_thrown f_cells f_sizes f_keys f_maps f_mapCount f_atoms f_atomCount f_spans f_spanCount f_unions f_unionCount f_isLarge f_trial f_rowAt f_answers f_foundBy f_firstBy f_lastBy f_order f_answerCount f_asked f_tooMany) sz) := by
  refine k_enter (by decide) (Nat.le_of_ble_eq_true rfl) ?_
  intro p e s m below meth c ls X hsz hH hl
  subst hsz
  generalize va_A (wX54 ci ad d f_thrown f_cells f_sizes f_keys f_maps f_mapCount f_atoms f_atomCount f_spans f_spanCount f_unions f_unionCount f_isLarge f_trial f_rowAt f_answers f_foundBy f_firstBy f_lastBy f_order f_answerCount f_asked f_tooMany) s.heap.size = A at hH ⊢
  have hx := X.1.1
  have hb := X.1.2.1
  have hl : lv_has ls 3 [(0, .ref (ad 0)), (1, .int x1), (2, .int x2)] := hl
  unfold wpX54_templateOf at hw
  refine lv_aload_n hx hb dX54_templateOf_0 rfl (lv_at hl 0 rfl) ?_
  refine k_get X hH in_X54 0 rfl hc 4 (by decide) q6504 rfl dX54_templateOf_1 ?_
  refine lv_bipush (v := 6) hx hb dX54_templateOf_4 (by decide) ?_
  refine lv_iload_n hx hb dX54_templateOf_6 rfl (lv_at hl 1 rfl) ?_
  refine lv_imul hx hb dX54_templateOf_7 ?_
  have e_1 := z_mul (z_m (rfl : (6 : Int32).toInt = 6)) (z_m (rfl : x1.toInt = _))
  refine lv_iconst (v := 2) hx hb dX54_templateOf_8 (by decide) ?_
  refine lv_iadd hx hb dX54_templateOf_9 ?_
  have e_2 := z_add e_1 (z_m (rfl : (2 : Int32).toInt = 2))
  refine lv_iconst (v := 2) hx hb dX54_templateOf_10 (by decide) ?_
  refine lv_iload_n hx hb dX54_templateOf_11 rfl (lv_at hl 2 rfl) ?_
  refine lv_imul hx hb dX54_templateOf_12 ?_
  have e_3 := z_mul (z_m (rfl : (2 : Int32).toInt = 2)) (z_m (rfl : x2.toInt = _))
  refine lv_iadd hx hb dX54_templateOf_13 ?_
  have e_4 := z_add e_2 e_3
  have hq_5 := hw.1
  have hw := hw.2
  have e_6 := z_xi e_4 hq_5 (by decide)
  refine k_iald X hH 4 3 rfl rfl (z_in e_6 hq_5) dX54_templateOf_14 ?_
  have e_7 := z_ld (f := f_maps) e_6 hq_5.1
  exact k_iret (v := f_maps (((6 * x1) + 2) + (2 * x2)).toNatClampNeg) X hH () (by rw [show (f_maps (((6 * x1) + 2) + (2 * x2)).toNatClampNeg : Int32).toInt = _ from e_7]; exact hw) rfl rfl dX54_templateOf_15
set_option maxHeartbeats 4000000 in
theorem atX54_isGood_2 {p : Program} {l : Launch} {e : Env} {s : State} {m : MethodId} {args : Array Value} {below : List Frame} {meth : Method} {c : Code} {dC : Nat → ClassId} {dI : Nat → Nat → Nat} {cl : List vw_C} {ci : Nat} (hc : cl[ci]? = some (RX54, TX54, 23)) {ad : Nat → Nat} {d : Nat → ClassId} {A : Nat → Prop} {post : Int → Prop} {f_thrown : Int32} {f_cells : Nat → Int32} {f_sizes : Nat → Int32} {f_keys : Nat → Int32} {f_maps : Nat → Int32} {f_mapCount : Int32} {f_atoms : Nat → Int32} {f_atomCount : Int32} {f_spans : Nat → Int32} {f_spanCount : Int32} {f_unions : Nat → Int32} {f_unionCount : Int32} {f_isLarge : Int32} {f_trial : Nat → Int32} {f_rowAt : Nat → Int32} {f_answers : Nat → Int32} {f_foundBy : Nat → Int32} {f_firstBy : Nat → Int32} {f_lastBy : Nat → Int32} {f_order : Nat → Int32} {f_answerCount : Int32} {f_asked : Nat → Int32} {f_tooMany : Int32} (X : kX p s m args meth c cX54_isGood 5 RX54 (some .boolean) (dC, dI) cl (tX54 d)) {K37 : Prop} {K45 : Prop}   (hk37 : K37  → ∀ (H : Heap) (locs : List Loc) (ls : Array Slot), kH (dC, dI) cl A s.heap H locs (wX54 ci ad d f_thrown f_cells f_sizes f_keys f_maps f_mapCount f_atoms f_atomCount f_spans f_spanCount f_unions f_unionCount f_isLarge f_trial f_rowAt f_answers f_foundBy f_firstBy f_lastBy f_order f_answerCount f_asked f_tooMany) → lv_has ls 5 [] → W p l e ({ frames := 1, cells := 0, slots := 0, locals := 22 } : Room) s m args below meth c H locs 0 0 (MQ below (va_Qi (fun (r : Int32) (_ : Unit) => post r.toInt) (kB (dC, dI) cl (tX54 d) A (fun _ : Unit => (wX54 ci ad d f_thrown f_cells f_sizes f_keys f_maps f_mapCount f_atoms f_atomCount f_spans f_spanCount f_unions f_unionCount f_isLarge f_trial f_rowAt f_answers f_foundBy f_firstBy f_lastBy f_order f_answerCount f_asked f_tooMany))) A) args s 0 0 A) (F0 m 37 ls [])) (hk45 : K45  → ∀ (H : Heap) (locs : List Loc) (ls : Array Slot), kH (dC, dI) cl A s.heap H locs (wX54 ci ad d f_thrown f_cells f_sizes f_keys f_maps f_mapCount f_atoms f_atomCount f_spans f_spanCount f_unions f_unionCount f_isLarge f_trial f_rowAt f_answers f_foundBy f_firstBy f_lastBy f_order f_answerCount f_asked f_tooMany) → lv_has ls 5 [(0, .ref (ad 0))] → W p l e ({ frames := 1, cells := 0, slots := 0, locals := 22 } : Room) s m args below meth c H locs 0 0 (MQ below (va_Qi (fun (r : Int32) (_ : Unit) => post r.toInt) (kB (dC, dI) cl (tX54 d) A (fun _ : Unit => (wX54 ci ad d f_thrown f_cells f_sizes f_keys f_maps f_mapCount f_atoms f_atomCount f_spans f_spanCount f_unions f_unionCount f_isLarge f_trial f_rowAt f_answers f_foundBy f_firstBy f_lastBy f_order f_answerCount f_asked f_tooMany))) A) args s 0 0 A) (F0 m 45 ls [])) :
    ∀ (nn : Nat) (x1 : Int32), wX54_isGood_2 K37 K45 (zF f_maps) (zF f_atoms) f_atomCount.toInt (zF f_trial) nn x1.toInt → ∀ (H : Heap) (locs : List Loc) (ls : Array Slot), kH (dC, dI) cl A s.heap H locs (wX54 ci ad d f_thrown f_cells f_sizes f_keys f_maps f_mapCount f_atoms f_atomCount f_spans f_spanCount f_unions f_unionCount f_isLarge f_trial f_rowAt f_answers f_foundBy f_firstBy f_lastBy f_order f_answerCount f_asked f_tooMany) → lv_has ls 5 [(0, .ref (ad 0)), (1, .int x1)] → W p l e ({ frames := 1, cells := 0, slots := 0, locals := 22 } : Room) s m args below meth c H locs 0 0 (MQ below (va_Qi (fun (r : Int32) (_ : Unit) => post r.toInt) (kB (dC, dI) cl (tX54 d) A (fun _ : Unit => (wX54 ci ad d f_thrown f_cells f_sizes f_keys f_maps f_mapCount f_atoms f_atomCount f_spans f_spanCount f_unions f_unionCount f_isLarge f_trial f_rowAt f_answers f_foundBy f_firstBy f_lastBy f_order f_answerCount f_asked f_tooMany))) A) args s 0 0 A) (F0 m 2 ls []) := by
  have hx := X.1.1
  have hb := X.1.2.1
  intro nn
  induction nn with
  | zero =>
    intro x1 hw
    exact False.elim hw
  | succ n ih =>
    intro x1 hw H locs ls hH hl
    rw [wX54_isGood_2] at hw
    refine lv_iload_n hx hb dX54_isGood_2 rfl (lv_at hl 1 rfl) ?_
    refine lv_aload_n hx hb dX54_isGood_3 rfl (lv_at hl 0 rfl) ?_
    refine k_get X hH in_X54 0 rfl hc 7 (by decide) q6507 rfl dX54_isGood_4 ?_
    refine lv_icmp_ge (tgt := 45) hx hb dX54_isGood_7 (by decide) (fun c_1 => ?_) (fun c_1 => ?_)
    · have hw := hw.1 (z_le (rfl : f_atomCount.toInt = _) (rfl : x1.toInt = _) c_1)
      exact hk45  hw _ _ ls hH (lv_sub hl [0] rfl)
    · have hw := hw.2 (z_nle (rfl : f_atomCount.toInt = _) (rfl : x1.toInt = _) c_1)
      refine lv_aload_n hx hb dX54_isGood_10 rfl (lv_at hl 0 rfl) ?_
      refine k_get X hH in_X54 0 rfl hc 4 (by decide) q6504 rfl dX54_isGood_11 ?_
      refine lv_bipush (v := 6) hx hb dX54_isGood_14 (by decide) ?_
      refine lv_aload_n hx hb dX54_isGood_16 rfl (lv_at hl 0 rfl) ?_
      refine k_get X hH in_X54 0 rfl hc 13 (by decide) q6513 rfl dX54_isGood_17 ?_
      refine lv_iload_n hx hb dX54_isGood_20 rfl (lv_at hl 1 rfl) ?_
      have hq_2 := hw.1
      have hw := hw.2
      refine k_iald X hH 8 7 rfl rfl (z_in (rfl : x1.toInt = _) hq_2) dX54_isGood_21 ?_
      have e_3 := z_ld (f := f_trial) (rfl : x1.toInt = _) hq_2.1
      refine lv_imul hx hb dX54_isGood_22 ?_
      have e_4 := z_mul (z_m (rfl : (6 : Int32).toInt = 6)) (z_m e_3)
      refine lv_iconst (v := 1) hx hb dX54_isGood_23 (by decide) ?_
      refine lv_iadd hx hb dX54_isGood_24 ?_
      have e_5 := z_add e_4 (z_m (rfl : (1 : Int32).toInt = 1))
      have hq_6 := hw.1
      have hw := hw.2
      have e_7 := z_xi e_5 hq_6 (by decide)
      refine k_iald X hH 4 3 rfl rfl (z_in e_7 hq_6) dX54_isGood_25 ?_
      have e_8 := z_ld (f := f_maps) e_7 hq_6.1
      refine lv_aload_n hx hb dX54_isGood_26 rfl (lv_at hl 0 rfl) ?_
      refine k_get X hH in_X54 0 rfl hc 6 (by decide) q6506 rfl dX54_isGood_27 ?_
      refine lv_iconst (v := 3) hx hb dX54_isGood_30 (by decide) ?_
      refine lv_iload_n hx hb dX54_isGood_31 rfl (lv_at hl 1 rfl) ?_
      refine lv_imul hx hb dX54_isGood_32 ?_
      have e_9 := z_mul (z_m (rfl : (3 : Int32).toInt = 3)) (z_m (rfl : x1.toInt = _))
      have hq_10 := hw.1
      have hw := hw.2
      have e_11 := z_xi e_9 hq_10 (by decide)
      refine k_iald X hH 5 4 rfl rfl (z_in e_11 hq_10) dX54_isGood_33 ?_
      have e_12 := z_ld (f := f_atoms) e_11 hq_10.1
      refine lv_icmp_eq (tgt := 39) hx hb dX54_isGood_34 (by decide) (fun c_13 => ?_) (fun c_13 => ?_)
      · have hw := hw.1 (z_eq e_8 e_12 c_13)
        have hq_15 := hw.1
        have hw := hw.2
        obtain ⟨x1_14, ex1_14⟩ : ∃ y : Int32, y = x1 + 1 := ⟨_, rfl⟩
        have hw := hw x1_14.toInt (by rw [ex1_14]; exact (z_x (z_add (z_m (rfl : x1.toInt = _)) (z_m (rfl : (1 : Int32).toInt = 1))) hq_15))
        refine lv_iinc (v := x1_14) (lv' := [(1, .int x1_14), (0, .ref (ad 0))]) hx hb dX54_isGood_39 hl (k := 1) rfl (by rw [ex1_14]; rfl) (by decide) rfl (fun ls hl => ?_)
        refine lv_goto (tgt := 2) hx hb dX54_isGood_42 (by decide) ?_
        exact ih x1_14 hw _ _ ls hH (lv_sub hl [1, 0] rfl)
      · have hw := hw.2 (z_neq e_8 e_12 c_13)
        exact hk37  hw _ _ ls hH (lv_sub hl [] rfl)
set_option maxHeartbeats 4000000 in
theorem atX54_isGood_102 {p : Program} {l : Launch} {e : Env} {s : State} {m : MethodId} {args : Array Value} {below : List Frame} {meth : Method} {c : Code} {dC : Nat → ClassId} {dI : Nat → Nat → Nat} {cl : List vw_C} {ci : Nat} (hc : cl[ci]? = some (RX54, TX54, 23)) {ad : Nat → Nat} {d : Nat → ClassId} {A : Nat → Prop} {post : Int → Prop} {f_thrown : Int32} {f_cells : Nat → Int32} {f_sizes : Nat → Int32} {f_keys : Nat → Int32} {f_maps : Nat → Int32} {f_mapCount : Int32} {f_atoms : Nat → Int32} {f_atomCount : Int32} {f_spans : Nat → Int32} {f_spanCount : Int32} {f_unions : Nat → Int32} {f_unionCount : Int32} {f_isLarge : Int32} {f_trial : Nat → Int32} {f_rowAt : Nat → Int32} {f_answers : Nat → Int32} {f_foundBy : Nat → Int32} {f_firstBy : Nat → Int32} {f_lastBy : Nat → Int32} {f_order : Nat → Int32} {f_answerCount : Int32} {f_asked : Nat → Int32} {f_tooMany : Int32} (X : kX p s m args meth c cX54_isGood 5 RX54 (some .boolean) (dC, dI) cl (tX54 d)) {K149 : Prop} {K157 : Prop} {x1 : Int32} {x2 : Int32} {x3 : Int32}  (hk149 : K149  → ∀ (H : Heap) (locs : List Loc) (ls : Array Slot), kH (dC, dI) cl A s.heap H locs (wX54 ci ad d f_thrown f_cells f_sizes f_keys f_maps f_mapCount f_atoms f_atomCount f_spans f_spanCount f_unions f_unionCount f_isLarge f_trial f_rowAt f_answers f_foundBy f_firstBy f_lastBy f_order f_answerCount f_asked f_tooMany) → lv_has ls 5 [] → W p l e ({ frames := 1, cells := 0, slots := 0, locals := 22 } : Room) s m args below meth c H locs 0 0 (MQ below (va_Qi (fun (r : Int32) (_ : Unit) => post r.toInt) (kB (dC, dI) cl (tX54 d) A (fun _ : Unit => (wX54 ci ad d f_thrown f_cells f_sizes f_keys f_maps f_mapCount f_atoms f_atomCount f_spans f_spanCount f_unions f_unionCount f_isLarge f_trial f_rowAt f_answers f_foundBy f_firstBy f_lastBy f_order f_answerCount f_asked f_tooMany))) A) args s 0 0 A) (F0 m 149 ls [])) (hk157 : K157  → ∀ (H : Heap) (locs : List Loc) (ls : Array Slot), kH (dC, dI) cl A s.heap H locs (wX54 ci ad d f_thrown f_cells f_sizes f_keys f_maps f_mapCount f_atoms f_atomCount f_spans f_spanCount f_unions f_unionCount f_isLarge f_trial f_rowAt f_answers f_foundBy f_firstBy f_lastBy f_order f_answerCount f_asked f_tooMany) → lv_has ls 5 [(0, .ref (ad 0)), (1, .int x1)] → W p l e ({ frames := 1, cells := 0, slots := 0, locals := 22 } : Room) s m args below meth c H locs 0 0 (MQ below (va_Qi (fun (r : Int32) (_ : Unit) => post r.toInt) (kB (dC, dI) cl (tX54 d) A (fun _ : Unit => (wX54 ci ad d f_thrown f_cells f_sizes f_keys f_maps f_mapCount f_atoms f_atomCount f_spans f_spanCount f_unions f_unionCount f_isLarge f_trial f_rowAt f_answers f_foundBy f_firstBy f_lastBy f_order f_answerCount f_asked f_tooMany))) A) args s 0 0 A) (F0 m 157 ls [])) :
    ∀ (nn : Nat) (x4 : Int32), wX54_isGood_102 K149 K157 x1.toInt x2.toInt x3.toInt (zF f_maps) (zF f_atoms) (zF f_trial) nn x4.toInt → ∀ (H : Heap) (locs : List Loc) (ls : Array Slot), kH (dC, dI) cl A s.heap H locs (wX54 ci ad d f_thrown f_cells f_sizes f_keys f_maps f_mapCount f_atoms f_atomCount f_spans f_spanCount f_unions f_unionCount f_isLarge f_trial f_rowAt f_answers f_foundBy f_firstBy f_lastBy f_order f_answerCount f_asked f_tooMany) → lv_has ls 5 [(0, .ref (ad 0)), (1, .int x1), (2, .int x2), (3, .int x3), (4, .int x4)] → W p l e ({ frames := 1, cells := 0, slots := 0, locals := 22 } : Room) s m args below meth c H locs 0 0 (MQ below (va_Qi (fun (r : Int32) (_ : Unit) => post r.toInt) (kB (dC, dI) cl (tX54 d) A (fun _ : Unit => (wX54 ci ad d f_thrown f_cells f_sizes f_keys f_maps f_mapCount f_atoms f_atomCount f_spans f_spanCount f_unions f_unionCount f_isLarge f_trial f_rowAt f_answers f_foundBy f_firstBy f_lastBy f_order f_answerCount f_asked f_tooMany))) A) args s 0 0 A) (F0 m 102 ls []) := by
  have hx := X.1.1
  have hb := X.1.2.1
  intro nn
  induction nn with
  | zero =>
    intro x4 hw
    exact False.elim hw
  | succ n ih =>
    intro x4 hw H locs ls hH hl
    rw [wX54_isGood_102] at hw
    refine lv_iload hx hb dX54_isGood_102 (lv_at hl 4 rfl) ?_
    refine lv_iload_n hx hb dX54_isGood_104 rfl (lv_at hl 1 rfl) ?_
    refine lv_icmp_ge (tgt := 157) hx hb dX54_isGood_105 (by decide) (fun c_30 => ?_) (fun c_30 => ?_)
    · have hw := hw.1 (z_le (rfl : x1.toInt = _) (rfl : x4.toInt = _) c_30)
      exact hk157  hw _ _ ls hH (lv_sub hl [0, 1] rfl)
    · have hw := hw.2 (z_nle (rfl : x1.toInt = _) (rfl : x4.toInt = _) c_30)
      refine lv_iload_n hx hb dX54_isGood_108 rfl (lv_at hl 2 rfl) ?_
      refine lv_if_ge (tgt := 151) hx hb dX54_isGood_109 (by decide) (fun c_31 => ?_) (fun c_31 => ?_)
      · have hw := hw.1 (z_le (rfl : (0 : Int32).toInt = 0) (rfl : x2.toInt = _) c_31)
        have hq_33 := hw.1
        have hw := hw.2
        obtain ⟨x4_32, ex4_32⟩ : ∃ y : Int32, y = x4 + 1 := ⟨_, rfl⟩
        have hw := hw x4_32.toInt (by rw [ex4_32]; exact (z_x (z_add (z_m (rfl : x4.toInt = _)) (z_m (rfl : (1 : Int32).toInt = 1))) hq_33))
        refine lv_iinc (v := x4_32) (lv' := [(4, .int x4_32), (0, .ref (ad 0)), (1, .int x1), (2, .int x2), (3, .int x3)]) hx hb dX54_isGood_151 hl (k := 4) rfl (by rw [ex4_32]; rfl) (by decide) rfl (fun ls hl => ?_)
        refine lv_goto (tgt := 102) hx hb dX54_isGood_154 (by decide) ?_
        exact ih x4_32 hw _ _ ls hH (lv_sub hl [1, 2, 3, 4, 0] rfl)
      · have hw := hw.2 (z_nle (rfl : (0 : Int32).toInt = 0) (rfl : x2.toInt = _) c_31)
        refine lv_aload_n hx hb dX54_isGood_112 rfl (lv_at hl 0 rfl) ?_
        refine lv_iload hx hb dX54_isGood_113 (lv_at hl 4 rfl) ?_
        refine lv_iconst (v := 2) hx hb dX54_isGood_115 (by decide) ?_
        have hq_34 := hw.1
        have hw := hw.2
        refine lv_idiv hx hb dX54_isGood_116 (by decide) ?_
        have e_35 := z_div (rfl : x4.toInt = _) (rfl : (2 : Int32).toInt = 2) hq_34 (by decide)
        refine lv_iload hx hb dX54_isGood_117 (lv_at hl 4 rfl) ?_
        refine lv_iconst (v := 2) hx hb dX54_isGood_119 (by decide) ?_
        refine lv_irem hx hb dX54_isGood_120 (by decide) ?_
        have e_36 := z_rem (rfl : x4.toInt = _) (rfl : (2 : Int32).toInt = 2) hq_34 (by decide)
        refine k_i0 hH (k_runV (As := [.int (x4 / 2), .int (x4 - x4 / 2 * 2)]) (rest := []) X hH.1 hH.2.1 X.2.2.2 (walkX54_placeOf hc (x1 := (x4 / 2)) (x2 := (x4 - x4 / 2 * 2)) (f_thrown := f_thrown) (f_cells := f_cells) (f_sizes := f_sizes) (f_keys := f_keys) (f_maps := f_maps) (f_mapCount := f_mapCount) (f_atoms := f_atoms) (f_atomCount := f_atomCount) (f_spans := f_spans) (f_spanCount := f_spanCount) (f_unions := f_unions) (f_unionCount := f_unionCount) (f_isLarge := f_isLarge) (f_trial := f_trial) (f_rowAt := f_rowAt) (f_answers := f_answers) (f_foundBy := f_foundBy) (f_firstBy := f_firstBy) (f_lastBy := f_lastBy) (f_order := f_order) (f_answerCount := f_answerCount) (f_asked := f_asked) (f_tooMany := f_tooMany) (by rw [show (x4 / 2 : Int32).toInt = _ from e_35, show (x4 - x4 / 2 * 2 : Int32).toInt = _ from e_36]; exact hw)) (cwV 2 X.1.2.2.2.2 gX54_95 rfl rfl rfl hX54_placeOf ⟨Nat.le_of_ble_eq_true rfl, Nat.le_of_ble_eq_true rfl⟩) hc (q0 := 0) rfl rfl hl.1 rfl (Nat.le_of_ble_eq_true rfl) dX54_isGood_121 ⟨Nat.le_refl 0, Nat.le_refl 0⟩) (fun r_37 _ H locs hw hH => ?_)
        have hH : kH (dC, dI) cl A s.heap H locs (wX54 ci ad d f_thrown f_cells f_sizes f_keys f_maps f_mapCount f_atoms f_atomCount f_spans f_spanCount f_unions f_unionCount f_isLarge f_trial f_rowAt f_answers f_foundBy f_firstBy f_lastBy f_order f_answerCount f_asked f_tooMany) := hH
        refine lv_iload_n hx hb dX54_isGood_124 rfl (lv_at hl 2 rfl) ?_
        refine lv_icmp_ne (tgt := 151) hx hb dX54_isGood_125 (by decide) (fun c_38 => ?_) (fun c_38 => ?_)
        · have hw := hw.2 (z_ne (rfl : r_37.toInt = _) (rfl : x2.toInt = _) c_38)
          have hq_40 := hw.1
          have hw := hw.2
          obtain ⟨x4_39, ex4_39⟩ : ∃ y : Int32, y = x4 + 1 := ⟨_, rfl⟩
          have hw := hw x4_39.toInt (by rw [ex4_39]; exact (z_x (z_add (z_m (rfl : x4.toInt = _)) (z_m (rfl : (1 : Int32).toInt = 1))) hq_40))
          refine lv_iinc (v := x4_39) (lv' := [(4, .int x4_39), (0, .ref (ad 0)), (1, .int x1), (2, .int x2), (3, .int x3)]) hx hb dX54_isGood_151 hl (k := 4) rfl (by rw [ex4_39]; rfl) (by decide) rfl (fun ls hl => ?_)
          refine lv_goto (tgt := 102) hx hb dX54_isGood_154 (by decide) ?_
          exact ih x4_39 hw _ _ ls hH (lv_sub hl [1, 2, 3, 4, 0] rfl)
        · have hw := hw.1 (z_eq (rfl : r_37.toInt = _) (rfl : x2.toInt = _) c_38)
          refine lv_aload_n hx hb dX54_isGood_128 rfl (lv_at hl 0 rfl) ?_
          refine lv_aload_n hx hb dX54_isGood_129 rfl (lv_at hl 0 rfl) ?_
          refine k_get X hH in_X54 0 rfl hc 13 (by decide) q6513 rfl dX54_isGood_130 ?_
          refine lv_iload hx hb dX54_isGood_133 (lv_at hl 4 rfl) ?_
          refine lv_iconst (v := 2) hx hb dX54_isGood_135 (by decide) ?_
          refine lv_idiv hx hb dX54_isGood_136 (by decide) ?_
          have e_41 := z_div (rfl : x4.toInt = _) (rfl : (2 : Int32).toInt = 2) hq_34 (by decide)
          have hq_42 := hw.1
          have hw := hw.2
          refine k_iald X hH 8 7 rfl rfl (z_in e_41 hq_42) dX54_isGood_137 ?_
          have e_43 := z_ld (f := f_trial) e_41 hq_42.1
          refine lv_iload hx hb dX54_isGood_138 (lv_at hl 4 rfl) ?_
          refine lv_iconst (v := 2) hx hb dX54_isGood_140 (by decide) ?_
          refine lv_irem hx hb dX54_isGood_141 (by decide) ?_
          have e_44 := z_rem (rfl : x4.toInt = _) (rfl : (2 : Int32).toInt = 2) hq_34 (by decide)
          refine k_i0 hH (k_runV (As := [.int (f_trial (x4 / 2).toNatClampNeg), .int (x4 - x4 / 2 * 2)]) (rest := []) X hH.1 hH.2.1 X.2.2.2 (walkX54_templateOf hc (x1 := (f_trial (x4 / 2).toNatClampNeg)) (x2 := (x4 - x4 / 2 * 2)) (f_thrown := f_thrown) (f_cells := f_cells) (f_sizes := f_sizes) (f_keys := f_keys) (f_maps := f_maps) (f_mapCount := f_mapCount) (f_atoms := f_atoms) (f_atomCount := f_atomCount) (f_spans := f_spans) (f_spanCount := f_spanCount) (f_unions := f_unions) (f_unionCount := f_unionCount) (f_isLarge := f_isLarge) (f_trial := f_trial) (f_rowAt := f_rowAt) (f_answers := f_answers) (f_foundBy := f_foundBy) (f_firstBy := f_firstBy) (f_lastBy := f_lastBy) (f_order := f_order) (f_answerCount := f_answerCount) (f_asked := f_asked) (f_tooMany := f_tooMany) (by rw [show (f_trial (x4 / 2).toNatClampNeg : Int32).toInt = _ from e_43, show (x4 - x4 / 2 * 2 : Int32).toInt = _ from e_44]; exact hw)) (cwV 2 X.1.2.2.2.2 gX54_78 rfl rfl rfl hX54_templateOf ⟨Nat.le_of_ble_eq_true rfl, Nat.le_of_ble_eq_true rfl⟩) hc (q0 := 0) rfl rfl hl.1 rfl (Nat.le_of_ble_eq_true rfl) dX54_isGood_142 ⟨Nat.le_refl 0, Nat.le_refl 0⟩) (fun r_45 _ H locs hw hH => ?_)
          have hH : kH (dC, dI) cl A s.heap H locs (wX54 ci ad d f_thrown f_cells f_sizes f_keys f_maps f_mapCount f_atoms f_atomCount f_spans f_spanCount f_unions f_unionCount f_isLarge f_trial f_rowAt f_answers f_foundBy f_firstBy f_lastBy f_order f_answerCount f_asked f_tooMany) := hH
          refine lv_iload_n hx hb dX54_isGood_145 rfl (lv_at hl 3 rfl) ?_
          refine lv_icmp_eq (tgt := 151) hx hb dX54_isGood_146 (by decide) (fun c_46 => ?_) (fun c_46 => ?_)
          · have hw := hw.1 (z_eq (rfl : r_45.toInt = _) (rfl : x3.toInt = _) c_46)
            have hq_48 := hw.1
            have hw := hw.2
            obtain ⟨x4_47, ex4_47⟩ : ∃ y : Int32, y = x4 + 1 := ⟨_, rfl⟩
            have hw := hw x4_47.toInt (by rw [ex4_47]; exact (z_x (z_add (z_m (rfl : x4.toInt = _)) (z_m (rfl : (1 : Int32).toInt = 1))) hq_48))
            refine lv_iinc (v := x4_47) (lv' := [(4, .int x4_47), (0, .ref (ad 0)), (1, .int x1), (2, .int x2), (3, .int x3)]) hx hb dX54_isGood_151 hl (k := 4) rfl (by rw [ex4_47]; rfl) (by decide) rfl (fun ls hl => ?_)
            refine lv_goto (tgt := 102) hx hb dX54_isGood_154 (by decide) ?_
            exact ih x4_47 hw _ _ ls hH (lv_sub hl [1, 2, 3, 4, 0] rfl)
          · have hw := hw.2 (z_neq (rfl : r_45.toInt = _) (rfl : x3.toInt = _) c_46)
            exact hk149  hw _ _ ls hH (lv_sub hl [] rfl)
set_option maxHeartbeats 4000000 in
theorem atX54_isGood_47 {p : Program} {l : Launch} {e : Env} {s : State} {m : MethodId} {args : Array Value} {below : List Frame} {meth : Method} {c : Code} {dC : Nat → ClassId} {dI : Nat → Nat → Nat} {cl : List vw_C} {ci : Nat} (hc : cl[ci]? = some (RX54, TX54, 23)) {ad : Nat → Nat} {d : Nat → ClassId} {A : Nat → Prop} {post : Int → Prop} {f_thrown : Int32} {f_cells : Nat → Int32} {f_sizes : Nat → Int32} {f_keys : Nat → Int32} {f_maps : Nat → Int32} {f_mapCount : Int32} {f_atoms : Nat → Int32} {f_atomCount : Int32} {f_spans : Nat → Int32} {f_spanCount : Int32} {f_unions : Nat → Int32} {f_unionCount : Int32} {f_isLarge : Int32} {f_trial : Nat → Int32} {f_rowAt : Nat → Int32} {f_answers : Nat → Int32} {f_foundBy : Nat → Int32} {f_firstBy : Nat → Int32} {f_lastBy : Nat → Int32} {f_order : Nat → Int32} {f_answerCount : Int32} {f_asked : Nat → Int32} {f_tooMany : Int32} (X : kX p s m args meth c cX54_isGood 5 RX54 (some .boolean) (dC, dI) cl (tX54 d)) {K97 : Prop} {K149 : Prop} {K163 : Prop}   (hk97 : K97  → ∀ (H : Heap) (locs : List Loc) (ls : Array Slot), kH (dC, dI) cl A s.heap H locs (wX54 ci ad d f_thrown f_cells f_sizes f_keys f_maps f_mapCount f_atoms f_atomCount f_spans f_spanCount f_unions f_unionCount f_isLarge f_trial f_rowAt f_answers f_foundBy f_firstBy f_lastBy f_order f_answerCount f_asked f_tooMany) → lv_has ls 5 [] → W p l e ({ frames := 1, cells := 0, slots := 0, locals := 22 } : Room) s m args below meth c H locs 0 0 (MQ below (va_Qi (fun (r : Int32) (_ : Unit) => post r.toInt) (kB (dC, dI) cl (tX54 d) A (fun _ : Unit => (wX54 ci ad d f_thrown f_cells f_sizes f_keys f_maps f_mapCount f_atoms f_atomCount f_spans f_spanCount f_unions f_unionCount f_isLarge f_trial f_rowAt f_answers f_foundBy f_firstBy f_lastBy f_order f_answerCount f_asked f_tooMany))) A) args s 0 0 A) (F0 m 97 ls [])) (hk149 : K149  → ∀ (H : Heap) (locs : List Loc) (ls : Array Slot), kH (dC, dI) cl A s.heap H locs (wX54 ci ad d f_thrown f_cells f_sizes f_keys f_maps f_mapCount f_atoms f_atomCount f_spans f_spanCount f_unions f_unionCount f_isLarge f_trial f_rowAt f_answers f_foundBy f_firstBy f_lastBy f_order f_answerCount f_asked f_tooMany) → lv_has ls 5 [] → W p l e ({ frames := 1, cells := 0, slots := 0, locals := 22 } : Room) s m args below meth c H locs 0 0 (MQ below (va_Qi (fun (r : Int32) (_ : Unit) => post r.toInt) (kB (dC, dI) cl (tX54 d) A (fun _ : Unit => (wX54 ci ad d f_thrown f_cells f_sizes f_keys f_maps f_mapCount f_atoms f_atomCount f_spans f_spanCount f_unions f_unionCount f_isLarge f_trial f_rowAt f_answers f_foundBy f_firstBy f_lastBy f_order f_answerCount f_asked f_tooMany))) A) args s 0 0 A) (F0 m 149 ls [])) (hk163 : K163  → ∀ (H : Heap) (locs : List Loc) (ls : Array Slot), kH (dC, dI) cl A s.heap H locs (wX54 ci ad d f_thrown f_cells f_sizes f_keys f_maps f_mapCount f_atoms f_atomCount f_spans f_spanCount f_unions f_unionCount f_isLarge f_trial f_rowAt f_answers f_foundBy f_firstBy f_lastBy f_order f_answerCount f_asked f_tooMany) → lv_has ls 5 [] → W p l e ({ frames := 1, cells := 0, slots := 0, locals := 22 } : Room) s m args below meth c H locs 0 0 (MQ below (va_Qi (fun (r : Int32) (_ : Unit) => post r.toInt) (kB (dC, dI) cl (tX54 d) A (fun _ : Unit => (wX54 ci ad d f_thrown f_cells f_sizes f_keys f_maps f_mapCount f_atoms f_atomCount f_spans f_spanCount f_unions f_unionCount f_isLarge f_trial f_rowAt f_answers f_foundBy f_firstBy f_lastBy f_order f_answerCount f_asked f_tooMany))) A) args s 0 0 A) (F0 m 163 ls [])) :
    ∀ (nn : Nat) (x1 : Int32), wX54_isGood_47 K97 K149 K163 (zF f_maps) (zF f_atoms) f_atomCount.toInt (zF f_trial) nn x1.toInt → ∀ (H : Heap) (locs : List Loc) (ls : Array Slot), kH (dC, dI) cl A s.heap H locs (wX54 ci ad d f_thrown f_cells f_sizes f_keys f_maps f_mapCount f_atoms f_atomCount f_spans f_spanCount f_unions f_unionCount f_isLarge f_trial f_rowAt f_answers f_foundBy f_firstBy f_lastBy f_order f_answerCount f_asked f_tooMany) → lv_has ls 5 [(0, .ref (ad 0)), (1, .int x1)] → W p l e ({ frames := 1, cells := 0, slots := 0, locals := 22 } : Room) s m args below meth c H locs 0 0 (MQ below (va_Qi (fun (r : Int32) (_ : Unit) => post r.toInt) (kB (dC, dI) cl (tX54 d) A (fun _ : Unit => (wX54 ci ad d f_thrown f_cells f_sizes f_keys f_maps f_mapCount f_atoms f_atomCount f_spans f_spanCount f_unions f_unionCount f_isLarge f_trial f_rowAt f_answers f_foundBy f_firstBy f_lastBy f_order f_answerCount f_asked f_tooMany))) A) args s 0 0 A) (F0 m 47 ls []) := by
  have hx := X.1.1
  have hb := X.1.2.1
  intro nn
  induction nn with
  | zero =>
    intro x1 hw
    exact False.elim hw
  | succ n ih =>
    intro x1 hw H locs ls hH hl
    rw [wX54_isGood_47] at hw
    refine lv_iload_n hx hb dX54_isGood_47 rfl (lv_at hl 1 rfl) ?_
    refine lv_iconst (v := 2) hx hb dX54_isGood_48 (by decide) ?_
    refine lv_aload_n hx hb dX54_isGood_49 rfl (lv_at hl 0 rfl) ?_
    refine k_get X hH in_X54 0 rfl hc 7 (by decide) q6507 rfl dX54_isGood_50 ?_
    refine lv_imul hx hb dX54_isGood_53 ?_
    have e_16 := z_mul (z_m (rfl : (2 : Int32).toInt = 2)) (z_m (rfl : f_atomCount.toInt = _))
    have hq_18 := hw.1
    have hw := hw.2
    have e_19 := z_x e_16 hq_18
    refine lv_icmp_ge (tgt := 163) hx hb dX54_isGood_54 (by decide) (fun c_17 => ?_) (fun c_17 => ?_)
    · have hw := hw.1 (z_le e_19 (rfl : x1.toInt = _) c_17)
      exact hk163  hw _ _ ls hH (lv_sub hl [] rfl)
    · have hw := hw.2 (z_nle e_19 (rfl : x1.toInt = _) c_17)
      refine lv_aload_n hx hb dX54_isGood_57 rfl (lv_at hl 0 rfl) ?_
      refine lv_iload_n hx hb dX54_isGood_58 rfl (lv_at hl 1 rfl) ?_
      refine lv_iconst (v := 2) hx hb dX54_isGood_59 (by decide) ?_
      have hq_20 := hw.1
      have hw := hw.2
      refine lv_idiv hx hb dX54_isGood_60 (by decide) ?_
      have e_21 := z_div (rfl : x1.toInt = _) (rfl : (2 : Int32).toInt = 2) hq_20 (by decide)
      refine lv_iload_n hx hb dX54_isGood_61 rfl (lv_at hl 1 rfl) ?_
      refine lv_iconst (v := 2) hx hb dX54_isGood_62 (by decide) ?_
      refine lv_irem hx hb dX54_isGood_63 (by decide) ?_
      have e_22 := z_rem (rfl : x1.toInt = _) (rfl : (2 : Int32).toInt = 2) hq_20 (by decide)
      refine k_i0 hH (k_runV (As := [.int (x1 / 2), .int (x1 - x1 / 2 * 2)]) (rest := []) X hH.1 hH.2.1 X.2.2.2 (walkX54_placeOf hc (x1 := (x1 / 2)) (x2 := (x1 - x1 / 2 * 2)) (f_thrown := f_thrown) (f_cells := f_cells) (f_sizes := f_sizes) (f_keys := f_keys) (f_maps := f_maps) (f_mapCount := f_mapCount) (f_atoms := f_atoms) (f_atomCount := f_atomCount) (f_spans := f_spans) (f_spanCount := f_spanCount) (f_unions := f_unions) (f_unionCount := f_unionCount) (f_isLarge := f_isLarge) (f_trial := f_trial) (f_rowAt := f_rowAt) (f_answers := f_answers) (f_foundBy := f_foundBy) (f_firstBy := f_firstBy) (f_lastBy := f_lastBy) (f_order := f_order) (f_answerCount := f_answerCount) (f_asked := f_asked) (f_tooMany := f_tooMany) (by rw [show (x1 / 2 : Int32).toInt = _ from e_21, show (x1 - x1 / 2 * 2 : Int32).toInt = _ from e_22]; exact hw)) (cwV 2 X.1.2.2.2.2 gX54_95 rfl rfl rfl hX54_placeOf ⟨Nat.le_of_ble_eq_true rfl, Nat.le_of_ble_eq_true rfl⟩) hc (q0 := 0) rfl rfl hl.1 rfl (Nat.le_of_ble_eq_true rfl) dX54_isGood_64 ⟨Nat.le_refl 0, Nat.le_refl 0⟩) (fun r_23 _ H locs hw hH => ?_)
      have hH : kH (dC, dI) cl A s.heap H locs (wX54 ci ad d f_thrown f_cells f_sizes f_keys f_maps f_mapCount f_atoms f_atomCount f_spans f_spanCount f_unions f_unionCount f_isLarge f_trial f_rowAt f_answers f_foundBy f_firstBy f_lastBy f_order f_answerCount f_asked f_tooMany) := hH
      refine lv_istore_n (lv' := [(2, .int r_23), (0, .ref (ad 0)), (1, .int x1)]) hx hb dX54_isGood_67 rfl hl (by decide) rfl (fun ls hl => ?_)
      refine lv_aload_n hx hb dX54_isGood_68 rfl (lv_at hl 1 rfl) ?_
      refine lv_aload_n hx hb dX54_isGood_69 rfl (lv_at hl 1 rfl) ?_
      refine k_get X hH in_X54 0 rfl hc 13 (by decide) q6513 rfl dX54_isGood_70 ?_
      refine lv_iload_n hx hb dX54_isGood_73 rfl (lv_at hl 2 rfl) ?_
      refine lv_iconst (v := 2) hx hb dX54_isGood_74 (by decide) ?_
      refine lv_idiv hx hb dX54_isGood_75 (by decide) ?_
      have e_24 := z_div (rfl : x1.toInt = _) (rfl : (2 : Int32).toInt = 2) hq_20 (by decide)
      have hq_25 := hw.1
      have hw := hw.2
      refine k_iald X hH 8 7 rfl rfl (z_in e_24 hq_25) dX54_isGood_76 ?_
      have e_26 := z_ld (f := f_trial) e_24 hq_25.1
      refine lv_iload_n hx hb dX54_isGood_77 rfl (lv_at hl 2 rfl) ?_
      refine lv_iconst (v := 2) hx hb dX54_isGood_78 (by decide) ?_
      refine lv_irem hx hb dX54_isGood_79 (by decide) ?_
      have e_27 := z_rem (rfl : x1.toInt = _) (rfl : (2 : Int32).toInt = 2) hq_20 (by decide)
      refine k_i0 hH (k_runV (As := [.int (f_trial (x1 / 2).toNatClampNeg), .int (x1 - x1 / 2 * 2)]) (rest := []) X hH.1 hH.2.1 X.2.2.2 (walkX54_templateOf hc (x1 := (f_trial (x1 / 2).toNatClampNeg)) (x2 := (x1 - x1 / 2 * 2)) (f_thrown := f_thrown) (f_cells := f_cells) (f_sizes := f_sizes) (f_keys := f_keys) (f_maps := f_maps) (f_mapCount := f_mapCount) (f_atoms := f_atoms) (f_atomCount := f_atomCount) (f_spans := f_spans) (f_spanCount := f_spanCount) (f_unions := f_unions) (f_unionCount := f_unionCount) (f_isLarge := f_isLarge) (f_trial := f_trial) (f_rowAt := f_rowAt) (f_answers := f_answers) (f_foundBy := f_foundBy) (f_firstBy := f_firstBy) (f_lastBy := f_lastBy) (f_order := f_order) (f_answerCount := f_answerCount) (f_asked := f_asked) (f_tooMany := f_tooMany) (by rw [show (f_trial (x1 / 2).toNatClampNeg : Int32).toInt = _ from e_26, show (x1 - x1 / 2 * 2 : Int32).toInt = _ from e_27]; exact hw)) (cwV 2 X.1.2.2.2.2 gX54_78 rfl rfl rfl hX54_templateOf ⟨Nat.le_of_ble_eq_true rfl, Nat.le_of_ble_eq_true rfl⟩) hc (q0 := 0) rfl rfl hl.1 rfl (Nat.le_of_ble_eq_true rfl) dX54_isGood_80 ⟨Nat.le_refl 0, Nat.le_refl 0⟩) (fun r_28 _ H locs hw hH => ?_)
      have hH : kH (dC, dI) cl A s.heap H locs (wX54 ci ad d f_thrown f_cells f_sizes f_keys f_maps f_mapCount f_atoms f_atomCount f_spans f_spanCount f_unions f_unionCount f_isLarge f_trial f_rowAt f_answers f_foundBy f_firstBy f_lastBy f_order f_answerCount f_asked f_tooMany) := hH
      refine lv_istore_n (lv' := [(3, .int r_28), (2, .int r_23), (0, .ref (ad 0)), (1, .int x1)]) hx hb dX54_isGood_83 rfl hl (by decide) rfl (fun ls hl => ?_)
      refine lv_iload_n hx hb dX54_isGood_84 rfl (lv_at hl 1 rfl) ?_
      refine lv_if_lt (tgt := 99) hx hb dX54_isGood_85 (by decide) (fun c_29 => ?_) (fun c_29 => ?_)
      · have hw := hw.1 (z_lt (rfl : r_23.toInt = _) (rfl : (0 : Int32).toInt = 0) c_29)
        refine lv_iconst (v := 0) hx hb dX54_isGood_99 (by decide) ?_
        refine lv_istore (lv' := [(4, .int 0), (3, .int r_28), (2, .int r_23), (0, .ref (ad 0)), (1, .int x1)]) hx hb dX54_isGood_100 hl (by decide) rfl (fun ls hl => ?_)
        obtain ⟨fu, hw⟩ := hw
        refine atX54_isGood_102 hc X ?_ ?_ fu 0 hw _ _ ls hH (lv_sub hl [3, 4, 2, 1, 0] rfl)
        · intro hw H locs ls hH hl
          exact hk149  hw _ _ ls hH (lv_sub hl [] rfl)
        · intro hw H locs ls hH hl
          have hq_50 := hw.1
          have hw := hw.2
          obtain ⟨x1_49, ex1_49⟩ : ∃ y : Int32, y = x1 + 1 := ⟨_, rfl⟩
          have hw := hw x1_49.toInt (by rw [ex1_49]; exact (z_x (z_add (z_m (rfl : x1.toInt = _)) (z_m (rfl : (1 : Int32).toInt = 1))) hq_50))
          refine lv_iinc (v := x1_49) (lv' := [(1, .int x1_49), (0, .ref (ad 0))]) hx hb dX54_isGood_157 hl (k := 1) rfl (by rw [ex1_49]; rfl) (by decide) rfl (fun ls hl => ?_)
          refine lv_goto (tgt := 47) hx hb dX54_isGood_160 (by decide) ?_
          exact ih x1_49 hw _ _ ls hH (lv_sub hl [1, 0] rfl)
      · have hw := hw.2 (z_nlt (rfl : r_23.toInt = _) (rfl : (0 : Int32).toInt = 0) c_29)
        refine lv_iload_n hx hb dX54_isGood_88 rfl (lv_at hl 1 rfl) ?_
        refine lv_sipush (v := 10000) hx hb dX54_isGood_89 (by decide) ?_
        have hq_51 := hw.1
        have hw := hw.2
        refine lv_idiv hx hb dX54_isGood_92 (by decide) ?_
        have e_52 := z_div (rfl : r_23.toInt = _) (rfl : (10000 : Int32).toInt = 10000) hq_51 (by decide)
        refine lv_iload_n hx hb dX54_isGood_93 rfl (lv_at hl 0 rfl) ?_
        refine lv_icmp_eq (tgt := 99) hx hb dX54_isGood_94 (by decide) (fun c_53 => ?_) (fun c_53 => ?_)
        · have hw := hw.1 (z_eq e_52 (rfl : r_28.toInt = _) c_53)
          refine lv_iconst (v := 0) hx hb dX54_isGood_99 (by decide) ?_
          refine lv_istore (lv' := [(4, .int 0), (3, .int r_28), (2, .int r_23), (0, .ref (ad 0)), (1, .int x1)]) hx hb dX54_isGood_100 hl (by decide) rfl (fun ls hl => ?_)
          obtain ⟨fu, hw⟩ := hw
          refine atX54_isGood_102 hc X ?_ ?_ fu 0 hw _ _ ls hH (lv_sub hl [3, 4, 2, 1, 0] rfl)
          · intro hw H locs ls hH hl
            exact hk149  hw _ _ ls hH (lv_sub hl [] rfl)
          · intro hw H locs ls hH hl
            have hq_55 := hw.1
            have hw := hw.2
            obtain ⟨x1_54, ex1_54⟩ : ∃ y : Int32, y = x1 + 1 := ⟨_, rfl⟩
            have hw := hw x1_54.toInt (by rw [ex1_54]; exact (z_x (z_add (z_m (rfl : x1.toInt = _)) (z_m (rfl : (1 : Int32).toInt = 1))) hq_55))
            refine lv_iinc (v := x1_54) (lv' := [(1, .int x1_54), (0, .ref (ad 0))]) hx hb dX54_isGood_157 hl (k := 1) rfl (by rw [ex1_54]; rfl) (by decide) rfl (fun ls hl => ?_)
            refine lv_goto (tgt := 47) hx hb dX54_isGood_160 (by decide) ?_
            exact ih x1_54 hw _ _ ls hH (lv_sub hl [1, 0] rfl)
        · have hw := hw.2 (z_neq e_52 (rfl : r_28.toInt = _) c_53)
          exact hk97  hw _ _ ls hH (lv_sub hl [] rfl)
set_option maxHeartbeats 4000000 in
theorem walkX54_isGood {l : Launch} {dC : Nat → ClassId} {dI : Nat → Nat → Nat} {cl : List vw_C} {ci : Nat} (hc : cl[ci]? = some (RX54, TX54, 23)) {ad : Nat → Nat} {d : Nat → ClassId} {sz : Nat} {f_thrown : Int32} {f_cells : Nat → Int32} {f_sizes : Nat → Int32} {f_keys : Nat → Int32} {f_maps : Nat → Int32} {f_mapCount : Int32} {f_atoms : Nat → Int32} {f_atomCount : Int32} {f_spans : Nat → Int32} {f_spanCount : Int32} {f_unions : Nat → Int32} {f_unionCount : Int32} {f_isLarge : Int32} {f_trial : Nat → Int32} {f_rowAt : Nat → Int32} {f_answers : Nat → Int32} {f_foundBy : Nat → Int32} {f_firstBy : Nat → Int32} {f_lastBy : Nat → Int32} {f_order : Nat → Int32} {f_answerCount : Int32} {f_asked : Nat → Int32} {f_tooMany : Int32}  {post : Int → Prop} (hw : wpX54_isGood post (zF f_maps) (zF f_atoms) f_atomCount.toInt (zF f_trial) ) :
    Met l yX54_isGood (ws_ yX54_isGood cX54_isGood 5 (some .boolean)) ({ frames := 1, cells := 0, slots := 0, locals := 22 } : Room) (kPc (dC, dI) cl (tX54 d) [.ref (ad 0)] sz (wX54 ci ad d f_thrown f_cells f_sizes f_keys f_maps f_mapCount f_atoms f_atomCount f_spans f_spanCount f_unions f_unionCount f_isLarge f_trial f_rowAt f_answers f_foundBy f_firstBy f_lastBy f_order f_answerCount f_asked f_tooMany)) (va_Qi (fun (r : Int32) (_ : Unit) => post r.toInt) (kB (dC, dI) cl (tX54 d) (va_A (wX54 ci ad d f_thrown f_cells f_sizes f_keys f_maps f_mapCount f_atoms f_atomCount f_spans f_spanCount f_unions f_unionCount f_isLarge f_trial f_rowAt f_answers f_foundBy f_firstBy f_lastBy f_order f_answerCount f_asked f_tooMany) sz) (fun _ : Unit => (wX54 ci ad d f_thrown f_cells f_sizes f_keys f_maps f_mapCount f_atoms f_atomCount f_spans f_spanCount f_unions f_unionCount f_isLarge f_trial f_rowAt f_answers f_foundBy f_firstBy f_lastBy f_order f_answerCount f_asked f_tooMany))) (va_A (wX54 ci ad d f_thrown f_cells f_sizes f_keys f_maps f_mapCount f_atoms f_atomCount f_spans f_spanCount f_unions f_unionCount f_isLarge f_trial f_rowAt f_answers f_foundBy f_firstBy f_lastBy f_order f_answerCount f_asked f_tooMany) sz)) 0 0 (va_A (wX54 ci ad d f_thrown f_cells f_sizes f_keys f_maps f_mapCount f_atoms f_atomCount f_spans f_spanCount f_unions f_unionCount f_isLarge f_trial f_rowAt f_answers f_foundBy f_firstBy f_lastBy f_order f_answerCount f_asked f_tooMany) sz) := by
  refine k_enter (by decide) (Nat.le_of_ble_eq_true rfl) ?_
  intro p e s m below meth c ls X hsz hH hl
  subst hsz
  generalize va_A (wX54 ci ad d f_thrown f_cells f_sizes f_keys f_maps f_mapCount f_atoms f_atomCount f_spans f_spanCount f_unions f_unionCount f_isLarge f_trial f_rowAt f_answers f_foundBy f_firstBy f_lastBy f_order f_answerCount f_asked f_tooMany) s.heap.size = A at hH ⊢
  have hx := X.1.1
  have hb := X.1.2.1
  have hl : lv_has ls 5 [(0, .ref (ad 0))] := hl
  unfold wpX54_isGood at hw
  refine lv_iconst (v := 0) hx hb dX54_isGood_0 (by decide) ?_
  refine lv_istore_n (lv' := [(1, .int 0), (0, .ref (ad 0))]) hx hb dX54_isGood_1 rfl hl (by decide) rfl (fun ls hl => ?_)
  obtain ⟨fu, hw⟩ := hw
  refine atX54_isGood_2 hc X ?_ ?_ fu 0 hw _ _ ls hH (lv_sub hl [1, 0] rfl)
  · intro hw H locs ls hH hl
    refine lv_iconst (v := 0) hx hb dX54_isGood_37 (by decide) ?_
    exact k_iret (v := 0) X hH () hw rfl rfl dX54_isGood_38
  · intro hw H locs ls hH hl
    refine lv_iconst (v := 0) hx hb dX54_isGood_45 (by decide) ?_
    refine lv_istore_n (lv' := [(1, .int 0), (0, .ref (ad 0))]) hx hb dX54_isGood_46 rfl hl (by decide) rfl (fun ls hl => ?_)
    obtain ⟨fu, hw⟩ := hw
    refine atX54_isGood_47 hc X ?_ ?_ ?_ fu 0 hw _ _ ls hH (lv_sub hl [1, 0] rfl)
    · intro hw H locs ls hH hl
      refine lv_iconst (v := 0) hx hb dX54_isGood_97 (by decide) ?_
      exact k_iret (v := 0) X hH () hw rfl rfl dX54_isGood_98
    · intro hw H locs ls hH hl
      refine lv_iconst (v := 0) hx hb dX54_isGood_149 (by decide) ?_
      exact k_iret (v := 0) X hH () hw rfl rfl dX54_isGood_150
    · intro hw H locs ls hH hl
      refine lv_iconst (v := 1) hx hb dX54_isGood_163 (by decide) ?_
      exact k_iret (v := 1) X hH () hw rfl rfl dX54_isGood_164
set_option maxHeartbeats 4000000 in
theorem walkX54_columnOf {l : Launch} {dC : Nat → ClassId} {dI : Nat → Nat → Nat} {cl : List vw_C} {ci : Nat} (hc : cl[ci]? = some (RX54, TX54, 23)) {ad : Nat → Nat} {d : Nat → ClassId} {sz : Nat} {f_thrown : Int32} {f_cells : Nat → Int32} {f_sizes : Nat → Int32} {f_keys : Nat → Int32} {f_maps : Nat → Int32} {f_mapCount : Int32} {f_atoms : Nat → Int32} {f_atomCount : Int32} {f_spans : Nat → Int32} {f_spanCount : Int32} {f_unions : Nat → Int32} {f_unionCount : Int32} {f_isLarge : Int32} {f_trial : Nat → Int32} {f_rowAt : Nat → Int32} {f_answers : Nat → Int32} {f_foundBy : Nat → Int32} {f_firstBy : Nat → Int32} {f_lastBy : Nat → Int32} {f_order : Nat → Int32} {f_answerCount : Int32} {f_asked : Nat → Int32} {f_tooMany : Int32} {x1 : Int32} {x2 : Int32} {post : Int → Prop} (hw : wpX54_columnOf post (zF f_maps) x1.toInt x2.toInt) :
    Met l yX54_columnOf (ws_ yX54_columnOf cX54_columnOf 3 (some .int)) ({ frames := 0, cells := 0, slots := 0, locals := 0 } : Room) (kPc (dC, dI) cl (tX54 d) [.ref (ad 0), .int x1, .int x2] sz (wX54 ci ad d f_thrown f_cells f_sizes f_keys f_maps f_mapCount f_atoms f_atomCount f_spans f_spanCount f_unions f_unionCount f_isLarge f_trial f_rowAt f_answers f_foundBy f_firstBy f_lastBy f_order f_answerCount f_asked f_tooMany)) (va_Qi (fun (r : Int32) (_ : Unit) => post r.toInt) (kB (dC, dI) cl (tX54 d) (va_A (wX54 ci ad d f_thrown f_cells f_sizes f_keys f_maps f_mapCount f_atoms f_atomCount f_spans f_spanCount f_unions f_unionCount f_isLarge f_trial f_rowAt f_answers f_foundBy f_firstBy f_lastBy f_order f_answerCount f_asked f_tooMany) sz) (fun _ : Unit => (wX54 ci ad d f_thrown f_cells f_sizes f_keys f_maps f_mapCount f_atoms f_atomCount f_spans f_spanCount f_unions f_unionCount f_isLarge f_trial f_rowAt f_answers f_foundBy f_firstBy f_lastBy f_order f_answerCount f_asked f_tooMany))) (va_A (wX54 ci ad d f_thrown f_cells f_sizes f_keys f_maps f_mapCount f_atoms f_atomCount f_spans f_spanCount f_unions f_unionCount f_isLarge f_trial f_rowAt f_answers f_foundBy f_firstBy f_lastBy f_order f_answerCount f_asked f_tooMany) sz)) 0 0 (va_A (wX54 ci ad d f_thrown f_cells f_sizes f_keys f_maps f_mapCount f_atoms f_atomCount f_spans f_spanCount f_unions f_unionCount f_isLarge f_trial f_rowAt f_answers f_foundBy f_firstBy f_lastBy f_order f_answerCount f_asked f_tooMany) sz) := by
  refine k_enter (by decide) (Nat.le_of_ble_eq_true rfl) ?_
  intro p e s m below meth c ls X hsz hH hl
  subst hsz
  generalize va_A (wX54 ci ad d f_thrown f_cells f_sizes f_keys f_maps f_mapCount f_atoms f_atomCount f_spans f_spanCount f_unions f_unionCount f_isLarge f_trial f_rowAt f_answers f_foundBy f_firstBy f_lastBy f_order f_answerCount f_asked f_tooMany) s.heap.size = A at hH ⊢
  have hx := X.1.1
  have hb := X.1.2.1
  have hl : lv_has ls 3 [(0, .ref (ad 0)), (1, .int x1), (2, .int x2)] := hl
  unfold wpX54_columnOf at hw
  refine lv_aload_n hx hb dX54_columnOf_0 rfl (lv_at hl 0 rfl) ?_
  refine k_get X hH in_X54 0 rfl hc 4 (by decide) q6504 rfl dX54_columnOf_1 ?_
  refine lv_bipush (v := 6) hx hb dX54_columnOf_4 (by decide) ?_
  refine lv_iload_n hx hb dX54_columnOf_6 rfl (lv_at hl 1 rfl) ?_
  refine lv_imul hx hb dX54_columnOf_7 ?_
  have e_1 := z_mul (z_m (rfl : (6 : Int32).toInt = 6)) (z_m (rfl : x1.toInt = _))
  refine lv_iconst (v := 3) hx hb dX54_columnOf_8 (by decide) ?_
  refine lv_iadd hx hb dX54_columnOf_9 ?_
  have e_2 := z_add e_1 (z_m (rfl : (3 : Int32).toInt = 3))
  refine lv_iconst (v := 2) hx hb dX54_columnOf_10 (by decide) ?_
  refine lv_iload_n hx hb dX54_columnOf_11 rfl (lv_at hl 2 rfl) ?_
  refine lv_imul hx hb dX54_columnOf_12 ?_
  have e_3 := z_mul (z_m (rfl : (2 : Int32).toInt = 2)) (z_m (rfl : x2.toInt = _))
  refine lv_iadd hx hb dX54_columnOf_13 ?_
  have e_4 := z_add e_2 e_3
  have hq_5 := hw.1
  have hw := hw.2
  have e_6 := z_xi e_4 hq_5 (by decide)
  refine k_iald X hH 4 3 rfl rfl (z_in e_6 hq_5) dX54_columnOf_14 ?_
  have e_7 := z_ld (f := f_maps) e_6 hq_5.1
  exact k_iret (v := f_maps (((6 * x1) + 3) + (2 * x2)).toNatClampNeg) X hH () (by rw [show (f_maps (((6 * x1) + 3) + (2 * x2)).toNatClampNeg : Int32).toInt = _ from e_7]; exact hw) rfl rfl dX54_columnOf_15
set_option maxHeartbeats 4000000 in
theorem atX54_areOne_38 {p : Program} {l : Launch} {e : Env} {s : State} {m : MethodId} {args : Array Value} {below : List Frame} {meth : Method} {c : Code} {dC : Nat → ClassId} {dI : Nat → Nat → Nat} {cl : List vw_C} {ci : Nat} (hc : cl[ci]? = some (RX54, TX54, 23)) {ad : Nat → Nat} {d : Nat → ClassId} {A : Nat → Prop} {post : Int → Prop} {f_thrown : Int32} {f_cells : Nat → Int32} {f_sizes : Nat → Int32} {f_keys : Nat → Int32} {f_maps : Nat → Int32} {f_mapCount : Int32} {f_atoms : Nat → Int32} {f_atomCount : Int32} {f_spans : Nat → Int32} {f_spanCount : Int32} {f_unions : Nat → Int32} {f_unionCount : Int32} {f_isLarge : Int32} {f_trial : Nat → Int32} {f_rowAt : Nat → Int32} {f_answers : Nat → Int32} {f_foundBy : Nat → Int32} {f_firstBy : Nat → Int32} {f_lastBy : Nat → Int32} {f_order : Nat → Int32} {f_answerCount : Int32} {f_asked : Nat → Int32} {f_tooMany : Int32} (X : kX p s m args meth c cX54_areOne 8 RX54 (some .boolean) (dC, dI) cl (tX54 d)) {K118 : Prop} {K126 : Prop} {x1 : Int32} {x2 : Int32} {x3 : Int32}  (hk118 : K118  → ∀ (H : Heap) (locs : List Loc) (ls : Array Slot), kH (dC, dI) cl A s.heap H locs (wX54 ci ad d f_thrown f_cells f_sizes f_keys f_maps f_mapCount f_atoms f_atomCount f_spans f_spanCount f_unions f_unionCount f_isLarge f_trial f_rowAt f_answers f_foundBy f_firstBy f_lastBy f_order f_answerCount f_asked f_tooMany) → lv_has ls 8 [] → W p l e ({ frames := 1, cells := 0, slots := 0, locals := 22 } : Room) s m args below meth c H locs 0 0 (MQ below (va_Qi (fun (r : Int32) (_ : Unit) => post r.toInt) (kB (dC, dI) cl (tX54 d) A (fun _ : Unit => (wX54 ci ad d f_thrown f_cells f_sizes f_keys f_maps f_mapCount f_atoms f_atomCount f_spans f_spanCount f_unions f_unionCount f_isLarge f_trial f_rowAt f_answers f_foundBy f_firstBy f_lastBy f_order f_answerCount f_asked f_tooMany))) A) args s 0 0 A) (F0 m 118 ls [])) (hk126 : K126  → ∀ (H : Heap) (locs : List Loc) (ls : Array Slot), kH (dC, dI) cl A s.heap H locs (wX54 ci ad d f_thrown f_cells f_sizes f_keys f_maps f_mapCount f_atoms f_atomCount f_spans f_spanCount f_unions f_unionCount f_isLarge f_trial f_rowAt f_answers f_foundBy f_firstBy f_lastBy f_order f_answerCount f_asked f_tooMany) → lv_has ls 8 [] → W p l e ({ frames := 1, cells := 0, slots := 0, locals := 22 } : Room) s m args below meth c H locs 0 0 (MQ below (va_Qi (fun (r : Int32) (_ : Unit) => post r.toInt) (kB (dC, dI) cl (tX54 d) A (fun _ : Unit => (wX54 ci ad d f_thrown f_cells f_sizes f_keys f_maps f_mapCount f_atoms f_atomCount f_spans f_spanCount f_unions f_unionCount f_isLarge f_trial f_rowAt f_answers f_foundBy f_firstBy f_lastBy f_order f_answerCount f_asked f_tooMany))) A) args s 0 0 A) (F0 m 126 ls [])) :
    ∀ (nn : Nat) (x4 : Int32), wX54_areOne_38 K118 K126 x1.toInt x2.toInt x3.toInt (zF f_keys) (zF f_maps) (zF f_atoms) (zF f_trial) nn x4.toInt → ∀ (H : Heap) (locs : List Loc) (ls : Array Slot), kH (dC, dI) cl A s.heap H locs (wX54 ci ad d f_thrown f_cells f_sizes f_keys f_maps f_mapCount f_atoms f_atomCount f_spans f_spanCount f_unions f_unionCount f_isLarge f_trial f_rowAt f_answers f_foundBy f_firstBy f_lastBy f_order f_answerCount f_asked f_tooMany) → lv_has ls 8 [(0, .ref (ad 0)), (1, .int x1), (2, .int x2), (3, .int x3), (4, .int x4)] → W p l e ({ frames := 1, cells := 0, slots := 0, locals := 22 } : Room) s m args below meth c H locs 0 0 (MQ below (va_Qi (fun (r : Int32) (_ : Unit) => post r.toInt) (kB (dC, dI) cl (tX54 d) A (fun _ : Unit => (wX54 ci ad d f_thrown f_cells f_sizes f_keys f_maps f_mapCount f_atoms f_atomCount f_spans f_spanCount f_unions f_unionCount f_isLarge f_trial f_rowAt f_answers f_foundBy f_firstBy f_lastBy f_order f_answerCount f_asked f_tooMany))) A) args s 0 0 A) (F0 m 38 ls []) := by
  have hx := X.1.1
  have hb := X.1.2.1
  intro nn
  induction nn with
  | zero =>
    intro x4 hw
    exact False.elim hw
  | succ n ih =>
    intro x4 hw H locs ls hH hl
    rw [wX54_areOne_38] at hw
    refine lv_iload hx hb dX54_areOne_38 (lv_at hl 4 rfl) ?_
    refine lv_iconst (v := 4) hx hb dX54_areOne_40 (by decide) ?_
    refine lv_icmp_ge (tgt := 126) hx hb dX54_areOne_41 (by decide) (fun c_15 => ?_) (fun c_15 => ?_)
    · have hw := hw.1 (z_le (rfl : (4 : Int32).toInt = 4) (rfl : x4.toInt = _) c_15)
      exact hk126  hw _ _ ls hH (lv_sub hl [] rfl)
    · have hw := hw.2 (z_nle (rfl : (4 : Int32).toInt = 4) (rfl : x4.toInt = _) c_15)
      refine lv_iload hx hb dX54_areOne_44 (lv_at hl 4 rfl) ?_
      refine lv_iconst (v := 2) hx hb dX54_areOne_46 (by decide) ?_
      have hq_16 := hw.1
      have hw := hw.2
      refine lv_idiv hx hb dX54_areOne_47 (by decide) ?_
      have e_17 := z_div (rfl : x4.toInt = _) (rfl : (2 : Int32).toInt = 2) hq_16 (by decide)
      refine lv_topi (fun x5_18 ex5_18 => ?_)
      have hw := hw x5_18.toInt (by rw [ex5_18]; exact e_17)
      refine lv_istore (lv' := [(5, .int x5_18), (0, .ref (ad 0)), (1, .int x1), (2, .int x2), (3, .int x3), (4, .int x4)]) hx hb dX54_areOne_48 hl (by decide) rfl (fun ls hl => ?_)
      refine lv_iload hx hb dX54_areOne_50 (lv_at hl 5 rfl) ?_
      refine lv_iconst (v := 2) hx hb dX54_areOne_52 (by decide) ?_
      refine lv_irem hx hb dX54_areOne_53 (by decide) ?_
      have e_19 := z_rem (rfl : x4.toInt = _) (rfl : (2 : Int32).toInt = 2) hq_16 (by decide)
      refine lv_topi (fun x6_20 ex6_20 => ?_)
      have hw := hw x6_20.toInt (by rw [ex6_20]; exact e_19)
      refine lv_istore (lv' := [(6, .int x6_20), (5, .int x5_18), (0, .ref (ad 0)), (1, .int x1), (2, .int x2), (3, .int x3), (4, .int x4)]) hx hb dX54_areOne_54 hl (by decide) rfl (fun ls hl => ?_)
      refine lv_aload_n hx hb dX54_areOne_56 rfl (lv_at hl 2 rfl) ?_
      refine lv_aload_n hx hb dX54_areOne_57 rfl (lv_at hl 2 rfl) ?_
      refine k_get X hH in_X54 0 rfl hc 13 (by decide) q6513 rfl dX54_areOne_58 ?_
      refine lv_iload_n hx hb dX54_areOne_61 rfl (lv_at hl 3 rfl) ?_
      have hq_21 := hw.1
      have hw := hw.2
      refine k_iald X hH 8 7 rfl rfl (z_in (rfl : x1.toInt = _) hq_21) dX54_areOne_62 ?_
      have e_22 := z_ld (f := f_trial) (rfl : x1.toInt = _) hq_21.1
      refine lv_iload hx hb dX54_areOne_63 (lv_at hl 1 rfl) ?_
      refine k_i0 hH (k_runV (As := [.int (f_trial x1.toNatClampNeg), .int x5_18]) (rest := []) X hH.1 hH.2.1 X.2.2.2 (walkX54_columnOf hc (x1 := (f_trial x1.toNatClampNeg)) (x2 := x5_18) (f_thrown := f_thrown) (f_cells := f_cells) (f_sizes := f_sizes) (f_keys := f_keys) (f_maps := f_maps) (f_mapCount := f_mapCount) (f_atoms := f_atoms) (f_atomCount := f_atomCount) (f_spans := f_spans) (f_spanCount := f_spanCount) (f_unions := f_unions) (f_unionCount := f_unionCount) (f_isLarge := f_isLarge) (f_trial := f_trial) (f_rowAt := f_rowAt) (f_answers := f_answers) (f_foundBy := f_foundBy) (f_firstBy := f_firstBy) (f_lastBy := f_lastBy) (f_order := f_order) (f_answerCount := f_answerCount) (f_asked := f_asked) (f_tooMany := f_tooMany) (by rw [show (f_trial x1.toNatClampNeg : Int32).toInt = _ from e_22]; exact hw)) (cwV 2 X.1.2.2.2.2 gX54_82 rfl rfl rfl hX54_columnOf ⟨Nat.le_of_ble_eq_true rfl, Nat.le_of_ble_eq_true rfl⟩) hc (q0 := 0) rfl rfl hl.1 rfl (Nat.le_of_ble_eq_true rfl) dX54_areOne_65 ⟨Nat.le_refl 0, Nat.le_refl 0⟩) (fun r_23 _ H locs hw hH => ?_)
      have hH : kH (dC, dI) cl A s.heap H locs (wX54 ci ad d f_thrown f_cells f_sizes f_keys f_maps f_mapCount f_atoms f_atomCount f_spans f_spanCount f_unions f_unionCount f_isLarge f_trial f_rowAt f_answers f_foundBy f_firstBy f_lastBy f_order f_answerCount f_asked f_tooMany) := hH
      refine lv_istore (lv' := [(7, .int r_23), (6, .int x6_20), (5, .int x5_18), (0, .ref (ad 0)), (1, .int x1), (2, .int x2), (3, .int x3), (4, .int x4)]) hx hb dX54_areOne_68 hl (by decide) rfl (fun ls hl => ?_)
      refine lv_aload_n hx hb dX54_areOne_70 rfl (lv_at hl 3 rfl) ?_
      refine k_get X hH in_X54 0 rfl hc 3 (by decide) q6503 rfl dX54_areOne_71 ?_
      refine lv_iconst (v := 3) hx hb dX54_areOne_74 (by decide) ?_
      refine lv_iload_n hx hb dX54_areOne_75 rfl (lv_at hl 6 rfl) ?_
      refine lv_imul hx hb dX54_areOne_76 ?_
      have e_24 := z_mul (z_m (rfl : (3 : Int32).toInt = 3)) (z_m (rfl : x3.toInt = _))
      refine lv_iload hx hb dX54_areOne_77 (lv_at hl 0 rfl) ?_
      refine lv_iadd hx hb dX54_areOne_79 ?_
      have e_25 := z_add e_24 (z_m (rfl : r_23.toInt = _))
      have hq_26 := hw.1
      have hw := hw.2
      have e_27 := z_xi e_25 hq_26 (by decide)
      refine k_zald X hH 3 2 rfl rfl (z_in e_27 hq_26) dX54_areOne_80 ?_
      have e_28 := z_ld (f := f_keys) e_27 hq_26.1
      refine lv_if_eq (tgt := 120) hx hb dX54_areOne_81 (by decide) (fun c_29 => ?_) (fun c_29 => ?_)
      · have hw := hw.1 (z_eq e_28 (rfl : (0 : Int32).toInt = 0) c_29)
        have hq_31 := hw.1
        have hw := hw.2
        obtain ⟨x4_30, ex4_30⟩ : ∃ y : Int32, y = x4 + 1 := ⟨_, rfl⟩
        have hw := hw x4_30.toInt (by rw [ex4_30]; exact (z_x (z_add (z_m (rfl : x4.toInt = _)) (z_m (rfl : (1 : Int32).toInt = 1))) hq_31))
        refine lv_iinc (v := x4_30) (lv' := [(4, .int x4_30), (7, .int r_23), (6, .int x6_20), (5, .int x5_18), (0, .ref (ad 0)), (1, .int x1), (2, .int x2), (3, .int x3)]) hx hb dX54_areOne_120 hl (k := 7) rfl (by rw [ex4_30]; rfl) (by decide) rfl (fun ls hl => ?_)
        refine lv_goto (tgt := 38) hx hb dX54_areOne_123 (by decide) ?_
        exact ih x4_30 hw _ _ ls hH (lv_sub hl [4, 5, 6, 7, 0] rfl)
      · have hw := hw.2 (z_neq e_28 (rfl : (0 : Int32).toInt = 0) c_29)
        refine lv_aload_n hx hb dX54_areOne_84 rfl (lv_at hl 3 rfl) ?_
        refine lv_aload_n hx hb dX54_areOne_85 rfl (lv_at hl 3 rfl) ?_
        refine k_get X hH in_X54 0 rfl hc 13 (by decide) q6513 rfl dX54_areOne_86 ?_
        refine lv_iload_n hx hb dX54_areOne_89 rfl (lv_at hl 5 rfl) ?_
        have hq_32 := hw.1
        have hw := hw.2
        refine k_iald X hH 8 7 rfl rfl (z_in (rfl : x2.toInt = _) hq_32) dX54_areOne_90 ?_
        have e_33 := z_ld (f := f_trial) (rfl : x2.toInt = _) hq_32.1
        refine lv_iload hx hb dX54_areOne_91 (lv_at hl 1 rfl) ?_
        refine k_i0 hH (k_runV (As := [.int (f_trial x2.toNatClampNeg), .int x6_20]) (rest := []) X hH.1 hH.2.1 X.2.2.2 (walkX54_columnOf hc (x1 := (f_trial x2.toNatClampNeg)) (x2 := x6_20) (f_thrown := f_thrown) (f_cells := f_cells) (f_sizes := f_sizes) (f_keys := f_keys) (f_maps := f_maps) (f_mapCount := f_mapCount) (f_atoms := f_atoms) (f_atomCount := f_atomCount) (f_spans := f_spans) (f_spanCount := f_spanCount) (f_unions := f_unions) (f_unionCount := f_unionCount) (f_isLarge := f_isLarge) (f_trial := f_trial) (f_rowAt := f_rowAt) (f_answers := f_answers) (f_foundBy := f_foundBy) (f_firstBy := f_firstBy) (f_lastBy := f_lastBy) (f_order := f_order) (f_answerCount := f_answerCount) (f_asked := f_asked) (f_tooMany := f_tooMany) (by rw [show (f_trial x2.toNatClampNeg : Int32).toInt = _ from e_33]; exact hw)) (cwV 2 X.1.2.2.2.2 gX54_82 rfl rfl rfl hX54_columnOf ⟨Nat.le_of_ble_eq_true rfl, Nat.le_of_ble_eq_true rfl⟩) hc (q0 := 0) rfl rfl hl.1 rfl (Nat.le_of_ble_eq_true rfl) dX54_areOne_93 ⟨Nat.le_refl 0, Nat.le_refl 0⟩) (fun r_34 _ H locs hw hH => ?_)
        have hH : kH (dC, dI) cl A s.heap H locs (wX54 ci ad d f_thrown f_cells f_sizes f_keys f_maps f_mapCount f_atoms f_atomCount f_spans f_spanCount f_unions f_unionCount f_isLarge f_trial f_rowAt f_answers f_foundBy f_firstBy f_lastBy f_order f_answerCount f_asked f_tooMany) := hH
        refine lv_iload hx hb dX54_areOne_96 (lv_at hl 0 rfl) ?_
        refine lv_icmp_ne (tgt := 120) hx hb dX54_areOne_98 (by decide) (fun c_35 => ?_) (fun c_35 => ?_)
        · have hw := hw.2 (z_ne (rfl : r_34.toInt = _) (rfl : r_23.toInt = _) c_35)
          have hq_37 := hw.1
          have hw := hw.2
          obtain ⟨x4_36, ex4_36⟩ : ∃ y : Int32, y = x4 + 1 := ⟨_, rfl⟩
          have hw := hw x4_36.toInt (by rw [ex4_36]; exact (z_x (z_add (z_m (rfl : x4.toInt = _)) (z_m (rfl : (1 : Int32).toInt = 1))) hq_37))
          refine lv_iinc (v := x4_36) (lv' := [(4, .int x4_36), (7, .int r_23), (6, .int x6_20), (5, .int x5_18), (0, .ref (ad 0)), (1, .int x1), (2, .int x2), (3, .int x3)]) hx hb dX54_areOne_120 hl (k := 7) rfl (by rw [ex4_36]; rfl) (by decide) rfl (fun ls hl => ?_)
          refine lv_goto (tgt := 38) hx hb dX54_areOne_123 (by decide) ?_
          exact ih x4_36 hw _ _ ls hH (lv_sub hl [4, 5, 6, 7, 0] rfl)
        · have hw := hw.1 (z_eq (rfl : r_34.toInt = _) (rfl : r_23.toInt = _) c_35)
          refine lv_aload_n hx hb dX54_areOne_101 rfl (lv_at hl 3 rfl) ?_
          refine lv_iload_n hx hb dX54_areOne_102 rfl (lv_at hl 4 rfl) ?_
          refine lv_iload hx hb dX54_areOne_103 (lv_at hl 2 rfl) ?_
          refine k_i0 hH (k_runV (As := [.int x1, .int x5_18]) (rest := []) X hH.1 hH.2.1 X.2.2.2 (walkX54_placeOf hc (x1 := x1) (x2 := x5_18) (f_thrown := f_thrown) (f_cells := f_cells) (f_sizes := f_sizes) (f_keys := f_keys) (f_maps := f_maps) (f_mapCount := f_mapCount) (f_atoms := f_atoms) (f_atomCount := f_atomCount) (f_spans := f_spans) (f_spanCount := f_spanCount) (f_unions := f_unions) (f_unionCount := f_unionCount) (f_isLarge := f_isLarge) (f_trial := f_trial) (f_rowAt := f_rowAt) (f_answers := f_answers) (f_foundBy := f_foundBy) (f_firstBy := f_firstBy) (f_lastBy := f_lastBy) (f_order := f_order) (f_answerCount := f_answerCount) (f_asked := f_asked) (f_tooMany := f_tooMany) hw) (cwV 2 X.1.2.2.2.2 gX54_95 rfl rfl rfl hX54_placeOf ⟨Nat.le_of_ble_eq_true rfl, Nat.le_of_ble_eq_true rfl⟩) hc (q0 := 0) rfl rfl hl.1 rfl (Nat.le_of_ble_eq_true rfl) dX54_areOne_105 ⟨Nat.le_refl 0, Nat.le_refl 0⟩) (fun r_38 _ H locs hw hH => ?_)
          have hH : kH (dC, dI) cl A s.heap H locs (wX54 ci ad d f_thrown f_cells f_sizes f_keys f_maps f_mapCount f_atoms f_atomCount f_spans f_spanCount f_unions f_unionCount f_isLarge f_trial f_rowAt f_answers f_foundBy f_firstBy f_lastBy f_order f_answerCount f_asked f_tooMany) := hH
          refine lv_aload_n hx hb dX54_areOne_108 rfl (lv_at hl 3 rfl) ?_
          refine lv_iload_n hx hb dX54_areOne_109 rfl (lv_at hl 5 rfl) ?_
          refine lv_iload hx hb dX54_areOne_110 (lv_at hl 1 rfl) ?_
          refine k_i0 hH (k_runV (As := [.int x2, .int x6_20]) (rest := [.int r_38]) X hH.1 hH.2.1 X.2.2.2 (walkX54_placeOf hc (x1 := x2) (x2 := x6_20) (f_thrown := f_thrown) (f_cells := f_cells) (f_sizes := f_sizes) (f_keys := f_keys) (f_maps := f_maps) (f_mapCount := f_mapCount) (f_atoms := f_atoms) (f_atomCount := f_atomCount) (f_spans := f_spans) (f_spanCount := f_spanCount) (f_unions := f_unions) (f_unionCount := f_unionCount) (f_isLarge := f_isLarge) (f_trial := f_trial) (f_rowAt := f_rowAt) (f_answers := f_answers) (f_foundBy := f_foundBy) (f_firstBy := f_firstBy) (f_lastBy := f_lastBy) (f_order := f_order) (f_answerCount := f_answerCount) (f_asked := f_asked) (f_tooMany := f_tooMany) hw) (cwV 2 X.1.2.2.2.2 gX54_95 rfl rfl rfl hX54_placeOf ⟨Nat.le_of_ble_eq_true rfl, Nat.le_of_ble_eq_true rfl⟩) hc (q0 := 0) rfl rfl hl.1 rfl (Nat.le_of_ble_eq_true rfl) dX54_areOne_112 ⟨Nat.le_refl 0, Nat.le_refl 0⟩) (fun r_39 _ H locs hw hH => ?_)
          have hH : kH (dC, dI) cl A s.heap H locs (wX54 ci ad d f_thrown f_cells f_sizes f_keys f_maps f_mapCount f_atoms f_atomCount f_spans f_spanCount f_unions f_unionCount f_isLarge f_trial f_rowAt f_answers f_foundBy f_firstBy f_lastBy f_order f_answerCount f_asked f_tooMany) := hH
          refine lv_icmp_ne (tgt := 120) hx hb dX54_areOne_115 (by decide) (fun c_40 => ?_) (fun c_40 => ?_)
          · have hw := hw.2 (z_ne (rfl : r_38.toInt = _) (rfl : r_39.toInt = _) c_40)
            have hq_42 := hw.1
            have hw := hw.2
            obtain ⟨x4_41, ex4_41⟩ : ∃ y : Int32, y = x4 + 1 := ⟨_, rfl⟩
            have hw := hw x4_41.toInt (by rw [ex4_41]; exact (z_x (z_add (z_m (rfl : x4.toInt = _)) (z_m (rfl : (1 : Int32).toInt = 1))) hq_42))
            refine lv_iinc (v := x4_41) (lv' := [(4, .int x4_41), (7, .int r_23), (6, .int x6_20), (5, .int x5_18), (0, .ref (ad 0)), (1, .int x1), (2, .int x2), (3, .int x3)]) hx hb dX54_areOne_120 hl (k := 7) rfl (by rw [ex4_41]; rfl) (by decide) rfl (fun ls hl => ?_)
            refine lv_goto (tgt := 38) hx hb dX54_areOne_123 (by decide) ?_
            exact ih x4_41 hw _ _ ls hH (lv_sub hl [4, 5, 6, 7, 0] rfl)
          · have hw := hw.1 (z_eq (rfl : r_38.toInt = _) (rfl : r_39.toInt = _) c_40)
            exact hk118  hw _ _ ls hH (lv_sub hl [] rfl)
set_option maxHeartbeats 4000000 in
theorem walkX54_areOne {l : Launch} {dC : Nat → ClassId} {dI : Nat → Nat → Nat} {cl : List vw_C} {ci : Nat} (hc : cl[ci]? = some (RX54, TX54, 23)) {ad : Nat → Nat} {d : Nat → ClassId} {sz : Nat} {f_thrown : Int32} {f_cells : Nat → Int32} {f_sizes : Nat → Int32} {f_keys : Nat → Int32} {f_maps : Nat → Int32} {f_mapCount : Int32} {f_atoms : Nat → Int32} {f_atomCount : Int32} {f_spans : Nat → Int32} {f_spanCount : Int32} {f_unions : Nat → Int32} {f_unionCount : Int32} {f_isLarge : Int32} {f_trial : Nat → Int32} {f_rowAt : Nat → Int32} {f_answers : Nat → Int32} {f_foundBy : Nat → Int32} {f_firstBy : Nat → Int32} {f_lastBy : Nat → Int32} {f_order : Nat → Int32} {f_answerCount : Int32} {f_asked : Nat → Int32} {f_tooMany : Int32} {x1 : Int32} {x2 : Int32} {post : Int → Prop} (hw : wpX54_areOne post (zF f_keys) (zF f_maps) (zF f_atoms) (zF f_trial) x1.toInt x2.toInt) :
    Met l yX54_areOne (ws_ yX54_areOne cX54_areOne 8 (some .boolean)) ({ frames := 1, cells := 0, slots := 0, locals := 22 } : Room) (kPc (dC, dI) cl (tX54 d) [.ref (ad 0), .int x1, .int x2] sz (wX54 ci ad d f_thrown f_cells f_sizes f_keys f_maps f_mapCount f_atoms f_atomCount f_spans f_spanCount f_unions f_unionCount f_isLarge f_trial f_rowAt f_answers f_foundBy f_firstBy f_lastBy f_order f_answerCount f_asked f_tooMany)) (va_Qi (fun (r : Int32) (_ : Unit) => post r.toInt) (kB (dC, dI) cl (tX54 d) (va_A (wX54 ci ad d f_thrown f_cells f_sizes f_keys f_maps f_mapCount f_atoms f_atomCount f_spans f_spanCount f_unions f_unionCount f_isLarge f_trial f_rowAt f_answers f_foundBy f_firstBy f_lastBy f_order f_answerCount f_asked f_tooMany) sz) (fun _ : Unit => (wX54 ci ad d f_thrown f_cells f_sizes f_keys f_maps f_mapCount f_atoms f_atomCount f_spans f_spanCount f_unions f_unionCount f_isLarge f_trial f_rowAt f_answers f_foundBy f_firstBy f_lastBy f_order f_answerCount f_asked f_tooMany))) (va_A (wX54 ci ad d f_thrown f_cells f_sizes f_keys f_maps f_mapCount f_atoms f_atomCount f_spans f_spanCount f_unions f_unionCount f_isLarge f_trial f_rowAt f_answers f_foundBy f_firstBy f_lastBy f_order f_answerCount f_asked f_tooMany) sz)) 0 0 (va_A (wX54 ci ad d f_thrown f_cells f_sizes f_keys f_maps f_mapCount f_atoms f_atomCount f_spans f_spanCount f_unions f_unionCount f_isLarge f_trial f_rowAt f_answers f_foundBy f_firstBy f_lastBy f_order f_answerCount f_asked f_tooMany) sz) := by
  refine k_enter (by decide) (Nat.le_of_ble_eq_true rfl) ?_
  intro p e s m below meth c ls X hsz hH hl
  subst hsz
  generalize va_A (wX54 ci ad d f_thrown f_cells f_sizes f_keys f_maps f_mapCount f_atoms f_atomCount f_spans f_spanCount f_unions f_unionCount f_isLarge f_trial f_rowAt f_answers f_foundBy f_firstBy f_lastBy f_order f_answerCount f_asked f_tooMany) s.heap.size = A at hH ⊢
  have hx := X.1.1
  have hb := X.1.2.1
  have hl : lv_has ls 8 [(0, .ref (ad 0)), (1, .int x1), (2, .int x2)] := hl
  unfold wpX54_areOne at hw
  refine lv_aload_n hx hb dX54_areOne_0 rfl (lv_at hl 0 rfl) ?_
  refine k_get X hH in_X54 0 rfl hc 4 (by decide) q6504 rfl dX54_areOne_1 ?_
  refine lv_bipush (v := 6) hx hb dX54_areOne_4 (by decide) ?_
  refine lv_aload_n hx hb dX54_areOne_6 rfl (lv_at hl 0 rfl) ?_
  refine k_get X hH in_X54 0 rfl hc 13 (by decide) q6513 rfl dX54_areOne_7 ?_
  refine lv_iload_n hx hb dX54_areOne_10 rfl (lv_at hl 1 rfl) ?_
  have hq_1 := hw.1
  have hw := hw.2
  refine k_iald X hH 8 7 rfl rfl (z_in (rfl : x1.toInt = _) hq_1) dX54_areOne_11 ?_
  have e_2 := z_ld (f := f_trial) (rfl : x1.toInt = _) hq_1.1
  refine lv_imul hx hb dX54_areOne_12 ?_
  have e_3 := z_mul (z_m (rfl : (6 : Int32).toInt = 6)) (z_m e_2)
  have hq_4 := hw.1
  have hw := hw.2
  have e_5 := z_xi e_3 hq_4 (by decide)
  refine k_iald X hH 4 3 rfl rfl (z_in e_5 hq_4) dX54_areOne_13 ?_
  have e_6 := z_ld (f := f_maps) e_5 hq_4.1
  refine lv_topi (fun x3_7 ex3_7 => ?_)
  have hw := hw x3_7.toInt (by rw [ex3_7]; exact e_6)
  refine lv_istore_n (lv' := [(3, .int x3_7), (0, .ref (ad 0)), (1, .int x1), (2, .int x2)]) hx hb dX54_areOne_14 rfl hl (by decide) rfl (fun ls hl => ?_)
  refine lv_aload_n hx hb dX54_areOne_15 rfl (lv_at hl 1 rfl) ?_
  refine k_get X hH in_X54 0 rfl hc 4 (by decide) q6504 rfl dX54_areOne_16 ?_
  refine lv_bipush (v := 6) hx hb dX54_areOne_19 (by decide) ?_
  refine lv_aload_n hx hb dX54_areOne_21 rfl (lv_at hl 1 rfl) ?_
  refine k_get X hH in_X54 0 rfl hc 13 (by decide) q6513 rfl dX54_areOne_22 ?_
  refine lv_iload_n hx hb dX54_areOne_25 rfl (lv_at hl 3 rfl) ?_
  have hq_8 := hw.1
  have hw := hw.2
  refine k_iald X hH 8 7 rfl rfl (z_in (rfl : x2.toInt = _) hq_8) dX54_areOne_26 ?_
  have e_9 := z_ld (f := f_trial) (rfl : x2.toInt = _) hq_8.1
  refine lv_imul hx hb dX54_areOne_27 ?_
  have e_10 := z_mul (z_m (rfl : (6 : Int32).toInt = 6)) (z_m e_9)
  have hq_11 := hw.1
  have hw := hw.2
  have e_12 := z_xi e_10 hq_11 (by decide)
  refine k_iald X hH 4 3 rfl rfl (z_in e_12 hq_11) dX54_areOne_28 ?_
  have e_13 := z_ld (f := f_maps) e_12 hq_11.1
  refine lv_iload_n hx hb dX54_areOne_29 rfl (lv_at hl 0 rfl) ?_
  refine lv_icmp_eq (tgt := 35) hx hb dX54_areOne_30 (by decide) (fun c_14 => ?_) (fun c_14 => ?_)
  · have hw := hw.1 (z_eq e_13 (rfl : x3_7.toInt = _) c_14)
    refine lv_iconst (v := 0) hx hb dX54_areOne_35 (by decide) ?_
    refine lv_istore (lv' := [(4, .int 0), (3, .int x3_7), (0, .ref (ad 0)), (1, .int x1), (2, .int x2)]) hx hb dX54_areOne_36 hl (by decide) rfl (fun ls hl => ?_)
    obtain ⟨fu, hw⟩ := hw
    refine atX54_areOne_38 hc X ?_ ?_ fu 0 hw _ _ ls hH (lv_sub hl [2, 3, 4, 1, 0] rfl)
    · intro hw H locs ls hH hl
      refine lv_iconst (v := 1) hx hb dX54_areOne_118 (by decide) ?_
      exact k_iret (v := 1) X hH () hw rfl rfl dX54_areOne_119
    · intro hw H locs ls hH hl
      refine lv_iconst (v := 0) hx hb dX54_areOne_126 (by decide) ?_
      exact k_iret (v := 0) X hH () hw rfl rfl dX54_areOne_127
  · have hw := hw.2 (z_neq e_13 (rfl : x3_7.toInt = _) c_14)
    refine lv_iconst (v := 0) hx hb dX54_areOne_33 (by decide) ?_
    exact k_iret (v := 0) X hH () hw rfl rfl dX54_areOne_34
set_option maxHeartbeats 4000000 in
theorem atX54_keep_40 {p : Program} {l : Launch} {e : Env} {s : State} {m : MethodId} {args : Array Value} {below : List Frame} {meth : Method} {c : Code} {dC : Nat → ClassId} {dI : Nat → Nat → Nat} {cl : List vw_C} {ci : Nat} (hc : cl[ci]? = some (RX54, TX54, 23)) {ad : Nat → Nat} {d : Nat → ClassId} {A : Nat → Prop} {post : (Int → Int) → Int → Prop} {f_thrown : Int32} {f_cells : Nat → Int32} {f_sizes : Nat → Int32} {f_keys : Nat → Int32} {f_maps : Nat → Int32} {f_mapCount : Int32} {f_atoms : Nat → Int32} {f_atomCount : Int32} {f_spans : Nat → Int32} {f_spanCount : Int32} {f_isLarge : Int32} {f_trial : Nat → Int32} {f_rowAt : Nat → Int32} {f_answers : Nat → Int32} {f_foundBy : Nat → Int32} {f_firstBy : Nat → Int32} {f_lastBy : Nat → Int32} {f_order : Nat → Int32} {f_answerCount : Int32} {f_asked : Nat → Int32} {f_tooMany : Int32} (X : kX p s m args meth c cX54_keep 6 RX54 none (dC, dI) cl (tX54 d)) {K84 : Int → Prop} {x1 : Int32} {x2 : Int32} {x3 : Int32} {f_unions : Nat → Int32} {f_unionCount : Int32} (hk84 : ∀ (x4 : Int32), K84 x4.toInt → ∀ (H : Heap) (locs : List Loc) (ls : Array Slot), kH (dC, dI) cl A s.heap H locs (wX54 ci ad d f_thrown f_cells f_sizes f_keys f_maps f_mapCount f_atoms f_atomCount f_spans f_spanCount f_unions f_unionCount f_isLarge f_trial f_rowAt f_answers f_foundBy f_firstBy f_lastBy f_order f_answerCount f_asked f_tooMany) → lv_has ls 6 [(0, .ref (ad 0)), (1, .int x1), (2, .int x2), (3, .int x3), (4, .int x4)] → W p l e ({ frames := 2, cells := 0, slots := 0, locals := 49 } : Room) s m args below meth c H locs 0 0 (MQ below (va_Qv (fun (u : (Nat → Int32) × Int32) => post (zF (u.1)) (u.2).toInt) (kB (dC, dI) cl (tX54 d) A (fun u : (Nat → Int32) × Int32 => (wX54 ci ad d f_thrown f_cells f_sizes f_keys f_maps f_mapCount f_atoms f_atomCount f_spans f_spanCount (u.1) (u.2) f_isLarge f_trial f_rowAt f_answers f_foundBy f_firstBy f_lastBy f_order f_answerCount f_asked f_tooMany))) A) args s 0 0 A) (F0 m 84 ls [])) :
    ∀ (nn : Nat) (x4 : Int32) (x5 : Int32), wX54_keep_40 K84 x1.toInt x3.toInt (zF f_keys) (zF f_maps) (zF f_atoms) (zF f_unions) (zF f_trial) nn x4.toInt x5.toInt → ∀ (H : Heap) (locs : List Loc) (ls : Array Slot), kH (dC, dI) cl A s.heap H locs (wX54 ci ad d f_thrown f_cells f_sizes f_keys f_maps f_mapCount f_atoms f_atomCount f_spans f_spanCount f_unions f_unionCount f_isLarge f_trial f_rowAt f_answers f_foundBy f_firstBy f_lastBy f_order f_answerCount f_asked f_tooMany) → lv_has ls 6 [(0, .ref (ad 0)), (1, .int x1), (2, .int x2), (3, .int x3), (4, .int x4), (5, .int x5)] → W p l e ({ frames := 2, cells := 0, slots := 0, locals := 49 } : Room) s m args below meth c H locs 0 0 (MQ below (va_Qv (fun (u : (Nat → Int32) × Int32) => post (zF (u.1)) (u.2).toInt) (kB (dC, dI) cl (tX54 d) A (fun u : (Nat → Int32) × Int32 => (wX54 ci ad d f_thrown f_cells f_sizes f_keys f_maps f_mapCount f_atoms f_atomCount f_spans f_spanCount (u.1) (u.2) f_isLarge f_trial f_rowAt f_answers f_foundBy f_firstBy f_lastBy f_order f_answerCount f_asked f_tooMany))) A) args s 0 0 A) (F0 m 40 ls []) := by
  have hx := X.1.1
  have hb := X.1.2.1
  intro nn
  induction nn with
  | zero =>
    intro x4 x5 hw
    exact False.elim hw
  | succ n ih =>
    intro x4 x5 hw H locs ls hH hl
    rw [wX54_keep_40] at hw
    refine lv_iload hx hb dX54_keep_40 (lv_at hl 5 rfl) ?_
    refine lv_iload_n hx hb dX54_keep_42 rfl (lv_at hl 3 rfl) ?_
    refine lv_icmp_ge (tgt := 84) hx hb dX54_keep_43 (by decide) (fun c_13 => ?_) (fun c_13 => ?_)
    · have hw := hw.1 (z_le (rfl : x3.toInt = _) (rfl : x5.toInt = _) c_13)
      exact hk84 x4 hw _ _ ls hH (lv_sub hl [0, 1, 2, 3, 4] rfl)
    · have hw := hw.2 (z_nle (rfl : x3.toInt = _) (rfl : x5.toInt = _) c_13)
      refine lv_iload hx hb dX54_keep_46 (lv_at hl 4 rfl) ?_
      refine lv_if_ge (tgt := 84) hx hb dX54_keep_48 (by decide) (fun c_14 => ?_) (fun c_14 => ?_)
      · have hw := hw.1 (z_le (rfl : (0 : Int32).toInt = 0) (rfl : x4.toInt = _) c_14)
        exact hk84 x4 hw _ _ ls hH (lv_sub hl [0, 1, 2, 3, 4] rfl)
      · have hw := hw.2 (z_nle (rfl : (0 : Int32).toInt = 0) (rfl : x4.toInt = _) c_14)
        refine lv_aload_n hx hb dX54_keep_51 rfl (lv_at hl 0 rfl) ?_
        refine lv_iload hx hb dX54_keep_52 (lv_at hl 5 rfl) ?_
        refine lv_iload_n hx hb dX54_keep_54 rfl (lv_at hl 3 rfl) ?_
        refine k_i0 hH (k_runV (As := [.int x5, .int x3]) (rest := []) X hH.1 hH.2.1 X.2.2.2 (walkX54_areOne hc (x1 := x5) (x2 := x3) (f_thrown := f_thrown) (f_cells := f_cells) (f_sizes := f_sizes) (f_keys := f_keys) (f_maps := f_maps) (f_mapCount := f_mapCount) (f_atoms := f_atoms) (f_atomCount := f_atomCount) (f_spans := f_spans) (f_spanCount := f_spanCount) (f_unions := f_unions) (f_unionCount := f_unionCount) (f_isLarge := f_isLarge) (f_trial := f_trial) (f_rowAt := f_rowAt) (f_answers := f_answers) (f_foundBy := f_foundBy) (f_firstBy := f_firstBy) (f_lastBy := f_lastBy) (f_order := f_order) (f_answerCount := f_answerCount) (f_asked := f_asked) (f_tooMany := f_tooMany) hw) (cwV 2 X.1.2.2.2.2 gX54_101 rfl rfl rfl hX54_areOne ⟨Nat.le_of_ble_eq_true rfl, Nat.le_of_ble_eq_true rfl⟩) hc (q0 := 0) rfl rfl hl.1 rfl (Nat.le_of_ble_eq_true rfl) dX54_keep_55 ⟨Nat.le_refl 0, Nat.le_refl 0⟩) (fun r_15 _ H locs hw hH => ?_)
        have hH : kH (dC, dI) cl A s.heap H locs (wX54 ci ad d f_thrown f_cells f_sizes f_keys f_maps f_mapCount f_atoms f_atomCount f_spans f_spanCount f_unions f_unionCount f_isLarge f_trial f_rowAt f_answers f_foundBy f_firstBy f_lastBy f_order f_answerCount f_asked f_tooMany) := hH
        refine lv_if_eq (tgt := 75) hx hb dX54_keep_58 (by decide) (fun c_16 => ?_) (fun c_16 => ?_)
        · have hw := hw.1 (z_eq (rfl : r_15.toInt = _) (rfl : (0 : Int32).toInt = 0) c_16)
          refine lv_iconst (v := (-1)) hx hb dX54_keep_75 (by decide) ?_
          refine lv_istore (lv' := [(4, .int ((-1))), (0, .ref (ad 0)), (1, .int x1), (2, .int x2), (3, .int x3), (5, .int x5)]) hx hb dX54_keep_76 hl (by decide) rfl (fun ls hl => ?_)
          have hq_18 := hw.1
          have hw := hw.2
          obtain ⟨x5_17, ex5_17⟩ : ∃ y : Int32, y = x5 + 1 := ⟨_, rfl⟩
          have hw := hw x5_17.toInt (by rw [ex5_17]; exact (z_x (z_add (z_m (rfl : x5.toInt = _)) (z_m (rfl : (1 : Int32).toInt = 1))) hq_18))
          refine lv_iinc (v := x5_17) (lv' := [(5, .int x5_17), (4, .int ((-1))), (0, .ref (ad 0)), (1, .int x1), (2, .int x2), (3, .int x3)]) hx hb dX54_keep_78 hl (k := 5) rfl (by rw [ex5_17]; rfl) (by decide) rfl (fun ls hl => ?_)
          refine lv_goto (tgt := 40) hx hb dX54_keep_81 (by decide) ?_
          exact ih (-1) x5_17 hw _ _ ls hH (lv_sub hl [2, 3, 4, 5, 1, 0] rfl)
        · have hw := hw.2 (z_neq (rfl : r_15.toInt = _) (rfl : (0 : Int32).toInt = 0) c_16)
          refine lv_aload_n hx hb dX54_keep_61 rfl (lv_at hl 0 rfl) ?_
          refine k_get X hH in_X54 0 rfl hc 10 (by decide) q6510 rfl dX54_keep_62 ?_
          refine lv_iload_n hx hb dX54_keep_65 rfl (lv_at hl 1 rfl) ?_
          refine lv_iconst (v := 4) hx hb dX54_keep_66 (by decide) ?_
          refine lv_iadd hx hb dX54_keep_67 ?_
          have e_19 := z_add (z_m (rfl : x1.toInt = _)) (z_m (rfl : (4 : Int32).toInt = 4))
          refine lv_iload hx hb dX54_keep_68 (lv_at hl 5 rfl) ?_
          refine lv_iadd hx hb dX54_keep_70 ?_
          have e_20 := z_add e_19 (z_m (rfl : x5.toInt = _))
          have hq_21 := hw.1
          have hw := hw.2
          have e_22 := z_xi e_20 hq_21 (by decide)
          refine k_iald X hH 7 6 rfl rfl (z_in e_22 hq_21) dX54_keep_71 ?_
          have e_23 := z_ld (f := f_unions) e_22 hq_21.1
          refine lv_goto (tgt := 76) hx hb dX54_keep_72 (by decide) ?_
          refine lv_topi (fun x4_24 ex4_24 => ?_)
          have hw := hw x4_24.toInt (by rw [ex4_24]; exact e_23)
          refine lv_istore (lv' := [(4, .int x4_24), (0, .ref (ad 0)), (1, .int x1), (2, .int x2), (3, .int x3), (5, .int x5)]) hx hb dX54_keep_76 hl (by decide) rfl (fun ls hl => ?_)
          have hq_26 := hw.1
          have hw := hw.2
          obtain ⟨x5_25, ex5_25⟩ : ∃ y : Int32, y = x5 + 1 := ⟨_, rfl⟩
          have hw := hw x5_25.toInt (by rw [ex5_25]; exact (z_x (z_add (z_m (rfl : x5.toInt = _)) (z_m (rfl : (1 : Int32).toInt = 1))) hq_26))
          refine lv_iinc (v := x5_25) (lv' := [(5, .int x5_25), (4, .int x4_24), (0, .ref (ad 0)), (1, .int x1), (2, .int x2), (3, .int x3)]) hx hb dX54_keep_78 hl (k := 5) rfl (by rw [ex5_25]; rfl) (by decide) rfl (fun ls hl => ?_)
          refine lv_goto (tgt := 40) hx hb dX54_keep_81 (by decide) ?_
          exact ih x4_24 x5_25 hw _ _ ls hH (lv_sub hl [2, 3, 4, 5, 1, 0] rfl)
set_option maxHeartbeats 4000000 in
theorem atX54_keep_104 {p : Program} {l : Launch} {e : Env} {s : State} {m : MethodId} {args : Array Value} {below : List Frame} {meth : Method} {c : Code} {dC : Nat → ClassId} {dI : Nat → Nat → Nat} {cl : List vw_C} {ci : Nat} (hc : cl[ci]? = some (RX54, TX54, 23)) {ad : Nat → Nat} {d : Nat → ClassId} {A : Nat → Prop} {post : (Int → Int) → Int → Prop} {f_thrown : Int32} {f_cells : Nat → Int32} {f_sizes : Nat → Int32} {f_keys : Nat → Int32} {f_maps : Nat → Int32} {f_mapCount : Int32} {f_atoms : Nat → Int32} {f_atomCount : Int32} {f_spans : Nat → Int32} {f_spanCount : Int32} {f_isLarge : Int32} {f_trial : Nat → Int32} {f_rowAt : Nat → Int32} {f_answers : Nat → Int32} {f_foundBy : Nat → Int32} {f_firstBy : Nat → Int32} {f_lastBy : Nat → Int32} {f_order : Nat → Int32} {f_answerCount : Int32} {f_asked : Nat → Int32} {f_tooMany : Int32} (X : kX p s m args meth c cX54_keep 6 RX54 none (dC, dI) cl (tX54 d)) {K12 : Int → Int → (Int → Int) → Prop} {x1 : Int32} {f_unionCount : Int32} (hk12 : ∀ (x2 : Int32) (x3 : Int32) (f_unions : Nat → Int32), K12 x2.toInt x3.toInt (zF f_unions) → ∀ (H : Heap) (locs : List Loc) (ls : Array Slot), kH (dC, dI) cl A s.heap H locs (wX54 ci ad d f_thrown f_cells f_sizes f_keys f_maps f_mapCount f_atoms f_atomCount f_spans f_spanCount f_unions f_unionCount f_isLarge f_trial f_rowAt f_answers f_foundBy f_firstBy f_lastBy f_order f_answerCount f_asked f_tooMany) → lv_has ls 6 [(0, .ref (ad 0)), (1, .int x1), (2, .int x2), (3, .int x3)] → W p l e ({ frames := 2, cells := 0, slots := 0, locals := 49 } : Room) s m args below meth c H locs 0 0 (MQ below (va_Qv (fun (u : (Nat → Int32) × Int32) => post (zF (u.1)) (u.2).toInt) (kB (dC, dI) cl (tX54 d) A (fun u : (Nat → Int32) × Int32 => (wX54 ci ad d f_thrown f_cells f_sizes f_keys f_maps f_mapCount f_atoms f_atomCount f_spans f_spanCount (u.1) (u.2) f_isLarge f_trial f_rowAt f_answers f_foundBy f_firstBy f_lastBy f_order f_answerCount f_asked f_tooMany))) A) args s 0 0 A) (F0 m 12 ls [])) :
    ∀ (x2 : Int32) (x3 : Int32) (x4 : Int32) (y1 : Int32) (y2 : Int32) (f_unions : Nat → Int32), wX54_keep_104 K12 x2.toInt x3.toInt x4.toInt y1.toInt y2.toInt (zF f_unions) → ∀ (H : Heap) (locs : List Loc) (ls : Array Slot), kH (dC, dI) cl A s.heap H locs (wX54 ci ad d f_thrown f_cells f_sizes f_keys f_maps f_mapCount f_atoms f_atomCount f_spans f_spanCount f_unions f_unionCount f_isLarge f_trial f_rowAt f_answers f_foundBy f_firstBy f_lastBy f_order f_answerCount f_asked f_tooMany) → lv_has ls 6 [(0, .ref (ad 0)), (1, .int x1), (2, .int x2), (3, .int x3), (4, .int x4)] → W p l e ({ frames := 2, cells := 0, slots := 0, locals := 49 } : Room) s m args below meth c H locs 0 0 (MQ below (va_Qv (fun (u : (Nat → Int32) × Int32) => post (zF (u.1)) (u.2).toInt) (kB (dC, dI) cl (tX54 d) A (fun u : (Nat → Int32) × Int32 => (wX54 ci ad d f_thrown f_cells f_sizes f_keys f_maps f_mapCount f_atoms f_atomCount f_spans f_spanCount (u.1) (u.2) f_isLarge f_trial f_rowAt f_answers f_foundBy f_firstBy f_lastBy f_order f_answerCount f_asked f_tooMany))) A) args s 0 0 A) (F0 m 104 ls [.int y2, .int y1, .ref (ad 7)]) := by
  have hx := X.1.1
  have hb := X.1.2.1
  intro x2 x3 x4 y1 y2 f_unions hw H locs ls hH hl
  unfold wX54_keep_104 at hw
  have hq_32 := hw.1
  have hw := hw.2
  obtain ⟨f_unions_31, ef_unions_31⟩ : ∃ y : Nat → Int32, y = upd f_unions y1.toNatClampNeg y2 := ⟨_, rfl⟩
  refine k_iast X hH 7 6 rfl rfl (z_in (rfl : y1.toInt = _) hq_32) dX54_keep_104 ef_unions_31 (ws1 := (wX54 ci ad d f_thrown f_cells f_sizes f_keys f_maps f_mapCount f_atoms f_atomCount f_spans f_spanCount f_unions_31 f_unionCount f_isLarge f_trial f_rowAt f_answers f_foundBy f_firstBy f_lastBy f_order f_answerCount f_asked f_tooMany)) rfl (fun H locs hH => ?_)
  have hw := hw (zF f_unions_31) (by rw [ef_unions_31]; exact z_st (f := f_unions) (rfl : y1.toInt = _) hq_32.1 (rfl : y2.toInt = _))
  refine lv_iload_n hx hb dX54_keep_105 rfl (lv_at hl 2 rfl) ?_
  refine lv_iload hx hb dX54_keep_106 (lv_at hl 4 rfl) ?_
  refine lv_if_ge (tgt := 115) hx hb dX54_keep_108 (by decide) (fun c_33 => ?_) (fun c_33 => ?_)
  · have hw := hw.1 (z_le (rfl : (0 : Int32).toInt = 0) (rfl : x4.toInt = _) c_33)
    refine lv_iconst (v := 0) hx hb dX54_keep_115 (by decide) ?_
    refine lv_iadd hx hb dX54_keep_116 ?_
    have e_34 := z_add (z_m (rfl : x2.toInt = _)) (z_m (rfl : (0 : Int32).toInt = 0))
    have hq_35 := hw.1
    have hw := hw.2
    have e_36 := z_x e_34 hq_35
    refine lv_topi (fun x2_37 ex2_37 => ?_)
    have hw := hw x2_37.toInt (by rw [ex2_37]; exact e_36)
    refine lv_istore_n (lv' := [(2, .int x2_37), (0, .ref (ad 0)), (1, .int x1), (3, .int x3), (4, .int x4)]) hx hb dX54_keep_117 rfl hl (by decide) rfl (fun ls hl => ?_)
    have hq_39 := hw.1
    have hw := hw.2
    obtain ⟨x3_38, ex3_38⟩ : ∃ y : Int32, y = x3 + 1 := ⟨_, rfl⟩
    have hw := hw x3_38.toInt (by rw [ex3_38]; exact (z_x (z_add (z_m (rfl : x3.toInt = _)) (z_m (rfl : (1 : Int32).toInt = 1))) hq_39))
    refine lv_iinc (v := x3_38) (lv' := [(3, .int x3_38), (2, .int x2_37), (0, .ref (ad 0)), (1, .int x1), (4, .int x4)]) hx hb dX54_keep_118 hl (k := 3) rfl (by rw [ex3_38]; rfl) (by decide) rfl (fun ls hl => ?_)
    refine lv_goto (tgt := 12) hx hb dX54_keep_121 (by decide) ?_
    exact hk12 x2_37 x3_38 f_unions_31 hw _ _ ls hH (lv_sub hl [2, 3, 1, 0] rfl)
  · have hw := hw.2 (z_nle (rfl : (0 : Int32).toInt = 0) (rfl : x4.toInt = _) c_33)
    refine lv_iconst (v := 1) hx hb dX54_keep_111 (by decide) ?_
    refine lv_goto (tgt := 116) hx hb dX54_keep_112 (by decide) ?_
    refine lv_iadd hx hb dX54_keep_116 ?_
    have e_40 := z_add (z_m (rfl : x2.toInt = _)) (z_m (rfl : (1 : Int32).toInt = 1))
    have hq_41 := hw.1
    have hw := hw.2
    have e_42 := z_x e_40 hq_41
    refine lv_topi (fun x2_43 ex2_43 => ?_)
    have hw := hw x2_43.toInt (by rw [ex2_43]; exact e_42)
    refine lv_istore_n (lv' := [(2, .int x2_43), (0, .ref (ad 0)), (1, .int x1), (3, .int x3), (4, .int x4)]) hx hb dX54_keep_117 rfl hl (by decide) rfl (fun ls hl => ?_)
    have hq_45 := hw.1
    have hw := hw.2
    obtain ⟨x3_44, ex3_44⟩ : ∃ y : Int32, y = x3 + 1 := ⟨_, rfl⟩
    have hw := hw x3_44.toInt (by rw [ex3_44]; exact (z_x (z_add (z_m (rfl : x3.toInt = _)) (z_m (rfl : (1 : Int32).toInt = 1))) hq_45))
    refine lv_iinc (v := x3_44) (lv' := [(3, .int x3_44), (2, .int x2_43), (0, .ref (ad 0)), (1, .int x1), (4, .int x4)]) hx hb dX54_keep_118 hl (k := 3) rfl (by rw [ex3_44]; rfl) (by decide) rfl (fun ls hl => ?_)
    refine lv_goto (tgt := 12) hx hb dX54_keep_121 (by decide) ?_
    exact hk12 x2_43 x3_44 f_unions_31 hw _ _ ls hH (lv_sub hl [2, 3, 1, 0] rfl)
set_option maxHeartbeats 4000000 in
theorem atX54_keep_12 {p : Program} {l : Launch} {e : Env} {s : State} {m : MethodId} {args : Array Value} {below : List Frame} {meth : Method} {c : Code} {dC : Nat → ClassId} {dI : Nat → Nat → Nat} {cl : List vw_C} {ci : Nat} (hc : cl[ci]? = some (RX54, TX54, 23)) {ad : Nat → Nat} {d : Nat → ClassId} {A : Nat → Prop} {post : (Int → Int) → Int → Prop} {f_thrown : Int32} {f_cells : Nat → Int32} {f_sizes : Nat → Int32} {f_keys : Nat → Int32} {f_maps : Nat → Int32} {f_mapCount : Int32} {f_atoms : Nat → Int32} {f_atomCount : Int32} {f_spans : Nat → Int32} {f_spanCount : Int32} {f_isLarge : Int32} {f_trial : Nat → Int32} {f_rowAt : Nat → Int32} {f_answers : Nat → Int32} {f_foundBy : Nat → Int32} {f_firstBy : Nat → Int32} {f_lastBy : Nat → Int32} {f_order : Nat → Int32} {f_answerCount : Int32} {f_asked : Nat → Int32} {f_tooMany : Int32} (X : kX p s m args meth c cX54_keep 6 RX54 none (dC, dI) cl (tX54 d)) {K124 : Int → (Int → Int) → Prop} {x1 : Int32} {f_unionCount : Int32} (hk124 : ∀ (x2 : Int32) (f_unions : Nat → Int32), K124 x2.toInt (zF f_unions) → ∀ (H : Heap) (locs : List Loc) (ls : Array Slot), kH (dC, dI) cl A s.heap H locs (wX54 ci ad d f_thrown f_cells f_sizes f_keys f_maps f_mapCount f_atoms f_atomCount f_spans f_spanCount f_unions f_unionCount f_isLarge f_trial f_rowAt f_answers f_foundBy f_firstBy f_lastBy f_order f_answerCount f_asked f_tooMany) → lv_has ls 6 [(0, .ref (ad 0)), (1, .int x1), (2, .int x2)] → W p l e ({ frames := 2, cells := 0, slots := 0, locals := 49 } : Room) s m args below meth c H locs 0 0 (MQ below (va_Qv (fun (u : (Nat → Int32) × Int32) => post (zF (u.1)) (u.2).toInt) (kB (dC, dI) cl (tX54 d) A (fun u : (Nat → Int32) × Int32 => (wX54 ci ad d f_thrown f_cells f_sizes f_keys f_maps f_mapCount f_atoms f_atomCount f_spans f_spanCount (u.1) (u.2) f_isLarge f_trial f_rowAt f_answers f_foundBy f_firstBy f_lastBy f_order f_answerCount f_asked f_tooMany))) A) args s 0 0 A) (F0 m 124 ls [])) :
    ∀ (nn : Nat) (x2 : Int32) (x3 : Int32) (f_unions : Nat → Int32), wX54_keep_12 K124 x1.toInt (zF f_keys) (zF f_maps) (zF f_atoms) f_atomCount.toInt (zF f_trial) nn x2.toInt x3.toInt (zF f_unions) → ∀ (H : Heap) (locs : List Loc) (ls : Array Slot), kH (dC, dI) cl A s.heap H locs (wX54 ci ad d f_thrown f_cells f_sizes f_keys f_maps f_mapCount f_atoms f_atomCount f_spans f_spanCount f_unions f_unionCount f_isLarge f_trial f_rowAt f_answers f_foundBy f_firstBy f_lastBy f_order f_answerCount f_asked f_tooMany) → lv_has ls 6 [(0, .ref (ad 0)), (1, .int x1), (2, .int x2), (3, .int x3)] → W p l e ({ frames := 2, cells := 0, slots := 0, locals := 49 } : Room) s m args below meth c H locs 0 0 (MQ below (va_Qv (fun (u : (Nat → Int32) × Int32) => post (zF (u.1)) (u.2).toInt) (kB (dC, dI) cl (tX54 d) A (fun u : (Nat → Int32) × Int32 => (wX54 ci ad d f_thrown f_cells f_sizes f_keys f_maps f_mapCount f_atoms f_atomCount f_spans f_spanCount (u.1) (u.2) f_isLarge f_trial f_rowAt f_answers f_foundBy f_firstBy f_lastBy f_order f_answerCount f_asked f_tooMany))) A) args s 0 0 A) (F0 m 12 ls []) := by
  have hx := X.1.1
  have hb := X.1.2.1
  intro nn
  induction nn with
  | zero =>
    intro x2 x3 f_unions hw
    exact False.elim hw
  | succ n ih =>
    intro x2 x3 f_unions hw H locs ls hH hl
    rw [wX54_keep_12] at hw
    refine lv_iload_n hx hb dX54_keep_12 rfl (lv_at hl 3 rfl) ?_
    refine lv_aload_n hx hb dX54_keep_13 rfl (lv_at hl 0 rfl) ?_
    refine k_get X hH in_X54 0 rfl hc 7 (by decide) q6507 rfl dX54_keep_14 ?_
    refine lv_icmp_ge (tgt := 124) hx hb dX54_keep_17 (by decide) (fun c_5 => ?_) (fun c_5 => ?_)
    · have hw := hw.1 (z_le (rfl : f_atomCount.toInt = _) (rfl : x3.toInt = _) c_5)
      exact hk124 x2 f_unions hw _ _ ls hH (lv_sub hl [0, 1, 2] rfl)
    · have hw := hw.2 (z_nle (rfl : f_atomCount.toInt = _) (rfl : x3.toInt = _) c_5)
      refine lv_aload_n hx hb dX54_keep_20 rfl (lv_at hl 0 rfl) ?_
      refine k_get X hH in_X54 0 rfl hc 10 (by decide) q6510 rfl dX54_keep_21 ?_
      refine lv_iload_n hx hb dX54_keep_24 rfl (lv_at hl 1 rfl) ?_
      refine lv_iload_n hx hb dX54_keep_25 rfl (lv_at hl 3 rfl) ?_
      refine lv_iadd hx hb dX54_keep_26 ?_
      have e_6 := z_add (z_m (rfl : x1.toInt = _)) (z_m (rfl : x3.toInt = _))
      refine lv_aload_n hx hb dX54_keep_27 rfl (lv_at hl 0 rfl) ?_
      refine k_get X hH in_X54 0 rfl hc 13 (by decide) q6513 rfl dX54_keep_28 ?_
      refine lv_iload_n hx hb dX54_keep_31 rfl (lv_at hl 3 rfl) ?_
      have hq_7 := hw.1
      have hw := hw.2
      refine k_iald X hH 8 7 rfl rfl (z_in (rfl : x3.toInt = _) hq_7) dX54_keep_32 ?_
      have e_8 := z_ld (f := f_trial) (rfl : x3.toInt = _) hq_7.1
      refine lv_topi (fun v_9 ev_9 => ?_)
      have hw := hw v_9.toInt (by rw [ev_9]; exact e_8)
      have hq_11 := hw.1
      have hw := hw.2
      have e_12 := z_xi e_6 hq_11 (by decide)
      obtain ⟨f_unions_10, ef_unions_10⟩ : ∃ y : Nat → Int32, y = upd f_unions (x1 + x3).toNatClampNeg v_9 := ⟨_, rfl⟩
      refine k_iast X hH 7 6 rfl rfl (z_in e_12 hq_11) dX54_keep_33 ef_unions_10 (ws1 := (wX54 ci ad d f_thrown f_cells f_sizes f_keys f_maps f_mapCount f_atoms f_atomCount f_spans f_spanCount f_unions_10 f_unionCount f_isLarge f_trial f_rowAt f_answers f_foundBy f_firstBy f_lastBy f_order f_answerCount f_asked f_tooMany)) rfl (fun H locs hH => ?_)
      have hw := hw (zF f_unions_10) (by rw [ef_unions_10]; exact z_st (f := f_unions) e_12 hq_11.1 (rfl : v_9.toInt = _))
      refine lv_iconst (v := (-1)) hx hb dX54_keep_34 (by decide) ?_
      refine lv_istore (lv' := [(4, .int ((-1))), (0, .ref (ad 0)), (1, .int x1), (2, .int x2), (3, .int x3)]) hx hb dX54_keep_35 hl (by decide) rfl (fun ls hl => ?_)
      refine lv_iconst (v := 0) hx hb dX54_keep_37 (by decide) ?_
      refine lv_istore (lv' := [(5, .int 0), (4, .int ((-1))), (0, .ref (ad 0)), (1, .int x1), (2, .int x2), (3, .int x3)]) hx hb dX54_keep_38 hl (by decide) rfl (fun ls hl => ?_)
      obtain ⟨fu, hw⟩ := hw
      refine atX54_keep_40 hc X ?_ fu (-1) 0 hw _ _ ls hH (lv_sub hl [2, 3, 4, 5, 1, 0] rfl)
      · intro x4_27 hw H locs ls hH hl
        refine lv_aload_n hx hb dX54_keep_84 rfl (lv_at hl 0 rfl) ?_
        refine k_get X hH in_X54 0 rfl hc 10 (by decide) q6510 rfl dX54_keep_85 ?_
        refine lv_iload_n hx hb dX54_keep_88 rfl (lv_at hl 1 rfl) ?_
        refine lv_iconst (v := 4) hx hb dX54_keep_89 (by decide) ?_
        refine lv_iadd hx hb dX54_keep_90 ?_
        have e_28 := z_add (z_m (rfl : x1.toInt = _)) (z_m (rfl : (4 : Int32).toInt = 4))
        refine lv_iload_n hx hb dX54_keep_91 rfl (lv_at hl 3 rfl) ?_
        refine lv_iadd hx hb dX54_keep_92 ?_
        have e_29 := z_add e_28 (z_m (rfl : x3.toInt = _))
        refine lv_iload hx hb dX54_keep_93 (lv_at hl 4 rfl) ?_
        refine lv_if_ge (tgt := 102) hx hb dX54_keep_95 (by decide) (fun c_30 => ?_) (fun c_30 => ?_)
        · have hw := hw.1 (z_le (rfl : (0 : Int32).toInt = 0) (rfl : x4_27.toInt = _) c_30)
          refine lv_iload hx hb dX54_keep_102 (lv_at hl 4 rfl) ?_
          have hq_46 := hw.1
          have hw := hw.2
          have e_47 := z_x e_29 hq_46
          exact atX54_keep_104 hc X (fun x2 x3 f_unions hw H locs ls hH hl => ih x2 x3 f_unions hw _ _ ls hH (lv_sub hl [0, 1, 2, 3] rfl)) x2 x3 x4_27 ((x1 + 4) + x3) x4_27 f_unions_10 (by rw [show ((x1 + 4) + x3 : Int32).toInt = _ from e_47]; exact hw) _ _ ls hH (lv_sub hl [0, 1, 2, 3, 4] rfl)
        · have hw := hw.2 (z_nle (rfl : (0 : Int32).toInt = 0) (rfl : x4_27.toInt = _) c_30)
          refine lv_iload_n hx hb dX54_keep_98 rfl (lv_at hl 2 rfl) ?_
          refine lv_goto (tgt := 104) hx hb dX54_keep_99 (by decide) ?_
          have hq_48 := hw.1
          have hw := hw.2
          have e_49 := z_x e_29 hq_48
          exact atX54_keep_104 hc X (fun x2 x3 f_unions hw H locs ls hH hl => ih x2 x3 f_unions hw _ _ ls hH (lv_sub hl [0, 1, 2, 3] rfl)) x2 x3 x4_27 ((x1 + 4) + x3) x2 f_unions_10 (by rw [show ((x1 + 4) + x3 : Int32).toInt = _ from e_49]; exact hw) _ _ ls hH (lv_sub hl [0, 1, 2, 3, 4] rfl)
set_option maxHeartbeats 4000000 in
theorem walkX54_keep {l : Launch} {dC : Nat → ClassId} {dI : Nat → Nat → Nat} {cl : List vw_C} {ci : Nat} (hc : cl[ci]? = some (RX54, TX54, 23)) {ad : Nat → Nat} {d : Nat → ClassId} {sz : Nat} {f_thrown : Int32} {f_cells : Nat → Int32} {f_sizes : Nat → Int32} {f_keys : Nat → Int32} {f_maps : Nat → Int32} {f_mapCount : Int32} {f_atoms : Nat → Int32} {f_atomCount : Int32} {f_spans : Nat → Int32} {f_spanCount : Int32} {f_unions : Nat → Int32} {f_unionCount : Int32} {f_isLarge : Int32} {f_trial : Nat → Int32} {f_rowAt : Nat → Int32} {f_answers : Nat → Int32} {f_foundBy : Nat → Int32} {f_firstBy : Nat → Int32} {f_lastBy : Nat → Int32} {f_order : Nat → Int32} {f_answerCount : Int32} {f_asked : Nat → Int32} {f_tooMany : Int32}  {post : (Int → Int) → Int → Prop} (hw : wpX54_keep post (zF f_keys) (zF f_maps) (zF f_atoms) f_atomCount.toInt (zF f_unions) f_unionCount.toInt (zF f_trial) ) :
    Met l yX54_keep (ws_ yX54_keep cX54_keep 6 none) ({ frames := 2, cells := 0, slots := 0, locals := 49 } : Room) (kPc (dC, dI) cl (tX54 d) [.ref (ad 0)] sz (wX54 ci ad d f_thrown f_cells f_sizes f_keys f_maps f_mapCount f_atoms f_atomCount f_spans f_spanCount f_unions f_unionCount f_isLarge f_trial f_rowAt f_answers f_foundBy f_firstBy f_lastBy f_order f_answerCount f_asked f_tooMany)) (va_Qv (fun (u : (Nat → Int32) × Int32) => post (zF (u.1)) (u.2).toInt) (kB (dC, dI) cl (tX54 d) (va_A (wX54 ci ad d f_thrown f_cells f_sizes f_keys f_maps f_mapCount f_atoms f_atomCount f_spans f_spanCount f_unions f_unionCount f_isLarge f_trial f_rowAt f_answers f_foundBy f_firstBy f_lastBy f_order f_answerCount f_asked f_tooMany) sz) (fun u : (Nat → Int32) × Int32 => (wX54 ci ad d f_thrown f_cells f_sizes f_keys f_maps f_mapCount f_atoms f_atomCount f_spans f_spanCount (u.1) (u.2) f_isLarge f_trial f_rowAt f_answers f_foundBy f_firstBy f_lastBy f_order f_answerCount f_asked f_tooMany))) (va_A (wX54 ci ad d f_thrown f_cells f_sizes f_keys f_maps f_mapCount f_atoms f_atomCount f_spans f_spanCount f_unions f_unionCount f_isLarge f_trial f_rowAt f_answers f_foundBy f_firstBy f_lastBy f_order f_answerCount f_asked f_tooMany) sz)) 0 0 (va_A (wX54 ci ad d f_thrown f_cells f_sizes f_keys f_maps f_mapCount f_atoms f_atomCount f_spans f_spanCount f_unions f_unionCount f_isLarge f_trial f_rowAt f_answers f_foundBy f_firstBy f_lastBy f_order f_answerCount f_asked f_tooMany) sz) := by
  refine k_enter (by decide) (Nat.le_of_ble_eq_true rfl) ?_
  intro p e s m below meth c ls X hsz hH hl
  subst hsz
  generalize va_A (wX54 ci ad d f_thrown f_cells f_sizes f_keys f_maps f_mapCount f_atoms f_atomCount f_spans f_spanCount f_unions f_unionCount f_isLarge f_trial f_rowAt f_answers f_foundBy f_firstBy f_lastBy f_order f_answerCount f_asked f_tooMany) s.heap.size = A at hH ⊢
  have hx := X.1.1
  have hb := X.1.2.1
  have hl : lv_has ls 6 [(0, .ref (ad 0))] := hl
  unfold wpX54_keep at hw
  refine lv_bipush (v := 9) hx hb dX54_keep_0 (by decide) ?_
  refine lv_aload_n hx hb dX54_keep_2 rfl (lv_at hl 0 rfl) ?_
  refine k_get X hH in_X54 0 rfl hc 11 (by decide) q6511 rfl dX54_keep_3 ?_
  refine lv_imul hx hb dX54_keep_6 ?_
  have e_1 := z_mul (z_m (rfl : (9 : Int32).toInt = 9)) (z_m (rfl : f_unionCount.toInt = _))
  have hq_2 := hw.1
  have hw := hw.2
  have e_3 := z_x e_1 hq_2
  refine lv_topi (fun x1_4 ex1_4 => ?_)
  have hw := hw x1_4.toInt (by rw [ex1_4]; exact e_3)
  refine lv_istore_n (lv' := [(1, .int x1_4), (0, .ref (ad 0))]) hx hb dX54_keep_7 rfl hl (by decide) rfl (fun ls hl => ?_)
  refine lv_iconst (v := 0) hx hb dX54_keep_8 (by decide) ?_
  refine lv_istore_n (lv' := [(2, .int 0), (1, .int x1_4), (0, .ref (ad 0))]) hx hb dX54_keep_9 rfl hl (by decide) rfl (fun ls hl => ?_)
  refine lv_iconst (v := 0) hx hb dX54_keep_10 (by decide) ?_
  refine lv_istore_n (lv' := [(3, .int 0), (2, .int 0), (1, .int x1_4), (0, .ref (ad 0))]) hx hb dX54_keep_11 rfl hl (by decide) rfl (fun ls hl => ?_)
  obtain ⟨fu, hw⟩ := hw
  refine atX54_keep_12 hc X ?_ fu 0 0 f_unions hw _ _ ls hH (lv_sub hl [3, 2, 1, 0] rfl)
  · intro x2_50 f_unions_51 hw H locs ls hH hl
    refine lv_aload_n hx hb dX54_keep_124 rfl (lv_at hl 0 rfl) ?_
    refine k_get X hH in_X54 0 rfl hc 10 (by decide) q6510 rfl dX54_keep_125 ?_
    refine lv_iload_n hx hb dX54_keep_128 rfl (lv_at hl 1 rfl) ?_
    refine lv_bipush (v := 8) hx hb dX54_keep_129 (by decide) ?_
    refine lv_iadd hx hb dX54_keep_131 ?_
    have e_52 := z_add (z_m (rfl : x1_4.toInt = _)) (z_m (rfl : (8 : Int32).toInt = 8))
    refine lv_iload_n hx hb dX54_keep_132 rfl (lv_at hl 2 rfl) ?_
    have hq_54 := hw.1
    have hw := hw.2
    have e_55 := z_xi e_52 hq_54 (by decide)
    obtain ⟨f_unions_53, ef_unions_53⟩ : ∃ y : Nat → Int32, y = upd f_unions_51 (x1_4 + 8).toNatClampNeg x2_50 := ⟨_, rfl⟩
    refine k_iast X hH 7 6 rfl rfl (z_in e_55 hq_54) dX54_keep_133 ef_unions_53 (ws1 := (wX54 ci ad d f_thrown f_cells f_sizes f_keys f_maps f_mapCount f_atoms f_atomCount f_spans f_spanCount f_unions_53 f_unionCount f_isLarge f_trial f_rowAt f_answers f_foundBy f_firstBy f_lastBy f_order f_answerCount f_asked f_tooMany)) rfl (fun H locs hH => ?_)
    have hw := hw (zF f_unions_53) (by rw [ef_unions_53]; exact z_st (f := f_unions_51) e_55 hq_54.1 (rfl : x2_50.toInt = _))
    refine lv_aload_n hx hb dX54_keep_134 rfl (lv_at hl 0 rfl) ?_
    refine lv_dup hx hb dX54_keep_135 rfl ?_
    refine k_get X hH in_X54 0 rfl hc 11 (by decide) q6511 rfl dX54_keep_136 ?_
    refine lv_iconst (v := 1) hx hb dX54_keep_139 (by decide) ?_
    refine lv_iadd hx hb dX54_keep_140 ?_
    have e_56 := z_add (z_m (rfl : f_unionCount.toInt = _)) (z_m (rfl : (1 : Int32).toInt = 1))
    have hq_57 := hw.1
    have hw := hw.2
    have e_58 := z_x e_56 hq_57
    refine lv_topi (fun f_unionCount_59 ef_unionCount_59 => ?_)
    have hw := hw f_unionCount_59.toInt (by rw [ef_unionCount_59]; exact e_58)
    refine k_put X hH in_X54 tyX54_ok nmX54 0 rfl hc 11 (by decide) q6511 rfl (ty := .int) rfl rfl rfl (Nat.le_of_ble_eq_true rfl) dX54_keep_141 (ws1 := (wX54 ci ad d f_thrown f_cells f_sizes f_keys f_maps f_mapCount f_atoms f_atomCount f_spans f_spanCount f_unions_53 f_unionCount_59 f_isLarge f_trial f_rowAt f_answers f_foundBy f_firstBy f_lastBy f_order f_answerCount f_asked f_tooMany)) rfl (fun H locs hH => ?_)
    exact k_vret X hH (f_unions_53, f_unionCount_59) hw rfl dX54_keep_144
set_option maxHeartbeats 4000000 in
theorem atX54_next_7 {p : Program} {l : Launch} {e : Env} {s : State} {m : MethodId} {args : Array Value} {below : List Frame} {meth : Method} {c : Code} {dC : Nat → ClassId} {dI : Nat → Nat → Nat} {cl : List vw_C} {ci : Nat} (hc : cl[ci]? = some (RX54, TX54, 23)) {ad : Nat → Nat} {d : Nat → ClassId} {A : Nat → Prop} {post : Int → (Int → Int) → Prop} {f_thrown : Int32} {f_cells : Nat → Int32} {f_sizes : Nat → Int32} {f_keys : Nat → Int32} {f_maps : Nat → Int32} {f_mapCount : Int32} {f_atoms : Nat → Int32} {f_atomCount : Int32} {f_spans : Nat → Int32} {f_spanCount : Int32} {f_unions : Nat → Int32} {f_unionCount : Int32} {f_isLarge : Int32} {f_rowAt : Nat → Int32} {f_answers : Nat → Int32} {f_foundBy : Nat → Int32} {f_firstBy : Nat → Int32} {f_lastBy : Nat → Int32} {f_order : Nat → Int32} {f_answerCount : Int32} {f_asked : Nat → Int32} {f_tooMany : Int32} (X : kX p s m args meth c cX54_next 2 RX54 (some .boolean) (dC, dI) cl (tX54 d)) {K39 : Int → (Int → Int) → Prop}   (hk39 : ∀ (x1 : Int32) (f_trial : Nat → Int32), K39 x1.toInt (zF f_trial) → ∀ (H : Heap) (locs : List Loc) (ls : Array Slot), kH (dC, dI) cl A s.heap H locs (wX54 ci ad d f_thrown f_cells f_sizes f_keys f_maps f_mapCount f_atoms f_atomCount f_spans f_spanCount f_unions f_unionCount f_isLarge f_trial f_rowAt f_answers f_foundBy f_firstBy f_lastBy f_order f_answerCount f_asked f_tooMany) → lv_has ls 2 [(0, .ref (ad 0)), (1, .int x1)] → W p l e ({ frames := 0, cells := 0, slots := 0, locals := 0 } : Room) s m args below meth c H locs 0 0 (MQ below (va_Qi (fun (r : Int32) (u : (Nat → Int32)) => post r.toInt (zF (u))) (kB (dC, dI) cl (tX54 d) A (fun u : (Nat → Int32) => (wX54 ci ad d f_thrown f_cells f_sizes f_keys f_maps f_mapCount f_atoms f_atomCount f_spans f_spanCount f_unions f_unionCount f_isLarge (u) f_rowAt f_answers f_foundBy f_firstBy f_lastBy f_order f_answerCount f_asked f_tooMany))) A) args s 0 0 A) (F0 m 39 ls [])) :
    ∀ (nn : Nat) (x1 : Int32) (f_trial : Nat → Int32), wX54_next_7 K39 f_mapCount.toInt nn x1.toInt (zF f_trial) → ∀ (H : Heap) (locs : List Loc) (ls : Array Slot), kH (dC, dI) cl A s.heap H locs (wX54 ci ad d f_thrown f_cells f_sizes f_keys f_maps f_mapCount f_atoms f_atomCount f_spans f_spanCount f_unions f_unionCount f_isLarge f_trial f_rowAt f_answers f_foundBy f_firstBy f_lastBy f_order f_answerCount f_asked f_tooMany) → lv_has ls 2 [(0, .ref (ad 0)), (1, .int x1)] → W p l e ({ frames := 0, cells := 0, slots := 0, locals := 0 } : Room) s m args below meth c H locs 0 0 (MQ below (va_Qi (fun (r : Int32) (u : (Nat → Int32)) => post r.toInt (zF (u))) (kB (dC, dI) cl (tX54 d) A (fun u : (Nat → Int32) => (wX54 ci ad d f_thrown f_cells f_sizes f_keys f_maps f_mapCount f_atoms f_atomCount f_spans f_spanCount f_unions f_unionCount f_isLarge (u) f_rowAt f_answers f_foundBy f_firstBy f_lastBy f_order f_answerCount f_asked f_tooMany))) A) args s 0 0 A) (F0 m 7 ls []) := by
  have hx := X.1.1
  have hb := X.1.2.1
  intro nn
  induction nn with
  | zero =>
    intro x1 f_trial hw
    exact False.elim hw
  | succ n ih =>
    intro x1 f_trial hw H locs ls hH hl
    rw [wX54_next_7] at hw
    refine lv_iload_n hx hb dX54_next_7 rfl (lv_at hl 1 rfl) ?_
    refine lv_if_lt (tgt := 39) hx hb dX54_next_8 (by decide) (fun c_5 => ?_) (fun c_5 => ?_)
    · have hw := hw.1 (z_lt (rfl : x1.toInt = _) (rfl : (0 : Int32).toInt = 0) c_5)
      exact hk39 x1 f_trial hw _ _ ls hH (lv_sub hl [0, 1] rfl)
    · have hw := hw.2 (z_nlt (rfl : x1.toInt = _) (rfl : (0 : Int32).toInt = 0) c_5)
      refine lv_aload_n hx hb dX54_next_11 rfl (lv_at hl 0 rfl) ?_
      refine k_get X hH in_X54 0 rfl hc 13 (by decide) q6513 rfl dX54_next_12 ?_
      refine lv_iload_n hx hb dX54_next_15 rfl (lv_at hl 1 rfl) ?_
      have hq_6 := hw.1
      have hw := hw.2
      refine k_iald X hH 8 7 rfl rfl (z_in (rfl : x1.toInt = _) hq_6) dX54_next_16 ?_
      have e_7 := z_ld (f := f_trial) (rfl : x1.toInt = _) hq_6.1
      refine lv_aload_n hx hb dX54_next_17 rfl (lv_at hl 0 rfl) ?_
      refine k_get X hH in_X54 0 rfl hc 5 (by decide) q6505 rfl dX54_next_18 ?_
      refine lv_iconst (v := 1) hx hb dX54_next_21 (by decide) ?_
      refine lv_isub hx hb dX54_next_22 ?_
      have e_8 := z_sub (z_m (rfl : f_mapCount.toInt = _)) (z_m (rfl : (1 : Int32).toInt = 1))
      have hq_10 := hw.1
      have hw := hw.2
      have e_11 := z_x e_8 hq_10
      refine lv_icmp_ne (tgt := 39) hx hb dX54_next_23 (by decide) (fun c_9 => ?_) (fun c_9 => ?_)
      · have hw := hw.2 (z_ne e_7 e_11 c_9)
        exact hk39 x1 f_trial hw _ _ ls hH (lv_sub hl [0, 1] rfl)
      · have hw := hw.1 (z_eq e_7 e_11 c_9)
        refine lv_aload_n hx hb dX54_next_26 rfl (lv_at hl 0 rfl) ?_
        refine k_get X hH in_X54 0 rfl hc 13 (by decide) q6513 rfl dX54_next_27 ?_
        refine lv_iload_n hx hb dX54_next_30 rfl (lv_at hl 1 rfl) ?_
        refine lv_iconst (v := 0) hx hb dX54_next_31 (by decide) ?_
        obtain ⟨f_trial_12, ef_trial_12⟩ : ∃ y : Nat → Int32, y = upd f_trial x1.toNatClampNeg 0 := ⟨_, rfl⟩
        refine k_iast X hH 8 7 rfl rfl (z_in (rfl : x1.toInt = _) hq_6) dX54_next_32 ef_trial_12 (ws1 := (wX54 ci ad d f_thrown f_cells f_sizes f_keys f_maps f_mapCount f_atoms f_atomCount f_spans f_spanCount f_unions f_unionCount f_isLarge f_trial_12 f_rowAt f_answers f_foundBy f_firstBy f_lastBy f_order f_answerCount f_asked f_tooMany)) rfl (fun H locs hH => ?_)
        have hw := hw (zF f_trial_12) (by rw [ef_trial_12]; exact z_st (f := f_trial) (rfl : x1.toInt = _) hq_6.1 (rfl : (0 : Int32).toInt = 0))
        have hq_14 := hw.1
        have hw := hw.2
        obtain ⟨x1_13, ex1_13⟩ : ∃ y : Int32, y = x1 + (-1) := ⟨_, rfl⟩
        have hw := hw x1_13.toInt (by rw [ex1_13]; exact (z_x (z_add (z_m (rfl : x1.toInt = _)) (z_m (rfl : ((-1) : Int32).toInt = (-1)))) hq_14))
        refine lv_iinc (v := x1_13) (lv' := [(1, .int x1_13), (0, .ref (ad 0))]) hx hb dX54_next_33 hl (k := 1) rfl (by rw [ex1_13]; rfl) (by decide) rfl (fun ls hl => ?_)
        refine lv_goto (tgt := 7) hx hb dX54_next_36 (by decide) ?_
        exact ih x1_13 f_trial_12 hw _ _ ls hH (lv_sub hl [1, 0] rfl)
set_option maxHeartbeats 4000000 in
theorem walkX54_next {l : Launch} {dC : Nat → ClassId} {dI : Nat → Nat → Nat} {cl : List vw_C} {ci : Nat} (hc : cl[ci]? = some (RX54, TX54, 23)) {ad : Nat → Nat} {d : Nat → ClassId} {sz : Nat} {f_thrown : Int32} {f_cells : Nat → Int32} {f_sizes : Nat → Int32} {f_keys : Nat → Int32} {f_maps : Nat → Int32} {f_mapCount : Int32} {f_atoms : Nat → Int32} {f_atomCount : Int32} {f_spans : Nat → Int32} {f_spanCount : Int32} {f_unions : Nat → Int32} {f_unionCount : Int32} {f_isLarge : Int32} {f_trial : Nat → Int32} {f_rowAt : Nat → Int32} {f_answers : Nat → Int32} {f_foundBy : Nat → Int32} {f_firstBy : Nat → Int32} {f_lastBy : Nat → Int32} {f_order : Nat → Int32} {f_answerCount : Int32} {f_asked : Nat → Int32} {f_tooMany : Int32}  {post : Int → (Int → Int) → Prop} (hw : wpX54_next post f_mapCount.toInt f_atomCount.toInt (zF f_trial) ) :
    Met l yX54_next (ws_ yX54_next cX54_next 2 (some .boolean)) ({ frames := 0, cells := 0, slots := 0, locals := 0 } : Room) (kPc (dC, dI) cl (tX54 d) [.ref (ad 0)] sz (wX54 ci ad d f_thrown f_cells f_sizes f_keys f_maps f_mapCount f_atoms f_atomCount f_spans f_spanCount f_unions f_unionCount f_isLarge f_trial f_rowAt f_answers f_foundBy f_firstBy f_lastBy f_order f_answerCount f_asked f_tooMany)) (va_Qi (fun (r : Int32) (u : (Nat → Int32)) => post r.toInt (zF (u))) (kB (dC, dI) cl (tX54 d) (va_A (wX54 ci ad d f_thrown f_cells f_sizes f_keys f_maps f_mapCount f_atoms f_atomCount f_spans f_spanCount f_unions f_unionCount f_isLarge f_trial f_rowAt f_answers f_foundBy f_firstBy f_lastBy f_order f_answerCount f_asked f_tooMany) sz) (fun u : (Nat → Int32) => (wX54 ci ad d f_thrown f_cells f_sizes f_keys f_maps f_mapCount f_atoms f_atomCount f_spans f_spanCount f_unions f_unionCount f_isLarge (u) f_rowAt f_answers f_foundBy f_firstBy f_lastBy f_order f_answerCount f_asked f_tooMany))) (va_A (wX54 ci ad d f_thrown f_cells f_sizes f_keys f_maps f_mapCount f_atoms f_atomCount f_spans f_spanCount f_unions f_unionCount f_isLarge f_trial f_rowAt f_answers f_foundBy f_firstBy f_lastBy f_order f_answerCount f_asked f_tooMany) sz)) 0 0 (va_A (wX54 ci ad d f_thrown f_cells f_sizes f_keys f_maps f_mapCount f_atoms f_atomCount f_spans f_spanCount f_unions f_unionCount f_isLarge f_trial f_rowAt f_answers f_foundBy f_firstBy f_lastBy f_order f_answerCount f_asked f_tooMany) sz) := by
  refine k_enter (by decide) (Nat.le_of_ble_eq_true rfl) ?_
  intro p e s m below meth c ls X hsz hH hl
  subst hsz
  generalize va_A (wX54 ci ad d f_thrown f_cells f_sizes f_keys f_maps f_mapCount f_atoms f_atomCount f_spans f_spanCount f_unions f_unionCount f_isLarge f_trial f_rowAt f_answers f_foundBy f_firstBy f_lastBy f_order f_answerCount f_asked f_tooMany) s.heap.size = A at hH ⊢
  have hx := X.1.1
  have hb := X.1.2.1
  have hl : lv_has ls 2 [(0, .ref (ad 0))] := hl
  unfold wpX54_next at hw
  refine lv_aload_n hx hb dX54_next_0 rfl (lv_at hl 0 rfl) ?_
  refine k_get X hH in_X54 0 rfl hc 7 (by decide) q6507 rfl dX54_next_1 ?_
  refine lv_iconst (v := 1) hx hb dX54_next_4 (by decide) ?_
  refine lv_isub hx hb dX54_next_5 ?_
  have e_1 := z_sub (z_m (rfl : f_atomCount.toInt = _)) (z_m (rfl : (1 : Int32).toInt = 1))
  have hq_2 := hw.1
  have hw := hw.2
  have e_3 := z_x e_1 hq_2
  refine lv_topi (fun x1_4 ex1_4 => ?_)
  have hw := hw x1_4.toInt (by rw [ex1_4]; exact e_3)
  refine lv_istore_n (lv' := [(1, .int x1_4), (0, .ref (ad 0))]) hx hb dX54_next_6 rfl hl (by decide) rfl (fun ls hl => ?_)
  obtain ⟨fu, hw⟩ := hw
  refine atX54_next_7 hc X ?_ fu x1_4 f_trial hw _ _ ls hH (lv_sub hl [1, 0] rfl)
  · intro x1_15 f_trial_16 hw H locs ls hH hl
    refine lv_iload_n hx hb dX54_next_39 rfl (lv_at hl 1 rfl) ?_
    refine lv_if_ge (tgt := 45) hx hb dX54_next_40 (by decide) (fun c_17 => ?_) (fun c_17 => ?_)
    · have hw := hw.1 (z_le (rfl : (0 : Int32).toInt = 0) (rfl : x1_15.toInt = _) c_17)
      refine lv_aload_n hx hb dX54_next_45 rfl (lv_at hl 0 rfl) ?_
      refine k_get X hH in_X54 0 rfl hc 13 (by decide) q6513 rfl dX54_next_46 ?_
      refine lv_iload_n hx hb dX54_next_49 rfl (lv_at hl 1 rfl) ?_
      refine lv_dup2_11 hx hb dX54_next_50 rfl rfl ?_
      have hq_18 := hw.1
      have hw := hw.2
      refine k_iald X hH 8 7 rfl rfl (z_in (rfl : x1_15.toInt = _) hq_18) dX54_next_51 ?_
      have e_19 := z_ld (f := f_trial_16) (rfl : x1_15.toInt = _) hq_18.1
      refine lv_iconst (v := 1) hx hb dX54_next_52 (by decide) ?_
      refine lv_iadd hx hb dX54_next_53 ?_
      have e_20 := z_add (z_m e_19) (z_m (rfl : (1 : Int32).toInt = 1))
      have hq_21 := hw.1
      have hw := hw.2
      have e_22 := z_x e_20 hq_21
      refine lv_topi (fun v_23 ev_23 => ?_)
      have hw := hw v_23.toInt (by rw [ev_23]; exact e_22)
      obtain ⟨f_trial_24, ef_trial_24⟩ : ∃ y : Nat → Int32, y = upd f_trial_16 x1_15.toNatClampNeg v_23 := ⟨_, rfl⟩
      refine k_iast X hH 8 7 rfl rfl (z_in (rfl : x1_15.toInt = _) hq_18) dX54_next_54 ef_trial_24 (ws1 := (wX54 ci ad d f_thrown f_cells f_sizes f_keys f_maps f_mapCount f_atoms f_atomCount f_spans f_spanCount f_unions f_unionCount f_isLarge f_trial_24 f_rowAt f_answers f_foundBy f_firstBy f_lastBy f_order f_answerCount f_asked f_tooMany)) rfl (fun H locs hH => ?_)
      have hw := hw (zF f_trial_24) (by rw [ef_trial_24]; exact z_st (f := f_trial_16) (rfl : x1_15.toInt = _) hq_18.1 (rfl : v_23.toInt = _))
      refine lv_iconst (v := 1) hx hb dX54_next_55 (by decide) ?_
      exact k_iret (v := 1) X hH (f_trial_24) hw rfl rfl dX54_next_56
    · have hw := hw.2 (z_nle (rfl : (0 : Int32).toInt = 0) (rfl : x1_15.toInt = _) c_17)
      refine lv_iconst (v := 0) hx hb dX54_next_43 (by decide) ?_
      exact k_iret (v := 0) X hH (f_trial_16) hw rfl rfl dX54_next_44
set_option maxHeartbeats 4000000 in
theorem atX54_find_12 {p : Program} {l : Launch} {e : Env} {s : State} {m : MethodId} {args : Array Value} {below : List Frame} {meth : Method} {c : Code} {dC : Nat → ClassId} {dI : Nat → Nat → Nat} {cl : List vw_C} {ci : Nat} (hc : cl[ci]? = some (RX54, TX54, 23)) {ad : Nat → Nat} {d : Nat → ClassId} {A : Nat → Prop} {post : (Int → Int) → Int → Int → (Int → Int) → Prop} {f_thrown : Int32} {f_cells : Nat → Int32} {f_sizes : Nat → Int32} {f_keys : Nat → Int32} {f_maps : Nat → Int32} {f_mapCount : Int32} {f_atoms : Nat → Int32} {f_atomCount : Int32} {f_spans : Nat → Int32} {f_spanCount : Int32} {f_rowAt : Nat → Int32} {f_answers : Nat → Int32} {f_foundBy : Nat → Int32} {f_firstBy : Nat → Int32} {f_lastBy : Nat → Int32} {f_order : Nat → Int32} {f_answerCount : Int32} {f_asked : Nat → Int32} {f_tooMany : Int32} (X : kX p s m args meth c cX54_find 2 RX54 none (dC, dI) cl (tX54 d)) {K30 : (Int → Int) → Prop}  {f_unions : Nat → Int32} {f_unionCount : Int32} {f_isLarge : Int32} (hk30 : ∀ (f_trial : Nat → Int32), K30 (zF f_trial) → ∀ (H : Heap) (locs : List Loc) (ls : Array Slot), kH (dC, dI) cl A s.heap H locs (wX54 ci ad d f_thrown f_cells f_sizes f_keys f_maps f_mapCount f_atoms f_atomCount f_spans f_spanCount f_unions f_unionCount f_isLarge f_trial f_rowAt f_answers f_foundBy f_firstBy f_lastBy f_order f_answerCount f_asked f_tooMany) → lv_has ls 2 [(0, .ref (ad 0))] → W p l e ({ frames := 3, cells := 0, slots := 0, locals := 74 } : Room) s m args below meth c H locs 0 0 (MQ below (va_Qv (fun (u : (Nat → Int32) × Int32 × Int32 × (Nat → Int32)) => post (zF (u.1)) (u.2.1).toInt (u.2.2.1).toInt (zF (u.2.2.2))) (kB (dC, dI) cl (tX54 d) A (fun u : (Nat → Int32) × Int32 × Int32 × (Nat → Int32) => (wX54 ci ad d f_thrown f_cells f_sizes f_keys f_maps f_mapCount f_atoms f_atomCount f_spans f_spanCount (u.1) (u.2.1) (u.2.2.1) (u.2.2.2) f_rowAt f_answers f_foundBy f_firstBy f_lastBy f_order f_answerCount f_asked f_tooMany))) A) args s 0 0 A) (F0 m 30 ls [])) :
    ∀ (nn : Nat) (x1 : Int32) (f_trial : Nat → Int32), wX54_find_12 K30 nn x1.toInt (zF f_trial) → ∀ (H : Heap) (locs : List Loc) (ls : Array Slot), kH (dC, dI) cl A s.heap H locs (wX54 ci ad d f_thrown f_cells f_sizes f_keys f_maps f_mapCount f_atoms f_atomCount f_spans f_spanCount f_unions f_unionCount f_isLarge f_trial f_rowAt f_answers f_foundBy f_firstBy f_lastBy f_order f_answerCount f_asked f_tooMany) → lv_has ls 2 [(0, .ref (ad 0)), (1, .int x1)] → W p l e ({ frames := 3, cells := 0, slots := 0, locals := 74 } : Room) s m args below meth c H locs 0 0 (MQ below (va_Qv (fun (u : (Nat → Int32) × Int32 × Int32 × (Nat → Int32)) => post (zF (u.1)) (u.2.1).toInt (u.2.2.1).toInt (zF (u.2.2.2))) (kB (dC, dI) cl (tX54 d) A (fun u : (Nat → Int32) × Int32 × Int32 × (Nat → Int32) => (wX54 ci ad d f_thrown f_cells f_sizes f_keys f_maps f_mapCount f_atoms f_atomCount f_spans f_spanCount (u.1) (u.2.1) (u.2.2.1) (u.2.2.2) f_rowAt f_answers f_foundBy f_firstBy f_lastBy f_order f_answerCount f_asked f_tooMany))) A) args s 0 0 A) (F0 m 12 ls []) := by
  have hx := X.1.1
  have hb := X.1.2.1
  intro nn
  induction nn with
  | zero =>
    intro x1 f_trial hw
    exact False.elim hw
  | succ n ih =>
    intro x1 f_trial hw H locs ls hH hl
    rw [wX54_find_12] at hw
    refine lv_iload_n hx hb dX54_find_12 rfl (lv_at hl 1 rfl) ?_
    refine lv_iconst (v := 4) hx hb dX54_find_13 (by decide) ?_
    refine lv_icmp_ge (tgt := 30) hx hb dX54_find_14 (by decide) (fun c_1 => ?_) (fun c_1 => ?_)
    · have hw := hw.1 (z_le (rfl : (4 : Int32).toInt = 4) (rfl : x1.toInt = _) c_1)
      exact hk30 f_trial hw _ _ ls hH (lv_sub hl [0] rfl)
    · have hw := hw.2 (z_nle (rfl : (4 : Int32).toInt = 4) (rfl : x1.toInt = _) c_1)
      refine lv_aload_n hx hb dX54_find_17 rfl (lv_at hl 0 rfl) ?_
      refine k_get X hH in_X54 0 rfl hc 13 (by decide) q6513 rfl dX54_find_18 ?_
      refine lv_iload_n hx hb dX54_find_21 rfl (lv_at hl 1 rfl) ?_
      refine lv_iconst (v := 0) hx hb dX54_find_22 (by decide) ?_
      have hq_3 := hw.1
      have hw := hw.2
      obtain ⟨f_trial_2, ef_trial_2⟩ : ∃ y : Nat → Int32, y = upd f_trial x1.toNatClampNeg 0 := ⟨_, rfl⟩
      refine k_iast X hH 8 7 rfl rfl (z_in (rfl : x1.toInt = _) hq_3) dX54_find_23 ef_trial_2 (ws1 := (wX54 ci ad d f_thrown f_cells f_sizes f_keys f_maps f_mapCount f_atoms f_atomCount f_spans f_spanCount f_unions f_unionCount f_isLarge f_trial_2 f_rowAt f_answers f_foundBy f_firstBy f_lastBy f_order f_answerCount f_asked f_tooMany)) rfl (fun H locs hH => ?_)
      have hw := hw (zF f_trial_2) (by rw [ef_trial_2]; exact z_st (f := f_trial) (rfl : x1.toInt = _) hq_3.1 (rfl : (0 : Int32).toInt = 0))
      have hq_5 := hw.1
      have hw := hw.2
      obtain ⟨x1_4, ex1_4⟩ : ∃ y : Int32, y = x1 + 1 := ⟨_, rfl⟩
      have hw := hw x1_4.toInt (by rw [ex1_4]; exact (z_x (z_add (z_m (rfl : x1.toInt = _)) (z_m (rfl : (1 : Int32).toInt = 1))) hq_5))
      refine lv_iinc (v := x1_4) (lv' := [(1, .int x1_4), (0, .ref (ad 0))]) hx hb dX54_find_24 hl (k := 1) rfl (by rw [ex1_4]; rfl) (by decide) rfl (fun ls hl => ?_)
      refine lv_goto (tgt := 12) hx hb dX54_find_27 (by decide) ?_
      exact ih x1_4 f_trial_2 hw _ _ ls hH (lv_sub hl [1, 0] rfl)
set_option maxHeartbeats 4000000 in
theorem atX54_find_43 {p : Program} {l : Launch} {e : Env} {s : State} {m : MethodId} {args : Array Value} {below : List Frame} {meth : Method} {c : Code} {dC : Nat → ClassId} {dI : Nat → Nat → Nat} {cl : List vw_C} {ci : Nat} (hc : cl[ci]? = some (RX54, TX54, 23)) {ad : Nat → Nat} {d : Nat → ClassId} {A : Nat → Prop} {post : (Int → Int) → Int → Int → (Int → Int) → Prop} {f_thrown : Int32} {f_cells : Nat → Int32} {f_sizes : Nat → Int32} {f_keys : Nat → Int32} {f_maps : Nat → Int32} {f_mapCount : Int32} {f_atoms : Nat → Int32} {f_atomCount : Int32} {f_spans : Nat → Int32} {f_spanCount : Int32} {f_rowAt : Nat → Int32} {f_answers : Nat → Int32} {f_foundBy : Nat → Int32} {f_firstBy : Nat → Int32} {f_lastBy : Nat → Int32} {f_order : Nat → Int32} {f_answerCount : Int32} {f_asked : Nat → Int32} {f_tooMany : Int32} (X : kX p s m args meth c cX54_find 2 RX54 none (dC, dI) cl (tX54 d)) {K64 : (Int → Int) → Int → (Int → Int) → Prop} {K82 : (Int → Int) → Int → (Int → Int) → Prop}  {f_isLarge : Int32} (hk64 : ∀ (f_unions : Nat → Int32) (f_unionCount : Int32) (f_trial : Nat → Int32), K64 (zF f_unions) f_unionCount.toInt (zF f_trial) → ∀ (H : Heap) (locs : List Loc) (ls : Array Slot), kH (dC, dI) cl A s.heap H locs (wX54 ci ad d f_thrown f_cells f_sizes f_keys f_maps f_mapCount f_atoms f_atomCount f_spans f_spanCount f_unions f_unionCount f_isLarge f_trial f_rowAt f_answers f_foundBy f_firstBy f_lastBy f_order f_answerCount f_asked f_tooMany) → lv_has ls 2 [(0, .ref (ad 0))] → W p l e ({ frames := 3, cells := 0, slots := 0, locals := 74 } : Room) s m args below meth c H locs 0 0 (MQ below (va_Qv (fun (u : (Nat → Int32) × Int32 × Int32 × (Nat → Int32)) => post (zF (u.1)) (u.2.1).toInt (u.2.2.1).toInt (zF (u.2.2.2))) (kB (dC, dI) cl (tX54 d) A (fun u : (Nat → Int32) × Int32 × Int32 × (Nat → Int32) => (wX54 ci ad d f_thrown f_cells f_sizes f_keys f_maps f_mapCount f_atoms f_atomCount f_spans f_spanCount (u.1) (u.2.1) (u.2.2.1) (u.2.2.2) f_rowAt f_answers f_foundBy f_firstBy f_lastBy f_order f_answerCount f_asked f_tooMany))) A) args s 0 0 A) (F0 m 64 ls [])) (hk82 : ∀ (f_unions : Nat → Int32) (f_unionCount : Int32) (f_trial : Nat → Int32), K82 (zF f_unions) f_unionCount.toInt (zF f_trial) → ∀ (H : Heap) (locs : List Loc) (ls : Array Slot), kH (dC, dI) cl A s.heap H locs (wX54 ci ad d f_thrown f_cells f_sizes f_keys f_maps f_mapCount f_atoms f_atomCount f_spans f_spanCount f_unions f_unionCount f_isLarge f_trial f_rowAt f_answers f_foundBy f_firstBy f_lastBy f_order f_answerCount f_asked f_tooMany) → lv_has ls 2 [] → W p l e ({ frames := 3, cells := 0, slots := 0, locals := 74 } : Room) s m args below meth c H locs 0 0 (MQ below (va_Qv (fun (u : (Nat → Int32) × Int32 × Int32 × (Nat → Int32)) => post (zF (u.1)) (u.2.1).toInt (u.2.2.1).toInt (zF (u.2.2.2))) (kB (dC, dI) cl (tX54 d) A (fun u : (Nat → Int32) × Int32 × Int32 × (Nat → Int32) => (wX54 ci ad d f_thrown f_cells f_sizes f_keys f_maps f_mapCount f_atoms f_atomCount f_spans f_spanCount (u.1) (u.2.1) (u.2.2.1) (u.2.2.2) f_rowAt f_answers f_foundBy f_firstBy f_lastBy f_order f_answerCount f_asked f_tooMany))) A) args s 0 0 A) (F0 m 82 ls [])) :
    ∀ (nn : Nat) (x1 : Int32) (f_unions : Nat → Int32) (f_unionCount : Int32) (f_trial : Nat → Int32), wX54_find_43 K64 K82 (zF f_keys) (zF f_maps) f_mapCount.toInt (zF f_atoms) f_atomCount.toInt nn x1.toInt (zF f_unions) f_unionCount.toInt (zF f_trial) → ∀ (H : Heap) (locs : List Loc) (ls : Array Slot), kH (dC, dI) cl A s.heap H locs (wX54 ci ad d f_thrown f_cells f_sizes f_keys f_maps f_mapCount f_atoms f_atomCount f_spans f_spanCount f_unions f_unionCount f_isLarge f_trial f_rowAt f_answers f_foundBy f_firstBy f_lastBy f_order f_answerCount f_asked f_tooMany) → lv_has ls 2 [(0, .ref (ad 0)), (1, .int x1)] → W p l e ({ frames := 3, cells := 0, slots := 0, locals := 74 } : Room) s m args below meth c H locs 0 0 (MQ below (va_Qv (fun (u : (Nat → Int32) × Int32 × Int32 × (Nat → Int32)) => post (zF (u.1)) (u.2.1).toInt (u.2.2.1).toInt (zF (u.2.2.2))) (kB (dC, dI) cl (tX54 d) A (fun u : (Nat → Int32) × Int32 × Int32 × (Nat → Int32) => (wX54 ci ad d f_thrown f_cells f_sizes f_keys f_maps f_mapCount f_atoms f_atomCount f_spans f_spanCount (u.1) (u.2.1) (u.2.2.1) (u.2.2.2) f_rowAt f_answers f_foundBy f_firstBy f_lastBy f_order f_answerCount f_asked f_tooMany))) A) args s 0 0 A) (F0 m 43 ls []) := by
  have hx := X.1.1
  have hb := X.1.2.1
  intro nn
  induction nn with
  | zero =>
    intro x1 f_unions f_unionCount f_trial hw
    exact False.elim hw
  | succ n ih =>
    intro x1 f_unions f_unionCount f_trial hw H locs ls hH hl
    rw [wX54_find_43] at hw
    refine lv_iload_n hx hb dX54_find_43 rfl (lv_at hl 1 rfl) ?_
    refine lv_if_eq (tgt := 82) hx hb dX54_find_44 (by decide) (fun c_8 => ?_) (fun c_8 => ?_)
    · have hw := hw.1 (z_eq (rfl : x1.toInt = _) (rfl : (0 : Int32).toInt = 0) c_8)
      exact hk82 f_unions f_unionCount f_trial hw _ _ ls hH (lv_sub hl [] rfl)
    · have hw := hw.2 (z_neq (rfl : x1.toInt = _) (rfl : (0 : Int32).toInt = 0) c_8)
      refine lv_aload_n hx hb dX54_find_47 rfl (lv_at hl 0 rfl) ?_
      refine k_i0 hH (k_runV (As := []) (rest := []) X hH.1 hH.2.1 X.2.2.2 (walkX54_isGood hc (f_thrown := f_thrown) (f_cells := f_cells) (f_sizes := f_sizes) (f_keys := f_keys) (f_maps := f_maps) (f_mapCount := f_mapCount) (f_atoms := f_atoms) (f_atomCount := f_atomCount) (f_spans := f_spans) (f_spanCount := f_spanCount) (f_unions := f_unions) (f_unionCount := f_unionCount) (f_isLarge := f_isLarge) (f_trial := f_trial) (f_rowAt := f_rowAt) (f_answers := f_answers) (f_foundBy := f_foundBy) (f_firstBy := f_firstBy) (f_lastBy := f_lastBy) (f_order := f_order) (f_answerCount := f_answerCount) (f_asked := f_asked) (f_tooMany := f_tooMany) hw) (cwV 0 X.1.2.2.2.2 gX54_108 rfl rfl rfl hX54_isGood ⟨Nat.le_of_ble_eq_true rfl, Nat.le_of_ble_eq_true rfl⟩) hc (q0 := 0) rfl rfl hl.1 rfl (Nat.le_of_ble_eq_true rfl) dX54_find_48 ⟨Nat.le_refl 0, Nat.le_refl 0⟩) (fun r_9 _ H locs hw hH => ?_)
      have hH : kH (dC, dI) cl A s.heap H locs (wX54 ci ad d f_thrown f_cells f_sizes f_keys f_maps f_mapCount f_atoms f_atomCount f_spans f_spanCount f_unions f_unionCount f_isLarge f_trial f_rowAt f_answers f_foundBy f_firstBy f_lastBy f_order f_answerCount f_asked f_tooMany) := hH
      refine lv_if_eq (tgt := 74) hx hb dX54_find_51 (by decide) (fun c_10 => ?_) (fun c_10 => ?_)
      · have hw := hw.1 (z_eq (rfl : r_9.toInt = _) (rfl : (0 : Int32).toInt = 0) c_10)
        refine lv_aload_n hx hb dX54_find_74 rfl (lv_at hl 0 rfl) ?_
        refine k_i0 hH (k_runV (As := []) (rest := []) X hH.1 hH.2.1 X.2.2.2 (walkX54_next hc (f_thrown := f_thrown) (f_cells := f_cells) (f_sizes := f_sizes) (f_keys := f_keys) (f_maps := f_maps) (f_mapCount := f_mapCount) (f_atoms := f_atoms) (f_atomCount := f_atomCount) (f_spans := f_spans) (f_spanCount := f_spanCount) (f_unions := f_unions) (f_unionCount := f_unionCount) (f_isLarge := f_isLarge) (f_trial := f_trial) (f_rowAt := f_rowAt) (f_answers := f_answers) (f_foundBy := f_foundBy) (f_firstBy := f_firstBy) (f_lastBy := f_lastBy) (f_order := f_order) (f_answerCount := f_answerCount) (f_asked := f_asked) (f_tooMany := f_tooMany) hw) (cwV 0 X.1.2.2.2.2 gX54_115 rfl rfl rfl hX54_next ⟨Nat.le_of_ble_eq_true rfl, Nat.le_of_ble_eq_true rfl⟩) hc (q0 := 0) rfl rfl hl.1 rfl (Nat.le_of_ble_eq_true rfl) dX54_find_75 ⟨Nat.le_refl 0, Nat.le_refl 0⟩) (fun r_11 u H locs hw hH => ?_)
        obtain ⟨f_trial_12, eu⟩ : ∃ z, z = u := ⟨_, rfl⟩
        subst eu
        have hH : kH (dC, dI) cl A s.heap H locs (wX54 ci ad d f_thrown f_cells f_sizes f_keys f_maps f_mapCount f_atoms f_atomCount f_spans f_spanCount f_unions f_unionCount f_isLarge f_trial_12 f_rowAt f_answers f_foundBy f_firstBy f_lastBy f_order f_answerCount f_asked f_tooMany) := hH
        refine lv_istore_n (lv' := [(1, .int r_11), (0, .ref (ad 0))]) hx hb dX54_find_78 rfl hl (by decide) rfl (fun ls hl => ?_)
        refine lv_goto (tgt := 43) hx hb dX54_find_79 (by decide) ?_
        exact ih r_11 f_unions f_unionCount f_trial_12 hw _ _ ls hH (lv_sub hl [1, 0] rfl)
      · have hw := hw.2 (z_neq (rfl : r_9.toInt = _) (rfl : (0 : Int32).toInt = 0) c_10)
        refine lv_aload_n hx hb dX54_find_54 rfl (lv_at hl 0 rfl) ?_
        refine k_get X hH in_X54 0 rfl hc 11 (by decide) q6511 rfl dX54_find_55 ?_
        refine lv_sipush (v := 150) hx hb dX54_find_58 (by decide) ?_
        refine lv_icmp_ne (tgt := 70) hx hb dX54_find_61 (by decide) (fun c_13 => ?_) (fun c_13 => ?_)
        · have hw := hw.2 (z_ne (rfl : f_unionCount.toInt = _) (rfl : (150 : Int32).toInt = 150) c_13)
          refine lv_aload_n hx hb dX54_find_70 rfl (lv_at hl 0 rfl) ?_
          refine k_v0 hH (k_runV (As := []) (rest := []) X hH.1 hH.2.1 X.2.2.2 (walkX54_keep hc (f_thrown := f_thrown) (f_cells := f_cells) (f_sizes := f_sizes) (f_keys := f_keys) (f_maps := f_maps) (f_mapCount := f_mapCount) (f_atoms := f_atoms) (f_atomCount := f_atomCount) (f_spans := f_spans) (f_spanCount := f_spanCount) (f_unions := f_unions) (f_unionCount := f_unionCount) (f_isLarge := f_isLarge) (f_trial := f_trial) (f_rowAt := f_rowAt) (f_answers := f_answers) (f_foundBy := f_foundBy) (f_firstBy := f_firstBy) (f_lastBy := f_lastBy) (f_order := f_order) (f_answerCount := f_answerCount) (f_asked := f_asked) (f_tooMany := f_tooMany) hw) (cwV 0 X.1.2.2.2.2 gX54_112 rfl rfl rfl hX54_keep ⟨Nat.le_of_ble_eq_true rfl, Nat.le_of_ble_eq_true rfl⟩) hc (q0 := 0) rfl rfl hl.1 rfl (Nat.le_of_ble_eq_true rfl) dX54_find_71 ⟨Nat.le_refl 0, Nat.le_refl 0⟩) (fun u H locs hw hH => ?_)
          obtain ⟨f_unions_14, f_unionCount_15⟩ := u
          have hH : kH (dC, dI) cl A s.heap H locs (wX54 ci ad d f_thrown f_cells f_sizes f_keys f_maps f_mapCount f_atoms f_atomCount f_spans f_spanCount f_unions_14 f_unionCount_15 f_isLarge f_trial f_rowAt f_answers f_foundBy f_firstBy f_lastBy f_order f_answerCount f_asked f_tooMany) := hH
          refine lv_aload_n hx hb dX54_find_74 rfl (lv_at hl 0 rfl) ?_
          refine k_i0 hH (k_runV (As := []) (rest := []) X hH.1 hH.2.1 X.2.2.2 (walkX54_next hc (f_thrown := f_thrown) (f_cells := f_cells) (f_sizes := f_sizes) (f_keys := f_keys) (f_maps := f_maps) (f_mapCount := f_mapCount) (f_atoms := f_atoms) (f_atomCount := f_atomCount) (f_spans := f_spans) (f_spanCount := f_spanCount) (f_unions := f_unions_14) (f_unionCount := f_unionCount_15) (f_isLarge := f_isLarge) (f_trial := f_trial) (f_rowAt := f_rowAt) (f_answers := f_answers) (f_foundBy := f_foundBy) (f_firstBy := f_firstBy) (f_lastBy := f_lastBy) (f_order := f_order) (f_answerCount := f_answerCount) (f_asked := f_asked) (f_tooMany := f_tooMany) hw) (cwV 0 X.1.2.2.2.2 gX54_115 rfl rfl rfl hX54_next ⟨Nat.le_of_ble_eq_true rfl, Nat.le_of_ble_eq_true rfl⟩) hc (q0 := 0) rfl rfl hl.1 rfl (Nat.le_of_ble_eq_true rfl) dX54_find_75 ⟨Nat.le_refl 0, Nat.le_refl 0⟩) (fun r_16 u H locs hw hH => ?_)
          obtain ⟨f_trial_17, eu⟩ : ∃ z, z = u := ⟨_, rfl⟩
          subst eu
          have hH : kH (dC, dI) cl A s.heap H locs (wX54 ci ad d f_thrown f_cells f_sizes f_keys f_maps f_mapCount f_atoms f_atomCount f_spans f_spanCount f_unions_14 f_unionCount_15 f_isLarge f_trial_17 f_rowAt f_answers f_foundBy f_firstBy f_lastBy f_order f_answerCount f_asked f_tooMany) := hH
          refine lv_istore_n (lv' := [(1, .int r_16), (0, .ref (ad 0))]) hx hb dX54_find_78 rfl hl (by decide) rfl (fun ls hl => ?_)
          refine lv_goto (tgt := 43) hx hb dX54_find_79 (by decide) ?_
          exact ih r_16 f_unions_14 f_unionCount_15 f_trial_17 hw _ _ ls hH (lv_sub hl [1, 0] rfl)
        · have hw := hw.1 (z_eq (rfl : f_unionCount.toInt = _) (rfl : (150 : Int32).toInt = 150) c_13)
          exact hk64 f_unions f_unionCount f_trial hw _ _ ls hH (lv_sub hl [0] rfl)
set_option maxHeartbeats 4000000 in
theorem walkX54_find {l : Launch} {dC : Nat → ClassId} {dI : Nat → Nat → Nat} {cl : List vw_C} {ci : Nat} (hc : cl[ci]? = some (RX54, TX54, 23)) {ad : Nat → Nat} {d : Nat → ClassId} {sz : Nat} {f_thrown : Int32} {f_cells : Nat → Int32} {f_sizes : Nat → Int32} {f_keys : Nat → Int32} {f_maps : Nat → Int32} {f_mapCount : Int32} {f_atoms : Nat → Int32} {f_atomCount : Int32} {f_spans : Nat → Int32} {f_spanCount : Int32} {f_unions : Nat → Int32} {f_unionCount : Int32} {f_isLarge : Int32} {f_trial : Nat → Int32} {f_rowAt : Nat → Int32} {f_answers : Nat → Int32} {f_foundBy : Nat → Int32} {f_firstBy : Nat → Int32} {f_lastBy : Nat → Int32} {f_order : Nat → Int32} {f_answerCount : Int32} {f_asked : Nat → Int32} {f_tooMany : Int32}  {post : (Int → Int) → Int → Int → (Int → Int) → Prop} (hw : wpX54_find post (zF f_keys) (zF f_maps) f_mapCount.toInt (zF f_atoms) f_atomCount.toInt (zF f_unions) (zF f_trial) ) :
    Met l yX54_find (ws_ yX54_find cX54_find 2 none) ({ frames := 3, cells := 0, slots := 0, locals := 74 } : Room) (kPc (dC, dI) cl (tX54 d) [.ref (ad 0)] sz (wX54 ci ad d f_thrown f_cells f_sizes f_keys f_maps f_mapCount f_atoms f_atomCount f_spans f_spanCount f_unions f_unionCount f_isLarge f_trial f_rowAt f_answers f_foundBy f_firstBy f_lastBy f_order f_answerCount f_asked f_tooMany)) (va_Qv (fun (u : (Nat → Int32) × Int32 × Int32 × (Nat → Int32)) => post (zF (u.1)) (u.2.1).toInt (u.2.2.1).toInt (zF (u.2.2.2))) (kB (dC, dI) cl (tX54 d) (va_A (wX54 ci ad d f_thrown f_cells f_sizes f_keys f_maps f_mapCount f_atoms f_atomCount f_spans f_spanCount f_unions f_unionCount f_isLarge f_trial f_rowAt f_answers f_foundBy f_firstBy f_lastBy f_order f_answerCount f_asked f_tooMany) sz) (fun u : (Nat → Int32) × Int32 × Int32 × (Nat → Int32) => (wX54 ci ad d f_thrown f_cells f_sizes f_keys f_maps f_mapCount f_atoms f_atomCount f_spans f_spanCount (u.1) (u.2.1) (u.2.2.1) (u.2.2.2) f_rowAt f_answers f_foundBy f_firstBy f_lastBy f_order f_answerCount f_asked f_tooMany))) (va_A (wX54 ci ad d f_thrown f_cells f_sizes f_keys f_maps f_mapCount f_atoms f_atomCount f_spans f_spanCount f_unions f_unionCount f_isLarge f_trial f_rowAt f_answers f_foundBy f_firstBy f_lastBy f_order f_answerCount f_asked f_tooMany) sz)) 0 0 (va_A (wX54 ci ad d f_thrown f_cells f_sizes f_keys f_maps f_mapCount f_atoms f_atomCount f_spans f_spanCount f_unions f_unionCount f_isLarge f_trial f_rowAt f_answers f_foundBy f_firstBy f_lastBy f_order f_answerCount f_asked f_tooMany) sz) := by
  refine k_enter (by decide) (Nat.le_of_ble_eq_true rfl) ?_
  intro p e s m below meth c ls X hsz hH hl
  subst hsz
  generalize va_A (wX54 ci ad d f_thrown f_cells f_sizes f_keys f_maps f_mapCount f_atoms f_atomCount f_spans f_spanCount f_unions f_unionCount f_isLarge f_trial f_rowAt f_answers f_foundBy f_firstBy f_lastBy f_order f_answerCount f_asked f_tooMany) s.heap.size = A at hH ⊢
  have hx := X.1.1
  have hb := X.1.2.1
  have hl : lv_has ls 2 [(0, .ref (ad 0))] := hl
  unfold wpX54_find at hw
  refine lv_aload_n hx hb dX54_find_0 rfl (lv_at hl 0 rfl) ?_
  refine lv_iconst (v := 0) hx hb dX54_find_1 (by decide) ?_
  refine k_put X hH in_X54 tyX54_ok nmX54 0 rfl hc 11 (by decide) q6511 rfl (ty := .int) rfl rfl rfl (Nat.le_of_ble_eq_true rfl) dX54_find_2 (ws1 := (wX54 ci ad d f_thrown f_cells f_sizes f_keys f_maps f_mapCount f_atoms f_atomCount f_spans f_spanCount f_unions 0 f_isLarge f_trial f_rowAt f_answers f_foundBy f_firstBy f_lastBy f_order f_answerCount f_asked f_tooMany)) rfl (fun H locs hH => ?_)
  refine lv_aload_n hx hb dX54_find_5 rfl (lv_at hl 0 rfl) ?_
  refine lv_iconst (v := 0) hx hb dX54_find_6 (by decide) ?_
  refine k_put X hH in_X54 tyX54_ok nmX54 0 rfl hc 12 (by decide) q6512 rfl (ty := .boolean) rfl rfl rfl (Nat.le_of_ble_eq_true rfl) dX54_find_7 (ws1 := (wX54 ci ad d f_thrown f_cells f_sizes f_keys f_maps f_mapCount f_atoms f_atomCount f_spans f_spanCount f_unions 0 0 f_trial f_rowAt f_answers f_foundBy f_firstBy f_lastBy f_order f_answerCount f_asked f_tooMany)) rfl (fun H locs hH => ?_)
  refine lv_iconst (v := 0) hx hb dX54_find_10 (by decide) ?_
  refine lv_istore_n (lv' := [(1, .int 0), (0, .ref (ad 0))]) hx hb dX54_find_11 rfl hl (by decide) rfl (fun ls hl => ?_)
  obtain ⟨fu, hw⟩ := hw
  refine atX54_find_12 hc X ?_ fu 0 f_trial hw _ _ ls hH (lv_sub hl [1, 0] rfl)
  · intro f_trial_6 hw H locs ls hH hl
    refine lv_aload_n hx hb dX54_find_30 rfl (lv_at hl 0 rfl) ?_
    refine k_get X hH in_X54 0 rfl hc 5 (by decide) q6505 rfl dX54_find_31 ?_
    refine lv_if_le (tgt := 41) hx hb dX54_find_34 (by decide) (fun c_7 => ?_) (fun c_7 => ?_)
    · have hw := hw.1 (z_le (rfl : f_mapCount.toInt = _) (rfl : (0 : Int32).toInt = 0) c_7)
      refine lv_iconst (v := 0) hx hb dX54_find_41 (by decide) ?_
      refine lv_istore_n (lv' := [(1, .int 0), (0, .ref (ad 0))]) hx hb dX54_find_42 rfl hl (by decide) rfl (fun ls hl => ?_)
      obtain ⟨fu, hw⟩ := hw
      refine atX54_find_43 hc X ?_ ?_ fu 0 f_unions 0 f_trial_6 hw _ _ ls hH (lv_sub hl [1, 0] rfl)
      · intro f_unions_18 f_unionCount_19 f_trial_20 hw H locs ls hH hl
        refine lv_aload_n hx hb dX54_find_64 rfl (lv_at hl 0 rfl) ?_
        refine lv_iconst (v := 1) hx hb dX54_find_65 (by decide) ?_
        refine k_put X hH in_X54 tyX54_ok nmX54 0 rfl hc 12 (by decide) q6512 rfl (ty := .boolean) rfl rfl rfl (Nat.le_of_ble_eq_true rfl) dX54_find_66 (ws1 := (wX54 ci ad d f_thrown f_cells f_sizes f_keys f_maps f_mapCount f_atoms f_atomCount f_spans f_spanCount f_unions_18 f_unionCount_19 1 f_trial_20 f_rowAt f_answers f_foundBy f_firstBy f_lastBy f_order f_answerCount f_asked f_tooMany)) rfl (fun H locs hH => ?_)
        exact k_vret X hH (f_unions_18, f_unionCount_19, 1, f_trial_20) hw rfl dX54_find_69
      · intro f_unions_21 f_unionCount_22 f_trial_23 hw H locs ls hH hl
        exact k_vret X hH (f_unions_21, f_unionCount_22, 0, f_trial_23) hw rfl dX54_find_82
    · have hw := hw.2 (z_nle (rfl : f_mapCount.toInt = _) (rfl : (0 : Int32).toInt = 0) c_7)
      refine lv_iconst (v := 1) hx hb dX54_find_37 (by decide) ?_
      refine lv_goto (tgt := 42) hx hb dX54_find_38 (by decide) ?_
      refine lv_istore_n (lv' := [(1, .int 1), (0, .ref (ad 0))]) hx hb dX54_find_42 rfl hl (by decide) rfl (fun ls hl => ?_)
      obtain ⟨fu, hw⟩ := hw
      refine atX54_find_43 hc X ?_ ?_ fu 1 f_unions 0 f_trial_6 hw _ _ ls hH (lv_sub hl [1, 0] rfl)
      · intro f_unions_24 f_unionCount_25 f_trial_26 hw H locs ls hH hl
        refine lv_aload_n hx hb dX54_find_64 rfl (lv_at hl 0 rfl) ?_
        refine lv_iconst (v := 1) hx hb dX54_find_65 (by decide) ?_
        refine k_put X hH in_X54 tyX54_ok nmX54 0 rfl hc 12 (by decide) q6512 rfl (ty := .boolean) rfl rfl rfl (Nat.le_of_ble_eq_true rfl) dX54_find_66 (ws1 := (wX54 ci ad d f_thrown f_cells f_sizes f_keys f_maps f_mapCount f_atoms f_atomCount f_spans f_spanCount f_unions_24 f_unionCount_25 1 f_trial_26 f_rowAt f_answers f_foundBy f_firstBy f_lastBy f_order f_answerCount f_asked f_tooMany)) rfl (fun H locs hH => ?_)
        exact k_vret X hH (f_unions_24, f_unionCount_25, 1, f_trial_26) hw rfl dX54_find_69
      · intro f_unions_27 f_unionCount_28 f_trial_29 hw H locs ls hH hl
        exact k_vret X hH (f_unions_27, f_unionCount_28, 0, f_trial_29) hw rfl dX54_find_82
set_option maxHeartbeats 4000000 in
theorem walkX54_ready {l : Launch} {dC : Nat → ClassId} {dI : Nat → Nat → Nat} {cl : List vw_C} {ci : Nat} (hc : cl[ci]? = some (RX54, TX54, 23)) {ad : Nat → Nat} {d : Nat → ClassId} {sz : Nat} {f_thrown : Int32} {f_cells : Nat → Int32} {f_sizes : Nat → Int32} {f_keys : Nat → Int32} {f_maps : Nat → Int32} {f_mapCount : Int32} {f_atoms : Nat → Int32} {f_atomCount : Int32} {f_spans : Nat → Int32} {f_spanCount : Int32} {f_unions : Nat → Int32} {f_unionCount : Int32} {f_isLarge : Int32} {f_trial : Nat → Int32} {f_rowAt : Nat → Int32} {f_answers : Nat → Int32} {f_foundBy : Nat → Int32} {f_firstBy : Nat → Int32} {f_lastBy : Nat → Int32} {f_order : Nat → Int32} {f_answerCount : Int32} {f_asked : Nat → Int32} {f_tooMany : Int32}  {post : Int → Int → (Int → Int) → Int → Int → (Int → Int) → Prop} (hw : wpX54_ready post (zF f_keys) (zF f_maps) f_mapCount.toInt (zF f_atoms) f_atomCount.toInt (zF f_unions) f_unionCount.toInt f_isLarge.toInt (zF f_trial) ) :
    Met l yX54_ready (ws_ yX54_ready cX54_ready 1 (some .int)) ({ frames := 4, cells := 0, slots := 0, locals := 95 } : Room) (kPc (dC, dI) cl (tX54 d) [.ref (ad 0)] sz (wX54 ci ad d f_thrown f_cells f_sizes f_keys f_maps f_mapCount f_atoms f_atomCount f_spans f_spanCount f_unions f_unionCount f_isLarge f_trial f_rowAt f_answers f_foundBy f_firstBy f_lastBy f_order f_answerCount f_asked f_tooMany)) (va_Qi (fun (r : Int32) (u : Int32 × (Nat → Int32) × Int32 × Int32 × (Nat → Int32)) => post r.toInt (u.1).toInt (zF (u.2.1)) (u.2.2.1).toInt (u.2.2.2.1).toInt (zF (u.2.2.2.2))) (kB (dC, dI) cl (tX54 d) (va_A (wX54 ci ad d f_thrown f_cells f_sizes f_keys f_maps f_mapCount f_atoms f_atomCount f_spans f_spanCount f_unions f_unionCount f_isLarge f_trial f_rowAt f_answers f_foundBy f_firstBy f_lastBy f_order f_answerCount f_asked f_tooMany) sz) (fun u : Int32 × (Nat → Int32) × Int32 × Int32 × (Nat → Int32) => (wX54 ci ad d (u.1) f_cells f_sizes f_keys f_maps f_mapCount f_atoms f_atomCount f_spans f_spanCount (u.2.1) (u.2.2.1) (u.2.2.2.1) (u.2.2.2.2) f_rowAt f_answers f_foundBy f_firstBy f_lastBy f_order f_answerCount f_asked f_tooMany))) (va_A (wX54 ci ad d f_thrown f_cells f_sizes f_keys f_maps f_mapCount f_atoms f_atomCount f_spans f_spanCount f_unions f_unionCount f_isLarge f_trial f_rowAt f_answers f_foundBy f_firstBy f_lastBy f_order f_answerCount f_asked f_tooMany) sz)) 0 0 (va_A (wX54 ci ad d f_thrown f_cells f_sizes f_keys f_maps f_mapCount f_atoms f_atomCount f_spans f_spanCount f_unions f_unionCount f_isLarge f_trial f_rowAt f_answers f_foundBy f_firstBy f_lastBy f_order f_answerCount f_asked f_tooMany) sz) := by
  refine k_enter (by decide) (Nat.le_of_ble_eq_true rfl) ?_
  intro p e s m below meth c ls X hsz hH hl
  subst hsz
  generalize va_A (wX54 ci ad d f_thrown f_cells f_sizes f_keys f_maps f_mapCount f_atoms f_atomCount f_spans f_spanCount f_unions f_unionCount f_isLarge f_trial f_rowAt f_answers f_foundBy f_firstBy f_lastBy f_order f_answerCount f_asked f_tooMany) s.heap.size = A at hH ⊢
  have hx := X.1.1
  have hb := X.1.2.1
  have hl : lv_has ls 1 [(0, .ref (ad 0))] := hl
  unfold wpX54_ready at hw
  refine lv_aload_n hx hb dX54_ready_0 rfl (lv_at hl 0 rfl) ?_
  refine lv_iconst (v := 0) hx hb dX54_ready_1 (by decide) ?_
  refine k_put X hH in_X54 tyX54_ok nmX54 0 rfl hc 0 (by decide) q6500 rfl (ty := .int) rfl rfl rfl (Nat.le_of_ble_eq_true rfl) dX54_ready_2 (ws1 := (wX54 ci ad d 0 f_cells f_sizes f_keys f_maps f_mapCount f_atoms f_atomCount f_spans f_spanCount f_unions f_unionCount f_isLarge f_trial f_rowAt f_answers f_foundBy f_firstBy f_lastBy f_order f_answerCount f_asked f_tooMany)) rfl (fun H locs hH => ?_)
  refine lv_aload_n hx hb dX54_ready_5 rfl (lv_at hl 0 rfl) ?_
  refine k_get X hH in_X54 0 rfl hc 7 (by decide) q6507 rfl dX54_ready_6 ?_
  refine lv_if_ne (tgt := 14) hx hb dX54_ready_9 (by decide) (fun c_1 => ?_) (fun c_1 => ?_)
  · have hw := hw.2 (z_ne (rfl : f_atomCount.toInt = _) (rfl : (0 : Int32).toInt = 0) c_1)
    refine lv_aload_n hx hb dX54_ready_14 rfl (lv_at hl 0 rfl) ?_
    refine k_v0 hH (k_runV (As := []) (rest := []) X hH.1 hH.2.1 X.2.2.2 (walkX54_find hc (f_thrown := 0) (f_cells := f_cells) (f_sizes := f_sizes) (f_keys := f_keys) (f_maps := f_maps) (f_mapCount := f_mapCount) (f_atoms := f_atoms) (f_atomCount := f_atomCount) (f_spans := f_spans) (f_spanCount := f_spanCount) (f_unions := f_unions) (f_unionCount := f_unionCount) (f_isLarge := f_isLarge) (f_trial := f_trial) (f_rowAt := f_rowAt) (f_answers := f_answers) (f_foundBy := f_foundBy) (f_firstBy := f_firstBy) (f_lastBy := f_lastBy) (f_order := f_order) (f_answerCount := f_answerCount) (f_asked := f_asked) (f_tooMany := f_tooMany) hw) (cwV 0 X.1.2.2.2.2 gX54_118 rfl rfl rfl hX54_find ⟨Nat.le_of_ble_eq_true rfl, Nat.le_of_ble_eq_true rfl⟩) hc (q0 := 0) rfl rfl hl.1 rfl (Nat.le_of_ble_eq_true rfl) dX54_ready_15 ⟨Nat.le_refl 0, Nat.le_refl 0⟩) (fun u H locs hw hH => ?_)
    obtain ⟨f_unions_2, f_unionCount_3, f_isLarge_4, f_trial_5⟩ := u
    have hH : kH (dC, dI) cl A s.heap H locs (wX54 ci ad d 0 f_cells f_sizes f_keys f_maps f_mapCount f_atoms f_atomCount f_spans f_spanCount f_unions_2 f_unionCount_3 f_isLarge_4 f_trial_5 f_rowAt f_answers f_foundBy f_firstBy f_lastBy f_order f_answerCount f_asked f_tooMany) := hH
    refine lv_aload_n hx hb dX54_ready_18 rfl (lv_at hl 0 rfl) ?_
    refine k_get X hH in_X54 0 rfl hc 12 (by decide) q6512 rfl dX54_ready_19 ?_
    refine lv_if_eq (tgt := 30) hx hb dX54_ready_22 (by decide) (fun c_6 => ?_) (fun c_6 => ?_)
    · have hw := hw.1 (z_eq (rfl : f_isLarge_4.toInt = _) (rfl : (0 : Int32).toInt = 0) c_6)
      refine lv_iconst (v := 1) hx hb dX54_ready_30 (by decide) ?_
      exact k_iret (v := 1) X hH (0, f_unions_2, f_unionCount_3, f_isLarge_4, f_trial_5) hw rfl rfl dX54_ready_31
    · have hw := hw.2 (z_neq (rfl : f_isLarge_4.toInt = _) (rfl : (0 : Int32).toInt = 0) c_6)
      refine lv_bipush (v := (-3)) hx hb dX54_ready_25 (by decide) ?_
      refine lv_goto (tgt := 31) hx hb dX54_ready_27 (by decide) ?_
      exact k_iret (v := (-3)) X hH (0, f_unions_2, f_unionCount_3, f_isLarge_4, f_trial_5) hw rfl rfl dX54_ready_31
  · have hw := hw.1 (z_eq (rfl : f_atomCount.toInt = _) (rfl : (0 : Int32).toInt = 0) c_1)
    refine lv_iconst (v := (-1)) hx hb dX54_ready_12 (by decide) ?_
    exact k_iret (v := (-1)) X hH (0, f_unions, f_unionCount, f_isLarge, f_trial) hw rfl rfl dX54_ready_13
set_option maxHeartbeats 4000000 in
theorem atX54_leader_2 {p : Program} {l : Launch} {e : Env} {s : State} {m : MethodId} {args : Array Value} {below : List Frame} {meth : Method} {c : Code} {dC : Nat → ClassId} {dI : Nat → Nat → Nat} {cl : List vw_C} {ci : Nat} (hc : cl[ci]? = some (RX54, TX54, 23)) {ad : Nat → Nat} {d : Nat → ClassId} {A : Nat → Prop} {post : Int → Prop} {f_thrown : Int32} {f_cells : Nat → Int32} {f_sizes : Nat → Int32} {f_keys : Nat → Int32} {f_maps : Nat → Int32} {f_mapCount : Int32} {f_atoms : Nat → Int32} {f_atomCount : Int32} {f_spans : Nat → Int32} {f_spanCount : Int32} {f_unions : Nat → Int32} {f_unionCount : Int32} {f_isLarge : Int32} {f_trial : Nat → Int32} {f_rowAt : Nat → Int32} {f_answers : Nat → Int32} {f_foundBy : Nat → Int32} {f_firstBy : Nat → Int32} {f_lastBy : Nat → Int32} {f_order : Nat → Int32} {f_answerCount : Int32} {f_asked : Nat → Int32} {f_tooMany : Int32} (X : kX p s m args meth c cX54_leader 4 RX54 (some .int) (dC, dI) cl (tX54 d)) {K37 : Int → Prop} {x1 : Int32} {x2 : Int32}  (hk37 : ∀ (x3 : Int32), K37 x3.toInt → ∀ (H : Heap) (locs : List Loc) (ls : Array Slot), kH (dC, dI) cl A s.heap H locs (wX54 ci ad d f_thrown f_cells f_sizes f_keys f_maps f_mapCount f_atoms f_atomCount f_spans f_spanCount f_unions f_unionCount f_isLarge f_trial f_rowAt f_answers f_foundBy f_firstBy f_lastBy f_order f_answerCount f_asked f_tooMany) → lv_has ls 4 [(3, .int x3)] → W p l e ({ frames := 0, cells := 0, slots := 0, locals := 0 } : Room) s m args below meth c H locs 0 0 (MQ below (va_Qi (fun (r : Int32) (_ : Unit) => post r.toInt) (kB (dC, dI) cl (tX54 d) A (fun _ : Unit => (wX54 ci ad d f_thrown f_cells f_sizes f_keys f_maps f_mapCount f_atoms f_atomCount f_spans f_spanCount f_unions f_unionCount f_isLarge f_trial f_rowAt f_answers f_foundBy f_firstBy f_lastBy f_order f_answerCount f_asked f_tooMany))) A) args s 0 0 A) (F0 m 37 ls [])) :
    ∀ (nn : Nat) (x3 : Int32), wX54_leader_2 K37 x1.toInt x2.toInt (zF f_unions) nn x3.toInt → ∀ (H : Heap) (locs : List Loc) (ls : Array Slot), kH (dC, dI) cl A s.heap H locs (wX54 ci ad d f_thrown f_cells f_sizes f_keys f_maps f_mapCount f_atoms f_atomCount f_spans f_spanCount f_unions f_unionCount f_isLarge f_trial f_rowAt f_answers f_foundBy f_firstBy f_lastBy f_order f_answerCount f_asked f_tooMany) → lv_has ls 4 [(0, .ref (ad 0)), (1, .int x1), (2, .int x2), (3, .int x3)] → W p l e ({ frames := 0, cells := 0, slots := 0, locals := 0 } : Room) s m args below meth c H locs 0 0 (MQ below (va_Qi (fun (r : Int32) (_ : Unit) => post r.toInt) (kB (dC, dI) cl (tX54 d) A (fun _ : Unit => (wX54 ci ad d f_thrown f_cells f_sizes f_keys f_maps f_mapCount f_atoms f_atomCount f_spans f_spanCount f_unions f_unionCount f_isLarge f_trial f_rowAt f_answers f_foundBy f_firstBy f_lastBy f_order f_answerCount f_asked f_tooMany))) A) args s 0 0 A) (F0 m 2 ls []) := by
  have hx := X.1.1
  have hb := X.1.2.1
  intro nn
  induction nn with
  | zero =>
    intro x3 hw
    exact False.elim hw
  | succ n ih =>
    intro x3 hw H locs ls hH hl
    rw [wX54_leader_2] at hw
    refine lv_aload_n hx hb dX54_leader_2 rfl (lv_at hl 0 rfl) ?_
    refine k_get X hH in_X54 0 rfl hc 10 (by decide) q6510 rfl dX54_leader_3 ?_
    refine lv_bipush (v := 9) hx hb dX54_leader_6 (by decide) ?_
    refine lv_iload_n hx hb dX54_leader_8 rfl (lv_at hl 1 rfl) ?_
    refine lv_imul hx hb dX54_leader_9 ?_
    have e_1 := z_mul (z_m (rfl : (9 : Int32).toInt = 9)) (z_m (rfl : x1.toInt = _))
    refine lv_iconst (v := 4) hx hb dX54_leader_10 (by decide) ?_
    refine lv_iadd hx hb dX54_leader_11 ?_
    have e_2 := z_add e_1 (z_m (rfl : (4 : Int32).toInt = 4))
    refine lv_iload_n hx hb dX54_leader_12 rfl (lv_at hl 3 rfl) ?_
    refine lv_iadd hx hb dX54_leader_13 ?_
    have e_3 := z_add e_2 (z_m (rfl : x3.toInt = _))
    have hq_4 := hw.1
    have hw := hw.2
    have e_5 := z_xi e_3 hq_4 (by decide)
    refine k_iald X hH 7 6 rfl rfl (z_in e_5 hq_4) dX54_leader_14 ?_
    have e_6 := z_ld (f := f_unions) e_5 hq_4.1
    refine lv_aload_n hx hb dX54_leader_15 rfl (lv_at hl 0 rfl) ?_
    refine k_get X hH in_X54 0 rfl hc 10 (by decide) q6510 rfl dX54_leader_16 ?_
    refine lv_bipush (v := 9) hx hb dX54_leader_19 (by decide) ?_
    refine lv_iload_n hx hb dX54_leader_21 rfl (lv_at hl 1 rfl) ?_
    refine lv_imul hx hb dX54_leader_22 ?_
    have e_7 := z_mul (z_m (rfl : (9 : Int32).toInt = 9)) (z_m (rfl : x1.toInt = _))
    refine lv_iconst (v := 4) hx hb dX54_leader_23 (by decide) ?_
    refine lv_iadd hx hb dX54_leader_24 ?_
    have e_8 := z_add e_7 (z_m (rfl : (4 : Int32).toInt = 4))
    refine lv_iload_n hx hb dX54_leader_25 rfl (lv_at hl 2 rfl) ?_
    refine lv_iadd hx hb dX54_leader_26 ?_
    have e_9 := z_add e_8 (z_m (rfl : x2.toInt = _))
    have hq_10 := hw.1
    have hw := hw.2
    have e_11 := z_xi e_9 hq_10 (by decide)
    refine k_iald X hH 7 6 rfl rfl (z_in e_11 hq_10) dX54_leader_27 ?_
    have e_12 := z_ld (f := f_unions) e_11 hq_10.1
    refine lv_icmp_eq (tgt := 37) hx hb dX54_leader_28 (by decide) (fun c_13 => ?_) (fun c_13 => ?_)
    · have hw := hw.1 (z_eq e_6 e_12 c_13)
      exact hk37 x3 hw _ _ ls hH (lv_sub hl [3] rfl)
    · have hw := hw.2 (z_neq e_6 e_12 c_13)
      have hq_15 := hw.1
      have hw := hw.2
      obtain ⟨x3_14, ex3_14⟩ : ∃ y : Int32, y = x3 + 1 := ⟨_, rfl⟩
      have hw := hw x3_14.toInt (by rw [ex3_14]; exact (z_x (z_add (z_m (rfl : x3.toInt = _)) (z_m (rfl : (1 : Int32).toInt = 1))) hq_15))
      refine lv_iinc (v := x3_14) (lv' := [(3, .int x3_14), (0, .ref (ad 0)), (1, .int x1), (2, .int x2)]) hx hb dX54_leader_31 hl (k := 3) rfl (by rw [ex3_14]; rfl) (by decide) rfl (fun ls hl => ?_)
      refine lv_goto (tgt := 2) hx hb dX54_leader_34 (by decide) ?_
      exact ih x3_14 hw _ _ ls hH (lv_sub hl [1, 2, 3, 0] rfl)
set_option maxHeartbeats 4000000 in
theorem walkX54_leader {l : Launch} {dC : Nat → ClassId} {dI : Nat → Nat → Nat} {cl : List vw_C} {ci : Nat} (hc : cl[ci]? = some (RX54, TX54, 23)) {ad : Nat → Nat} {d : Nat → ClassId} {sz : Nat} {f_thrown : Int32} {f_cells : Nat → Int32} {f_sizes : Nat → Int32} {f_keys : Nat → Int32} {f_maps : Nat → Int32} {f_mapCount : Int32} {f_atoms : Nat → Int32} {f_atomCount : Int32} {f_spans : Nat → Int32} {f_spanCount : Int32} {f_unions : Nat → Int32} {f_unionCount : Int32} {f_isLarge : Int32} {f_trial : Nat → Int32} {f_rowAt : Nat → Int32} {f_answers : Nat → Int32} {f_foundBy : Nat → Int32} {f_firstBy : Nat → Int32} {f_lastBy : Nat → Int32} {f_order : Nat → Int32} {f_answerCount : Int32} {f_asked : Nat → Int32} {f_tooMany : Int32} {x1 : Int32} {x2 : Int32} {post : Int → Prop} (hw : wpX54_leader post (zF f_unions) x1.toInt x2.toInt) :
    Met l yX54_leader (ws_ yX54_leader cX54_leader 4 (some .int)) ({ frames := 0, cells := 0, slots := 0, locals := 0 } : Room) (kPc (dC, dI) cl (tX54 d) [.ref (ad 0), .int x1, .int x2] sz (wX54 ci ad d f_thrown f_cells f_sizes f_keys f_maps f_mapCount f_atoms f_atomCount f_spans f_spanCount f_unions f_unionCount f_isLarge f_trial f_rowAt f_answers f_foundBy f_firstBy f_lastBy f_order f_answerCount f_asked f_tooMany)) (va_Qi (fun (r : Int32) (_ : Unit) => post r.toInt) (kB (dC, dI) cl (tX54 d) (va_A (wX54 ci ad d f_thrown f_cells f_sizes f_keys f_maps f_mapCount f_atoms f_atomCount f_spans f_spanCount f_unions f_unionCount f_isLarge f_trial f_rowAt f_answers f_foundBy f_firstBy f_lastBy f_order f_answerCount f_asked f_tooMany) sz) (fun _ : Unit => (wX54 ci ad d f_thrown f_cells f_sizes f_keys f_maps f_mapCount f_atoms f_atomCount f_spans f_spanCount f_unions f_unionCount f_isLarge f_trial f_rowAt f_answers f_foundBy f_firstBy f_lastBy f_order f_answerCount f_asked f_tooMany))) (va_A (wX54 ci ad d f_thrown f_cells f_sizes f_keys f_maps f_mapCount f_atoms f_atomCount f_spans f_spanCount f_unions f_unionCount f_isLarge f_trial f_rowAt f_answers f_foundBy f_firstBy f_lastBy f_order f_answerCount f_asked f_tooMany) sz)) 0 0 (va_A (wX54 ci ad d f_thrown f_cells f_sizes f_keys f_maps f_mapCount f_atoms f_atomCount f_spans f_spanCount f_unions f_unionCount f_isLarge f_trial f_rowAt f_answers f_foundBy f_firstBy f_lastBy f_order f_answerCount f_asked f_tooMany) sz) := by
  refine k_enter (by decide) (Nat.le_of_ble_eq_true rfl) ?_
  intro p e s m below meth c ls X hsz hH hl
  subst hsz
  generalize va_A (wX54 ci ad d f_thrown f_cells f_sizes f_keys f_maps f_mapCount f_atoms f_atomCount f_spans f_spanCount f_unions f_unionCount f_isLarge f_trial f_rowAt f_answers f_foundBy f_firstBy f_lastBy f_order f_answerCount f_asked f_tooMany) s.heap.size = A at hH ⊢
  have hx := X.1.1
  have hb := X.1.2.1
  have hl : lv_has ls 4 [(0, .ref (ad 0)), (1, .int x1), (2, .int x2)] := hl
  unfold wpX54_leader at hw
  refine lv_iconst (v := 0) hx hb dX54_leader_0 (by decide) ?_
  refine lv_istore_n (lv' := [(3, .int 0), (0, .ref (ad 0)), (1, .int x1), (2, .int x2)]) hx hb dX54_leader_1 rfl hl (by decide) rfl (fun ls hl => ?_)
  obtain ⟨fu, hw⟩ := hw
  refine atX54_leader_2 hc X ?_ fu 0 hw _ _ ls hH (lv_sub hl [1, 2, 3, 0] rfl)
  · intro x3_16 hw H locs ls hH hl
    refine lv_iload_n hx hb dX54_leader_37 rfl (lv_at hl 0 rfl) ?_
    exact k_iret (v := x3_16) X hH () hw rfl rfl dX54_leader_38
set_option maxHeartbeats 4000000 in
theorem walkX54_cell {l : Launch} {dC : Nat → ClassId} {dI : Nat → Nat → Nat} {cl : List vw_C} {ci : Nat} (hc : cl[ci]? = some (RX54, TX54, 23)) {ad : Nat → Nat} {d : Nat → ClassId} {sz : Nat} {f_thrown : Int32} {f_cells : Nat → Int32} {f_sizes : Nat → Int32} {f_keys : Nat → Int32} {f_maps : Nat → Int32} {f_mapCount : Int32} {f_atoms : Nat → Int32} {f_atomCount : Int32} {f_spans : Nat → Int32} {f_spanCount : Int32} {f_unions : Nat → Int32} {f_unionCount : Int32} {f_isLarge : Int32} {f_trial : Nat → Int32} {f_rowAt : Nat → Int32} {f_answers : Nat → Int32} {f_foundBy : Nat → Int32} {f_firstBy : Nat → Int32} {f_lastBy : Nat → Int32} {f_order : Nat → Int32} {f_answerCount : Int32} {f_asked : Nat → Int32} {f_tooMany : Int32} {x1 : Int32} {x2 : Int32} {x3 : Int32} {post : Int → Prop} (hw : wpX54_cell post (zF f_cells) x1.toInt x2.toInt x3.toInt) :
    Met l yX54_cell (ws_ yX54_cell cX54_cell 4 (some .int)) ({ frames := 0, cells := 0, slots := 0, locals := 0 } : Room) (kPc (dC, dI) cl (tX54 d) [.ref (ad 0), .int x1, .int x2, .int x3] sz (wX54 ci ad d f_thrown f_cells f_sizes f_keys f_maps f_mapCount f_atoms f_atomCount f_spans f_spanCount f_unions f_unionCount f_isLarge f_trial f_rowAt f_answers f_foundBy f_firstBy f_lastBy f_order f_answerCount f_asked f_tooMany)) (va_Qi (fun (r : Int32) (_ : Unit) => post r.toInt) (kB (dC, dI) cl (tX54 d) (va_A (wX54 ci ad d f_thrown f_cells f_sizes f_keys f_maps f_mapCount f_atoms f_atomCount f_spans f_spanCount f_unions f_unionCount f_isLarge f_trial f_rowAt f_answers f_foundBy f_firstBy f_lastBy f_order f_answerCount f_asked f_tooMany) sz) (fun _ : Unit => (wX54 ci ad d f_thrown f_cells f_sizes f_keys f_maps f_mapCount f_atoms f_atomCount f_spans f_spanCount f_unions f_unionCount f_isLarge f_trial f_rowAt f_answers f_foundBy f_firstBy f_lastBy f_order f_answerCount f_asked f_tooMany))) (va_A (wX54 ci ad d f_thrown f_cells f_sizes f_keys f_maps f_mapCount f_atoms f_atomCount f_spans f_spanCount f_unions f_unionCount f_isLarge f_trial f_rowAt f_answers f_foundBy f_firstBy f_lastBy f_order f_answerCount f_asked f_tooMany) sz)) 0 0 (va_A (wX54 ci ad d f_thrown f_cells f_sizes f_keys f_maps f_mapCount f_atoms f_atomCount f_spans f_spanCount f_unions f_unionCount f_isLarge f_trial f_rowAt f_answers f_foundBy f_firstBy f_lastBy f_order f_answerCount f_asked f_tooMany) sz) := by
  refine k_enter (by decide) (Nat.le_of_ble_eq_true rfl) ?_
  intro p e s m below meth c ls X hsz hH hl
  subst hsz
  generalize va_A (wX54 ci ad d f_thrown f_cells f_sizes f_keys f_maps f_mapCount f_atoms f_atomCount f_spans f_spanCount f_unions f_unionCount f_isLarge f_trial f_rowAt f_answers f_foundBy f_firstBy f_lastBy f_order f_answerCount f_asked f_tooMany) s.heap.size = A at hH ⊢
  have hx := X.1.1
  have hb := X.1.2.1
  have hl : lv_has ls 4 [(0, .ref (ad 0)), (1, .int x1), (2, .int x2), (3, .int x3)] := hl
  unfold wpX54_cell at hw
  refine lv_aload_n hx hb dX54_cell_0 rfl (lv_at hl 0 rfl) ?_
  refine k_get X hH in_X54 0 rfl hc 1 (by decide) q6501 rfl dX54_cell_1 ?_
  refine lv_bipush (v := 60) hx hb dX54_cell_4 (by decide) ?_
  refine lv_iload_n hx hb dX54_cell_6 rfl (lv_at hl 1 rfl) ?_
  refine lv_imul hx hb dX54_cell_7 ?_
  have e_1 := z_mul (z_m (rfl : (60 : Int32).toInt = 60)) (z_m (rfl : x1.toInt = _))
  refine lv_iconst (v := 3) hx hb dX54_cell_8 (by decide) ?_
  refine lv_iload_n hx hb dX54_cell_9 rfl (lv_at hl 2 rfl) ?_
  refine lv_imul hx hb dX54_cell_10 ?_
  have e_2 := z_mul (z_m (rfl : (3 : Int32).toInt = 3)) (z_m (rfl : x2.toInt = _))
  refine lv_iadd hx hb dX54_cell_11 ?_
  have e_3 := z_add e_1 e_2
  refine lv_iload_n hx hb dX54_cell_12 rfl (lv_at hl 3 rfl) ?_
  refine lv_iadd hx hb dX54_cell_13 ?_
  have e_4 := z_add e_3 (z_m (rfl : x3.toInt = _))
  have hq_5 := hw.1
  have hw := hw.2
  have e_6 := z_xi e_4 hq_5 (by decide)
  refine k_iald X hH 1 0 rfl rfl (z_in e_6 hq_5) dX54_cell_14 ?_
  have e_7 := z_ld (f := f_cells) e_6 hq_5.1
  exact k_iret (v := f_cells (((60 * x1) + (3 * x2)) + x3).toNatClampNeg) X hH () (by rw [show (f_cells (((60 * x1) + (3 * x2)) + x3).toNatClampNeg : Int32).toInt = _ from e_7]; exact hw) rfl rfl dX54_cell_15
set_option maxHeartbeats 4000000 in
theorem walkX54_codeOf {l : Launch} {dC : Nat → ClassId} {dI : Nat → Nat → Nat} {cl : List vw_C} {ci : Nat} (hc : cl[ci]? = some (RX54, TX54, 23)) {ad : Nat → Nat} {d : Nat → ClassId} {sz : Nat} {f_thrown : Int32} {f_cells : Nat → Int32} {f_sizes : Nat → Int32} {f_keys : Nat → Int32} {f_maps : Nat → Int32} {f_mapCount : Int32} {f_atoms : Nat → Int32} {f_atomCount : Int32} {f_spans : Nat → Int32} {f_spanCount : Int32} {f_unions : Nat → Int32} {f_unionCount : Int32} {f_isLarge : Int32} {f_trial : Nat → Int32} {f_rowAt : Nat → Int32} {f_answers : Nat → Int32} {f_foundBy : Nat → Int32} {f_firstBy : Nat → Int32} {f_lastBy : Nat → Int32} {f_order : Nat → Int32} {f_answerCount : Int32} {f_asked : Nat → Int32} {f_tooMany : Int32} {x1 : Int32} {x2 : Int32} {x3 : Int32} {post : Int → Prop} (hw : wpX54_codeOf post (zF f_cells) (zF f_maps) x1.toInt x2.toInt x3.toInt) :
    Met l yX54_codeOf (ws_ yX54_codeOf cX54_codeOf 4 (some .int)) ({ frames := 1, cells := 0, slots := 0, locals := 23 } : Room) (kPc (dC, dI) cl (tX54 d) [.ref (ad 0), .int x1, .int x2, .int x3] sz (wX54 ci ad d f_thrown f_cells f_sizes f_keys f_maps f_mapCount f_atoms f_atomCount f_spans f_spanCount f_unions f_unionCount f_isLarge f_trial f_rowAt f_answers f_foundBy f_firstBy f_lastBy f_order f_answerCount f_asked f_tooMany)) (va_Qi (fun (r : Int32) (_ : Unit) => post r.toInt) (kB (dC, dI) cl (tX54 d) (va_A (wX54 ci ad d f_thrown f_cells f_sizes f_keys f_maps f_mapCount f_atoms f_atomCount f_spans f_spanCount f_unions f_unionCount f_isLarge f_trial f_rowAt f_answers f_foundBy f_firstBy f_lastBy f_order f_answerCount f_asked f_tooMany) sz) (fun _ : Unit => (wX54 ci ad d f_thrown f_cells f_sizes f_keys f_maps f_mapCount f_atoms f_atomCount f_spans f_spanCount f_unions f_unionCount f_isLarge f_trial f_rowAt f_answers f_foundBy f_firstBy f_lastBy f_order f_answerCount f_asked f_tooMany))) (va_A (wX54 ci ad d f_thrown f_cells f_sizes f_keys f_maps f_mapCount f_atoms f_atomCount f_spans f_spanCount f_unions f_unionCount f_isLarge f_trial f_rowAt f_answers f_foundBy f_firstBy f_lastBy f_order f_answerCount f_asked f_tooMany) sz)) 0 0 (va_A (wX54 ci ad d f_thrown f_cells f_sizes f_keys f_maps f_mapCount f_atoms f_atomCount f_spans f_spanCount f_unions f_unionCount f_isLarge f_trial f_rowAt f_answers f_foundBy f_firstBy f_lastBy f_order f_answerCount f_asked f_tooMany) sz) := by
  refine k_enter (by decide) (Nat.le_of_ble_eq_true rfl) ?_
  intro p e s m below meth c ls X hsz hH hl
  subst hsz
  generalize va_A (wX54 ci ad d f_thrown f_cells f_sizes f_keys f_maps f_mapCount f_atoms f_atomCount f_spans f_spanCount f_unions f_unionCount f_isLarge f_trial f_rowAt f_answers f_foundBy f_firstBy f_lastBy f_order f_answerCount f_asked f_tooMany) s.heap.size = A at hH ⊢
  have hx := X.1.1
  have hb := X.1.2.1
  have hl : lv_has ls 4 [(0, .ref (ad 0)), (1, .int x1), (2, .int x2), (3, .int x3)] := hl
  unfold wpX54_codeOf at hw
  refine lv_sipush (v := 10000) hx hb dX54_codeOf_0 (by decide) ?_
  refine lv_aload_n hx hb dX54_codeOf_3 rfl (lv_at hl 0 rfl) ?_
  refine lv_iload_n hx hb dX54_codeOf_4 rfl (lv_at hl 1 rfl) ?_
  refine lv_iload_n hx hb dX54_codeOf_5 rfl (lv_at hl 3 rfl) ?_
  refine k_i0 hH (k_runV (As := [.int x1, .int x3]) (rest := [.int 10000]) X hH.1 hH.2.1 X.2.2.2 (walkX54_templateOf hc (x1 := x1) (x2 := x3) (f_thrown := f_thrown) (f_cells := f_cells) (f_sizes := f_sizes) (f_keys := f_keys) (f_maps := f_maps) (f_mapCount := f_mapCount) (f_atoms := f_atoms) (f_atomCount := f_atomCount) (f_spans := f_spans) (f_spanCount := f_spanCount) (f_unions := f_unions) (f_unionCount := f_unionCount) (f_isLarge := f_isLarge) (f_trial := f_trial) (f_rowAt := f_rowAt) (f_answers := f_answers) (f_foundBy := f_foundBy) (f_firstBy := f_firstBy) (f_lastBy := f_lastBy) (f_order := f_order) (f_answerCount := f_answerCount) (f_asked := f_asked) (f_tooMany := f_tooMany) hw) (cwV 2 X.1.2.2.2.2 gX54_78 rfl rfl rfl hX54_templateOf ⟨Nat.le_of_ble_eq_true rfl, Nat.le_of_ble_eq_true rfl⟩) hc (q0 := 0) rfl rfl hl.1 rfl (Nat.le_of_ble_eq_true rfl) dX54_codeOf_6 ⟨Nat.le_refl 0, Nat.le_refl 0⟩) (fun r_1 _ H locs hw hH => ?_)
  have hH : kH (dC, dI) cl A s.heap H locs (wX54 ci ad d f_thrown f_cells f_sizes f_keys f_maps f_mapCount f_atoms f_atomCount f_spans f_spanCount f_unions f_unionCount f_isLarge f_trial f_rowAt f_answers f_foundBy f_firstBy f_lastBy f_order f_answerCount f_asked f_tooMany) := hH
  refine lv_imul hx hb dX54_codeOf_9 ?_
  have e_2 := z_mul (z_m (rfl : (10000 : Int32).toInt = 10000)) (z_m (rfl : r_1.toInt = _))
  refine lv_aload_n hx hb dX54_codeOf_10 rfl (lv_at hl 0 rfl) ?_
  refine lv_aload_n hx hb dX54_codeOf_11 rfl (lv_at hl 0 rfl) ?_
  refine k_get X hH in_X54 0 rfl hc 4 (by decide) q6504 rfl dX54_codeOf_12 ?_
  refine lv_bipush (v := 6) hx hb dX54_codeOf_15 (by decide) ?_
  refine lv_iload_n hx hb dX54_codeOf_17 rfl (lv_at hl 1 rfl) ?_
  refine lv_imul hx hb dX54_codeOf_18 ?_
  have e_3 := z_mul (z_m (rfl : (6 : Int32).toInt = 6)) (z_m (rfl : x1.toInt = _))
  have hq_4 := hw.1
  have hw := hw.2
  have e_5 := z_xi e_3 hq_4 (by decide)
  refine k_iald X hH 4 3 rfl rfl (z_in e_5 hq_4) dX54_codeOf_19 ?_
  have e_6 := z_ld (f := f_maps) e_5 hq_4.1
  refine lv_iload_n hx hb dX54_codeOf_20 rfl (lv_at hl 2 rfl) ?_
  refine lv_aload_n hx hb dX54_codeOf_21 rfl (lv_at hl 0 rfl) ?_
  refine lv_iload_n hx hb dX54_codeOf_22 rfl (lv_at hl 1 rfl) ?_
  refine lv_iload_n hx hb dX54_codeOf_23 rfl (lv_at hl 3 rfl) ?_
  refine k_i0 hH (k_runV (As := [.int x1, .int x3]) (rest := [.int x2, .int (f_maps (6 * x1).toNatClampNeg), .ref (ad 0), .int (10000 * r_1)]) X hH.1 hH.2.1 X.2.2.2 (walkX54_columnOf hc (x1 := x1) (x2 := x3) (f_thrown := f_thrown) (f_cells := f_cells) (f_sizes := f_sizes) (f_keys := f_keys) (f_maps := f_maps) (f_mapCount := f_mapCount) (f_atoms := f_atoms) (f_atomCount := f_atomCount) (f_spans := f_spans) (f_spanCount := f_spanCount) (f_unions := f_unions) (f_unionCount := f_unionCount) (f_isLarge := f_isLarge) (f_trial := f_trial) (f_rowAt := f_rowAt) (f_answers := f_answers) (f_foundBy := f_foundBy) (f_firstBy := f_firstBy) (f_lastBy := f_lastBy) (f_order := f_order) (f_answerCount := f_answerCount) (f_asked := f_asked) (f_tooMany := f_tooMany) hw) (cwV 2 X.1.2.2.2.2 gX54_82 rfl rfl rfl hX54_columnOf ⟨Nat.le_of_ble_eq_true rfl, Nat.le_of_ble_eq_true rfl⟩) hc (q0 := 0) rfl rfl hl.1 rfl (Nat.le_of_ble_eq_true rfl) dX54_codeOf_24 ⟨Nat.le_refl 0, Nat.le_refl 0⟩) (fun r_7 _ H locs hw hH => ?_)
  have hH : kH (dC, dI) cl A s.heap H locs (wX54 ci ad d f_thrown f_cells f_sizes f_keys f_maps f_mapCount f_atoms f_atomCount f_spans f_spanCount f_unions f_unionCount f_isLarge f_trial f_rowAt f_answers f_foundBy f_firstBy f_lastBy f_order f_answerCount f_asked f_tooMany) := hH
  refine k_i0 hH (k_runV (As := [.int (f_maps (6 * x1).toNatClampNeg), .int x2, .int r_7]) (rest := [.int (10000 * r_1)]) X hH.1 hH.2.1 X.2.2.2 (walkX54_cell hc (x1 := (f_maps (6 * x1).toNatClampNeg)) (x2 := x2) (x3 := r_7) (f_thrown := f_thrown) (f_cells := f_cells) (f_sizes := f_sizes) (f_keys := f_keys) (f_maps := f_maps) (f_mapCount := f_mapCount) (f_atoms := f_atoms) (f_atomCount := f_atomCount) (f_spans := f_spans) (f_spanCount := f_spanCount) (f_unions := f_unions) (f_unionCount := f_unionCount) (f_isLarge := f_isLarge) (f_trial := f_trial) (f_rowAt := f_rowAt) (f_answers := f_answers) (f_foundBy := f_foundBy) (f_firstBy := f_firstBy) (f_lastBy := f_lastBy) (f_order := f_order) (f_answerCount := f_answerCount) (f_asked := f_asked) (f_tooMany := f_tooMany) (by rw [show (f_maps (6 * x1).toNatClampNeg : Int32).toInt = _ from e_6]; exact hw)) (cwV 3 X.1.2.2.2.2 gX54_60 rfl rfl rfl hX54_cell ⟨Nat.le_of_ble_eq_true rfl, Nat.le_of_ble_eq_true rfl⟩) hc (q0 := 0) rfl rfl hl.1 rfl (Nat.le_of_ble_eq_true rfl) dX54_codeOf_27 ⟨Nat.le_refl 0, Nat.le_refl 0⟩) (fun r_8 _ H locs hw hH => ?_)
  have hH : kH (dC, dI) cl A s.heap H locs (wX54 ci ad d f_thrown f_cells f_sizes f_keys f_maps f_mapCount f_atoms f_atomCount f_spans f_spanCount f_unions f_unionCount f_isLarge f_trial f_rowAt f_answers f_foundBy f_firstBy f_lastBy f_order f_answerCount f_asked f_tooMany) := hH
  refine lv_iadd hx hb dX54_codeOf_30 ?_
  have e_9 := z_add e_2 (z_m (rfl : r_8.toInt = _))
  have hq_10 := hw.1
  have hw := hw.2
  have e_11 := z_x e_9 hq_10
  exact k_iret (v := (10000 * r_1) + r_8) X hH () (by rw [show ((10000 * r_1) + r_8 : Int32).toInt = _ from e_11]; exact hw) rfl rfl dX54_codeOf_31
set_option maxHeartbeats 4000000 in
theorem walkX54_codeAt {l : Launch} {dC : Nat → ClassId} {dI : Nat → Nat → Nat} {cl : List vw_C} {ci : Nat} (hc : cl[ci]? = some (RX54, TX54, 23)) {ad : Nat → Nat} {d : Nat → ClassId} {sz : Nat} {f_thrown : Int32} {f_cells : Nat → Int32} {f_sizes : Nat → Int32} {f_keys : Nat → Int32} {f_maps : Nat → Int32} {f_mapCount : Int32} {f_atoms : Nat → Int32} {f_atomCount : Int32} {f_spans : Nat → Int32} {f_spanCount : Int32} {f_unions : Nat → Int32} {f_unionCount : Int32} {f_isLarge : Int32} {f_trial : Nat → Int32} {f_rowAt : Nat → Int32} {f_answers : Nat → Int32} {f_foundBy : Nat → Int32} {f_firstBy : Nat → Int32} {f_lastBy : Nat → Int32} {f_order : Nat → Int32} {f_answerCount : Int32} {f_asked : Nat → Int32} {f_tooMany : Int32} {x1 : Int32} {x2 : Int32} {x3 : Int32} {post : Int → Prop} (hw : wpX54_codeAt post (zF f_cells) (zF f_maps) (zF f_unions) (zF f_rowAt) x1.toInt x2.toInt x3.toInt) :
    Met l yX54_codeAt (ws_ yX54_codeAt cX54_codeAt 4 (some .int)) ({ frames := 2, cells := 0, slots := 0, locals := 46 } : Room) (kPc (dC, dI) cl (tX54 d) [.ref (ad 0), .int x1, .int x2, .int x3] sz (wX54 ci ad d f_thrown f_cells f_sizes f_keys f_maps f_mapCount f_atoms f_atomCount f_spans f_spanCount f_unions f_unionCount f_isLarge f_trial f_rowAt f_answers f_foundBy f_firstBy f_lastBy f_order f_answerCount f_asked f_tooMany)) (va_Qi (fun (r : Int32) (_ : Unit) => post r.toInt) (kB (dC, dI) cl (tX54 d) (va_A (wX54 ci ad d f_thrown f_cells f_sizes f_keys f_maps f_mapCount f_atoms f_atomCount f_spans f_spanCount f_unions f_unionCount f_isLarge f_trial f_rowAt f_answers f_foundBy f_firstBy f_lastBy f_order f_answerCount f_asked f_tooMany) sz) (fun _ : Unit => (wX54 ci ad d f_thrown f_cells f_sizes f_keys f_maps f_mapCount f_atoms f_atomCount f_spans f_spanCount f_unions f_unionCount f_isLarge f_trial f_rowAt f_answers f_foundBy f_firstBy f_lastBy f_order f_answerCount f_asked f_tooMany))) (va_A (wX54 ci ad d f_thrown f_cells f_sizes f_keys f_maps f_mapCount f_atoms f_atomCount f_spans f_spanCount f_unions f_unionCount f_isLarge f_trial f_rowAt f_answers f_foundBy f_firstBy f_lastBy f_order f_answerCount f_asked f_tooMany) sz)) 0 0 (va_A (wX54 ci ad d f_thrown f_cells f_sizes f_keys f_maps f_mapCount f_atoms f_atomCount f_spans f_spanCount f_unions f_unionCount f_isLarge f_trial f_rowAt f_answers f_foundBy f_firstBy f_lastBy f_order f_answerCount f_asked f_tooMany) sz) := by
  refine k_enter (by decide) (Nat.le_of_ble_eq_true rfl) ?_
  intro p e s m below meth c ls X hsz hH hl
  subst hsz
  generalize va_A (wX54 ci ad d f_thrown f_cells f_sizes f_keys f_maps f_mapCount f_atoms f_atomCount f_spans f_spanCount f_unions f_unionCount f_isLarge f_trial f_rowAt f_answers f_foundBy f_firstBy f_lastBy f_order f_answerCount f_asked f_tooMany) s.heap.size = A at hH ⊢
  have hx := X.1.1
  have hb := X.1.2.1
  have hl : lv_has ls 4 [(0, .ref (ad 0)), (1, .int x1), (2, .int x2), (3, .int x3)] := hl
  unfold wpX54_codeAt at hw
  refine lv_aload_n hx hb dX54_codeAt_0 rfl (lv_at hl 0 rfl) ?_
  refine lv_aload_n hx hb dX54_codeAt_1 rfl (lv_at hl 0 rfl) ?_
  refine k_get X hH in_X54 0 rfl hc 10 (by decide) q6510 rfl dX54_codeAt_2 ?_
  refine lv_bipush (v := 9) hx hb dX54_codeAt_5 (by decide) ?_
  refine lv_iload_n hx hb dX54_codeAt_7 rfl (lv_at hl 1 rfl) ?_
  refine lv_imul hx hb dX54_codeAt_8 ?_
  have e_1 := z_mul (z_m (rfl : (9 : Int32).toInt = 9)) (z_m (rfl : x1.toInt = _))
  refine lv_iload_n hx hb dX54_codeAt_9 rfl (lv_at hl 2 rfl) ?_
  refine lv_iadd hx hb dX54_codeAt_10 ?_
  have e_2 := z_add e_1 (z_m (rfl : x2.toInt = _))
  have hq_3 := hw.1
  have hw := hw.2
  have e_4 := z_xi e_2 hq_3 (by decide)
  refine k_iald X hH 7 6 rfl rfl (z_in e_4 hq_3) dX54_codeAt_11 ?_
  have e_5 := z_ld (f := f_unions) e_4 hq_3.1
  refine lv_aload_n hx hb dX54_codeAt_12 rfl (lv_at hl 0 rfl) ?_
  refine k_get X hH in_X54 0 rfl hc 14 (by decide) q6514 rfl dX54_codeAt_13 ?_
  refine lv_iload_n hx hb dX54_codeAt_16 rfl (lv_at hl 2 rfl) ?_
  have hq_6 := hw.1
  have hw := hw.2
  refine k_iald X hH 9 8 rfl rfl (z_in (rfl : x2.toInt = _) hq_6) dX54_codeAt_17 ?_
  have e_7 := z_ld (f := f_rowAt) (rfl : x2.toInt = _) hq_6.1
  refine lv_iload_n hx hb dX54_codeAt_18 rfl (lv_at hl 3 rfl) ?_
  refine k_i0 hH (k_runV (As := [.int (f_unions ((9 * x1) + x2).toNatClampNeg), .int (f_rowAt x2.toNatClampNeg), .int x3]) (rest := []) X hH.1 hH.2.1 X.2.2.2 (walkX54_codeOf hc (x1 := (f_unions ((9 * x1) + x2).toNatClampNeg)) (x2 := (f_rowAt x2.toNatClampNeg)) (x3 := x3) (f_thrown := f_thrown) (f_cells := f_cells) (f_sizes := f_sizes) (f_keys := f_keys) (f_maps := f_maps) (f_mapCount := f_mapCount) (f_atoms := f_atoms) (f_atomCount := f_atomCount) (f_spans := f_spans) (f_spanCount := f_spanCount) (f_unions := f_unions) (f_unionCount := f_unionCount) (f_isLarge := f_isLarge) (f_trial := f_trial) (f_rowAt := f_rowAt) (f_answers := f_answers) (f_foundBy := f_foundBy) (f_firstBy := f_firstBy) (f_lastBy := f_lastBy) (f_order := f_order) (f_answerCount := f_answerCount) (f_asked := f_asked) (f_tooMany := f_tooMany) (by rw [show (f_unions ((9 * x1) + x2).toNatClampNeg : Int32).toInt = _ from e_5, show (f_rowAt x2.toNatClampNeg : Int32).toInt = _ from e_7]; exact hw)) (cwV 3 X.1.2.2.2.2 gX54_85 rfl rfl rfl hX54_codeOf ⟨Nat.le_of_ble_eq_true rfl, Nat.le_of_ble_eq_true rfl⟩) hc (q0 := 0) rfl rfl hl.1 rfl (Nat.le_of_ble_eq_true rfl) dX54_codeAt_19 ⟨Nat.le_refl 0, Nat.le_refl 0⟩) (fun r_8 _ H locs hw hH => ?_)
  have hH : kH (dC, dI) cl A s.heap H locs (wX54 ci ad d f_thrown f_cells f_sizes f_keys f_maps f_mapCount f_atoms f_atomCount f_spans f_spanCount f_unions f_unionCount f_isLarge f_trial f_rowAt f_answers f_foundBy f_firstBy f_lastBy f_order f_answerCount f_asked f_tooMany) := hH
  exact k_iret (v := r_8) X hH () hw rfl rfl dX54_codeAt_22
set_option maxHeartbeats 4000000 in
theorem atX54_goes_41 {p : Program} {l : Launch} {e : Env} {s : State} {m : MethodId} {args : Array Value} {below : List Frame} {meth : Method} {c : Code} {dC : Nat → ClassId} {dI : Nat → Nat → Nat} {cl : List vw_C} {ci : Nat} (hc : cl[ci]? = some (RX54, TX54, 23)) {ad : Nat → Nat} {d : Nat → ClassId} {A : Nat → Prop} {post : Int → Prop} {f_thrown : Int32} {f_cells : Nat → Int32} {f_sizes : Nat → Int32} {f_keys : Nat → Int32} {f_maps : Nat → Int32} {f_mapCount : Int32} {f_atoms : Nat → Int32} {f_atomCount : Int32} {f_spans : Nat → Int32} {f_spanCount : Int32} {f_unions : Nat → Int32} {f_unionCount : Int32} {f_isLarge : Int32} {f_trial : Nat → Int32} {f_rowAt : Nat → Int32} {f_answers : Nat → Int32} {f_foundBy : Nat → Int32} {f_firstBy : Nat → Int32} {f_lastBy : Nat → Int32} {f_order : Nat → Int32} {f_answerCount : Int32} {f_asked : Nat → Int32} {f_tooMany : Int32} (X : kX p s m args meth c cX54_goes 7 RX54 (some .boolean) (dC, dI) cl (tX54 d)) {K86 : Prop} {K94 : Prop} {x1 : Int32} {x2 : Int32} {x3 : Int32} {x4 : Int32} {x5 : Int32}  (hk86 : K86  → ∀ (H : Heap) (locs : List Loc) (ls : Array Slot), kH (dC, dI) cl A s.heap H locs (wX54 ci ad d f_thrown f_cells f_sizes f_keys f_maps f_mapCount f_atoms f_atomCount f_spans f_spanCount f_unions f_unionCount f_isLarge f_trial f_rowAt f_answers f_foundBy f_firstBy f_lastBy f_order f_answerCount f_asked f_tooMany) → lv_has ls 7 [] → W p l e ({ frames := 3, cells := 0, slots := 0, locals := 69 } : Room) s m args below meth c H locs 0 0 (MQ below (va_Qi (fun (r : Int32) (_ : Unit) => post r.toInt) (kB (dC, dI) cl (tX54 d) A (fun _ : Unit => (wX54 ci ad d f_thrown f_cells f_sizes f_keys f_maps f_mapCount f_atoms f_atomCount f_spans f_spanCount f_unions f_unionCount f_isLarge f_trial f_rowAt f_answers f_foundBy f_firstBy f_lastBy f_order f_answerCount f_asked f_tooMany))) A) args s 0 0 A) (F0 m 86 ls [])) (hk94 : K94  → ∀ (H : Heap) (locs : List Loc) (ls : Array Slot), kH (dC, dI) cl A s.heap H locs (wX54 ci ad d f_thrown f_cells f_sizes f_keys f_maps f_mapCount f_atoms f_atomCount f_spans f_spanCount f_unions f_unionCount f_isLarge f_trial f_rowAt f_answers f_foundBy f_firstBy f_lastBy f_order f_answerCount f_asked f_tooMany) → lv_has ls 7 [(0, .ref (ad 0)), (1, .int x1), (2, .int x2), (3, .int x3), (4, .int x4), (5, .int x5)] → W p l e ({ frames := 3, cells := 0, slots := 0, locals := 69 } : Room) s m args below meth c H locs 0 0 (MQ below (va_Qi (fun (r : Int32) (_ : Unit) => post r.toInt) (kB (dC, dI) cl (tX54 d) A (fun _ : Unit => (wX54 ci ad d f_thrown f_cells f_sizes f_keys f_maps f_mapCount f_atoms f_atomCount f_spans f_spanCount f_unions f_unionCount f_isLarge f_trial f_rowAt f_answers f_foundBy f_firstBy f_lastBy f_order f_answerCount f_asked f_tooMany))) A) args s 0 0 A) (F0 m 94 ls [])) :
    ∀ (nn : Nat) (x6 : Int32), wX54_goes_41 K86 K94 x1.toInt x2.toInt x3.toInt x4.toInt x5.toInt (zF f_cells) (zF f_maps) (zF f_atoms) (zF f_unions) (zF f_rowAt) nn x6.toInt → ∀ (H : Heap) (locs : List Loc) (ls : Array Slot), kH (dC, dI) cl A s.heap H locs (wX54 ci ad d f_thrown f_cells f_sizes f_keys f_maps f_mapCount f_atoms f_atomCount f_spans f_spanCount f_unions f_unionCount f_isLarge f_trial f_rowAt f_answers f_foundBy f_firstBy f_lastBy f_order f_answerCount f_asked f_tooMany) → lv_has ls 7 [(0, .ref (ad 0)), (1, .int x1), (2, .int x2), (3, .int x3), (4, .int x4), (5, .int x5), (6, .int x6)] → W p l e ({ frames := 3, cells := 0, slots := 0, locals := 69 } : Room) s m args below meth c H locs 0 0 (MQ below (va_Qi (fun (r : Int32) (_ : Unit) => post r.toInt) (kB (dC, dI) cl (tX54 d) A (fun _ : Unit => (wX54 ci ad d f_thrown f_cells f_sizes f_keys f_maps f_mapCount f_atoms f_atomCount f_spans f_spanCount f_unions f_unionCount f_isLarge f_trial f_rowAt f_answers f_foundBy f_firstBy f_lastBy f_order f_answerCount f_asked f_tooMany))) A) args s 0 0 A) (F0 m 41 ls []) := by
  have hx := X.1.1
  have hb := X.1.2.1
  intro nn
  induction nn with
  | zero =>
    intro x6 hw
    exact False.elim hw
  | succ n ih =>
    intro x6 hw H locs ls hH hl
    rw [wX54_goes_41] at hw
    refine lv_iload hx hb dX54_goes_41 (lv_at hl 6 rfl) ?_
    refine lv_iconst (v := 2) hx hb dX54_goes_43 (by decide) ?_
    refine lv_iload_n hx hb dX54_goes_44 rfl (lv_at hl 2 rfl) ?_
    refine lv_imul hx hb dX54_goes_45 ?_
    have e_5 := z_mul (z_m (rfl : (2 : Int32).toInt = 2)) (z_m (rfl : x2.toInt = _))
    refine lv_iload_n hx hb dX54_goes_46 rfl (lv_at hl 3 rfl) ?_
    refine lv_iadd hx hb dX54_goes_47 ?_
    have e_6 := z_add e_5 (z_m (rfl : x3.toInt = _))
    have hq_8 := hw.1
    have hw := hw.2
    have e_9 := z_x e_6 hq_8
    refine lv_icmp_ge (tgt := 94) hx hb dX54_goes_48 (by decide) (fun c_7 => ?_) (fun c_7 => ?_)
    · have hw := hw.1 (z_le e_9 (rfl : x6.toInt = _) c_7)
      exact hk94  hw _ _ ls hH (lv_sub hl [0, 1, 2, 3, 4, 5] rfl)
    · have hw := hw.2 (z_nle e_9 (rfl : x6.toInt = _) c_7)
      refine lv_aload_n hx hb dX54_goes_51 rfl (lv_at hl 0 rfl) ?_
      refine lv_iload hx hb dX54_goes_52 (lv_at hl 6 rfl) ?_
      refine lv_iconst (v := 2) hx hb dX54_goes_54 (by decide) ?_
      have hq_10 := hw.1
      have hw := hw.2
      refine lv_idiv hx hb dX54_goes_55 (by decide) ?_
      have e_11 := z_div (rfl : x6.toInt = _) (rfl : (2 : Int32).toInt = 2) hq_10 (by decide)
      refine lv_iload hx hb dX54_goes_56 (lv_at hl 6 rfl) ?_
      refine lv_iconst (v := 2) hx hb dX54_goes_58 (by decide) ?_
      refine lv_irem hx hb dX54_goes_59 (by decide) ?_
      have e_12 := z_rem (rfl : x6.toInt = _) (rfl : (2 : Int32).toInt = 2) hq_10 (by decide)
      refine k_i0 hH (k_runV (As := [.int (x6 / 2), .int (x6 - x6 / 2 * 2)]) (rest := []) X hH.1 hH.2.1 X.2.2.2 (walkX54_placeOf hc (x1 := (x6 / 2)) (x2 := (x6 - x6 / 2 * 2)) (f_thrown := f_thrown) (f_cells := f_cells) (f_sizes := f_sizes) (f_keys := f_keys) (f_maps := f_maps) (f_mapCount := f_mapCount) (f_atoms := f_atoms) (f_atomCount := f_atomCount) (f_spans := f_spans) (f_spanCount := f_spanCount) (f_unions := f_unions) (f_unionCount := f_unionCount) (f_isLarge := f_isLarge) (f_trial := f_trial) (f_rowAt := f_rowAt) (f_answers := f_answers) (f_foundBy := f_foundBy) (f_firstBy := f_firstBy) (f_lastBy := f_lastBy) (f_order := f_order) (f_answerCount := f_answerCount) (f_asked := f_asked) (f_tooMany := f_tooMany) (by rw [show (x6 / 2 : Int32).toInt = _ from e_11, show (x6 - x6 / 2 * 2 : Int32).toInt = _ from e_12]; exact hw)) (cwV 2 X.1.2.2.2.2 gX54_95 rfl rfl rfl hX54_placeOf ⟨Nat.le_of_ble_eq_true rfl, Nat.le_of_ble_eq_true rfl⟩) hc (q0 := 0) rfl rfl hl.1 rfl (Nat.le_of_ble_eq_true rfl) dX54_goes_60 ⟨Nat.le_refl 0, Nat.le_refl 0⟩) (fun r_13 _ H locs hw hH => ?_)
      have hH : kH (dC, dI) cl A s.heap H locs (wX54 ci ad d f_thrown f_cells f_sizes f_keys f_maps f_mapCount f_atoms f_atomCount f_spans f_spanCount f_unions f_unionCount f_isLarge f_trial f_rowAt f_answers f_foundBy f_firstBy f_lastBy f_order f_answerCount f_asked f_tooMany) := hH
      refine lv_iload hx hb dX54_goes_63 (lv_at hl 4 rfl) ?_
      refine lv_icmp_ne (tgt := 88) hx hb dX54_goes_65 (by decide) (fun c_14 => ?_) (fun c_14 => ?_)
      · have hw := hw.2 (z_ne (rfl : r_13.toInt = _) (rfl : x4.toInt = _) c_14)
        have hq_16 := hw.1
        have hw := hw.2
        obtain ⟨x6_15, ex6_15⟩ : ∃ y : Int32, y = x6 + 1 := ⟨_, rfl⟩
        have hw := hw x6_15.toInt (by rw [ex6_15]; exact (z_x (z_add (z_m (rfl : x6.toInt = _)) (z_m (rfl : (1 : Int32).toInt = 1))) hq_16))
        refine lv_iinc (v := x6_15) (lv' := [(6, .int x6_15), (0, .ref (ad 0)), (1, .int x1), (2, .int x2), (3, .int x3), (4, .int x4), (5, .int x5)]) hx hb dX54_goes_88 hl (k := 6) rfl (by rw [ex6_15]; rfl) (by decide) rfl (fun ls hl => ?_)
        refine lv_goto (tgt := 41) hx hb dX54_goes_91 (by decide) ?_
        exact ih x6_15 hw _ _ ls hH (lv_sub hl [1, 2, 3, 4, 5, 6, 0] rfl)
      · have hw := hw.1 (z_eq (rfl : r_13.toInt = _) (rfl : x4.toInt = _) c_14)
        refine lv_aload_n hx hb dX54_goes_68 rfl (lv_at hl 0 rfl) ?_
        refine lv_iload_n hx hb dX54_goes_69 rfl (lv_at hl 1 rfl) ?_
        refine lv_iload hx hb dX54_goes_70 (lv_at hl 6 rfl) ?_
        refine lv_iconst (v := 2) hx hb dX54_goes_72 (by decide) ?_
        refine lv_idiv hx hb dX54_goes_73 (by decide) ?_
        have e_17 := z_div (rfl : x6.toInt = _) (rfl : (2 : Int32).toInt = 2) hq_10 (by decide)
        refine lv_iload hx hb dX54_goes_74 (lv_at hl 6 rfl) ?_
        refine lv_iconst (v := 2) hx hb dX54_goes_76 (by decide) ?_
        refine lv_irem hx hb dX54_goes_77 (by decide) ?_
        have e_18 := z_rem (rfl : x6.toInt = _) (rfl : (2 : Int32).toInt = 2) hq_10 (by decide)
        refine k_i0 hH (k_runV (As := [.int x1, .int (x6 / 2), .int (x6 - x6 / 2 * 2)]) (rest := []) X hH.1 hH.2.1 X.2.2.2 (walkX54_codeAt hc (x1 := x1) (x2 := (x6 / 2)) (x3 := (x6 - x6 / 2 * 2)) (f_thrown := f_thrown) (f_cells := f_cells) (f_sizes := f_sizes) (f_keys := f_keys) (f_maps := f_maps) (f_mapCount := f_mapCount) (f_atoms := f_atoms) (f_atomCount := f_atomCount) (f_spans := f_spans) (f_spanCount := f_spanCount) (f_unions := f_unions) (f_unionCount := f_unionCount) (f_isLarge := f_isLarge) (f_trial := f_trial) (f_rowAt := f_rowAt) (f_answers := f_answers) (f_foundBy := f_foundBy) (f_firstBy := f_firstBy) (f_lastBy := f_lastBy) (f_order := f_order) (f_answerCount := f_answerCount) (f_asked := f_asked) (f_tooMany := f_tooMany) (by rw [show (x6 / 2 : Int32).toInt = _ from e_17, show (x6 - x6 / 2 * 2 : Int32).toInt = _ from e_18]; exact hw)) (cwV 3 X.1.2.2.2.2 gX54_128 rfl rfl rfl hX54_codeAt ⟨Nat.le_of_ble_eq_true rfl, Nat.le_of_ble_eq_true rfl⟩) hc (q0 := 0) rfl rfl hl.1 rfl (Nat.le_of_ble_eq_true rfl) dX54_goes_78 ⟨Nat.le_refl 0, Nat.le_refl 0⟩) (fun r_19 _ H locs hw hH => ?_)
        have hH : kH (dC, dI) cl A s.heap H locs (wX54 ci ad d f_thrown f_cells f_sizes f_keys f_maps f_mapCount f_atoms f_atomCount f_spans f_spanCount f_unions f_unionCount f_isLarge f_trial f_rowAt f_answers f_foundBy f_firstBy f_lastBy f_order f_answerCount f_asked f_tooMany) := hH
        refine lv_iload hx hb dX54_goes_81 (lv_at hl 5 rfl) ?_
        refine lv_icmp_eq (tgt := 88) hx hb dX54_goes_83 (by decide) (fun c_20 => ?_) (fun c_20 => ?_)
        · have hw := hw.1 (z_eq (rfl : r_19.toInt = _) (rfl : x5.toInt = _) c_20)
          have hq_22 := hw.1
          have hw := hw.2
          obtain ⟨x6_21, ex6_21⟩ : ∃ y : Int32, y = x6 + 1 := ⟨_, rfl⟩
          have hw := hw x6_21.toInt (by rw [ex6_21]; exact (z_x (z_add (z_m (rfl : x6.toInt = _)) (z_m (rfl : (1 : Int32).toInt = 1))) hq_22))
          refine lv_iinc (v := x6_21) (lv' := [(6, .int x6_21), (0, .ref (ad 0)), (1, .int x1), (2, .int x2), (3, .int x3), (4, .int x4), (5, .int x5)]) hx hb dX54_goes_88 hl (k := 6) rfl (by rw [ex6_21]; rfl) (by decide) rfl (fun ls hl => ?_)
          refine lv_goto (tgt := 41) hx hb dX54_goes_91 (by decide) ?_
          exact ih x6_21 hw _ _ ls hH (lv_sub hl [1, 2, 3, 4, 5, 6, 0] rfl)
        · have hw := hw.2 (z_neq (rfl : r_19.toInt = _) (rfl : x5.toInt = _) c_20)
          exact hk86  hw _ _ ls hH (lv_sub hl [] rfl)
set_option maxHeartbeats 4000000 in
theorem atX54_goes_97 {p : Program} {l : Launch} {e : Env} {s : State} {m : MethodId} {args : Array Value} {below : List Frame} {meth : Method} {c : Code} {dC : Nat → ClassId} {dI : Nat → Nat → Nat} {cl : List vw_C} {ci : Nat} (hc : cl[ci]? = some (RX54, TX54, 23)) {ad : Nat → Nat} {d : Nat → ClassId} {A : Nat → Prop} {post : Int → Prop} {f_thrown : Int32} {f_cells : Nat → Int32} {f_sizes : Nat → Int32} {f_keys : Nat → Int32} {f_maps : Nat → Int32} {f_mapCount : Int32} {f_atoms : Nat → Int32} {f_atomCount : Int32} {f_spans : Nat → Int32} {f_spanCount : Int32} {f_unions : Nat → Int32} {f_unionCount : Int32} {f_isLarge : Int32} {f_trial : Nat → Int32} {f_rowAt : Nat → Int32} {f_answers : Nat → Int32} {f_foundBy : Nat → Int32} {f_firstBy : Nat → Int32} {f_lastBy : Nat → Int32} {f_order : Nat → Int32} {f_answerCount : Int32} {f_asked : Nat → Int32} {f_tooMany : Int32} (X : kX p s m args meth c cX54_goes 7 RX54 (some .boolean) (dC, dI) cl (tX54 d)) {K162 : Prop} {K170 : Prop} {x1 : Int32} {x2 : Int32} {x3 : Int32} {x4 : Int32} {x5 : Int32}  (hk162 : K162  → ∀ (H : Heap) (locs : List Loc) (ls : Array Slot), kH (dC, dI) cl A s.heap H locs (wX54 ci ad d f_thrown f_cells f_sizes f_keys f_maps f_mapCount f_atoms f_atomCount f_spans f_spanCount f_unions f_unionCount f_isLarge f_trial f_rowAt f_answers f_foundBy f_firstBy f_lastBy f_order f_answerCount f_asked f_tooMany) → lv_has ls 7 [] → W p l e ({ frames := 3, cells := 0, slots := 0, locals := 69 } : Room) s m args below meth c H locs 0 0 (MQ below (va_Qi (fun (r : Int32) (_ : Unit) => post r.toInt) (kB (dC, dI) cl (tX54 d) A (fun _ : Unit => (wX54 ci ad d f_thrown f_cells f_sizes f_keys f_maps f_mapCount f_atoms f_atomCount f_spans f_spanCount f_unions f_unionCount f_isLarge f_trial f_rowAt f_answers f_foundBy f_firstBy f_lastBy f_order f_answerCount f_asked f_tooMany))) A) args s 0 0 A) (F0 m 162 ls [])) (hk170 : K170  → ∀ (H : Heap) (locs : List Loc) (ls : Array Slot), kH (dC, dI) cl A s.heap H locs (wX54 ci ad d f_thrown f_cells f_sizes f_keys f_maps f_mapCount f_atoms f_atomCount f_spans f_spanCount f_unions f_unionCount f_isLarge f_trial f_rowAt f_answers f_foundBy f_firstBy f_lastBy f_order f_answerCount f_asked f_tooMany) → lv_has ls 7 [(0, .ref (ad 0)), (1, .int x1), (2, .int x2), (3, .int x3)] → W p l e ({ frames := 3, cells := 0, slots := 0, locals := 69 } : Room) s m args below meth c H locs 0 0 (MQ below (va_Qi (fun (r : Int32) (_ : Unit) => post r.toInt) (kB (dC, dI) cl (tX54 d) A (fun _ : Unit => (wX54 ci ad d f_thrown f_cells f_sizes f_keys f_maps f_mapCount f_atoms f_atomCount f_spans f_spanCount f_unions f_unionCount f_isLarge f_trial f_rowAt f_answers f_foundBy f_firstBy f_lastBy f_order f_answerCount f_asked f_tooMany))) A) args s 0 0 A) (F0 m 170 ls [])) :
    ∀ (nn : Nat) (x6 : Int32), wX54_goes_97 K162 K170 x4.toInt x5.toInt (zF f_spans) f_spanCount.toInt nn x6.toInt → ∀ (H : Heap) (locs : List Loc) (ls : Array Slot), kH (dC, dI) cl A s.heap H locs (wX54 ci ad d f_thrown f_cells f_sizes f_keys f_maps f_mapCount f_atoms f_atomCount f_spans f_spanCount f_unions f_unionCount f_isLarge f_trial f_rowAt f_answers f_foundBy f_firstBy f_lastBy f_order f_answerCount f_asked f_tooMany) → lv_has ls 7 [(0, .ref (ad 0)), (1, .int x1), (2, .int x2), (3, .int x3), (4, .int x4), (5, .int x5), (6, .int x6)] → W p l e ({ frames := 3, cells := 0, slots := 0, locals := 69 } : Room) s m args below meth c H locs 0 0 (MQ below (va_Qi (fun (r : Int32) (_ : Unit) => post r.toInt) (kB (dC, dI) cl (tX54 d) A (fun _ : Unit => (wX54 ci ad d f_thrown f_cells f_sizes f_keys f_maps f_mapCount f_atoms f_atomCount f_spans f_spanCount f_unions f_unionCount f_isLarge f_trial f_rowAt f_answers f_foundBy f_firstBy f_lastBy f_order f_answerCount f_asked f_tooMany))) A) args s 0 0 A) (F0 m 97 ls []) := by
  have hx := X.1.1
  have hb := X.1.2.1
  intro nn
  induction nn with
  | zero =>
    intro x6 hw
    exact False.elim hw
  | succ n ih =>
    intro x6 hw H locs ls hH hl
    rw [wX54_goes_97] at hw
    refine lv_iload hx hb dX54_goes_97 (lv_at hl 6 rfl) ?_
    refine lv_aload_n hx hb dX54_goes_99 rfl (lv_at hl 0 rfl) ?_
    refine k_get X hH in_X54 0 rfl hc 9 (by decide) q6509 rfl dX54_goes_100 ?_
    refine lv_icmp_ge (tgt := 170) hx hb dX54_goes_103 (by decide) (fun c_23 => ?_) (fun c_23 => ?_)
    · have hw := hw.1 (z_le (rfl : f_spanCount.toInt = _) (rfl : x6.toInt = _) c_23)
      exact hk170  hw _ _ ls hH (lv_sub hl [0, 1, 2, 3] rfl)
    · have hw := hw.2 (z_nle (rfl : f_spanCount.toInt = _) (rfl : x6.toInt = _) c_23)
      refine lv_aload_n hx hb dX54_goes_106 rfl (lv_at hl 0 rfl) ?_
      refine k_get X hH in_X54 0 rfl hc 8 (by decide) q6508 rfl dX54_goes_107 ?_
      refine lv_iconst (v := 3) hx hb dX54_goes_110 (by decide) ?_
      refine lv_iload hx hb dX54_goes_111 (lv_at hl 6 rfl) ?_
      refine lv_imul hx hb dX54_goes_113 ?_
      have e_24 := z_mul (z_m (rfl : (3 : Int32).toInt = 3)) (z_m (rfl : x6.toInt = _))
      have hq_25 := hw.1
      have hw := hw.2
      have e_26 := z_xi e_24 hq_25 (by decide)
      refine k_iald X hH 6 5 rfl rfl (z_in e_26 hq_25) dX54_goes_114 ?_
      have e_27 := z_ld (f := f_spans) e_26 hq_25.1
      refine lv_iconst (v := (-1)) hx hb dX54_goes_115 (by decide) ?_
      refine lv_iload hx hb dX54_goes_116 (lv_at hl 4 rfl) ?_
      refine lv_isub hx hb dX54_goes_118 ?_
      have e_28 := z_sub (z_m (rfl : ((-1) : Int32).toInt = (-1))) (z_m (rfl : x4.toInt = _))
      have hq_30 := hw.1
      have hw := hw.2
      have e_31 := z_x e_28 hq_30
      refine lv_icmp_ne (tgt := 164) hx hb dX54_goes_119 (by decide) (fun c_29 => ?_) (fun c_29 => ?_)
      · have hw := hw.2 (z_ne e_27 e_31 c_29)
        have hq_33 := hw.1
        have hw := hw.2
        obtain ⟨x6_32, ex6_32⟩ : ∃ y : Int32, y = x6 + 1 := ⟨_, rfl⟩
        have hw := hw x6_32.toInt (by rw [ex6_32]; exact (z_x (z_add (z_m (rfl : x6.toInt = _)) (z_m (rfl : (1 : Int32).toInt = 1))) hq_33))
        refine lv_iinc (v := x6_32) (lv' := [(6, .int x6_32), (0, .ref (ad 0)), (1, .int x1), (2, .int x2), (3, .int x3), (4, .int x4), (5, .int x5)]) hx hb dX54_goes_164 hl (k := 6) rfl (by rw [ex6_32]; rfl) (by decide) rfl (fun ls hl => ?_)
        refine lv_goto (tgt := 97) hx hb dX54_goes_167 (by decide) ?_
        exact ih x6_32 hw _ _ ls hH (lv_sub hl [1, 2, 3, 4, 5, 6, 0] rfl)
      · have hw := hw.1 (z_eq e_27 e_31 c_29)
        refine lv_iload hx hb dX54_goes_122 (lv_at hl 5 rfl) ?_
        refine lv_sipush (v := 10000) hx hb dX54_goes_124 (by decide) ?_
        have hq_34 := hw.1
        have hw := hw.2
        refine lv_irem hx hb dX54_goes_127 (by decide) ?_
        have e_35 := z_rem (rfl : x5.toInt = _) (rfl : (10000 : Int32).toInt = 10000) hq_34 (by decide)
        refine lv_aload_n hx hb dX54_goes_128 rfl (lv_at hl 0 rfl) ?_
        refine k_get X hH in_X54 0 rfl hc 8 (by decide) q6508 rfl dX54_goes_129 ?_
        refine lv_iconst (v := 3) hx hb dX54_goes_132 (by decide) ?_
        refine lv_iload hx hb dX54_goes_133 (lv_at hl 6 rfl) ?_
        refine lv_imul hx hb dX54_goes_135 ?_
        have e_36 := z_mul (z_m (rfl : (3 : Int32).toInt = 3)) (z_m (rfl : x6.toInt = _))
        refine lv_iconst (v := 1) hx hb dX54_goes_136 (by decide) ?_
        refine lv_iadd hx hb dX54_goes_137 ?_
        have e_37 := z_add e_36 (z_m (rfl : (1 : Int32).toInt = 1))
        have hq_38 := hw.1
        have hw := hw.2
        have e_39 := z_xi e_37 hq_38 (by decide)
        refine k_iald X hH 6 5 rfl rfl (z_in e_39 hq_38) dX54_goes_138 ?_
        have e_40 := z_ld (f := f_spans) e_39 hq_38.1
        refine lv_icmp_lt (tgt := 162) hx hb dX54_goes_139 (by decide) (fun c_41 => ?_) (fun c_41 => ?_)
        · have hw := hw.1 (z_lt e_35 e_40 c_41)
          exact hk162  hw _ _ ls hH (lv_sub hl [] rfl)
        · have hw := hw.2 (z_nlt e_35 e_40 c_41)
          refine lv_iload hx hb dX54_goes_142 (lv_at hl 5 rfl) ?_
          refine lv_sipush (v := 10000) hx hb dX54_goes_144 (by decide) ?_
          refine lv_irem hx hb dX54_goes_147 (by decide) ?_
          have e_42 := z_rem (rfl : x5.toInt = _) (rfl : (10000 : Int32).toInt = 10000) hq_34 (by decide)
          refine lv_aload_n hx hb dX54_goes_148 rfl (lv_at hl 0 rfl) ?_
          refine k_get X hH in_X54 0 rfl hc 8 (by decide) q6508 rfl dX54_goes_149 ?_
          refine lv_iconst (v := 3) hx hb dX54_goes_152 (by decide) ?_
          refine lv_iload hx hb dX54_goes_153 (lv_at hl 6 rfl) ?_
          refine lv_imul hx hb dX54_goes_155 ?_
          have e_43 := z_mul (z_m (rfl : (3 : Int32).toInt = 3)) (z_m (rfl : x6.toInt = _))
          refine lv_iconst (v := 2) hx hb dX54_goes_156 (by decide) ?_
          refine lv_iadd hx hb dX54_goes_157 ?_
          have e_44 := z_add e_43 (z_m (rfl : (2 : Int32).toInt = 2))
          have hq_45 := hw.1
          have hw := hw.2
          have e_46 := z_xi e_44 hq_45 (by decide)
          refine k_iald X hH 6 5 rfl rfl (z_in e_46 hq_45) dX54_goes_158 ?_
          have e_47 := z_ld (f := f_spans) e_46 hq_45.1
          refine lv_icmp_le (tgt := 164) hx hb dX54_goes_159 (by decide) (fun c_48 => ?_) (fun c_48 => ?_)
          · have hw := hw.1 (z_le e_42 e_47 c_48)
            have hq_50 := hw.1
            have hw := hw.2
            obtain ⟨x6_49, ex6_49⟩ : ∃ y : Int32, y = x6 + 1 := ⟨_, rfl⟩
            have hw := hw x6_49.toInt (by rw [ex6_49]; exact (z_x (z_add (z_m (rfl : x6.toInt = _)) (z_m (rfl : (1 : Int32).toInt = 1))) hq_50))
            refine lv_iinc (v := x6_49) (lv' := [(6, .int x6_49), (0, .ref (ad 0)), (1, .int x1), (2, .int x2), (3, .int x3), (4, .int x4), (5, .int x5)]) hx hb dX54_goes_164 hl (k := 6) rfl (by rw [ex6_49]; rfl) (by decide) rfl (fun ls hl => ?_)
            refine lv_goto (tgt := 97) hx hb dX54_goes_167 (by decide) ?_
            exact ih x6_49 hw _ _ ls hH (lv_sub hl [1, 2, 3, 4, 5, 6, 0] rfl)
          · have hw := hw.2 (z_nle e_42 e_47 c_48)
            exact hk162  hw _ _ ls hH (lv_sub hl [] rfl)
set_option maxHeartbeats 4000000 in
theorem atX54_goes_2 {p : Program} {l : Launch} {e : Env} {s : State} {m : MethodId} {args : Array Value} {below : List Frame} {meth : Method} {c : Code} {dC : Nat → ClassId} {dI : Nat → Nat → Nat} {cl : List vw_C} {ci : Nat} (hc : cl[ci]? = some (RX54, TX54, 23)) {ad : Nat → Nat} {d : Nat → ClassId} {A : Nat → Prop} {post : Int → Prop} {f_thrown : Int32} {f_cells : Nat → Int32} {f_sizes : Nat → Int32} {f_keys : Nat → Int32} {f_maps : Nat → Int32} {f_mapCount : Int32} {f_atoms : Nat → Int32} {f_atomCount : Int32} {f_spans : Nat → Int32} {f_spanCount : Int32} {f_unions : Nat → Int32} {f_unionCount : Int32} {f_isLarge : Int32} {f_trial : Nat → Int32} {f_rowAt : Nat → Int32} {f_answers : Nat → Int32} {f_foundBy : Nat → Int32} {f_firstBy : Nat → Int32} {f_lastBy : Nat → Int32} {f_order : Nat → Int32} {f_answerCount : Int32} {f_asked : Nat → Int32} {f_tooMany : Int32} (X : kX p s m args meth c cX54_goes 7 RX54 (some .boolean) (dC, dI) cl (tX54 d)) {K36 : Prop} {K86 : Prop} {K162 : Prop} {K176 : Prop} {x1 : Int32} {x2 : Int32}  (hk36 : K36  → ∀ (H : Heap) (locs : List Loc) (ls : Array Slot), kH (dC, dI) cl A s.heap H locs (wX54 ci ad d f_thrown f_cells f_sizes f_keys f_maps f_mapCount f_atoms f_atomCount f_spans f_spanCount f_unions f_unionCount f_isLarge f_trial f_rowAt f_answers f_foundBy f_firstBy f_lastBy f_order f_answerCount f_asked f_tooMany) → lv_has ls 7 [] → W p l e ({ frames := 3, cells := 0, slots := 0, locals := 69 } : Room) s m args below meth c H locs 0 0 (MQ below (va_Qi (fun (r : Int32) (_ : Unit) => post r.toInt) (kB (dC, dI) cl (tX54 d) A (fun _ : Unit => (wX54 ci ad d f_thrown f_cells f_sizes f_keys f_maps f_mapCount f_atoms f_atomCount f_spans f_spanCount f_unions f_unionCount f_isLarge f_trial f_rowAt f_answers f_foundBy f_firstBy f_lastBy f_order f_answerCount f_asked f_tooMany))) A) args s 0 0 A) (F0 m 36 ls [])) (hk86 : K86  → ∀ (H : Heap) (locs : List Loc) (ls : Array Slot), kH (dC, dI) cl A s.heap H locs (wX54 ci ad d f_thrown f_cells f_sizes f_keys f_maps f_mapCount f_atoms f_atomCount f_spans f_spanCount f_unions f_unionCount f_isLarge f_trial f_rowAt f_answers f_foundBy f_firstBy f_lastBy f_order f_answerCount f_asked f_tooMany) → lv_has ls 7 [] → W p l e ({ frames := 3, cells := 0, slots := 0, locals := 69 } : Room) s m args below meth c H locs 0 0 (MQ below (va_Qi (fun (r : Int32) (_ : Unit) => post r.toInt) (kB (dC, dI) cl (tX54 d) A (fun _ : Unit => (wX54 ci ad d f_thrown f_cells f_sizes f_keys f_maps f_mapCount f_atoms f_atomCount f_spans f_spanCount f_unions f_unionCount f_isLarge f_trial f_rowAt f_answers f_foundBy f_firstBy f_lastBy f_order f_answerCount f_asked f_tooMany))) A) args s 0 0 A) (F0 m 86 ls [])) (hk162 : K162  → ∀ (H : Heap) (locs : List Loc) (ls : Array Slot), kH (dC, dI) cl A s.heap H locs (wX54 ci ad d f_thrown f_cells f_sizes f_keys f_maps f_mapCount f_atoms f_atomCount f_spans f_spanCount f_unions f_unionCount f_isLarge f_trial f_rowAt f_answers f_foundBy f_firstBy f_lastBy f_order f_answerCount f_asked f_tooMany) → lv_has ls 7 [] → W p l e ({ frames := 3, cells := 0, slots := 0, locals := 69 } : Room) s m args below meth c H locs 0 0 (MQ below (va_Qi (fun (r : Int32) (_ : Unit) => post r.toInt) (kB (dC, dI) cl (tX54 d) A (fun _ : Unit => (wX54 ci ad d f_thrown f_cells f_sizes f_keys f_maps f_mapCount f_atoms f_atomCount f_spans f_spanCount f_unions f_unionCount f_isLarge f_trial f_rowAt f_answers f_foundBy f_firstBy f_lastBy f_order f_answerCount f_asked f_tooMany))) A) args s 0 0 A) (F0 m 162 ls [])) (hk176 : K176  → ∀ (H : Heap) (locs : List Loc) (ls : Array Slot), kH (dC, dI) cl A s.heap H locs (wX54 ci ad d f_thrown f_cells f_sizes f_keys f_maps f_mapCount f_atoms f_atomCount f_spans f_spanCount f_unions f_unionCount f_isLarge f_trial f_rowAt f_answers f_foundBy f_firstBy f_lastBy f_order f_answerCount f_asked f_tooMany) → lv_has ls 7 [] → W p l e ({ frames := 3, cells := 0, slots := 0, locals := 69 } : Room) s m args below meth c H locs 0 0 (MQ below (va_Qi (fun (r : Int32) (_ : Unit) => post r.toInt) (kB (dC, dI) cl (tX54 d) A (fun _ : Unit => (wX54 ci ad d f_thrown f_cells f_sizes f_keys f_maps f_mapCount f_atoms f_atomCount f_spans f_spanCount f_unions f_unionCount f_isLarge f_trial f_rowAt f_answers f_foundBy f_firstBy f_lastBy f_order f_answerCount f_asked f_tooMany))) A) args s 0 0 A) (F0 m 176 ls [])) :
    ∀ (nn : Nat) (x3 : Int32), wX54_goes_2 K36 K86 K162 K176 x1.toInt x2.toInt (zF f_cells) (zF f_maps) (zF f_atoms) (zF f_spans) f_spanCount.toInt (zF f_unions) (zF f_rowAt) nn x3.toInt → ∀ (H : Heap) (locs : List Loc) (ls : Array Slot), kH (dC, dI) cl A s.heap H locs (wX54 ci ad d f_thrown f_cells f_sizes f_keys f_maps f_mapCount f_atoms f_atomCount f_spans f_spanCount f_unions f_unionCount f_isLarge f_trial f_rowAt f_answers f_foundBy f_firstBy f_lastBy f_order f_answerCount f_asked f_tooMany) → lv_has ls 7 [(0, .ref (ad 0)), (1, .int x1), (2, .int x2), (3, .int x3)] → W p l e ({ frames := 3, cells := 0, slots := 0, locals := 69 } : Room) s m args below meth c H locs 0 0 (MQ below (va_Qi (fun (r : Int32) (_ : Unit) => post r.toInt) (kB (dC, dI) cl (tX54 d) A (fun _ : Unit => (wX54 ci ad d f_thrown f_cells f_sizes f_keys f_maps f_mapCount f_atoms f_atomCount f_spans f_spanCount f_unions f_unionCount f_isLarge f_trial f_rowAt f_answers f_foundBy f_firstBy f_lastBy f_order f_answerCount f_asked f_tooMany))) A) args s 0 0 A) (F0 m 2 ls []) := by
  have hx := X.1.1
  have hb := X.1.2.1
  intro nn
  induction nn with
  | zero =>
    intro x3 hw
    exact False.elim hw
  | succ n ih =>
    intro x3 hw H locs ls hH hl
    rw [wX54_goes_2] at hw
    refine lv_iload_n hx hb dX54_goes_2 rfl (lv_at hl 3 rfl) ?_
    refine lv_iconst (v := 2) hx hb dX54_goes_3 (by decide) ?_
    refine lv_icmp_ge (tgt := 176) hx hb dX54_goes_4 (by decide) (fun c_1 => ?_) (fun c_1 => ?_)
    · have hw := hw.1 (z_le (rfl : (2 : Int32).toInt = 2) (rfl : x3.toInt = _) c_1)
      exact hk176  hw _ _ ls hH (lv_sub hl [] rfl)
    · have hw := hw.2 (z_nle (rfl : (2 : Int32).toInt = 2) (rfl : x3.toInt = _) c_1)
      refine lv_aload_n hx hb dX54_goes_7 rfl (lv_at hl 0 rfl) ?_
      refine lv_iload_n hx hb dX54_goes_8 rfl (lv_at hl 2 rfl) ?_
      refine lv_iload_n hx hb dX54_goes_9 rfl (lv_at hl 3 rfl) ?_
      refine k_i0 hH (k_runV (As := [.int x2, .int x3]) (rest := []) X hH.1 hH.2.1 X.2.2.2 (walkX54_placeOf hc (x1 := x2) (x2 := x3) (f_thrown := f_thrown) (f_cells := f_cells) (f_sizes := f_sizes) (f_keys := f_keys) (f_maps := f_maps) (f_mapCount := f_mapCount) (f_atoms := f_atoms) (f_atomCount := f_atomCount) (f_spans := f_spans) (f_spanCount := f_spanCount) (f_unions := f_unions) (f_unionCount := f_unionCount) (f_isLarge := f_isLarge) (f_trial := f_trial) (f_rowAt := f_rowAt) (f_answers := f_answers) (f_foundBy := f_foundBy) (f_firstBy := f_firstBy) (f_lastBy := f_lastBy) (f_order := f_order) (f_answerCount := f_answerCount) (f_asked := f_asked) (f_tooMany := f_tooMany) hw) (cwV 2 X.1.2.2.2.2 gX54_95 rfl rfl rfl hX54_placeOf ⟨Nat.le_of_ble_eq_true rfl, Nat.le_of_ble_eq_true rfl⟩) hc (q0 := 0) rfl rfl hl.1 rfl (Nat.le_of_ble_eq_true rfl) dX54_goes_10 ⟨Nat.le_refl 0, Nat.le_refl 0⟩) (fun r_2 _ H locs hw hH => ?_)
      have hH : kH (dC, dI) cl A s.heap H locs (wX54 ci ad d f_thrown f_cells f_sizes f_keys f_maps f_mapCount f_atoms f_atomCount f_spans f_spanCount f_unions f_unionCount f_isLarge f_trial f_rowAt f_answers f_foundBy f_firstBy f_lastBy f_order f_answerCount f_asked f_tooMany) := hH
      refine lv_istore (lv' := [(4, .int r_2), (0, .ref (ad 0)), (1, .int x1), (2, .int x2), (3, .int x3)]) hx hb dX54_goes_13 hl (by decide) rfl (fun ls hl => ?_)
      refine lv_aload_n hx hb dX54_goes_15 rfl (lv_at hl 1 rfl) ?_
      refine lv_iload_n hx hb dX54_goes_16 rfl (lv_at hl 2 rfl) ?_
      refine lv_iload_n hx hb dX54_goes_17 rfl (lv_at hl 3 rfl) ?_
      refine lv_iload_n hx hb dX54_goes_18 rfl (lv_at hl 4 rfl) ?_
      refine k_i0 hH (k_runV (As := [.int x1, .int x2, .int x3]) (rest := []) X hH.1 hH.2.1 X.2.2.2 (walkX54_codeAt hc (x1 := x1) (x2 := x2) (x3 := x3) (f_thrown := f_thrown) (f_cells := f_cells) (f_sizes := f_sizes) (f_keys := f_keys) (f_maps := f_maps) (f_mapCount := f_mapCount) (f_atoms := f_atoms) (f_atomCount := f_atomCount) (f_spans := f_spans) (f_spanCount := f_spanCount) (f_unions := f_unions) (f_unionCount := f_unionCount) (f_isLarge := f_isLarge) (f_trial := f_trial) (f_rowAt := f_rowAt) (f_answers := f_answers) (f_foundBy := f_foundBy) (f_firstBy := f_firstBy) (f_lastBy := f_lastBy) (f_order := f_order) (f_answerCount := f_answerCount) (f_asked := f_asked) (f_tooMany := f_tooMany) hw) (cwV 3 X.1.2.2.2.2 gX54_128 rfl rfl rfl hX54_codeAt ⟨Nat.le_of_ble_eq_true rfl, Nat.le_of_ble_eq_true rfl⟩) hc (q0 := 0) rfl rfl hl.1 rfl (Nat.le_of_ble_eq_true rfl) dX54_goes_19 ⟨Nat.le_refl 0, Nat.le_refl 0⟩) (fun r_3 _ H locs hw hH => ?_)
      have hH : kH (dC, dI) cl A s.heap H locs (wX54 ci ad d f_thrown f_cells f_sizes f_keys f_maps f_mapCount f_atoms f_atomCount f_spans f_spanCount f_unions f_unionCount f_isLarge f_trial f_rowAt f_answers f_foundBy f_firstBy f_lastBy f_order f_answerCount f_asked f_tooMany) := hH
      refine lv_istore (lv' := [(5, .int r_3), (4, .int r_2), (0, .ref (ad 0)), (1, .int x1), (2, .int x2), (3, .int x3)]) hx hb dX54_goes_22 hl (by decide) rfl (fun ls hl => ?_)
      refine lv_iload hx hb dX54_goes_24 (lv_at hl 1 rfl) ?_
      refine lv_if_lt (tgt := 38) hx hb dX54_goes_26 (by decide) (fun c_4 => ?_) (fun c_4 => ?_)
      · have hw := hw.1 (z_lt (rfl : r_2.toInt = _) (rfl : (0 : Int32).toInt = 0) c_4)
        refine lv_iconst (v := 0) hx hb dX54_goes_38 (by decide) ?_
        refine lv_istore (lv' := [(6, .int 0), (5, .int r_3), (4, .int r_2), (0, .ref (ad 0)), (1, .int x1), (2, .int x2), (3, .int x3)]) hx hb dX54_goes_39 hl (by decide) rfl (fun ls hl => ?_)
        obtain ⟨fu, hw⟩ := hw
        refine atX54_goes_41 hc X ?_ ?_ fu 0 hw _ _ ls hH (lv_sub hl [3, 4, 5, 6, 2, 1, 0] rfl)
        · intro hw H locs ls hH hl
          exact hk86  hw _ _ ls hH (lv_sub hl [] rfl)
        · intro hw H locs ls hH hl
          refine lv_iconst (v := 0) hx hb dX54_goes_94 (by decide) ?_
          refine lv_istore (lv' := [(6, .int 0), (0, .ref (ad 0)), (1, .int x1), (2, .int x2), (3, .int x3), (4, .int r_2), (5, .int r_3)]) hx hb dX54_goes_95 hl (by decide) rfl (fun ls hl => ?_)
          obtain ⟨fu, hw⟩ := hw
          refine atX54_goes_97 hc X ?_ ?_ fu 0 hw _ _ ls hH (lv_sub hl [1, 2, 3, 4, 5, 6, 0] rfl)
          · intro hw H locs ls hH hl
            exact hk162  hw _ _ ls hH (lv_sub hl [] rfl)
          · intro hw H locs ls hH hl
            have hq_52 := hw.1
            have hw := hw.2
            obtain ⟨x3_51, ex3_51⟩ : ∃ y : Int32, y = x3 + 1 := ⟨_, rfl⟩
            have hw := hw x3_51.toInt (by rw [ex3_51]; exact (z_x (z_add (z_m (rfl : x3.toInt = _)) (z_m (rfl : (1 : Int32).toInt = 1))) hq_52))
            refine lv_iinc (v := x3_51) (lv' := [(3, .int x3_51), (0, .ref (ad 0)), (1, .int x1), (2, .int x2)]) hx hb dX54_goes_170 hl (k := 3) rfl (by rw [ex3_51]; rfl) (by decide) rfl (fun ls hl => ?_)
            refine lv_goto (tgt := 2) hx hb dX54_goes_173 (by decide) ?_
            exact ih x3_51 hw _ _ ls hH (lv_sub hl [1, 2, 3, 0] rfl)
      · have hw := hw.2 (z_nlt (rfl : r_2.toInt = _) (rfl : (0 : Int32).toInt = 0) c_4)
        refine lv_iload hx hb dX54_goes_29 (lv_at hl 1 rfl) ?_
        refine lv_iload hx hb dX54_goes_31 (lv_at hl 0 rfl) ?_
        refine lv_icmp_eq (tgt := 170) hx hb dX54_goes_33 (by decide) (fun c_53 => ?_) (fun c_53 => ?_)
        · have hw := hw.1 (z_eq (rfl : r_2.toInt = _) (rfl : r_3.toInt = _) c_53)
          have hq_55 := hw.1
          have hw := hw.2
          obtain ⟨x3_54, ex3_54⟩ : ∃ y : Int32, y = x3 + 1 := ⟨_, rfl⟩
          have hw := hw x3_54.toInt (by rw [ex3_54]; exact (z_x (z_add (z_m (rfl : x3.toInt = _)) (z_m (rfl : (1 : Int32).toInt = 1))) hq_55))
          refine lv_iinc (v := x3_54) (lv' := [(3, .int x3_54), (5, .int r_3), (4, .int r_2), (0, .ref (ad 0)), (1, .int x1), (2, .int x2)]) hx hb dX54_goes_170 hl (k := 5) rfl (by rw [ex3_54]; rfl) (by decide) rfl (fun ls hl => ?_)
          refine lv_goto (tgt := 2) hx hb dX54_goes_173 (by decide) ?_
          exact ih x3_54 hw _ _ ls hH (lv_sub hl [3, 4, 5, 0] rfl)
        · have hw := hw.2 (z_neq (rfl : r_2.toInt = _) (rfl : r_3.toInt = _) c_53)
          exact hk36  hw _ _ ls hH (lv_sub hl [] rfl)
set_option maxHeartbeats 4000000 in
theorem walkX54_goes {l : Launch} {dC : Nat → ClassId} {dI : Nat → Nat → Nat} {cl : List vw_C} {ci : Nat} (hc : cl[ci]? = some (RX54, TX54, 23)) {ad : Nat → Nat} {d : Nat → ClassId} {sz : Nat} {f_thrown : Int32} {f_cells : Nat → Int32} {f_sizes : Nat → Int32} {f_keys : Nat → Int32} {f_maps : Nat → Int32} {f_mapCount : Int32} {f_atoms : Nat → Int32} {f_atomCount : Int32} {f_spans : Nat → Int32} {f_spanCount : Int32} {f_unions : Nat → Int32} {f_unionCount : Int32} {f_isLarge : Int32} {f_trial : Nat → Int32} {f_rowAt : Nat → Int32} {f_answers : Nat → Int32} {f_foundBy : Nat → Int32} {f_firstBy : Nat → Int32} {f_lastBy : Nat → Int32} {f_order : Nat → Int32} {f_answerCount : Int32} {f_asked : Nat → Int32} {f_tooMany : Int32} {x1 : Int32} {x2 : Int32} {post : Int → Prop} (hw : wpX54_goes post (zF f_cells) (zF f_maps) (zF f_atoms) (zF f_spans) f_spanCount.toInt (zF f_unions) (zF f_rowAt) x1.toInt x2.toInt) :
    Met l yX54_goes (ws_ yX54_goes cX54_goes 7 (some .boolean)) ({ frames := 3, cells := 0, slots := 0, locals := 69 } : Room) (kPc (dC, dI) cl (tX54 d) [.ref (ad 0), .int x1, .int x2] sz (wX54 ci ad d f_thrown f_cells f_sizes f_keys f_maps f_mapCount f_atoms f_atomCount f_spans f_spanCount f_unions f_unionCount f_isLarge f_trial f_rowAt f_answers f_foundBy f_firstBy f_lastBy f_order f_answerCount f_asked f_tooMany)) (va_Qi (fun (r : Int32) (_ : Unit) => post r.toInt) (kB (dC, dI) cl (tX54 d) (va_A (wX54 ci ad d f_thrown f_cells f_sizes f_keys f_maps f_mapCount f_atoms f_atomCount f_spans f_spanCount f_unions f_unionCount f_isLarge f_trial f_rowAt f_answers f_foundBy f_firstBy f_lastBy f_order f_answerCount f_asked f_tooMany) sz) (fun _ : Unit => (wX54 ci ad d f_thrown f_cells f_sizes f_keys f_maps f_mapCount f_atoms f_atomCount f_spans f_spanCount f_unions f_unionCount f_isLarge f_trial f_rowAt f_answers f_foundBy f_firstBy f_lastBy f_order f_answerCount f_asked f_tooMany))) (va_A (wX54 ci ad d f_thrown f_cells f_sizes f_keys f_maps f_mapCount f_atoms f_atomCount f_spans f_spanCount f_unions f_unionCount f_isLarge f_trial f_rowAt f_answers f_foundBy f_firstBy f_lastBy f_order f_answerCount f_asked f_tooMany) sz)) 0 0 (va_A (wX54 ci ad d f_thrown f_cells f_sizes f_keys f_maps f_mapCount f_atoms f_atomCount f_spans f_spanCount f_unions f_unionCount f_isLarge f_trial f_rowAt f_answers f_foundBy f_firstBy f_lastBy f_order f_answerCount f_asked f_tooMany) sz) := by
  refine k_enter (by decide) (Nat.le_of_ble_eq_true rfl) ?_
  intro p e s m below meth c ls X hsz hH hl
  subst hsz
  generalize va_A (wX54 ci ad d f_thrown f_cells f_sizes f_keys f_maps f_mapCount f_atoms f_atomCount f_spans f_spanCount f_unions f_unionCount f_isLarge f_trial f_rowAt f_answers f_foundBy f_firstBy f_lastBy f_order f_answerCount f_asked f_tooMany) s.heap.size = A at hH ⊢
  have hx := X.1.1
  have hb := X.1.2.1
  have hl : lv_has ls 7 [(0, .ref (ad 0)), (1, .int x1), (2, .int x2)] := hl
  unfold wpX54_goes at hw
  refine lv_iconst (v := 0) hx hb dX54_goes_0 (by decide) ?_
  refine lv_istore_n (lv' := [(3, .int 0), (0, .ref (ad 0)), (1, .int x1), (2, .int x2)]) hx hb dX54_goes_1 rfl hl (by decide) rfl (fun ls hl => ?_)
  obtain ⟨fu, hw⟩ := hw
  refine atX54_goes_2 hc X ?_ ?_ ?_ ?_ fu 0 hw _ _ ls hH (lv_sub hl [1, 2, 3, 0] rfl)
  · intro hw H locs ls hH hl
    refine lv_iconst (v := 0) hx hb dX54_goes_36 (by decide) ?_
    exact k_iret (v := 0) X hH () hw rfl rfl dX54_goes_37
  · intro hw H locs ls hH hl
    refine lv_iconst (v := 0) hx hb dX54_goes_86 (by decide) ?_
    exact k_iret (v := 0) X hH () hw rfl rfl dX54_goes_87
  · intro hw H locs ls hH hl
    refine lv_iconst (v := 0) hx hb dX54_goes_162 (by decide) ?_
    exact k_iret (v := 0) X hH () hw rfl rfl dX54_goes_163
  · intro hw H locs ls hH hl
    refine lv_iconst (v := 1) hx hb dX54_goes_176 (by decide) ?_
    exact k_iret (v := 1) X hH () hw rfl rfl dX54_goes_177
set_option maxHeartbeats 4000000 in
theorem atX54_given_2 {p : Program} {l : Launch} {e : Env} {s : State} {m : MethodId} {args : Array Value} {below : List Frame} {meth : Method} {c : Code} {dC : Nat → ClassId} {dI : Nat → Nat → Nat} {cl : List vw_C} {ci : Nat} (hc : cl[ci]? = some (RX54, TX54, 23)) {ad : Nat → Nat} {d : Nat → ClassId} {A : Nat → Prop} {post : Int → Prop} {f_thrown : Int32} {f_cells : Nat → Int32} {f_sizes : Nat → Int32} {f_keys : Nat → Int32} {f_maps : Nat → Int32} {f_mapCount : Int32} {f_atoms : Nat → Int32} {f_atomCount : Int32} {f_spans : Nat → Int32} {f_spanCount : Int32} {f_unions : Nat → Int32} {f_unionCount : Int32} {f_isLarge : Int32} {f_trial : Nat → Int32} {f_rowAt : Nat → Int32} {f_answers : Nat → Int32} {f_foundBy : Nat → Int32} {f_firstBy : Nat → Int32} {f_lastBy : Nat → Int32} {f_order : Nat → Int32} {f_answerCount : Int32} {f_asked : Nat → Int32} {f_tooMany : Int32} (X : kX p s m args meth c cX54_given 4 RX54 (some .int) (dC, dI) cl (tX54 d)) {K28 : Int → Prop} {K46 : Prop} {x1 : Int32} {x2 : Int32}  (hk28 : ∀ (x3 : Int32), K28 x3.toInt → ∀ (H : Heap) (locs : List Loc) (ls : Array Slot), kH (dC, dI) cl A s.heap H locs (wX54 ci ad d f_thrown f_cells f_sizes f_keys f_maps f_mapCount f_atoms f_atomCount f_spans f_spanCount f_unions f_unionCount f_isLarge f_trial f_rowAt f_answers f_foundBy f_firstBy f_lastBy f_order f_answerCount f_asked f_tooMany) → lv_has ls 4 [(0, .ref (ad 0)), (1, .int x1), (3, .int x3)] → W p l e ({ frames := 3, cells := 0, slots := 0, locals := 69 } : Room) s m args below meth c H locs 0 0 (MQ below (va_Qi (fun (r : Int32) (_ : Unit) => post r.toInt) (kB (dC, dI) cl (tX54 d) A (fun _ : Unit => (wX54 ci ad d f_thrown f_cells f_sizes f_keys f_maps f_mapCount f_atoms f_atomCount f_spans f_spanCount f_unions f_unionCount f_isLarge f_trial f_rowAt f_answers f_foundBy f_firstBy f_lastBy f_order f_answerCount f_asked f_tooMany))) A) args s 0 0 A) (F0 m 28 ls [])) (hk46 : K46  → ∀ (H : Heap) (locs : List Loc) (ls : Array Slot), kH (dC, dI) cl A s.heap H locs (wX54 ci ad d f_thrown f_cells f_sizes f_keys f_maps f_mapCount f_atoms f_atomCount f_spans f_spanCount f_unions f_unionCount f_isLarge f_trial f_rowAt f_answers f_foundBy f_firstBy f_lastBy f_order f_answerCount f_asked f_tooMany) → lv_has ls 4 [] → W p l e ({ frames := 3, cells := 0, slots := 0, locals := 69 } : Room) s m args below meth c H locs 0 0 (MQ below (va_Qi (fun (r : Int32) (_ : Unit) => post r.toInt) (kB (dC, dI) cl (tX54 d) A (fun _ : Unit => (wX54 ci ad d f_thrown f_cells f_sizes f_keys f_maps f_mapCount f_atoms f_atomCount f_spans f_spanCount f_unions f_unionCount f_isLarge f_trial f_rowAt f_answers f_foundBy f_firstBy f_lastBy f_order f_answerCount f_asked f_tooMany))) A) args s 0 0 A) (F0 m 46 ls [])) :
    ∀ (nn : Nat) (x3 : Int32), wX54_given_2 K28 K46 x2.toInt (zF f_atoms) f_atomCount.toInt nn x3.toInt → ∀ (H : Heap) (locs : List Loc) (ls : Array Slot), kH (dC, dI) cl A s.heap H locs (wX54 ci ad d f_thrown f_cells f_sizes f_keys f_maps f_mapCount f_atoms f_atomCount f_spans f_spanCount f_unions f_unionCount f_isLarge f_trial f_rowAt f_answers f_foundBy f_firstBy f_lastBy f_order f_answerCount f_asked f_tooMany) → lv_has ls 4 [(0, .ref (ad 0)), (1, .int x1), (2, .int x2), (3, .int x3)] → W p l e ({ frames := 3, cells := 0, slots := 0, locals := 69 } : Room) s m args below meth c H locs 0 0 (MQ below (va_Qi (fun (r : Int32) (_ : Unit) => post r.toInt) (kB (dC, dI) cl (tX54 d) A (fun _ : Unit => (wX54 ci ad d f_thrown f_cells f_sizes f_keys f_maps f_mapCount f_atoms f_atomCount f_spans f_spanCount f_unions f_unionCount f_isLarge f_trial f_rowAt f_answers f_foundBy f_firstBy f_lastBy f_order f_answerCount f_asked f_tooMany))) A) args s 0 0 A) (F0 m 2 ls []) := by
  have hx := X.1.1
  have hb := X.1.2.1
  intro nn
  induction nn with
  | zero =>
    intro x3 hw
    exact False.elim hw
  | succ n ih =>
    intro x3 hw H locs ls hH hl
    rw [wX54_given_2] at hw
    refine lv_iload_n hx hb dX54_given_2 rfl (lv_at hl 3 rfl) ?_
    refine lv_iconst (v := 2) hx hb dX54_given_3 (by decide) ?_
    refine lv_aload_n hx hb dX54_given_4 rfl (lv_at hl 0 rfl) ?_
    refine k_get X hH in_X54 0 rfl hc 7 (by decide) q6507 rfl dX54_given_5 ?_
    refine lv_imul hx hb dX54_given_8 ?_
    have e_1 := z_mul (z_m (rfl : (2 : Int32).toInt = 2)) (z_m (rfl : f_atomCount.toInt = _))
    have hq_3 := hw.1
    have hw := hw.2
    have e_4 := z_x e_1 hq_3
    refine lv_icmp_ge (tgt := 46) hx hb dX54_given_9 (by decide) (fun c_2 => ?_) (fun c_2 => ?_)
    · have hw := hw.1 (z_le e_4 (rfl : x3.toInt = _) c_2)
      exact hk46  hw _ _ ls hH (lv_sub hl [] rfl)
    · have hw := hw.2 (z_nle e_4 (rfl : x3.toInt = _) c_2)
      refine lv_aload_n hx hb dX54_given_12 rfl (lv_at hl 0 rfl) ?_
      refine lv_iload_n hx hb dX54_given_13 rfl (lv_at hl 3 rfl) ?_
      refine lv_iconst (v := 2) hx hb dX54_given_14 (by decide) ?_
      have hq_5 := hw.1
      have hw := hw.2
      refine lv_idiv hx hb dX54_given_15 (by decide) ?_
      have e_6 := z_div (rfl : x3.toInt = _) (rfl : (2 : Int32).toInt = 2) hq_5 (by decide)
      refine lv_iload_n hx hb dX54_given_16 rfl (lv_at hl 3 rfl) ?_
      refine lv_iconst (v := 2) hx hb dX54_given_17 (by decide) ?_
      refine lv_irem hx hb dX54_given_18 (by decide) ?_
      have e_7 := z_rem (rfl : x3.toInt = _) (rfl : (2 : Int32).toInt = 2) hq_5 (by decide)
      refine k_i0 hH (k_runV (As := [.int (x3 / 2), .int (x3 - x3 / 2 * 2)]) (rest := []) X hH.1 hH.2.1 X.2.2.2 (walkX54_placeOf hc (x1 := (x3 / 2)) (x2 := (x3 - x3 / 2 * 2)) (f_thrown := f_thrown) (f_cells := f_cells) (f_sizes := f_sizes) (f_keys := f_keys) (f_maps := f_maps) (f_mapCount := f_mapCount) (f_atoms := f_atoms) (f_atomCount := f_atomCount) (f_spans := f_spans) (f_spanCount := f_spanCount) (f_unions := f_unions) (f_unionCount := f_unionCount) (f_isLarge := f_isLarge) (f_trial := f_trial) (f_rowAt := f_rowAt) (f_answers := f_answers) (f_foundBy := f_foundBy) (f_firstBy := f_firstBy) (f_lastBy := f_lastBy) (f_order := f_order) (f_answerCount := f_answerCount) (f_asked := f_asked) (f_tooMany := f_tooMany) (by rw [show (x3 / 2 : Int32).toInt = _ from e_6, show (x3 - x3 / 2 * 2 : Int32).toInt = _ from e_7]; exact hw)) (cwV 2 X.1.2.2.2.2 gX54_95 rfl rfl rfl hX54_placeOf ⟨Nat.le_of_ble_eq_true rfl, Nat.le_of_ble_eq_true rfl⟩) hc (q0 := 0) rfl rfl hl.1 rfl (Nat.le_of_ble_eq_true rfl) dX54_given_19 ⟨Nat.le_refl 0, Nat.le_refl 0⟩) (fun r_8 _ H locs hw hH => ?_)
      have hH : kH (dC, dI) cl A s.heap H locs (wX54 ci ad d f_thrown f_cells f_sizes f_keys f_maps f_mapCount f_atoms f_atomCount f_spans f_spanCount f_unions f_unionCount f_isLarge f_trial f_rowAt f_answers f_foundBy f_firstBy f_lastBy f_order f_answerCount f_asked f_tooMany) := hH
      refine lv_iconst (v := (-1)) hx hb dX54_given_22 (by decide) ?_
      refine lv_iload_n hx hb dX54_given_23 rfl (lv_at hl 2 rfl) ?_
      refine lv_isub hx hb dX54_given_24 ?_
      have e_9 := z_sub (z_m (rfl : ((-1) : Int32).toInt = (-1))) (z_m (rfl : x2.toInt = _))
      have hq_11 := hw.1
      have hw := hw.2
      have e_12 := z_x e_9 hq_11
      refine lv_icmp_ne (tgt := 40) hx hb dX54_given_25 (by decide) (fun c_10 => ?_) (fun c_10 => ?_)
      · have hw := hw.2 (z_ne (rfl : r_8.toInt = _) e_12 c_10)
        have hq_14 := hw.1
        have hw := hw.2
        obtain ⟨x3_13, ex3_13⟩ : ∃ y : Int32, y = x3 + 1 := ⟨_, rfl⟩
        have hw := hw x3_13.toInt (by rw [ex3_13]; exact (z_x (z_add (z_m (rfl : x3.toInt = _)) (z_m (rfl : (1 : Int32).toInt = 1))) hq_14))
        refine lv_iinc (v := x3_13) (lv' := [(3, .int x3_13), (0, .ref (ad 0)), (1, .int x1), (2, .int x2)]) hx hb dX54_given_40 hl (k := 3) rfl (by rw [ex3_13]; rfl) (by decide) rfl (fun ls hl => ?_)
        refine lv_goto (tgt := 2) hx hb dX54_given_43 (by decide) ?_
        exact ih x3_13 hw _ _ ls hH (lv_sub hl [1, 2, 3, 0] rfl)
      · have hw := hw.1 (z_eq (rfl : r_8.toInt = _) e_12 c_10)
        exact hk28 x3 hw _ _ ls hH (lv_sub hl [0, 1, 3] rfl)
set_option maxHeartbeats 4000000 in
theorem walkX54_given {l : Launch} {dC : Nat → ClassId} {dI : Nat → Nat → Nat} {cl : List vw_C} {ci : Nat} (hc : cl[ci]? = some (RX54, TX54, 23)) {ad : Nat → Nat} {d : Nat → ClassId} {sz : Nat} {f_thrown : Int32} {f_cells : Nat → Int32} {f_sizes : Nat → Int32} {f_keys : Nat → Int32} {f_maps : Nat → Int32} {f_mapCount : Int32} {f_atoms : Nat → Int32} {f_atomCount : Int32} {f_spans : Nat → Int32} {f_spanCount : Int32} {f_unions : Nat → Int32} {f_unionCount : Int32} {f_isLarge : Int32} {f_trial : Nat → Int32} {f_rowAt : Nat → Int32} {f_answers : Nat → Int32} {f_foundBy : Nat → Int32} {f_firstBy : Nat → Int32} {f_lastBy : Nat → Int32} {f_order : Nat → Int32} {f_answerCount : Int32} {f_asked : Nat → Int32} {f_tooMany : Int32} {x1 : Int32} {x2 : Int32} {post : Int → Prop} (hw : wpX54_given post (zF f_cells) (zF f_maps) (zF f_atoms) f_atomCount.toInt (zF f_unions) (zF f_rowAt) x1.toInt x2.toInt) :
    Met l yX54_given (ws_ yX54_given cX54_given 4 (some .int)) ({ frames := 3, cells := 0, slots := 0, locals := 69 } : Room) (kPc (dC, dI) cl (tX54 d) [.ref (ad 0), .int x1, .int x2] sz (wX54 ci ad d f_thrown f_cells f_sizes f_keys f_maps f_mapCount f_atoms f_atomCount f_spans f_spanCount f_unions f_unionCount f_isLarge f_trial f_rowAt f_answers f_foundBy f_firstBy f_lastBy f_order f_answerCount f_asked f_tooMany)) (va_Qi (fun (r : Int32) (_ : Unit) => post r.toInt) (kB (dC, dI) cl (tX54 d) (va_A (wX54 ci ad d f_thrown f_cells f_sizes f_keys f_maps f_mapCount f_atoms f_atomCount f_spans f_spanCount f_unions f_unionCount f_isLarge f_trial f_rowAt f_answers f_foundBy f_firstBy f_lastBy f_order f_answerCount f_asked f_tooMany) sz) (fun _ : Unit => (wX54 ci ad d f_thrown f_cells f_sizes f_keys f_maps f_mapCount f_atoms f_atomCount f_spans f_spanCount f_unions f_unionCount f_isLarge f_trial f_rowAt f_answers f_foundBy f_firstBy f_lastBy f_order f_answerCount f_asked f_tooMany))) (va_A (wX54 ci ad d f_thrown f_cells f_sizes f_keys f_maps f_mapCount f_atoms f_atomCount f_spans f_spanCount f_unions f_unionCount f_isLarge f_trial f_rowAt f_answers f_foundBy f_firstBy f_lastBy f_order f_answerCount f_asked f_tooMany) sz)) 0 0 (va_A (wX54 ci ad d f_thrown f_cells f_sizes f_keys f_maps f_mapCount f_atoms f_atomCount f_spans f_spanCount f_unions f_unionCount f_isLarge f_trial f_rowAt f_answers f_foundBy f_firstBy f_lastBy f_order f_answerCount f_asked f_tooMany) sz) := by
  refine k_enter (by decide) (Nat.le_of_ble_eq_true rfl) ?_
  intro p e s m below meth c ls X hsz hH hl
  subst hsz
  generalize va_A (wX54 ci ad d f_thrown f_cells f_sizes f_keys f_maps f_mapCount f_atoms f_atomCount f_spans f_spanCount f_unions f_unionCount f_isLarge f_trial f_rowAt f_answers f_foundBy f_firstBy f_lastBy f_order f_answerCount f_asked f_tooMany) s.heap.size = A at hH ⊢
  have hx := X.1.1
  have hb := X.1.2.1
  have hl : lv_has ls 4 [(0, .ref (ad 0)), (1, .int x1), (2, .int x2)] := hl
  unfold wpX54_given at hw
  refine lv_iconst (v := 0) hx hb dX54_given_0 (by decide) ?_
  refine lv_istore_n (lv' := [(3, .int 0), (0, .ref (ad 0)), (1, .int x1), (2, .int x2)]) hx hb dX54_given_1 rfl hl (by decide) rfl (fun ls hl => ?_)
  obtain ⟨fu, hw⟩ := hw
  refine atX54_given_2 hc X ?_ ?_ fu 0 hw _ _ ls hH (lv_sub hl [1, 2, 3, 0] rfl)
  · intro x3_15 hw H locs ls hH hl
    refine lv_aload_n hx hb dX54_given_28 rfl (lv_at hl 0 rfl) ?_
    refine lv_iload_n hx hb dX54_given_29 rfl (lv_at hl 1 rfl) ?_
    refine lv_iload_n hx hb dX54_given_30 rfl (lv_at hl 2 rfl) ?_
    refine lv_iconst (v := 2) hx hb dX54_given_31 (by decide) ?_
    have hq_16 := hw.1
    have hw := hw.2
    refine lv_idiv hx hb dX54_given_32 (by decide) ?_
    have e_17 := z_div (rfl : x3_15.toInt = _) (rfl : (2 : Int32).toInt = 2) hq_16 (by decide)
    refine lv_iload_n hx hb dX54_given_33 rfl (lv_at hl 2 rfl) ?_
    refine lv_iconst (v := 2) hx hb dX54_given_34 (by decide) ?_
    refine lv_irem hx hb dX54_given_35 (by decide) ?_
    have e_18 := z_rem (rfl : x3_15.toInt = _) (rfl : (2 : Int32).toInt = 2) hq_16 (by decide)
    refine k_i0 hH (k_runV (As := [.int x1, .int (x3_15 / 2), .int (x3_15 - x3_15 / 2 * 2)]) (rest := []) X hH.1 hH.2.1 X.2.2.2 (walkX54_codeAt hc (x1 := x1) (x2 := (x3_15 / 2)) (x3 := (x3_15 - x3_15 / 2 * 2)) (f_thrown := f_thrown) (f_cells := f_cells) (f_sizes := f_sizes) (f_keys := f_keys) (f_maps := f_maps) (f_mapCount := f_mapCount) (f_atoms := f_atoms) (f_atomCount := f_atomCount) (f_spans := f_spans) (f_spanCount := f_spanCount) (f_unions := f_unions) (f_unionCount := f_unionCount) (f_isLarge := f_isLarge) (f_trial := f_trial) (f_rowAt := f_rowAt) (f_answers := f_answers) (f_foundBy := f_foundBy) (f_firstBy := f_firstBy) (f_lastBy := f_lastBy) (f_order := f_order) (f_answerCount := f_answerCount) (f_asked := f_asked) (f_tooMany := f_tooMany) (by rw [show (x3_15 / 2 : Int32).toInt = _ from e_17, show (x3_15 - x3_15 / 2 * 2 : Int32).toInt = _ from e_18]; exact hw)) (cwV 3 X.1.2.2.2.2 gX54_128 rfl rfl rfl hX54_codeAt ⟨Nat.le_of_ble_eq_true rfl, Nat.le_of_ble_eq_true rfl⟩) hc (q0 := 0) rfl rfl hl.1 rfl (Nat.le_of_ble_eq_true rfl) dX54_given_36 ⟨Nat.le_refl 0, Nat.le_refl 0⟩) (fun r_19 _ H locs hw hH => ?_)
    have hH : kH (dC, dI) cl A s.heap H locs (wX54 ci ad d f_thrown f_cells f_sizes f_keys f_maps f_mapCount f_atoms f_atomCount f_spans f_spanCount f_unions f_unionCount f_isLarge f_trial f_rowAt f_answers f_foundBy f_firstBy f_lastBy f_order f_answerCount f_asked f_tooMany) := hH
    exact k_iret (v := r_19) X hH () hw rfl rfl dX54_given_39
  · intro hw H locs ls hH hl
    refine lv_iconst (v := (-1)) hx hb dX54_given_46 (by decide) ?_
    exact k_iret (v := (-1)) X hH () hw rfl rfl dX54_given_47
set_option maxHeartbeats 4000000 in
theorem atX54_note_21 {p : Program} {l : Launch} {e : Env} {s : State} {m : MethodId} {args : Array Value} {below : List Frame} {meth : Method} {c : Code} {dC : Nat → ClassId} {dI : Nat → Nat → Nat} {cl : List vw_C} {ci : Nat} (hc : cl[ci]? = some (RX54, TX54, 23)) {ad : Nat → Nat} {d : Nat → ClassId} {A : Nat → Prop} {post : (Int → Int) → (Int → Int) → (Int → Int) → (Int → Int) → Int → Int → Prop} {f_thrown : Int32} {f_cells : Nat → Int32} {f_sizes : Nat → Int32} {f_keys : Nat → Int32} {f_maps : Nat → Int32} {f_mapCount : Int32} {f_atoms : Nat → Int32} {f_atomCount : Int32} {f_spans : Nat → Int32} {f_spanCount : Int32} {f_unions : Nat → Int32} {f_unionCount : Int32} {f_isLarge : Int32} {f_trial : Nat → Int32} {f_rowAt : Nat → Int32} {f_order : Nat → Int32} {f_asked : Nat → Int32} (X : kX p s m args meth c cX54_note 5 RX54 none (dC, dI) cl (tX54 d)) {K66 : Int → Prop} {x1 : Int32} {x2 : Int32} {f_answers : Nat → Int32} {f_foundBy : Nat → Int32} {f_firstBy : Nat → Int32} {f_lastBy : Nat → Int32} {f_answerCount : Int32} {f_tooMany : Int32} (hk66 : ∀ (x3 : Int32), K66 x3.toInt → ∀ (H : Heap) (locs : List Loc) (ls : Array Slot), kH (dC, dI) cl A s.heap H locs (wX54 ci ad d f_thrown f_cells f_sizes f_keys f_maps f_mapCount f_atoms f_atomCount f_spans f_spanCount f_unions f_unionCount f_isLarge f_trial f_rowAt f_answers f_foundBy f_firstBy f_lastBy f_order f_answerCount f_asked f_tooMany) → lv_has ls 5 [(0, .ref (ad 0)), (1, .int x1), (2, .int x2), (3, .int x3)] → W p l e ({ frames := 4, cells := 0, slots := 0, locals := 92 } : Room) s m args below meth c H locs 0 0 (MQ below (va_Qv (fun (u : (Nat → Int32) × (Nat → Int32) × (Nat → Int32) × (Nat → Int32) × Int32 × Int32) => post (zF (u.1)) (zF (u.2.1)) (zF (u.2.2.1)) (zF (u.2.2.2.1)) (u.2.2.2.2.1).toInt (u.2.2.2.2.2).toInt) (kB (dC, dI) cl (tX54 d) A (fun u : (Nat → Int32) × (Nat → Int32) × (Nat → Int32) × (Nat → Int32) × Int32 × Int32 => (wX54 ci ad d f_thrown f_cells f_sizes f_keys f_maps f_mapCount f_atoms f_atomCount f_spans f_spanCount f_unions f_unionCount f_isLarge f_trial f_rowAt (u.1) (u.2.1) (u.2.2.1) (u.2.2.2.1) f_order (u.2.2.2.2.1) f_asked (u.2.2.2.2.2)))) A) args s 0 0 A) (F0 m 66 ls [])) :
    ∀ (nn : Nat) (x3 : Int32) (x4 : Int32), wX54_note_21 K66 x1.toInt x2.toInt (zF f_cells) (zF f_maps) (zF f_atoms) f_atomCount.toInt (zF f_unions) (zF f_rowAt) (zF f_answers) nn x3.toInt x4.toInt → ∀ (H : Heap) (locs : List Loc) (ls : Array Slot), kH (dC, dI) cl A s.heap H locs (wX54 ci ad d f_thrown f_cells f_sizes f_keys f_maps f_mapCount f_atoms f_atomCount f_spans f_spanCount f_unions f_unionCount f_isLarge f_trial f_rowAt f_answers f_foundBy f_firstBy f_lastBy f_order f_answerCount f_asked f_tooMany) → lv_has ls 5 [(0, .ref (ad 0)), (1, .int x1), (2, .int x2), (3, .int x3), (4, .int x4)] → W p l e ({ frames := 4, cells := 0, slots := 0, locals := 92 } : Room) s m args below meth c H locs 0 0 (MQ below (va_Qv (fun (u : (Nat → Int32) × (Nat → Int32) × (Nat → Int32) × (Nat → Int32) × Int32 × Int32) => post (zF (u.1)) (zF (u.2.1)) (zF (u.2.2.1)) (zF (u.2.2.2.1)) (u.2.2.2.2.1).toInt (u.2.2.2.2.2).toInt) (kB (dC, dI) cl (tX54 d) A (fun u : (Nat → Int32) × (Nat → Int32) × (Nat → Int32) × (Nat → Int32) × Int32 × Int32 => (wX54 ci ad d f_thrown f_cells f_sizes f_keys f_maps f_mapCount f_atoms f_atomCount f_spans f_spanCount f_unions f_unionCount f_isLarge f_trial f_rowAt (u.1) (u.2.1) (u.2.2.1) (u.2.2.2.1) f_order (u.2.2.2.2.1) f_asked (u.2.2.2.2.2)))) A) args s 0 0 A) (F0 m 21 ls []) := by
  have hx := X.1.1
  have hb := X.1.2.1
  intro nn
  induction nn with
  | zero =>
    intro x3 x4 hw
    exact False.elim hw
  | succ n ih =>
    intro x3 x4 hw H locs ls hH hl
    rw [wX54_note_21] at hw
    refine lv_iload hx hb dX54_note_21 (lv_at hl 4 rfl) ?_
    refine lv_bipush (v := 6) hx hb dX54_note_23 (by decide) ?_
    refine lv_icmp_ge (tgt := 66) hx hb dX54_note_25 (by decide) (fun c_3 => ?_) (fun c_3 => ?_)
    · have hw := hw.1 (z_le (rfl : (6 : Int32).toInt = 6) (rfl : x4.toInt = _) c_3)
      exact hk66 x3 hw _ _ ls hH (lv_sub hl [0, 1, 2, 3] rfl)
    · have hw := hw.2 (z_nle (rfl : (6 : Int32).toInt = 6) (rfl : x4.toInt = _) c_3)
      refine lv_iload_n hx hb dX54_note_28 rfl (lv_at hl 3 rfl) ?_
      refine lv_if_eq (tgt := 66) hx hb dX54_note_29 (by decide) (fun c_4 => ?_) (fun c_4 => ?_)
      · have hw := hw.1 (z_eq (rfl : x3.toInt = _) (rfl : (0 : Int32).toInt = 0) c_4)
        exact hk66 x3 hw _ _ ls hH (lv_sub hl [0, 1, 2, 3] rfl)
      · have hw := hw.2 (z_neq (rfl : x3.toInt = _) (rfl : (0 : Int32).toInt = 0) c_4)
        refine lv_aload_n hx hb dX54_note_32 rfl (lv_at hl 0 rfl) ?_
        refine k_get X hH in_X54 0 rfl hc 15 (by decide) q6515 rfl dX54_note_33 ?_
        refine lv_bipush (v := 6) hx hb dX54_note_36 (by decide) ?_
        refine lv_iload_n hx hb dX54_note_38 rfl (lv_at hl 2 rfl) ?_
        refine lv_imul hx hb dX54_note_39 ?_
        have e_5 := z_mul (z_m (rfl : (6 : Int32).toInt = 6)) (z_m (rfl : x2.toInt = _))
        refine lv_iload hx hb dX54_note_40 (lv_at hl 4 rfl) ?_
        refine lv_iadd hx hb dX54_note_42 ?_
        have e_6 := z_add e_5 (z_m (rfl : x4.toInt = _))
        have hq_7 := hw.1
        have hw := hw.2
        have e_8 := z_xi e_6 hq_7 (by decide)
        refine k_iald X hH 10 9 rfl rfl (z_in e_8 hq_7) dX54_note_43 ?_
        have e_9 := z_ld (f := f_answers) e_8 hq_7.1
        refine lv_aload_n hx hb dX54_note_44 rfl (lv_at hl 0 rfl) ?_
        refine lv_iload_n hx hb dX54_note_45 rfl (lv_at hl 1 rfl) ?_
        refine lv_iload hx hb dX54_note_46 (lv_at hl 4 rfl) ?_
        refine k_i0 hH (k_runV (As := [.int x1, .int x4]) (rest := [.int (f_answers ((6 * x2) + x4).toNatClampNeg)]) X hH.1 hH.2.1 X.2.2.2 (walkX54_given hc (x1 := x1) (x2 := x4) (f_thrown := f_thrown) (f_cells := f_cells) (f_sizes := f_sizes) (f_keys := f_keys) (f_maps := f_maps) (f_mapCount := f_mapCount) (f_atoms := f_atoms) (f_atomCount := f_atomCount) (f_spans := f_spans) (f_spanCount := f_spanCount) (f_unions := f_unions) (f_unionCount := f_unionCount) (f_isLarge := f_isLarge) (f_trial := f_trial) (f_rowAt := f_rowAt) (f_answers := f_answers) (f_foundBy := f_foundBy) (f_firstBy := f_firstBy) (f_lastBy := f_lastBy) (f_order := f_order) (f_answerCount := f_answerCount) (f_asked := f_asked) (f_tooMany := f_tooMany) hw) (cwV 2 X.1.2.2.2.2 gX54_147 rfl rfl rfl hX54_given ⟨Nat.le_of_ble_eq_true rfl, Nat.le_of_ble_eq_true rfl⟩) hc (q0 := 0) rfl rfl hl.1 rfl (Nat.le_of_ble_eq_true rfl) dX54_note_48 ⟨Nat.le_refl 0, Nat.le_refl 0⟩) (fun r_10 _ H locs hw hH => ?_)
        have hH : kH (dC, dI) cl A s.heap H locs (wX54 ci ad d f_thrown f_cells f_sizes f_keys f_maps f_mapCount f_atoms f_atomCount f_spans f_spanCount f_unions f_unionCount f_isLarge f_trial f_rowAt f_answers f_foundBy f_firstBy f_lastBy f_order f_answerCount f_asked f_tooMany) := hH
        refine lv_icmp_ne (tgt := 58) hx hb dX54_note_51 (by decide) (fun c_11 => ?_) (fun c_11 => ?_)
        · have hw := hw.2 (z_ne e_9 (rfl : r_10.toInt = _) c_11)
          refine lv_iconst (v := 0) hx hb dX54_note_58 (by decide) ?_
          refine lv_istore_n (lv' := [(3, .int 0), (0, .ref (ad 0)), (1, .int x1), (2, .int x2), (4, .int x4)]) hx hb dX54_note_59 rfl hl (by decide) rfl (fun ls hl => ?_)
          have hq_13 := hw.1
          have hw := hw.2
          obtain ⟨x4_12, ex4_12⟩ : ∃ y : Int32, y = x4 + 1 := ⟨_, rfl⟩
          have hw := hw x4_12.toInt (by rw [ex4_12]; exact (z_x (z_add (z_m (rfl : x4.toInt = _)) (z_m (rfl : (1 : Int32).toInt = 1))) hq_13))
          refine lv_iinc (v := x4_12) (lv' := [(4, .int x4_12), (3, .int 0), (0, .ref (ad 0)), (1, .int x1), (2, .int x2)]) hx hb dX54_note_60 hl (k := 4) rfl (by rw [ex4_12]; rfl) (by decide) rfl (fun ls hl => ?_)
          refine lv_goto (tgt := 21) hx hb dX54_note_63 (by decide) ?_
          exact ih 0 x4_12 hw _ _ ls hH (lv_sub hl [2, 3, 4, 1, 0] rfl)
        · have hw := hw.1 (z_eq e_9 (rfl : r_10.toInt = _) c_11)
          refine lv_iconst (v := 1) hx hb dX54_note_54 (by decide) ?_
          refine lv_goto (tgt := 59) hx hb dX54_note_55 (by decide) ?_
          refine lv_istore_n (lv' := [(3, .int 1), (0, .ref (ad 0)), (1, .int x1), (2, .int x2), (4, .int x4)]) hx hb dX54_note_59 rfl hl (by decide) rfl (fun ls hl => ?_)
          have hq_15 := hw.1
          have hw := hw.2
          obtain ⟨x4_14, ex4_14⟩ : ∃ y : Int32, y = x4 + 1 := ⟨_, rfl⟩
          have hw := hw x4_14.toInt (by rw [ex4_14]; exact (z_x (z_add (z_m (rfl : x4.toInt = _)) (z_m (rfl : (1 : Int32).toInt = 1))) hq_15))
          refine lv_iinc (v := x4_14) (lv' := [(4, .int x4_14), (3, .int 1), (0, .ref (ad 0)), (1, .int x1), (2, .int x2)]) hx hb dX54_note_60 hl (k := 4) rfl (by rw [ex4_14]; rfl) (by decide) rfl (fun ls hl => ?_)
          refine lv_goto (tgt := 21) hx hb dX54_note_63 (by decide) ?_
          exact ih 1 x4_14 hw _ _ ls hH (lv_sub hl [2, 3, 4, 1, 0] rfl)
set_option maxHeartbeats 4000000 in
theorem atX54_note_4 {p : Program} {l : Launch} {e : Env} {s : State} {m : MethodId} {args : Array Value} {below : List Frame} {meth : Method} {c : Code} {dC : Nat → ClassId} {dI : Nat → Nat → Nat} {cl : List vw_C} {ci : Nat} (hc : cl[ci]? = some (RX54, TX54, 23)) {ad : Nat → Nat} {d : Nat → ClassId} {A : Nat → Prop} {post : (Int → Int) → (Int → Int) → (Int → Int) → (Int → Int) → Int → Int → Prop} {f_thrown : Int32} {f_cells : Nat → Int32} {f_sizes : Nat → Int32} {f_keys : Nat → Int32} {f_maps : Nat → Int32} {f_mapCount : Int32} {f_atoms : Nat → Int32} {f_atomCount : Int32} {f_spans : Nat → Int32} {f_spanCount : Int32} {f_unions : Nat → Int32} {f_unionCount : Int32} {f_isLarge : Int32} {f_trial : Nat → Int32} {f_rowAt : Nat → Int32} {f_order : Nat → Int32} {f_asked : Nat → Int32} (X : kX p s m args meth c cX54_note 5 RX54 none (dC, dI) cl (tX54 d)) {K81 : Int → Prop} {x1 : Int32} {f_answers : Nat → Int32} {f_foundBy : Nat → Int32} {f_firstBy : Nat → Int32} {f_lastBy : Nat → Int32} {f_answerCount : Int32} {f_tooMany : Int32} (hk81 : ∀ (x2 : Int32), K81 x2.toInt → ∀ (H : Heap) (locs : List Loc) (ls : Array Slot), kH (dC, dI) cl A s.heap H locs (wX54 ci ad d f_thrown f_cells f_sizes f_keys f_maps f_mapCount f_atoms f_atomCount f_spans f_spanCount f_unions f_unionCount f_isLarge f_trial f_rowAt f_answers f_foundBy f_firstBy f_lastBy f_order f_answerCount f_asked f_tooMany) → lv_has ls 5 [(0, .ref (ad 0)), (1, .int x1), (2, .int x2)] → W p l e ({ frames := 4, cells := 0, slots := 0, locals := 92 } : Room) s m args below meth c H locs 0 0 (MQ below (va_Qv (fun (u : (Nat → Int32) × (Nat → Int32) × (Nat → Int32) × (Nat → Int32) × Int32 × Int32) => post (zF (u.1)) (zF (u.2.1)) (zF (u.2.2.1)) (zF (u.2.2.2.1)) (u.2.2.2.2.1).toInt (u.2.2.2.2.2).toInt) (kB (dC, dI) cl (tX54 d) A (fun u : (Nat → Int32) × (Nat → Int32) × (Nat → Int32) × (Nat → Int32) × Int32 × Int32 => (wX54 ci ad d f_thrown f_cells f_sizes f_keys f_maps f_mapCount f_atoms f_atomCount f_spans f_spanCount f_unions f_unionCount f_isLarge f_trial f_rowAt (u.1) (u.2.1) (u.2.2.1) (u.2.2.2.1) f_order (u.2.2.2.2.1) f_asked (u.2.2.2.2.2)))) A) args s 0 0 A) (F0 m 81 ls [])) :
    ∀ (nn : Nat) (x2 : Int32) (x3 : Int32), wX54_note_4 K81 x1.toInt (zF f_cells) (zF f_maps) (zF f_atoms) f_atomCount.toInt (zF f_unions) (zF f_rowAt) (zF f_answers) f_answerCount.toInt nn x2.toInt x3.toInt → ∀ (H : Heap) (locs : List Loc) (ls : Array Slot), kH (dC, dI) cl A s.heap H locs (wX54 ci ad d f_thrown f_cells f_sizes f_keys f_maps f_mapCount f_atoms f_atomCount f_spans f_spanCount f_unions f_unionCount f_isLarge f_trial f_rowAt f_answers f_foundBy f_firstBy f_lastBy f_order f_answerCount f_asked f_tooMany) → lv_has ls 5 [(0, .ref (ad 0)), (1, .int x1), (2, .int x2), (3, .int x3)] → W p l e ({ frames := 4, cells := 0, slots := 0, locals := 92 } : Room) s m args below meth c H locs 0 0 (MQ below (va_Qv (fun (u : (Nat → Int32) × (Nat → Int32) × (Nat → Int32) × (Nat → Int32) × Int32 × Int32) => post (zF (u.1)) (zF (u.2.1)) (zF (u.2.2.1)) (zF (u.2.2.2.1)) (u.2.2.2.2.1).toInt (u.2.2.2.2.2).toInt) (kB (dC, dI) cl (tX54 d) A (fun u : (Nat → Int32) × (Nat → Int32) × (Nat → Int32) × (Nat → Int32) × Int32 × Int32 => (wX54 ci ad d f_thrown f_cells f_sizes f_keys f_maps f_mapCount f_atoms f_atomCount f_spans f_spanCount f_unions f_unionCount f_isLarge f_trial f_rowAt (u.1) (u.2.1) (u.2.2.1) (u.2.2.2.1) f_order (u.2.2.2.2.1) f_asked (u.2.2.2.2.2)))) A) args s 0 0 A) (F0 m 4 ls []) := by
  have hx := X.1.1
  have hb := X.1.2.1
  intro nn
  induction nn with
  | zero =>
    intro x2 x3 hw
    exact False.elim hw
  | succ n ih =>
    intro x2 x3 hw H locs ls hH hl
    rw [wX54_note_4] at hw
    refine lv_iload_n hx hb dX54_note_4 rfl (lv_at hl 2 rfl) ?_
    refine lv_aload_n hx hb dX54_note_5 rfl (lv_at hl 0 rfl) ?_
    refine k_get X hH in_X54 0 rfl hc 20 (by decide) q6520 rfl dX54_note_6 ?_
    refine lv_icmp_ge (tgt := 81) hx hb dX54_note_9 (by decide) (fun c_1 => ?_) (fun c_1 => ?_)
    · have hw := hw.1 (z_le (rfl : f_answerCount.toInt = _) (rfl : x2.toInt = _) c_1)
      exact hk81 x2 hw _ _ ls hH (lv_sub hl [0, 1, 2] rfl)
    · have hw := hw.2 (z_nle (rfl : f_answerCount.toInt = _) (rfl : x2.toInt = _) c_1)
      refine lv_iload_n hx hb dX54_note_12 rfl (lv_at hl 3 rfl) ?_
      refine lv_if_ne (tgt := 81) hx hb dX54_note_13 (by decide) (fun c_2 => ?_) (fun c_2 => ?_)
      · have hw := hw.2 (z_ne (rfl : x3.toInt = _) (rfl : (0 : Int32).toInt = 0) c_2)
        exact hk81 x2 hw _ _ ls hH (lv_sub hl [0, 1, 2] rfl)
      · have hw := hw.1 (z_eq (rfl : x3.toInt = _) (rfl : (0 : Int32).toInt = 0) c_2)
        refine lv_iconst (v := 1) hx hb dX54_note_16 (by decide) ?_
        refine lv_istore_n (lv' := [(3, .int 1), (0, .ref (ad 0)), (1, .int x1), (2, .int x2)]) hx hb dX54_note_17 rfl hl (by decide) rfl (fun ls hl => ?_)
        refine lv_iconst (v := 0) hx hb dX54_note_18 (by decide) ?_
        refine lv_istore (lv' := [(4, .int 0), (3, .int 1), (0, .ref (ad 0)), (1, .int x1), (2, .int x2)]) hx hb dX54_note_19 hl (by decide) rfl (fun ls hl => ?_)
        obtain ⟨fu, hw⟩ := hw
        refine atX54_note_21 hc X ?_ fu 1 0 hw _ _ ls hH (lv_sub hl [2, 3, 4, 1, 0] rfl)
        · intro x3_16 hw H locs ls hH hl
          refine lv_iload_n hx hb dX54_note_66 rfl (lv_at hl 2 rfl) ?_
          refine lv_iload_n hx hb dX54_note_67 rfl (lv_at hl 3 rfl) ?_
          refine lv_if_eq (tgt := 75) hx hb dX54_note_68 (by decide) (fun c_17 => ?_) (fun c_17 => ?_)
          · have hw := hw.1 (z_eq (rfl : x3_16.toInt = _) (rfl : (0 : Int32).toInt = 0) c_17)
            refine lv_iconst (v := 1) hx hb dX54_note_75 (by decide) ?_
            refine lv_iadd hx hb dX54_note_76 ?_
            have e_18 := z_add (z_m (rfl : x2.toInt = _)) (z_m (rfl : (1 : Int32).toInt = 1))
            have hq_19 := hw.1
            have hw := hw.2
            have e_20 := z_x e_18 hq_19
            refine lv_topi (fun x2_21 ex2_21 => ?_)
            have hw := hw x2_21.toInt (by rw [ex2_21]; exact e_20)
            refine lv_istore_n (lv' := [(2, .int x2_21), (0, .ref (ad 0)), (1, .int x1), (3, .int x3_16)]) hx hb dX54_note_77 rfl hl (by decide) rfl (fun ls hl => ?_)
            refine lv_goto (tgt := 4) hx hb dX54_note_78 (by decide) ?_
            exact ih x2_21 x3_16 hw _ _ ls hH (lv_sub hl [1, 2, 0, 3] rfl)
          · have hw := hw.2 (z_neq (rfl : x3_16.toInt = _) (rfl : (0 : Int32).toInt = 0) c_17)
            refine lv_iconst (v := 0) hx hb dX54_note_71 (by decide) ?_
            refine lv_goto (tgt := 76) hx hb dX54_note_72 (by decide) ?_
            refine lv_iadd hx hb dX54_note_76 ?_
            have e_22 := z_add (z_m (rfl : x2.toInt = _)) (z_m (rfl : (0 : Int32).toInt = 0))
            have hq_23 := hw.1
            have hw := hw.2
            have e_24 := z_x e_22 hq_23
            refine lv_topi (fun x2_25 ex2_25 => ?_)
            have hw := hw x2_25.toInt (by rw [ex2_25]; exact e_24)
            refine lv_istore_n (lv' := [(2, .int x2_25), (0, .ref (ad 0)), (1, .int x1), (3, .int x3_16)]) hx hb dX54_note_77 rfl hl (by decide) rfl (fun ls hl => ?_)
            refine lv_goto (tgt := 4) hx hb dX54_note_78 (by decide) ?_
            exact ih x2_25 x3_16 hw _ _ ls hH (lv_sub hl [1, 2, 0, 3] rfl)
set_option maxHeartbeats 4000000 in
theorem atX54_note_168 {p : Program} {l : Launch} {e : Env} {s : State} {m : MethodId} {args : Array Value} {below : List Frame} {meth : Method} {c : Code} {dC : Nat → ClassId} {dI : Nat → Nat → Nat} {cl : List vw_C} {ci : Nat} (hc : cl[ci]? = some (RX54, TX54, 23)) {ad : Nat → Nat} {d : Nat → ClassId} {A : Nat → Prop} {post : (Int → Int) → (Int → Int) → (Int → Int) → (Int → Int) → Int → Int → Prop} {f_thrown : Int32} {f_cells : Nat → Int32} {f_sizes : Nat → Int32} {f_keys : Nat → Int32} {f_maps : Nat → Int32} {f_mapCount : Int32} {f_atoms : Nat → Int32} {f_atomCount : Int32} {f_spans : Nat → Int32} {f_spanCount : Int32} {f_unions : Nat → Int32} {f_unionCount : Int32} {f_isLarge : Int32} {f_trial : Nat → Int32} {f_rowAt : Nat → Int32} {f_order : Nat → Int32} {f_asked : Nat → Int32} (X : kX p s m args meth c cX54_note 5 RX54 none (dC, dI) cl (tX54 d))     :
    ∀ (x1 : Int32) (x2 : Int32) (f_answers : Nat → Int32) (f_foundBy : Nat → Int32) (f_firstBy : Nat → Int32) (f_lastBy : Nat → Int32) (f_answerCount : Int32) (f_tooMany : Int32), wX54_note_168 post x1.toInt x2.toInt (zF f_answers) (zF f_foundBy) (zF f_firstBy) (zF f_lastBy) f_answerCount.toInt f_tooMany.toInt → ∀ (H : Heap) (locs : List Loc) (ls : Array Slot), kH (dC, dI) cl A s.heap H locs (wX54 ci ad d f_thrown f_cells f_sizes f_keys f_maps f_mapCount f_atoms f_atomCount f_spans f_spanCount f_unions f_unionCount f_isLarge f_trial f_rowAt f_answers f_foundBy f_firstBy f_lastBy f_order f_answerCount f_asked f_tooMany) → lv_has ls 5 [(0, .ref (ad 0)), (1, .int x1), (2, .int x2)] → W p l e ({ frames := 4, cells := 0, slots := 0, locals := 92 } : Room) s m args below meth c H locs 0 0 (MQ below (va_Qv (fun (u : (Nat → Int32) × (Nat → Int32) × (Nat → Int32) × (Nat → Int32) × Int32 × Int32) => post (zF (u.1)) (zF (u.2.1)) (zF (u.2.2.1)) (zF (u.2.2.2.1)) (u.2.2.2.2.1).toInt (u.2.2.2.2.2).toInt) (kB (dC, dI) cl (tX54 d) A (fun u : (Nat → Int32) × (Nat → Int32) × (Nat → Int32) × (Nat → Int32) × Int32 × Int32 => (wX54 ci ad d f_thrown f_cells f_sizes f_keys f_maps f_mapCount f_atoms f_atomCount f_spans f_spanCount f_unions f_unionCount f_isLarge f_trial f_rowAt (u.1) (u.2.1) (u.2.2.1) (u.2.2.2.1) f_order (u.2.2.2.2.1) f_asked (u.2.2.2.2.2)))) A) args s 0 0 A) (F0 m 168 ls []) := by
  have hx := X.1.1
  have hb := X.1.2.1
  intro x1 x2 f_answers f_foundBy f_firstBy f_lastBy f_answerCount f_tooMany hw H locs ls hH hl
  unfold wX54_note_168 at hw
  refine lv_aload_n hx hb dX54_note_168 rfl (lv_at hl 0 rfl) ?_
  refine k_get X hH in_X54 0 rfl hc 16 (by decide) q6516 rfl dX54_note_169 ?_
  refine lv_iload_n hx hb dX54_note_172 rfl (lv_at hl 2 rfl) ?_
  refine lv_dup2_11 hx hb dX54_note_173 rfl rfl ?_
  have hq_29 := hw.1
  have hw := hw.2
  refine k_iald X hH 11 10 rfl rfl (z_in (rfl : x2.toInt = _) hq_29) dX54_note_174 ?_
  have e_30 := z_ld (f := f_foundBy) (rfl : x2.toInt = _) hq_29.1
  refine lv_aload_n hx hb dX54_note_175 rfl (lv_at hl 0 rfl) ?_
  refine k_get X hH in_X54 0 rfl hc 18 (by decide) q6518 rfl dX54_note_176 ?_
  refine lv_iload_n hx hb dX54_note_179 rfl (lv_at hl 2 rfl) ?_
  refine k_iald X hH 13 12 rfl rfl (z_in (rfl : x2.toInt = _) hq_29) dX54_note_180 ?_
  have e_31 := z_ld (f := f_lastBy) (rfl : x2.toInt = _) hq_29.1
  refine lv_iload_n hx hb dX54_note_181 rfl (lv_at hl 1 rfl) ?_
  refine lv_icmp_ne (tgt := 189) hx hb dX54_note_182 (by decide) (fun c_32 => ?_) (fun c_32 => ?_)
  · have hw := hw.2 (z_ne e_31 (rfl : x1.toInt = _) c_32)
    refine lv_iconst (v := 1) hx hb dX54_note_189 (by decide) ?_
    refine lv_iadd hx hb dX54_note_190 ?_
    have e_33 := z_add (z_m e_30) (z_m (rfl : (1 : Int32).toInt = 1))
    have hq_34 := hw.1
    have hw := hw.2
    have e_35 := z_x e_33 hq_34
    refine lv_topi (fun v_36 ev_36 => ?_)
    have hw := hw v_36.toInt (by rw [ev_36]; exact e_35)
    obtain ⟨f_foundBy_37, ef_foundBy_37⟩ : ∃ y : Nat → Int32, y = upd f_foundBy x2.toNatClampNeg v_36 := ⟨_, rfl⟩
    refine k_iast X hH 11 10 rfl rfl (z_in (rfl : x2.toInt = _) hq_29) dX54_note_191 ef_foundBy_37 (ws1 := (wX54 ci ad d f_thrown f_cells f_sizes f_keys f_maps f_mapCount f_atoms f_atomCount f_spans f_spanCount f_unions f_unionCount f_isLarge f_trial f_rowAt f_answers f_foundBy_37 f_firstBy f_lastBy f_order f_answerCount f_asked f_tooMany)) rfl (fun H locs hH => ?_)
    have hw := hw (zF f_foundBy_37) (by rw [ef_foundBy_37]; exact z_st (f := f_foundBy) (rfl : x2.toInt = _) hq_29.1 (rfl : v_36.toInt = _))
    refine lv_aload_n hx hb dX54_note_192 rfl (lv_at hl 0 rfl) ?_
    refine k_get X hH in_X54 0 rfl hc 18 (by decide) q6518 rfl dX54_note_193 ?_
    refine lv_iload_n hx hb dX54_note_196 rfl (lv_at hl 2 rfl) ?_
    refine lv_iload_n hx hb dX54_note_197 rfl (lv_at hl 1 rfl) ?_
    obtain ⟨f_lastBy_38, ef_lastBy_38⟩ : ∃ y : Nat → Int32, y = upd f_lastBy x2.toNatClampNeg x1 := ⟨_, rfl⟩
    refine k_iast X hH 13 12 rfl rfl (z_in (rfl : x2.toInt = _) hq_29) dX54_note_198 ef_lastBy_38 (ws1 := (wX54 ci ad d f_thrown f_cells f_sizes f_keys f_maps f_mapCount f_atoms f_atomCount f_spans f_spanCount f_unions f_unionCount f_isLarge f_trial f_rowAt f_answers f_foundBy_37 f_firstBy f_lastBy_38 f_order f_answerCount f_asked f_tooMany)) rfl (fun H locs hH => ?_)
    have hw := hw (zF f_lastBy_38) (by rw [ef_lastBy_38]; exact z_st (f := f_lastBy) (rfl : x2.toInt = _) hq_29.1 (rfl : x1.toInt = _))
    exact k_vret X hH (f_answers, f_foundBy_37, f_firstBy, f_lastBy_38, f_answerCount, f_tooMany) hw rfl dX54_note_199
  · have hw := hw.1 (z_eq e_31 (rfl : x1.toInt = _) c_32)
    refine lv_iconst (v := 0) hx hb dX54_note_185 (by decide) ?_
    refine lv_goto (tgt := 190) hx hb dX54_note_186 (by decide) ?_
    refine lv_iadd hx hb dX54_note_190 ?_
    have e_39 := z_add (z_m e_30) (z_m (rfl : (0 : Int32).toInt = 0))
    have hq_40 := hw.1
    have hw := hw.2
    have e_41 := z_x e_39 hq_40
    refine lv_topi (fun v_42 ev_42 => ?_)
    have hw := hw v_42.toInt (by rw [ev_42]; exact e_41)
    obtain ⟨f_foundBy_43, ef_foundBy_43⟩ : ∃ y : Nat → Int32, y = upd f_foundBy x2.toNatClampNeg v_42 := ⟨_, rfl⟩
    refine k_iast X hH 11 10 rfl rfl (z_in (rfl : x2.toInt = _) hq_29) dX54_note_191 ef_foundBy_43 (ws1 := (wX54 ci ad d f_thrown f_cells f_sizes f_keys f_maps f_mapCount f_atoms f_atomCount f_spans f_spanCount f_unions f_unionCount f_isLarge f_trial f_rowAt f_answers f_foundBy_43 f_firstBy f_lastBy f_order f_answerCount f_asked f_tooMany)) rfl (fun H locs hH => ?_)
    have hw := hw (zF f_foundBy_43) (by rw [ef_foundBy_43]; exact z_st (f := f_foundBy) (rfl : x2.toInt = _) hq_29.1 (rfl : v_42.toInt = _))
    refine lv_aload_n hx hb dX54_note_192 rfl (lv_at hl 0 rfl) ?_
    refine k_get X hH in_X54 0 rfl hc 18 (by decide) q6518 rfl dX54_note_193 ?_
    refine lv_iload_n hx hb dX54_note_196 rfl (lv_at hl 2 rfl) ?_
    refine lv_iload_n hx hb dX54_note_197 rfl (lv_at hl 1 rfl) ?_
    obtain ⟨f_lastBy_44, ef_lastBy_44⟩ : ∃ y : Nat → Int32, y = upd f_lastBy x2.toNatClampNeg x1 := ⟨_, rfl⟩
    refine k_iast X hH 13 12 rfl rfl (z_in (rfl : x2.toInt = _) hq_29) dX54_note_198 ef_lastBy_44 (ws1 := (wX54 ci ad d f_thrown f_cells f_sizes f_keys f_maps f_mapCount f_atoms f_atomCount f_spans f_spanCount f_unions f_unionCount f_isLarge f_trial f_rowAt f_answers f_foundBy_43 f_firstBy f_lastBy_44 f_order f_answerCount f_asked f_tooMany)) rfl (fun H locs hH => ?_)
    have hw := hw (zF f_lastBy_44) (by rw [ef_lastBy_44]; exact z_st (f := f_lastBy) (rfl : x2.toInt = _) hq_29.1 (rfl : x1.toInt = _))
    exact k_vret X hH (f_answers, f_foundBy_43, f_firstBy, f_lastBy_44, f_answerCount, f_tooMany) hw rfl dX54_note_199
set_option maxHeartbeats 4000000 in
theorem atX54_note_105 {p : Program} {l : Launch} {e : Env} {s : State} {m : MethodId} {args : Array Value} {below : List Frame} {meth : Method} {c : Code} {dC : Nat → ClassId} {dI : Nat → Nat → Nat} {cl : List vw_C} {ci : Nat} (hc : cl[ci]? = some (RX54, TX54, 23)) {ad : Nat → Nat} {d : Nat → ClassId} {A : Nat → Prop} {post : (Int → Int) → (Int → Int) → (Int → Int) → (Int → Int) → Int → Int → Prop} {f_thrown : Int32} {f_cells : Nat → Int32} {f_sizes : Nat → Int32} {f_keys : Nat → Int32} {f_maps : Nat → Int32} {f_mapCount : Int32} {f_atoms : Nat → Int32} {f_atomCount : Int32} {f_spans : Nat → Int32} {f_spanCount : Int32} {f_unions : Nat → Int32} {f_unionCount : Int32} {f_isLarge : Int32} {f_trial : Nat → Int32} {f_rowAt : Nat → Int32} {f_order : Nat → Int32} {f_asked : Nat → Int32} (X : kX p s m args meth c cX54_note 5 RX54 none (dC, dI) cl (tX54 d)) {K137 : (Int → Int) → Prop} {x1 : Int32} {x2 : Int32} {f_foundBy : Nat → Int32} {f_firstBy : Nat → Int32} {f_lastBy : Nat → Int32} {f_answerCount : Int32} {f_tooMany : Int32} (hk137 : ∀ (f_answers : Nat → Int32), K137 (zF f_answers) → ∀ (H : Heap) (locs : List Loc) (ls : Array Slot), kH (dC, dI) cl A s.heap H locs (wX54 ci ad d f_thrown f_cells f_sizes f_keys f_maps f_mapCount f_atoms f_atomCount f_spans f_spanCount f_unions f_unionCount f_isLarge f_trial f_rowAt f_answers f_foundBy f_firstBy f_lastBy f_order f_answerCount f_asked f_tooMany) → lv_has ls 5 [(0, .ref (ad 0)), (1, .int x1), (2, .int x2)] → W p l e ({ frames := 4, cells := 0, slots := 0, locals := 92 } : Room) s m args below meth c H locs 0 0 (MQ below (va_Qv (fun (u : (Nat → Int32) × (Nat → Int32) × (Nat → Int32) × (Nat → Int32) × Int32 × Int32) => post (zF (u.1)) (zF (u.2.1)) (zF (u.2.2.1)) (zF (u.2.2.2.1)) (u.2.2.2.2.1).toInt (u.2.2.2.2.2).toInt) (kB (dC, dI) cl (tX54 d) A (fun u : (Nat → Int32) × (Nat → Int32) × (Nat → Int32) × (Nat → Int32) × Int32 × Int32 => (wX54 ci ad d f_thrown f_cells f_sizes f_keys f_maps f_mapCount f_atoms f_atomCount f_spans f_spanCount f_unions f_unionCount f_isLarge f_trial f_rowAt (u.1) (u.2.1) (u.2.2.1) (u.2.2.2.1) f_order (u.2.2.2.2.1) f_asked (u.2.2.2.2.2)))) A) args s 0 0 A) (F0 m 137 ls [])) :
    ∀ (nn : Nat) (x4 : Int32) (f_answers : Nat → Int32), wX54_note_105 K137 x1.toInt x2.toInt (zF f_cells) (zF f_maps) (zF f_atoms) f_atomCount.toInt (zF f_unions) (zF f_rowAt) nn x4.toInt (zF f_answers) → ∀ (H : Heap) (locs : List Loc) (ls : Array Slot), kH (dC, dI) cl A s.heap H locs (wX54 ci ad d f_thrown f_cells f_sizes f_keys f_maps f_mapCount f_atoms f_atomCount f_spans f_spanCount f_unions f_unionCount f_isLarge f_trial f_rowAt f_answers f_foundBy f_firstBy f_lastBy f_order f_answerCount f_asked f_tooMany) → lv_has ls 5 [(0, .ref (ad 0)), (1, .int x1), (2, .int x2), (4, .int x4)] → W p l e ({ frames := 4, cells := 0, slots := 0, locals := 92 } : Room) s m args below meth c H locs 0 0 (MQ below (va_Qv (fun (u : (Nat → Int32) × (Nat → Int32) × (Nat → Int32) × (Nat → Int32) × Int32 × Int32) => post (zF (u.1)) (zF (u.2.1)) (zF (u.2.2.1)) (zF (u.2.2.2.1)) (u.2.2.2.2.1).toInt (u.2.2.2.2.2).toInt) (kB (dC, dI) cl (tX54 d) A (fun u : (Nat → Int32) × (Nat → Int32) × (Nat → Int32) × (Nat → Int32) × Int32 × Int32 => (wX54 ci ad d f_thrown f_cells f_sizes f_keys f_maps f_mapCount f_atoms f_atomCount f_spans f_spanCount f_unions f_unionCount f_isLarge f_trial f_rowAt (u.1) (u.2.1) (u.2.2.1) (u.2.2.2.1) f_order (u.2.2.2.2.1) f_asked (u.2.2.2.2.2)))) A) args s 0 0 A) (F0 m 105 ls []) := by
  have hx := X.1.1
  have hb := X.1.2.1
  intro nn
  induction nn with
  | zero =>
    intro x4 f_answers hw
    exact False.elim hw
  | succ n ih =>
    intro x4 f_answers hw H locs ls hH hl
    rw [wX54_note_105] at hw
    refine lv_iload hx hb dX54_note_105 (lv_at hl 3 rfl) ?_
    refine lv_bipush (v := 6) hx hb dX54_note_107 (by decide) ?_
    refine lv_icmp_ge (tgt := 137) hx hb dX54_note_109 (by decide) (fun c_45 => ?_) (fun c_45 => ?_)
    · have hw := hw.1 (z_le (rfl : (6 : Int32).toInt = 6) (rfl : x4.toInt = _) c_45)
      exact hk137 f_answers hw _ _ ls hH (lv_sub hl [0, 1, 2] rfl)
    · have hw := hw.2 (z_nle (rfl : (6 : Int32).toInt = 6) (rfl : x4.toInt = _) c_45)
      refine lv_aload_n hx hb dX54_note_112 rfl (lv_at hl 0 rfl) ?_
      refine k_get X hH in_X54 0 rfl hc 15 (by decide) q6515 rfl dX54_note_113 ?_
      refine lv_bipush (v := 6) hx hb dX54_note_116 (by decide) ?_
      refine lv_iload_n hx hb dX54_note_118 rfl (lv_at hl 2 rfl) ?_
      refine lv_imul hx hb dX54_note_119 ?_
      have e_46 := z_mul (z_m (rfl : (6 : Int32).toInt = 6)) (z_m (rfl : x2.toInt = _))
      refine lv_iload hx hb dX54_note_120 (lv_at hl 3 rfl) ?_
      refine lv_iadd hx hb dX54_note_122 ?_
      have e_47 := z_add e_46 (z_m (rfl : x4.toInt = _))
      refine lv_aload_n hx hb dX54_note_123 rfl (lv_at hl 0 rfl) ?_
      refine lv_iload_n hx hb dX54_note_124 rfl (lv_at hl 1 rfl) ?_
      refine lv_iload hx hb dX54_note_125 (lv_at hl 3 rfl) ?_
      refine k_i0 hH (k_runV (As := [.int x1, .int x4]) (rest := [.int ((6 * x2) + x4), .ref (ad 10)]) X hH.1 hH.2.1 X.2.2.2 (walkX54_given hc (x1 := x1) (x2 := x4) (f_thrown := f_thrown) (f_cells := f_cells) (f_sizes := f_sizes) (f_keys := f_keys) (f_maps := f_maps) (f_mapCount := f_mapCount) (f_atoms := f_atoms) (f_atomCount := f_atomCount) (f_spans := f_spans) (f_spanCount := f_spanCount) (f_unions := f_unions) (f_unionCount := f_unionCount) (f_isLarge := f_isLarge) (f_trial := f_trial) (f_rowAt := f_rowAt) (f_answers := f_answers) (f_foundBy := f_foundBy) (f_firstBy := f_firstBy) (f_lastBy := f_lastBy) (f_order := f_order) (f_answerCount := f_answerCount) (f_asked := f_asked) (f_tooMany := f_tooMany) hw) (cwV 2 X.1.2.2.2.2 gX54_147 rfl rfl rfl hX54_given ⟨Nat.le_of_ble_eq_true rfl, Nat.le_of_ble_eq_true rfl⟩) hc (q0 := 0) rfl rfl hl.1 rfl (Nat.le_of_ble_eq_true rfl) dX54_note_127 ⟨Nat.le_refl 0, Nat.le_refl 0⟩) (fun r_48 _ H locs hw hH => ?_)
      have hH : kH (dC, dI) cl A s.heap H locs (wX54 ci ad d f_thrown f_cells f_sizes f_keys f_maps f_mapCount f_atoms f_atomCount f_spans f_spanCount f_unions f_unionCount f_isLarge f_trial f_rowAt f_answers f_foundBy f_firstBy f_lastBy f_order f_answerCount f_asked f_tooMany) := hH
      have hq_50 := hw.1
      have hw := hw.2
      have e_51 := z_xi e_47 hq_50 (by decide)
      obtain ⟨f_answers_49, ef_answers_49⟩ : ∃ y : Nat → Int32, y = upd f_answers ((6 * x2) + x4).toNatClampNeg r_48 := ⟨_, rfl⟩
      refine k_iast X hH 10 9 rfl rfl (z_in e_51 hq_50) dX54_note_130 ef_answers_49 (ws1 := (wX54 ci ad d f_thrown f_cells f_sizes f_keys f_maps f_mapCount f_atoms f_atomCount f_spans f_spanCount f_unions f_unionCount f_isLarge f_trial f_rowAt f_answers_49 f_foundBy f_firstBy f_lastBy f_order f_answerCount f_asked f_tooMany)) rfl (fun H locs hH => ?_)
      have hw := hw (zF f_answers_49) (by rw [ef_answers_49]; exact z_st (f := f_answers) e_51 hq_50.1 (rfl : r_48.toInt = _))
      have hq_53 := hw.1
      have hw := hw.2
      obtain ⟨x4_52, ex4_52⟩ : ∃ y : Int32, y = x4 + 1 := ⟨_, rfl⟩
      have hw := hw x4_52.toInt (by rw [ex4_52]; exact (z_x (z_add (z_m (rfl : x4.toInt = _)) (z_m (rfl : (1 : Int32).toInt = 1))) hq_53))
      refine lv_iinc (v := x4_52) (lv' := [(4, .int x4_52), (0, .ref (ad 0)), (1, .int x1), (2, .int x2)]) hx hb dX54_note_131 hl (k := 3) rfl (by rw [ex4_52]; rfl) (by decide) rfl (fun ls hl => ?_)
      refine lv_goto (tgt := 105) hx hb dX54_note_134 (by decide) ?_
      exact ih x4_52 f_answers_49 hw _ _ ls hH (lv_sub hl [1, 2, 3, 0] rfl)
set_option maxHeartbeats 4000000 in
theorem atX54_note_81 {p : Program} {l : Launch} {e : Env} {s : State} {m : MethodId} {args : Array Value} {below : List Frame} {meth : Method} {c : Code} {dC : Nat → ClassId} {dI : Nat → Nat → Nat} {cl : List vw_C} {ci : Nat} (hc : cl[ci]? = some (RX54, TX54, 23)) {ad : Nat → Nat} {d : Nat → ClassId} {A : Nat → Prop} {post : (Int → Int) → (Int → Int) → (Int → Int) → (Int → Int) → Int → Int → Prop} {f_thrown : Int32} {f_cells : Nat → Int32} {f_sizes : Nat → Int32} {f_keys : Nat → Int32} {f_maps : Nat → Int32} {f_mapCount : Int32} {f_atoms : Nat → Int32} {f_atomCount : Int32} {f_spans : Nat → Int32} {f_spanCount : Int32} {f_unions : Nat → Int32} {f_unionCount : Int32} {f_isLarge : Int32} {f_trial : Nat → Int32} {f_rowAt : Nat → Int32} {f_order : Nat → Int32} {f_asked : Nat → Int32} (X : kX p s m args meth c cX54_note 5 RX54 none (dC, dI) cl (tX54 d))     :
    ∀ (x1 : Int32) (x2 : Int32) (f_answers : Nat → Int32) (f_foundBy : Nat → Int32) (f_firstBy : Nat → Int32) (f_lastBy : Nat → Int32) (f_answerCount : Int32) (f_tooMany : Int32), wX54_note_81 post x1.toInt x2.toInt (zF f_cells) (zF f_maps) (zF f_atoms) f_atomCount.toInt (zF f_unions) (zF f_rowAt) (zF f_answers) (zF f_foundBy) (zF f_firstBy) (zF f_lastBy) f_answerCount.toInt f_tooMany.toInt → ∀ (H : Heap) (locs : List Loc) (ls : Array Slot), kH (dC, dI) cl A s.heap H locs (wX54 ci ad d f_thrown f_cells f_sizes f_keys f_maps f_mapCount f_atoms f_atomCount f_spans f_spanCount f_unions f_unionCount f_isLarge f_trial f_rowAt f_answers f_foundBy f_firstBy f_lastBy f_order f_answerCount f_asked f_tooMany) → lv_has ls 5 [(0, .ref (ad 0)), (1, .int x1), (2, .int x2)] → W p l e ({ frames := 4, cells := 0, slots := 0, locals := 92 } : Room) s m args below meth c H locs 0 0 (MQ below (va_Qv (fun (u : (Nat → Int32) × (Nat → Int32) × (Nat → Int32) × (Nat → Int32) × Int32 × Int32) => post (zF (u.1)) (zF (u.2.1)) (zF (u.2.2.1)) (zF (u.2.2.2.1)) (u.2.2.2.2.1).toInt (u.2.2.2.2.2).toInt) (kB (dC, dI) cl (tX54 d) A (fun u : (Nat → Int32) × (Nat → Int32) × (Nat → Int32) × (Nat → Int32) × Int32 × Int32 => (wX54 ci ad d f_thrown f_cells f_sizes f_keys f_maps f_mapCount f_atoms f_atomCount f_spans f_spanCount f_unions f_unionCount f_isLarge f_trial f_rowAt (u.1) (u.2.1) (u.2.2.1) (u.2.2.2.1) f_order (u.2.2.2.2.1) f_asked (u.2.2.2.2.2)))) A) args s 0 0 A) (F0 m 81 ls []) := by
  have hx := X.1.1
  have hb := X.1.2.1
  intro x1 x2 f_answers f_foundBy f_firstBy f_lastBy f_answerCount f_tooMany hw H locs ls hH hl
  unfold wX54_note_81 at hw
  refine lv_iload_n hx hb dX54_note_81 rfl (lv_at hl 2 rfl) ?_
  refine lv_sipush (v := 300) hx hb dX54_note_82 (by decide) ?_
  refine lv_icmp_ne (tgt := 94) hx hb dX54_note_85 (by decide) (fun c_27 => ?_) (fun c_27 => ?_)
  · have hw := hw.2 (z_ne (rfl : x2.toInt = _) (rfl : (300 : Int32).toInt = 300) c_27)
    refine lv_iload_n hx hb dX54_note_94 rfl (lv_at hl 2 rfl) ?_
    refine lv_aload_n hx hb dX54_note_95 rfl (lv_at hl 0 rfl) ?_
    refine k_get X hH in_X54 0 rfl hc 20 (by decide) q6520 rfl dX54_note_96 ?_
    refine lv_icmp_ne (tgt := 168) hx hb dX54_note_99 (by decide) (fun c_28 => ?_) (fun c_28 => ?_)
    · have hw := hw.2 (z_ne (rfl : x2.toInt = _) (rfl : f_answerCount.toInt = _) c_28)
      exact atX54_note_168 hc X x1 x2 f_answers f_foundBy f_firstBy f_lastBy f_answerCount f_tooMany hw _ _ ls hH (lv_sub hl [0, 1, 2] rfl)
    · have hw := hw.1 (z_eq (rfl : x2.toInt = _) (rfl : f_answerCount.toInt = _) c_28)
      refine lv_iconst (v := 0) hx hb dX54_note_102 (by decide) ?_
      refine lv_istore (lv' := [(4, .int 0), (0, .ref (ad 0)), (1, .int x1), (2, .int x2)]) hx hb dX54_note_103 hl (by decide) rfl (fun ls hl => ?_)
      obtain ⟨fu, hw⟩ := hw
      refine atX54_note_105 hc X ?_ fu 0 f_answers hw _ _ ls hH (lv_sub hl [1, 2, 3, 0] rfl)
      · intro f_answers_54 hw H locs ls hH hl
        refine lv_aload_n hx hb dX54_note_137 rfl (lv_at hl 0 rfl) ?_
        refine k_get X hH in_X54 0 rfl hc 16 (by decide) q6516 rfl dX54_note_138 ?_
        refine lv_iload_n hx hb dX54_note_141 rfl (lv_at hl 2 rfl) ?_
        refine lv_iconst (v := 0) hx hb dX54_note_142 (by decide) ?_
        have hq_56 := hw.1
        have hw := hw.2
        obtain ⟨f_foundBy_55, ef_foundBy_55⟩ : ∃ y : Nat → Int32, y = upd f_foundBy x2.toNatClampNeg 0 := ⟨_, rfl⟩
        refine k_iast X hH 11 10 rfl rfl (z_in (rfl : x2.toInt = _) hq_56) dX54_note_143 ef_foundBy_55 (ws1 := (wX54 ci ad d f_thrown f_cells f_sizes f_keys f_maps f_mapCount f_atoms f_atomCount f_spans f_spanCount f_unions f_unionCount f_isLarge f_trial f_rowAt f_answers_54 f_foundBy_55 f_firstBy f_lastBy f_order f_answerCount f_asked f_tooMany)) rfl (fun H locs hH => ?_)
        have hw := hw (zF f_foundBy_55) (by rw [ef_foundBy_55]; exact z_st (f := f_foundBy) (rfl : x2.toInt = _) hq_56.1 (rfl : (0 : Int32).toInt = 0))
        refine lv_aload_n hx hb dX54_note_144 rfl (lv_at hl 0 rfl) ?_
        refine k_get X hH in_X54 0 rfl hc 17 (by decide) q6517 rfl dX54_note_145 ?_
        refine lv_iload_n hx hb dX54_note_148 rfl (lv_at hl 2 rfl) ?_
        refine lv_iload_n hx hb dX54_note_149 rfl (lv_at hl 1 rfl) ?_
        obtain ⟨f_firstBy_57, ef_firstBy_57⟩ : ∃ y : Nat → Int32, y = upd f_firstBy x2.toNatClampNeg x1 := ⟨_, rfl⟩
        refine k_iast X hH 12 11 rfl rfl (z_in (rfl : x2.toInt = _) hq_56) dX54_note_150 ef_firstBy_57 (ws1 := (wX54 ci ad d f_thrown f_cells f_sizes f_keys f_maps f_mapCount f_atoms f_atomCount f_spans f_spanCount f_unions f_unionCount f_isLarge f_trial f_rowAt f_answers_54 f_foundBy_55 f_firstBy_57 f_lastBy f_order f_answerCount f_asked f_tooMany)) rfl (fun H locs hH => ?_)
        have hw := hw (zF f_firstBy_57) (by rw [ef_firstBy_57]; exact z_st (f := f_firstBy) (rfl : x2.toInt = _) hq_56.1 (rfl : x1.toInt = _))
        refine lv_aload_n hx hb dX54_note_151 rfl (lv_at hl 0 rfl) ?_
        refine k_get X hH in_X54 0 rfl hc 18 (by decide) q6518 rfl dX54_note_152 ?_
        refine lv_iload_n hx hb dX54_note_155 rfl (lv_at hl 2 rfl) ?_
        refine lv_iconst (v := (-1)) hx hb dX54_note_156 (by decide) ?_
        obtain ⟨f_lastBy_58, ef_lastBy_58⟩ : ∃ y : Nat → Int32, y = upd f_lastBy x2.toNatClampNeg (-1) := ⟨_, rfl⟩
        refine k_iast X hH 13 12 rfl rfl (z_in (rfl : x2.toInt = _) hq_56) dX54_note_157 ef_lastBy_58 (ws1 := (wX54 ci ad d f_thrown f_cells f_sizes f_keys f_maps f_mapCount f_atoms f_atomCount f_spans f_spanCount f_unions f_unionCount f_isLarge f_trial f_rowAt f_answers_54 f_foundBy_55 f_firstBy_57 f_lastBy_58 f_order f_answerCount f_asked f_tooMany)) rfl (fun H locs hH => ?_)
        have hw := hw (zF f_lastBy_58) (by rw [ef_lastBy_58]; exact z_st (f := f_lastBy) (rfl : x2.toInt = _) hq_56.1 (rfl : ((-1) : Int32).toInt = (-1)))
        refine lv_aload_n hx hb dX54_note_158 rfl (lv_at hl 0 rfl) ?_
        refine lv_dup hx hb dX54_note_159 rfl ?_
        refine k_get X hH in_X54 0 rfl hc 20 (by decide) q6520 rfl dX54_note_160 ?_
        refine lv_iconst (v := 1) hx hb dX54_note_163 (by decide) ?_
        refine lv_iadd hx hb dX54_note_164 ?_
        have e_59 := z_add (z_m (rfl : f_answerCount.toInt = _)) (z_m (rfl : (1 : Int32).toInt = 1))
        have hq_60 := hw.1
        have hw := hw.2
        have e_61 := z_x e_59 hq_60
        refine lv_topi (fun f_answerCount_62 ef_answerCount_62 => ?_)
        have hw := hw f_answerCount_62.toInt (by rw [ef_answerCount_62]; exact e_61)
        refine k_put X hH in_X54 tyX54_ok nmX54 0 rfl hc 20 (by decide) q6520 rfl (ty := .int) rfl rfl rfl (Nat.le_of_ble_eq_true rfl) dX54_note_165 (ws1 := (wX54 ci ad d f_thrown f_cells f_sizes f_keys f_maps f_mapCount f_atoms f_atomCount f_spans f_spanCount f_unions f_unionCount f_isLarge f_trial f_rowAt f_answers_54 f_foundBy_55 f_firstBy_57 f_lastBy_58 f_order f_answerCount_62 f_asked f_tooMany)) rfl (fun H locs hH => ?_)
        exact atX54_note_168 hc X x1 x2 f_answers_54 f_foundBy_55 f_firstBy_57 f_lastBy_58 f_answerCount_62 f_tooMany hw _ _ ls hH (lv_sub hl [0, 1, 2] rfl)
  · have hw := hw.1 (z_eq (rfl : x2.toInt = _) (rfl : (300 : Int32).toInt = 300) c_27)
    refine lv_aload_n hx hb dX54_note_88 rfl (lv_at hl 0 rfl) ?_
    refine lv_iconst (v := 1) hx hb dX54_note_89 (by decide) ?_
    refine k_put X hH in_X54 tyX54_ok nmX54 0 rfl hc 22 (by decide) q6522 rfl (ty := .boolean) rfl rfl rfl (Nat.le_of_ble_eq_true rfl) dX54_note_90 (ws1 := (wX54 ci ad d f_thrown f_cells f_sizes f_keys f_maps f_mapCount f_atoms f_atomCount f_spans f_spanCount f_unions f_unionCount f_isLarge f_trial f_rowAt f_answers f_foundBy f_firstBy f_lastBy f_order f_answerCount f_asked 1)) rfl (fun H locs hH => ?_)
    exact k_vret X hH (f_answers, f_foundBy, f_firstBy, f_lastBy, f_answerCount, 1) hw rfl dX54_note_93
set_option maxHeartbeats 4000000 in
theorem walkX54_note {l : Launch} {dC : Nat → ClassId} {dI : Nat → Nat → Nat} {cl : List vw_C} {ci : Nat} (hc : cl[ci]? = some (RX54, TX54, 23)) {ad : Nat → Nat} {d : Nat → ClassId} {sz : Nat} {f_thrown : Int32} {f_cells : Nat → Int32} {f_sizes : Nat → Int32} {f_keys : Nat → Int32} {f_maps : Nat → Int32} {f_mapCount : Int32} {f_atoms : Nat → Int32} {f_atomCount : Int32} {f_spans : Nat → Int32} {f_spanCount : Int32} {f_unions : Nat → Int32} {f_unionCount : Int32} {f_isLarge : Int32} {f_trial : Nat → Int32} {f_rowAt : Nat → Int32} {f_answers : Nat → Int32} {f_foundBy : Nat → Int32} {f_firstBy : Nat → Int32} {f_lastBy : Nat → Int32} {f_order : Nat → Int32} {f_answerCount : Int32} {f_asked : Nat → Int32} {f_tooMany : Int32} {x1 : Int32} {post : (Int → Int) → (Int → Int) → (Int → Int) → (Int → Int) → Int → Int → Prop} (hw : wpX54_note post (zF f_cells) (zF f_maps) (zF f_atoms) f_atomCount.toInt (zF f_unions) (zF f_rowAt) (zF f_answers) (zF f_foundBy) (zF f_firstBy) (zF f_lastBy) f_answerCount.toInt f_tooMany.toInt x1.toInt) :
    Met l yX54_note (ws_ yX54_note cX54_note 5 none) ({ frames := 4, cells := 0, slots := 0, locals := 92 } : Room) (kPc (dC, dI) cl (tX54 d) [.ref (ad 0), .int x1] sz (wX54 ci ad d f_thrown f_cells f_sizes f_keys f_maps f_mapCount f_atoms f_atomCount f_spans f_spanCount f_unions f_unionCount f_isLarge f_trial f_rowAt f_answers f_foundBy f_firstBy f_lastBy f_order f_answerCount f_asked f_tooMany)) (va_Qv (fun (u : (Nat → Int32) × (Nat → Int32) × (Nat → Int32) × (Nat → Int32) × Int32 × Int32) => post (zF (u.1)) (zF (u.2.1)) (zF (u.2.2.1)) (zF (u.2.2.2.1)) (u.2.2.2.2.1).toInt (u.2.2.2.2.2).toInt) (kB (dC, dI) cl (tX54 d) (va_A (wX54 ci ad d f_thrown f_cells f_sizes f_keys f_maps f_mapCount f_atoms f_atomCount f_spans f_spanCount f_unions f_unionCount f_isLarge f_trial f_rowAt f_answers f_foundBy f_firstBy f_lastBy f_order f_answerCount f_asked f_tooMany) sz) (fun u : (Nat → Int32) × (Nat → Int32) × (Nat → Int32) × (Nat → Int32) × Int32 × Int32 => (wX54 ci ad d f_thrown f_cells f_sizes f_keys f_maps f_mapCount f_atoms f_atomCount f_spans f_spanCount f_unions f_unionCount f_isLarge f_trial f_rowAt (u.1) (u.2.1) (u.2.2.1) (u.2.2.2.1) f_order (u.2.2.2.2.1) f_asked (u.2.2.2.2.2)))) (va_A (wX54 ci ad d f_thrown f_cells f_sizes f_keys f_maps f_mapCount f_atoms f_atomCount f_spans f_spanCount f_unions f_unionCount f_isLarge f_trial f_rowAt f_answers f_foundBy f_firstBy f_lastBy f_order f_answerCount f_asked f_tooMany) sz)) 0 0 (va_A (wX54 ci ad d f_thrown f_cells f_sizes f_keys f_maps f_mapCount f_atoms f_atomCount f_spans f_spanCount f_unions f_unionCount f_isLarge f_trial f_rowAt f_answers f_foundBy f_firstBy f_lastBy f_order f_answerCount f_asked f_tooMany) sz) := by
  refine k_enter (by decide) (Nat.le_of_ble_eq_true rfl) ?_
  intro p e s m below meth c ls X hsz hH hl
  subst hsz
  generalize va_A (wX54 ci ad d f_thrown f_cells f_sizes f_keys f_maps f_mapCount f_atoms f_atomCount f_spans f_spanCount f_unions f_unionCount f_isLarge f_trial f_rowAt f_answers f_foundBy f_firstBy f_lastBy f_order f_answerCount f_asked f_tooMany) s.heap.size = A at hH ⊢
  have hx := X.1.1
  have hb := X.1.2.1
  have hl : lv_has ls 5 [(0, .ref (ad 0)), (1, .int x1)] := hl
  unfold wpX54_note at hw
  refine lv_iconst (v := 0) hx hb dX54_note_0 (by decide) ?_
  refine lv_istore_n (lv' := [(2, .int 0), (0, .ref (ad 0)), (1, .int x1)]) hx hb dX54_note_1 rfl hl (by decide) rfl (fun ls hl => ?_)
  refine lv_iconst (v := 0) hx hb dX54_note_2 (by decide) ?_
  refine lv_istore_n (lv' := [(3, .int 0), (2, .int 0), (0, .ref (ad 0)), (1, .int x1)]) hx hb dX54_note_3 rfl hl (by decide) rfl (fun ls hl => ?_)
  obtain ⟨fu, hw⟩ := hw
  refine atX54_note_4 hc X ?_ fu 0 0 hw _ _ ls hH (lv_sub hl [2, 3, 1, 0] rfl)
  · intro x2_26 hw H locs ls hH hl
    exact atX54_note_81 hc X x1 x2_26 f_answers f_foundBy f_firstBy f_lastBy f_answerCount f_tooMany hw _ _ ls hH (lv_sub hl [0, 1, 2] rfl)
set_option maxHeartbeats 4000000 in
theorem atX54_look_113 {p : Program} {l : Launch} {e : Env} {s : State} {m : MethodId} {args : Array Value} {below : List Frame} {meth : Method} {c : Code} {dC : Nat → ClassId} {dI : Nat → Nat → Nat} {cl : List vw_C} {ci : Nat} (hc : cl[ci]? = some (RX54, TX54, 23)) {ad : Nat → Nat} {d : Nat → ClassId} {A : Nat → Prop} {post : (Int → Int) → (Int → Int) → (Int → Int) → (Int → Int) → (Int → Int) → Int → Int → Prop} {f_thrown : Int32} {f_cells : Nat → Int32} {f_sizes : Nat → Int32} {f_keys : Nat → Int32} {f_maps : Nat → Int32} {f_mapCount : Int32} {f_atoms : Nat → Int32} {f_atomCount : Int32} {f_spans : Nat → Int32} {f_spanCount : Int32} {f_unions : Nat → Int32} {f_unionCount : Int32} {f_isLarge : Int32} {f_trial : Nat → Int32} {f_order : Nat → Int32} {f_asked : Nat → Int32} (X : kX p s m args meth c cX54_look 5 RX54 none (dC, dI) cl (tX54 d)) {K9 : Int → (Int → Int) → (Int → Int) → (Int → Int) → (Int → Int) → (Int → Int) → Int → Int → Prop} {x1 : Int32}  (hk9 : ∀ (x2 : Int32) (f_rowAt : Nat → Int32) (f_answers : Nat → Int32) (f_foundBy : Nat → Int32) (f_firstBy : Nat → Int32) (f_lastBy : Nat → Int32) (f_answerCount : Int32) (f_tooMany : Int32), K9 x2.toInt (zF f_rowAt) (zF f_answers) (zF f_foundBy) (zF f_firstBy) (zF f_lastBy) f_answerCount.toInt f_tooMany.toInt → ∀ (H : Heap) (locs : List Loc) (ls : Array Slot), kH (dC, dI) cl A s.heap H locs (wX54 ci ad d f_thrown f_cells f_sizes f_keys f_maps f_mapCount f_atoms f_atomCount f_spans f_spanCount f_unions f_unionCount f_isLarge f_trial f_rowAt f_answers f_foundBy f_firstBy f_lastBy f_order f_answerCount f_asked f_tooMany) → lv_has ls 5 [(0, .ref (ad 0)), (1, .int x1), (2, .int x2)] → W p l e ({ frames := 5, cells := 0, slots := 0, locals := 116 } : Room) s m args below meth c H locs 0 0 (MQ below (va_Qv (fun (u : (Nat → Int32) × (Nat → Int32) × (Nat → Int32) × (Nat → Int32) × (Nat → Int32) × Int32 × Int32) => post (zF (u.1)) (zF (u.2.1)) (zF (u.2.2.1)) (zF (u.2.2.2.1)) (zF (u.2.2.2.2.1)) (u.2.2.2.2.2.1).toInt (u.2.2.2.2.2.2).toInt) (kB (dC, dI) cl (tX54 d) A (fun u : (Nat → Int32) × (Nat → Int32) × (Nat → Int32) × (Nat → Int32) × (Nat → Int32) × Int32 × Int32 => (wX54 ci ad d f_thrown f_cells f_sizes f_keys f_maps f_mapCount f_atoms f_atomCount f_spans f_spanCount f_unions f_unionCount f_isLarge f_trial (u.1) (u.2.1) (u.2.2.1) (u.2.2.2.1) (u.2.2.2.2.1) f_order (u.2.2.2.2.2.1) f_asked (u.2.2.2.2.2.2)))) A) args s 0 0 A) (F0 m 9 ls [])) :
    ∀ (x2 : Int32) (x4 : Int32) (f_rowAt : Nat → Int32) (f_answers : Nat → Int32) (f_foundBy : Nat → Int32) (f_firstBy : Nat → Int32) (f_lastBy : Nat → Int32) (f_answerCount : Int32) (f_tooMany : Int32), wX54_look_113 K9 x1.toInt x2.toInt x4.toInt (zF f_cells) (zF f_maps) (zF f_atoms) f_atomCount.toInt (zF f_spans) f_spanCount.toInt (zF f_unions) (zF f_rowAt) (zF f_answers) (zF f_foundBy) (zF f_firstBy) (zF f_lastBy) f_answerCount.toInt f_tooMany.toInt → ∀ (H : Heap) (locs : List Loc) (ls : Array Slot), kH (dC, dI) cl A s.heap H locs (wX54 ci ad d f_thrown f_cells f_sizes f_keys f_maps f_mapCount f_atoms f_atomCount f_spans f_spanCount f_unions f_unionCount f_isLarge f_trial f_rowAt f_answers f_foundBy f_firstBy f_lastBy f_order f_answerCount f_asked f_tooMany) → lv_has ls 5 [(0, .ref (ad 0)), (1, .int x1), (2, .int x2), (4, .int x4)] → W p l e ({ frames := 5, cells := 0, slots := 0, locals := 116 } : Room) s m args below meth c H locs 0 0 (MQ below (va_Qv (fun (u : (Nat → Int32) × (Nat → Int32) × (Nat → Int32) × (Nat → Int32) × (Nat → Int32) × Int32 × Int32) => post (zF (u.1)) (zF (u.2.1)) (zF (u.2.2.1)) (zF (u.2.2.2.1)) (zF (u.2.2.2.2.1)) (u.2.2.2.2.2.1).toInt (u.2.2.2.2.2.2).toInt) (kB (dC, dI) cl (tX54 d) A (fun u : (Nat → Int32) × (Nat → Int32) × (Nat → Int32) × (Nat → Int32) × (Nat → Int32) × Int32 × Int32 => (wX54 ci ad d f_thrown f_cells f_sizes f_keys f_maps f_mapCount f_atoms f_atomCount f_spans f_spanCount f_unions f_unionCount f_isLarge f_trial (u.1) (u.2.1) (u.2.2.1) (u.2.2.2.1) (u.2.2.2.2.1) f_order (u.2.2.2.2.2.1) f_asked (u.2.2.2.2.2.2)))) A) args s 0 0 A) (F0 m 113 ls []) := by
  have hx := X.1.1
  have hb := X.1.2.1
  intro x2 x4 f_rowAt f_answers f_foundBy f_firstBy f_lastBy f_answerCount f_tooMany hw H locs ls hH hl
  unfold wX54_look_113 at hw
  refine lv_iload hx hb dX54_look_113 (lv_at hl 3 rfl) ?_
  refine lv_if_ne (tgt := 124) hx hb dX54_look_115 (by decide) (fun c_26 => ?_) (fun c_26 => ?_)
  · have hw := hw.2 (z_ne (rfl : x4.toInt = _) (rfl : (0 : Int32).toInt = 0) c_26)
    refine lv_aload_n hx hb dX54_look_124 rfl (lv_at hl 0 rfl) ?_
    refine lv_iload_n hx hb dX54_look_125 rfl (lv_at hl 1 rfl) ?_
    refine lv_iload_n hx hb dX54_look_126 rfl (lv_at hl 2 rfl) ?_
    refine k_i0 hH (k_runV (As := [.int x1, .int x2]) (rest := []) X hH.1 hH.2.1 X.2.2.2 (walkX54_goes hc (x1 := x1) (x2 := x2) (f_thrown := f_thrown) (f_cells := f_cells) (f_sizes := f_sizes) (f_keys := f_keys) (f_maps := f_maps) (f_mapCount := f_mapCount) (f_atoms := f_atoms) (f_atomCount := f_atomCount) (f_spans := f_spans) (f_spanCount := f_spanCount) (f_unions := f_unions) (f_unionCount := f_unionCount) (f_isLarge := f_isLarge) (f_trial := f_trial) (f_rowAt := f_rowAt) (f_answers := f_answers) (f_foundBy := f_foundBy) (f_firstBy := f_firstBy) (f_lastBy := f_lastBy) (f_order := f_order) (f_answerCount := f_answerCount) (f_asked := f_asked) (f_tooMany := f_tooMany) hw) (cwV 2 X.1.2.2.2.2 gX54_137 rfl rfl rfl hX54_goes ⟨Nat.le_of_ble_eq_true rfl, Nat.le_of_ble_eq_true rfl⟩) hc (q0 := 0) rfl rfl hl.1 rfl (Nat.le_of_ble_eq_true rfl) dX54_look_127 ⟨Nat.le_refl 0, Nat.le_refl 0⟩) (fun r_27 _ H locs hw hH => ?_)
    have hH : kH (dC, dI) cl A s.heap H locs (wX54 ci ad d f_thrown f_cells f_sizes f_keys f_maps f_mapCount f_atoms f_atomCount f_spans f_spanCount f_unions f_unionCount f_isLarge f_trial f_rowAt f_answers f_foundBy f_firstBy f_lastBy f_order f_answerCount f_asked f_tooMany) := hH
    refine lv_if_eq (tgt := 161) hx hb dX54_look_130 (by decide) (fun c_28 => ?_) (fun c_28 => ?_)
    · have hw := hw.1 (z_eq (rfl : r_27.toInt = _) (rfl : (0 : Int32).toInt = 0) c_28)
      refine lv_goto (tgt := 9) hx hb dX54_look_161 (by decide) ?_
      exact hk9 x2 f_rowAt f_answers f_foundBy f_firstBy f_lastBy f_answerCount f_tooMany hw _ _ ls hH (lv_sub hl [0, 1, 2] rfl)
    · have hw := hw.2 (z_neq (rfl : r_27.toInt = _) (rfl : (0 : Int32).toInt = 0) c_28)
      refine lv_iload_n hx hb dX54_look_133 rfl (lv_at hl 2 rfl) ?_
      refine lv_iconst (v := 1) hx hb dX54_look_134 (by decide) ?_
      refine lv_iadd hx hb dX54_look_135 ?_
      have e_29 := z_add (z_m (rfl : x2.toInt = _)) (z_m (rfl : (1 : Int32).toInt = 1))
      refine lv_aload_n hx hb dX54_look_136 rfl (lv_at hl 0 rfl) ?_
      refine k_get X hH in_X54 0 rfl hc 7 (by decide) q6507 rfl dX54_look_137 ?_
      have hq_31 := hw.1
      have hw := hw.2
      have e_32 := z_x e_29 hq_31
      refine lv_icmp_ge (tgt := 156) hx hb dX54_look_140 (by decide) (fun c_30 => ?_) (fun c_30 => ?_)
      · have hw := hw.1 (z_le (rfl : f_atomCount.toInt = _) e_32 c_30)
        refine lv_aload_n hx hb dX54_look_156 rfl (lv_at hl 0 rfl) ?_
        refine lv_iload_n hx hb dX54_look_157 rfl (lv_at hl 1 rfl) ?_
        refine k_v0 hH (k_runV (As := [.int x1]) (rest := []) X hH.1 hH.2.1 X.2.2.2 (walkX54_note hc (x1 := x1) (f_thrown := f_thrown) (f_cells := f_cells) (f_sizes := f_sizes) (f_keys := f_keys) (f_maps := f_maps) (f_mapCount := f_mapCount) (f_atoms := f_atoms) (f_atomCount := f_atomCount) (f_spans := f_spans) (f_spanCount := f_spanCount) (f_unions := f_unions) (f_unionCount := f_unionCount) (f_isLarge := f_isLarge) (f_trial := f_trial) (f_rowAt := f_rowAt) (f_answers := f_answers) (f_foundBy := f_foundBy) (f_firstBy := f_firstBy) (f_lastBy := f_lastBy) (f_order := f_order) (f_answerCount := f_answerCount) (f_asked := f_asked) (f_tooMany := f_tooMany) hw) (cwV 1 X.1.2.2.2.2 gX54_140 rfl rfl rfl hX54_note ⟨Nat.le_of_ble_eq_true rfl, Nat.le_of_ble_eq_true rfl⟩) hc (q0 := 0) rfl rfl hl.1 rfl (Nat.le_of_ble_eq_true rfl) dX54_look_158 ⟨Nat.le_refl 0, Nat.le_refl 0⟩) (fun u H locs hw hH => ?_)
        obtain ⟨f_answers_33, f_foundBy_34, f_firstBy_35, f_lastBy_36, f_answerCount_37, f_tooMany_38⟩ := u
        have hH : kH (dC, dI) cl A s.heap H locs (wX54 ci ad d f_thrown f_cells f_sizes f_keys f_maps f_mapCount f_atoms f_atomCount f_spans f_spanCount f_unions f_unionCount f_isLarge f_trial f_rowAt f_answers_33 f_foundBy_34 f_firstBy_35 f_lastBy_36 f_order f_answerCount_37 f_asked f_tooMany_38) := hH
        refine lv_goto (tgt := 9) hx hb dX54_look_161 (by decide) ?_
        exact hk9 x2 f_rowAt f_answers_33 f_foundBy_34 f_firstBy_35 f_lastBy_36 f_answerCount_37 f_tooMany_38 hw _ _ ls hH (lv_sub hl [0, 1, 2] rfl)
      · have hw := hw.2 (z_nle (rfl : f_atomCount.toInt = _) e_32 c_30)
        obtain ⟨x2_39, ex2_39⟩ : ∃ y : Int32, y = x2 + 1 := ⟨_, rfl⟩
        have hw := hw x2_39.toInt (by rw [ex2_39]; exact (z_x (z_add (z_m (rfl : x2.toInt = _)) (z_m (rfl : (1 : Int32).toInt = 1))) hq_31))
        refine lv_iinc (v := x2_39) (lv' := [(2, .int x2_39), (0, .ref (ad 0)), (1, .int x1), (4, .int x4)]) hx hb dX54_look_143 hl (k := 2) rfl (by rw [ex2_39]; rfl) (by decide) rfl (fun ls hl => ?_)
        refine lv_aload_n hx hb dX54_look_146 rfl (lv_at hl 1 rfl) ?_
        refine k_get X hH in_X54 0 rfl hc 14 (by decide) q6514 rfl dX54_look_147 ?_
        refine lv_iload_n hx hb dX54_look_150 rfl (lv_at hl 0 rfl) ?_
        refine lv_iconst (v := (-1)) hx hb dX54_look_151 (by decide) ?_
        have hq_41 := hw.1
        have hw := hw.2
        obtain ⟨f_rowAt_40, ef_rowAt_40⟩ : ∃ y : Nat → Int32, y = upd f_rowAt x2_39.toNatClampNeg (-1) := ⟨_, rfl⟩
        refine k_iast X hH 9 8 rfl rfl (z_in (rfl : x2_39.toInt = _) hq_41) dX54_look_152 ef_rowAt_40 (ws1 := (wX54 ci ad d f_thrown f_cells f_sizes f_keys f_maps f_mapCount f_atoms f_atomCount f_spans f_spanCount f_unions f_unionCount f_isLarge f_trial f_rowAt_40 f_answers f_foundBy f_firstBy f_lastBy f_order f_answerCount f_asked f_tooMany)) rfl (fun H locs hH => ?_)
        have hw := hw (zF f_rowAt_40) (by rw [ef_rowAt_40]; exact z_st (f := f_rowAt) (rfl : x2_39.toInt = _) hq_41.1 (rfl : ((-1) : Int32).toInt = (-1)))
        refine lv_goto (tgt := 161) hx hb dX54_look_153 (by decide) ?_
        refine lv_goto (tgt := 9) hx hb dX54_look_161 (by decide) ?_
        exact hk9 x2_39 f_rowAt_40 f_answers f_foundBy f_firstBy f_lastBy f_answerCount f_tooMany hw _ _ ls hH (lv_sub hl [1, 2, 0] rfl)
  · have hw := hw.1 (z_eq (rfl : x4.toInt = _) (rfl : (0 : Int32).toInt = 0) c_26)
    have hq_43 := hw.1
    have hw := hw.2
    obtain ⟨x2_42, ex2_42⟩ : ∃ y : Int32, y = x2 + (-1) := ⟨_, rfl⟩
    have hw := hw x2_42.toInt (by rw [ex2_42]; exact (z_x (z_add (z_m (rfl : x2.toInt = _)) (z_m (rfl : ((-1) : Int32).toInt = (-1)))) hq_43))
    refine lv_iinc (v := x2_42) (lv' := [(2, .int x2_42), (0, .ref (ad 0)), (1, .int x1), (4, .int x4)]) hx hb dX54_look_118 hl (k := 2) rfl (by rw [ex2_42]; rfl) (by decide) rfl (fun ls hl => ?_)
    refine lv_goto (tgt := 161) hx hb dX54_look_121 (by decide) ?_
    refine lv_goto (tgt := 9) hx hb dX54_look_161 (by decide) ?_
    exact hk9 x2_42 f_rowAt f_answers f_foundBy f_firstBy f_lastBy f_answerCount f_tooMany hw _ _ ls hH (lv_sub hl [1, 2, 0] rfl)
set_option maxHeartbeats 4000000 in
theorem atX54_look_9 {p : Program} {l : Launch} {e : Env} {s : State} {m : MethodId} {args : Array Value} {below : List Frame} {meth : Method} {c : Code} {dC : Nat → ClassId} {dI : Nat → Nat → Nat} {cl : List vw_C} {ci : Nat} (hc : cl[ci]? = some (RX54, TX54, 23)) {ad : Nat → Nat} {d : Nat → ClassId} {A : Nat → Prop} {post : (Int → Int) → (Int → Int) → (Int → Int) → (Int → Int) → (Int → Int) → Int → Int → Prop} {f_thrown : Int32} {f_cells : Nat → Int32} {f_sizes : Nat → Int32} {f_keys : Nat → Int32} {f_maps : Nat → Int32} {f_mapCount : Int32} {f_atoms : Nat → Int32} {f_atomCount : Int32} {f_spans : Nat → Int32} {f_spanCount : Int32} {f_unions : Nat → Int32} {f_unionCount : Int32} {f_isLarge : Int32} {f_trial : Nat → Int32} {f_order : Nat → Int32} {f_asked : Nat → Int32} (X : kX p s m args meth c cX54_look 5 RX54 none (dC, dI) cl (tX54 d)) {K164 : (Int → Int) → (Int → Int) → (Int → Int) → (Int → Int) → (Int → Int) → Int → Int → Prop} {x1 : Int32}  (hk164 : ∀ (f_rowAt : Nat → Int32) (f_answers : Nat → Int32) (f_foundBy : Nat → Int32) (f_firstBy : Nat → Int32) (f_lastBy : Nat → Int32) (f_answerCount : Int32) (f_tooMany : Int32), K164 (zF f_rowAt) (zF f_answers) (zF f_foundBy) (zF f_firstBy) (zF f_lastBy) f_answerCount.toInt f_tooMany.toInt → ∀ (H : Heap) (locs : List Loc) (ls : Array Slot), kH (dC, dI) cl A s.heap H locs (wX54 ci ad d f_thrown f_cells f_sizes f_keys f_maps f_mapCount f_atoms f_atomCount f_spans f_spanCount f_unions f_unionCount f_isLarge f_trial f_rowAt f_answers f_foundBy f_firstBy f_lastBy f_order f_answerCount f_asked f_tooMany) → lv_has ls 5 [] → W p l e ({ frames := 5, cells := 0, slots := 0, locals := 116 } : Room) s m args below meth c H locs 0 0 (MQ below (va_Qv (fun (u : (Nat → Int32) × (Nat → Int32) × (Nat → Int32) × (Nat → Int32) × (Nat → Int32) × Int32 × Int32) => post (zF (u.1)) (zF (u.2.1)) (zF (u.2.2.1)) (zF (u.2.2.2.1)) (zF (u.2.2.2.2.1)) (u.2.2.2.2.2.1).toInt (u.2.2.2.2.2.2).toInt) (kB (dC, dI) cl (tX54 d) A (fun u : (Nat → Int32) × (Nat → Int32) × (Nat → Int32) × (Nat → Int32) × (Nat → Int32) × Int32 × Int32 => (wX54 ci ad d f_thrown f_cells f_sizes f_keys f_maps f_mapCount f_atoms f_atomCount f_spans f_spanCount f_unions f_unionCount f_isLarge f_trial (u.1) (u.2.1) (u.2.2.1) (u.2.2.2.1) (u.2.2.2.2.1) f_order (u.2.2.2.2.2.1) f_asked (u.2.2.2.2.2.2)))) A) args s 0 0 A) (F0 m 164 ls [])) :
    ∀ (nn : Nat) (x2 : Int32) (f_rowAt : Nat → Int32) (f_answers : Nat → Int32) (f_foundBy : Nat → Int32) (f_firstBy : Nat → Int32) (f_lastBy : Nat → Int32) (f_answerCount : Int32) (f_tooMany : Int32), wX54_look_9 K164 x1.toInt (zF f_cells) (zF f_sizes) (zF f_maps) (zF f_atoms) f_atomCount.toInt (zF f_spans) f_spanCount.toInt (zF f_unions) nn x2.toInt (zF f_rowAt) (zF f_answers) (zF f_foundBy) (zF f_firstBy) (zF f_lastBy) f_answerCount.toInt f_tooMany.toInt → ∀ (H : Heap) (locs : List Loc) (ls : Array Slot), kH (dC, dI) cl A s.heap H locs (wX54 ci ad d f_thrown f_cells f_sizes f_keys f_maps f_mapCount f_atoms f_atomCount f_spans f_spanCount f_unions f_unionCount f_isLarge f_trial f_rowAt f_answers f_foundBy f_firstBy f_lastBy f_order f_answerCount f_asked f_tooMany) → lv_has ls 5 [(0, .ref (ad 0)), (1, .int x1), (2, .int x2)] → W p l e ({ frames := 5, cells := 0, slots := 0, locals := 116 } : Room) s m args below meth c H locs 0 0 (MQ below (va_Qv (fun (u : (Nat → Int32) × (Nat → Int32) × (Nat → Int32) × (Nat → Int32) × (Nat → Int32) × Int32 × Int32) => post (zF (u.1)) (zF (u.2.1)) (zF (u.2.2.1)) (zF (u.2.2.2.1)) (zF (u.2.2.2.2.1)) (u.2.2.2.2.2.1).toInt (u.2.2.2.2.2.2).toInt) (kB (dC, dI) cl (tX54 d) A (fun u : (Nat → Int32) × (Nat → Int32) × (Nat → Int32) × (Nat → Int32) × (Nat → Int32) × Int32 × Int32 => (wX54 ci ad d f_thrown f_cells f_sizes f_keys f_maps f_mapCount f_atoms f_atomCount f_spans f_spanCount f_unions f_unionCount f_isLarge f_trial (u.1) (u.2.1) (u.2.2.1) (u.2.2.2.1) (u.2.2.2.2.1) f_order (u.2.2.2.2.2.1) f_asked (u.2.2.2.2.2.2)))) A) args s 0 0 A) (F0 m 9 ls []) := by
  have hx := X.1.1
  have hb := X.1.2.1
  intro nn
  induction nn with
  | zero =>
    intro x2 f_rowAt f_answers f_foundBy f_firstBy f_lastBy f_answerCount f_tooMany hw
    exact False.elim hw
  | succ n ih =>
    intro x2 f_rowAt f_answers f_foundBy f_firstBy f_lastBy f_answerCount f_tooMany hw H locs ls hH hl
    rw [wX54_look_9] at hw
    refine lv_iload_n hx hb dX54_look_9 rfl (lv_at hl 2 rfl) ?_
    refine lv_if_lt (tgt := 164) hx hb dX54_look_10 (by decide) (fun c_2 => ?_) (fun c_2 => ?_)
    · have hw := hw.1 (z_lt (rfl : x2.toInt = _) (rfl : (0 : Int32).toInt = 0) c_2)
      exact hk164 f_rowAt f_answers f_foundBy f_firstBy f_lastBy f_answerCount f_tooMany hw _ _ ls hH (lv_sub hl [] rfl)
    · have hw := hw.2 (z_nlt (rfl : x2.toInt = _) (rfl : (0 : Int32).toInt = 0) c_2)
      refine lv_aload_n hx hb dX54_look_13 rfl (lv_at hl 0 rfl) ?_
      refine k_get X hH in_X54 0 rfl hc 22 (by decide) q6522 rfl dX54_look_14 ?_
      refine lv_if_ne (tgt := 164) hx hb dX54_look_17 (by decide) (fun c_3 => ?_) (fun c_3 => ?_)
      · have hw := hw.2 (z_ne (rfl : f_tooMany.toInt = _) (rfl : (0 : Int32).toInt = 0) c_3)
        exact hk164 f_rowAt f_answers f_foundBy f_firstBy f_lastBy f_answerCount f_tooMany hw _ _ ls hH (lv_sub hl [] rfl)
      · have hw := hw.1 (z_eq (rfl : f_tooMany.toInt = _) (rfl : (0 : Int32).toInt = 0) c_3)
        refine lv_aload_n hx hb dX54_look_20 rfl (lv_at hl 0 rfl) ?_
        refine lv_iload_n hx hb dX54_look_21 rfl (lv_at hl 1 rfl) ?_
        refine lv_iload_n hx hb dX54_look_22 rfl (lv_at hl 2 rfl) ?_
        refine k_i0 hH (k_runV (As := [.int x1, .int x2]) (rest := []) X hH.1 hH.2.1 X.2.2.2 (walkX54_leader hc (x1 := x1) (x2 := x2) (f_thrown := f_thrown) (f_cells := f_cells) (f_sizes := f_sizes) (f_keys := f_keys) (f_maps := f_maps) (f_mapCount := f_mapCount) (f_atoms := f_atoms) (f_atomCount := f_atomCount) (f_spans := f_spans) (f_spanCount := f_spanCount) (f_unions := f_unions) (f_unionCount := f_unionCount) (f_isLarge := f_isLarge) (f_trial := f_trial) (f_rowAt := f_rowAt) (f_answers := f_answers) (f_foundBy := f_foundBy) (f_firstBy := f_firstBy) (f_lastBy := f_lastBy) (f_order := f_order) (f_answerCount := f_answerCount) (f_asked := f_asked) (f_tooMany := f_tooMany) hw) (cwV 2 X.1.2.2.2.2 gX54_134 rfl rfl rfl hX54_leader ⟨Nat.le_of_ble_eq_true rfl, Nat.le_of_ble_eq_true rfl⟩) hc (q0 := 0) rfl rfl hl.1 rfl (Nat.le_of_ble_eq_true rfl) dX54_look_23 ⟨Nat.le_refl 0, Nat.le_refl 0⟩) (fun r_4 _ H locs hw hH => ?_)
        have hH : kH (dC, dI) cl A s.heap H locs (wX54 ci ad d f_thrown f_cells f_sizes f_keys f_maps f_mapCount f_atoms f_atomCount f_spans f_spanCount f_unions f_unionCount f_isLarge f_trial f_rowAt f_answers f_foundBy f_firstBy f_lastBy f_order f_answerCount f_asked f_tooMany) := hH
        refine lv_istore_n (lv' := [(3, .int r_4), (0, .ref (ad 0)), (1, .int x1), (2, .int x2)]) hx hb dX54_look_26 rfl hl (by decide) rfl (fun ls hl => ?_)
        refine lv_iload_n hx hb dX54_look_27 rfl (lv_at hl 0 rfl) ?_
        refine lv_iload_n hx hb dX54_look_28 rfl (lv_at hl 3 rfl) ?_
        refine lv_icmp_ge (tgt := 63) hx hb dX54_look_29 (by decide) (fun c_5 => ?_) (fun c_5 => ?_)
        · have hw := hw.1 (z_le (rfl : x2.toInt = _) (rfl : r_4.toInt = _) c_5)
          refine lv_aload_n hx hb dX54_look_63 rfl (lv_at hl 1 rfl) ?_
          refine k_get X hH in_X54 0 rfl hc 14 (by decide) q6514 rfl dX54_look_64 ?_
          refine lv_iload_n hx hb dX54_look_67 rfl (lv_at hl 3 rfl) ?_
          refine lv_dup2_11 hx hb dX54_look_68 rfl rfl ?_
          have hq_6 := hw.1
          have hw := hw.2
          refine k_iald X hH 9 8 rfl rfl (z_in (rfl : x2.toInt = _) hq_6) dX54_look_69 ?_
          have e_7 := z_ld (f := f_rowAt) (rfl : x2.toInt = _) hq_6.1
          refine lv_iconst (v := 1) hx hb dX54_look_70 (by decide) ?_
          refine lv_iadd hx hb dX54_look_71 ?_
          have e_8 := z_add (z_m e_7) (z_m (rfl : (1 : Int32).toInt = 1))
          have hq_9 := hw.1
          have hw := hw.2
          have e_10 := z_x e_8 hq_9
          refine lv_topi (fun v_11 ev_11 => ?_)
          have hw := hw v_11.toInt (by rw [ev_11]; exact e_10)
          obtain ⟨f_rowAt_12, ef_rowAt_12⟩ : ∃ y : Nat → Int32, y = upd f_rowAt x2.toNatClampNeg v_11 := ⟨_, rfl⟩
          refine k_iast X hH 9 8 rfl rfl (z_in (rfl : x2.toInt = _) hq_6) dX54_look_72 ef_rowAt_12 (ws1 := (wX54 ci ad d f_thrown f_cells f_sizes f_keys f_maps f_mapCount f_atoms f_atomCount f_spans f_spanCount f_unions f_unionCount f_isLarge f_trial f_rowAt_12 f_answers f_foundBy f_firstBy f_lastBy f_order f_answerCount f_asked f_tooMany)) rfl (fun H locs hH => ?_)
          have hw := hw (zF f_rowAt_12) (by rw [ef_rowAt_12]; exact z_st (f := f_rowAt) (rfl : x2.toInt = _) hq_6.1 (rfl : v_11.toInt = _))
          refine lv_aload_n hx hb dX54_look_73 rfl (lv_at hl 1 rfl) ?_
          refine k_get X hH in_X54 0 rfl hc 14 (by decide) q6514 rfl dX54_look_74 ?_
          refine lv_iload_n hx hb dX54_look_77 rfl (lv_at hl 3 rfl) ?_
          refine k_iald X hH 9 8 rfl rfl (z_in (rfl : x2.toInt = _) hq_6) dX54_look_78 ?_
          have e_13 := z_ld (f := f_rowAt_12) (rfl : x2.toInt = _) hq_6.1
          refine lv_aload_n hx hb dX54_look_79 rfl (lv_at hl 1 rfl) ?_
          refine k_get X hH in_X54 0 rfl hc 2 (by decide) q6502 rfl dX54_look_80 ?_
          refine lv_aload_n hx hb dX54_look_83 rfl (lv_at hl 1 rfl) ?_
          refine k_get X hH in_X54 0 rfl hc 4 (by decide) q6504 rfl dX54_look_84 ?_
          refine lv_bipush (v := 6) hx hb dX54_look_87 (by decide) ?_
          refine lv_aload_n hx hb dX54_look_89 rfl (lv_at hl 1 rfl) ?_
          refine k_get X hH in_X54 0 rfl hc 10 (by decide) q6510 rfl dX54_look_90 ?_
          refine lv_bipush (v := 9) hx hb dX54_look_93 (by decide) ?_
          refine lv_iload_n hx hb dX54_look_95 rfl (lv_at hl 2 rfl) ?_
          refine lv_imul hx hb dX54_look_96 ?_
          have e_14 := z_mul (z_m (rfl : (9 : Int32).toInt = 9)) (z_m (rfl : x1.toInt = _))
          refine lv_iload_n hx hb dX54_look_97 rfl (lv_at hl 3 rfl) ?_
          refine lv_iadd hx hb dX54_look_98 ?_
          have e_15 := z_add e_14 (z_m (rfl : x2.toInt = _))
          have hq_16 := hw.1
          have hw := hw.2
          have e_17 := z_xi e_15 hq_16 (by decide)
          refine k_iald X hH 7 6 rfl rfl (z_in e_17 hq_16) dX54_look_99 ?_
          have e_18 := z_ld (f := f_unions) e_17 hq_16.1
          refine lv_imul hx hb dX54_look_100 ?_
          have e_19 := z_mul (z_m (rfl : (6 : Int32).toInt = 6)) (z_m e_18)
          have hq_20 := hw.1
          have hw := hw.2
          have e_21 := z_xi e_19 hq_20 (by decide)
          refine k_iald X hH 4 3 rfl rfl (z_in e_21 hq_20) dX54_look_101 ?_
          have e_22 := z_ld (f := f_maps) e_21 hq_20.1
          have hq_23 := hw.1
          have hw := hw.2
          refine k_iald X hH 2 1 rfl rfl (z_in e_22 hq_23) dX54_look_102 ?_
          have e_24 := z_ld (f := f_sizes) e_22 hq_23.1
          refine lv_icmp_ge (tgt := 110) hx hb dX54_look_103 (by decide) (fun c_25 => ?_) (fun c_25 => ?_)
          · have hw := hw.1 (z_le e_24 e_13 c_25)
            refine lv_iconst (v := 0) hx hb dX54_look_110 (by decide) ?_
            refine lv_istore (lv' := [(4, .int 0), (3, .int r_4), (0, .ref (ad 0)), (1, .int x1), (2, .int x2)]) hx hb dX54_look_111 hl (by decide) rfl (fun ls hl => ?_)
            exact atX54_look_113 hc X (fun x2 f_rowAt f_answers f_foundBy f_firstBy f_lastBy f_answerCount f_tooMany hw H locs ls hH hl => ih x2 f_rowAt f_answers f_foundBy f_firstBy f_lastBy f_answerCount f_tooMany hw _ _ ls hH (lv_sub hl [0, 1, 2] rfl)) x2 0 f_rowAt_12 f_answers f_foundBy f_firstBy f_lastBy f_answerCount f_tooMany hw _ _ ls hH (lv_sub hl [2, 3, 4, 0] rfl)
          · have hw := hw.2 (z_nle e_24 e_13 c_25)
            refine lv_iconst (v := 1) hx hb dX54_look_106 (by decide) ?_
            refine lv_goto (tgt := 111) hx hb dX54_look_107 (by decide) ?_
            refine lv_istore (lv' := [(4, .int 1), (3, .int r_4), (0, .ref (ad 0)), (1, .int x1), (2, .int x2)]) hx hb dX54_look_111 hl (by decide) rfl (fun ls hl => ?_)
            exact atX54_look_113 hc X (fun x2 f_rowAt f_answers f_foundBy f_firstBy f_lastBy f_answerCount f_tooMany hw H locs ls hH hl => ih x2 f_rowAt f_answers f_foundBy f_firstBy f_lastBy f_answerCount f_tooMany hw _ _ ls hH (lv_sub hl [0, 1, 2] rfl)) x2 1 f_rowAt_12 f_answers f_foundBy f_firstBy f_lastBy f_answerCount f_tooMany hw _ _ ls hH (lv_sub hl [2, 3, 4, 0] rfl)
        · have hw := hw.2 (z_nle (rfl : x2.toInt = _) (rfl : r_4.toInt = _) c_5)
          refine lv_aload_n hx hb dX54_look_32 rfl (lv_at hl 1 rfl) ?_
          refine k_get X hH in_X54 0 rfl hc 14 (by decide) q6514 rfl dX54_look_33 ?_
          refine lv_iload_n hx hb dX54_look_36 rfl (lv_at hl 3 rfl) ?_
          have hq_44 := hw.1
          have hw := hw.2
          refine k_iald X hH 9 8 rfl rfl (z_in (rfl : x2.toInt = _) hq_44) dX54_look_37 ?_
          have e_45 := z_ld (f := f_rowAt) (rfl : x2.toInt = _) hq_44.1
          refine lv_if_ge (tgt := 45) hx hb dX54_look_38 (by decide) (fun c_46 => ?_) (fun c_46 => ?_)
          · have hw := hw.1 (z_le (rfl : (0 : Int32).toInt = 0) e_45 c_46)
            refine lv_iconst (v := 0) hx hb dX54_look_45 (by decide) ?_
            refine lv_istore (lv' := [(4, .int 0), (3, .int r_4), (0, .ref (ad 0)), (1, .int x1), (2, .int x2)]) hx hb dX54_look_46 hl (by decide) rfl (fun ls hl => ?_)
            refine lv_aload_n hx hb dX54_look_48 rfl (lv_at hl 2 rfl) ?_
            refine k_get X hH in_X54 0 rfl hc 14 (by decide) q6514 rfl dX54_look_49 ?_
            refine lv_iload_n hx hb dX54_look_52 rfl (lv_at hl 4 rfl) ?_
            refine lv_aload_n hx hb dX54_look_53 rfl (lv_at hl 2 rfl) ?_
            refine k_get X hH in_X54 0 rfl hc 14 (by decide) q6514 rfl dX54_look_54 ?_
            refine lv_iload_n hx hb dX54_look_57 rfl (lv_at hl 1 rfl) ?_
            have hq_47 := hw.1
            have hw := hw.2
            refine k_iald X hH 9 8 rfl rfl (z_in (rfl : r_4.toInt = _) hq_47) dX54_look_58 ?_
            have e_48 := z_ld (f := f_rowAt) (rfl : r_4.toInt = _) hq_47.1
            refine lv_topi (fun v_49 ev_49 => ?_)
            have hw := hw v_49.toInt (by rw [ev_49]; exact e_48)
            obtain ⟨f_rowAt_50, ef_rowAt_50⟩ : ∃ y : Nat → Int32, y = upd f_rowAt x2.toNatClampNeg v_49 := ⟨_, rfl⟩
            refine k_iast X hH 9 8 rfl rfl (z_in (rfl : x2.toInt = _) hq_44) dX54_look_59 ef_rowAt_50 (ws1 := (wX54 ci ad d f_thrown f_cells f_sizes f_keys f_maps f_mapCount f_atoms f_atomCount f_spans f_spanCount f_unions f_unionCount f_isLarge f_trial f_rowAt_50 f_answers f_foundBy f_firstBy f_lastBy f_order f_answerCount f_asked f_tooMany)) rfl (fun H locs hH => ?_)
            have hw := hw (zF f_rowAt_50) (by rw [ef_rowAt_50]; exact z_st (f := f_rowAt) (rfl : x2.toInt = _) hq_44.1 (rfl : v_49.toInt = _))
            refine lv_goto (tgt := 113) hx hb dX54_look_60 (by decide) ?_
            exact atX54_look_113 hc X (fun x2 f_rowAt f_answers f_foundBy f_firstBy f_lastBy f_answerCount f_tooMany hw H locs ls hH hl => ih x2 f_rowAt f_answers f_foundBy f_firstBy f_lastBy f_answerCount f_tooMany hw _ _ ls hH (lv_sub hl [0, 1, 2] rfl)) x2 0 f_rowAt_50 f_answers f_foundBy f_firstBy f_lastBy f_answerCount f_tooMany hw _ _ ls hH (lv_sub hl [2, 3, 4, 0] rfl)
          · have hw := hw.2 (z_nle (rfl : (0 : Int32).toInt = 0) e_45 c_46)
            refine lv_iconst (v := 1) hx hb dX54_look_41 (by decide) ?_
            refine lv_goto (tgt := 46) hx hb dX54_look_42 (by decide) ?_
            refine lv_istore (lv' := [(4, .int 1), (3, .int r_4), (0, .ref (ad 0)), (1, .int x1), (2, .int x2)]) hx hb dX54_look_46 hl (by decide) rfl (fun ls hl => ?_)
            refine lv_aload_n hx hb dX54_look_48 rfl (lv_at hl 2 rfl) ?_
            refine k_get X hH in_X54 0 rfl hc 14 (by decide) q6514 rfl dX54_look_49 ?_
            refine lv_iload_n hx hb dX54_look_52 rfl (lv_at hl 4 rfl) ?_
            refine lv_aload_n hx hb dX54_look_53 rfl (lv_at hl 2 rfl) ?_
            refine k_get X hH in_X54 0 rfl hc 14 (by decide) q6514 rfl dX54_look_54 ?_
            refine lv_iload_n hx hb dX54_look_57 rfl (lv_at hl 1 rfl) ?_
            have hq_51 := hw.1
            have hw := hw.2
            refine k_iald X hH 9 8 rfl rfl (z_in (rfl : r_4.toInt = _) hq_51) dX54_look_58 ?_
            have e_52 := z_ld (f := f_rowAt) (rfl : r_4.toInt = _) hq_51.1
            refine lv_topi (fun v_53 ev_53 => ?_)
            have hw := hw v_53.toInt (by rw [ev_53]; exact e_52)
            obtain ⟨f_rowAt_54, ef_rowAt_54⟩ : ∃ y : Nat → Int32, y = upd f_rowAt x2.toNatClampNeg v_53 := ⟨_, rfl⟩
            refine k_iast X hH 9 8 rfl rfl (z_in (rfl : x2.toInt = _) hq_44) dX54_look_59 ef_rowAt_54 (ws1 := (wX54 ci ad d f_thrown f_cells f_sizes f_keys f_maps f_mapCount f_atoms f_atomCount f_spans f_spanCount f_unions f_unionCount f_isLarge f_trial f_rowAt_54 f_answers f_foundBy f_firstBy f_lastBy f_order f_answerCount f_asked f_tooMany)) rfl (fun H locs hH => ?_)
            have hw := hw (zF f_rowAt_54) (by rw [ef_rowAt_54]; exact z_st (f := f_rowAt) (rfl : x2.toInt = _) hq_44.1 (rfl : v_53.toInt = _))
            refine lv_goto (tgt := 113) hx hb dX54_look_60 (by decide) ?_
            exact atX54_look_113 hc X (fun x2 f_rowAt f_answers f_foundBy f_firstBy f_lastBy f_answerCount f_tooMany hw H locs ls hH hl => ih x2 f_rowAt f_answers f_foundBy f_firstBy f_lastBy f_answerCount f_tooMany hw _ _ ls hH (lv_sub hl [0, 1, 2] rfl)) x2 1 f_rowAt_54 f_answers f_foundBy f_firstBy f_lastBy f_answerCount f_tooMany hw _ _ ls hH (lv_sub hl [2, 3, 4, 0] rfl)
set_option maxHeartbeats 4000000 in
theorem walkX54_look {l : Launch} {dC : Nat → ClassId} {dI : Nat → Nat → Nat} {cl : List vw_C} {ci : Nat} (hc : cl[ci]? = some (RX54, TX54, 23)) {ad : Nat → Nat} {d : Nat → ClassId} {sz : Nat} {f_thrown : Int32} {f_cells : Nat → Int32} {f_sizes : Nat → Int32} {f_keys : Nat → Int32} {f_maps : Nat → Int32} {f_mapCount : Int32} {f_atoms : Nat → Int32} {f_atomCount : Int32} {f_spans : Nat → Int32} {f_spanCount : Int32} {f_unions : Nat → Int32} {f_unionCount : Int32} {f_isLarge : Int32} {f_trial : Nat → Int32} {f_rowAt : Nat → Int32} {f_answers : Nat → Int32} {f_foundBy : Nat → Int32} {f_firstBy : Nat → Int32} {f_lastBy : Nat → Int32} {f_order : Nat → Int32} {f_answerCount : Int32} {f_asked : Nat → Int32} {f_tooMany : Int32} {x1 : Int32} {post : (Int → Int) → (Int → Int) → (Int → Int) → (Int → Int) → (Int → Int) → Int → Int → Prop} (hw : wpX54_look post (zF f_cells) (zF f_sizes) (zF f_maps) (zF f_atoms) f_atomCount.toInt (zF f_spans) f_spanCount.toInt (zF f_unions) (zF f_rowAt) (zF f_answers) (zF f_foundBy) (zF f_firstBy) (zF f_lastBy) f_answerCount.toInt f_tooMany.toInt x1.toInt) :
    Met l yX54_look (ws_ yX54_look cX54_look 5 none) ({ frames := 5, cells := 0, slots := 0, locals := 116 } : Room) (kPc (dC, dI) cl (tX54 d) [.ref (ad 0), .int x1] sz (wX54 ci ad d f_thrown f_cells f_sizes f_keys f_maps f_mapCount f_atoms f_atomCount f_spans f_spanCount f_unions f_unionCount f_isLarge f_trial f_rowAt f_answers f_foundBy f_firstBy f_lastBy f_order f_answerCount f_asked f_tooMany)) (va_Qv (fun (u : (Nat → Int32) × (Nat → Int32) × (Nat → Int32) × (Nat → Int32) × (Nat → Int32) × Int32 × Int32) => post (zF (u.1)) (zF (u.2.1)) (zF (u.2.2.1)) (zF (u.2.2.2.1)) (zF (u.2.2.2.2.1)) (u.2.2.2.2.2.1).toInt (u.2.2.2.2.2.2).toInt) (kB (dC, dI) cl (tX54 d) (va_A (wX54 ci ad d f_thrown f_cells f_sizes f_keys f_maps f_mapCount f_atoms f_atomCount f_spans f_spanCount f_unions f_unionCount f_isLarge f_trial f_rowAt f_answers f_foundBy f_firstBy f_lastBy f_order f_answerCount f_asked f_tooMany) sz) (fun u : (Nat → Int32) × (Nat → Int32) × (Nat → Int32) × (Nat → Int32) × (Nat → Int32) × Int32 × Int32 => (wX54 ci ad d f_thrown f_cells f_sizes f_keys f_maps f_mapCount f_atoms f_atomCount f_spans f_spanCount f_unions f_unionCount f_isLarge f_trial (u.1) (u.2.1) (u.2.2.1) (u.2.2.2.1) (u.2.2.2.2.1) f_order (u.2.2.2.2.2.1) f_asked (u.2.2.2.2.2.2)))) (va_A (wX54 ci ad d f_thrown f_cells f_sizes f_keys f_maps f_mapCount f_atoms f_atomCount f_spans f_spanCount f_unions f_unionCount f_isLarge f_trial f_rowAt f_answers f_foundBy f_firstBy f_lastBy f_order f_answerCount f_asked f_tooMany) sz)) 0 0 (va_A (wX54 ci ad d f_thrown f_cells f_sizes f_keys f_maps f_mapCount f_atoms f_atomCount f_spans f_spanCount f_unions f_unionCount f_isLarge f_trial f_rowAt f_answers f_foundBy f_firstBy f_lastBy f_order f_answerCount f_asked f_tooMany) sz) := by
  refine k_enter (by decide) (Nat.le_of_ble_eq_true rfl) ?_
  intro p e s m below meth c ls X hsz hH hl
  subst hsz
  generalize va_A (wX54 ci ad d f_thrown f_cells f_sizes f_keys f_maps f_mapCount f_atoms f_atomCount f_spans f_spanCount f_unions f_unionCount f_isLarge f_trial f_rowAt f_answers f_foundBy f_firstBy f_lastBy f_order f_answerCount f_asked f_tooMany) s.heap.size = A at hH ⊢
  have hx := X.1.1
  have hb := X.1.2.1
  have hl : lv_has ls 5 [(0, .ref (ad 0)), (1, .int x1)] := hl
  unfold wpX54_look at hw
  refine lv_iconst (v := 0) hx hb dX54_look_0 (by decide) ?_
  refine lv_istore_n (lv' := [(2, .int 0), (0, .ref (ad 0)), (1, .int x1)]) hx hb dX54_look_1 rfl hl (by decide) rfl (fun ls hl => ?_)
  refine lv_aload_n hx hb dX54_look_2 rfl (lv_at hl 1 rfl) ?_
  refine k_get X hH in_X54 0 rfl hc 14 (by decide) q6514 rfl dX54_look_3 ?_
  refine lv_iconst (v := 0) hx hb dX54_look_6 (by decide) ?_
  refine lv_iconst (v := (-1)) hx hb dX54_look_7 (by decide) ?_
  obtain ⟨f_rowAt_1, ef_rowAt_1⟩ : ∃ y : Nat → Int32, y = upd f_rowAt (0 : Int32).toNatClampNeg (-1) := ⟨_, rfl⟩
  refine k_iast X hH 9 8 rfl rfl (by unfold vp_in; decide) dX54_look_8 ef_rowAt_1 (ws1 := (wX54 ci ad d f_thrown f_cells f_sizes f_keys f_maps f_mapCount f_atoms f_atomCount f_spans f_spanCount f_unions f_unionCount f_isLarge f_trial f_rowAt_1 f_answers f_foundBy f_firstBy f_lastBy f_order f_answerCount f_asked f_tooMany)) rfl (fun H locs hH => ?_)
  have hw := hw (zF f_rowAt_1) (by rw [ef_rowAt_1]; exact z_st (f := f_rowAt) (rfl : (0 : Int32).toInt = 0) (by decide) (rfl : ((-1) : Int32).toInt = (-1)))
  obtain ⟨fu, hw⟩ := hw
  refine atX54_look_9 hc X ?_ fu 0 f_rowAt_1 f_answers f_foundBy f_firstBy f_lastBy f_answerCount f_tooMany hw _ _ ls hH (lv_sub hl [1, 2, 0] rfl)
  · intro f_rowAt_55 f_answers_56 f_foundBy_57 f_firstBy_58 f_lastBy_59 f_answerCount_60 f_tooMany_61 hw H locs ls hH hl
    exact k_vret X hH (f_rowAt_55, f_answers_56, f_foundBy_57, f_firstBy_58, f_lastBy_59, f_answerCount_60, f_tooMany_61) hw rfl dX54_look_164
set_option maxHeartbeats 4000000 in
theorem atX54_isLess_2 {p : Program} {l : Launch} {e : Env} {s : State} {m : MethodId} {args : Array Value} {below : List Frame} {meth : Method} {c : Code} {dC : Nat → ClassId} {dI : Nat → Nat → Nat} {cl : List vw_C} {ci : Nat} (hc : cl[ci]? = some (RX54, TX54, 23)) {ad : Nat → Nat} {d : Nat → ClassId} {A : Nat → Prop} {post : Int → Prop} {f_thrown : Int32} {f_cells : Nat → Int32} {f_sizes : Nat → Int32} {f_keys : Nat → Int32} {f_maps : Nat → Int32} {f_mapCount : Int32} {f_atoms : Nat → Int32} {f_atomCount : Int32} {f_spans : Nat → Int32} {f_spanCount : Int32} {f_unions : Nat → Int32} {f_unionCount : Int32} {f_isLarge : Int32} {f_trial : Nat → Int32} {f_rowAt : Nat → Int32} {f_answers : Nat → Int32} {f_foundBy : Nat → Int32} {f_firstBy : Nat → Int32} {f_lastBy : Nat → Int32} {f_order : Nat → Int32} {f_answerCount : Int32} {f_asked : Nat → Int32} {f_tooMany : Int32} (X : kX p s m args meth c cX54_isLess 4 RX54 (some .boolean) (dC, dI) cl (tX54 d)) {K39 : Int → Prop} {x1 : Int32} {x2 : Int32}  (hk39 : ∀ (x3 : Int32), K39 x3.toInt → ∀ (H : Heap) (locs : List Loc) (ls : Array Slot), kH (dC, dI) cl A s.heap H locs (wX54 ci ad d f_thrown f_cells f_sizes f_keys f_maps f_mapCount f_atoms f_atomCount f_spans f_spanCount f_unions f_unionCount f_isLarge f_trial f_rowAt f_answers f_foundBy f_firstBy f_lastBy f_order f_answerCount f_asked f_tooMany) → lv_has ls 4 [(0, .ref (ad 0)), (1, .int x1), (2, .int x2), (3, .int x3)] → W p l e ({ frames := 0, cells := 0, slots := 0, locals := 0 } : Room) s m args below meth c H locs 0 0 (MQ below (va_Qi (fun (r : Int32) (_ : Unit) => post r.toInt) (kB (dC, dI) cl (tX54 d) A (fun _ : Unit => (wX54 ci ad d f_thrown f_cells f_sizes f_keys f_maps f_mapCount f_atoms f_atomCount f_spans f_spanCount f_unions f_unionCount f_isLarge f_trial f_rowAt f_answers f_foundBy f_firstBy f_lastBy f_order f_answerCount f_asked f_tooMany))) A) args s 0 0 A) (F0 m 39 ls [])) :
    ∀ (nn : Nat) (x3 : Int32), wX54_isLess_2 K39 x1.toInt x2.toInt (zF f_answers) nn x3.toInt → ∀ (H : Heap) (locs : List Loc) (ls : Array Slot), kH (dC, dI) cl A s.heap H locs (wX54 ci ad d f_thrown f_cells f_sizes f_keys f_maps f_mapCount f_atoms f_atomCount f_spans f_spanCount f_unions f_unionCount f_isLarge f_trial f_rowAt f_answers f_foundBy f_firstBy f_lastBy f_order f_answerCount f_asked f_tooMany) → lv_has ls 4 [(0, .ref (ad 0)), (1, .int x1), (2, .int x2), (3, .int x3)] → W p l e ({ frames := 0, cells := 0, slots := 0, locals := 0 } : Room) s m args below meth c H locs 0 0 (MQ below (va_Qi (fun (r : Int32) (_ : Unit) => post r.toInt) (kB (dC, dI) cl (tX54 d) A (fun _ : Unit => (wX54 ci ad d f_thrown f_cells f_sizes f_keys f_maps f_mapCount f_atoms f_atomCount f_spans f_spanCount f_unions f_unionCount f_isLarge f_trial f_rowAt f_answers f_foundBy f_firstBy f_lastBy f_order f_answerCount f_asked f_tooMany))) A) args s 0 0 A) (F0 m 2 ls []) := by
  have hx := X.1.1
  have hb := X.1.2.1
  intro nn
  induction nn with
  | zero =>
    intro x3 hw
    exact False.elim hw
  | succ n ih =>
    intro x3 hw H locs ls hH hl
    rw [wX54_isLess_2] at hw
    refine lv_iload_n hx hb dX54_isLess_2 rfl (lv_at hl 3 rfl) ?_
    refine lv_bipush (v := 6) hx hb dX54_isLess_3 (by decide) ?_
    refine lv_icmp_ge (tgt := 39) hx hb dX54_isLess_5 (by decide) (fun c_1 => ?_) (fun c_1 => ?_)
    · have hw := hw.1 (z_le (rfl : (6 : Int32).toInt = 6) (rfl : x3.toInt = _) c_1)
      exact hk39 x3 hw _ _ ls hH (lv_sub hl [0, 1, 2, 3] rfl)
    · have hw := hw.2 (z_nle (rfl : (6 : Int32).toInt = 6) (rfl : x3.toInt = _) c_1)
      refine lv_aload_n hx hb dX54_isLess_8 rfl (lv_at hl 0 rfl) ?_
      refine k_get X hH in_X54 0 rfl hc 15 (by decide) q6515 rfl dX54_isLess_9 ?_
      refine lv_bipush (v := 6) hx hb dX54_isLess_12 (by decide) ?_
      refine lv_iload_n hx hb dX54_isLess_14 rfl (lv_at hl 1 rfl) ?_
      refine lv_imul hx hb dX54_isLess_15 ?_
      have e_2 := z_mul (z_m (rfl : (6 : Int32).toInt = 6)) (z_m (rfl : x1.toInt = _))
      refine lv_iload_n hx hb dX54_isLess_16 rfl (lv_at hl 3 rfl) ?_
      refine lv_iadd hx hb dX54_isLess_17 ?_
      have e_3 := z_add e_2 (z_m (rfl : x3.toInt = _))
      have hq_4 := hw.1
      have hw := hw.2
      have e_5 := z_xi e_3 hq_4 (by decide)
      refine k_iald X hH 10 9 rfl rfl (z_in e_5 hq_4) dX54_isLess_18 ?_
      have e_6 := z_ld (f := f_answers) e_5 hq_4.1
      refine lv_aload_n hx hb dX54_isLess_19 rfl (lv_at hl 0 rfl) ?_
      refine k_get X hH in_X54 0 rfl hc 15 (by decide) q6515 rfl dX54_isLess_20 ?_
      refine lv_bipush (v := 6) hx hb dX54_isLess_23 (by decide) ?_
      refine lv_iload_n hx hb dX54_isLess_25 rfl (lv_at hl 2 rfl) ?_
      refine lv_imul hx hb dX54_isLess_26 ?_
      have e_7 := z_mul (z_m (rfl : (6 : Int32).toInt = 6)) (z_m (rfl : x2.toInt = _))
      refine lv_iload_n hx hb dX54_isLess_27 rfl (lv_at hl 3 rfl) ?_
      refine lv_iadd hx hb dX54_isLess_28 ?_
      have e_8 := z_add e_7 (z_m (rfl : x3.toInt = _))
      have hq_9 := hw.1
      have hw := hw.2
      have e_10 := z_xi e_8 hq_9 (by decide)
      refine k_iald X hH 10 9 rfl rfl (z_in e_10 hq_9) dX54_isLess_29 ?_
      have e_11 := z_ld (f := f_answers) e_10 hq_9.1
      refine lv_icmp_ne (tgt := 39) hx hb dX54_isLess_30 (by decide) (fun c_12 => ?_) (fun c_12 => ?_)
      · have hw := hw.2 (z_ne e_6 e_11 c_12)
        exact hk39 x3 hw _ _ ls hH (lv_sub hl [0, 1, 2, 3] rfl)
      · have hw := hw.1 (z_eq e_6 e_11 c_12)
        have hq_14 := hw.1
        have hw := hw.2
        obtain ⟨x3_13, ex3_13⟩ : ∃ y : Int32, y = x3 + 1 := ⟨_, rfl⟩
        have hw := hw x3_13.toInt (by rw [ex3_13]; exact (z_x (z_add (z_m (rfl : x3.toInt = _)) (z_m (rfl : (1 : Int32).toInt = 1))) hq_14))
        refine lv_iinc (v := x3_13) (lv' := [(3, .int x3_13), (0, .ref (ad 0)), (1, .int x1), (2, .int x2)]) hx hb dX54_isLess_33 hl (k := 3) rfl (by rw [ex3_13]; rfl) (by decide) rfl (fun ls hl => ?_)
        refine lv_goto (tgt := 2) hx hb dX54_isLess_36 (by decide) ?_
        exact ih x3_13 hw _ _ ls hH (lv_sub hl [1, 2, 3, 0] rfl)
set_option maxHeartbeats 4000000 in
theorem atX54_isLess_39 {p : Program} {l : Launch} {e : Env} {s : State} {m : MethodId} {args : Array Value} {below : List Frame} {meth : Method} {c : Code} {dC : Nat → ClassId} {dI : Nat → Nat → Nat} {cl : List vw_C} {ci : Nat} (hc : cl[ci]? = some (RX54, TX54, 23)) {ad : Nat → Nat} {d : Nat → ClassId} {A : Nat → Prop} {post : Int → Prop} {f_thrown : Int32} {f_cells : Nat → Int32} {f_sizes : Nat → Int32} {f_keys : Nat → Int32} {f_maps : Nat → Int32} {f_mapCount : Int32} {f_atoms : Nat → Int32} {f_atomCount : Int32} {f_spans : Nat → Int32} {f_spanCount : Int32} {f_unions : Nat → Int32} {f_unionCount : Int32} {f_isLarge : Int32} {f_trial : Nat → Int32} {f_rowAt : Nat → Int32} {f_answers : Nat → Int32} {f_foundBy : Nat → Int32} {f_firstBy : Nat → Int32} {f_lastBy : Nat → Int32} {f_order : Nat → Int32} {f_answerCount : Int32} {f_asked : Nat → Int32} {f_tooMany : Int32} (X : kX p s m args meth c cX54_isLess 4 RX54 (some .boolean) (dC, dI) cl (tX54 d))     :
    ∀ (x1 : Int32) (x2 : Int32) (x3 : Int32), wX54_isLess_39 post x1.toInt x2.toInt x3.toInt (zF f_answers) → ∀ (H : Heap) (locs : List Loc) (ls : Array Slot), kH (dC, dI) cl A s.heap H locs (wX54 ci ad d f_thrown f_cells f_sizes f_keys f_maps f_mapCount f_atoms f_atomCount f_spans f_spanCount f_unions f_unionCount f_isLarge f_trial f_rowAt f_answers f_foundBy f_firstBy f_lastBy f_order f_answerCount f_asked f_tooMany) → lv_has ls 4 [(0, .ref (ad 0)), (1, .int x1), (2, .int x2), (3, .int x3)] → W p l e ({ frames := 0, cells := 0, slots := 0, locals := 0 } : Room) s m args below meth c H locs 0 0 (MQ below (va_Qi (fun (r : Int32) (_ : Unit) => post r.toInt) (kB (dC, dI) cl (tX54 d) A (fun _ : Unit => (wX54 ci ad d f_thrown f_cells f_sizes f_keys f_maps f_mapCount f_atoms f_atomCount f_spans f_spanCount f_unions f_unionCount f_isLarge f_trial f_rowAt f_answers f_foundBy f_firstBy f_lastBy f_order f_answerCount f_asked f_tooMany))) A) args s 0 0 A) (F0 m 39 ls []) := by
  have hx := X.1.1
  have hb := X.1.2.1
  intro x1 x2 x3 hw H locs ls hH hl
  unfold wX54_isLess_39 at hw
  refine lv_iload_n hx hb dX54_isLess_39 rfl (lv_at hl 3 rfl) ?_
  refine lv_bipush (v := 6) hx hb dX54_isLess_40 (by decide) ?_
  refine lv_icmp_ge (tgt := 74) hx hb dX54_isLess_42 (by decide) (fun c_16 => ?_) (fun c_16 => ?_)
  · have hw := hw.1 (z_le (rfl : (6 : Int32).toInt = 6) (rfl : x3.toInt = _) c_16)
    refine lv_iconst (v := 0) hx hb dX54_isLess_74 (by decide) ?_
    exact k_iret (v := 0) X hH () hw rfl rfl dX54_isLess_75
  · have hw := hw.2 (z_nle (rfl : (6 : Int32).toInt = 6) (rfl : x3.toInt = _) c_16)
    refine lv_aload_n hx hb dX54_isLess_45 rfl (lv_at hl 0 rfl) ?_
    refine k_get X hH in_X54 0 rfl hc 15 (by decide) q6515 rfl dX54_isLess_46 ?_
    refine lv_bipush (v := 6) hx hb dX54_isLess_49 (by decide) ?_
    refine lv_iload_n hx hb dX54_isLess_51 rfl (lv_at hl 1 rfl) ?_
    refine lv_imul hx hb dX54_isLess_52 ?_
    have e_17 := z_mul (z_m (rfl : (6 : Int32).toInt = 6)) (z_m (rfl : x1.toInt = _))
    refine lv_iload_n hx hb dX54_isLess_53 rfl (lv_at hl 3 rfl) ?_
    refine lv_iadd hx hb dX54_isLess_54 ?_
    have e_18 := z_add e_17 (z_m (rfl : x3.toInt = _))
    have hq_19 := hw.1
    have hw := hw.2
    have e_20 := z_xi e_18 hq_19 (by decide)
    refine k_iald X hH 10 9 rfl rfl (z_in e_20 hq_19) dX54_isLess_55 ?_
    have e_21 := z_ld (f := f_answers) e_20 hq_19.1
    refine lv_aload_n hx hb dX54_isLess_56 rfl (lv_at hl 0 rfl) ?_
    refine k_get X hH in_X54 0 rfl hc 15 (by decide) q6515 rfl dX54_isLess_57 ?_
    refine lv_bipush (v := 6) hx hb dX54_isLess_60 (by decide) ?_
    refine lv_iload_n hx hb dX54_isLess_62 rfl (lv_at hl 2 rfl) ?_
    refine lv_imul hx hb dX54_isLess_63 ?_
    have e_22 := z_mul (z_m (rfl : (6 : Int32).toInt = 6)) (z_m (rfl : x2.toInt = _))
    refine lv_iload_n hx hb dX54_isLess_64 rfl (lv_at hl 3 rfl) ?_
    refine lv_iadd hx hb dX54_isLess_65 ?_
    have e_23 := z_add e_22 (z_m (rfl : x3.toInt = _))
    have hq_24 := hw.1
    have hw := hw.2
    have e_25 := z_xi e_23 hq_24 (by decide)
    refine k_iald X hH 10 9 rfl rfl (z_in e_25 hq_24) dX54_isLess_66 ?_
    have e_26 := z_ld (f := f_answers) e_25 hq_24.1
    refine lv_icmp_ge (tgt := 74) hx hb dX54_isLess_67 (by decide) (fun c_27 => ?_) (fun c_27 => ?_)
    · have hw := hw.1 (z_le e_26 e_21 c_27)
      refine lv_iconst (v := 0) hx hb dX54_isLess_74 (by decide) ?_
      exact k_iret (v := 0) X hH () hw rfl rfl dX54_isLess_75
    · have hw := hw.2 (z_nle e_26 e_21 c_27)
      refine lv_iconst (v := 1) hx hb dX54_isLess_70 (by decide) ?_
      refine lv_goto (tgt := 75) hx hb dX54_isLess_71 (by decide) ?_
      exact k_iret (v := 1) X hH () hw rfl rfl dX54_isLess_75
set_option maxHeartbeats 4000000 in
theorem walkX54_isLess {l : Launch} {dC : Nat → ClassId} {dI : Nat → Nat → Nat} {cl : List vw_C} {ci : Nat} (hc : cl[ci]? = some (RX54, TX54, 23)) {ad : Nat → Nat} {d : Nat → ClassId} {sz : Nat} {f_thrown : Int32} {f_cells : Nat → Int32} {f_sizes : Nat → Int32} {f_keys : Nat → Int32} {f_maps : Nat → Int32} {f_mapCount : Int32} {f_atoms : Nat → Int32} {f_atomCount : Int32} {f_spans : Nat → Int32} {f_spanCount : Int32} {f_unions : Nat → Int32} {f_unionCount : Int32} {f_isLarge : Int32} {f_trial : Nat → Int32} {f_rowAt : Nat → Int32} {f_answers : Nat → Int32} {f_foundBy : Nat → Int32} {f_firstBy : Nat → Int32} {f_lastBy : Nat → Int32} {f_order : Nat → Int32} {f_answerCount : Int32} {f_asked : Nat → Int32} {f_tooMany : Int32} {x1 : Int32} {x2 : Int32} {post : Int → Prop} (hw : wpX54_isLess post (zF f_answers) x1.toInt x2.toInt) :
    Met l yX54_isLess (ws_ yX54_isLess cX54_isLess 4 (some .boolean)) ({ frames := 0, cells := 0, slots := 0, locals := 0 } : Room) (kPc (dC, dI) cl (tX54 d) [.ref (ad 0), .int x1, .int x2] sz (wX54 ci ad d f_thrown f_cells f_sizes f_keys f_maps f_mapCount f_atoms f_atomCount f_spans f_spanCount f_unions f_unionCount f_isLarge f_trial f_rowAt f_answers f_foundBy f_firstBy f_lastBy f_order f_answerCount f_asked f_tooMany)) (va_Qi (fun (r : Int32) (_ : Unit) => post r.toInt) (kB (dC, dI) cl (tX54 d) (va_A (wX54 ci ad d f_thrown f_cells f_sizes f_keys f_maps f_mapCount f_atoms f_atomCount f_spans f_spanCount f_unions f_unionCount f_isLarge f_trial f_rowAt f_answers f_foundBy f_firstBy f_lastBy f_order f_answerCount f_asked f_tooMany) sz) (fun _ : Unit => (wX54 ci ad d f_thrown f_cells f_sizes f_keys f_maps f_mapCount f_atoms f_atomCount f_spans f_spanCount f_unions f_unionCount f_isLarge f_trial f_rowAt f_answers f_foundBy f_firstBy f_lastBy f_order f_answerCount f_asked f_tooMany))) (va_A (wX54 ci ad d f_thrown f_cells f_sizes f_keys f_maps f_mapCount f_atoms f_atomCount f_spans f_spanCount f_unions f_unionCount f_isLarge f_trial f_rowAt f_answers f_foundBy f_firstBy f_lastBy f_order f_answerCount f_asked f_tooMany) sz)) 0 0 (va_A (wX54 ci ad d f_thrown f_cells f_sizes f_keys f_maps f_mapCount f_atoms f_atomCount f_spans f_spanCount f_unions f_unionCount f_isLarge f_trial f_rowAt f_answers f_foundBy f_firstBy f_lastBy f_order f_answerCount f_asked f_tooMany) sz) := by
  refine k_enter (by decide) (Nat.le_of_ble_eq_true rfl) ?_
  intro p e s m below meth c ls X hsz hH hl
  subst hsz
  generalize va_A (wX54 ci ad d f_thrown f_cells f_sizes f_keys f_maps f_mapCount f_atoms f_atomCount f_spans f_spanCount f_unions f_unionCount f_isLarge f_trial f_rowAt f_answers f_foundBy f_firstBy f_lastBy f_order f_answerCount f_asked f_tooMany) s.heap.size = A at hH ⊢
  have hx := X.1.1
  have hb := X.1.2.1
  have hl : lv_has ls 4 [(0, .ref (ad 0)), (1, .int x1), (2, .int x2)] := hl
  unfold wpX54_isLess at hw
  refine lv_iconst (v := 0) hx hb dX54_isLess_0 (by decide) ?_
  refine lv_istore_n (lv' := [(3, .int 0), (0, .ref (ad 0)), (1, .int x1), (2, .int x2)]) hx hb dX54_isLess_1 rfl hl (by decide) rfl (fun ls hl => ?_)
  obtain ⟨fu, hw⟩ := hw
  refine atX54_isLess_2 hc X ?_ fu 0 hw _ _ ls hH (lv_sub hl [1, 2, 3, 0] rfl)
  · intro x3_15 hw H locs ls hH hl
    exact atX54_isLess_39 hc X x1 x2 x3_15 hw _ _ ls hH (lv_sub hl [0, 1, 2, 3] rfl)
set_option maxHeartbeats 4000000 in
theorem atX54_sort_12 {p : Program} {l : Launch} {e : Env} {s : State} {m : MethodId} {args : Array Value} {below : List Frame} {meth : Method} {c : Code} {dC : Nat → ClassId} {dI : Nat → Nat → Nat} {cl : List vw_C} {ci : Nat} (hc : cl[ci]? = some (RX54, TX54, 23)) {ad : Nat → Nat} {d : Nat → ClassId} {A : Nat → Prop} {post : (Int → Int) → Prop} {f_thrown : Int32} {f_cells : Nat → Int32} {f_sizes : Nat → Int32} {f_keys : Nat → Int32} {f_maps : Nat → Int32} {f_mapCount : Int32} {f_atoms : Nat → Int32} {f_atomCount : Int32} {f_spans : Nat → Int32} {f_spanCount : Int32} {f_unions : Nat → Int32} {f_unionCount : Int32} {f_isLarge : Int32} {f_trial : Nat → Int32} {f_rowAt : Nat → Int32} {f_answers : Nat → Int32} {f_foundBy : Nat → Int32} {f_firstBy : Nat → Int32} {f_lastBy : Nat → Int32} {f_answerCount : Int32} {f_asked : Nat → Int32} {f_tooMany : Int32} (X : kX p s m args meth c cX54_sort 3 RX54 none (dC, dI) cl (tX54 d)) {K52 : Int → (Int → Int) → Prop} {x1 : Int32}  (hk52 : ∀ (x2 : Int32) (f_order : Nat → Int32), K52 x2.toInt (zF f_order) → ∀ (H : Heap) (locs : List Loc) (ls : Array Slot), kH (dC, dI) cl A s.heap H locs (wX54 ci ad d f_thrown f_cells f_sizes f_keys f_maps f_mapCount f_atoms f_atomCount f_spans f_spanCount f_unions f_unionCount f_isLarge f_trial f_rowAt f_answers f_foundBy f_firstBy f_lastBy f_order f_answerCount f_asked f_tooMany) → lv_has ls 3 [(0, .ref (ad 0)), (1, .int x1), (2, .int x2)] → W p l e ({ frames := 1, cells := 0, slots := 0, locals := 23 } : Room) s m args below meth c H locs 0 0 (MQ below (va_Qv (fun (u : (Nat → Int32)) => post (zF (u))) (kB (dC, dI) cl (tX54 d) A (fun u : (Nat → Int32) => (wX54 ci ad d f_thrown f_cells f_sizes f_keys f_maps f_mapCount f_atoms f_atomCount f_spans f_spanCount f_unions f_unionCount f_isLarge f_trial f_rowAt f_answers f_foundBy f_firstBy f_lastBy (u) f_answerCount f_asked f_tooMany))) A) args s 0 0 A) (F0 m 52 ls [])) :
    ∀ (nn : Nat) (x2 : Int32) (f_order : Nat → Int32), wX54_sort_12 K52 x1.toInt (zF f_answers) nn x2.toInt (zF f_order) → ∀ (H : Heap) (locs : List Loc) (ls : Array Slot), kH (dC, dI) cl A s.heap H locs (wX54 ci ad d f_thrown f_cells f_sizes f_keys f_maps f_mapCount f_atoms f_atomCount f_spans f_spanCount f_unions f_unionCount f_isLarge f_trial f_rowAt f_answers f_foundBy f_firstBy f_lastBy f_order f_answerCount f_asked f_tooMany) → lv_has ls 3 [(0, .ref (ad 0)), (1, .int x1), (2, .int x2)] → W p l e ({ frames := 1, cells := 0, slots := 0, locals := 23 } : Room) s m args below meth c H locs 0 0 (MQ below (va_Qv (fun (u : (Nat → Int32)) => post (zF (u))) (kB (dC, dI) cl (tX54 d) A (fun u : (Nat → Int32) => (wX54 ci ad d f_thrown f_cells f_sizes f_keys f_maps f_mapCount f_atoms f_atomCount f_spans f_spanCount f_unions f_unionCount f_isLarge f_trial f_rowAt f_answers f_foundBy f_firstBy f_lastBy (u) f_answerCount f_asked f_tooMany))) A) args s 0 0 A) (F0 m 12 ls []) := by
  have hx := X.1.1
  have hb := X.1.2.1
  intro nn
  induction nn with
  | zero =>
    intro x2 f_order hw
    exact False.elim hw
  | succ n ih =>
    intro x2 f_order hw H locs ls hH hl
    rw [wX54_sort_12] at hw
    refine lv_iload_n hx hb dX54_sort_12 rfl (lv_at hl 2 rfl) ?_
    refine lv_if_le (tgt := 52) hx hb dX54_sort_13 (by decide) (fun c_2 => ?_) (fun c_2 => ?_)
    · have hw := hw.1 (z_le (rfl : x2.toInt = _) (rfl : (0 : Int32).toInt = 0) c_2)
      exact hk52 x2 f_order hw _ _ ls hH (lv_sub hl [0, 1, 2] rfl)
    · have hw := hw.2 (z_nle (rfl : x2.toInt = _) (rfl : (0 : Int32).toInt = 0) c_2)
      refine lv_aload_n hx hb dX54_sort_16 rfl (lv_at hl 0 rfl) ?_
      refine lv_iload_n hx hb dX54_sort_17 rfl (lv_at hl 1 rfl) ?_
      refine lv_aload_n hx hb dX54_sort_18 rfl (lv_at hl 0 rfl) ?_
      refine k_get X hH in_X54 0 rfl hc 19 (by decide) q6519 rfl dX54_sort_19 ?_
      refine lv_iload_n hx hb dX54_sort_22 rfl (lv_at hl 2 rfl) ?_
      refine lv_iconst (v := 1) hx hb dX54_sort_23 (by decide) ?_
      refine lv_isub hx hb dX54_sort_24 ?_
      have e_3 := z_sub (z_m (rfl : x2.toInt = _)) (z_m (rfl : (1 : Int32).toInt = 1))
      have hq_4 := hw.1
      have hw := hw.2
      have e_5 := z_xi e_3 hq_4 (by decide)
      refine k_iald X hH 14 13 rfl rfl (z_in e_5 hq_4) dX54_sort_25 ?_
      have e_6 := z_ld (f := f_order) e_5 hq_4.1
      refine k_i0 hH (k_runV (As := [.int x1, .int (f_order (x2 - 1).toNatClampNeg)]) (rest := []) X hH.1 hH.2.1 X.2.2.2 (walkX54_isLess hc (x1 := x1) (x2 := (f_order (x2 - 1).toNatClampNeg)) (f_thrown := f_thrown) (f_cells := f_cells) (f_sizes := f_sizes) (f_keys := f_keys) (f_maps := f_maps) (f_mapCount := f_mapCount) (f_atoms := f_atoms) (f_atomCount := f_atomCount) (f_spans := f_spans) (f_spanCount := f_spanCount) (f_unions := f_unions) (f_unionCount := f_unionCount) (f_isLarge := f_isLarge) (f_trial := f_trial) (f_rowAt := f_rowAt) (f_answers := f_answers) (f_foundBy := f_foundBy) (f_firstBy := f_firstBy) (f_lastBy := f_lastBy) (f_order := f_order) (f_answerCount := f_answerCount) (f_asked := f_asked) (f_tooMany := f_tooMany) (by rw [show (f_order (x2 - 1).toNatClampNeg : Int32).toInt = _ from e_6]; exact hw)) (cwV 2 X.1.2.2.2.2 gX54_150 rfl rfl rfl hX54_isLess ⟨Nat.le_of_ble_eq_true rfl, Nat.le_of_ble_eq_true rfl⟩) hc (q0 := 0) rfl rfl hl.1 rfl (Nat.le_of_ble_eq_true rfl) dX54_sort_26 ⟨Nat.le_refl 0, Nat.le_refl 0⟩) (fun r_7 _ H locs hw hH => ?_)
      have hH : kH (dC, dI) cl A s.heap H locs (wX54 ci ad d f_thrown f_cells f_sizes f_keys f_maps f_mapCount f_atoms f_atomCount f_spans f_spanCount f_unions f_unionCount f_isLarge f_trial f_rowAt f_answers f_foundBy f_firstBy f_lastBy f_order f_answerCount f_asked f_tooMany) := hH
      refine lv_if_eq (tgt := 52) hx hb dX54_sort_29 (by decide) (fun c_8 => ?_) (fun c_8 => ?_)
      · have hw := hw.1 (z_eq (rfl : r_7.toInt = _) (rfl : (0 : Int32).toInt = 0) c_8)
        exact hk52 x2 f_order hw _ _ ls hH (lv_sub hl [0, 1, 2] rfl)
      · have hw := hw.2 (z_neq (rfl : r_7.toInt = _) (rfl : (0 : Int32).toInt = 0) c_8)
        refine lv_aload_n hx hb dX54_sort_32 rfl (lv_at hl 0 rfl) ?_
        refine k_get X hH in_X54 0 rfl hc 19 (by decide) q6519 rfl dX54_sort_33 ?_
        refine lv_iload_n hx hb dX54_sort_36 rfl (lv_at hl 2 rfl) ?_
        refine lv_aload_n hx hb dX54_sort_37 rfl (lv_at hl 0 rfl) ?_
        refine k_get X hH in_X54 0 rfl hc 19 (by decide) q6519 rfl dX54_sort_38 ?_
        refine lv_iload_n hx hb dX54_sort_41 rfl (lv_at hl 2 rfl) ?_
        refine lv_iconst (v := 1) hx hb dX54_sort_42 (by decide) ?_
        refine lv_isub hx hb dX54_sort_43 ?_
        have e_9 := z_sub (z_m (rfl : x2.toInt = _)) (z_m (rfl : (1 : Int32).toInt = 1))
        have e_10 := z_xi e_9 hq_4 (by decide)
        refine k_iald X hH 14 13 rfl rfl (z_in e_10 hq_4) dX54_sort_44 ?_
        have e_11 := z_ld (f := f_order) e_10 hq_4.1
        refine lv_topi (fun v_12 ev_12 => ?_)
        have hw := hw v_12.toInt (by rw [ev_12]; exact e_11)
        have hq_14 := hw.1
        have hw := hw.2
        obtain ⟨f_order_13, ef_order_13⟩ : ∃ y : Nat → Int32, y = upd f_order x2.toNatClampNeg v_12 := ⟨_, rfl⟩
        refine k_iast X hH 14 13 rfl rfl (z_in (rfl : x2.toInt = _) hq_14) dX54_sort_45 ef_order_13 (ws1 := (wX54 ci ad d f_thrown f_cells f_sizes f_keys f_maps f_mapCount f_atoms f_atomCount f_spans f_spanCount f_unions f_unionCount f_isLarge f_trial f_rowAt f_answers f_foundBy f_firstBy f_lastBy f_order_13 f_answerCount f_asked f_tooMany)) rfl (fun H locs hH => ?_)
        have hw := hw (zF f_order_13) (by rw [ef_order_13]; exact z_st (f := f_order) (rfl : x2.toInt = _) hq_14.1 (rfl : v_12.toInt = _))
        have hq_16 := hw.1
        have hw := hw.2
        obtain ⟨x2_15, ex2_15⟩ : ∃ y : Int32, y = x2 + (-1) := ⟨_, rfl⟩
        have hw := hw x2_15.toInt (by rw [ex2_15]; exact (z_x (z_add (z_m (rfl : x2.toInt = _)) (z_m (rfl : ((-1) : Int32).toInt = (-1)))) hq_16))
        refine lv_iinc (v := x2_15) (lv' := [(2, .int x2_15), (0, .ref (ad 0)), (1, .int x1)]) hx hb dX54_sort_46 hl (k := 2) rfl (by rw [ex2_15]; rfl) (by decide) rfl (fun ls hl => ?_)
        refine lv_goto (tgt := 12) hx hb dX54_sort_49 (by decide) ?_
        exact ih x2_15 f_order_13 hw _ _ ls hH (lv_sub hl [1, 2, 0] rfl)
set_option maxHeartbeats 4000000 in
theorem atX54_sort_2 {p : Program} {l : Launch} {e : Env} {s : State} {m : MethodId} {args : Array Value} {below : List Frame} {meth : Method} {c : Code} {dC : Nat → ClassId} {dI : Nat → Nat → Nat} {cl : List vw_C} {ci : Nat} (hc : cl[ci]? = some (RX54, TX54, 23)) {ad : Nat → Nat} {d : Nat → ClassId} {A : Nat → Prop} {post : (Int → Int) → Prop} {f_thrown : Int32} {f_cells : Nat → Int32} {f_sizes : Nat → Int32} {f_keys : Nat → Int32} {f_maps : Nat → Int32} {f_mapCount : Int32} {f_atoms : Nat → Int32} {f_atomCount : Int32} {f_spans : Nat → Int32} {f_spanCount : Int32} {f_unions : Nat → Int32} {f_unionCount : Int32} {f_isLarge : Int32} {f_trial : Nat → Int32} {f_rowAt : Nat → Int32} {f_answers : Nat → Int32} {f_foundBy : Nat → Int32} {f_firstBy : Nat → Int32} {f_lastBy : Nat → Int32} {f_answerCount : Int32} {f_asked : Nat → Int32} {f_tooMany : Int32} (X : kX p s m args meth c cX54_sort 3 RX54 none (dC, dI) cl (tX54 d)) {K65 : (Int → Int) → Prop}   (hk65 : ∀ (f_order : Nat → Int32), K65 (zF f_order) → ∀ (H : Heap) (locs : List Loc) (ls : Array Slot), kH (dC, dI) cl A s.heap H locs (wX54 ci ad d f_thrown f_cells f_sizes f_keys f_maps f_mapCount f_atoms f_atomCount f_spans f_spanCount f_unions f_unionCount f_isLarge f_trial f_rowAt f_answers f_foundBy f_firstBy f_lastBy f_order f_answerCount f_asked f_tooMany) → lv_has ls 3 [] → W p l e ({ frames := 1, cells := 0, slots := 0, locals := 23 } : Room) s m args below meth c H locs 0 0 (MQ below (va_Qv (fun (u : (Nat → Int32)) => post (zF (u))) (kB (dC, dI) cl (tX54 d) A (fun u : (Nat → Int32) => (wX54 ci ad d f_thrown f_cells f_sizes f_keys f_maps f_mapCount f_atoms f_atomCount f_spans f_spanCount f_unions f_unionCount f_isLarge f_trial f_rowAt f_answers f_foundBy f_firstBy f_lastBy (u) f_answerCount f_asked f_tooMany))) A) args s 0 0 A) (F0 m 65 ls [])) :
    ∀ (nn : Nat) (x1 : Int32) (f_order : Nat → Int32), wX54_sort_2 K65 (zF f_answers) f_answerCount.toInt nn x1.toInt (zF f_order) → ∀ (H : Heap) (locs : List Loc) (ls : Array Slot), kH (dC, dI) cl A s.heap H locs (wX54 ci ad d f_thrown f_cells f_sizes f_keys f_maps f_mapCount f_atoms f_atomCount f_spans f_spanCount f_unions f_unionCount f_isLarge f_trial f_rowAt f_answers f_foundBy f_firstBy f_lastBy f_order f_answerCount f_asked f_tooMany) → lv_has ls 3 [(0, .ref (ad 0)), (1, .int x1)] → W p l e ({ frames := 1, cells := 0, slots := 0, locals := 23 } : Room) s m args below meth c H locs 0 0 (MQ below (va_Qv (fun (u : (Nat → Int32)) => post (zF (u))) (kB (dC, dI) cl (tX54 d) A (fun u : (Nat → Int32) => (wX54 ci ad d f_thrown f_cells f_sizes f_keys f_maps f_mapCount f_atoms f_atomCount f_spans f_spanCount f_unions f_unionCount f_isLarge f_trial f_rowAt f_answers f_foundBy f_firstBy f_lastBy (u) f_answerCount f_asked f_tooMany))) A) args s 0 0 A) (F0 m 2 ls []) := by
  have hx := X.1.1
  have hb := X.1.2.1
  intro nn
  induction nn with
  | zero =>
    intro x1 f_order hw
    exact False.elim hw
  | succ n ih =>
    intro x1 f_order hw H locs ls hH hl
    rw [wX54_sort_2] at hw
    refine lv_iload_n hx hb dX54_sort_2 rfl (lv_at hl 1 rfl) ?_
    refine lv_aload_n hx hb dX54_sort_3 rfl (lv_at hl 0 rfl) ?_
    refine k_get X hH in_X54 0 rfl hc 20 (by decide) q6520 rfl dX54_sort_4 ?_
    refine lv_icmp_ge (tgt := 65) hx hb dX54_sort_7 (by decide) (fun c_1 => ?_) (fun c_1 => ?_)
    · have hw := hw.1 (z_le (rfl : f_answerCount.toInt = _) (rfl : x1.toInt = _) c_1)
      exact hk65 f_order hw _ _ ls hH (lv_sub hl [] rfl)
    · have hw := hw.2 (z_nle (rfl : f_answerCount.toInt = _) (rfl : x1.toInt = _) c_1)
      refine lv_iload_n hx hb dX54_sort_10 rfl (lv_at hl 1 rfl) ?_
      refine lv_istore_n (lv' := [(2, .int x1), (0, .ref (ad 0)), (1, .int x1)]) hx hb dX54_sort_11 rfl hl (by decide) rfl (fun ls hl => ?_)
      obtain ⟨fu, hw⟩ := hw
      refine atX54_sort_12 hc X ?_ fu x1 f_order hw _ _ ls hH (lv_sub hl [1, 2, 0] rfl)
      · intro x2_17 f_order_18 hw H locs ls hH hl
        refine lv_aload_n hx hb dX54_sort_52 rfl (lv_at hl 0 rfl) ?_
        refine k_get X hH in_X54 0 rfl hc 19 (by decide) q6519 rfl dX54_sort_53 ?_
        refine lv_iload_n hx hb dX54_sort_56 rfl (lv_at hl 2 rfl) ?_
        refine lv_iload_n hx hb dX54_sort_57 rfl (lv_at hl 1 rfl) ?_
        have hq_20 := hw.1
        have hw := hw.2
        obtain ⟨f_order_19, ef_order_19⟩ : ∃ y : Nat → Int32, y = upd f_order_18 x2_17.toNatClampNeg x1 := ⟨_, rfl⟩
        refine k_iast X hH 14 13 rfl rfl (z_in (rfl : x2_17.toInt = _) hq_20) dX54_sort_58 ef_order_19 (ws1 := (wX54 ci ad d f_thrown f_cells f_sizes f_keys f_maps f_mapCount f_atoms f_atomCount f_spans f_spanCount f_unions f_unionCount f_isLarge f_trial f_rowAt f_answers f_foundBy f_firstBy f_lastBy f_order_19 f_answerCount f_asked f_tooMany)) rfl (fun H locs hH => ?_)
        have hw := hw (zF f_order_19) (by rw [ef_order_19]; exact z_st (f := f_order_18) (rfl : x2_17.toInt = _) hq_20.1 (rfl : x1.toInt = _))
        have hq_22 := hw.1
        have hw := hw.2
        obtain ⟨x1_21, ex1_21⟩ : ∃ y : Int32, y = x1 + 1 := ⟨_, rfl⟩
        have hw := hw x1_21.toInt (by rw [ex1_21]; exact (z_x (z_add (z_m (rfl : x1.toInt = _)) (z_m (rfl : (1 : Int32).toInt = 1))) hq_22))
        refine lv_iinc (v := x1_21) (lv' := [(1, .int x1_21), (0, .ref (ad 0)), (2, .int x2_17)]) hx hb dX54_sort_59 hl (k := 1) rfl (by rw [ex1_21]; rfl) (by decide) rfl (fun ls hl => ?_)
        refine lv_goto (tgt := 2) hx hb dX54_sort_62 (by decide) ?_
        exact ih x1_21 f_order_19 hw _ _ ls hH (lv_sub hl [1, 0] rfl)
set_option maxHeartbeats 4000000 in
theorem walkX54_sort {l : Launch} {dC : Nat → ClassId} {dI : Nat → Nat → Nat} {cl : List vw_C} {ci : Nat} (hc : cl[ci]? = some (RX54, TX54, 23)) {ad : Nat → Nat} {d : Nat → ClassId} {sz : Nat} {f_thrown : Int32} {f_cells : Nat → Int32} {f_sizes : Nat → Int32} {f_keys : Nat → Int32} {f_maps : Nat → Int32} {f_mapCount : Int32} {f_atoms : Nat → Int32} {f_atomCount : Int32} {f_spans : Nat → Int32} {f_spanCount : Int32} {f_unions : Nat → Int32} {f_unionCount : Int32} {f_isLarge : Int32} {f_trial : Nat → Int32} {f_rowAt : Nat → Int32} {f_answers : Nat → Int32} {f_foundBy : Nat → Int32} {f_firstBy : Nat → Int32} {f_lastBy : Nat → Int32} {f_order : Nat → Int32} {f_answerCount : Int32} {f_asked : Nat → Int32} {f_tooMany : Int32}  {post : (Int → Int) → Prop} (hw : wpX54_sort post (zF f_answers) (zF f_order) f_answerCount.toInt ) :
    Met l yX54_sort (ws_ yX54_sort cX54_sort 3 none) ({ frames := 1, cells := 0, slots := 0, locals := 23 } : Room) (kPc (dC, dI) cl (tX54 d) [.ref (ad 0)] sz (wX54 ci ad d f_thrown f_cells f_sizes f_keys f_maps f_mapCount f_atoms f_atomCount f_spans f_spanCount f_unions f_unionCount f_isLarge f_trial f_rowAt f_answers f_foundBy f_firstBy f_lastBy f_order f_answerCount f_asked f_tooMany)) (va_Qv (fun (u : (Nat → Int32)) => post (zF (u))) (kB (dC, dI) cl (tX54 d) (va_A (wX54 ci ad d f_thrown f_cells f_sizes f_keys f_maps f_mapCount f_atoms f_atomCount f_spans f_spanCount f_unions f_unionCount f_isLarge f_trial f_rowAt f_answers f_foundBy f_firstBy f_lastBy f_order f_answerCount f_asked f_tooMany) sz) (fun u : (Nat → Int32) => (wX54 ci ad d f_thrown f_cells f_sizes f_keys f_maps f_mapCount f_atoms f_atomCount f_spans f_spanCount f_unions f_unionCount f_isLarge f_trial f_rowAt f_answers f_foundBy f_firstBy f_lastBy (u) f_answerCount f_asked f_tooMany))) (va_A (wX54 ci ad d f_thrown f_cells f_sizes f_keys f_maps f_mapCount f_atoms f_atomCount f_spans f_spanCount f_unions f_unionCount f_isLarge f_trial f_rowAt f_answers f_foundBy f_firstBy f_lastBy f_order f_answerCount f_asked f_tooMany) sz)) 0 0 (va_A (wX54 ci ad d f_thrown f_cells f_sizes f_keys f_maps f_mapCount f_atoms f_atomCount f_spans f_spanCount f_unions f_unionCount f_isLarge f_trial f_rowAt f_answers f_foundBy f_firstBy f_lastBy f_order f_answerCount f_asked f_tooMany) sz) := by
  refine k_enter (by decide) (Nat.le_of_ble_eq_true rfl) ?_
  intro p e s m below meth c ls X hsz hH hl
  subst hsz
  generalize va_A (wX54 ci ad d f_thrown f_cells f_sizes f_keys f_maps f_mapCount f_atoms f_atomCount f_spans f_spanCount f_unions f_unionCount f_isLarge f_trial f_rowAt f_answers f_foundBy f_firstBy f_lastBy f_order f_answerCount f_asked f_tooMany) s.heap.size = A at hH ⊢
  have hx := X.1.1
  have hb := X.1.2.1
  have hl : lv_has ls 3 [(0, .ref (ad 0))] := hl
  unfold wpX54_sort at hw
  refine lv_iconst (v := 0) hx hb dX54_sort_0 (by decide) ?_
  refine lv_istore_n (lv' := [(1, .int 0), (0, .ref (ad 0))]) hx hb dX54_sort_1 rfl hl (by decide) rfl (fun ls hl => ?_)
  obtain ⟨fu, hw⟩ := hw
  refine atX54_sort_2 hc X ?_ fu 0 f_order hw _ _ ls hH (lv_sub hl [1, 0] rfl)
  · intro f_order_23 hw H locs ls hH hl
    exact k_vret X hH (f_order_23) hw rfl dX54_sort_65
set_option maxHeartbeats 4000000 in
theorem atX54_run_23 {p : Program} {l : Launch} {e : Env} {s : State} {m : MethodId} {args : Array Value} {below : List Frame} {meth : Method} {c : Code} {dC : Nat → ClassId} {dI : Nat → Nat → Nat} {cl : List vw_C} {ci : Nat} (hc : cl[ci]? = some (RX54, TX54, 23)) {ad : Nat → Nat} {d : Nat → ClassId} {A : Nat → Prop} {post : Int → Int → (Int → Int) → Int → Int → (Int → Int) → (Int → Int) → (Int → Int) → (Int → Int) → (Int → Int) → (Int → Int) → (Int → Int) → Int → (Int → Int) → Int → Prop} {f_cells : Nat → Int32} {f_sizes : Nat → Int32} {f_keys : Nat → Int32} {f_maps : Nat → Int32} {f_mapCount : Int32} {f_atoms : Nat → Int32} {f_atomCount : Int32} {f_spans : Nat → Int32} {f_spanCount : Int32} (X : kX p s m args meth c cX54_run 3 RX54 (some .int) (dC, dI) cl (tX54 d)) {K42 : (Int → Int) → Prop}  {f_thrown : Int32} {f_unions : Nat → Int32} {f_unionCount : Int32} {f_isLarge : Int32} {f_trial : Nat → Int32} {f_rowAt : Nat → Int32} {f_answers : Nat → Int32} {f_foundBy : Nat → Int32} {f_firstBy : Nat → Int32} {f_lastBy : Nat → Int32} {f_order : Nat → Int32} {f_answerCount : Int32} {f_tooMany : Int32} (hk42 : ∀ (f_asked : Nat → Int32), K42 (zF f_asked) → ∀ (H : Heap) (locs : List Loc) (ls : Array Slot), kH (dC, dI) cl A s.heap H locs (wX54 ci ad d f_thrown f_cells f_sizes f_keys f_maps f_mapCount f_atoms f_atomCount f_spans f_spanCount f_unions f_unionCount f_isLarge f_trial f_rowAt f_answers f_foundBy f_firstBy f_lastBy f_order f_answerCount f_asked f_tooMany) → lv_has ls 3 [(0, .ref (ad 0))] → W p l e ({ frames := 6, cells := 0, slots := 0, locals := 140 } : Room) s m args below meth c H locs 0 0 (MQ below (va_Qi (fun (r : Int32) (u : Int32 × (Nat → Int32) × Int32 × Int32 × (Nat → Int32) × (Nat → Int32) × (Nat → Int32) × (Nat → Int32) × (Nat → Int32) × (Nat → Int32) × (Nat → Int32) × Int32 × (Nat → Int32) × Int32) => post r.toInt (u.1).toInt (zF (u.2.1)) (u.2.2.1).toInt (u.2.2.2.1).toInt (zF (u.2.2.2.2.1)) (zF (u.2.2.2.2.2.1)) (zF (u.2.2.2.2.2.2.1)) (zF (u.2.2.2.2.2.2.2.1)) (zF (u.2.2.2.2.2.2.2.2.1)) (zF (u.2.2.2.2.2.2.2.2.2.1)) (zF (u.2.2.2.2.2.2.2.2.2.2.1)) (u.2.2.2.2.2.2.2.2.2.2.2.1).toInt (zF (u.2.2.2.2.2.2.2.2.2.2.2.2.1)) (u.2.2.2.2.2.2.2.2.2.2.2.2.2).toInt) (kB (dC, dI) cl (tX54 d) A (fun u : Int32 × (Nat → Int32) × Int32 × Int32 × (Nat → Int32) × (Nat → Int32) × (Nat → Int32) × (Nat → Int32) × (Nat → Int32) × (Nat → Int32) × (Nat → Int32) × Int32 × (Nat → Int32) × Int32 => (wX54 ci ad d (u.1) f_cells f_sizes f_keys f_maps f_mapCount f_atoms f_atomCount f_spans f_spanCount (u.2.1) (u.2.2.1) (u.2.2.2.1) (u.2.2.2.2.1) (u.2.2.2.2.2.1) (u.2.2.2.2.2.2.1) (u.2.2.2.2.2.2.2.1) (u.2.2.2.2.2.2.2.2.1) (u.2.2.2.2.2.2.2.2.2.1) (u.2.2.2.2.2.2.2.2.2.2.1) (u.2.2.2.2.2.2.2.2.2.2.2.1) (u.2.2.2.2.2.2.2.2.2.2.2.2.1) (u.2.2.2.2.2.2.2.2.2.2.2.2.2)))) A) args s 0 0 A) (F0 m 42 ls [])) :
    ∀ (nn : Nat) (x2 : Int32) (f_asked : Nat → Int32), wX54_run_23 K42 nn x2.toInt (zF f_asked) → ∀ (H : Heap) (locs : List Loc) (ls : Array Slot), kH (dC, dI) cl A s.heap H locs (wX54 ci ad d f_thrown f_cells f_sizes f_keys f_maps f_mapCount f_atoms f_atomCount f_spans f_spanCount f_unions f_unionCount f_isLarge f_trial f_rowAt f_answers f_foundBy f_firstBy f_lastBy f_order f_answerCount f_asked f_tooMany) → lv_has ls 3 [(0, .ref (ad 0)), (2, .int x2)] → W p l e ({ frames := 6, cells := 0, slots := 0, locals := 140 } : Room) s m args below meth c H locs 0 0 (MQ below (va_Qi (fun (r : Int32) (u : Int32 × (Nat → Int32) × Int32 × Int32 × (Nat → Int32) × (Nat → Int32) × (Nat → Int32) × (Nat → Int32) × (Nat → Int32) × (Nat → Int32) × (Nat → Int32) × Int32 × (Nat → Int32) × Int32) => post r.toInt (u.1).toInt (zF (u.2.1)) (u.2.2.1).toInt (u.2.2.2.1).toInt (zF (u.2.2.2.2.1)) (zF (u.2.2.2.2.2.1)) (zF (u.2.2.2.2.2.2.1)) (zF (u.2.2.2.2.2.2.2.1)) (zF (u.2.2.2.2.2.2.2.2.1)) (zF (u.2.2.2.2.2.2.2.2.2.1)) (zF (u.2.2.2.2.2.2.2.2.2.2.1)) (u.2.2.2.2.2.2.2.2.2.2.2.1).toInt (zF (u.2.2.2.2.2.2.2.2.2.2.2.2.1)) (u.2.2.2.2.2.2.2.2.2.2.2.2.2).toInt) (kB (dC, dI) cl (tX54 d) A (fun u : Int32 × (Nat → Int32) × Int32 × Int32 × (Nat → Int32) × (Nat → Int32) × (Nat → Int32) × (Nat → Int32) × (Nat → Int32) × (Nat → Int32) × (Nat → Int32) × Int32 × (Nat → Int32) × Int32 => (wX54 ci ad d (u.1) f_cells f_sizes f_keys f_maps f_mapCount f_atoms f_atomCount f_spans f_spanCount (u.2.1) (u.2.2.1) (u.2.2.2.1) (u.2.2.2.2.1) (u.2.2.2.2.2.1) (u.2.2.2.2.2.2.1) (u.2.2.2.2.2.2.2.1) (u.2.2.2.2.2.2.2.2.1) (u.2.2.2.2.2.2.2.2.2.1) (u.2.2.2.2.2.2.2.2.2.2.1) (u.2.2.2.2.2.2.2.2.2.2.2.1) (u.2.2.2.2.2.2.2.2.2.2.2.2.1) (u.2.2.2.2.2.2.2.2.2.2.2.2.2)))) A) args s 0 0 A) (F0 m 23 ls []) := by
  have hx := X.1.1
  have hb := X.1.2.1
  intro nn
  induction nn with
  | zero =>
    intro x2 f_asked hw
    exact False.elim hw
  | succ n ih =>
    intro x2 f_asked hw H locs ls hH hl
    rw [wX54_run_23] at hw
    refine lv_iload_n hx hb dX54_run_23 rfl (lv_at hl 1 rfl) ?_
    refine lv_bipush (v := 6) hx hb dX54_run_24 (by decide) ?_
    refine lv_icmp_ge (tgt := 42) hx hb dX54_run_26 (by decide) (fun c_8 => ?_) (fun c_8 => ?_)
    · have hw := hw.1 (z_le (rfl : (6 : Int32).toInt = 6) (rfl : x2.toInt = _) c_8)
      exact hk42 f_asked hw _ _ ls hH (lv_sub hl [0] rfl)
    · have hw := hw.2 (z_nle (rfl : (6 : Int32).toInt = 6) (rfl : x2.toInt = _) c_8)
      refine lv_aload_n hx hb dX54_run_29 rfl (lv_at hl 0 rfl) ?_
      refine k_get X hH in_X54 0 rfl hc 21 (by decide) q6521 rfl dX54_run_30 ?_
      refine lv_iload_n hx hb dX54_run_33 rfl (lv_at hl 1 rfl) ?_
      refine lv_iconst (v := 0) hx hb dX54_run_34 (by decide) ?_
      have hq_10 := hw.1
      have hw := hw.2
      obtain ⟨f_asked_9, ef_asked_9⟩ : ∃ y : Nat → Int32, y = upd f_asked x2.toNatClampNeg (vp_nar .boolean 0) := ⟨_, rfl⟩
      refine k_zast X hH 15 14 rfl rfl (z_in (rfl : x2.toInt = _) hq_10) dX54_run_35 ef_asked_9 (ws1 := (wX54 ci ad d f_thrown f_cells f_sizes f_keys f_maps f_mapCount f_atoms f_atomCount f_spans f_spanCount f_unions f_unionCount f_isLarge f_trial f_rowAt f_answers f_foundBy f_firstBy f_lastBy f_order f_answerCount f_asked_9 f_tooMany)) rfl (fun H locs hH => ?_)
      have hw := hw (zF f_asked_9) (by rw [ef_asked_9]; exact z_st (f := f_asked) (rfl : x2.toInt = _) hq_10.1 (z_narZ (rfl : (0 : Int32).toInt = 0) (by decide)))
      have hq_12 := hw.1
      have hw := hw.2
      obtain ⟨x2_11, ex2_11⟩ : ∃ y : Int32, y = x2 + 1 := ⟨_, rfl⟩
      have hw := hw x2_11.toInt (by rw [ex2_11]; exact (z_x (z_add (z_m (rfl : x2.toInt = _)) (z_m (rfl : (1 : Int32).toInt = 1))) hq_12))
      refine lv_iinc (v := x2_11) (lv' := [(2, .int x2_11), (0, .ref (ad 0))]) hx hb dX54_run_36 hl (k := 1) rfl (by rw [ex2_11]; rfl) (by decide) rfl (fun ls hl => ?_)
      refine lv_goto (tgt := 23) hx hb dX54_run_39 (by decide) ?_
      exact ih x2_11 f_asked_9 hw _ _ ls hH (lv_sub hl [1, 0] rfl)
set_option maxHeartbeats 4000000 in
theorem atX54_run_44 {p : Program} {l : Launch} {e : Env} {s : State} {m : MethodId} {args : Array Value} {below : List Frame} {meth : Method} {c : Code} {dC : Nat → ClassId} {dI : Nat → Nat → Nat} {cl : List vw_C} {ci : Nat} (hc : cl[ci]? = some (RX54, TX54, 23)) {ad : Nat → Nat} {d : Nat → ClassId} {A : Nat → Prop} {post : Int → Int → (Int → Int) → Int → Int → (Int → Int) → (Int → Int) → (Int → Int) → (Int → Int) → (Int → Int) → (Int → Int) → (Int → Int) → Int → (Int → Int) → Int → Prop} {f_cells : Nat → Int32} {f_sizes : Nat → Int32} {f_keys : Nat → Int32} {f_maps : Nat → Int32} {f_mapCount : Int32} {f_atoms : Nat → Int32} {f_atomCount : Int32} {f_spans : Nat → Int32} {f_spanCount : Int32} (X : kX p s m args meth c cX54_run 3 RX54 (some .int) (dC, dI) cl (tX54 d)) {K91 : (Int → Int) → Prop}  {f_thrown : Int32} {f_unions : Nat → Int32} {f_unionCount : Int32} {f_isLarge : Int32} {f_trial : Nat → Int32} {f_rowAt : Nat → Int32} {f_answers : Nat → Int32} {f_foundBy : Nat → Int32} {f_firstBy : Nat → Int32} {f_lastBy : Nat → Int32} {f_order : Nat → Int32} {f_answerCount : Int32} {f_tooMany : Int32} (hk91 : ∀ (f_asked : Nat → Int32), K91 (zF f_asked) → ∀ (H : Heap) (locs : List Loc) (ls : Array Slot), kH (dC, dI) cl A s.heap H locs (wX54 ci ad d f_thrown f_cells f_sizes f_keys f_maps f_mapCount f_atoms f_atomCount f_spans f_spanCount f_unions f_unionCount f_isLarge f_trial f_rowAt f_answers f_foundBy f_firstBy f_lastBy f_order f_answerCount f_asked f_tooMany) → lv_has ls 3 [(0, .ref (ad 0))] → W p l e ({ frames := 6, cells := 0, slots := 0, locals := 140 } : Room) s m args below meth c H locs 0 0 (MQ below (va_Qi (fun (r : Int32) (u : Int32 × (Nat → Int32) × Int32 × Int32 × (Nat → Int32) × (Nat → Int32) × (Nat → Int32) × (Nat → Int32) × (Nat → Int32) × (Nat → Int32) × (Nat → Int32) × Int32 × (Nat → Int32) × Int32) => post r.toInt (u.1).toInt (zF (u.2.1)) (u.2.2.1).toInt (u.2.2.2.1).toInt (zF (u.2.2.2.2.1)) (zF (u.2.2.2.2.2.1)) (zF (u.2.2.2.2.2.2.1)) (zF (u.2.2.2.2.2.2.2.1)) (zF (u.2.2.2.2.2.2.2.2.1)) (zF (u.2.2.2.2.2.2.2.2.2.1)) (zF (u.2.2.2.2.2.2.2.2.2.2.1)) (u.2.2.2.2.2.2.2.2.2.2.2.1).toInt (zF (u.2.2.2.2.2.2.2.2.2.2.2.2.1)) (u.2.2.2.2.2.2.2.2.2.2.2.2.2).toInt) (kB (dC, dI) cl (tX54 d) A (fun u : Int32 × (Nat → Int32) × Int32 × Int32 × (Nat → Int32) × (Nat → Int32) × (Nat → Int32) × (Nat → Int32) × (Nat → Int32) × (Nat → Int32) × (Nat → Int32) × Int32 × (Nat → Int32) × Int32 => (wX54 ci ad d (u.1) f_cells f_sizes f_keys f_maps f_mapCount f_atoms f_atomCount f_spans f_spanCount (u.2.1) (u.2.2.1) (u.2.2.2.1) (u.2.2.2.2.1) (u.2.2.2.2.2.1) (u.2.2.2.2.2.2.1) (u.2.2.2.2.2.2.2.1) (u.2.2.2.2.2.2.2.2.1) (u.2.2.2.2.2.2.2.2.2.1) (u.2.2.2.2.2.2.2.2.2.2.1) (u.2.2.2.2.2.2.2.2.2.2.2.1) (u.2.2.2.2.2.2.2.2.2.2.2.2.1) (u.2.2.2.2.2.2.2.2.2.2.2.2.2)))) A) args s 0 0 A) (F0 m 91 ls [])) :
    ∀ (nn : Nat) (x2 : Int32) (f_asked : Nat → Int32), wX54_run_44 K91 (zF f_atoms) f_atomCount.toInt nn x2.toInt (zF f_asked) → ∀ (H : Heap) (locs : List Loc) (ls : Array Slot), kH (dC, dI) cl A s.heap H locs (wX54 ci ad d f_thrown f_cells f_sizes f_keys f_maps f_mapCount f_atoms f_atomCount f_spans f_spanCount f_unions f_unionCount f_isLarge f_trial f_rowAt f_answers f_foundBy f_firstBy f_lastBy f_order f_answerCount f_asked f_tooMany) → lv_has ls 3 [(0, .ref (ad 0)), (2, .int x2)] → W p l e ({ frames := 6, cells := 0, slots := 0, locals := 140 } : Room) s m args below meth c H locs 0 0 (MQ below (va_Qi (fun (r : Int32) (u : Int32 × (Nat → Int32) × Int32 × Int32 × (Nat → Int32) × (Nat → Int32) × (Nat → Int32) × (Nat → Int32) × (Nat → Int32) × (Nat → Int32) × (Nat → Int32) × Int32 × (Nat → Int32) × Int32) => post r.toInt (u.1).toInt (zF (u.2.1)) (u.2.2.1).toInt (u.2.2.2.1).toInt (zF (u.2.2.2.2.1)) (zF (u.2.2.2.2.2.1)) (zF (u.2.2.2.2.2.2.1)) (zF (u.2.2.2.2.2.2.2.1)) (zF (u.2.2.2.2.2.2.2.2.1)) (zF (u.2.2.2.2.2.2.2.2.2.1)) (zF (u.2.2.2.2.2.2.2.2.2.2.1)) (u.2.2.2.2.2.2.2.2.2.2.2.1).toInt (zF (u.2.2.2.2.2.2.2.2.2.2.2.2.1)) (u.2.2.2.2.2.2.2.2.2.2.2.2.2).toInt) (kB (dC, dI) cl (tX54 d) A (fun u : Int32 × (Nat → Int32) × Int32 × Int32 × (Nat → Int32) × (Nat → Int32) × (Nat → Int32) × (Nat → Int32) × (Nat → Int32) × (Nat → Int32) × (Nat → Int32) × Int32 × (Nat → Int32) × Int32 => (wX54 ci ad d (u.1) f_cells f_sizes f_keys f_maps f_mapCount f_atoms f_atomCount f_spans f_spanCount (u.2.1) (u.2.2.1) (u.2.2.2.1) (u.2.2.2.2.1) (u.2.2.2.2.2.1) (u.2.2.2.2.2.2.1) (u.2.2.2.2.2.2.2.1) (u.2.2.2.2.2.2.2.2.1) (u.2.2.2.2.2.2.2.2.2.1) (u.2.2.2.2.2.2.2.2.2.2.1) (u.2.2.2.2.2.2.2.2.2.2.2.1) (u.2.2.2.2.2.2.2.2.2.2.2.2.1) (u.2.2.2.2.2.2.2.2.2.2.2.2.2)))) A) args s 0 0 A) (F0 m 44 ls []) := by
  have hx := X.1.1
  have hb := X.1.2.1
  intro nn
  induction nn with
  | zero =>
    intro x2 f_asked hw
    exact False.elim hw
  | succ n ih =>
    intro x2 f_asked hw H locs ls hH hl
    rw [wX54_run_44] at hw
    refine lv_iload_n hx hb dX54_run_44 rfl (lv_at hl 1 rfl) ?_
    refine lv_iconst (v := 2) hx hb dX54_run_45 (by decide) ?_
    refine lv_aload_n hx hb dX54_run_46 rfl (lv_at hl 0 rfl) ?_
    refine k_get X hH in_X54 0 rfl hc 7 (by decide) q6507 rfl dX54_run_47 ?_
    refine lv_imul hx hb dX54_run_50 ?_
    have e_14 := z_mul (z_m (rfl : (2 : Int32).toInt = 2)) (z_m (rfl : f_atomCount.toInt = _))
    have hq_16 := hw.1
    have hw := hw.2
    have e_17 := z_x e_14 hq_16
    refine lv_icmp_ge (tgt := 91) hx hb dX54_run_51 (by decide) (fun c_15 => ?_) (fun c_15 => ?_)
    · have hw := hw.1 (z_le e_17 (rfl : x2.toInt = _) c_15)
      exact hk91 f_asked hw _ _ ls hH (lv_sub hl [0] rfl)
    · have hw := hw.2 (z_nle e_17 (rfl : x2.toInt = _) c_15)
      refine lv_aload_n hx hb dX54_run_54 rfl (lv_at hl 0 rfl) ?_
      refine lv_iload_n hx hb dX54_run_55 rfl (lv_at hl 1 rfl) ?_
      refine lv_iconst (v := 2) hx hb dX54_run_56 (by decide) ?_
      have hq_18 := hw.1
      have hw := hw.2
      refine lv_idiv hx hb dX54_run_57 (by decide) ?_
      have e_19 := z_div (rfl : x2.toInt = _) (rfl : (2 : Int32).toInt = 2) hq_18 (by decide)
      refine lv_iload_n hx hb dX54_run_58 rfl (lv_at hl 1 rfl) ?_
      refine lv_iconst (v := 2) hx hb dX54_run_59 (by decide) ?_
      refine lv_irem hx hb dX54_run_60 (by decide) ?_
      have e_20 := z_rem (rfl : x2.toInt = _) (rfl : (2 : Int32).toInt = 2) hq_18 (by decide)
      refine k_i0 hH (k_runV (As := [.int (x2 / 2), .int (x2 - x2 / 2 * 2)]) (rest := []) X hH.1 hH.2.1 X.2.2.2 (walkX54_placeOf hc (x1 := (x2 / 2)) (x2 := (x2 - x2 / 2 * 2)) (f_thrown := f_thrown) (f_cells := f_cells) (f_sizes := f_sizes) (f_keys := f_keys) (f_maps := f_maps) (f_mapCount := f_mapCount) (f_atoms := f_atoms) (f_atomCount := f_atomCount) (f_spans := f_spans) (f_spanCount := f_spanCount) (f_unions := f_unions) (f_unionCount := f_unionCount) (f_isLarge := f_isLarge) (f_trial := f_trial) (f_rowAt := f_rowAt) (f_answers := f_answers) (f_foundBy := f_foundBy) (f_firstBy := f_firstBy) (f_lastBy := f_lastBy) (f_order := f_order) (f_answerCount := f_answerCount) (f_asked := f_asked) (f_tooMany := f_tooMany) (by rw [show (x2 / 2 : Int32).toInt = _ from e_19, show (x2 - x2 / 2 * 2 : Int32).toInt = _ from e_20]; exact hw)) (cwV 2 X.1.2.2.2.2 gX54_95 rfl rfl rfl hX54_placeOf ⟨Nat.le_of_ble_eq_true rfl, Nat.le_of_ble_eq_true rfl⟩) hc (q0 := 0) rfl rfl hl.1 rfl (Nat.le_of_ble_eq_true rfl) dX54_run_61 ⟨Nat.le_refl 0, Nat.le_refl 0⟩) (fun r_21 _ H locs hw hH => ?_)
      have hH : kH (dC, dI) cl A s.heap H locs (wX54 ci ad d f_thrown f_cells f_sizes f_keys f_maps f_mapCount f_atoms f_atomCount f_spans f_spanCount f_unions f_unionCount f_isLarge f_trial f_rowAt f_answers f_foundBy f_firstBy f_lastBy f_order f_answerCount f_asked f_tooMany) := hH
      refine lv_if_ge (tgt := 85) hx hb dX54_run_64 (by decide) (fun c_22 => ?_) (fun c_22 => ?_)
      · have hw := hw.1 (z_le (rfl : (0 : Int32).toInt = 0) (rfl : r_21.toInt = _) c_22)
        have hq_24 := hw.1
        have hw := hw.2
        obtain ⟨x2_23, ex2_23⟩ : ∃ y : Int32, y = x2 + 1 := ⟨_, rfl⟩
        have hw := hw x2_23.toInt (by rw [ex2_23]; exact (z_x (z_add (z_m (rfl : x2.toInt = _)) (z_m (rfl : (1 : Int32).toInt = 1))) hq_24))
        refine lv_iinc (v := x2_23) (lv' := [(2, .int x2_23), (0, .ref (ad 0))]) hx hb dX54_run_85 hl (k := 1) rfl (by rw [ex2_23]; rfl) (by decide) rfl (fun ls hl => ?_)
        refine lv_goto (tgt := 44) hx hb dX54_run_88 (by decide) ?_
        exact ih x2_23 f_asked hw _ _ ls hH (lv_sub hl [1, 0] rfl)
      · have hw := hw.2 (z_nle (rfl : (0 : Int32).toInt = 0) (rfl : r_21.toInt = _) c_22)
        refine lv_aload_n hx hb dX54_run_67 rfl (lv_at hl 0 rfl) ?_
        refine k_get X hH in_X54 0 rfl hc 21 (by decide) q6521 rfl dX54_run_68 ?_
        refine lv_iconst (v := (-1)) hx hb dX54_run_71 (by decide) ?_
        refine lv_aload_n hx hb dX54_run_72 rfl (lv_at hl 0 rfl) ?_
        refine lv_iload_n hx hb dX54_run_73 rfl (lv_at hl 1 rfl) ?_
        refine lv_iconst (v := 2) hx hb dX54_run_74 (by decide) ?_
        refine lv_idiv hx hb dX54_run_75 (by decide) ?_
        have e_25 := z_div (rfl : x2.toInt = _) (rfl : (2 : Int32).toInt = 2) hq_18 (by decide)
        refine lv_iload_n hx hb dX54_run_76 rfl (lv_at hl 1 rfl) ?_
        refine lv_iconst (v := 2) hx hb dX54_run_77 (by decide) ?_
        refine lv_irem hx hb dX54_run_78 (by decide) ?_
        have e_26 := z_rem (rfl : x2.toInt = _) (rfl : (2 : Int32).toInt = 2) hq_18 (by decide)
        refine k_i0 hH (k_runV (As := [.int (x2 / 2), .int (x2 - x2 / 2 * 2)]) (rest := [.int ((-1)), .ref (ad 15)]) X hH.1 hH.2.1 X.2.2.2 (walkX54_placeOf hc (x1 := (x2 / 2)) (x2 := (x2 - x2 / 2 * 2)) (f_thrown := f_thrown) (f_cells := f_cells) (f_sizes := f_sizes) (f_keys := f_keys) (f_maps := f_maps) (f_mapCount := f_mapCount) (f_atoms := f_atoms) (f_atomCount := f_atomCount) (f_spans := f_spans) (f_spanCount := f_spanCount) (f_unions := f_unions) (f_unionCount := f_unionCount) (f_isLarge := f_isLarge) (f_trial := f_trial) (f_rowAt := f_rowAt) (f_answers := f_answers) (f_foundBy := f_foundBy) (f_firstBy := f_firstBy) (f_lastBy := f_lastBy) (f_order := f_order) (f_answerCount := f_answerCount) (f_asked := f_asked) (f_tooMany := f_tooMany) (by rw [show (x2 / 2 : Int32).toInt = _ from e_25, show (x2 - x2 / 2 * 2 : Int32).toInt = _ from e_26]; exact hw)) (cwV 2 X.1.2.2.2.2 gX54_95 rfl rfl rfl hX54_placeOf ⟨Nat.le_of_ble_eq_true rfl, Nat.le_of_ble_eq_true rfl⟩) hc (q0 := 0) rfl rfl hl.1 rfl (Nat.le_of_ble_eq_true rfl) dX54_run_79 ⟨Nat.le_refl 0, Nat.le_refl 0⟩) (fun r_27 _ H locs hw hH => ?_)
        have hH : kH (dC, dI) cl A s.heap H locs (wX54 ci ad d f_thrown f_cells f_sizes f_keys f_maps f_mapCount f_atoms f_atomCount f_spans f_spanCount f_unions f_unionCount f_isLarge f_trial f_rowAt f_answers f_foundBy f_firstBy f_lastBy f_order f_answerCount f_asked f_tooMany) := hH
        refine lv_isub hx hb dX54_run_82 ?_
        have e_28 := z_sub (z_m (rfl : ((-1) : Int32).toInt = (-1))) (z_m (rfl : r_27.toInt = _))
        refine lv_iconst (v := 1) hx hb dX54_run_83 (by decide) ?_
        have hq_30 := hw.1
        have hw := hw.2
        have e_31 := z_xi e_28 hq_30 (by decide)
        obtain ⟨f_asked_29, ef_asked_29⟩ : ∃ y : Nat → Int32, y = upd f_asked ((-1) - r_27).toNatClampNeg (vp_nar .boolean 1) := ⟨_, rfl⟩
        refine k_zast X hH 15 14 rfl rfl (z_in e_31 hq_30) dX54_run_84 ef_asked_29 (ws1 := (wX54 ci ad d f_thrown f_cells f_sizes f_keys f_maps f_mapCount f_atoms f_atomCount f_spans f_spanCount f_unions f_unionCount f_isLarge f_trial f_rowAt f_answers f_foundBy f_firstBy f_lastBy f_order f_answerCount f_asked_29 f_tooMany)) rfl (fun H locs hH => ?_)
        have hw := hw (zF f_asked_29) (by rw [ef_asked_29]; exact z_st (f := f_asked) e_31 hq_30.1 (z_narZ (rfl : (1 : Int32).toInt = 1) (by decide)))
        have hq_33 := hw.1
        have hw := hw.2
        obtain ⟨x2_32, ex2_32⟩ : ∃ y : Int32, y = x2 + 1 := ⟨_, rfl⟩
        have hw := hw x2_32.toInt (by rw [ex2_32]; exact (z_x (z_add (z_m (rfl : x2.toInt = _)) (z_m (rfl : (1 : Int32).toInt = 1))) hq_33))
        refine lv_iinc (v := x2_32) (lv' := [(2, .int x2_32), (0, .ref (ad 0))]) hx hb dX54_run_85 hl (k := 1) rfl (by rw [ex2_32]; rfl) (by decide) rfl (fun ls hl => ?_)
        refine lv_goto (tgt := 44) hx hb dX54_run_88 (by decide) ?_
        exact ih x2_32 f_asked_29 hw _ _ ls hH (lv_sub hl [1, 0] rfl)
set_option maxHeartbeats 4000000 in
theorem atX54_run_93 {p : Program} {l : Launch} {e : Env} {s : State} {m : MethodId} {args : Array Value} {below : List Frame} {meth : Method} {c : Code} {dC : Nat → ClassId} {dI : Nat → Nat → Nat} {cl : List vw_C} {ci : Nat} (hc : cl[ci]? = some (RX54, TX54, 23)) {ad : Nat → Nat} {d : Nat → ClassId} {A : Nat → Prop} {post : Int → Int → (Int → Int) → Int → Int → (Int → Int) → (Int → Int) → (Int → Int) → (Int → Int) → (Int → Int) → (Int → Int) → (Int → Int) → Int → (Int → Int) → Int → Prop} {f_cells : Nat → Int32} {f_sizes : Nat → Int32} {f_keys : Nat → Int32} {f_maps : Nat → Int32} {f_mapCount : Int32} {f_atoms : Nat → Int32} {f_atomCount : Int32} {f_spans : Nat → Int32} {f_spanCount : Int32} (X : kX p s m args meth c cX54_run 3 RX54 (some .int) (dC, dI) cl (tX54 d)) {K119 : (Int → Int) → (Int → Int) → (Int → Int) → (Int → Int) → (Int → Int) → Int → Int → Prop}  {f_thrown : Int32} {f_unions : Nat → Int32} {f_unionCount : Int32} {f_isLarge : Int32} {f_trial : Nat → Int32} {f_order : Nat → Int32} {f_asked : Nat → Int32} (hk119 : ∀ (f_rowAt : Nat → Int32) (f_answers : Nat → Int32) (f_foundBy : Nat → Int32) (f_firstBy : Nat → Int32) (f_lastBy : Nat → Int32) (f_answerCount : Int32) (f_tooMany : Int32), K119 (zF f_rowAt) (zF f_answers) (zF f_foundBy) (zF f_firstBy) (zF f_lastBy) f_answerCount.toInt f_tooMany.toInt → ∀ (H : Heap) (locs : List Loc) (ls : Array Slot), kH (dC, dI) cl A s.heap H locs (wX54 ci ad d f_thrown f_cells f_sizes f_keys f_maps f_mapCount f_atoms f_atomCount f_spans f_spanCount f_unions f_unionCount f_isLarge f_trial f_rowAt f_answers f_foundBy f_firstBy f_lastBy f_order f_answerCount f_asked f_tooMany) → lv_has ls 3 [(0, .ref (ad 0))] → W p l e ({ frames := 6, cells := 0, slots := 0, locals := 140 } : Room) s m args below meth c H locs 0 0 (MQ below (va_Qi (fun (r : Int32) (u : Int32 × (Nat → Int32) × Int32 × Int32 × (Nat → Int32) × (Nat → Int32) × (Nat → Int32) × (Nat → Int32) × (Nat → Int32) × (Nat → Int32) × (Nat → Int32) × Int32 × (Nat → Int32) × Int32) => post r.toInt (u.1).toInt (zF (u.2.1)) (u.2.2.1).toInt (u.2.2.2.1).toInt (zF (u.2.2.2.2.1)) (zF (u.2.2.2.2.2.1)) (zF (u.2.2.2.2.2.2.1)) (zF (u.2.2.2.2.2.2.2.1)) (zF (u.2.2.2.2.2.2.2.2.1)) (zF (u.2.2.2.2.2.2.2.2.2.1)) (zF (u.2.2.2.2.2.2.2.2.2.2.1)) (u.2.2.2.2.2.2.2.2.2.2.2.1).toInt (zF (u.2.2.2.2.2.2.2.2.2.2.2.2.1)) (u.2.2.2.2.2.2.2.2.2.2.2.2.2).toInt) (kB (dC, dI) cl (tX54 d) A (fun u : Int32 × (Nat → Int32) × Int32 × Int32 × (Nat → Int32) × (Nat → Int32) × (Nat → Int32) × (Nat → Int32) × (Nat → Int32) × (Nat → Int32) × (Nat → Int32) × Int32 × (Nat → Int32) × Int32 => (wX54 ci ad d (u.1) f_cells f_sizes f_keys f_maps f_mapCount f_atoms f_atomCount f_spans f_spanCount (u.2.1) (u.2.2.1) (u.2.2.2.1) (u.2.2.2.2.1) (u.2.2.2.2.2.1) (u.2.2.2.2.2.2.1) (u.2.2.2.2.2.2.2.1) (u.2.2.2.2.2.2.2.2.1) (u.2.2.2.2.2.2.2.2.2.1) (u.2.2.2.2.2.2.2.2.2.2.1) (u.2.2.2.2.2.2.2.2.2.2.2.1) (u.2.2.2.2.2.2.2.2.2.2.2.2.1) (u.2.2.2.2.2.2.2.2.2.2.2.2.2)))) A) args s 0 0 A) (F0 m 119 ls [])) :
    ∀ (nn : Nat) (x2 : Int32) (f_rowAt : Nat → Int32) (f_answers : Nat → Int32) (f_foundBy : Nat → Int32) (f_firstBy : Nat → Int32) (f_lastBy : Nat → Int32) (f_answerCount : Int32) (f_tooMany : Int32), wX54_run_93 K119 (zF f_cells) (zF f_sizes) (zF f_maps) (zF f_atoms) f_atomCount.toInt (zF f_spans) f_spanCount.toInt (zF f_unions) f_unionCount.toInt nn x2.toInt (zF f_rowAt) (zF f_answers) (zF f_foundBy) (zF f_firstBy) (zF f_lastBy) f_answerCount.toInt f_tooMany.toInt → ∀ (H : Heap) (locs : List Loc) (ls : Array Slot), kH (dC, dI) cl A s.heap H locs (wX54 ci ad d f_thrown f_cells f_sizes f_keys f_maps f_mapCount f_atoms f_atomCount f_spans f_spanCount f_unions f_unionCount f_isLarge f_trial f_rowAt f_answers f_foundBy f_firstBy f_lastBy f_order f_answerCount f_asked f_tooMany) → lv_has ls 3 [(0, .ref (ad 0)), (2, .int x2)] → W p l e ({ frames := 6, cells := 0, slots := 0, locals := 140 } : Room) s m args below meth c H locs 0 0 (MQ below (va_Qi (fun (r : Int32) (u : Int32 × (Nat → Int32) × Int32 × Int32 × (Nat → Int32) × (Nat → Int32) × (Nat → Int32) × (Nat → Int32) × (Nat → Int32) × (Nat → Int32) × (Nat → Int32) × Int32 × (Nat → Int32) × Int32) => post r.toInt (u.1).toInt (zF (u.2.1)) (u.2.2.1).toInt (u.2.2.2.1).toInt (zF (u.2.2.2.2.1)) (zF (u.2.2.2.2.2.1)) (zF (u.2.2.2.2.2.2.1)) (zF (u.2.2.2.2.2.2.2.1)) (zF (u.2.2.2.2.2.2.2.2.1)) (zF (u.2.2.2.2.2.2.2.2.2.1)) (zF (u.2.2.2.2.2.2.2.2.2.2.1)) (u.2.2.2.2.2.2.2.2.2.2.2.1).toInt (zF (u.2.2.2.2.2.2.2.2.2.2.2.2.1)) (u.2.2.2.2.2.2.2.2.2.2.2.2.2).toInt) (kB (dC, dI) cl (tX54 d) A (fun u : Int32 × (Nat → Int32) × Int32 × Int32 × (Nat → Int32) × (Nat → Int32) × (Nat → Int32) × (Nat → Int32) × (Nat → Int32) × (Nat → Int32) × (Nat → Int32) × Int32 × (Nat → Int32) × Int32 => (wX54 ci ad d (u.1) f_cells f_sizes f_keys f_maps f_mapCount f_atoms f_atomCount f_spans f_spanCount (u.2.1) (u.2.2.1) (u.2.2.2.1) (u.2.2.2.2.1) (u.2.2.2.2.2.1) (u.2.2.2.2.2.2.1) (u.2.2.2.2.2.2.2.1) (u.2.2.2.2.2.2.2.2.1) (u.2.2.2.2.2.2.2.2.2.1) (u.2.2.2.2.2.2.2.2.2.2.1) (u.2.2.2.2.2.2.2.2.2.2.2.1) (u.2.2.2.2.2.2.2.2.2.2.2.2.1) (u.2.2.2.2.2.2.2.2.2.2.2.2.2)))) A) args s 0 0 A) (F0 m 93 ls []) := by
  have hx := X.1.1
  have hb := X.1.2.1
  intro nn
  induction nn with
  | zero =>
    intro x2 f_rowAt f_answers f_foundBy f_firstBy f_lastBy f_answerCount f_tooMany hw
    exact False.elim hw
  | succ n ih =>
    intro x2 f_rowAt f_answers f_foundBy f_firstBy f_lastBy f_answerCount f_tooMany hw H locs ls hH hl
    rw [wX54_run_93] at hw
    refine lv_iload_n hx hb dX54_run_93 rfl (lv_at hl 1 rfl) ?_
    refine lv_aload_n hx hb dX54_run_94 rfl (lv_at hl 0 rfl) ?_
    refine k_get X hH in_X54 0 rfl hc 11 (by decide) q6511 rfl dX54_run_95 ?_
    refine lv_icmp_ge (tgt := 119) hx hb dX54_run_98 (by decide) (fun c_35 => ?_) (fun c_35 => ?_)
    · have hw := hw.1 (z_le (rfl : f_unionCount.toInt = _) (rfl : x2.toInt = _) c_35)
      exact hk119 f_rowAt f_answers f_foundBy f_firstBy f_lastBy f_answerCount f_tooMany hw _ _ ls hH (lv_sub hl [0] rfl)
    · have hw := hw.2 (z_nle (rfl : f_unionCount.toInt = _) (rfl : x2.toInt = _) c_35)
      refine lv_aload_n hx hb dX54_run_101 rfl (lv_at hl 0 rfl) ?_
      refine k_get X hH in_X54 0 rfl hc 22 (by decide) q6522 rfl dX54_run_102 ?_
      refine lv_if_ne (tgt := 119) hx hb dX54_run_105 (by decide) (fun c_36 => ?_) (fun c_36 => ?_)
      · have hw := hw.2 (z_ne (rfl : f_tooMany.toInt = _) (rfl : (0 : Int32).toInt = 0) c_36)
        exact hk119 f_rowAt f_answers f_foundBy f_firstBy f_lastBy f_answerCount f_tooMany hw _ _ ls hH (lv_sub hl [0] rfl)
      · have hw := hw.1 (z_eq (rfl : f_tooMany.toInt = _) (rfl : (0 : Int32).toInt = 0) c_36)
        refine lv_aload_n hx hb dX54_run_108 rfl (lv_at hl 0 rfl) ?_
        refine lv_iload_n hx hb dX54_run_109 rfl (lv_at hl 1 rfl) ?_
        refine k_v0 hH (k_runV (As := [.int x2]) (rest := []) X hH.1 hH.2.1 X.2.2.2 (walkX54_look hc (x1 := x2) (f_thrown := f_thrown) (f_cells := f_cells) (f_sizes := f_sizes) (f_keys := f_keys) (f_maps := f_maps) (f_mapCount := f_mapCount) (f_atoms := f_atoms) (f_atomCount := f_atomCount) (f_spans := f_spans) (f_spanCount := f_spanCount) (f_unions := f_unions) (f_unionCount := f_unionCount) (f_isLarge := f_isLarge) (f_trial := f_trial) (f_rowAt := f_rowAt) (f_answers := f_answers) (f_foundBy := f_foundBy) (f_firstBy := f_firstBy) (f_lastBy := f_lastBy) (f_order := f_order) (f_answerCount := f_answerCount) (f_asked := f_asked) (f_tooMany := f_tooMany) hw) (cwV 1 X.1.2.2.2.2 gX54_153 rfl rfl rfl hX54_look ⟨Nat.le_of_ble_eq_true rfl, Nat.le_of_ble_eq_true rfl⟩) hc (q0 := 0) rfl rfl hl.1 rfl (Nat.le_of_ble_eq_true rfl) dX54_run_110 ⟨Nat.le_refl 0, Nat.le_refl 0⟩) (fun u H locs hw hH => ?_)
        obtain ⟨f_rowAt_37, f_answers_38, f_foundBy_39, f_firstBy_40, f_lastBy_41, f_answerCount_42, f_tooMany_43⟩ := u
        have hH : kH (dC, dI) cl A s.heap H locs (wX54 ci ad d f_thrown f_cells f_sizes f_keys f_maps f_mapCount f_atoms f_atomCount f_spans f_spanCount f_unions f_unionCount f_isLarge f_trial f_rowAt_37 f_answers_38 f_foundBy_39 f_firstBy_40 f_lastBy_41 f_order f_answerCount_42 f_asked f_tooMany_43) := hH
        have hq_45 := hw.1
        have hw := hw.2
        obtain ⟨x2_44, ex2_44⟩ : ∃ y : Int32, y = x2 + 1 := ⟨_, rfl⟩
        have hw := hw x2_44.toInt (by rw [ex2_44]; exact (z_x (z_add (z_m (rfl : x2.toInt = _)) (z_m (rfl : (1 : Int32).toInt = 1))) hq_45))
        refine lv_iinc (v := x2_44) (lv' := [(2, .int x2_44), (0, .ref (ad 0))]) hx hb dX54_run_113 hl (k := 1) rfl (by rw [ex2_44]; rfl) (by decide) rfl (fun ls hl => ?_)
        refine lv_goto (tgt := 93) hx hb dX54_run_116 (by decide) ?_
        exact ih x2_44 f_rowAt_37 f_answers_38 f_foundBy_39 f_firstBy_40 f_lastBy_41 f_answerCount_42 f_tooMany_43 hw _ _ ls hH (lv_sub hl [1, 0] rfl)
set_option maxHeartbeats 4000000 in
theorem atX54_run_119 {p : Program} {l : Launch} {e : Env} {s : State} {m : MethodId} {args : Array Value} {below : List Frame} {meth : Method} {c : Code} {dC : Nat → ClassId} {dI : Nat → Nat → Nat} {cl : List vw_C} {ci : Nat} (hc : cl[ci]? = some (RX54, TX54, 23)) {ad : Nat → Nat} {d : Nat → ClassId} {A : Nat → Prop} {post : Int → Int → (Int → Int) → Int → Int → (Int → Int) → (Int → Int) → (Int → Int) → (Int → Int) → (Int → Int) → (Int → Int) → (Int → Int) → Int → (Int → Int) → Int → Prop} {f_cells : Nat → Int32} {f_sizes : Nat → Int32} {f_keys : Nat → Int32} {f_maps : Nat → Int32} {f_mapCount : Int32} {f_atoms : Nat → Int32} {f_atomCount : Int32} {f_spans : Nat → Int32} {f_spanCount : Int32} (X : kX p s m args meth c cX54_run 3 RX54 (some .int) (dC, dI) cl (tX54 d))     :
    ∀ (f_thrown : Int32) (f_unions : Nat → Int32) (f_unionCount : Int32) (f_isLarge : Int32) (f_trial : Nat → Int32) (f_rowAt : Nat → Int32) (f_answers : Nat → Int32) (f_foundBy : Nat → Int32) (f_firstBy : Nat → Int32) (f_lastBy : Nat → Int32) (f_order : Nat → Int32) (f_answerCount : Int32) (f_asked : Nat → Int32) (f_tooMany : Int32), wX54_run_119 post f_thrown.toInt (zF f_unions) f_unionCount.toInt f_isLarge.toInt (zF f_trial) (zF f_rowAt) (zF f_answers) (zF f_foundBy) (zF f_firstBy) (zF f_lastBy) (zF f_order) f_answerCount.toInt (zF f_asked) f_tooMany.toInt → ∀ (H : Heap) (locs : List Loc) (ls : Array Slot), kH (dC, dI) cl A s.heap H locs (wX54 ci ad d f_thrown f_cells f_sizes f_keys f_maps f_mapCount f_atoms f_atomCount f_spans f_spanCount f_unions f_unionCount f_isLarge f_trial f_rowAt f_answers f_foundBy f_firstBy f_lastBy f_order f_answerCount f_asked f_tooMany) → lv_has ls 3 [(0, .ref (ad 0))] → W p l e ({ frames := 6, cells := 0, slots := 0, locals := 140 } : Room) s m args below meth c H locs 0 0 (MQ below (va_Qi (fun (r : Int32) (u : Int32 × (Nat → Int32) × Int32 × Int32 × (Nat → Int32) × (Nat → Int32) × (Nat → Int32) × (Nat → Int32) × (Nat → Int32) × (Nat → Int32) × (Nat → Int32) × Int32 × (Nat → Int32) × Int32) => post r.toInt (u.1).toInt (zF (u.2.1)) (u.2.2.1).toInt (u.2.2.2.1).toInt (zF (u.2.2.2.2.1)) (zF (u.2.2.2.2.2.1)) (zF (u.2.2.2.2.2.2.1)) (zF (u.2.2.2.2.2.2.2.1)) (zF (u.2.2.2.2.2.2.2.2.1)) (zF (u.2.2.2.2.2.2.2.2.2.1)) (zF (u.2.2.2.2.2.2.2.2.2.2.1)) (u.2.2.2.2.2.2.2.2.2.2.2.1).toInt (zF (u.2.2.2.2.2.2.2.2.2.2.2.2.1)) (u.2.2.2.2.2.2.2.2.2.2.2.2.2).toInt) (kB (dC, dI) cl (tX54 d) A (fun u : Int32 × (Nat → Int32) × Int32 × Int32 × (Nat → Int32) × (Nat → Int32) × (Nat → Int32) × (Nat → Int32) × (Nat → Int32) × (Nat → Int32) × (Nat → Int32) × Int32 × (Nat → Int32) × Int32 => (wX54 ci ad d (u.1) f_cells f_sizes f_keys f_maps f_mapCount f_atoms f_atomCount f_spans f_spanCount (u.2.1) (u.2.2.1) (u.2.2.2.1) (u.2.2.2.2.1) (u.2.2.2.2.2.1) (u.2.2.2.2.2.2.1) (u.2.2.2.2.2.2.2.1) (u.2.2.2.2.2.2.2.2.1) (u.2.2.2.2.2.2.2.2.2.1) (u.2.2.2.2.2.2.2.2.2.2.1) (u.2.2.2.2.2.2.2.2.2.2.2.1) (u.2.2.2.2.2.2.2.2.2.2.2.2.1) (u.2.2.2.2.2.2.2.2.2.2.2.2.2)))) A) args s 0 0 A) (F0 m 119 ls []) := by
  have hx := X.1.1
  have hb := X.1.2.1
  intro f_thrown f_unions f_unionCount f_isLarge f_trial f_rowAt f_answers f_foundBy f_firstBy f_lastBy f_order f_answerCount f_asked f_tooMany hw H locs ls hH hl
  unfold wX54_run_119 at hw
  refine lv_aload_n hx hb dX54_run_119 rfl (lv_at hl 0 rfl) ?_
  refine k_get X hH in_X54 0 rfl hc 22 (by decide) q6522 rfl dX54_run_120 ?_
  refine lv_if_eq (tgt := 131) hx hb dX54_run_123 (by decide) (fun c_53 => ?_) (fun c_53 => ?_)
  · have hw := hw.1 (z_eq (rfl : f_tooMany.toInt = _) (rfl : (0 : Int32).toInt = 0) c_53)
    refine lv_aload_n hx hb dX54_run_131 rfl (lv_at hl 0 rfl) ?_
    refine k_v0 hH (k_runV (As := []) (rest := []) X hH.1 hH.2.1 X.2.2.2 (walkX54_sort hc (f_thrown := f_thrown) (f_cells := f_cells) (f_sizes := f_sizes) (f_keys := f_keys) (f_maps := f_maps) (f_mapCount := f_mapCount) (f_atoms := f_atoms) (f_atomCount := f_atomCount) (f_spans := f_spans) (f_spanCount := f_spanCount) (f_unions := f_unions) (f_unionCount := f_unionCount) (f_isLarge := f_isLarge) (f_trial := f_trial) (f_rowAt := f_rowAt) (f_answers := f_answers) (f_foundBy := f_foundBy) (f_firstBy := f_firstBy) (f_lastBy := f_lastBy) (f_order := f_order) (f_answerCount := f_answerCount) (f_asked := f_asked) (f_tooMany := f_tooMany) hw) (cwV 0 X.1.2.2.2.2 gX54_156 rfl rfl rfl hX54_sort ⟨Nat.le_of_ble_eq_true rfl, Nat.le_of_ble_eq_true rfl⟩) hc (q0 := 0) rfl rfl hl.1 rfl (Nat.le_of_ble_eq_true rfl) dX54_run_132 ⟨Nat.le_refl 0, Nat.le_refl 0⟩) (fun u H locs hw hH => ?_)
    obtain ⟨f_order_54, eu⟩ : ∃ z, z = u := ⟨_, rfl⟩
    subst eu
    have hH : kH (dC, dI) cl A s.heap H locs (wX54 ci ad d f_thrown f_cells f_sizes f_keys f_maps f_mapCount f_atoms f_atomCount f_spans f_spanCount f_unions f_unionCount f_isLarge f_trial f_rowAt f_answers f_foundBy f_firstBy f_lastBy f_order_54 f_answerCount f_asked f_tooMany) := hH
    refine lv_aload_n hx hb dX54_run_135 rfl (lv_at hl 0 rfl) ?_
    refine k_get X hH in_X54 0 rfl hc 22 (by decide) q6522 rfl dX54_run_136 ?_
    refine lv_if_eq (tgt := 147) hx hb dX54_run_139 (by decide) (fun c_55 => ?_) (fun c_55 => ?_)
    · have hw := hw.1 (z_eq (rfl : f_tooMany.toInt = _) (rfl : (0 : Int32).toInt = 0) c_55)
      refine lv_aload_n hx hb dX54_run_147 rfl (lv_at hl 0 rfl) ?_
      refine k_get X hH in_X54 0 rfl hc 20 (by decide) q6520 rfl dX54_run_148 ?_
      exact k_iret (v := f_answerCount) X hH (f_thrown, f_unions, f_unionCount, f_isLarge, f_trial, f_rowAt, f_answers, f_foundBy, f_firstBy, f_lastBy, f_order_54, f_answerCount, f_asked, f_tooMany) hw rfl rfl dX54_run_151
    · have hw := hw.2 (z_neq (rfl : f_tooMany.toInt = _) (rfl : (0 : Int32).toInt = 0) c_55)
      refine lv_bipush (v := (-3)) hx hb dX54_run_142 (by decide) ?_
      refine lv_goto (tgt := 151) hx hb dX54_run_144 (by decide) ?_
      exact k_iret (v := (-3)) X hH (f_thrown, f_unions, f_unionCount, f_isLarge, f_trial, f_rowAt, f_answers, f_foundBy, f_firstBy, f_lastBy, f_order_54, f_answerCount, f_asked, f_tooMany) hw rfl rfl dX54_run_151
  · have hw := hw.2 (z_neq (rfl : f_tooMany.toInt = _) (rfl : (0 : Int32).toInt = 0) c_53)
    refine lv_aload_n hx hb dX54_run_126 rfl (lv_at hl 0 rfl) ?_
    refine lv_iconst (v := 0) hx hb dX54_run_127 (by decide) ?_
    refine k_put X hH in_X54 tyX54_ok nmX54 0 rfl hc 20 (by decide) q6520 rfl (ty := .int) rfl rfl rfl (Nat.le_of_ble_eq_true rfl) dX54_run_128 (ws1 := (wX54 ci ad d f_thrown f_cells f_sizes f_keys f_maps f_mapCount f_atoms f_atomCount f_spans f_spanCount f_unions f_unionCount f_isLarge f_trial f_rowAt f_answers f_foundBy f_firstBy f_lastBy f_order 0 f_asked f_tooMany)) rfl (fun H locs hH => ?_)
    refine lv_aload_n hx hb dX54_run_131 rfl (lv_at hl 0 rfl) ?_
    refine k_v0 hH (k_runV (As := []) (rest := []) X hH.1 hH.2.1 X.2.2.2 (walkX54_sort hc (f_thrown := f_thrown) (f_cells := f_cells) (f_sizes := f_sizes) (f_keys := f_keys) (f_maps := f_maps) (f_mapCount := f_mapCount) (f_atoms := f_atoms) (f_atomCount := f_atomCount) (f_spans := f_spans) (f_spanCount := f_spanCount) (f_unions := f_unions) (f_unionCount := f_unionCount) (f_isLarge := f_isLarge) (f_trial := f_trial) (f_rowAt := f_rowAt) (f_answers := f_answers) (f_foundBy := f_foundBy) (f_firstBy := f_firstBy) (f_lastBy := f_lastBy) (f_order := f_order) (f_answerCount := 0) (f_asked := f_asked) (f_tooMany := f_tooMany) hw) (cwV 0 X.1.2.2.2.2 gX54_156 rfl rfl rfl hX54_sort ⟨Nat.le_of_ble_eq_true rfl, Nat.le_of_ble_eq_true rfl⟩) hc (q0 := 0) rfl rfl hl.1 rfl (Nat.le_of_ble_eq_true rfl) dX54_run_132 ⟨Nat.le_refl 0, Nat.le_refl 0⟩) (fun u H locs hw hH => ?_)
    obtain ⟨f_order_56, eu⟩ : ∃ z, z = u := ⟨_, rfl⟩
    subst eu
    have hH : kH (dC, dI) cl A s.heap H locs (wX54 ci ad d f_thrown f_cells f_sizes f_keys f_maps f_mapCount f_atoms f_atomCount f_spans f_spanCount f_unions f_unionCount f_isLarge f_trial f_rowAt f_answers f_foundBy f_firstBy f_lastBy f_order_56 0 f_asked f_tooMany) := hH
    refine lv_aload_n hx hb dX54_run_135 rfl (lv_at hl 0 rfl) ?_
    refine k_get X hH in_X54 0 rfl hc 22 (by decide) q6522 rfl dX54_run_136 ?_
    refine lv_if_eq (tgt := 147) hx hb dX54_run_139 (by decide) (fun c_57 => ?_) (fun c_57 => ?_)
    · have hw := hw.1 (z_eq (rfl : f_tooMany.toInt = _) (rfl : (0 : Int32).toInt = 0) c_57)
      refine lv_aload_n hx hb dX54_run_147 rfl (lv_at hl 0 rfl) ?_
      refine k_get X hH in_X54 0 rfl hc 20 (by decide) q6520 rfl dX54_run_148 ?_
      exact k_iret (v := 0) X hH (f_thrown, f_unions, f_unionCount, f_isLarge, f_trial, f_rowAt, f_answers, f_foundBy, f_firstBy, f_lastBy, f_order_56, 0, f_asked, f_tooMany) hw rfl rfl dX54_run_151
    · have hw := hw.2 (z_neq (rfl : f_tooMany.toInt = _) (rfl : (0 : Int32).toInt = 0) c_57)
      refine lv_bipush (v := (-3)) hx hb dX54_run_142 (by decide) ?_
      refine lv_goto (tgt := 151) hx hb dX54_run_144 (by decide) ?_
      exact k_iret (v := (-3)) X hH (f_thrown, f_unions, f_unionCount, f_isLarge, f_trial, f_rowAt, f_answers, f_foundBy, f_firstBy, f_lastBy, f_order_56, 0, f_asked, f_tooMany) hw rfl rfl dX54_run_151
set_option maxHeartbeats 4000000 in
theorem walkX54_run {l : Launch} {dC : Nat → ClassId} {dI : Nat → Nat → Nat} {cl : List vw_C} {ci : Nat} (hc : cl[ci]? = some (RX54, TX54, 23)) {ad : Nat → Nat} {d : Nat → ClassId} {sz : Nat} {f_thrown : Int32} {f_cells : Nat → Int32} {f_sizes : Nat → Int32} {f_keys : Nat → Int32} {f_maps : Nat → Int32} {f_mapCount : Int32} {f_atoms : Nat → Int32} {f_atomCount : Int32} {f_spans : Nat → Int32} {f_spanCount : Int32} {f_unions : Nat → Int32} {f_unionCount : Int32} {f_isLarge : Int32} {f_trial : Nat → Int32} {f_rowAt : Nat → Int32} {f_answers : Nat → Int32} {f_foundBy : Nat → Int32} {f_firstBy : Nat → Int32} {f_lastBy : Nat → Int32} {f_order : Nat → Int32} {f_answerCount : Int32} {f_asked : Nat → Int32} {f_tooMany : Int32}  {post : Int → Int → (Int → Int) → Int → Int → (Int → Int) → (Int → Int) → (Int → Int) → (Int → Int) → (Int → Int) → (Int → Int) → (Int → Int) → Int → (Int → Int) → Int → Prop} (hw : wpX54_run post (zF f_cells) (zF f_sizes) (zF f_keys) (zF f_maps) f_mapCount.toInt (zF f_atoms) f_atomCount.toInt (zF f_spans) f_spanCount.toInt (zF f_unions) f_unionCount.toInt f_isLarge.toInt (zF f_trial) (zF f_rowAt) (zF f_answers) (zF f_foundBy) (zF f_firstBy) (zF f_lastBy) (zF f_order) (zF f_asked) ) :
    Met l yX54_run (ws_ yX54_run cX54_run 3 (some .int)) ({ frames := 6, cells := 0, slots := 0, locals := 140 } : Room) (kPc (dC, dI) cl (tX54 d) [.ref (ad 0)] sz (wX54 ci ad d f_thrown f_cells f_sizes f_keys f_maps f_mapCount f_atoms f_atomCount f_spans f_spanCount f_unions f_unionCount f_isLarge f_trial f_rowAt f_answers f_foundBy f_firstBy f_lastBy f_order f_answerCount f_asked f_tooMany)) (va_Qi (fun (r : Int32) (u : Int32 × (Nat → Int32) × Int32 × Int32 × (Nat → Int32) × (Nat → Int32) × (Nat → Int32) × (Nat → Int32) × (Nat → Int32) × (Nat → Int32) × (Nat → Int32) × Int32 × (Nat → Int32) × Int32) => post r.toInt (u.1).toInt (zF (u.2.1)) (u.2.2.1).toInt (u.2.2.2.1).toInt (zF (u.2.2.2.2.1)) (zF (u.2.2.2.2.2.1)) (zF (u.2.2.2.2.2.2.1)) (zF (u.2.2.2.2.2.2.2.1)) (zF (u.2.2.2.2.2.2.2.2.1)) (zF (u.2.2.2.2.2.2.2.2.2.1)) (zF (u.2.2.2.2.2.2.2.2.2.2.1)) (u.2.2.2.2.2.2.2.2.2.2.2.1).toInt (zF (u.2.2.2.2.2.2.2.2.2.2.2.2.1)) (u.2.2.2.2.2.2.2.2.2.2.2.2.2).toInt) (kB (dC, dI) cl (tX54 d) (va_A (wX54 ci ad d f_thrown f_cells f_sizes f_keys f_maps f_mapCount f_atoms f_atomCount f_spans f_spanCount f_unions f_unionCount f_isLarge f_trial f_rowAt f_answers f_foundBy f_firstBy f_lastBy f_order f_answerCount f_asked f_tooMany) sz) (fun u : Int32 × (Nat → Int32) × Int32 × Int32 × (Nat → Int32) × (Nat → Int32) × (Nat → Int32) × (Nat → Int32) × (Nat → Int32) × (Nat → Int32) × (Nat → Int32) × Int32 × (Nat → Int32) × Int32 => (wX54 ci ad d (u.1) f_cells f_sizes f_keys f_maps f_mapCount f_atoms f_atomCount f_spans f_spanCount (u.2.1) (u.2.2.1) (u.2.2.2.1) (u.2.2.2.2.1) (u.2.2.2.2.2.1) (u.2.2.2.2.2.2.1) (u.2.2.2.2.2.2.2.1) (u.2.2.2.2.2.2.2.2.1) (u.2.2.2.2.2.2.2.2.2.1) (u.2.2.2.2.2.2.2.2.2.2.1) (u.2.2.2.2.2.2.2.2.2.2.2.1) (u.2.2.2.2.2.2.2.2.2.2.2.2.1) (u.2.2.2.2.2.2.2.2.2.2.2.2.2)))) (va_A (wX54 ci ad d f_thrown f_cells f_sizes f_keys f_maps f_mapCount f_atoms f_atomCount f_spans f_spanCount f_unions f_unionCount f_isLarge f_trial f_rowAt f_answers f_foundBy f_firstBy f_lastBy f_order f_answerCount f_asked f_tooMany) sz)) 0 0 (va_A (wX54 ci ad d f_thrown f_cells f_sizes f_keys f_maps f_mapCount f_atoms f_atomCount f_spans f_spanCount f_unions f_unionCount f_isLarge f_trial f_rowAt f_answers f_foundBy f_firstBy f_lastBy f_order f_answerCount f_asked f_tooMany) sz) := by
  refine k_enter (by decide) (Nat.le_of_ble_eq_true rfl) ?_
  intro p e s m below meth c ls X hsz hH hl
  subst hsz
  generalize va_A (wX54 ci ad d f_thrown f_cells f_sizes f_keys f_maps f_mapCount f_atoms f_atomCount f_spans f_spanCount f_unions f_unionCount f_isLarge f_trial f_rowAt f_answers f_foundBy f_firstBy f_lastBy f_order f_answerCount f_asked f_tooMany) s.heap.size = A at hH ⊢
  have hx := X.1.1
  have hb := X.1.2.1
  have hl : lv_has ls 3 [(0, .ref (ad 0))] := hl
  unfold wpX54_run at hw
  refine lv_aload_n hx hb dX54_run_0 rfl (lv_at hl 0 rfl) ?_
  refine lv_iconst (v := 0) hx hb dX54_run_1 (by decide) ?_
  refine k_put X hH in_X54 tyX54_ok nmX54 0 rfl hc 20 (by decide) q6520 rfl (ty := .int) rfl rfl rfl (Nat.le_of_ble_eq_true rfl) dX54_run_2 (ws1 := (wX54 ci ad d f_thrown f_cells f_sizes f_keys f_maps f_mapCount f_atoms f_atomCount f_spans f_spanCount f_unions f_unionCount f_isLarge f_trial f_rowAt f_answers f_foundBy f_firstBy f_lastBy f_order 0 f_asked f_tooMany)) rfl (fun H locs hH => ?_)
  refine lv_aload_n hx hb dX54_run_5 rfl (lv_at hl 0 rfl) ?_
  refine lv_iconst (v := 0) hx hb dX54_run_6 (by decide) ?_
  refine k_put X hH in_X54 tyX54_ok nmX54 0 rfl hc 22 (by decide) q6522 rfl (ty := .boolean) rfl rfl rfl (Nat.le_of_ble_eq_true rfl) dX54_run_7 (ws1 := (wX54 ci ad d f_thrown f_cells f_sizes f_keys f_maps f_mapCount f_atoms f_atomCount f_spans f_spanCount f_unions f_unionCount f_isLarge f_trial f_rowAt f_answers f_foundBy f_firstBy f_lastBy f_order 0 f_asked 0)) rfl (fun H locs hH => ?_)
  refine lv_aload_n hx hb dX54_run_10 rfl (lv_at hl 0 rfl) ?_
  refine k_i0 hH (k_runV (As := []) (rest := []) X hH.1 hH.2.1 X.2.2.2 (walkX54_ready hc (f_thrown := f_thrown) (f_cells := f_cells) (f_sizes := f_sizes) (f_keys := f_keys) (f_maps := f_maps) (f_mapCount := f_mapCount) (f_atoms := f_atoms) (f_atomCount := f_atomCount) (f_spans := f_spans) (f_spanCount := f_spanCount) (f_unions := f_unions) (f_unionCount := f_unionCount) (f_isLarge := f_isLarge) (f_trial := f_trial) (f_rowAt := f_rowAt) (f_answers := f_answers) (f_foundBy := f_foundBy) (f_firstBy := f_firstBy) (f_lastBy := f_lastBy) (f_order := f_order) (f_answerCount := 0) (f_asked := f_asked) (f_tooMany := 0) hw) (cwV 0 X.1.2.2.2.2 gX54_121 rfl rfl rfl hX54_ready ⟨Nat.le_of_ble_eq_true rfl, Nat.le_of_ble_eq_true rfl⟩) hc (q0 := 0) rfl rfl hl.1 rfl (Nat.le_of_ble_eq_true rfl) dX54_run_11 ⟨Nat.le_refl 0, Nat.le_refl 0⟩) (fun r_1 u H locs hw hH => ?_)
  obtain ⟨f_thrown_2, f_unions_3, f_unionCount_4, f_isLarge_5, f_trial_6⟩ := u
  have hH : kH (dC, dI) cl A s.heap H locs (wX54 ci ad d f_thrown_2 f_cells f_sizes f_keys f_maps f_mapCount f_atoms f_atomCount f_spans f_spanCount f_unions_3 f_unionCount_4 f_isLarge_5 f_trial_6 f_rowAt f_answers f_foundBy f_firstBy f_lastBy f_order 0 f_asked 0) := hH
  refine lv_istore_n (lv' := [(1, .int r_1), (0, .ref (ad 0))]) hx hb dX54_run_14 rfl hl (by decide) rfl (fun ls hl => ?_)
  refine lv_iload_n hx hb dX54_run_15 rfl (lv_at hl 0 rfl) ?_
  refine lv_if_ge (tgt := 21) hx hb dX54_run_16 (by decide) (fun c_7 => ?_) (fun c_7 => ?_)
  · have hw := hw.1 (z_le (rfl : (0 : Int32).toInt = 0) (rfl : r_1.toInt = _) c_7)
    refine lv_iconst (v := 0) hx hb dX54_run_21 (by decide) ?_
    refine lv_istore_n (lv' := [(2, .int 0), (1, .int r_1), (0, .ref (ad 0))]) hx hb dX54_run_22 rfl hl (by decide) rfl (fun ls hl => ?_)
    obtain ⟨fu, hw⟩ := hw
    refine atX54_run_23 hc X ?_ fu 0 f_asked hw _ _ ls hH (lv_sub hl [2, 0] rfl)
    · intro f_asked_13 hw H locs ls hH hl
      refine lv_iconst (v := 0) hx hb dX54_run_42 (by decide) ?_
      refine lv_istore_n (lv' := [(2, .int 0), (0, .ref (ad 0))]) hx hb dX54_run_43 rfl hl (by decide) rfl (fun ls hl => ?_)
      obtain ⟨fu, hw⟩ := hw
      refine atX54_run_44 hc X ?_ fu 0 f_asked_13 hw _ _ ls hH (lv_sub hl [1, 0] rfl)
      · intro f_asked_34 hw H locs ls hH hl
        refine lv_iconst (v := 0) hx hb dX54_run_91 (by decide) ?_
        refine lv_istore_n (lv' := [(2, .int 0), (0, .ref (ad 0))]) hx hb dX54_run_92 rfl hl (by decide) rfl (fun ls hl => ?_)
        obtain ⟨fu, hw⟩ := hw
        refine atX54_run_93 hc X ?_ fu 0 f_rowAt f_answers f_foundBy f_firstBy f_lastBy 0 0 hw _ _ ls hH (lv_sub hl [1, 0] rfl)
        · intro f_rowAt_46 f_answers_47 f_foundBy_48 f_firstBy_49 f_lastBy_50 f_answerCount_51 f_tooMany_52 hw H locs ls hH hl
          exact atX54_run_119 hc X f_thrown_2 f_unions_3 f_unionCount_4 f_isLarge_5 f_trial_6 f_rowAt_46 f_answers_47 f_foundBy_48 f_firstBy_49 f_lastBy_50 f_order f_answerCount_51 f_asked_34 f_tooMany_52 hw _ _ ls hH (lv_sub hl [0] rfl)
  · have hw := hw.2 (z_nle (rfl : (0 : Int32).toInt = 0) (rfl : r_1.toInt = _) c_7)
    refine lv_iload_n hx hb dX54_run_19 rfl (lv_at hl 0 rfl) ?_
    exact k_iret (v := r_1) X hH (f_thrown_2, f_unions_3, f_unionCount_4, f_isLarge_5, f_trial_6, f_rowAt, f_answers, f_foundBy, f_firstBy, f_lastBy, f_order, 0, f_asked, 0) hw rfl rfl dX54_run_20
set_option maxHeartbeats 4000000 in
theorem walkX54_isIn {l : Launch} {dC : Nat → ClassId} {dI : Nat → Nat → Nat} {cl : List vw_C} {ci : Nat} (hc : cl[ci]? = some (RX54, TX54, 23)) {ad : Nat → Nat} {d : Nat → ClassId} {sz : Nat} {f_thrown : Int32} {f_cells : Nat → Int32} {f_sizes : Nat → Int32} {f_keys : Nat → Int32} {f_maps : Nat → Int32} {f_mapCount : Int32} {f_atoms : Nat → Int32} {f_atomCount : Int32} {f_spans : Nat → Int32} {f_spanCount : Int32} {f_unions : Nat → Int32} {f_unionCount : Int32} {f_isLarge : Int32} {f_trial : Nat → Int32} {f_rowAt : Nat → Int32} {f_answers : Nat → Int32} {f_foundBy : Nat → Int32} {f_firstBy : Nat → Int32} {f_lastBy : Nat → Int32} {f_order : Nat → Int32} {f_answerCount : Int32} {f_asked : Nat → Int32} {f_tooMany : Int32} {x0 : Int32} {x1 : Int32} {post : Int → Prop} (hw : wpX54_isIn post  x0.toInt x1.toInt) :
    Met l yX54_isIn (ws_ yX54_isIn cX54_isIn 2 (some .boolean)) ({ frames := 0, cells := 0, slots := 0, locals := 0 } : Room) (kPc (dC, dI) cl (tX54 d) [.int x0, .int x1] sz (wX54 ci ad d f_thrown f_cells f_sizes f_keys f_maps f_mapCount f_atoms f_atomCount f_spans f_spanCount f_unions f_unionCount f_isLarge f_trial f_rowAt f_answers f_foundBy f_firstBy f_lastBy f_order f_answerCount f_asked f_tooMany)) (va_Qi (fun (r : Int32) (_ : Unit) => post r.toInt) (kB (dC, dI) cl (tX54 d) (va_A (wX54 ci ad d f_thrown f_cells f_sizes f_keys f_maps f_mapCount f_atoms f_atomCount f_spans f_spanCount f_unions f_unionCount f_isLarge f_trial f_rowAt f_answers f_foundBy f_firstBy f_lastBy f_order f_answerCount f_asked f_tooMany) sz) (fun _ : Unit => (wX54 ci ad d f_thrown f_cells f_sizes f_keys f_maps f_mapCount f_atoms f_atomCount f_spans f_spanCount f_unions f_unionCount f_isLarge f_trial f_rowAt f_answers f_foundBy f_firstBy f_lastBy f_order f_answerCount f_asked f_tooMany))) (va_A (wX54 ci ad d f_thrown f_cells f_sizes f_keys f_maps f_mapCount f_atoms f_atomCount f_spans f_spanCount f_unions f_unionCount f_isLarge f_trial f_rowAt f_answers f_foundBy f_firstBy f_lastBy f_order f_answerCount f_asked f_tooMany) sz)) 0 0 (va_A (wX54 ci ad d f_thrown f_cells f_sizes f_keys f_maps f_mapCount f_atoms f_atomCount f_spans f_spanCount f_unions f_unionCount f_isLarge f_trial f_rowAt f_answers f_foundBy f_firstBy f_lastBy f_order f_answerCount f_asked f_tooMany) sz) := by
  refine k_enter (by decide) (Nat.le_of_ble_eq_true rfl) ?_
  intro p e s m below meth c ls X hsz hH hl
  subst hsz
  generalize va_A (wX54 ci ad d f_thrown f_cells f_sizes f_keys f_maps f_mapCount f_atoms f_atomCount f_spans f_spanCount f_unions f_unionCount f_isLarge f_trial f_rowAt f_answers f_foundBy f_firstBy f_lastBy f_order f_answerCount f_asked f_tooMany) s.heap.size = A at hH ⊢
  have hx := X.1.1
  have hb := X.1.2.1
  have hl : lv_has ls 2 [(0, .int x0), (1, .int x1)] := hl
  unfold wpX54_isIn at hw
  refine lv_iload_n hx hb dX54_isIn_0 rfl (lv_at hl 0 rfl) ?_
  refine lv_if_lt (tgt := 13) hx hb dX54_isIn_1 (by decide) (fun c_1 => ?_) (fun c_1 => ?_)
  · have hw := hw.1 (z_lt (rfl : x0.toInt = _) (rfl : (0 : Int32).toInt = 0) c_1)
    refine lv_iconst (v := 0) hx hb dX54_isIn_13 (by decide) ?_
    exact k_iret (v := 0) X hH () hw rfl rfl dX54_isIn_14
  · have hw := hw.2 (z_nlt (rfl : x0.toInt = _) (rfl : (0 : Int32).toInt = 0) c_1)
    refine lv_iload_n hx hb dX54_isIn_4 rfl (lv_at hl 0 rfl) ?_
    refine lv_iload_n hx hb dX54_isIn_5 rfl (lv_at hl 1 rfl) ?_
    refine lv_icmp_ge (tgt := 13) hx hb dX54_isIn_6 (by decide) (fun c_2 => ?_) (fun c_2 => ?_)
    · have hw := hw.1 (z_le (rfl : x1.toInt = _) (rfl : x0.toInt = _) c_2)
      refine lv_iconst (v := 0) hx hb dX54_isIn_13 (by decide) ?_
      exact k_iret (v := 0) X hH () hw rfl rfl dX54_isIn_14
    · have hw := hw.2 (z_nle (rfl : x1.toInt = _) (rfl : x0.toInt = _) c_2)
      refine lv_iconst (v := 1) hx hb dX54_isIn_9 (by decide) ?_
      refine lv_goto (tgt := 14) hx hb dX54_isIn_10 (by decide) ?_
      exact k_iret (v := 1) X hH () hw rfl rfl dX54_isIn_14
set_option maxHeartbeats 4000000 in
theorem atX54_value_42 {p : Program} {l : Launch} {e : Env} {s : State} {m : MethodId} {args : Array Value} {below : List Frame} {meth : Method} {c : Code} {dC : Nat → ClassId} {dI : Nat → Nat → Nat} {cl : List vw_C} {ci : Nat} (hc : cl[ci]? = some (RX54, TX54, 23)) {ad : Nat → Nat} {d : Nat → ClassId} {A : Nat → Prop} {post : Int → Int → Prop} {f_cells : Nat → Int32} {f_sizes : Nat → Int32} {f_keys : Nat → Int32} {f_maps : Nat → Int32} {f_mapCount : Int32} {f_atoms : Nat → Int32} {f_atomCount : Int32} {f_spans : Nat → Int32} {f_spanCount : Int32} {f_unions : Nat → Int32} {f_unionCount : Int32} {f_isLarge : Int32} {f_trial : Nat → Int32} {f_rowAt : Nat → Int32} {f_answers : Nat → Int32} {f_foundBy : Nat → Int32} {f_firstBy : Nat → Int32} {f_lastBy : Nat → Int32} {f_order : Nat → Int32} {f_answerCount : Int32} {f_asked : Nat → Int32} {f_tooMany : Int32} (X : kX p s m args meth c cX54_value 3 RX54 (some .int) (dC, dI) cl (tX54 d))     :
    ∀ (x1 : Int32) (x2 : Int32) (y1 : Int32) (f_thrown : Int32), wX54_value_42 post x1.toInt x2.toInt y1.toInt (zF f_answers) (zF f_order) → ∀ (H : Heap) (locs : List Loc) (ls : Array Slot), kH (dC, dI) cl A s.heap H locs (wX54 ci ad d f_thrown f_cells f_sizes f_keys f_maps f_mapCount f_atoms f_atomCount f_spans f_spanCount f_unions f_unionCount f_isLarge f_trial f_rowAt f_answers f_foundBy f_firstBy f_lastBy f_order f_answerCount f_asked f_tooMany) → lv_has ls 3 [(0, .ref (ad 0)), (1, .int x1), (2, .int x2)] → W p l e ({ frames := 1, cells := 0, slots := 0, locals := 21 } : Room) s m args below meth c H locs 0 0 (MQ below (va_Qi (fun (r : Int32) (u : Int32) => post r.toInt (u).toInt) (kB (dC, dI) cl (tX54 d) A (fun u : Int32 => (wX54 ci ad d (u) f_cells f_sizes f_keys f_maps f_mapCount f_atoms f_atomCount f_spans f_spanCount f_unions f_unionCount f_isLarge f_trial f_rowAt f_answers f_foundBy f_firstBy f_lastBy f_order f_answerCount f_asked f_tooMany))) A) args s 0 0 A) (F0 m 42 ls [.int y1, .ref (ad 0)]) := by
  have hx := X.1.1
  have hb := X.1.2.1
  intro x1 x2 y1 f_thrown hw H locs ls hH hl
  unfold wX54_value_42 at hw
  refine k_put X hH in_X54 tyX54_ok nmX54 0 rfl hc 0 (by decide) q6500 rfl (ty := .int) rfl rfl rfl (Nat.le_of_ble_eq_true rfl) dX54_value_42 (ws1 := (wX54 ci ad d y1 f_cells f_sizes f_keys f_maps f_mapCount f_atoms f_atomCount f_spans f_spanCount f_unions f_unionCount f_isLarge f_trial f_rowAt f_answers f_foundBy f_firstBy f_lastBy f_order f_answerCount f_asked f_tooMany)) rfl (fun H locs hH => ?_)
  refine lv_aload_n hx hb dX54_value_45 rfl (lv_at hl 0 rfl) ?_
  refine k_get X hH in_X54 0 rfl hc 0 (by decide) q6500 rfl dX54_value_46 ?_
  refine lv_if_le (tgt := 56) hx hb dX54_value_49 (by decide) (fun c_8 => ?_) (fun c_8 => ?_)
  · have hw := hw.1 (z_le (rfl : y1.toInt = _) (rfl : (0 : Int32).toInt = 0) c_8)
    refine lv_aload_n hx hb dX54_value_56 rfl (lv_at hl 0 rfl) ?_
    refine k_get X hH in_X54 0 rfl hc 15 (by decide) q6515 rfl dX54_value_57 ?_
    refine lv_bipush (v := 6) hx hb dX54_value_60 (by decide) ?_
    refine lv_aload_n hx hb dX54_value_62 rfl (lv_at hl 0 rfl) ?_
    refine k_get X hH in_X54 0 rfl hc 19 (by decide) q6519 rfl dX54_value_63 ?_
    refine lv_iload_n hx hb dX54_value_66 rfl (lv_at hl 1 rfl) ?_
    have hq_9 := hw.1
    have hw := hw.2
    refine k_iald X hH 14 13 rfl rfl (z_in (rfl : x1.toInt = _) hq_9) dX54_value_67 ?_
    have e_10 := z_ld (f := f_order) (rfl : x1.toInt = _) hq_9.1
    refine lv_imul hx hb dX54_value_68 ?_
    have e_11 := z_mul (z_m (rfl : (6 : Int32).toInt = 6)) (z_m e_10)
    refine lv_iload_n hx hb dX54_value_69 rfl (lv_at hl 2 rfl) ?_
    refine lv_iadd hx hb dX54_value_70 ?_
    have e_12 := z_add e_11 (z_m (rfl : x2.toInt = _))
    have hq_13 := hw.1
    have hw := hw.2
    have e_14 := z_xi e_12 hq_13 (by decide)
    refine k_iald X hH 10 9 rfl rfl (z_in e_14 hq_13) dX54_value_71 ?_
    have e_15 := z_ld (f := f_answers) e_14 hq_13.1
    exact k_iret (v := f_answers ((6 * (f_order x1.toNatClampNeg)) + x2).toNatClampNeg) X hH (y1) (by rw [show (f_answers ((6 * (f_order x1.toNatClampNeg)) + x2).toNatClampNeg : Int32).toInt = _ from e_15]; exact hw) rfl rfl dX54_value_72
  · have hw := hw.2 (z_nle (rfl : y1.toInt = _) (rfl : (0 : Int32).toInt = 0) c_8)
    refine lv_iconst (v := 0) hx hb dX54_value_52 (by decide) ?_
    refine lv_goto (tgt := 72) hx hb dX54_value_53 (by decide) ?_
    exact k_iret (v := 0) X hH (y1) hw rfl rfl dX54_value_72
set_option maxHeartbeats 4000000 in
theorem walkX54_value {l : Launch} {dC : Nat → ClassId} {dI : Nat → Nat → Nat} {cl : List vw_C} {ci : Nat} (hc : cl[ci]? = some (RX54, TX54, 23)) {ad : Nat → Nat} {d : Nat → ClassId} {sz : Nat} {f_thrown : Int32} {f_cells : Nat → Int32} {f_sizes : Nat → Int32} {f_keys : Nat → Int32} {f_maps : Nat → Int32} {f_mapCount : Int32} {f_atoms : Nat → Int32} {f_atomCount : Int32} {f_spans : Nat → Int32} {f_spanCount : Int32} {f_unions : Nat → Int32} {f_unionCount : Int32} {f_isLarge : Int32} {f_trial : Nat → Int32} {f_rowAt : Nat → Int32} {f_answers : Nat → Int32} {f_foundBy : Nat → Int32} {f_firstBy : Nat → Int32} {f_lastBy : Nat → Int32} {f_order : Nat → Int32} {f_answerCount : Int32} {f_asked : Nat → Int32} {f_tooMany : Int32} {x1 : Int32} {x2 : Int32} {post : Int → Int → Prop} (hw : wpX54_value post (zF f_answers) (zF f_order) f_answerCount.toInt (zF f_asked) x1.toInt x2.toInt) :
    Met l yX54_value (ws_ yX54_value cX54_value 3 (some .int)) ({ frames := 1, cells := 0, slots := 0, locals := 21 } : Room) (kPc (dC, dI) cl (tX54 d) [.ref (ad 0), .int x1, .int x2] sz (wX54 ci ad d f_thrown f_cells f_sizes f_keys f_maps f_mapCount f_atoms f_atomCount f_spans f_spanCount f_unions f_unionCount f_isLarge f_trial f_rowAt f_answers f_foundBy f_firstBy f_lastBy f_order f_answerCount f_asked f_tooMany)) (va_Qi (fun (r : Int32) (u : Int32) => post r.toInt (u).toInt) (kB (dC, dI) cl (tX54 d) (va_A (wX54 ci ad d f_thrown f_cells f_sizes f_keys f_maps f_mapCount f_atoms f_atomCount f_spans f_spanCount f_unions f_unionCount f_isLarge f_trial f_rowAt f_answers f_foundBy f_firstBy f_lastBy f_order f_answerCount f_asked f_tooMany) sz) (fun u : Int32 => (wX54 ci ad d (u) f_cells f_sizes f_keys f_maps f_mapCount f_atoms f_atomCount f_spans f_spanCount f_unions f_unionCount f_isLarge f_trial f_rowAt f_answers f_foundBy f_firstBy f_lastBy f_order f_answerCount f_asked f_tooMany))) (va_A (wX54 ci ad d f_thrown f_cells f_sizes f_keys f_maps f_mapCount f_atoms f_atomCount f_spans f_spanCount f_unions f_unionCount f_isLarge f_trial f_rowAt f_answers f_foundBy f_firstBy f_lastBy f_order f_answerCount f_asked f_tooMany) sz)) 0 0 (va_A (wX54 ci ad d f_thrown f_cells f_sizes f_keys f_maps f_mapCount f_atoms f_atomCount f_spans f_spanCount f_unions f_unionCount f_isLarge f_trial f_rowAt f_answers f_foundBy f_firstBy f_lastBy f_order f_answerCount f_asked f_tooMany) sz) := by
  refine k_enter (by decide) (Nat.le_of_ble_eq_true rfl) ?_
  intro p e s m below meth c ls X hsz hH hl
  subst hsz
  generalize va_A (wX54 ci ad d f_thrown f_cells f_sizes f_keys f_maps f_mapCount f_atoms f_atomCount f_spans f_spanCount f_unions f_unionCount f_isLarge f_trial f_rowAt f_answers f_foundBy f_firstBy f_lastBy f_order f_answerCount f_asked f_tooMany) s.heap.size = A at hH ⊢
  have hx := X.1.1
  have hb := X.1.2.1
  have hl : lv_has ls 3 [(0, .ref (ad 0)), (1, .int x1), (2, .int x2)] := hl
  unfold wpX54_value at hw
  refine lv_aload_n hx hb dX54_value_0 rfl (lv_at hl 0 rfl) ?_
  refine lv_iconst (v := 0) hx hb dX54_value_1 (by decide) ?_
  refine k_put X hH in_X54 tyX54_ok nmX54 0 rfl hc 0 (by decide) q6500 rfl (ty := .int) rfl rfl rfl (Nat.le_of_ble_eq_true rfl) dX54_value_2 (ws1 := (wX54 ci ad d 0 f_cells f_sizes f_keys f_maps f_mapCount f_atoms f_atomCount f_spans f_spanCount f_unions f_unionCount f_isLarge f_trial f_rowAt f_answers f_foundBy f_firstBy f_lastBy f_order f_answerCount f_asked f_tooMany)) rfl (fun H locs hH => ?_)
  refine lv_iload_n hx hb dX54_value_5 rfl (lv_at hl 1 rfl) ?_
  refine lv_aload_n hx hb dX54_value_6 rfl (lv_at hl 0 rfl) ?_
  refine k_get X hH in_X54 0 rfl hc 20 (by decide) q6520 rfl dX54_value_7 ?_
  refine k_i0 hH (k_runS (As := [.int x1, .int f_answerCount]) (rest := []) X hH.1 hH.2.1 X.2.2.2 (walkX54_isIn hc (x0 := x1) (x1 := f_answerCount) (f_thrown := 0) (f_cells := f_cells) (f_sizes := f_sizes) (f_keys := f_keys) (f_maps := f_maps) (f_mapCount := f_mapCount) (f_atoms := f_atoms) (f_atomCount := f_atomCount) (f_spans := f_spans) (f_spanCount := f_spanCount) (f_unions := f_unions) (f_unionCount := f_unionCount) (f_isLarge := f_isLarge) (f_trial := f_trial) (f_rowAt := f_rowAt) (f_answers := f_answers) (f_foundBy := f_foundBy) (f_firstBy := f_firstBy) (f_lastBy := f_lastBy) (f_order := f_order) (f_answerCount := f_answerCount) (f_asked := f_asked) (f_tooMany := f_tooMany) hw) (va_cwS 2 X.1.2.2.2.2 gX54_64 rfl rfl rfl hX54_isIn ⟨Nat.le_of_ble_eq_true rfl, Nat.le_of_ble_eq_true rfl⟩) rfl hl.1 rfl (Nat.le_of_ble_eq_true rfl) dX54_value_10 ⟨Nat.le_refl 0, Nat.le_refl 0⟩) (fun r_1 _ H locs hw hH => ?_)
  have hH : kH (dC, dI) cl A s.heap H locs (wX54 ci ad d 0 f_cells f_sizes f_keys f_maps f_mapCount f_atoms f_atomCount f_spans f_spanCount f_unions f_unionCount f_isLarge f_trial f_rowAt f_answers f_foundBy f_firstBy f_lastBy f_order f_answerCount f_asked f_tooMany) := hH
  refine lv_if_eq (tgt := 25) hx hb dX54_value_13 (by decide) (fun c_2 => ?_) (fun c_2 => ?_)
  · have hw := hw.1 (z_eq (rfl : r_1.toInt = _) (rfl : (0 : Int32).toInt = 0) c_2)
    refine lv_iconst (v := (-1)) hx hb dX54_value_25 (by decide) ?_
    exact k_iret (v := (-1)) X hH (0) hw rfl rfl dX54_value_26
  · have hw := hw.2 (z_neq (rfl : r_1.toInt = _) (rfl : (0 : Int32).toInt = 0) c_2)
    refine lv_iload_n hx hb dX54_value_16 rfl (lv_at hl 2 rfl) ?_
    refine lv_bipush (v := 6) hx hb dX54_value_17 (by decide) ?_
    refine k_i0 hH (k_runS (As := [.int x2, .int 6]) (rest := []) X hH.1 hH.2.1 X.2.2.2 (walkX54_isIn hc (x0 := x2) (x1 := 6) (f_thrown := 0) (f_cells := f_cells) (f_sizes := f_sizes) (f_keys := f_keys) (f_maps := f_maps) (f_mapCount := f_mapCount) (f_atoms := f_atoms) (f_atomCount := f_atomCount) (f_spans := f_spans) (f_spanCount := f_spanCount) (f_unions := f_unions) (f_unionCount := f_unionCount) (f_isLarge := f_isLarge) (f_trial := f_trial) (f_rowAt := f_rowAt) (f_answers := f_answers) (f_foundBy := f_foundBy) (f_firstBy := f_firstBy) (f_lastBy := f_lastBy) (f_order := f_order) (f_answerCount := f_answerCount) (f_asked := f_asked) (f_tooMany := f_tooMany) hw) (va_cwS 2 X.1.2.2.2.2 gX54_64 rfl rfl rfl hX54_isIn ⟨Nat.le_of_ble_eq_true rfl, Nat.le_of_ble_eq_true rfl⟩) rfl hl.1 rfl (Nat.le_of_ble_eq_true rfl) dX54_value_19 ⟨Nat.le_refl 0, Nat.le_refl 0⟩) (fun r_3 _ H locs hw hH => ?_)
    have hH : kH (dC, dI) cl A s.heap H locs (wX54 ci ad d 0 f_cells f_sizes f_keys f_maps f_mapCount f_atoms f_atomCount f_spans f_spanCount f_unions f_unionCount f_isLarge f_trial f_rowAt f_answers f_foundBy f_firstBy f_lastBy f_order f_answerCount f_asked f_tooMany) := hH
    refine lv_if_ne (tgt := 27) hx hb dX54_value_22 (by decide) (fun c_4 => ?_) (fun c_4 => ?_)
    · have hw := hw.2 (z_ne (rfl : r_3.toInt = _) (rfl : (0 : Int32).toInt = 0) c_4)
      refine lv_aload_n hx hb dX54_value_27 rfl (lv_at hl 0 rfl) ?_
      refine lv_aload_n hx hb dX54_value_28 rfl (lv_at hl 0 rfl) ?_
      refine k_get X hH in_X54 0 rfl hc 21 (by decide) q6521 rfl dX54_value_29 ?_
      refine lv_iload_n hx hb dX54_value_32 rfl (lv_at hl 2 rfl) ?_
      have hq_5 := hw.1
      have hw := hw.2
      refine k_zald X hH 15 14 rfl rfl (z_in (rfl : x2.toInt = _) hq_5) dX54_value_33 ?_
      have e_6 := z_ld (f := f_asked) (rfl : x2.toInt = _) hq_5.1
      refine lv_if_eq (tgt := 41) hx hb dX54_value_34 (by decide) (fun c_7 => ?_) (fun c_7 => ?_)
      · have hw := hw.1 (z_eq e_6 (rfl : (0 : Int32).toInt = 0) c_7)
        refine lv_iconst (v := 1) hx hb dX54_value_41 (by decide) ?_
        exact atX54_value_42 hc X x1 x2 1 0 hw _ _ ls hH (lv_sub hl [0, 1, 2] rfl)
      · have hw := hw.2 (z_neq e_6 (rfl : (0 : Int32).toInt = 0) c_7)
        refine lv_iconst (v := 0) hx hb dX54_value_37 (by decide) ?_
        refine lv_goto (tgt := 42) hx hb dX54_value_38 (by decide) ?_
        exact atX54_value_42 hc X x1 x2 0 0 hw _ _ ls hH (lv_sub hl [0, 1, 2] rfl)
    · have hw := hw.1 (z_eq (rfl : r_3.toInt = _) (rfl : (0 : Int32).toInt = 0) c_4)
      refine lv_iconst (v := (-1)) hx hb dX54_value_25 (by decide) ?_
      exact k_iret (v := (-1)) X hH (0) hw rfl rfl dX54_value_26
set_option maxHeartbeats 4000000 in
theorem walkX54_thrown {l : Launch} {dC : Nat → ClassId} {dI : Nat → Nat → Nat} {cl : List vw_C} {ci : Nat} (hc : cl[ci]? = some (RX54, TX54, 23)) {ad : Nat → Nat} {d : Nat → ClassId} {sz : Nat} {f_thrown : Int32} {f_cells : Nat → Int32} {f_sizes : Nat → Int32} {f_keys : Nat → Int32} {f_maps : Nat → Int32} {f_mapCount : Int32} {f_atoms : Nat → Int32} {f_atomCount : Int32} {f_spans : Nat → Int32} {f_spanCount : Int32} {f_unions : Nat → Int32} {f_unionCount : Int32} {f_isLarge : Int32} {f_trial : Nat → Int32} {f_rowAt : Nat → Int32} {f_answers : Nat → Int32} {f_foundBy : Nat → Int32} {f_firstBy : Nat → Int32} {f_lastBy : Nat → Int32} {f_order : Nat → Int32} {f_answerCount : Int32} {f_asked : Nat → Int32} {f_tooMany : Int32}  {post : Int → Prop} (hw : wpX54_thrown post f_thrown.toInt ) :
    Met l yX54_thrown (ws_ yX54_thrown cX54_thrown 1 (some .int)) ({ frames := 0, cells := 0, slots := 0, locals := 0 } : Room) (kPc (dC, dI) cl (tX54 d) [.ref (ad 0)] sz (wX54 ci ad d f_thrown f_cells f_sizes f_keys f_maps f_mapCount f_atoms f_atomCount f_spans f_spanCount f_unions f_unionCount f_isLarge f_trial f_rowAt f_answers f_foundBy f_firstBy f_lastBy f_order f_answerCount f_asked f_tooMany)) (va_Qi (fun (r : Int32) (_ : Unit) => post r.toInt) (kB (dC, dI) cl (tX54 d) (va_A (wX54 ci ad d f_thrown f_cells f_sizes f_keys f_maps f_mapCount f_atoms f_atomCount f_spans f_spanCount f_unions f_unionCount f_isLarge f_trial f_rowAt f_answers f_foundBy f_firstBy f_lastBy f_order f_answerCount f_asked f_tooMany) sz) (fun _ : Unit => (wX54 ci ad d f_thrown f_cells f_sizes f_keys f_maps f_mapCount f_atoms f_atomCount f_spans f_spanCount f_unions f_unionCount f_isLarge f_trial f_rowAt f_answers f_foundBy f_firstBy f_lastBy f_order f_answerCount f_asked f_tooMany))) (va_A (wX54 ci ad d f_thrown f_cells f_sizes f_keys f_maps f_mapCount f_atoms f_atomCount f_spans f_spanCount f_unions f_unionCount f_isLarge f_trial f_rowAt f_answers f_foundBy f_firstBy f_lastBy f_order f_answerCount f_asked f_tooMany) sz)) 0 0 (va_A (wX54 ci ad d f_thrown f_cells f_sizes f_keys f_maps f_mapCount f_atoms f_atomCount f_spans f_spanCount f_unions f_unionCount f_isLarge f_trial f_rowAt f_answers f_foundBy f_firstBy f_lastBy f_order f_answerCount f_asked f_tooMany) sz) := by
  refine k_enter (by decide) (Nat.le_of_ble_eq_true rfl) ?_
  intro p e s m below meth c ls X hsz hH hl
  subst hsz
  generalize va_A (wX54 ci ad d f_thrown f_cells f_sizes f_keys f_maps f_mapCount f_atoms f_atomCount f_spans f_spanCount f_unions f_unionCount f_isLarge f_trial f_rowAt f_answers f_foundBy f_firstBy f_lastBy f_order f_answerCount f_asked f_tooMany) s.heap.size = A at hH ⊢
  have hx := X.1.1
  have hb := X.1.2.1
  have hl : lv_has ls 1 [(0, .ref (ad 0))] := hl
  unfold wpX54_thrown at hw
  refine lv_aload_n hx hb dX54_thrown_0 rfl (lv_at hl 0 rfl) ?_
  refine k_get X hH in_X54 0 rfl hc 0 (by decide) q6500 rfl dX54_thrown_1 ?_
  exact k_iret (v := f_thrown) X hH () hw rfl rfl dX54_thrown_4
set_option maxHeartbeats 4000000 in
theorem atX54_repeats_15 {p : Program} {l : Launch} {e : Env} {s : State} {m : MethodId} {args : Array Value} {below : List Frame} {meth : Method} {c : Code} {dC : Nat → ClassId} {dI : Nat → Nat → Nat} {cl : List vw_C} {ci : Nat} (hc : cl[ci]? = some (RX54, TX54, 23)) {ad : Nat → Nat} {d : Nat → ClassId} {A : Nat → Prop} {post : Int → Prop} {f_thrown : Int32} {f_cells : Nat → Int32} {f_sizes : Nat → Int32} {f_keys : Nat → Int32} {f_maps : Nat → Int32} {f_mapCount : Int32} {f_atoms : Nat → Int32} {f_atomCount : Int32} {f_spans : Nat → Int32} {f_spanCount : Int32} {f_unions : Nat → Int32} {f_unionCount : Int32} {f_isLarge : Int32} {f_trial : Nat → Int32} {f_rowAt : Nat → Int32} {f_answers : Nat → Int32} {f_foundBy : Nat → Int32} {f_firstBy : Nat → Int32} {f_lastBy : Nat → Int32} {f_order : Nat → Int32} {f_answerCount : Int32} {f_asked : Nat → Int32} {f_tooMany : Int32} (X : kX p s m args meth c cX54_repeats 5 RX54 (some .boolean) (dC, dI) cl (tX54 d)) {K39 : Prop} {K47 : Prop} {x1 : Int32} {x2 : Int32} {x3 : Int32}  (hk39 : K39  → ∀ (H : Heap) (locs : List Loc) (ls : Array Slot), kH (dC, dI) cl A s.heap H locs (wX54 ci ad d f_thrown f_cells f_sizes f_keys f_maps f_mapCount f_atoms f_atomCount f_spans f_spanCount f_unions f_unionCount f_isLarge f_trial f_rowAt f_answers f_foundBy f_firstBy f_lastBy f_order f_answerCount f_asked f_tooMany) → lv_has ls 5 [] → W p l e ({ frames := 1, cells := 0, slots := 0, locals := 23 } : Room) s m args below meth c H locs 0 0 (MQ below (va_Qi (fun (r : Int32) (_ : Unit) => post r.toInt) (kB (dC, dI) cl (tX54 d) A (fun _ : Unit => (wX54 ci ad d f_thrown f_cells f_sizes f_keys f_maps f_mapCount f_atoms f_atomCount f_spans f_spanCount f_unions f_unionCount f_isLarge f_trial f_rowAt f_answers f_foundBy f_firstBy f_lastBy f_order f_answerCount f_asked f_tooMany))) A) args s 0 0 A) (F0 m 39 ls [])) (hk47 : K47  → ∀ (H : Heap) (locs : List Loc) (ls : Array Slot), kH (dC, dI) cl A s.heap H locs (wX54 ci ad d f_thrown f_cells f_sizes f_keys f_maps f_mapCount f_atoms f_atomCount f_spans f_spanCount f_unions f_unionCount f_isLarge f_trial f_rowAt f_answers f_foundBy f_firstBy f_lastBy f_order f_answerCount f_asked f_tooMany) → lv_has ls 5 [(0, .ref (ad 0)), (1, .int x1), (2, .int x2), (3, .int x3)] → W p l e ({ frames := 1, cells := 0, slots := 0, locals := 23 } : Room) s m args below meth c H locs 0 0 (MQ below (va_Qi (fun (r : Int32) (_ : Unit) => post r.toInt) (kB (dC, dI) cl (tX54 d) A (fun _ : Unit => (wX54 ci ad d f_thrown f_cells f_sizes f_keys f_maps f_mapCount f_atoms f_atomCount f_spans f_spanCount f_unions f_unionCount f_isLarge f_trial f_rowAt f_answers f_foundBy f_firstBy f_lastBy f_order f_answerCount f_asked f_tooMany))) A) args s 0 0 A) (F0 m 47 ls [])) :
    ∀ (nn : Nat) (x4 : Int32), wX54_repeats_15 K39 K47 x1.toInt x2.toInt x3.toInt (zF f_cells) nn x4.toInt → ∀ (H : Heap) (locs : List Loc) (ls : Array Slot), kH (dC, dI) cl A s.heap H locs (wX54 ci ad d f_thrown f_cells f_sizes f_keys f_maps f_mapCount f_atoms f_atomCount f_spans f_spanCount f_unions f_unionCount f_isLarge f_trial f_rowAt f_answers f_foundBy f_firstBy f_lastBy f_order f_answerCount f_asked f_tooMany) → lv_has ls 5 [(0, .ref (ad 0)), (1, .int x1), (2, .int x2), (3, .int x3), (4, .int x4)] → W p l e ({ frames := 1, cells := 0, slots := 0, locals := 23 } : Room) s m args below meth c H locs 0 0 (MQ below (va_Qi (fun (r : Int32) (_ : Unit) => post r.toInt) (kB (dC, dI) cl (tX54 d) A (fun _ : Unit => (wX54 ci ad d f_thrown f_cells f_sizes f_keys f_maps f_mapCount f_atoms f_atomCount f_spans f_spanCount f_unions f_unionCount f_isLarge f_trial f_rowAt f_answers f_foundBy f_firstBy f_lastBy f_order f_answerCount f_asked f_tooMany))) A) args s 0 0 A) (F0 m 15 ls []) := by
  have hx := X.1.1
  have hb := X.1.2.1
  intro nn
  induction nn with
  | zero =>
    intro x4 hw
    exact False.elim hw
  | succ n ih =>
    intro x4 hw H locs ls hH hl
    rw [wX54_repeats_15] at hw
    refine lv_iload hx hb dX54_repeats_15 (lv_at hl 4 rfl) ?_
    refine lv_iload_n hx hb dX54_repeats_17 rfl (lv_at hl 3 rfl) ?_
    refine lv_icmp_ge (tgt := 47) hx hb dX54_repeats_18 (by decide) (fun c_4 => ?_) (fun c_4 => ?_)
    · have hw := hw.1 (z_le (rfl : x3.toInt = _) (rfl : x4.toInt = _) c_4)
      exact hk47  hw _ _ ls hH (lv_sub hl [0, 1, 2, 3] rfl)
    · have hw := hw.2 (z_nle (rfl : x3.toInt = _) (rfl : x4.toInt = _) c_4)
      refine lv_aload_n hx hb dX54_repeats_21 rfl (lv_at hl 0 rfl) ?_
      refine lv_iload_n hx hb dX54_repeats_22 rfl (lv_at hl 1 rfl) ?_
      refine lv_iload_n hx hb dX54_repeats_23 rfl (lv_at hl 3 rfl) ?_
      refine lv_iload_n hx hb dX54_repeats_24 rfl (lv_at hl 2 rfl) ?_
      refine k_i0 hH (k_runV (As := [.int x1, .int x3, .int x2]) (rest := []) X hH.1 hH.2.1 X.2.2.2 (walkX54_cell hc (x1 := x1) (x2 := x3) (x3 := x2) (f_thrown := f_thrown) (f_cells := f_cells) (f_sizes := f_sizes) (f_keys := f_keys) (f_maps := f_maps) (f_mapCount := f_mapCount) (f_atoms := f_atoms) (f_atomCount := f_atomCount) (f_spans := f_spans) (f_spanCount := f_spanCount) (f_unions := f_unions) (f_unionCount := f_unionCount) (f_isLarge := f_isLarge) (f_trial := f_trial) (f_rowAt := f_rowAt) (f_answers := f_answers) (f_foundBy := f_foundBy) (f_firstBy := f_firstBy) (f_lastBy := f_lastBy) (f_order := f_order) (f_answerCount := f_answerCount) (f_asked := f_asked) (f_tooMany := f_tooMany) hw) (cwV 3 X.1.2.2.2.2 gX54_60 rfl rfl rfl hX54_cell ⟨Nat.le_of_ble_eq_true rfl, Nat.le_of_ble_eq_true rfl⟩) hc (q0 := 0) rfl rfl hl.1 rfl (Nat.le_of_ble_eq_true rfl) dX54_repeats_25 ⟨Nat.le_refl 0, Nat.le_refl 0⟩) (fun r_5 _ H locs hw hH => ?_)
      have hH : kH (dC, dI) cl A s.heap H locs (wX54 ci ad d f_thrown f_cells f_sizes f_keys f_maps f_mapCount f_atoms f_atomCount f_spans f_spanCount f_unions f_unionCount f_isLarge f_trial f_rowAt f_answers f_foundBy f_firstBy f_lastBy f_order f_answerCount f_asked f_tooMany) := hH
      refine lv_aload_n hx hb dX54_repeats_28 rfl (lv_at hl 0 rfl) ?_
      refine lv_iload_n hx hb dX54_repeats_29 rfl (lv_at hl 1 rfl) ?_
      refine lv_iload hx hb dX54_repeats_30 (lv_at hl 4 rfl) ?_
      refine lv_iload_n hx hb dX54_repeats_32 rfl (lv_at hl 2 rfl) ?_
      refine k_i0 hH (k_runV (As := [.int x1, .int x4, .int x2]) (rest := [.int r_5]) X hH.1 hH.2.1 X.2.2.2 (walkX54_cell hc (x1 := x1) (x2 := x4) (x3 := x2) (f_thrown := f_thrown) (f_cells := f_cells) (f_sizes := f_sizes) (f_keys := f_keys) (f_maps := f_maps) (f_mapCount := f_mapCount) (f_atoms := f_atoms) (f_atomCount := f_atomCount) (f_spans := f_spans) (f_spanCount := f_spanCount) (f_unions := f_unions) (f_unionCount := f_unionCount) (f_isLarge := f_isLarge) (f_trial := f_trial) (f_rowAt := f_rowAt) (f_answers := f_answers) (f_foundBy := f_foundBy) (f_firstBy := f_firstBy) (f_lastBy := f_lastBy) (f_order := f_order) (f_answerCount := f_answerCount) (f_asked := f_asked) (f_tooMany := f_tooMany) hw) (cwV 3 X.1.2.2.2.2 gX54_60 rfl rfl rfl hX54_cell ⟨Nat.le_of_ble_eq_true rfl, Nat.le_of_ble_eq_true rfl⟩) hc (q0 := 0) rfl rfl hl.1 rfl (Nat.le_of_ble_eq_true rfl) dX54_repeats_33 ⟨Nat.le_refl 0, Nat.le_refl 0⟩) (fun r_6 _ H locs hw hH => ?_)
      have hH : kH (dC, dI) cl A s.heap H locs (wX54 ci ad d f_thrown f_cells f_sizes f_keys f_maps f_mapCount f_atoms f_atomCount f_spans f_spanCount f_unions f_unionCount f_isLarge f_trial f_rowAt f_answers f_foundBy f_firstBy f_lastBy f_order f_answerCount f_asked f_tooMany) := hH
      refine lv_icmp_ne (tgt := 41) hx hb dX54_repeats_36 (by decide) (fun c_7 => ?_) (fun c_7 => ?_)
      · have hw := hw.2 (z_ne (rfl : r_5.toInt = _) (rfl : r_6.toInt = _) c_7)
        have hq_9 := hw.1
        have hw := hw.2
        obtain ⟨x4_8, ex4_8⟩ : ∃ y : Int32, y = x4 + 1 := ⟨_, rfl⟩
        have hw := hw x4_8.toInt (by rw [ex4_8]; exact (z_x (z_add (z_m (rfl : x4.toInt = _)) (z_m (rfl : (1 : Int32).toInt = 1))) hq_9))
        refine lv_iinc (v := x4_8) (lv' := [(4, .int x4_8), (0, .ref (ad 0)), (1, .int x1), (2, .int x2), (3, .int x3)]) hx hb dX54_repeats_41 hl (k := 4) rfl (by rw [ex4_8]; rfl) (by decide) rfl (fun ls hl => ?_)
        refine lv_goto (tgt := 15) hx hb dX54_repeats_44 (by decide) ?_
        exact ih x4_8 hw _ _ ls hH (lv_sub hl [1, 2, 3, 4, 0] rfl)
      · have hw := hw.1 (z_eq (rfl : r_5.toInt = _) (rfl : r_6.toInt = _) c_7)
        exact hk39  hw _ _ ls hH (lv_sub hl [] rfl)
set_option maxHeartbeats 4000000 in
theorem atX54_repeats_2 {p : Program} {l : Launch} {e : Env} {s : State} {m : MethodId} {args : Array Value} {below : List Frame} {meth : Method} {c : Code} {dC : Nat → ClassId} {dI : Nat → Nat → Nat} {cl : List vw_C} {ci : Nat} (hc : cl[ci]? = some (RX54, TX54, 23)) {ad : Nat → Nat} {d : Nat → ClassId} {A : Nat → Prop} {post : Int → Prop} {f_thrown : Int32} {f_cells : Nat → Int32} {f_sizes : Nat → Int32} {f_keys : Nat → Int32} {f_maps : Nat → Int32} {f_mapCount : Int32} {f_atoms : Nat → Int32} {f_atomCount : Int32} {f_spans : Nat → Int32} {f_spanCount : Int32} {f_unions : Nat → Int32} {f_unionCount : Int32} {f_isLarge : Int32} {f_trial : Nat → Int32} {f_rowAt : Nat → Int32} {f_answers : Nat → Int32} {f_foundBy : Nat → Int32} {f_firstBy : Nat → Int32} {f_lastBy : Nat → Int32} {f_order : Nat → Int32} {f_answerCount : Int32} {f_asked : Nat → Int32} {f_tooMany : Int32} (X : kX p s m args meth c cX54_repeats 5 RX54 (some .boolean) (dC, dI) cl (tX54 d)) {K39 : Prop} {K53 : Prop} {x1 : Int32} {x2 : Int32}  (hk39 : K39  → ∀ (H : Heap) (locs : List Loc) (ls : Array Slot), kH (dC, dI) cl A s.heap H locs (wX54 ci ad d f_thrown f_cells f_sizes f_keys f_maps f_mapCount f_atoms f_atomCount f_spans f_spanCount f_unions f_unionCount f_isLarge f_trial f_rowAt f_answers f_foundBy f_firstBy f_lastBy f_order f_answerCount f_asked f_tooMany) → lv_has ls 5 [] → W p l e ({ frames := 1, cells := 0, slots := 0, locals := 23 } : Room) s m args below meth c H locs 0 0 (MQ below (va_Qi (fun (r : Int32) (_ : Unit) => post r.toInt) (kB (dC, dI) cl (tX54 d) A (fun _ : Unit => (wX54 ci ad d f_thrown f_cells f_sizes f_keys f_maps f_mapCount f_atoms f_atomCount f_spans f_spanCount f_unions f_unionCount f_isLarge f_trial f_rowAt f_answers f_foundBy f_firstBy f_lastBy f_order f_answerCount f_asked f_tooMany))) A) args s 0 0 A) (F0 m 39 ls [])) (hk53 : K53  → ∀ (H : Heap) (locs : List Loc) (ls : Array Slot), kH (dC, dI) cl A s.heap H locs (wX54 ci ad d f_thrown f_cells f_sizes f_keys f_maps f_mapCount f_atoms f_atomCount f_spans f_spanCount f_unions f_unionCount f_isLarge f_trial f_rowAt f_answers f_foundBy f_firstBy f_lastBy f_order f_answerCount f_asked f_tooMany) → lv_has ls 5 [] → W p l e ({ frames := 1, cells := 0, slots := 0, locals := 23 } : Room) s m args below meth c H locs 0 0 (MQ below (va_Qi (fun (r : Int32) (_ : Unit) => post r.toInt) (kB (dC, dI) cl (tX54 d) A (fun _ : Unit => (wX54 ci ad d f_thrown f_cells f_sizes f_keys f_maps f_mapCount f_atoms f_atomCount f_spans f_spanCount f_unions f_unionCount f_isLarge f_trial f_rowAt f_answers f_foundBy f_firstBy f_lastBy f_order f_answerCount f_asked f_tooMany))) A) args s 0 0 A) (F0 m 53 ls [])) :
    ∀ (nn : Nat) (x3 : Int32), wX54_repeats_2 K39 K53 x1.toInt x2.toInt (zF f_cells) (zF f_sizes) nn x3.toInt → ∀ (H : Heap) (locs : List Loc) (ls : Array Slot), kH (dC, dI) cl A s.heap H locs (wX54 ci ad d f_thrown f_cells f_sizes f_keys f_maps f_mapCount f_atoms f_atomCount f_spans f_spanCount f_unions f_unionCount f_isLarge f_trial f_rowAt f_answers f_foundBy f_firstBy f_lastBy f_order f_answerCount f_asked f_tooMany) → lv_has ls 5 [(0, .ref (ad 0)), (1, .int x1), (2, .int x2), (3, .int x3)] → W p l e ({ frames := 1, cells := 0, slots := 0, locals := 23 } : Room) s m args below meth c H locs 0 0 (MQ below (va_Qi (fun (r : Int32) (_ : Unit) => post r.toInt) (kB (dC, dI) cl (tX54 d) A (fun _ : Unit => (wX54 ci ad d f_thrown f_cells f_sizes f_keys f_maps f_mapCount f_atoms f_atomCount f_spans f_spanCount f_unions f_unionCount f_isLarge f_trial f_rowAt f_answers f_foundBy f_firstBy f_lastBy f_order f_answerCount f_asked f_tooMany))) A) args s 0 0 A) (F0 m 2 ls []) := by
  have hx := X.1.1
  have hb := X.1.2.1
  intro nn
  induction nn with
  | zero =>
    intro x3 hw
    exact False.elim hw
  | succ n ih =>
    intro x3 hw H locs ls hH hl
    rw [wX54_repeats_2] at hw
    refine lv_iload_n hx hb dX54_repeats_2 rfl (lv_at hl 3 rfl) ?_
    refine lv_aload_n hx hb dX54_repeats_3 rfl (lv_at hl 0 rfl) ?_
    refine k_get X hH in_X54 0 rfl hc 2 (by decide) q6502 rfl dX54_repeats_4 ?_
    refine lv_iload_n hx hb dX54_repeats_7 rfl (lv_at hl 1 rfl) ?_
    have hq_1 := hw.1
    have hw := hw.2
    refine k_iald X hH 2 1 rfl rfl (z_in (rfl : x1.toInt = _) hq_1) dX54_repeats_8 ?_
    have e_2 := z_ld (f := f_sizes) (rfl : x1.toInt = _) hq_1.1
    refine lv_icmp_ge (tgt := 53) hx hb dX54_repeats_9 (by decide) (fun c_3 => ?_) (fun c_3 => ?_)
    · have hw := hw.1 (z_le e_2 (rfl : x3.toInt = _) c_3)
      exact hk53  hw _ _ ls hH (lv_sub hl [] rfl)
    · have hw := hw.2 (z_nle e_2 (rfl : x3.toInt = _) c_3)
      refine lv_iconst (v := 0) hx hb dX54_repeats_12 (by decide) ?_
      refine lv_istore (lv' := [(4, .int 0), (0, .ref (ad 0)), (1, .int x1), (2, .int x2), (3, .int x3)]) hx hb dX54_repeats_13 hl (by decide) rfl (fun ls hl => ?_)
      obtain ⟨fu, hw⟩ := hw
      refine atX54_repeats_15 hc X ?_ ?_ fu 0 hw _ _ ls hH (lv_sub hl [1, 2, 3, 4, 0] rfl)
      · intro hw H locs ls hH hl
        exact hk39  hw _ _ ls hH (lv_sub hl [] rfl)
      · intro hw H locs ls hH hl
        have hq_11 := hw.1
        have hw := hw.2
        obtain ⟨x3_10, ex3_10⟩ : ∃ y : Int32, y = x3 + 1 := ⟨_, rfl⟩
        have hw := hw x3_10.toInt (by rw [ex3_10]; exact (z_x (z_add (z_m (rfl : x3.toInt = _)) (z_m (rfl : (1 : Int32).toInt = 1))) hq_11))
        refine lv_iinc (v := x3_10) (lv' := [(3, .int x3_10), (0, .ref (ad 0)), (1, .int x1), (2, .int x2)]) hx hb dX54_repeats_47 hl (k := 3) rfl (by rw [ex3_10]; rfl) (by decide) rfl (fun ls hl => ?_)
        refine lv_goto (tgt := 2) hx hb dX54_repeats_50 (by decide) ?_
        exact ih x3_10 hw _ _ ls hH (lv_sub hl [1, 2, 3, 0] rfl)
set_option maxHeartbeats 4000000 in
theorem walkX54_repeats {l : Launch} {dC : Nat → ClassId} {dI : Nat → Nat → Nat} {cl : List vw_C} {ci : Nat} (hc : cl[ci]? = some (RX54, TX54, 23)) {ad : Nat → Nat} {d : Nat → ClassId} {sz : Nat} {f_thrown : Int32} {f_cells : Nat → Int32} {f_sizes : Nat → Int32} {f_keys : Nat → Int32} {f_maps : Nat → Int32} {f_mapCount : Int32} {f_atoms : Nat → Int32} {f_atomCount : Int32} {f_spans : Nat → Int32} {f_spanCount : Int32} {f_unions : Nat → Int32} {f_unionCount : Int32} {f_isLarge : Int32} {f_trial : Nat → Int32} {f_rowAt : Nat → Int32} {f_answers : Nat → Int32} {f_foundBy : Nat → Int32} {f_firstBy : Nat → Int32} {f_lastBy : Nat → Int32} {f_order : Nat → Int32} {f_answerCount : Int32} {f_asked : Nat → Int32} {f_tooMany : Int32} {x1 : Int32} {x2 : Int32} {post : Int → Prop} (hw : wpX54_repeats post (zF f_cells) (zF f_sizes) x1.toInt x2.toInt) :
    Met l yX54_repeats (ws_ yX54_repeats cX54_repeats 5 (some .boolean)) ({ frames := 1, cells := 0, slots := 0, locals := 23 } : Room) (kPc (dC, dI) cl (tX54 d) [.ref (ad 0), .int x1, .int x2] sz (wX54 ci ad d f_thrown f_cells f_sizes f_keys f_maps f_mapCount f_atoms f_atomCount f_spans f_spanCount f_unions f_unionCount f_isLarge f_trial f_rowAt f_answers f_foundBy f_firstBy f_lastBy f_order f_answerCount f_asked f_tooMany)) (va_Qi (fun (r : Int32) (_ : Unit) => post r.toInt) (kB (dC, dI) cl (tX54 d) (va_A (wX54 ci ad d f_thrown f_cells f_sizes f_keys f_maps f_mapCount f_atoms f_atomCount f_spans f_spanCount f_unions f_unionCount f_isLarge f_trial f_rowAt f_answers f_foundBy f_firstBy f_lastBy f_order f_answerCount f_asked f_tooMany) sz) (fun _ : Unit => (wX54 ci ad d f_thrown f_cells f_sizes f_keys f_maps f_mapCount f_atoms f_atomCount f_spans f_spanCount f_unions f_unionCount f_isLarge f_trial f_rowAt f_answers f_foundBy f_firstBy f_lastBy f_order f_answerCount f_asked f_tooMany))) (va_A (wX54 ci ad d f_thrown f_cells f_sizes f_keys f_maps f_mapCount f_atoms f_atomCount f_spans f_spanCount f_unions f_unionCount f_isLarge f_trial f_rowAt f_answers f_foundBy f_firstBy f_lastBy f_order f_answerCount f_asked f_tooMany) sz)) 0 0 (va_A (wX54 ci ad d f_thrown f_cells f_sizes f_keys f_maps f_mapCount f_atoms f_atomCount f_spans f_spanCount f_unions f_unionCount f_isLarge f_trial f_rowAt f_answers f_foundBy f_firstBy f_lastBy f_order f_answerCount f_asked f_tooMany) sz) := by
  refine k_enter (by decide) (Nat.le_of_ble_eq_true rfl) ?_
  intro p e s m below meth c ls X hsz hH hl
  subst hsz
  generalize va_A (wX54 ci ad d f_thrown f_cells f_sizes f_keys f_maps f_mapCount f_atoms f_atomCount f_spans f_spanCount f_unions f_unionCount f_isLarge f_trial f_rowAt f_answers f_foundBy f_firstBy f_lastBy f_order f_answerCount f_asked f_tooMany) s.heap.size = A at hH ⊢
  have hx := X.1.1
  have hb := X.1.2.1
  have hl : lv_has ls 5 [(0, .ref (ad 0)), (1, .int x1), (2, .int x2)] := hl
  unfold wpX54_repeats at hw
  refine lv_iconst (v := 0) hx hb dX54_repeats_0 (by decide) ?_
  refine lv_istore_n (lv' := [(3, .int 0), (0, .ref (ad 0)), (1, .int x1), (2, .int x2)]) hx hb dX54_repeats_1 rfl hl (by decide) rfl (fun ls hl => ?_)
  obtain ⟨fu, hw⟩ := hw
  refine atX54_repeats_2 hc X ?_ ?_ fu 0 hw _ _ ls hH (lv_sub hl [1, 2, 3, 0] rfl)
  · intro hw H locs ls hH hl
    refine lv_iconst (v := 1) hx hb dX54_repeats_39 (by decide) ?_
    exact k_iret (v := 1) X hH () hw rfl rfl dX54_repeats_40
  · intro hw H locs ls hH hl
    refine lv_iconst (v := 0) hx hb dX54_repeats_53 (by decide) ?_
    exact k_iret (v := 0) X hH () hw rfl rfl dX54_repeats_54
set_option maxHeartbeats 4000000 in
theorem walkX54_key {l : Launch} {dC : Nat → ClassId} {dI : Nat → Nat → Nat} {cl : List vw_C} {ci : Nat} (hc : cl[ci]? = some (RX54, TX54, 23)) {ad : Nat → Nat} {d : Nat → ClassId} {sz : Nat} {f_thrown : Int32} {f_cells : Nat → Int32} {f_sizes : Nat → Int32} {f_keys : Nat → Int32} {f_maps : Nat → Int32} {f_mapCount : Int32} {f_atoms : Nat → Int32} {f_atomCount : Int32} {f_spans : Nat → Int32} {f_spanCount : Int32} {f_unions : Nat → Int32} {f_unionCount : Int32} {f_isLarge : Int32} {f_trial : Nat → Int32} {f_rowAt : Nat → Int32} {f_answers : Nat → Int32} {f_foundBy : Nat → Int32} {f_firstBy : Nat → Int32} {f_lastBy : Nat → Int32} {f_order : Nat → Int32} {f_answerCount : Int32} {f_asked : Nat → Int32} {f_tooMany : Int32} {x1 : Int32} {x2 : Int32} {x3 : Int32} {post : Int → Int → (Int → Int) → Prop} (hw : wpX54_key post (zF f_cells) (zF f_sizes) (zF f_keys) x1.toInt x2.toInt x3.toInt) :
    Met l yX54_key (ws_ yX54_key cX54_key 4 (some .int)) ({ frames := 2, cells := 0, slots := 0, locals := 47 } : Room) (kPc (dC, dI) cl (tX54 d) [.ref (ad 0), .int x1, .int x2, .int x3] sz (wX54 ci ad d f_thrown f_cells f_sizes f_keys f_maps f_mapCount f_atoms f_atomCount f_spans f_spanCount f_unions f_unionCount f_isLarge f_trial f_rowAt f_answers f_foundBy f_firstBy f_lastBy f_order f_answerCount f_asked f_tooMany)) (va_Qi (fun (r : Int32) (u : Int32 × (Nat → Int32)) => post r.toInt (u.1).toInt (zF (u.2))) (kB (dC, dI) cl (tX54 d) (va_A (wX54 ci ad d f_thrown f_cells f_sizes f_keys f_maps f_mapCount f_atoms f_atomCount f_spans f_spanCount f_unions f_unionCount f_isLarge f_trial f_rowAt f_answers f_foundBy f_firstBy f_lastBy f_order f_answerCount f_asked f_tooMany) sz) (fun u : Int32 × (Nat → Int32) => (wX54 ci ad d (u.1) f_cells f_sizes (u.2) f_maps f_mapCount f_atoms f_atomCount f_spans f_spanCount f_unions f_unionCount f_isLarge f_trial f_rowAt f_answers f_foundBy f_firstBy f_lastBy f_order f_answerCount f_asked f_tooMany))) (va_A (wX54 ci ad d f_thrown f_cells f_sizes f_keys f_maps f_mapCount f_atoms f_atomCount f_spans f_spanCount f_unions f_unionCount f_isLarge f_trial f_rowAt f_answers f_foundBy f_firstBy f_lastBy f_order f_answerCount f_asked f_tooMany) sz)) 0 0 (va_A (wX54 ci ad d f_thrown f_cells f_sizes f_keys f_maps f_mapCount f_atoms f_atomCount f_spans f_spanCount f_unions f_unionCount f_isLarge f_trial f_rowAt f_answers f_foundBy f_firstBy f_lastBy f_order f_answerCount f_asked f_tooMany) sz) := by
  refine k_enter (by decide) (Nat.le_of_ble_eq_true rfl) ?_
  intro p e s m below meth c ls X hsz hH hl
  subst hsz
  generalize va_A (wX54 ci ad d f_thrown f_cells f_sizes f_keys f_maps f_mapCount f_atoms f_atomCount f_spans f_spanCount f_unions f_unionCount f_isLarge f_trial f_rowAt f_answers f_foundBy f_firstBy f_lastBy f_order f_answerCount f_asked f_tooMany) s.heap.size = A at hH ⊢
  have hx := X.1.1
  have hb := X.1.2.1
  have hl : lv_has ls 4 [(0, .ref (ad 0)), (1, .int x1), (2, .int x2), (3, .int x3)] := hl
  unfold wpX54_key at hw
  refine lv_aload_n hx hb dX54_key_0 rfl (lv_at hl 0 rfl) ?_
  refine lv_iconst (v := 0) hx hb dX54_key_1 (by decide) ?_
  refine k_put X hH in_X54 tyX54_ok nmX54 0 rfl hc 0 (by decide) q6500 rfl (ty := .int) rfl rfl rfl (Nat.le_of_ble_eq_true rfl) dX54_key_2 (ws1 := (wX54 ci ad d 0 f_cells f_sizes f_keys f_maps f_mapCount f_atoms f_atomCount f_spans f_spanCount f_unions f_unionCount f_isLarge f_trial f_rowAt f_answers f_foundBy f_firstBy f_lastBy f_order f_answerCount f_asked f_tooMany)) rfl (fun H locs hH => ?_)
  refine lv_iload_n hx hb dX54_key_5 rfl (lv_at hl 1 rfl) ?_
  refine lv_iconst (v := 4) hx hb dX54_key_6 (by decide) ?_
  refine k_i0 hH (k_runS (As := [.int x1, .int 4]) (rest := []) X hH.1 hH.2.1 X.2.2.2 (walkX54_isIn hc (x0 := x1) (x1 := 4) (f_thrown := 0) (f_cells := f_cells) (f_sizes := f_sizes) (f_keys := f_keys) (f_maps := f_maps) (f_mapCount := f_mapCount) (f_atoms := f_atoms) (f_atomCount := f_atomCount) (f_spans := f_spans) (f_spanCount := f_spanCount) (f_unions := f_unions) (f_unionCount := f_unionCount) (f_isLarge := f_isLarge) (f_trial := f_trial) (f_rowAt := f_rowAt) (f_answers := f_answers) (f_foundBy := f_foundBy) (f_firstBy := f_firstBy) (f_lastBy := f_lastBy) (f_order := f_order) (f_answerCount := f_answerCount) (f_asked := f_asked) (f_tooMany := f_tooMany) hw) (va_cwS 2 X.1.2.2.2.2 gX54_64 rfl rfl rfl hX54_isIn ⟨Nat.le_of_ble_eq_true rfl, Nat.le_of_ble_eq_true rfl⟩) rfl hl.1 rfl (Nat.le_of_ble_eq_true rfl) dX54_key_7 ⟨Nat.le_refl 0, Nat.le_refl 0⟩) (fun r_1 _ H locs hw hH => ?_)
  have hH : kH (dC, dI) cl A s.heap H locs (wX54 ci ad d 0 f_cells f_sizes f_keys f_maps f_mapCount f_atoms f_atomCount f_spans f_spanCount f_unions f_unionCount f_isLarge f_trial f_rowAt f_answers f_foundBy f_firstBy f_lastBy f_order f_answerCount f_asked f_tooMany) := hH
  refine lv_if_eq (tgt := 21) hx hb dX54_key_10 (by decide) (fun c_2 => ?_) (fun c_2 => ?_)
  · have hw := hw.1 (z_eq (rfl : r_1.toInt = _) (rfl : (0 : Int32).toInt = 0) c_2)
    refine lv_iconst (v := (-1)) hx hb dX54_key_21 (by decide) ?_
    exact k_iret (v := (-1)) X hH (0, f_keys) hw rfl rfl dX54_key_22
  · have hw := hw.2 (z_neq (rfl : r_1.toInt = _) (rfl : (0 : Int32).toInt = 0) c_2)
    refine lv_iload_n hx hb dX54_key_13 rfl (lv_at hl 2 rfl) ?_
    refine lv_iconst (v := 3) hx hb dX54_key_14 (by decide) ?_
    refine k_i0 hH (k_runS (As := [.int x2, .int 3]) (rest := []) X hH.1 hH.2.1 X.2.2.2 (walkX54_isIn hc (x0 := x2) (x1 := 3) (f_thrown := 0) (f_cells := f_cells) (f_sizes := f_sizes) (f_keys := f_keys) (f_maps := f_maps) (f_mapCount := f_mapCount) (f_atoms := f_atoms) (f_atomCount := f_atomCount) (f_spans := f_spans) (f_spanCount := f_spanCount) (f_unions := f_unions) (f_unionCount := f_unionCount) (f_isLarge := f_isLarge) (f_trial := f_trial) (f_rowAt := f_rowAt) (f_answers := f_answers) (f_foundBy := f_foundBy) (f_firstBy := f_firstBy) (f_lastBy := f_lastBy) (f_order := f_order) (f_answerCount := f_answerCount) (f_asked := f_asked) (f_tooMany := f_tooMany) hw) (va_cwS 2 X.1.2.2.2.2 gX54_64 rfl rfl rfl hX54_isIn ⟨Nat.le_of_ble_eq_true rfl, Nat.le_of_ble_eq_true rfl⟩) rfl hl.1 rfl (Nat.le_of_ble_eq_true rfl) dX54_key_15 ⟨Nat.le_refl 0, Nat.le_refl 0⟩) (fun r_3 _ H locs hw hH => ?_)
    have hH : kH (dC, dI) cl A s.heap H locs (wX54 ci ad d 0 f_cells f_sizes f_keys f_maps f_mapCount f_atoms f_atomCount f_spans f_spanCount f_unions f_unionCount f_isLarge f_trial f_rowAt f_answers f_foundBy f_firstBy f_lastBy f_order f_answerCount f_asked f_tooMany) := hH
    refine lv_if_ne (tgt := 23) hx hb dX54_key_18 (by decide) (fun c_4 => ?_) (fun c_4 => ?_)
    · have hw := hw.2 (z_ne (rfl : r_3.toInt = _) (rfl : (0 : Int32).toInt = 0) c_4)
      refine lv_aload_n hx hb dX54_key_23 rfl (lv_at hl 0 rfl) ?_
      refine k_get X hH in_X54 0 rfl hc 3 (by decide) q6503 rfl dX54_key_24 ?_
      refine lv_iconst (v := 3) hx hb dX54_key_27 (by decide) ?_
      refine lv_iload_n hx hb dX54_key_28 rfl (lv_at hl 1 rfl) ?_
      refine lv_imul hx hb dX54_key_29 ?_
      have e_5 := z_mul (z_m (rfl : (3 : Int32).toInt = 3)) (z_m (rfl : x1.toInt = _))
      refine lv_iload_n hx hb dX54_key_30 rfl (lv_at hl 2 rfl) ?_
      refine lv_iadd hx hb dX54_key_31 ?_
      have e_6 := z_add e_5 (z_m (rfl : x2.toInt = _))
      have hq_7 := hw.1
      have hw := hw.2
      have e_8 := z_xi e_6 hq_7 (by decide)
      refine k_zald X hH 3 2 rfl rfl (z_in e_8 hq_7) dX54_key_32 ?_
      have e_9 := z_ld (f := f_keys) e_8 hq_7.1
      refine lv_iload_n hx hb dX54_key_33 rfl (lv_at hl 3 rfl) ?_
      refine lv_icmp_ne (tgt := 39) hx hb dX54_key_34 (by decide) (fun c_10 => ?_) (fun c_10 => ?_)
      · have hw := hw.2 (z_ne e_9 (rfl : x3.toInt = _) c_10)
        refine lv_iload_n hx hb dX54_key_39 rfl (lv_at hl 3 rfl) ?_
        refine lv_if_eq (tgt := 55) hx hb dX54_key_40 (by decide) (fun c_11 => ?_) (fun c_11 => ?_)
        · have hw := hw.1 (z_eq (rfl : x3.toInt = _) (rfl : (0 : Int32).toInt = 0) c_11)
          refine lv_aload_n hx hb dX54_key_55 rfl (lv_at hl 0 rfl) ?_
          refine k_get X hH in_X54 0 rfl hc 3 (by decide) q6503 rfl dX54_key_56 ?_
          refine lv_iconst (v := 3) hx hb dX54_key_59 (by decide) ?_
          refine lv_iload_n hx hb dX54_key_60 rfl (lv_at hl 1 rfl) ?_
          refine lv_imul hx hb dX54_key_61 ?_
          have e_12 := z_mul (z_m (rfl : (3 : Int32).toInt = 3)) (z_m (rfl : x1.toInt = _))
          refine lv_iload_n hx hb dX54_key_62 rfl (lv_at hl 2 rfl) ?_
          refine lv_iadd hx hb dX54_key_63 ?_
          have e_13 := z_add e_12 (z_m (rfl : x2.toInt = _))
          refine lv_iload_n hx hb dX54_key_64 rfl (lv_at hl 3 rfl) ?_
          have e_15 := z_xi e_13 hq_7 (by decide)
          have hq_16 := hw.1
          have hw := hw.2
          obtain ⟨f_keys_14, ef_keys_14⟩ : ∃ y : Nat → Int32, y = upd f_keys ((3 * x1) + x2).toNatClampNeg (vp_nar .boolean x3) := ⟨_, rfl⟩
          refine k_zast X hH 3 2 rfl rfl (z_in e_15 hq_7) dX54_key_65 ef_keys_14 (ws1 := (wX54 ci ad d 0 f_cells f_sizes f_keys_14 f_maps f_mapCount f_atoms f_atomCount f_spans f_spanCount f_unions f_unionCount f_isLarge f_trial f_rowAt f_answers f_foundBy f_firstBy f_lastBy f_order f_answerCount f_asked f_tooMany)) rfl (fun H locs hH => ?_)
          have hw := hw (zF f_keys_14) (by rw [ef_keys_14]; exact z_st (f := f_keys) e_15 hq_7.1 (z_narZ (rfl : x3.toInt = _) hq_16))
          refine lv_iconst (v := 1) hx hb dX54_key_66 (by decide) ?_
          exact k_iret (v := 1) X hH (0, f_keys_14) hw rfl rfl dX54_key_67
        · have hw := hw.2 (z_neq (rfl : x3.toInt = _) (rfl : (0 : Int32).toInt = 0) c_11)
          refine lv_aload_n hx hb dX54_key_43 rfl (lv_at hl 0 rfl) ?_
          refine lv_iload_n hx hb dX54_key_44 rfl (lv_at hl 1 rfl) ?_
          refine lv_iload_n hx hb dX54_key_45 rfl (lv_at hl 2 rfl) ?_
          refine k_i0 hH (k_runV (As := [.int x1, .int x2]) (rest := []) X hH.1 hH.2.1 X.2.2.2 (walkX54_repeats hc (x1 := x1) (x2 := x2) (f_thrown := 0) (f_cells := f_cells) (f_sizes := f_sizes) (f_keys := f_keys) (f_maps := f_maps) (f_mapCount := f_mapCount) (f_atoms := f_atoms) (f_atomCount := f_atomCount) (f_spans := f_spans) (f_spanCount := f_spanCount) (f_unions := f_unions) (f_unionCount := f_unionCount) (f_isLarge := f_isLarge) (f_trial := f_trial) (f_rowAt := f_rowAt) (f_answers := f_answers) (f_foundBy := f_foundBy) (f_firstBy := f_firstBy) (f_lastBy := f_lastBy) (f_order := f_order) (f_answerCount := f_answerCount) (f_asked := f_asked) (f_tooMany := f_tooMany) hw) (cwV 2 X.1.2.2.2.2 gX54_68 rfl rfl rfl hX54_repeats ⟨Nat.le_of_ble_eq_true rfl, Nat.le_of_ble_eq_true rfl⟩) hc (q0 := 0) rfl rfl hl.1 rfl (Nat.le_of_ble_eq_true rfl) dX54_key_46 ⟨Nat.le_refl 0, Nat.le_refl 0⟩) (fun r_17 _ H locs hw hH => ?_)
          have hH : kH (dC, dI) cl A s.heap H locs (wX54 ci ad d 0 f_cells f_sizes f_keys f_maps f_mapCount f_atoms f_atomCount f_spans f_spanCount f_unions f_unionCount f_isLarge f_trial f_rowAt f_answers f_foundBy f_firstBy f_lastBy f_order f_answerCount f_asked f_tooMany) := hH
          refine lv_if_eq (tgt := 55) hx hb dX54_key_49 (by decide) (fun c_18 => ?_) (fun c_18 => ?_)
          · have hw := hw.1 (z_eq (rfl : r_17.toInt = _) (rfl : (0 : Int32).toInt = 0) c_18)
            refine lv_aload_n hx hb dX54_key_55 rfl (lv_at hl 0 rfl) ?_
            refine k_get X hH in_X54 0 rfl hc 3 (by decide) q6503 rfl dX54_key_56 ?_
            refine lv_iconst (v := 3) hx hb dX54_key_59 (by decide) ?_
            refine lv_iload_n hx hb dX54_key_60 rfl (lv_at hl 1 rfl) ?_
            refine lv_imul hx hb dX54_key_61 ?_
            have e_19 := z_mul (z_m (rfl : (3 : Int32).toInt = 3)) (z_m (rfl : x1.toInt = _))
            refine lv_iload_n hx hb dX54_key_62 rfl (lv_at hl 2 rfl) ?_
            refine lv_iadd hx hb dX54_key_63 ?_
            have e_20 := z_add e_19 (z_m (rfl : x2.toInt = _))
            refine lv_iload_n hx hb dX54_key_64 rfl (lv_at hl 3 rfl) ?_
            have e_22 := z_xi e_20 hq_7 (by decide)
            have hq_23 := hw.1
            have hw := hw.2
            obtain ⟨f_keys_21, ef_keys_21⟩ : ∃ y : Nat → Int32, y = upd f_keys ((3 * x1) + x2).toNatClampNeg (vp_nar .boolean x3) := ⟨_, rfl⟩
            refine k_zast X hH 3 2 rfl rfl (z_in e_22 hq_7) dX54_key_65 ef_keys_21 (ws1 := (wX54 ci ad d 0 f_cells f_sizes f_keys_21 f_maps f_mapCount f_atoms f_atomCount f_spans f_spanCount f_unions f_unionCount f_isLarge f_trial f_rowAt f_answers f_foundBy f_firstBy f_lastBy f_order f_answerCount f_asked f_tooMany)) rfl (fun H locs hH => ?_)
            have hw := hw (zF f_keys_21) (by rw [ef_keys_21]; exact z_st (f := f_keys) e_22 hq_7.1 (z_narZ (rfl : x3.toInt = _) hq_23))
            refine lv_iconst (v := 1) hx hb dX54_key_66 (by decide) ?_
            exact k_iret (v := 1) X hH (0, f_keys_21) hw rfl rfl dX54_key_67
          · have hw := hw.2 (z_neq (rfl : r_17.toInt = _) (rfl : (0 : Int32).toInt = 0) c_18)
            refine lv_bipush (v := (-4)) hx hb dX54_key_52 (by decide) ?_
            exact k_iret (v := (-4)) X hH (0, f_keys) hw rfl rfl dX54_key_54
      · have hw := hw.1 (z_eq e_9 (rfl : x3.toInt = _) c_10)
        refine lv_iconst (v := 0) hx hb dX54_key_37 (by decide) ?_
        exact k_iret (v := 0) X hH (0, f_keys) hw rfl rfl dX54_key_38
    · have hw := hw.1 (z_eq (rfl : r_3.toInt = _) (rfl : (0 : Int32).toInt = 0) c_4)
      refine lv_iconst (v := (-1)) hx hb dX54_key_21 (by decide) ?_
      exact k_iret (v := (-1)) X hH (0, f_keys) hw rfl rfl dX54_key_22
set_option maxHeartbeats 4000000 in
theorem atX54_isThere_3 {p : Program} {l : Launch} {e : Env} {s : State} {m : MethodId} {args : Array Value} {below : List Frame} {meth : Method} {c : Code} {dC : Nat → ClassId} {dI : Nat → Nat → Nat} {cl : List vw_C} {ci : Nat} (hc : cl[ci]? = some (RX54, TX54, 23)) {ad : Nat → Nat} {d : Nat → ClassId} {A : Nat → Prop} {post : Int → Prop} {f_thrown : Int32} {f_cells : Nat → Int32} {f_sizes : Nat → Int32} {f_keys : Nat → Int32} {f_maps : Nat → Int32} {f_mapCount : Int32} {f_atoms : Nat → Int32} {f_atomCount : Int32} {f_spans : Nat → Int32} {f_spanCount : Int32} {f_unions : Nat → Int32} {f_unionCount : Int32} {f_isLarge : Int32} {f_trial : Nat → Int32} {f_rowAt : Nat → Int32} {f_answers : Nat → Int32} {f_foundBy : Nat → Int32} {f_firstBy : Nat → Int32} {f_lastBy : Nat → Int32} {f_order : Nat → Int32} {f_answerCount : Int32} {f_asked : Nat → Int32} {f_tooMany : Int32} (X : kX p s m args meth c cX54_isThere 5 RX54 (some .boolean) (dC, dI) cl (tX54 d)) {K26 : Prop} {K34 : Prop} {x1 : Int32} {x2 : Int32} {x3 : Int32}  (hk26 : K26  → ∀ (H : Heap) (locs : List Loc) (ls : Array Slot), kH (dC, dI) cl A s.heap H locs (wX54 ci ad d f_thrown f_cells f_sizes f_keys f_maps f_mapCount f_atoms f_atomCount f_spans f_spanCount f_unions f_unionCount f_isLarge f_trial f_rowAt f_answers f_foundBy f_firstBy f_lastBy f_order f_answerCount f_asked f_tooMany) → lv_has ls 5 [] → W p l e ({ frames := 1, cells := 0, slots := 0, locals := 23 } : Room) s m args below meth c H locs 0 0 (MQ below (va_Qi (fun (r : Int32) (_ : Unit) => post r.toInt) (kB (dC, dI) cl (tX54 d) A (fun _ : Unit => (wX54 ci ad d f_thrown f_cells f_sizes f_keys f_maps f_mapCount f_atoms f_atomCount f_spans f_spanCount f_unions f_unionCount f_isLarge f_trial f_rowAt f_answers f_foundBy f_firstBy f_lastBy f_order f_answerCount f_asked f_tooMany))) A) args s 0 0 A) (F0 m 26 ls [])) (hk34 : K34  → ∀ (H : Heap) (locs : List Loc) (ls : Array Slot), kH (dC, dI) cl A s.heap H locs (wX54 ci ad d f_thrown f_cells f_sizes f_keys f_maps f_mapCount f_atoms f_atomCount f_spans f_spanCount f_unions f_unionCount f_isLarge f_trial f_rowAt f_answers f_foundBy f_firstBy f_lastBy f_order f_answerCount f_asked f_tooMany) → lv_has ls 5 [] → W p l e ({ frames := 1, cells := 0, slots := 0, locals := 23 } : Room) s m args below meth c H locs 0 0 (MQ below (va_Qi (fun (r : Int32) (_ : Unit) => post r.toInt) (kB (dC, dI) cl (tX54 d) A (fun _ : Unit => (wX54 ci ad d f_thrown f_cells f_sizes f_keys f_maps f_mapCount f_atoms f_atomCount f_spans f_spanCount f_unions f_unionCount f_isLarge f_trial f_rowAt f_answers f_foundBy f_firstBy f_lastBy f_order f_answerCount f_asked f_tooMany))) A) args s 0 0 A) (F0 m 34 ls [])) :
    ∀ (nn : Nat) (x4 : Int32), wX54_isThere_3 K26 K34 x1.toInt x2.toInt x3.toInt (zF f_cells) (zF f_sizes) nn x4.toInt → ∀ (H : Heap) (locs : List Loc) (ls : Array Slot), kH (dC, dI) cl A s.heap H locs (wX54 ci ad d f_thrown f_cells f_sizes f_keys f_maps f_mapCount f_atoms f_atomCount f_spans f_spanCount f_unions f_unionCount f_isLarge f_trial f_rowAt f_answers f_foundBy f_firstBy f_lastBy f_order f_answerCount f_asked f_tooMany) → lv_has ls 5 [(0, .ref (ad 0)), (1, .int x1), (2, .int x2), (3, .int x3), (4, .int x4)] → W p l e ({ frames := 1, cells := 0, slots := 0, locals := 23 } : Room) s m args below meth c H locs 0 0 (MQ below (va_Qi (fun (r : Int32) (_ : Unit) => post r.toInt) (kB (dC, dI) cl (tX54 d) A (fun _ : Unit => (wX54 ci ad d f_thrown f_cells f_sizes f_keys f_maps f_mapCount f_atoms f_atomCount f_spans f_spanCount f_unions f_unionCount f_isLarge f_trial f_rowAt f_answers f_foundBy f_firstBy f_lastBy f_order f_answerCount f_asked f_tooMany))) A) args s 0 0 A) (F0 m 3 ls []) := by
  have hx := X.1.1
  have hb := X.1.2.1
  intro nn
  induction nn with
  | zero =>
    intro x4 hw
    exact False.elim hw
  | succ n ih =>
    intro x4 hw H locs ls hH hl
    rw [wX54_isThere_3] at hw
    refine lv_iload hx hb dX54_isThere_3 (lv_at hl 4 rfl) ?_
    refine lv_aload_n hx hb dX54_isThere_5 rfl (lv_at hl 0 rfl) ?_
    refine k_get X hH in_X54 0 rfl hc 2 (by decide) q6502 rfl dX54_isThere_6 ?_
    refine lv_iload_n hx hb dX54_isThere_9 rfl (lv_at hl 1 rfl) ?_
    have hq_1 := hw.1
    have hw := hw.2
    refine k_iald X hH 2 1 rfl rfl (z_in (rfl : x1.toInt = _) hq_1) dX54_isThere_10 ?_
    have e_2 := z_ld (f := f_sizes) (rfl : x1.toInt = _) hq_1.1
    refine lv_icmp_ge (tgt := 34) hx hb dX54_isThere_11 (by decide) (fun c_3 => ?_) (fun c_3 => ?_)
    · have hw := hw.1 (z_le e_2 (rfl : x4.toInt = _) c_3)
      exact hk34  hw _ _ ls hH (lv_sub hl [] rfl)
    · have hw := hw.2 (z_nle e_2 (rfl : x4.toInt = _) c_3)
      refine lv_aload_n hx hb dX54_isThere_14 rfl (lv_at hl 0 rfl) ?_
      refine lv_iload_n hx hb dX54_isThere_15 rfl (lv_at hl 1 rfl) ?_
      refine lv_iload hx hb dX54_isThere_16 (lv_at hl 4 rfl) ?_
      refine lv_iload_n hx hb dX54_isThere_18 rfl (lv_at hl 2 rfl) ?_
      refine k_i0 hH (k_runV (As := [.int x1, .int x4, .int x2]) (rest := []) X hH.1 hH.2.1 X.2.2.2 (walkX54_cell hc (x1 := x1) (x2 := x4) (x3 := x2) (f_thrown := f_thrown) (f_cells := f_cells) (f_sizes := f_sizes) (f_keys := f_keys) (f_maps := f_maps) (f_mapCount := f_mapCount) (f_atoms := f_atoms) (f_atomCount := f_atomCount) (f_spans := f_spans) (f_spanCount := f_spanCount) (f_unions := f_unions) (f_unionCount := f_unionCount) (f_isLarge := f_isLarge) (f_trial := f_trial) (f_rowAt := f_rowAt) (f_answers := f_answers) (f_foundBy := f_foundBy) (f_firstBy := f_firstBy) (f_lastBy := f_lastBy) (f_order := f_order) (f_answerCount := f_answerCount) (f_asked := f_asked) (f_tooMany := f_tooMany) hw) (cwV 3 X.1.2.2.2.2 gX54_60 rfl rfl rfl hX54_cell ⟨Nat.le_of_ble_eq_true rfl, Nat.le_of_ble_eq_true rfl⟩) hc (q0 := 0) rfl rfl hl.1 rfl (Nat.le_of_ble_eq_true rfl) dX54_isThere_19 ⟨Nat.le_refl 0, Nat.le_refl 0⟩) (fun r_4 _ H locs hw hH => ?_)
      have hH : kH (dC, dI) cl A s.heap H locs (wX54 ci ad d f_thrown f_cells f_sizes f_keys f_maps f_mapCount f_atoms f_atomCount f_spans f_spanCount f_unions f_unionCount f_isLarge f_trial f_rowAt f_answers f_foundBy f_firstBy f_lastBy f_order f_answerCount f_asked f_tooMany) := hH
      refine lv_iload_n hx hb dX54_isThere_22 rfl (lv_at hl 3 rfl) ?_
      refine lv_icmp_ne (tgt := 28) hx hb dX54_isThere_23 (by decide) (fun c_5 => ?_) (fun c_5 => ?_)
      · have hw := hw.2 (z_ne (rfl : r_4.toInt = _) (rfl : x3.toInt = _) c_5)
        have hq_7 := hw.1
        have hw := hw.2
        obtain ⟨x4_6, ex4_6⟩ : ∃ y : Int32, y = x4 + 1 := ⟨_, rfl⟩
        have hw := hw x4_6.toInt (by rw [ex4_6]; exact (z_x (z_add (z_m (rfl : x4.toInt = _)) (z_m (rfl : (1 : Int32).toInt = 1))) hq_7))
        refine lv_iinc (v := x4_6) (lv' := [(4, .int x4_6), (0, .ref (ad 0)), (1, .int x1), (2, .int x2), (3, .int x3)]) hx hb dX54_isThere_28 hl (k := 4) rfl (by rw [ex4_6]; rfl) (by decide) rfl (fun ls hl => ?_)
        refine lv_goto (tgt := 3) hx hb dX54_isThere_31 (by decide) ?_
        exact ih x4_6 hw _ _ ls hH (lv_sub hl [1, 2, 3, 4, 0] rfl)
      · have hw := hw.1 (z_eq (rfl : r_4.toInt = _) (rfl : x3.toInt = _) c_5)
        exact hk26  hw _ _ ls hH (lv_sub hl [] rfl)
set_option maxHeartbeats 4000000 in
theorem walkX54_isThere {l : Launch} {dC : Nat → ClassId} {dI : Nat → Nat → Nat} {cl : List vw_C} {ci : Nat} (hc : cl[ci]? = some (RX54, TX54, 23)) {ad : Nat → Nat} {d : Nat → ClassId} {sz : Nat} {f_thrown : Int32} {f_cells : Nat → Int32} {f_sizes : Nat → Int32} {f_keys : Nat → Int32} {f_maps : Nat → Int32} {f_mapCount : Int32} {f_atoms : Nat → Int32} {f_atomCount : Int32} {f_spans : Nat → Int32} {f_spanCount : Int32} {f_unions : Nat → Int32} {f_unionCount : Int32} {f_isLarge : Int32} {f_trial : Nat → Int32} {f_rowAt : Nat → Int32} {f_answers : Nat → Int32} {f_foundBy : Nat → Int32} {f_firstBy : Nat → Int32} {f_lastBy : Nat → Int32} {f_order : Nat → Int32} {f_answerCount : Int32} {f_asked : Nat → Int32} {f_tooMany : Int32} {x1 : Int32} {x2 : Int32} {x3 : Int32} {post : Int → Prop} (hw : wpX54_isThere post (zF f_cells) (zF f_sizes) x1.toInt x2.toInt x3.toInt) :
    Met l yX54_isThere (ws_ yX54_isThere cX54_isThere 5 (some .boolean)) ({ frames := 1, cells := 0, slots := 0, locals := 23 } : Room) (kPc (dC, dI) cl (tX54 d) [.ref (ad 0), .int x1, .int x2, .int x3] sz (wX54 ci ad d f_thrown f_cells f_sizes f_keys f_maps f_mapCount f_atoms f_atomCount f_spans f_spanCount f_unions f_unionCount f_isLarge f_trial f_rowAt f_answers f_foundBy f_firstBy f_lastBy f_order f_answerCount f_asked f_tooMany)) (va_Qi (fun (r : Int32) (_ : Unit) => post r.toInt) (kB (dC, dI) cl (tX54 d) (va_A (wX54 ci ad d f_thrown f_cells f_sizes f_keys f_maps f_mapCount f_atoms f_atomCount f_spans f_spanCount f_unions f_unionCount f_isLarge f_trial f_rowAt f_answers f_foundBy f_firstBy f_lastBy f_order f_answerCount f_asked f_tooMany) sz) (fun _ : Unit => (wX54 ci ad d f_thrown f_cells f_sizes f_keys f_maps f_mapCount f_atoms f_atomCount f_spans f_spanCount f_unions f_unionCount f_isLarge f_trial f_rowAt f_answers f_foundBy f_firstBy f_lastBy f_order f_answerCount f_asked f_tooMany))) (va_A (wX54 ci ad d f_thrown f_cells f_sizes f_keys f_maps f_mapCount f_atoms f_atomCount f_spans f_spanCount f_unions f_unionCount f_isLarge f_trial f_rowAt f_answers f_foundBy f_firstBy f_lastBy f_order f_answerCount f_asked f_tooMany) sz)) 0 0 (va_A (wX54 ci ad d f_thrown f_cells f_sizes f_keys f_maps f_mapCount f_atoms f_atomCount f_spans f_spanCount f_unions f_unionCount f_isLarge f_trial f_rowAt f_answers f_foundBy f_firstBy f_lastBy f_order f_answerCount f_asked f_tooMany) sz) := by
  refine k_enter (by decide) (Nat.le_of_ble_eq_true rfl) ?_
  intro p e s m below meth c ls X hsz hH hl
  subst hsz
  generalize va_A (wX54 ci ad d f_thrown f_cells f_sizes f_keys f_maps f_mapCount f_atoms f_atomCount f_spans f_spanCount f_unions f_unionCount f_isLarge f_trial f_rowAt f_answers f_foundBy f_firstBy f_lastBy f_order f_answerCount f_asked f_tooMany) s.heap.size = A at hH ⊢
  have hx := X.1.1
  have hb := X.1.2.1
  have hl : lv_has ls 5 [(0, .ref (ad 0)), (1, .int x1), (2, .int x2), (3, .int x3)] := hl
  unfold wpX54_isThere at hw
  refine lv_iconst (v := 0) hx hb dX54_isThere_0 (by decide) ?_
  refine lv_istore (lv' := [(4, .int 0), (0, .ref (ad 0)), (1, .int x1), (2, .int x2), (3, .int x3)]) hx hb dX54_isThere_1 hl (by decide) rfl (fun ls hl => ?_)
  obtain ⟨fu, hw⟩ := hw
  refine atX54_isThere_3 hc X ?_ ?_ fu 0 hw _ _ ls hH (lv_sub hl [1, 2, 3, 4, 0] rfl)
  · intro hw H locs ls hH hl
    refine lv_iconst (v := 1) hx hb dX54_isThere_26 (by decide) ?_
    exact k_iret (v := 1) X hH () hw rfl rfl dX54_isThere_27
  · intro hw H locs ls hH hl
    refine lv_iconst (v := 0) hx hb dX54_isThere_34 (by decide) ?_
    exact k_iret (v := 0) X hH () hw rfl rfl dX54_isThere_35
set_option maxHeartbeats 4000000 in
theorem atX54_row_117 {p : Program} {l : Launch} {e : Env} {s : State} {m : MethodId} {args : Array Value} {below : List Frame} {meth : Method} {c : Code} {dC : Nat → ClassId} {dI : Nat → Nat → Nat} {cl : List vw_C} {ci : Nat} (hc : cl[ci]? = some (RX54, TX54, 23)) {ad : Nat → Nat} {d : Nat → ClassId} {A : Nat → Prop} {post : Int → Int → (Int → Int) → (Int → Int) → Prop} {f_keys : Nat → Int32} {f_maps : Nat → Int32} {f_mapCount : Int32} {f_atoms : Nat → Int32} {f_atomCount : Int32} {f_spans : Nat → Int32} {f_spanCount : Int32} {f_unions : Nat → Int32} {f_unionCount : Int32} {f_isLarge : Int32} {f_trial : Nat → Int32} {f_rowAt : Nat → Int32} {f_answers : Nat → Int32} {f_foundBy : Nat → Int32} {f_firstBy : Nat → Int32} {f_lastBy : Nat → Int32} {f_order : Nat → Int32} {f_answerCount : Int32} {f_asked : Nat → Int32} {f_tooMany : Int32} (X : kX p s m args meth c cX54_row 6 RX54 (some .int) (dC, dI) cl (tX54 d))     :
    ∀ (x1 : Int32) (x2 : Int32) (x3 : Int32) (x4 : Int32) (f_thrown : Int32) (f_cells : Nat → Int32) (f_sizes : Nat → Int32), wX54_row_117 post x1.toInt x2.toInt x3.toInt x4.toInt f_thrown.toInt (zF f_cells) (zF f_sizes) → ∀ (H : Heap) (locs : List Loc) (ls : Array Slot), kH (dC, dI) cl A s.heap H locs (wX54 ci ad d f_thrown f_cells f_sizes f_keys f_maps f_mapCount f_atoms f_atomCount f_spans f_spanCount f_unions f_unionCount f_isLarge f_trial f_rowAt f_answers f_foundBy f_firstBy f_lastBy f_order f_answerCount f_asked f_tooMany) → lv_has ls 6 [(0, .ref (ad 0)), (1, .int x1), (2, .int x2), (3, .int x3), (4, .int x4)] → W p l e ({ frames := 2, cells := 0, slots := 0, locals := 47 } : Room) s m args below meth c H locs 0 0 (MQ below (va_Qi (fun (r : Int32) (u : Int32 × (Nat → Int32) × (Nat → Int32)) => post r.toInt (u.1).toInt (zF (u.2.1)) (zF (u.2.2))) (kB (dC, dI) cl (tX54 d) A (fun u : Int32 × (Nat → Int32) × (Nat → Int32) => (wX54 ci ad d (u.1) (u.2.1) (u.2.2) f_keys f_maps f_mapCount f_atoms f_atomCount f_spans f_spanCount f_unions f_unionCount f_isLarge f_trial f_rowAt f_answers f_foundBy f_firstBy f_lastBy f_order f_answerCount f_asked f_tooMany))) A) args s 0 0 A) (F0 m 117 ls []) := by
  have hx := X.1.1
  have hb := X.1.2.1
  intro x1 x2 x3 x4 f_thrown f_cells f_sizes hw H locs ls hH hl
  unfold wX54_row_117 at hw
  refine lv_aload_n hx hb dX54_row_117 rfl (lv_at hl 0 rfl) ?_
  refine k_get X hH in_X54 0 rfl hc 2 (by decide) q6502 rfl dX54_row_118 ?_
  refine lv_iload_n hx hb dX54_row_121 rfl (lv_at hl 1 rfl) ?_
  have hq_26 := hw.1
  have hw := hw.2
  refine k_iald X hH 2 1 rfl rfl (z_in (rfl : x1.toInt = _) hq_26) dX54_row_122 ?_
  have e_27 := z_ld (f := f_sizes) (rfl : x1.toInt = _) hq_26.1
  refine lv_bipush (v := 20) hx hb dX54_row_123 (by decide) ?_
  refine lv_icmp_ne (tgt := 131) hx hb dX54_row_125 (by decide) (fun c_28 => ?_) (fun c_28 => ?_)
  · have hw := hw.2 (z_ne e_27 (rfl : (20 : Int32).toInt = 20) c_28)
    refine lv_bipush (v := 60) hx hb dX54_row_131 (by decide) ?_
    refine lv_iload_n hx hb dX54_row_133 rfl (lv_at hl 1 rfl) ?_
    refine lv_imul hx hb dX54_row_134 ?_
    have e_29 := z_mul (z_m (rfl : (60 : Int32).toInt = 60)) (z_m (rfl : x1.toInt = _))
    refine lv_iconst (v := 3) hx hb dX54_row_135 (by decide) ?_
    refine lv_aload_n hx hb dX54_row_136 rfl (lv_at hl 0 rfl) ?_
    refine k_get X hH in_X54 0 rfl hc 2 (by decide) q6502 rfl dX54_row_137 ?_
    refine lv_iload_n hx hb dX54_row_140 rfl (lv_at hl 1 rfl) ?_
    refine k_iald X hH 2 1 rfl rfl (z_in (rfl : x1.toInt = _) hq_26) dX54_row_141 ?_
    have e_30 := z_ld (f := f_sizes) (rfl : x1.toInt = _) hq_26.1
    refine lv_imul hx hb dX54_row_142 ?_
    have e_31 := z_mul (z_m (rfl : (3 : Int32).toInt = 3)) (z_m e_30)
    refine lv_iadd hx hb dX54_row_143 ?_
    have e_32 := z_add e_29 e_31
    have hq_33 := hw.1
    have hw := hw.2
    have e_34 := z_x e_32 hq_33
    refine lv_topi (fun x5_35 ex5_35 => ?_)
    have hw := hw x5_35.toInt (by rw [ex5_35]; exact e_34)
    refine lv_istore (lv' := [(5, .int x5_35), (0, .ref (ad 0)), (1, .int x1), (2, .int x2), (3, .int x3), (4, .int x4)]) hx hb dX54_row_144 hl (by decide) rfl (fun ls hl => ?_)
    refine lv_aload_n hx hb dX54_row_146 rfl (lv_at hl 1 rfl) ?_
    refine k_get X hH in_X54 0 rfl hc 1 (by decide) q6501 rfl dX54_row_147 ?_
    refine lv_iload hx hb dX54_row_150 (lv_at hl 0 rfl) ?_
    refine lv_iload_n hx hb dX54_row_152 rfl (lv_at hl 3 rfl) ?_
    have hq_37 := hw.1
    have hw := hw.2
    obtain ⟨f_cells_36, ef_cells_36⟩ : ∃ y : Nat → Int32, y = upd f_cells x5_35.toNatClampNeg x2 := ⟨_, rfl⟩
    refine k_iast X hH 1 0 rfl rfl (z_in (rfl : x5_35.toInt = _) hq_37) dX54_row_153 ef_cells_36 (ws1 := (wX54 ci ad d f_thrown f_cells_36 f_sizes f_keys f_maps f_mapCount f_atoms f_atomCount f_spans f_spanCount f_unions f_unionCount f_isLarge f_trial f_rowAt f_answers f_foundBy f_firstBy f_lastBy f_order f_answerCount f_asked f_tooMany)) rfl (fun H locs hH => ?_)
    have hw := hw (zF f_cells_36) (by rw [ef_cells_36]; exact z_st (f := f_cells) (rfl : x5_35.toInt = _) hq_37.1 (rfl : x2.toInt = _))
    refine lv_aload_n hx hb dX54_row_154 rfl (lv_at hl 1 rfl) ?_
    refine k_get X hH in_X54 0 rfl hc 1 (by decide) q6501 rfl dX54_row_155 ?_
    refine lv_iload hx hb dX54_row_158 (lv_at hl 0 rfl) ?_
    refine lv_iconst (v := 1) hx hb dX54_row_160 (by decide) ?_
    refine lv_iadd hx hb dX54_row_161 ?_
    have e_38 := z_add (z_m (rfl : x5_35.toInt = _)) (z_m (rfl : (1 : Int32).toInt = 1))
    refine lv_iload_n hx hb dX54_row_162 rfl (lv_at hl 4 rfl) ?_
    have hq_40 := hw.1
    have hw := hw.2
    have e_41 := z_xi e_38 hq_40 (by decide)
    obtain ⟨f_cells_39, ef_cells_39⟩ : ∃ y : Nat → Int32, y = upd f_cells_36 (x5_35 + 1).toNatClampNeg x3 := ⟨_, rfl⟩
    refine k_iast X hH 1 0 rfl rfl (z_in e_41 hq_40) dX54_row_163 ef_cells_39 (ws1 := (wX54 ci ad d f_thrown f_cells_39 f_sizes f_keys f_maps f_mapCount f_atoms f_atomCount f_spans f_spanCount f_unions f_unionCount f_isLarge f_trial f_rowAt f_answers f_foundBy f_firstBy f_lastBy f_order f_answerCount f_asked f_tooMany)) rfl (fun H locs hH => ?_)
    have hw := hw (zF f_cells_39) (by rw [ef_cells_39]; exact z_st (f := f_cells_36) e_41 hq_40.1 (rfl : x3.toInt = _))
    refine lv_aload_n hx hb dX54_row_164 rfl (lv_at hl 1 rfl) ?_
    refine k_get X hH in_X54 0 rfl hc 1 (by decide) q6501 rfl dX54_row_165 ?_
    refine lv_iload hx hb dX54_row_168 (lv_at hl 0 rfl) ?_
    refine lv_iconst (v := 2) hx hb dX54_row_170 (by decide) ?_
    refine lv_iadd hx hb dX54_row_171 ?_
    have e_42 := z_add (z_m (rfl : x5_35.toInt = _)) (z_m (rfl : (2 : Int32).toInt = 2))
    refine lv_iload hx hb dX54_row_172 (lv_at hl 5 rfl) ?_
    have hq_44 := hw.1
    have hw := hw.2
    have e_45 := z_xi e_42 hq_44 (by decide)
    obtain ⟨f_cells_43, ef_cells_43⟩ : ∃ y : Nat → Int32, y = upd f_cells_39 (x5_35 + 2).toNatClampNeg x4 := ⟨_, rfl⟩
    refine k_iast X hH 1 0 rfl rfl (z_in e_45 hq_44) dX54_row_174 ef_cells_43 (ws1 := (wX54 ci ad d f_thrown f_cells_43 f_sizes f_keys f_maps f_mapCount f_atoms f_atomCount f_spans f_spanCount f_unions f_unionCount f_isLarge f_trial f_rowAt f_answers f_foundBy f_firstBy f_lastBy f_order f_answerCount f_asked f_tooMany)) rfl (fun H locs hH => ?_)
    have hw := hw (zF f_cells_43) (by rw [ef_cells_43]; exact z_st (f := f_cells_39) e_45 hq_44.1 (rfl : x4.toInt = _))
    refine lv_aload_n hx hb dX54_row_175 rfl (lv_at hl 1 rfl) ?_
    refine k_get X hH in_X54 0 rfl hc 2 (by decide) q6502 rfl dX54_row_176 ?_
    refine lv_iload_n hx hb dX54_row_179 rfl (lv_at hl 2 rfl) ?_
    refine lv_dup2_11 hx hb dX54_row_180 rfl rfl ?_
    refine k_iald X hH 2 1 rfl rfl (z_in (rfl : x1.toInt = _) hq_26) dX54_row_181 ?_
    have e_46 := z_ld (f := f_sizes) (rfl : x1.toInt = _) hq_26.1
    refine lv_iconst (v := 1) hx hb dX54_row_182 (by decide) ?_
    refine lv_iadd hx hb dX54_row_183 ?_
    have e_47 := z_add (z_m e_46) (z_m (rfl : (1 : Int32).toInt = 1))
    have hq_48 := hw.1
    have hw := hw.2
    have e_49 := z_x e_47 hq_48
    refine lv_topi (fun v_50 ev_50 => ?_)
    have hw := hw v_50.toInt (by rw [ev_50]; exact e_49)
    obtain ⟨f_sizes_51, ef_sizes_51⟩ : ∃ y : Nat → Int32, y = upd f_sizes x1.toNatClampNeg v_50 := ⟨_, rfl⟩
    refine k_iast X hH 2 1 rfl rfl (z_in (rfl : x1.toInt = _) hq_26) dX54_row_184 ef_sizes_51 (ws1 := (wX54 ci ad d f_thrown f_cells_43 f_sizes_51 f_keys f_maps f_mapCount f_atoms f_atomCount f_spans f_spanCount f_unions f_unionCount f_isLarge f_trial f_rowAt f_answers f_foundBy f_firstBy f_lastBy f_order f_answerCount f_asked f_tooMany)) rfl (fun H locs hH => ?_)
    have hw := hw (zF f_sizes_51) (by rw [ef_sizes_51]; exact z_st (f := f_sizes) (rfl : x1.toInt = _) hq_26.1 (rfl : v_50.toInt = _))
    refine lv_aload_n hx hb dX54_row_185 rfl (lv_at hl 1 rfl) ?_
    refine k_get X hH in_X54 0 rfl hc 2 (by decide) q6502 rfl dX54_row_186 ?_
    refine lv_iload_n hx hb dX54_row_189 rfl (lv_at hl 2 rfl) ?_
    refine k_iald X hH 2 1 rfl rfl (z_in (rfl : x1.toInt = _) hq_26) dX54_row_190 ?_
    have e_52 := z_ld (f := f_sizes_51) (rfl : x1.toInt = _) hq_26.1
    exact k_iret (v := f_sizes_51 x1.toNatClampNeg) X hH (f_thrown, f_cells_43, f_sizes_51) (by rw [show (f_sizes_51 x1.toNatClampNeg : Int32).toInt = _ from e_52]; exact hw) rfl rfl dX54_row_191
  · have hw := hw.1 (z_eq e_27 (rfl : (20 : Int32).toInt = 20) c_28)
    refine lv_bipush (v := (-2)) hx hb dX54_row_128 (by decide) ?_
    exact k_iret (v := (-2)) X hH (f_thrown, f_cells, f_sizes) hw rfl rfl dX54_row_130
set_option maxHeartbeats 4000000 in
theorem atX54_row_90 {p : Program} {l : Launch} {e : Env} {s : State} {m : MethodId} {args : Array Value} {below : List Frame} {meth : Method} {c : Code} {dC : Nat → ClassId} {dI : Nat → Nat → Nat} {cl : List vw_C} {ci : Nat} (hc : cl[ci]? = some (RX54, TX54, 23)) {ad : Nat → Nat} {d : Nat → ClassId} {A : Nat → Prop} {post : Int → Int → (Int → Int) → (Int → Int) → Prop} {f_keys : Nat → Int32} {f_maps : Nat → Int32} {f_mapCount : Int32} {f_atoms : Nat → Int32} {f_atomCount : Int32} {f_spans : Nat → Int32} {f_spanCount : Int32} {f_unions : Nat → Int32} {f_unionCount : Int32} {f_isLarge : Int32} {f_trial : Nat → Int32} {f_rowAt : Nat → Int32} {f_answers : Nat → Int32} {f_foundBy : Nat → Int32} {f_firstBy : Nat → Int32} {f_lastBy : Nat → Int32} {f_order : Nat → Int32} {f_answerCount : Int32} {f_asked : Nat → Int32} {f_tooMany : Int32} (X : kX p s m args meth c cX54_row 6 RX54 (some .int) (dC, dI) cl (tX54 d))     :
    ∀ (x1 : Int32) (x2 : Int32) (x3 : Int32) (x4 : Int32) (f_thrown : Int32) (f_cells : Nat → Int32) (f_sizes : Nat → Int32), wX54_row_90 post x1.toInt x2.toInt x3.toInt x4.toInt f_thrown.toInt (zF f_cells) (zF f_sizes) (zF f_keys) → ∀ (H : Heap) (locs : List Loc) (ls : Array Slot), kH (dC, dI) cl A s.heap H locs (wX54 ci ad d f_thrown f_cells f_sizes f_keys f_maps f_mapCount f_atoms f_atomCount f_spans f_spanCount f_unions f_unionCount f_isLarge f_trial f_rowAt f_answers f_foundBy f_firstBy f_lastBy f_order f_answerCount f_asked f_tooMany) → lv_has ls 6 [(0, .ref (ad 0)), (1, .int x1), (2, .int x2), (3, .int x3), (4, .int x4)] → W p l e ({ frames := 2, cells := 0, slots := 0, locals := 47 } : Room) s m args below meth c H locs 0 0 (MQ below (va_Qi (fun (r : Int32) (u : Int32 × (Nat → Int32) × (Nat → Int32)) => post r.toInt (u.1).toInt (zF (u.2.1)) (zF (u.2.2))) (kB (dC, dI) cl (tX54 d) A (fun u : Int32 × (Nat → Int32) × (Nat → Int32) => (wX54 ci ad d (u.1) (u.2.1) (u.2.2) f_keys f_maps f_mapCount f_atoms f_atomCount f_spans f_spanCount f_unions f_unionCount f_isLarge f_trial f_rowAt f_answers f_foundBy f_firstBy f_lastBy f_order f_answerCount f_asked f_tooMany))) A) args s 0 0 A) (F0 m 90 ls []) := by
  have hx := X.1.1
  have hb := X.1.2.1
  intro x1 x2 x3 x4 f_thrown f_cells f_sizes hw H locs ls hH hl
  unfold wX54_row_90 at hw
  refine lv_aload_n hx hb dX54_row_90 rfl (lv_at hl 0 rfl) ?_
  refine k_get X hH in_X54 0 rfl hc 3 (by decide) q6503 rfl dX54_row_91 ?_
  refine lv_iconst (v := 3) hx hb dX54_row_94 (by decide) ?_
  refine lv_iload_n hx hb dX54_row_95 rfl (lv_at hl 1 rfl) ?_
  refine lv_imul hx hb dX54_row_96 ?_
  have e_20 := z_mul (z_m (rfl : (3 : Int32).toInt = 3)) (z_m (rfl : x1.toInt = _))
  refine lv_iconst (v := 2) hx hb dX54_row_97 (by decide) ?_
  refine lv_iadd hx hb dX54_row_98 ?_
  have e_21 := z_add e_20 (z_m (rfl : (2 : Int32).toInt = 2))
  have hq_22 := hw.1
  have hw := hw.2
  have e_23 := z_xi e_21 hq_22 (by decide)
  refine k_zald X hH 3 2 rfl rfl (z_in e_23 hq_22) dX54_row_99 ?_
  have e_24 := z_ld (f := f_keys) e_23 hq_22.1
  refine lv_if_eq (tgt := 117) hx hb dX54_row_100 (by decide) (fun c_25 => ?_) (fun c_25 => ?_)
  · have hw := hw.1 (z_eq e_24 (rfl : (0 : Int32).toInt = 0) c_25)
    exact atX54_row_117 hc X x1 x2 x3 x4 f_thrown f_cells f_sizes hw _ _ ls hH (lv_sub hl [0, 1, 2, 3, 4] rfl)
  · have hw := hw.2 (z_neq e_24 (rfl : (0 : Int32).toInt = 0) c_25)
    refine lv_aload_n hx hb dX54_row_103 rfl (lv_at hl 0 rfl) ?_
    refine lv_iload_n hx hb dX54_row_104 rfl (lv_at hl 1 rfl) ?_
    refine lv_iconst (v := 2) hx hb dX54_row_105 (by decide) ?_
    refine lv_iload hx hb dX54_row_106 (lv_at hl 4 rfl) ?_
    refine k_i0 hH (k_runV (As := [.int x1, .int 2, .int x4]) (rest := []) X hH.1 hH.2.1 X.2.2.2 (walkX54_isThere hc (x1 := x1) (x2 := 2) (x3 := x4) (f_thrown := f_thrown) (f_cells := f_cells) (f_sizes := f_sizes) (f_keys := f_keys) (f_maps := f_maps) (f_mapCount := f_mapCount) (f_atoms := f_atoms) (f_atomCount := f_atomCount) (f_spans := f_spans) (f_spanCount := f_spanCount) (f_unions := f_unions) (f_unionCount := f_unionCount) (f_isLarge := f_isLarge) (f_trial := f_trial) (f_rowAt := f_rowAt) (f_answers := f_answers) (f_foundBy := f_foundBy) (f_firstBy := f_firstBy) (f_lastBy := f_lastBy) (f_order := f_order) (f_answerCount := f_answerCount) (f_asked := f_asked) (f_tooMany := f_tooMany) hw) (cwV 3 X.1.2.2.2.2 gX54_71 rfl rfl rfl hX54_isThere ⟨Nat.le_of_ble_eq_true rfl, Nat.le_of_ble_eq_true rfl⟩) hc (q0 := 0) rfl rfl hl.1 rfl (Nat.le_of_ble_eq_true rfl) dX54_row_108 ⟨Nat.le_refl 0, Nat.le_refl 0⟩) (fun r_53 _ H locs hw hH => ?_)
    have hH : kH (dC, dI) cl A s.heap H locs (wX54 ci ad d f_thrown f_cells f_sizes f_keys f_maps f_mapCount f_atoms f_atomCount f_spans f_spanCount f_unions f_unionCount f_isLarge f_trial f_rowAt f_answers f_foundBy f_firstBy f_lastBy f_order f_answerCount f_asked f_tooMany) := hH
    refine lv_if_eq (tgt := 117) hx hb dX54_row_111 (by decide) (fun c_54 => ?_) (fun c_54 => ?_)
    · have hw := hw.1 (z_eq (rfl : r_53.toInt = _) (rfl : (0 : Int32).toInt = 0) c_54)
      exact atX54_row_117 hc X x1 x2 x3 x4 f_thrown f_cells f_sizes hw _ _ ls hH (lv_sub hl [0, 1, 2, 3, 4] rfl)
    · have hw := hw.2 (z_neq (rfl : r_53.toInt = _) (rfl : (0 : Int32).toInt = 0) c_54)
      refine lv_bipush (v := (-4)) hx hb dX54_row_114 (by decide) ?_
      exact k_iret (v := (-4)) X hH (f_thrown, f_cells, f_sizes) hw rfl rfl dX54_row_116
set_option maxHeartbeats 4000000 in
theorem atX54_row_67 {p : Program} {l : Launch} {e : Env} {s : State} {m : MethodId} {args : Array Value} {below : List Frame} {meth : Method} {c : Code} {dC : Nat → ClassId} {dI : Nat → Nat → Nat} {cl : List vw_C} {ci : Nat} (hc : cl[ci]? = some (RX54, TX54, 23)) {ad : Nat → Nat} {d : Nat → ClassId} {A : Nat → Prop} {post : Int → Int → (Int → Int) → (Int → Int) → Prop} {f_keys : Nat → Int32} {f_maps : Nat → Int32} {f_mapCount : Int32} {f_atoms : Nat → Int32} {f_atomCount : Int32} {f_spans : Nat → Int32} {f_spanCount : Int32} {f_unions : Nat → Int32} {f_unionCount : Int32} {f_isLarge : Int32} {f_trial : Nat → Int32} {f_rowAt : Nat → Int32} {f_answers : Nat → Int32} {f_foundBy : Nat → Int32} {f_firstBy : Nat → Int32} {f_lastBy : Nat → Int32} {f_order : Nat → Int32} {f_answerCount : Int32} {f_asked : Nat → Int32} {f_tooMany : Int32} (X : kX p s m args meth c cX54_row 6 RX54 (some .int) (dC, dI) cl (tX54 d))     :
    ∀ (x1 : Int32) (x2 : Int32) (x3 : Int32) (x4 : Int32) (f_thrown : Int32) (f_cells : Nat → Int32) (f_sizes : Nat → Int32), wX54_row_67 post x1.toInt x2.toInt x3.toInt x4.toInt f_thrown.toInt (zF f_cells) (zF f_sizes) (zF f_keys) → ∀ (H : Heap) (locs : List Loc) (ls : Array Slot), kH (dC, dI) cl A s.heap H locs (wX54 ci ad d f_thrown f_cells f_sizes f_keys f_maps f_mapCount f_atoms f_atomCount f_spans f_spanCount f_unions f_unionCount f_isLarge f_trial f_rowAt f_answers f_foundBy f_firstBy f_lastBy f_order f_answerCount f_asked f_tooMany) → lv_has ls 6 [(0, .ref (ad 0)), (1, .int x1), (2, .int x2), (3, .int x3), (4, .int x4)] → W p l e ({ frames := 2, cells := 0, slots := 0, locals := 47 } : Room) s m args below meth c H locs 0 0 (MQ below (va_Qi (fun (r : Int32) (u : Int32 × (Nat → Int32) × (Nat → Int32)) => post r.toInt (u.1).toInt (zF (u.2.1)) (zF (u.2.2))) (kB (dC, dI) cl (tX54 d) A (fun u : Int32 × (Nat → Int32) × (Nat → Int32) => (wX54 ci ad d (u.1) (u.2.1) (u.2.2) f_keys f_maps f_mapCount f_atoms f_atomCount f_spans f_spanCount f_unions f_unionCount f_isLarge f_trial f_rowAt f_answers f_foundBy f_firstBy f_lastBy f_order f_answerCount f_asked f_tooMany))) A) args s 0 0 A) (F0 m 67 ls []) := by
  have hx := X.1.1
  have hb := X.1.2.1
  intro x1 x2 x3 x4 f_thrown f_cells f_sizes hw H locs ls hH hl
  unfold wX54_row_67 at hw
  refine lv_aload_n hx hb dX54_row_67 rfl (lv_at hl 0 rfl) ?_
  refine k_get X hH in_X54 0 rfl hc 3 (by decide) q6503 rfl dX54_row_68 ?_
  refine lv_iconst (v := 3) hx hb dX54_row_71 (by decide) ?_
  refine lv_iload_n hx hb dX54_row_72 rfl (lv_at hl 1 rfl) ?_
  refine lv_imul hx hb dX54_row_73 ?_
  have e_14 := z_mul (z_m (rfl : (3 : Int32).toInt = 3)) (z_m (rfl : x1.toInt = _))
  refine lv_iconst (v := 1) hx hb dX54_row_74 (by decide) ?_
  refine lv_iadd hx hb dX54_row_75 ?_
  have e_15 := z_add e_14 (z_m (rfl : (1 : Int32).toInt = 1))
  have hq_16 := hw.1
  have hw := hw.2
  have e_17 := z_xi e_15 hq_16 (by decide)
  refine k_zald X hH 3 2 rfl rfl (z_in e_17 hq_16) dX54_row_76 ?_
  have e_18 := z_ld (f := f_keys) e_17 hq_16.1
  refine lv_if_eq (tgt := 90) hx hb dX54_row_77 (by decide) (fun c_19 => ?_) (fun c_19 => ?_)
  · have hw := hw.1 (z_eq e_18 (rfl : (0 : Int32).toInt = 0) c_19)
    exact atX54_row_90 hc X x1 x2 x3 x4 f_thrown f_cells f_sizes hw _ _ ls hH (lv_sub hl [0, 1, 2, 3, 4] rfl)
  · have hw := hw.2 (z_neq e_18 (rfl : (0 : Int32).toInt = 0) c_19)
    refine lv_aload_n hx hb dX54_row_80 rfl (lv_at hl 0 rfl) ?_
    refine lv_iload_n hx hb dX54_row_81 rfl (lv_at hl 1 rfl) ?_
    refine lv_iconst (v := 1) hx hb dX54_row_82 (by decide) ?_
    refine lv_iload_n hx hb dX54_row_83 rfl (lv_at hl 3 rfl) ?_
    refine k_i0 hH (k_runV (As := [.int x1, .int 1, .int x3]) (rest := []) X hH.1 hH.2.1 X.2.2.2 (walkX54_isThere hc (x1 := x1) (x2 := 1) (x3 := x3) (f_thrown := f_thrown) (f_cells := f_cells) (f_sizes := f_sizes) (f_keys := f_keys) (f_maps := f_maps) (f_mapCount := f_mapCount) (f_atoms := f_atoms) (f_atomCount := f_atomCount) (f_spans := f_spans) (f_spanCount := f_spanCount) (f_unions := f_unions) (f_unionCount := f_unionCount) (f_isLarge := f_isLarge) (f_trial := f_trial) (f_rowAt := f_rowAt) (f_answers := f_answers) (f_foundBy := f_foundBy) (f_firstBy := f_firstBy) (f_lastBy := f_lastBy) (f_order := f_order) (f_answerCount := f_answerCount) (f_asked := f_asked) (f_tooMany := f_tooMany) hw) (cwV 3 X.1.2.2.2.2 gX54_71 rfl rfl rfl hX54_isThere ⟨Nat.le_of_ble_eq_true rfl, Nat.le_of_ble_eq_true rfl⟩) hc (q0 := 0) rfl rfl hl.1 rfl (Nat.le_of_ble_eq_true rfl) dX54_row_84 ⟨Nat.le_refl 0, Nat.le_refl 0⟩) (fun r_55 _ H locs hw hH => ?_)
    have hH : kH (dC, dI) cl A s.heap H locs (wX54 ci ad d f_thrown f_cells f_sizes f_keys f_maps f_mapCount f_atoms f_atomCount f_spans f_spanCount f_unions f_unionCount f_isLarge f_trial f_rowAt f_answers f_foundBy f_firstBy f_lastBy f_order f_answerCount f_asked f_tooMany) := hH
    refine lv_if_ne (tgt := 114) hx hb dX54_row_87 (by decide) (fun c_56 => ?_) (fun c_56 => ?_)
    · have hw := hw.2 (z_ne (rfl : r_55.toInt = _) (rfl : (0 : Int32).toInt = 0) c_56)
      refine lv_bipush (v := (-4)) hx hb dX54_row_114 (by decide) ?_
      exact k_iret (v := (-4)) X hH (f_thrown, f_cells, f_sizes) hw rfl rfl dX54_row_116
    · have hw := hw.1 (z_eq (rfl : r_55.toInt = _) (rfl : (0 : Int32).toInt = 0) c_56)
      exact atX54_row_90 hc X x1 x2 x3 x4 f_thrown f_cells f_sizes hw _ _ ls hH (lv_sub hl [0, 1, 2, 3, 4] rfl)
set_option maxHeartbeats 4000000 in
theorem walkX54_row {l : Launch} {dC : Nat → ClassId} {dI : Nat → Nat → Nat} {cl : List vw_C} {ci : Nat} (hc : cl[ci]? = some (RX54, TX54, 23)) {ad : Nat → Nat} {d : Nat → ClassId} {sz : Nat} {f_thrown : Int32} {f_cells : Nat → Int32} {f_sizes : Nat → Int32} {f_keys : Nat → Int32} {f_maps : Nat → Int32} {f_mapCount : Int32} {f_atoms : Nat → Int32} {f_atomCount : Int32} {f_spans : Nat → Int32} {f_spanCount : Int32} {f_unions : Nat → Int32} {f_unionCount : Int32} {f_isLarge : Int32} {f_trial : Nat → Int32} {f_rowAt : Nat → Int32} {f_answers : Nat → Int32} {f_foundBy : Nat → Int32} {f_firstBy : Nat → Int32} {f_lastBy : Nat → Int32} {f_order : Nat → Int32} {f_answerCount : Int32} {f_asked : Nat → Int32} {f_tooMany : Int32} {x1 : Int32} {x2 : Int32} {x3 : Int32} {x4 : Int32} {post : Int → Int → (Int → Int) → (Int → Int) → Prop} (hw : wpX54_row post (zF f_cells) (zF f_sizes) (zF f_keys) x1.toInt x2.toInt x3.toInt x4.toInt) :
    Met l yX54_row (ws_ yX54_row cX54_row 6 (some .int)) ({ frames := 2, cells := 0, slots := 0, locals := 47 } : Room) (kPc (dC, dI) cl (tX54 d) [.ref (ad 0), .int x1, .int x2, .int x3, .int x4] sz (wX54 ci ad d f_thrown f_cells f_sizes f_keys f_maps f_mapCount f_atoms f_atomCount f_spans f_spanCount f_unions f_unionCount f_isLarge f_trial f_rowAt f_answers f_foundBy f_firstBy f_lastBy f_order f_answerCount f_asked f_tooMany)) (va_Qi (fun (r : Int32) (u : Int32 × (Nat → Int32) × (Nat → Int32)) => post r.toInt (u.1).toInt (zF (u.2.1)) (zF (u.2.2))) (kB (dC, dI) cl (tX54 d) (va_A (wX54 ci ad d f_thrown f_cells f_sizes f_keys f_maps f_mapCount f_atoms f_atomCount f_spans f_spanCount f_unions f_unionCount f_isLarge f_trial f_rowAt f_answers f_foundBy f_firstBy f_lastBy f_order f_answerCount f_asked f_tooMany) sz) (fun u : Int32 × (Nat → Int32) × (Nat → Int32) => (wX54 ci ad d (u.1) (u.2.1) (u.2.2) f_keys f_maps f_mapCount f_atoms f_atomCount f_spans f_spanCount f_unions f_unionCount f_isLarge f_trial f_rowAt f_answers f_foundBy f_firstBy f_lastBy f_order f_answerCount f_asked f_tooMany))) (va_A (wX54 ci ad d f_thrown f_cells f_sizes f_keys f_maps f_mapCount f_atoms f_atomCount f_spans f_spanCount f_unions f_unionCount f_isLarge f_trial f_rowAt f_answers f_foundBy f_firstBy f_lastBy f_order f_answerCount f_asked f_tooMany) sz)) 0 0 (va_A (wX54 ci ad d f_thrown f_cells f_sizes f_keys f_maps f_mapCount f_atoms f_atomCount f_spans f_spanCount f_unions f_unionCount f_isLarge f_trial f_rowAt f_answers f_foundBy f_firstBy f_lastBy f_order f_answerCount f_asked f_tooMany) sz) := by
  refine k_enter (by decide) (Nat.le_of_ble_eq_true rfl) ?_
  intro p e s m below meth c ls X hsz hH hl
  subst hsz
  generalize va_A (wX54 ci ad d f_thrown f_cells f_sizes f_keys f_maps f_mapCount f_atoms f_atomCount f_spans f_spanCount f_unions f_unionCount f_isLarge f_trial f_rowAt f_answers f_foundBy f_firstBy f_lastBy f_order f_answerCount f_asked f_tooMany) s.heap.size = A at hH ⊢
  have hx := X.1.1
  have hb := X.1.2.1
  have hl : lv_has ls 6 [(0, .ref (ad 0)), (1, .int x1), (2, .int x2), (3, .int x3), (4, .int x4)] := hl
  unfold wpX54_row at hw
  refine lv_aload_n hx hb dX54_row_0 rfl (lv_at hl 0 rfl) ?_
  refine lv_iconst (v := 0) hx hb dX54_row_1 (by decide) ?_
  refine k_put X hH in_X54 tyX54_ok nmX54 0 rfl hc 0 (by decide) q6500 rfl (ty := .int) rfl rfl rfl (Nat.le_of_ble_eq_true rfl) dX54_row_2 (ws1 := (wX54 ci ad d 0 f_cells f_sizes f_keys f_maps f_mapCount f_atoms f_atomCount f_spans f_spanCount f_unions f_unionCount f_isLarge f_trial f_rowAt f_answers f_foundBy f_firstBy f_lastBy f_order f_answerCount f_asked f_tooMany)) rfl (fun H locs hH => ?_)
  refine lv_iload_n hx hb dX54_row_5 rfl (lv_at hl 1 rfl) ?_
  refine lv_iconst (v := 4) hx hb dX54_row_6 (by decide) ?_
  refine k_i0 hH (k_runS (As := [.int x1, .int 4]) (rest := []) X hH.1 hH.2.1 X.2.2.2 (walkX54_isIn hc (x0 := x1) (x1 := 4) (f_thrown := 0) (f_cells := f_cells) (f_sizes := f_sizes) (f_keys := f_keys) (f_maps := f_maps) (f_mapCount := f_mapCount) (f_atoms := f_atoms) (f_atomCount := f_atomCount) (f_spans := f_spans) (f_spanCount := f_spanCount) (f_unions := f_unions) (f_unionCount := f_unionCount) (f_isLarge := f_isLarge) (f_trial := f_trial) (f_rowAt := f_rowAt) (f_answers := f_answers) (f_foundBy := f_foundBy) (f_firstBy := f_firstBy) (f_lastBy := f_lastBy) (f_order := f_order) (f_answerCount := f_answerCount) (f_asked := f_asked) (f_tooMany := f_tooMany) hw) (va_cwS 2 X.1.2.2.2.2 gX54_64 rfl rfl rfl hX54_isIn ⟨Nat.le_of_ble_eq_true rfl, Nat.le_of_ble_eq_true rfl⟩) rfl hl.1 rfl (Nat.le_of_ble_eq_true rfl) dX54_row_7 ⟨Nat.le_refl 0, Nat.le_refl 0⟩) (fun r_1 _ H locs hw hH => ?_)
  have hH : kH (dC, dI) cl A s.heap H locs (wX54 ci ad d 0 f_cells f_sizes f_keys f_maps f_mapCount f_atoms f_atomCount f_spans f_spanCount f_unions f_unionCount f_isLarge f_trial f_rowAt f_answers f_foundBy f_firstBy f_lastBy f_order f_answerCount f_asked f_tooMany) := hH
  refine lv_if_eq (tgt := 44) hx hb dX54_row_10 (by decide) (fun c_2 => ?_) (fun c_2 => ?_)
  · have hw := hw.1 (z_eq (rfl : r_1.toInt = _) (rfl : (0 : Int32).toInt = 0) c_2)
    refine lv_iconst (v := (-1)) hx hb dX54_row_44 (by decide) ?_
    exact k_iret (v := (-1)) X hH (0, f_cells, f_sizes) hw rfl rfl dX54_row_45
  · have hw := hw.2 (z_neq (rfl : r_1.toInt = _) (rfl : (0 : Int32).toInt = 0) c_2)
    refine lv_iload_n hx hb dX54_row_13 rfl (lv_at hl 2 rfl) ?_
    refine lv_sipush (v := 10000) hx hb dX54_row_14 (by decide) ?_
    refine k_i0 hH (k_runS (As := [.int x2, .int 10000]) (rest := []) X hH.1 hH.2.1 X.2.2.2 (walkX54_isIn hc (x0 := x2) (x1 := 10000) (f_thrown := 0) (f_cells := f_cells) (f_sizes := f_sizes) (f_keys := f_keys) (f_maps := f_maps) (f_mapCount := f_mapCount) (f_atoms := f_atoms) (f_atomCount := f_atomCount) (f_spans := f_spans) (f_spanCount := f_spanCount) (f_unions := f_unions) (f_unionCount := f_unionCount) (f_isLarge := f_isLarge) (f_trial := f_trial) (f_rowAt := f_rowAt) (f_answers := f_answers) (f_foundBy := f_foundBy) (f_firstBy := f_firstBy) (f_lastBy := f_lastBy) (f_order := f_order) (f_answerCount := f_answerCount) (f_asked := f_asked) (f_tooMany := f_tooMany) hw) (va_cwS 2 X.1.2.2.2.2 gX54_64 rfl rfl rfl hX54_isIn ⟨Nat.le_of_ble_eq_true rfl, Nat.le_of_ble_eq_true rfl⟩) rfl hl.1 rfl (Nat.le_of_ble_eq_true rfl) dX54_row_17 ⟨Nat.le_refl 0, Nat.le_refl 0⟩) (fun r_3 _ H locs hw hH => ?_)
    have hH : kH (dC, dI) cl A s.heap H locs (wX54 ci ad d 0 f_cells f_sizes f_keys f_maps f_mapCount f_atoms f_atomCount f_spans f_spanCount f_unions f_unionCount f_isLarge f_trial f_rowAt f_answers f_foundBy f_firstBy f_lastBy f_order f_answerCount f_asked f_tooMany) := hH
    refine lv_if_eq (tgt := 44) hx hb dX54_row_20 (by decide) (fun c_4 => ?_) (fun c_4 => ?_)
    · have hw := hw.1 (z_eq (rfl : r_3.toInt = _) (rfl : (0 : Int32).toInt = 0) c_4)
      refine lv_iconst (v := (-1)) hx hb dX54_row_44 (by decide) ?_
      exact k_iret (v := (-1)) X hH (0, f_cells, f_sizes) hw rfl rfl dX54_row_45
    · have hw := hw.2 (z_neq (rfl : r_3.toInt = _) (rfl : (0 : Int32).toInt = 0) c_4)
      refine lv_iload_n hx hb dX54_row_23 rfl (lv_at hl 3 rfl) ?_
      refine lv_sipush (v := 10000) hx hb dX54_row_24 (by decide) ?_
      refine k_i0 hH (k_runS (As := [.int x3, .int 10000]) (rest := []) X hH.1 hH.2.1 X.2.2.2 (walkX54_isIn hc (x0 := x3) (x1 := 10000) (f_thrown := 0) (f_cells := f_cells) (f_sizes := f_sizes) (f_keys := f_keys) (f_maps := f_maps) (f_mapCount := f_mapCount) (f_atoms := f_atoms) (f_atomCount := f_atomCount) (f_spans := f_spans) (f_spanCount := f_spanCount) (f_unions := f_unions) (f_unionCount := f_unionCount) (f_isLarge := f_isLarge) (f_trial := f_trial) (f_rowAt := f_rowAt) (f_answers := f_answers) (f_foundBy := f_foundBy) (f_firstBy := f_firstBy) (f_lastBy := f_lastBy) (f_order := f_order) (f_answerCount := f_answerCount) (f_asked := f_asked) (f_tooMany := f_tooMany) hw) (va_cwS 2 X.1.2.2.2.2 gX54_64 rfl rfl rfl hX54_isIn ⟨Nat.le_of_ble_eq_true rfl, Nat.le_of_ble_eq_true rfl⟩) rfl hl.1 rfl (Nat.le_of_ble_eq_true rfl) dX54_row_27 ⟨Nat.le_refl 0, Nat.le_refl 0⟩) (fun r_5 _ H locs hw hH => ?_)
      have hH : kH (dC, dI) cl A s.heap H locs (wX54 ci ad d 0 f_cells f_sizes f_keys f_maps f_mapCount f_atoms f_atomCount f_spans f_spanCount f_unions f_unionCount f_isLarge f_trial f_rowAt f_answers f_foundBy f_firstBy f_lastBy f_order f_answerCount f_asked f_tooMany) := hH
      refine lv_if_eq (tgt := 44) hx hb dX54_row_30 (by decide) (fun c_6 => ?_) (fun c_6 => ?_)
      · have hw := hw.1 (z_eq (rfl : r_5.toInt = _) (rfl : (0 : Int32).toInt = 0) c_6)
        refine lv_iconst (v := (-1)) hx hb dX54_row_44 (by decide) ?_
        exact k_iret (v := (-1)) X hH (0, f_cells, f_sizes) hw rfl rfl dX54_row_45
      · have hw := hw.2 (z_neq (rfl : r_5.toInt = _) (rfl : (0 : Int32).toInt = 0) c_6)
        refine lv_iload hx hb dX54_row_33 (lv_at hl 4 rfl) ?_
        refine lv_sipush (v := 10000) hx hb dX54_row_35 (by decide) ?_
        refine k_i0 hH (k_runS (As := [.int x4, .int 10000]) (rest := []) X hH.1 hH.2.1 X.2.2.2 (walkX54_isIn hc (x0 := x4) (x1 := 10000) (f_thrown := 0) (f_cells := f_cells) (f_sizes := f_sizes) (f_keys := f_keys) (f_maps := f_maps) (f_mapCount := f_mapCount) (f_atoms := f_atoms) (f_atomCount := f_atomCount) (f_spans := f_spans) (f_spanCount := f_spanCount) (f_unions := f_unions) (f_unionCount := f_unionCount) (f_isLarge := f_isLarge) (f_trial := f_trial) (f_rowAt := f_rowAt) (f_answers := f_answers) (f_foundBy := f_foundBy) (f_firstBy := f_firstBy) (f_lastBy := f_lastBy) (f_order := f_order) (f_answerCount := f_answerCount) (f_asked := f_asked) (f_tooMany := f_tooMany) hw) (va_cwS 2 X.1.2.2.2.2 gX54_64 rfl rfl rfl hX54_isIn ⟨Nat.le_of_ble_eq_true rfl, Nat.le_of_ble_eq_true rfl⟩) rfl hl.1 rfl (Nat.le_of_ble_eq_true rfl) dX54_row_38 ⟨Nat.le_refl 0, Nat.le_refl 0⟩) (fun r_7 _ H locs hw hH => ?_)
        have hH : kH (dC, dI) cl A s.heap H locs (wX54 ci ad d 0 f_cells f_sizes f_keys f_maps f_mapCount f_atoms f_atomCount f_spans f_spanCount f_unions f_unionCount f_isLarge f_trial f_rowAt f_answers f_foundBy f_firstBy f_lastBy f_order f_answerCount f_asked f_tooMany) := hH
        refine lv_if_ne (tgt := 46) hx hb dX54_row_41 (by decide) (fun c_8 => ?_) (fun c_8 => ?_)
        · have hw := hw.2 (z_ne (rfl : r_7.toInt = _) (rfl : (0 : Int32).toInt = 0) c_8)
          refine lv_aload_n hx hb dX54_row_46 rfl (lv_at hl 0 rfl) ?_
          refine k_get X hH in_X54 0 rfl hc 3 (by decide) q6503 rfl dX54_row_47 ?_
          refine lv_iconst (v := 3) hx hb dX54_row_50 (by decide) ?_
          refine lv_iload_n hx hb dX54_row_51 rfl (lv_at hl 1 rfl) ?_
          refine lv_imul hx hb dX54_row_52 ?_
          have e_9 := z_mul (z_m (rfl : (3 : Int32).toInt = 3)) (z_m (rfl : x1.toInt = _))
          have hq_10 := hw.1
          have hw := hw.2
          have e_11 := z_xi e_9 hq_10 (by decide)
          refine k_zald X hH 3 2 rfl rfl (z_in e_11 hq_10) dX54_row_53 ?_
          have e_12 := z_ld (f := f_keys) e_11 hq_10.1
          refine lv_if_eq (tgt := 67) hx hb dX54_row_54 (by decide) (fun c_13 => ?_) (fun c_13 => ?_)
          · have hw := hw.1 (z_eq e_12 (rfl : (0 : Int32).toInt = 0) c_13)
            exact atX54_row_67 hc X x1 x2 x3 x4 0 f_cells f_sizes hw _ _ ls hH (lv_sub hl [0, 1, 2, 3, 4] rfl)
          · have hw := hw.2 (z_neq e_12 (rfl : (0 : Int32).toInt = 0) c_13)
            refine lv_aload_n hx hb dX54_row_57 rfl (lv_at hl 0 rfl) ?_
            refine lv_iload_n hx hb dX54_row_58 rfl (lv_at hl 1 rfl) ?_
            refine lv_iconst (v := 0) hx hb dX54_row_59 (by decide) ?_
            refine lv_iload_n hx hb dX54_row_60 rfl (lv_at hl 2 rfl) ?_
            refine k_i0 hH (k_runV (As := [.int x1, .int 0, .int x2]) (rest := []) X hH.1 hH.2.1 X.2.2.2 (walkX54_isThere hc (x1 := x1) (x2 := 0) (x3 := x2) (f_thrown := 0) (f_cells := f_cells) (f_sizes := f_sizes) (f_keys := f_keys) (f_maps := f_maps) (f_mapCount := f_mapCount) (f_atoms := f_atoms) (f_atomCount := f_atomCount) (f_spans := f_spans) (f_spanCount := f_spanCount) (f_unions := f_unions) (f_unionCount := f_unionCount) (f_isLarge := f_isLarge) (f_trial := f_trial) (f_rowAt := f_rowAt) (f_answers := f_answers) (f_foundBy := f_foundBy) (f_firstBy := f_firstBy) (f_lastBy := f_lastBy) (f_order := f_order) (f_answerCount := f_answerCount) (f_asked := f_asked) (f_tooMany := f_tooMany) hw) (cwV 3 X.1.2.2.2.2 gX54_71 rfl rfl rfl hX54_isThere ⟨Nat.le_of_ble_eq_true rfl, Nat.le_of_ble_eq_true rfl⟩) hc (q0 := 0) rfl rfl hl.1 rfl (Nat.le_of_ble_eq_true rfl) dX54_row_61 ⟨Nat.le_refl 0, Nat.le_refl 0⟩) (fun r_57 _ H locs hw hH => ?_)
            have hH : kH (dC, dI) cl A s.heap H locs (wX54 ci ad d 0 f_cells f_sizes f_keys f_maps f_mapCount f_atoms f_atomCount f_spans f_spanCount f_unions f_unionCount f_isLarge f_trial f_rowAt f_answers f_foundBy f_firstBy f_lastBy f_order f_answerCount f_asked f_tooMany) := hH
            refine lv_if_ne (tgt := 114) hx hb dX54_row_64 (by decide) (fun c_58 => ?_) (fun c_58 => ?_)
            · have hw := hw.2 (z_ne (rfl : r_57.toInt = _) (rfl : (0 : Int32).toInt = 0) c_58)
              refine lv_bipush (v := (-4)) hx hb dX54_row_114 (by decide) ?_
              exact k_iret (v := (-4)) X hH (0, f_cells, f_sizes) hw rfl rfl dX54_row_116
            · have hw := hw.1 (z_eq (rfl : r_57.toInt = _) (rfl : (0 : Int32).toInt = 0) c_58)
              exact atX54_row_67 hc X x1 x2 x3 x4 0 f_cells f_sizes hw _ _ ls hH (lv_sub hl [0, 1, 2, 3, 4] rfl)
        · have hw := hw.1 (z_eq (rfl : r_7.toInt = _) (rfl : (0 : Int32).toInt = 0) c_8)
          refine lv_iconst (v := (-1)) hx hb dX54_row_44 (by decide) ?_
          exact k_iret (v := (-1)) X hH (0, f_cells, f_sizes) hw rfl rfl dX54_row_45
set_option maxHeartbeats 4000000 in
theorem atX54_drop_42 {p : Program} {l : Launch} {e : Env} {s : State} {m : MethodId} {args : Array Value} {below : List Frame} {meth : Method} {c : Code} {dC : Nat → ClassId} {dI : Nat → Nat → Nat} {cl : List vw_C} {ci : Nat} (hc : cl[ci]? = some (RX54, TX54, 23)) {ad : Nat → Nat} {d : Nat → ClassId} {A : Nat → Prop} {post : Int → Int → (Int → Int) → (Int → Int) → Prop} {f_keys : Nat → Int32} {f_maps : Nat → Int32} {f_mapCount : Int32} {f_atoms : Nat → Int32} {f_atomCount : Int32} {f_spans : Nat → Int32} {f_spanCount : Int32} {f_unions : Nat → Int32} {f_unionCount : Int32} {f_isLarge : Int32} {f_trial : Nat → Int32} {f_rowAt : Nat → Int32} {f_answers : Nat → Int32} {f_foundBy : Nat → Int32} {f_firstBy : Nat → Int32} {f_lastBy : Nat → Int32} {f_order : Nat → Int32} {f_answerCount : Int32} {f_asked : Nat → Int32} {f_tooMany : Int32} (X : kX p s m args meth c cX54_drop 4 RX54 (some .int) (dC, dI) cl (tX54 d)) {K84 : (Int → Int) → Prop} {x1 : Int32} {f_thrown : Int32} {f_sizes : Nat → Int32} (hk84 : ∀ (f_cells : Nat → Int32), K84 (zF f_cells) → ∀ (H : Heap) (locs : List Loc) (ls : Array Slot), kH (dC, dI) cl A s.heap H locs (wX54 ci ad d f_thrown f_cells f_sizes f_keys f_maps f_mapCount f_atoms f_atomCount f_spans f_spanCount f_unions f_unionCount f_isLarge f_trial f_rowAt f_answers f_foundBy f_firstBy f_lastBy f_order f_answerCount f_asked f_tooMany) → lv_has ls 4 [(0, .ref (ad 0)), (1, .int x1)] → W p l e ({ frames := 1, cells := 0, slots := 0, locals := 21 } : Room) s m args below meth c H locs 0 0 (MQ below (va_Qi (fun (r : Int32) (u : Int32 × (Nat → Int32) × (Nat → Int32)) => post r.toInt (u.1).toInt (zF (u.2.1)) (zF (u.2.2))) (kB (dC, dI) cl (tX54 d) A (fun u : Int32 × (Nat → Int32) × (Nat → Int32) => (wX54 ci ad d (u.1) (u.2.1) (u.2.2) f_keys f_maps f_mapCount f_atoms f_atomCount f_spans f_spanCount f_unions f_unionCount f_isLarge f_trial f_rowAt f_answers f_foundBy f_firstBy f_lastBy f_order f_answerCount f_asked f_tooMany))) A) args s 0 0 A) (F0 m 84 ls [])) :
    ∀ (nn : Nat) (x3 : Int32) (f_cells : Nat → Int32), wX54_drop_42 K84 x1.toInt (zF f_sizes) nn x3.toInt (zF f_cells) → ∀ (H : Heap) (locs : List Loc) (ls : Array Slot), kH (dC, dI) cl A s.heap H locs (wX54 ci ad d f_thrown f_cells f_sizes f_keys f_maps f_mapCount f_atoms f_atomCount f_spans f_spanCount f_unions f_unionCount f_isLarge f_trial f_rowAt f_answers f_foundBy f_firstBy f_lastBy f_order f_answerCount f_asked f_tooMany) → lv_has ls 4 [(0, .ref (ad 0)), (1, .int x1), (3, .int x3)] → W p l e ({ frames := 1, cells := 0, slots := 0, locals := 21 } : Room) s m args below meth c H locs 0 0 (MQ below (va_Qi (fun (r : Int32) (u : Int32 × (Nat → Int32) × (Nat → Int32)) => post r.toInt (u.1).toInt (zF (u.2.1)) (zF (u.2.2))) (kB (dC, dI) cl (tX54 d) A (fun u : Int32 × (Nat → Int32) × (Nat → Int32) => (wX54 ci ad d (u.1) (u.2.1) (u.2.2) f_keys f_maps f_mapCount f_atoms f_atomCount f_spans f_spanCount f_unions f_unionCount f_isLarge f_trial f_rowAt f_answers f_foundBy f_firstBy f_lastBy f_order f_answerCount f_asked f_tooMany))) A) args s 0 0 A) (F0 m 42 ls []) := by
  have hx := X.1.1
  have hb := X.1.2.1
  intro nn
  induction nn with
  | zero =>
    intro x3 f_cells hw
    exact False.elim hw
  | succ n ih =>
    intro x3 f_cells hw H locs ls hH hl
    rw [wX54_drop_42] at hw
    refine lv_iload_n hx hb dX54_drop_42 rfl (lv_at hl 2 rfl) ?_
    refine lv_iconst (v := 3) hx hb dX54_drop_43 (by decide) ?_
    refine lv_aload_n hx hb dX54_drop_44 rfl (lv_at hl 0 rfl) ?_
    refine k_get X hH in_X54 0 rfl hc 2 (by decide) q6502 rfl dX54_drop_45 ?_
    refine lv_iload_n hx hb dX54_drop_48 rfl (lv_at hl 1 rfl) ?_
    have hq_17 := hw.1
    have hw := hw.2
    refine k_iald X hH 2 1 rfl rfl (z_in (rfl : x1.toInt = _) hq_17) dX54_drop_49 ?_
    have e_18 := z_ld (f := f_sizes) (rfl : x1.toInt = _) hq_17.1
    refine lv_imul hx hb dX54_drop_50 ?_
    have e_19 := z_mul (z_m (rfl : (3 : Int32).toInt = 3)) (z_m e_18)
    have hq_21 := hw.1
    have hw := hw.2
    have e_22 := z_x e_19 hq_21
    refine lv_icmp_ge (tgt := 84) hx hb dX54_drop_51 (by decide) (fun c_20 => ?_) (fun c_20 => ?_)
    · have hw := hw.1 (z_le e_22 (rfl : x3.toInt = _) c_20)
      exact hk84 f_cells hw _ _ ls hH (lv_sub hl [0, 1] rfl)
    · have hw := hw.2 (z_nle e_22 (rfl : x3.toInt = _) c_20)
      refine lv_aload_n hx hb dX54_drop_54 rfl (lv_at hl 0 rfl) ?_
      refine k_get X hH in_X54 0 rfl hc 1 (by decide) q6501 rfl dX54_drop_55 ?_
      refine lv_bipush (v := 60) hx hb dX54_drop_58 (by decide) ?_
      refine lv_iload_n hx hb dX54_drop_60 rfl (lv_at hl 1 rfl) ?_
      refine lv_imul hx hb dX54_drop_61 ?_
      have e_23 := z_mul (z_m (rfl : (60 : Int32).toInt = 60)) (z_m (rfl : x1.toInt = _))
      refine lv_iload_n hx hb dX54_drop_62 rfl (lv_at hl 2 rfl) ?_
      refine lv_iadd hx hb dX54_drop_63 ?_
      have e_24 := z_add e_23 (z_m (rfl : x3.toInt = _))
      refine lv_aload_n hx hb dX54_drop_64 rfl (lv_at hl 0 rfl) ?_
      refine k_get X hH in_X54 0 rfl hc 1 (by decide) q6501 rfl dX54_drop_65 ?_
      refine lv_bipush (v := 60) hx hb dX54_drop_68 (by decide) ?_
      refine lv_iload_n hx hb dX54_drop_70 rfl (lv_at hl 1 rfl) ?_
      refine lv_imul hx hb dX54_drop_71 ?_
      have e_25 := z_mul (z_m (rfl : (60 : Int32).toInt = 60)) (z_m (rfl : x1.toInt = _))
      refine lv_iload_n hx hb dX54_drop_72 rfl (lv_at hl 2 rfl) ?_
      refine lv_iadd hx hb dX54_drop_73 ?_
      have e_26 := z_add e_25 (z_m (rfl : x3.toInt = _))
      refine lv_iconst (v := 3) hx hb dX54_drop_74 (by decide) ?_
      refine lv_iadd hx hb dX54_drop_75 ?_
      have e_27 := z_add e_26 (z_m (rfl : (3 : Int32).toInt = 3))
      have hq_28 := hw.1
      have hw := hw.2
      have e_29 := z_xi e_27 hq_28 (by decide)
      refine k_iald X hH 1 0 rfl rfl (z_in e_29 hq_28) dX54_drop_76 ?_
      have e_30 := z_ld (f := f_cells) e_29 hq_28.1
      refine lv_topi (fun v_31 ev_31 => ?_)
      have hw := hw v_31.toInt (by rw [ev_31]; exact e_30)
      have hq_33 := hw.1
      have hw := hw.2
      have e_34 := z_xi e_24 hq_33 (by decide)
      obtain ⟨f_cells_32, ef_cells_32⟩ : ∃ y : Nat → Int32, y = upd f_cells ((60 * x1) + x3).toNatClampNeg v_31 := ⟨_, rfl⟩
      refine k_iast X hH 1 0 rfl rfl (z_in e_34 hq_33) dX54_drop_77 ef_cells_32 (ws1 := (wX54 ci ad d f_thrown f_cells_32 f_sizes f_keys f_maps f_mapCount f_atoms f_atomCount f_spans f_spanCount f_unions f_unionCount f_isLarge f_trial f_rowAt f_answers f_foundBy f_firstBy f_lastBy f_order f_answerCount f_asked f_tooMany)) rfl (fun H locs hH => ?_)
      have hw := hw (zF f_cells_32) (by rw [ef_cells_32]; exact z_st (f := f_cells) e_34 hq_33.1 (rfl : v_31.toInt = _))
      have hq_36 := hw.1
      have hw := hw.2
      obtain ⟨x3_35, ex3_35⟩ : ∃ y : Int32, y = x3 + 1 := ⟨_, rfl⟩
      have hw := hw x3_35.toInt (by rw [ex3_35]; exact (z_x (z_add (z_m (rfl : x3.toInt = _)) (z_m (rfl : (1 : Int32).toInt = 1))) hq_36))
      refine lv_iinc (v := x3_35) (lv' := [(3, .int x3_35), (0, .ref (ad 0)), (1, .int x1)]) hx hb dX54_drop_78 hl (k := 2) rfl (by rw [ex3_35]; rfl) (by decide) rfl (fun ls hl => ?_)
      refine lv_goto (tgt := 42) hx hb dX54_drop_81 (by decide) ?_
      exact ih x3_35 f_cells_32 hw _ _ ls hH (lv_sub hl [1, 2, 0] rfl)
set_option maxHeartbeats 4000000 in
theorem walkX54_drop {l : Launch} {dC : Nat → ClassId} {dI : Nat → Nat → Nat} {cl : List vw_C} {ci : Nat} (hc : cl[ci]? = some (RX54, TX54, 23)) {ad : Nat → Nat} {d : Nat → ClassId} {sz : Nat} {f_thrown : Int32} {f_cells : Nat → Int32} {f_sizes : Nat → Int32} {f_keys : Nat → Int32} {f_maps : Nat → Int32} {f_mapCount : Int32} {f_atoms : Nat → Int32} {f_atomCount : Int32} {f_spans : Nat → Int32} {f_spanCount : Int32} {f_unions : Nat → Int32} {f_unionCount : Int32} {f_isLarge : Int32} {f_trial : Nat → Int32} {f_rowAt : Nat → Int32} {f_answers : Nat → Int32} {f_foundBy : Nat → Int32} {f_firstBy : Nat → Int32} {f_lastBy : Nat → Int32} {f_order : Nat → Int32} {f_answerCount : Int32} {f_asked : Nat → Int32} {f_tooMany : Int32} {x1 : Int32} {x2 : Int32} {post : Int → Int → (Int → Int) → (Int → Int) → Prop} (hw : wpX54_drop post (zF f_cells) (zF f_sizes) x1.toInt x2.toInt) :
    Met l yX54_drop (ws_ yX54_drop cX54_drop 4 (some .int)) ({ frames := 1, cells := 0, slots := 0, locals := 21 } : Room) (kPc (dC, dI) cl (tX54 d) [.ref (ad 0), .int x1, .int x2] sz (wX54 ci ad d f_thrown f_cells f_sizes f_keys f_maps f_mapCount f_atoms f_atomCount f_spans f_spanCount f_unions f_unionCount f_isLarge f_trial f_rowAt f_answers f_foundBy f_firstBy f_lastBy f_order f_answerCount f_asked f_tooMany)) (va_Qi (fun (r : Int32) (u : Int32 × (Nat → Int32) × (Nat → Int32)) => post r.toInt (u.1).toInt (zF (u.2.1)) (zF (u.2.2))) (kB (dC, dI) cl (tX54 d) (va_A (wX54 ci ad d f_thrown f_cells f_sizes f_keys f_maps f_mapCount f_atoms f_atomCount f_spans f_spanCount f_unions f_unionCount f_isLarge f_trial f_rowAt f_answers f_foundBy f_firstBy f_lastBy f_order f_answerCount f_asked f_tooMany) sz) (fun u : Int32 × (Nat → Int32) × (Nat → Int32) => (wX54 ci ad d (u.1) (u.2.1) (u.2.2) f_keys f_maps f_mapCount f_atoms f_atomCount f_spans f_spanCount f_unions f_unionCount f_isLarge f_trial f_rowAt f_answers f_foundBy f_firstBy f_lastBy f_order f_answerCount f_asked f_tooMany))) (va_A (wX54 ci ad d f_thrown f_cells f_sizes f_keys f_maps f_mapCount f_atoms f_atomCount f_spans f_spanCount f_unions f_unionCount f_isLarge f_trial f_rowAt f_answers f_foundBy f_firstBy f_lastBy f_order f_answerCount f_asked f_tooMany) sz)) 0 0 (va_A (wX54 ci ad d f_thrown f_cells f_sizes f_keys f_maps f_mapCount f_atoms f_atomCount f_spans f_spanCount f_unions f_unionCount f_isLarge f_trial f_rowAt f_answers f_foundBy f_firstBy f_lastBy f_order f_answerCount f_asked f_tooMany) sz) := by
  refine k_enter (by decide) (Nat.le_of_ble_eq_true rfl) ?_
  intro p e s m below meth c ls X hsz hH hl
  subst hsz
  generalize va_A (wX54 ci ad d f_thrown f_cells f_sizes f_keys f_maps f_mapCount f_atoms f_atomCount f_spans f_spanCount f_unions f_unionCount f_isLarge f_trial f_rowAt f_answers f_foundBy f_firstBy f_lastBy f_order f_answerCount f_asked f_tooMany) s.heap.size = A at hH ⊢
  have hx := X.1.1
  have hb := X.1.2.1
  have hl : lv_has ls 4 [(0, .ref (ad 0)), (1, .int x1), (2, .int x2)] := hl
  unfold wpX54_drop at hw
  refine lv_aload_n hx hb dX54_drop_0 rfl (lv_at hl 0 rfl) ?_
  refine lv_iconst (v := 0) hx hb dX54_drop_1 (by decide) ?_
  refine k_put X hH in_X54 tyX54_ok nmX54 0 rfl hc 0 (by decide) q6500 rfl (ty := .int) rfl rfl rfl (Nat.le_of_ble_eq_true rfl) dX54_drop_2 (ws1 := (wX54 ci ad d 0 f_cells f_sizes f_keys f_maps f_mapCount f_atoms f_atomCount f_spans f_spanCount f_unions f_unionCount f_isLarge f_trial f_rowAt f_answers f_foundBy f_firstBy f_lastBy f_order f_answerCount f_asked f_tooMany)) rfl (fun H locs hH => ?_)
  refine lv_iload_n hx hb dX54_drop_5 rfl (lv_at hl 1 rfl) ?_
  refine lv_iconst (v := 4) hx hb dX54_drop_6 (by decide) ?_
  refine k_i0 hH (k_runS (As := [.int x1, .int 4]) (rest := []) X hH.1 hH.2.1 X.2.2.2 (walkX54_isIn hc (x0 := x1) (x1 := 4) (f_thrown := 0) (f_cells := f_cells) (f_sizes := f_sizes) (f_keys := f_keys) (f_maps := f_maps) (f_mapCount := f_mapCount) (f_atoms := f_atoms) (f_atomCount := f_atomCount) (f_spans := f_spans) (f_spanCount := f_spanCount) (f_unions := f_unions) (f_unionCount := f_unionCount) (f_isLarge := f_isLarge) (f_trial := f_trial) (f_rowAt := f_rowAt) (f_answers := f_answers) (f_foundBy := f_foundBy) (f_firstBy := f_firstBy) (f_lastBy := f_lastBy) (f_order := f_order) (f_answerCount := f_answerCount) (f_asked := f_asked) (f_tooMany := f_tooMany) hw) (va_cwS 2 X.1.2.2.2.2 gX54_64 rfl rfl rfl hX54_isIn ⟨Nat.le_of_ble_eq_true rfl, Nat.le_of_ble_eq_true rfl⟩) rfl hl.1 rfl (Nat.le_of_ble_eq_true rfl) dX54_drop_7 ⟨Nat.le_refl 0, Nat.le_refl 0⟩) (fun r_1 _ H locs hw hH => ?_)
  have hH : kH (dC, dI) cl A s.heap H locs (wX54 ci ad d 0 f_cells f_sizes f_keys f_maps f_mapCount f_atoms f_atomCount f_spans f_spanCount f_unions f_unionCount f_isLarge f_trial f_rowAt f_answers f_foundBy f_firstBy f_lastBy f_order f_answerCount f_asked f_tooMany) := hH
  refine lv_if_eq (tgt := 26) hx hb dX54_drop_10 (by decide) (fun c_2 => ?_) (fun c_2 => ?_)
  · have hw := hw.1 (z_eq (rfl : r_1.toInt = _) (rfl : (0 : Int32).toInt = 0) c_2)
    refine lv_iconst (v := (-1)) hx hb dX54_drop_26 (by decide) ?_
    exact k_iret (v := (-1)) X hH (0, f_cells, f_sizes) hw rfl rfl dX54_drop_27
  · have hw := hw.2 (z_neq (rfl : r_1.toInt = _) (rfl : (0 : Int32).toInt = 0) c_2)
    refine lv_iload_n hx hb dX54_drop_13 rfl (lv_at hl 2 rfl) ?_
    refine lv_aload_n hx hb dX54_drop_14 rfl (lv_at hl 0 rfl) ?_
    refine k_get X hH in_X54 0 rfl hc 2 (by decide) q6502 rfl dX54_drop_15 ?_
    refine lv_iload_n hx hb dX54_drop_18 rfl (lv_at hl 1 rfl) ?_
    have hq_3 := hw.1
    have hw := hw.2
    refine k_iald X hH 2 1 rfl rfl (z_in (rfl : x1.toInt = _) hq_3) dX54_drop_19 ?_
    have e_4 := z_ld (f := f_sizes) (rfl : x1.toInt = _) hq_3.1
    refine k_i0 hH (k_runS (As := [.int x2, .int (f_sizes x1.toNatClampNeg)]) (rest := []) X hH.1 hH.2.1 X.2.2.2 (walkX54_isIn hc (x0 := x2) (x1 := (f_sizes x1.toNatClampNeg)) (f_thrown := 0) (f_cells := f_cells) (f_sizes := f_sizes) (f_keys := f_keys) (f_maps := f_maps) (f_mapCount := f_mapCount) (f_atoms := f_atoms) (f_atomCount := f_atomCount) (f_spans := f_spans) (f_spanCount := f_spanCount) (f_unions := f_unions) (f_unionCount := f_unionCount) (f_isLarge := f_isLarge) (f_trial := f_trial) (f_rowAt := f_rowAt) (f_answers := f_answers) (f_foundBy := f_foundBy) (f_firstBy := f_firstBy) (f_lastBy := f_lastBy) (f_order := f_order) (f_answerCount := f_answerCount) (f_asked := f_asked) (f_tooMany := f_tooMany) (by rw [show (f_sizes x1.toNatClampNeg : Int32).toInt = _ from e_4]; exact hw)) (va_cwS 2 X.1.2.2.2.2 gX54_64 rfl rfl rfl hX54_isIn ⟨Nat.le_of_ble_eq_true rfl, Nat.le_of_ble_eq_true rfl⟩) rfl hl.1 rfl (Nat.le_of_ble_eq_true rfl) dX54_drop_20 ⟨Nat.le_refl 0, Nat.le_refl 0⟩) (fun r_5 _ H locs hw hH => ?_)
    have hH : kH (dC, dI) cl A s.heap H locs (wX54 ci ad d 0 f_cells f_sizes f_keys f_maps f_mapCount f_atoms f_atomCount f_spans f_spanCount f_unions f_unionCount f_isLarge f_trial f_rowAt f_answers f_foundBy f_firstBy f_lastBy f_order f_answerCount f_asked f_tooMany) := hH
    refine lv_if_ne (tgt := 28) hx hb dX54_drop_23 (by decide) (fun c_6 => ?_) (fun c_6 => ?_)
    · have hw := hw.2 (z_ne (rfl : r_5.toInt = _) (rfl : (0 : Int32).toInt = 0) c_6)
      refine lv_aload_n hx hb dX54_drop_28 rfl (lv_at hl 0 rfl) ?_
      refine k_get X hH in_X54 0 rfl hc 2 (by decide) q6502 rfl dX54_drop_29 ?_
      refine lv_iload_n hx hb dX54_drop_32 rfl (lv_at hl 1 rfl) ?_
      refine lv_dup2_11 hx hb dX54_drop_33 rfl rfl ?_
      refine k_iald X hH 2 1 rfl rfl (z_in (rfl : x1.toInt = _) hq_3) dX54_drop_34 ?_
      have e_7 := z_ld (f := f_sizes) (rfl : x1.toInt = _) hq_3.1
      refine lv_iconst (v := 1) hx hb dX54_drop_35 (by decide) ?_
      refine lv_isub hx hb dX54_drop_36 ?_
      have e_8 := z_sub (z_m e_7) (z_m (rfl : (1 : Int32).toInt = 1))
      have hq_9 := hw.1
      have hw := hw.2
      have e_10 := z_x e_8 hq_9
      refine lv_topi (fun v_11 ev_11 => ?_)
      have hw := hw v_11.toInt (by rw [ev_11]; exact e_10)
      obtain ⟨f_sizes_12, ef_sizes_12⟩ : ∃ y : Nat → Int32, y = upd f_sizes x1.toNatClampNeg v_11 := ⟨_, rfl⟩
      refine k_iast X hH 2 1 rfl rfl (z_in (rfl : x1.toInt = _) hq_3) dX54_drop_37 ef_sizes_12 (ws1 := (wX54 ci ad d 0 f_cells f_sizes_12 f_keys f_maps f_mapCount f_atoms f_atomCount f_spans f_spanCount f_unions f_unionCount f_isLarge f_trial f_rowAt f_answers f_foundBy f_firstBy f_lastBy f_order f_answerCount f_asked f_tooMany)) rfl (fun H locs hH => ?_)
      have hw := hw (zF f_sizes_12) (by rw [ef_sizes_12]; exact z_st (f := f_sizes) (rfl : x1.toInt = _) hq_3.1 (rfl : v_11.toInt = _))
      refine lv_iconst (v := 3) hx hb dX54_drop_38 (by decide) ?_
      refine lv_iload_n hx hb dX54_drop_39 rfl (lv_at hl 2 rfl) ?_
      refine lv_imul hx hb dX54_drop_40 ?_
      have e_13 := z_mul (z_m (rfl : (3 : Int32).toInt = 3)) (z_m (rfl : x2.toInt = _))
      have hq_14 := hw.1
      have hw := hw.2
      have e_15 := z_x e_13 hq_14
      refine lv_topi (fun x3_16 ex3_16 => ?_)
      have hw := hw x3_16.toInt (by rw [ex3_16]; exact e_15)
      refine lv_istore_n (lv' := [(3, .int x3_16), (0, .ref (ad 0)), (1, .int x1), (2, .int x2)]) hx hb dX54_drop_41 rfl hl (by decide) rfl (fun ls hl => ?_)
      obtain ⟨fu, hw⟩ := hw
      refine atX54_drop_42 hc X ?_ fu x3_16 f_cells hw _ _ ls hH (lv_sub hl [1, 2, 0] rfl)
      · intro f_cells_37 hw H locs ls hH hl
        refine lv_aload_n hx hb dX54_drop_84 rfl (lv_at hl 0 rfl) ?_
        refine k_get X hH in_X54 0 rfl hc 2 (by decide) q6502 rfl dX54_drop_85 ?_
        refine lv_iload_n hx hb dX54_drop_88 rfl (lv_at hl 1 rfl) ?_
        refine k_iald X hH 2 1 rfl rfl (z_in (rfl : x1.toInt = _) hq_3) dX54_drop_89 ?_
        have e_38 := z_ld (f := f_sizes_12) (rfl : x1.toInt = _) hq_3.1
        exact k_iret (v := f_sizes_12 x1.toNatClampNeg) X hH (0, f_cells_37, f_sizes_12) (by rw [show (f_sizes_12 x1.toNatClampNeg : Int32).toInt = _ from e_38]; exact hw) rfl rfl dX54_drop_90
    · have hw := hw.1 (z_eq (rfl : r_5.toInt = _) (rfl : (0 : Int32).toInt = 0) c_6)
      refine lv_iconst (v := (-1)) hx hb dX54_drop_26 (by decide) ?_
      exact k_iret (v := (-1)) X hH (0, f_cells, f_sizes) hw rfl rfl dX54_drop_27
set_option maxHeartbeats 4000000 in
theorem walkX54_mapping {l : Launch} {dC : Nat → ClassId} {dI : Nat → Nat → Nat} {cl : List vw_C} {ci : Nat} (hc : cl[ci]? = some (RX54, TX54, 23)) {ad : Nat → Nat} {d : Nat → ClassId} {sz : Nat} {f_thrown : Int32} {f_cells : Nat → Int32} {f_sizes : Nat → Int32} {f_keys : Nat → Int32} {f_maps : Nat → Int32} {f_mapCount : Int32} {f_atoms : Nat → Int32} {f_atomCount : Int32} {f_spans : Nat → Int32} {f_spanCount : Int32} {f_unions : Nat → Int32} {f_unionCount : Int32} {f_isLarge : Int32} {f_trial : Nat → Int32} {f_rowAt : Nat → Int32} {f_answers : Nat → Int32} {f_foundBy : Nat → Int32} {f_firstBy : Nat → Int32} {f_lastBy : Nat → Int32} {f_order : Nat → Int32} {f_answerCount : Int32} {f_asked : Nat → Int32} {f_tooMany : Int32} {x1 : Int32} {x2 : Int32} {x3 : Int32} {x4 : Int32} {x5 : Int32} {x6 : Int32} {post : Int → Int → (Int → Int) → Int → Prop} (hw : wpX54_mapping post (zF f_maps) f_mapCount.toInt x1.toInt x2.toInt x3.toInt x4.toInt x5.toInt x6.toInt) :
    Met l yX54_mapping (ws_ yX54_mapping cX54_mapping 8 (some .int)) ({ frames := 1, cells := 0, slots := 0, locals := 21 } : Room) (kPc (dC, dI) cl (tX54 d) [.ref (ad 0), .int x1, .int x2, .int x3, .int x4, .int x5, .int x6] sz (wX54 ci ad d f_thrown f_cells f_sizes f_keys f_maps f_mapCount f_atoms f_atomCount f_spans f_spanCount f_unions f_unionCount f_isLarge f_trial f_rowAt f_answers f_foundBy f_firstBy f_lastBy f_order f_answerCount f_asked f_tooMany)) (va_Qi (fun (r : Int32) (u : Int32 × (Nat → Int32) × Int32) => post r.toInt (u.1).toInt (zF (u.2.1)) (u.2.2).toInt) (kB (dC, dI) cl (tX54 d) (va_A (wX54 ci ad d f_thrown f_cells f_sizes f_keys f_maps f_mapCount f_atoms f_atomCount f_spans f_spanCount f_unions f_unionCount f_isLarge f_trial f_rowAt f_answers f_foundBy f_firstBy f_lastBy f_order f_answerCount f_asked f_tooMany) sz) (fun u : Int32 × (Nat → Int32) × Int32 => (wX54 ci ad d (u.1) f_cells f_sizes f_keys (u.2.1) (u.2.2) f_atoms f_atomCount f_spans f_spanCount f_unions f_unionCount f_isLarge f_trial f_rowAt f_answers f_foundBy f_firstBy f_lastBy f_order f_answerCount f_asked f_tooMany))) (va_A (wX54 ci ad d f_thrown f_cells f_sizes f_keys f_maps f_mapCount f_atoms f_atomCount f_spans f_spanCount f_unions f_unionCount f_isLarge f_trial f_rowAt f_answers f_foundBy f_firstBy f_lastBy f_order f_answerCount f_asked f_tooMany) sz)) 0 0 (va_A (wX54 ci ad d f_thrown f_cells f_sizes f_keys f_maps f_mapCount f_atoms f_atomCount f_spans f_spanCount f_unions f_unionCount f_isLarge f_trial f_rowAt f_answers f_foundBy f_firstBy f_lastBy f_order f_answerCount f_asked f_tooMany) sz) := by
  refine k_enter (by decide) (Nat.le_of_ble_eq_true rfl) ?_
  intro p e s m below meth c ls X hsz hH hl
  subst hsz
  generalize va_A (wX54 ci ad d f_thrown f_cells f_sizes f_keys f_maps f_mapCount f_atoms f_atomCount f_spans f_spanCount f_unions f_unionCount f_isLarge f_trial f_rowAt f_answers f_foundBy f_firstBy f_lastBy f_order f_answerCount f_asked f_tooMany) s.heap.size = A at hH ⊢
  have hx := X.1.1
  have hb := X.1.2.1
  have hl : lv_has ls 8 [(0, .ref (ad 0)), (1, .int x1), (2, .int x2), (3, .int x3), (4, .int x4), (5, .int x5), (6, .int x6)] := hl
  unfold wpX54_mapping at hw
  refine lv_aload_n hx hb dX54_mapping_0 rfl (lv_at hl 0 rfl) ?_
  refine lv_iconst (v := 0) hx hb dX54_mapping_1 (by decide) ?_
  refine k_put X hH in_X54 tyX54_ok nmX54 0 rfl hc 0 (by decide) q6500 rfl (ty := .int) rfl rfl rfl (Nat.le_of_ble_eq_true rfl) dX54_mapping_2 (ws1 := (wX54 ci ad d 0 f_cells f_sizes f_keys f_maps f_mapCount f_atoms f_atomCount f_spans f_spanCount f_unions f_unionCount f_isLarge f_trial f_rowAt f_answers f_foundBy f_firstBy f_lastBy f_order f_answerCount f_asked f_tooMany)) rfl (fun H locs hH => ?_)
  refine lv_iload_n hx hb dX54_mapping_5 rfl (lv_at hl 1 rfl) ?_
  refine lv_iconst (v := 4) hx hb dX54_mapping_6 (by decide) ?_
  refine k_i0 hH (k_runS (As := [.int x1, .int 4]) (rest := []) X hH.1 hH.2.1 X.2.2.2 (walkX54_isIn hc (x0 := x1) (x1 := 4) (f_thrown := 0) (f_cells := f_cells) (f_sizes := f_sizes) (f_keys := f_keys) (f_maps := f_maps) (f_mapCount := f_mapCount) (f_atoms := f_atoms) (f_atomCount := f_atomCount) (f_spans := f_spans) (f_spanCount := f_spanCount) (f_unions := f_unions) (f_unionCount := f_unionCount) (f_isLarge := f_isLarge) (f_trial := f_trial) (f_rowAt := f_rowAt) (f_answers := f_answers) (f_foundBy := f_foundBy) (f_firstBy := f_firstBy) (f_lastBy := f_lastBy) (f_order := f_order) (f_answerCount := f_answerCount) (f_asked := f_asked) (f_tooMany := f_tooMany) hw) (va_cwS 2 X.1.2.2.2.2 gX54_64 rfl rfl rfl hX54_isIn ⟨Nat.le_of_ble_eq_true rfl, Nat.le_of_ble_eq_true rfl⟩) rfl hl.1 rfl (Nat.le_of_ble_eq_true rfl) dX54_mapping_7 ⟨Nat.le_refl 0, Nat.le_refl 0⟩) (fun r_1 _ H locs hw hH => ?_)
  have hH : kH (dC, dI) cl A s.heap H locs (wX54 ci ad d 0 f_cells f_sizes f_keys f_maps f_mapCount f_atoms f_atomCount f_spans f_spanCount f_unions f_unionCount f_isLarge f_trial f_rowAt f_answers f_foundBy f_firstBy f_lastBy f_order f_answerCount f_asked f_tooMany) := hH
  refine lv_if_eq (tgt := 59) hx hb dX54_mapping_10 (by decide) (fun c_2 => ?_) (fun c_2 => ?_)
  · have hw := hw.1 (z_eq (rfl : r_1.toInt = _) (rfl : (0 : Int32).toInt = 0) c_2)
    refine lv_iconst (v := (-1)) hx hb dX54_mapping_59 (by decide) ?_
    exact k_iret (v := (-1)) X hH (0, f_maps, f_mapCount) hw rfl rfl dX54_mapping_60
  · have hw := hw.2 (z_neq (rfl : r_1.toInt = _) (rfl : (0 : Int32).toInt = 0) c_2)
    refine lv_iload_n hx hb dX54_mapping_13 rfl (lv_at hl 2 rfl) ?_
    refine lv_bipush (v := 8) hx hb dX54_mapping_14 (by decide) ?_
    refine k_i0 hH (k_runS (As := [.int x2, .int 8]) (rest := []) X hH.1 hH.2.1 X.2.2.2 (walkX54_isIn hc (x0 := x2) (x1 := 8) (f_thrown := 0) (f_cells := f_cells) (f_sizes := f_sizes) (f_keys := f_keys) (f_maps := f_maps) (f_mapCount := f_mapCount) (f_atoms := f_atoms) (f_atomCount := f_atomCount) (f_spans := f_spans) (f_spanCount := f_spanCount) (f_unions := f_unions) (f_unionCount := f_unionCount) (f_isLarge := f_isLarge) (f_trial := f_trial) (f_rowAt := f_rowAt) (f_answers := f_answers) (f_foundBy := f_foundBy) (f_firstBy := f_firstBy) (f_lastBy := f_lastBy) (f_order := f_order) (f_answerCount := f_answerCount) (f_asked := f_asked) (f_tooMany := f_tooMany) hw) (va_cwS 2 X.1.2.2.2.2 gX54_64 rfl rfl rfl hX54_isIn ⟨Nat.le_of_ble_eq_true rfl, Nat.le_of_ble_eq_true rfl⟩) rfl hl.1 rfl (Nat.le_of_ble_eq_true rfl) dX54_mapping_16 ⟨Nat.le_refl 0, Nat.le_refl 0⟩) (fun r_3 _ H locs hw hH => ?_)
    have hH : kH (dC, dI) cl A s.heap H locs (wX54 ci ad d 0 f_cells f_sizes f_keys f_maps f_mapCount f_atoms f_atomCount f_spans f_spanCount f_unions f_unionCount f_isLarge f_trial f_rowAt f_answers f_foundBy f_firstBy f_lastBy f_order f_answerCount f_asked f_tooMany) := hH
    refine lv_if_eq (tgt := 59) hx hb dX54_mapping_19 (by decide) (fun c_4 => ?_) (fun c_4 => ?_)
    · have hw := hw.1 (z_eq (rfl : r_3.toInt = _) (rfl : (0 : Int32).toInt = 0) c_4)
      refine lv_iconst (v := (-1)) hx hb dX54_mapping_59 (by decide) ?_
      exact k_iret (v := (-1)) X hH (0, f_maps, f_mapCount) hw rfl rfl dX54_mapping_60
    · have hw := hw.2 (z_neq (rfl : r_3.toInt = _) (rfl : (0 : Int32).toInt = 0) c_4)
      refine lv_iload_n hx hb dX54_mapping_22 rfl (lv_at hl 3 rfl) ?_
      refine lv_bipush (v := 6) hx hb dX54_mapping_23 (by decide) ?_
      refine k_i0 hH (k_runS (As := [.int x3, .int 6]) (rest := []) X hH.1 hH.2.1 X.2.2.2 (walkX54_isIn hc (x0 := x3) (x1 := 6) (f_thrown := 0) (f_cells := f_cells) (f_sizes := f_sizes) (f_keys := f_keys) (f_maps := f_maps) (f_mapCount := f_mapCount) (f_atoms := f_atoms) (f_atomCount := f_atomCount) (f_spans := f_spans) (f_spanCount := f_spanCount) (f_unions := f_unions) (f_unionCount := f_unionCount) (f_isLarge := f_isLarge) (f_trial := f_trial) (f_rowAt := f_rowAt) (f_answers := f_answers) (f_foundBy := f_foundBy) (f_firstBy := f_firstBy) (f_lastBy := f_lastBy) (f_order := f_order) (f_answerCount := f_answerCount) (f_asked := f_asked) (f_tooMany := f_tooMany) hw) (va_cwS 2 X.1.2.2.2.2 gX54_64 rfl rfl rfl hX54_isIn ⟨Nat.le_of_ble_eq_true rfl, Nat.le_of_ble_eq_true rfl⟩) rfl hl.1 rfl (Nat.le_of_ble_eq_true rfl) dX54_mapping_25 ⟨Nat.le_refl 0, Nat.le_refl 0⟩) (fun r_5 _ H locs hw hH => ?_)
      have hH : kH (dC, dI) cl A s.heap H locs (wX54 ci ad d 0 f_cells f_sizes f_keys f_maps f_mapCount f_atoms f_atomCount f_spans f_spanCount f_unions f_unionCount f_isLarge f_trial f_rowAt f_answers f_foundBy f_firstBy f_lastBy f_order f_answerCount f_asked f_tooMany) := hH
      refine lv_if_eq (tgt := 59) hx hb dX54_mapping_28 (by decide) (fun c_6 => ?_) (fun c_6 => ?_)
      · have hw := hw.1 (z_eq (rfl : r_5.toInt = _) (rfl : (0 : Int32).toInt = 0) c_6)
        refine lv_iconst (v := (-1)) hx hb dX54_mapping_59 (by decide) ?_
        exact k_iret (v := (-1)) X hH (0, f_maps, f_mapCount) hw rfl rfl dX54_mapping_60
      · have hw := hw.2 (z_neq (rfl : r_5.toInt = _) (rfl : (0 : Int32).toInt = 0) c_6)
        refine lv_iload hx hb dX54_mapping_31 (lv_at hl 4 rfl) ?_
        refine lv_iconst (v := 3) hx hb dX54_mapping_33 (by decide) ?_
        refine k_i0 hH (k_runS (As := [.int x4, .int 3]) (rest := []) X hH.1 hH.2.1 X.2.2.2 (walkX54_isIn hc (x0 := x4) (x1 := 3) (f_thrown := 0) (f_cells := f_cells) (f_sizes := f_sizes) (f_keys := f_keys) (f_maps := f_maps) (f_mapCount := f_mapCount) (f_atoms := f_atoms) (f_atomCount := f_atomCount) (f_spans := f_spans) (f_spanCount := f_spanCount) (f_unions := f_unions) (f_unionCount := f_unionCount) (f_isLarge := f_isLarge) (f_trial := f_trial) (f_rowAt := f_rowAt) (f_answers := f_answers) (f_foundBy := f_foundBy) (f_firstBy := f_firstBy) (f_lastBy := f_lastBy) (f_order := f_order) (f_answerCount := f_answerCount) (f_asked := f_asked) (f_tooMany := f_tooMany) hw) (va_cwS 2 X.1.2.2.2.2 gX54_64 rfl rfl rfl hX54_isIn ⟨Nat.le_of_ble_eq_true rfl, Nat.le_of_ble_eq_true rfl⟩) rfl hl.1 rfl (Nat.le_of_ble_eq_true rfl) dX54_mapping_34 ⟨Nat.le_refl 0, Nat.le_refl 0⟩) (fun r_7 _ H locs hw hH => ?_)
        have hH : kH (dC, dI) cl A s.heap H locs (wX54 ci ad d 0 f_cells f_sizes f_keys f_maps f_mapCount f_atoms f_atomCount f_spans f_spanCount f_unions f_unionCount f_isLarge f_trial f_rowAt f_answers f_foundBy f_firstBy f_lastBy f_order f_answerCount f_asked f_tooMany) := hH
        refine lv_if_eq (tgt := 59) hx hb dX54_mapping_37 (by decide) (fun c_8 => ?_) (fun c_8 => ?_)
        · have hw := hw.1 (z_eq (rfl : r_7.toInt = _) (rfl : (0 : Int32).toInt = 0) c_8)
          refine lv_iconst (v := (-1)) hx hb dX54_mapping_59 (by decide) ?_
          exact k_iret (v := (-1)) X hH (0, f_maps, f_mapCount) hw rfl rfl dX54_mapping_60
        · have hw := hw.2 (z_neq (rfl : r_7.toInt = _) (rfl : (0 : Int32).toInt = 0) c_8)
          refine lv_iload hx hb dX54_mapping_40 (lv_at hl 5 rfl) ?_
          refine lv_bipush (v := 6) hx hb dX54_mapping_42 (by decide) ?_
          refine k_i0 hH (k_runS (As := [.int x5, .int 6]) (rest := []) X hH.1 hH.2.1 X.2.2.2 (walkX54_isIn hc (x0 := x5) (x1 := 6) (f_thrown := 0) (f_cells := f_cells) (f_sizes := f_sizes) (f_keys := f_keys) (f_maps := f_maps) (f_mapCount := f_mapCount) (f_atoms := f_atoms) (f_atomCount := f_atomCount) (f_spans := f_spans) (f_spanCount := f_spanCount) (f_unions := f_unions) (f_unionCount := f_unionCount) (f_isLarge := f_isLarge) (f_trial := f_trial) (f_rowAt := f_rowAt) (f_answers := f_answers) (f_foundBy := f_foundBy) (f_firstBy := f_firstBy) (f_lastBy := f_lastBy) (f_order := f_order) (f_answerCount := f_answerCount) (f_asked := f_asked) (f_tooMany := f_tooMany) hw) (va_cwS 2 X.1.2.2.2.2 gX54_64 rfl rfl rfl hX54_isIn ⟨Nat.le_of_ble_eq_true rfl, Nat.le_of_ble_eq_true rfl⟩) rfl hl.1 rfl (Nat.le_of_ble_eq_true rfl) dX54_mapping_44 ⟨Nat.le_refl 0, Nat.le_refl 0⟩) (fun r_9 _ H locs hw hH => ?_)
          have hH : kH (dC, dI) cl A s.heap H locs (wX54 ci ad d 0 f_cells f_sizes f_keys f_maps f_mapCount f_atoms f_atomCount f_spans f_spanCount f_unions f_unionCount f_isLarge f_trial f_rowAt f_answers f_foundBy f_firstBy f_lastBy f_order f_answerCount f_asked f_tooMany) := hH
          refine lv_if_eq (tgt := 59) hx hb dX54_mapping_47 (by decide) (fun c_10 => ?_) (fun c_10 => ?_)
          · have hw := hw.1 (z_eq (rfl : r_9.toInt = _) (rfl : (0 : Int32).toInt = 0) c_10)
            refine lv_iconst (v := (-1)) hx hb dX54_mapping_59 (by decide) ?_
            exact k_iret (v := (-1)) X hH (0, f_maps, f_mapCount) hw rfl rfl dX54_mapping_60
          · have hw := hw.2 (z_neq (rfl : r_9.toInt = _) (rfl : (0 : Int32).toInt = 0) c_10)
            refine lv_iload hx hb dX54_mapping_50 (lv_at hl 6 rfl) ?_
            refine lv_iconst (v := 3) hx hb dX54_mapping_52 (by decide) ?_
            refine k_i0 hH (k_runS (As := [.int x6, .int 3]) (rest := []) X hH.1 hH.2.1 X.2.2.2 (walkX54_isIn hc (x0 := x6) (x1 := 3) (f_thrown := 0) (f_cells := f_cells) (f_sizes := f_sizes) (f_keys := f_keys) (f_maps := f_maps) (f_mapCount := f_mapCount) (f_atoms := f_atoms) (f_atomCount := f_atomCount) (f_spans := f_spans) (f_spanCount := f_spanCount) (f_unions := f_unions) (f_unionCount := f_unionCount) (f_isLarge := f_isLarge) (f_trial := f_trial) (f_rowAt := f_rowAt) (f_answers := f_answers) (f_foundBy := f_foundBy) (f_firstBy := f_firstBy) (f_lastBy := f_lastBy) (f_order := f_order) (f_answerCount := f_answerCount) (f_asked := f_asked) (f_tooMany := f_tooMany) hw) (va_cwS 2 X.1.2.2.2.2 gX54_64 rfl rfl rfl hX54_isIn ⟨Nat.le_of_ble_eq_true rfl, Nat.le_of_ble_eq_true rfl⟩) rfl hl.1 rfl (Nat.le_of_ble_eq_true rfl) dX54_mapping_53 ⟨Nat.le_refl 0, Nat.le_refl 0⟩) (fun r_11 _ H locs hw hH => ?_)
            have hH : kH (dC, dI) cl A s.heap H locs (wX54 ci ad d 0 f_cells f_sizes f_keys f_maps f_mapCount f_atoms f_atomCount f_spans f_spanCount f_unions f_unionCount f_isLarge f_trial f_rowAt f_answers f_foundBy f_firstBy f_lastBy f_order f_answerCount f_asked f_tooMany) := hH
            refine lv_if_ne (tgt := 61) hx hb dX54_mapping_56 (by decide) (fun c_12 => ?_) (fun c_12 => ?_)
            · have hw := hw.2 (z_ne (rfl : r_11.toInt = _) (rfl : (0 : Int32).toInt = 0) c_12)
              refine lv_aload_n hx hb dX54_mapping_61 rfl (lv_at hl 0 rfl) ?_
              refine k_get X hH in_X54 0 rfl hc 5 (by decide) q6505 rfl dX54_mapping_62 ?_
              refine lv_bipush (v := 12) hx hb dX54_mapping_65 (by decide) ?_
              refine lv_icmp_ne (tgt := 73) hx hb dX54_mapping_67 (by decide) (fun c_13 => ?_) (fun c_13 => ?_)
              · have hw := hw.2 (z_ne (rfl : f_mapCount.toInt = _) (rfl : (12 : Int32).toInt = 12) c_13)
                refine lv_bipush (v := 6) hx hb dX54_mapping_73 (by decide) ?_
                refine lv_aload_n hx hb dX54_mapping_75 rfl (lv_at hl 0 rfl) ?_
                refine k_get X hH in_X54 0 rfl hc 5 (by decide) q6505 rfl dX54_mapping_76 ?_
                refine lv_imul hx hb dX54_mapping_79 ?_
                have e_14 := z_mul (z_m (rfl : (6 : Int32).toInt = 6)) (z_m (rfl : f_mapCount.toInt = _))
                have hq_15 := hw.1
                have hw := hw.2
                have e_16 := z_x e_14 hq_15
                refine lv_topi (fun x7_17 ex7_17 => ?_)
                have hw := hw x7_17.toInt (by rw [ex7_17]; exact e_16)
                refine lv_istore (lv' := [(7, .int x7_17), (0, .ref (ad 0)), (1, .int x1), (2, .int x2), (3, .int x3), (4, .int x4), (5, .int x5), (6, .int x6)]) hx hb dX54_mapping_80 hl (by decide) rfl (fun ls hl => ?_)
                refine lv_aload_n hx hb dX54_mapping_82 rfl (lv_at hl 1 rfl) ?_
                refine k_get X hH in_X54 0 rfl hc 4 (by decide) q6504 rfl dX54_mapping_83 ?_
                refine lv_iload hx hb dX54_mapping_86 (lv_at hl 0 rfl) ?_
                refine lv_iload_n hx hb dX54_mapping_88 rfl (lv_at hl 2 rfl) ?_
                have hq_19 := hw.1
                have hw := hw.2
                obtain ⟨f_maps_18, ef_maps_18⟩ : ∃ y : Nat → Int32, y = upd f_maps x7_17.toNatClampNeg x1 := ⟨_, rfl⟩
                refine k_iast X hH 4 3 rfl rfl (z_in (rfl : x7_17.toInt = _) hq_19) dX54_mapping_89 ef_maps_18 (ws1 := (wX54 ci ad d 0 f_cells f_sizes f_keys f_maps_18 f_mapCount f_atoms f_atomCount f_spans f_spanCount f_unions f_unionCount f_isLarge f_trial f_rowAt f_answers f_foundBy f_firstBy f_lastBy f_order f_answerCount f_asked f_tooMany)) rfl (fun H locs hH => ?_)
                have hw := hw (zF f_maps_18) (by rw [ef_maps_18]; exact z_st (f := f_maps) (rfl : x7_17.toInt = _) hq_19.1 (rfl : x1.toInt = _))
                refine lv_aload_n hx hb dX54_mapping_90 rfl (lv_at hl 1 rfl) ?_
                refine k_get X hH in_X54 0 rfl hc 4 (by decide) q6504 rfl dX54_mapping_91 ?_
                refine lv_iload hx hb dX54_mapping_94 (lv_at hl 0 rfl) ?_
                refine lv_iconst (v := 1) hx hb dX54_mapping_96 (by decide) ?_
                refine lv_iadd hx hb dX54_mapping_97 ?_
                have e_20 := z_add (z_m (rfl : x7_17.toInt = _)) (z_m (rfl : (1 : Int32).toInt = 1))
                refine lv_iload_n hx hb dX54_mapping_98 rfl (lv_at hl 3 rfl) ?_
                have hq_22 := hw.1
                have hw := hw.2
                have e_23 := z_xi e_20 hq_22 (by decide)
                obtain ⟨f_maps_21, ef_maps_21⟩ : ∃ y : Nat → Int32, y = upd f_maps_18 (x7_17 + 1).toNatClampNeg x2 := ⟨_, rfl⟩
                refine k_iast X hH 4 3 rfl rfl (z_in e_23 hq_22) dX54_mapping_99 ef_maps_21 (ws1 := (wX54 ci ad d 0 f_cells f_sizes f_keys f_maps_21 f_mapCount f_atoms f_atomCount f_spans f_spanCount f_unions f_unionCount f_isLarge f_trial f_rowAt f_answers f_foundBy f_firstBy f_lastBy f_order f_answerCount f_asked f_tooMany)) rfl (fun H locs hH => ?_)
                have hw := hw (zF f_maps_21) (by rw [ef_maps_21]; exact z_st (f := f_maps_18) e_23 hq_22.1 (rfl : x2.toInt = _))
                refine lv_aload_n hx hb dX54_mapping_100 rfl (lv_at hl 1 rfl) ?_
                refine k_get X hH in_X54 0 rfl hc 4 (by decide) q6504 rfl dX54_mapping_101 ?_
                refine lv_iload hx hb dX54_mapping_104 (lv_at hl 0 rfl) ?_
                refine lv_iconst (v := 2) hx hb dX54_mapping_106 (by decide) ?_
                refine lv_iadd hx hb dX54_mapping_107 ?_
                have e_24 := z_add (z_m (rfl : x7_17.toInt = _)) (z_m (rfl : (2 : Int32).toInt = 2))
                refine lv_iload_n hx hb dX54_mapping_108 rfl (lv_at hl 4 rfl) ?_
                have hq_26 := hw.1
                have hw := hw.2
                have e_27 := z_xi e_24 hq_26 (by decide)
                obtain ⟨f_maps_25, ef_maps_25⟩ : ∃ y : Nat → Int32, y = upd f_maps_21 (x7_17 + 2).toNatClampNeg x3 := ⟨_, rfl⟩
                refine k_iast X hH 4 3 rfl rfl (z_in e_27 hq_26) dX54_mapping_109 ef_maps_25 (ws1 := (wX54 ci ad d 0 f_cells f_sizes f_keys f_maps_25 f_mapCount f_atoms f_atomCount f_spans f_spanCount f_unions f_unionCount f_isLarge f_trial f_rowAt f_answers f_foundBy f_firstBy f_lastBy f_order f_answerCount f_asked f_tooMany)) rfl (fun H locs hH => ?_)
                have hw := hw (zF f_maps_25) (by rw [ef_maps_25]; exact z_st (f := f_maps_21) e_27 hq_26.1 (rfl : x3.toInt = _))
                refine lv_aload_n hx hb dX54_mapping_110 rfl (lv_at hl 1 rfl) ?_
                refine k_get X hH in_X54 0 rfl hc 4 (by decide) q6504 rfl dX54_mapping_111 ?_
                refine lv_iload hx hb dX54_mapping_114 (lv_at hl 0 rfl) ?_
                refine lv_iconst (v := 3) hx hb dX54_mapping_116 (by decide) ?_
                refine lv_iadd hx hb dX54_mapping_117 ?_
                have e_28 := z_add (z_m (rfl : x7_17.toInt = _)) (z_m (rfl : (3 : Int32).toInt = 3))
                refine lv_iload hx hb dX54_mapping_118 (lv_at hl 5 rfl) ?_
                have hq_30 := hw.1
                have hw := hw.2
                have e_31 := z_xi e_28 hq_30 (by decide)
                obtain ⟨f_maps_29, ef_maps_29⟩ : ∃ y : Nat → Int32, y = upd f_maps_25 (x7_17 + 3).toNatClampNeg x4 := ⟨_, rfl⟩
                refine k_iast X hH 4 3 rfl rfl (z_in e_31 hq_30) dX54_mapping_120 ef_maps_29 (ws1 := (wX54 ci ad d 0 f_cells f_sizes f_keys f_maps_29 f_mapCount f_atoms f_atomCount f_spans f_spanCount f_unions f_unionCount f_isLarge f_trial f_rowAt f_answers f_foundBy f_firstBy f_lastBy f_order f_answerCount f_asked f_tooMany)) rfl (fun H locs hH => ?_)
                have hw := hw (zF f_maps_29) (by rw [ef_maps_29]; exact z_st (f := f_maps_25) e_31 hq_30.1 (rfl : x4.toInt = _))
                refine lv_aload_n hx hb dX54_mapping_121 rfl (lv_at hl 1 rfl) ?_
                refine k_get X hH in_X54 0 rfl hc 4 (by decide) q6504 rfl dX54_mapping_122 ?_
                refine lv_iload hx hb dX54_mapping_125 (lv_at hl 0 rfl) ?_
                refine lv_iconst (v := 4) hx hb dX54_mapping_127 (by decide) ?_
                refine lv_iadd hx hb dX54_mapping_128 ?_
                have e_32 := z_add (z_m (rfl : x7_17.toInt = _)) (z_m (rfl : (4 : Int32).toInt = 4))
                refine lv_iload hx hb dX54_mapping_129 (lv_at hl 6 rfl) ?_
                have hq_34 := hw.1
                have hw := hw.2
                have e_35 := z_xi e_32 hq_34 (by decide)
                obtain ⟨f_maps_33, ef_maps_33⟩ : ∃ y : Nat → Int32, y = upd f_maps_29 (x7_17 + 4).toNatClampNeg x5 := ⟨_, rfl⟩
                refine k_iast X hH 4 3 rfl rfl (z_in e_35 hq_34) dX54_mapping_131 ef_maps_33 (ws1 := (wX54 ci ad d 0 f_cells f_sizes f_keys f_maps_33 f_mapCount f_atoms f_atomCount f_spans f_spanCount f_unions f_unionCount f_isLarge f_trial f_rowAt f_answers f_foundBy f_firstBy f_lastBy f_order f_answerCount f_asked f_tooMany)) rfl (fun H locs hH => ?_)
                have hw := hw (zF f_maps_33) (by rw [ef_maps_33]; exact z_st (f := f_maps_29) e_35 hq_34.1 (rfl : x5.toInt = _))
                refine lv_aload_n hx hb dX54_mapping_132 rfl (lv_at hl 1 rfl) ?_
                refine k_get X hH in_X54 0 rfl hc 4 (by decide) q6504 rfl dX54_mapping_133 ?_
                refine lv_iload hx hb dX54_mapping_136 (lv_at hl 0 rfl) ?_
                refine lv_iconst (v := 5) hx hb dX54_mapping_138 (by decide) ?_
                refine lv_iadd hx hb dX54_mapping_139 ?_
                have e_36 := z_add (z_m (rfl : x7_17.toInt = _)) (z_m (rfl : (5 : Int32).toInt = 5))
                refine lv_iload hx hb dX54_mapping_140 (lv_at hl 7 rfl) ?_
                have hq_38 := hw.1
                have hw := hw.2
                have e_39 := z_xi e_36 hq_38 (by decide)
                obtain ⟨f_maps_37, ef_maps_37⟩ : ∃ y : Nat → Int32, y = upd f_maps_33 (x7_17 + 5).toNatClampNeg x6 := ⟨_, rfl⟩
                refine k_iast X hH 4 3 rfl rfl (z_in e_39 hq_38) dX54_mapping_142 ef_maps_37 (ws1 := (wX54 ci ad d 0 f_cells f_sizes f_keys f_maps_37 f_mapCount f_atoms f_atomCount f_spans f_spanCount f_unions f_unionCount f_isLarge f_trial f_rowAt f_answers f_foundBy f_firstBy f_lastBy f_order f_answerCount f_asked f_tooMany)) rfl (fun H locs hH => ?_)
                have hw := hw (zF f_maps_37) (by rw [ef_maps_37]; exact z_st (f := f_maps_33) e_39 hq_38.1 (rfl : x6.toInt = _))
                refine lv_aload_n hx hb dX54_mapping_143 rfl (lv_at hl 1 rfl) ?_
                refine lv_dup hx hb dX54_mapping_144 rfl ?_
                refine k_get X hH in_X54 0 rfl hc 5 (by decide) q6505 rfl dX54_mapping_145 ?_
                refine lv_iconst (v := 1) hx hb dX54_mapping_148 (by decide) ?_
                refine lv_iadd hx hb dX54_mapping_149 ?_
                have e_40 := z_add (z_m (rfl : f_mapCount.toInt = _)) (z_m (rfl : (1 : Int32).toInt = 1))
                have hq_41 := hw.1
                have hw := hw.2
                have e_42 := z_x e_40 hq_41
                refine lv_topi (fun f_mapCount_43 ef_mapCount_43 => ?_)
                have hw := hw f_mapCount_43.toInt (by rw [ef_mapCount_43]; exact e_42)
                refine k_put X hH in_X54 tyX54_ok nmX54 0 rfl hc 5 (by decide) q6505 rfl (ty := .int) rfl rfl rfl (Nat.le_of_ble_eq_true rfl) dX54_mapping_150 (ws1 := (wX54 ci ad d 0 f_cells f_sizes f_keys f_maps_37 f_mapCount_43 f_atoms f_atomCount f_spans f_spanCount f_unions f_unionCount f_isLarge f_trial f_rowAt f_answers f_foundBy f_firstBy f_lastBy f_order f_answerCount f_asked f_tooMany)) rfl (fun H locs hH => ?_)
                refine lv_aload_n hx hb dX54_mapping_153 rfl (lv_at hl 1 rfl) ?_
                refine k_get X hH in_X54 0 rfl hc 5 (by decide) q6505 rfl dX54_mapping_154 ?_
                refine lv_iconst (v := 1) hx hb dX54_mapping_157 (by decide) ?_
                refine lv_isub hx hb dX54_mapping_158 ?_
                have e_44 := z_sub (z_m (rfl : f_mapCount_43.toInt = _)) (z_m (rfl : (1 : Int32).toInt = 1))
                have hq_45 := hw.1
                have hw := hw.2
                have e_46 := z_x e_44 hq_45
                exact k_iret (v := f_mapCount_43 - 1) X hH (0, f_maps_37, f_mapCount_43) (by rw [show (f_mapCount_43 - 1 : Int32).toInt = _ from e_46]; exact hw) rfl rfl dX54_mapping_159
              · have hw := hw.1 (z_eq (rfl : f_mapCount.toInt = _) (rfl : (12 : Int32).toInt = 12) c_13)
                refine lv_bipush (v := (-2)) hx hb dX54_mapping_70 (by decide) ?_
                exact k_iret (v := (-2)) X hH (0, f_maps, f_mapCount) hw rfl rfl dX54_mapping_72
            · have hw := hw.1 (z_eq (rfl : r_11.toInt = _) (rfl : (0 : Int32).toInt = 0) c_12)
              refine lv_iconst (v := (-1)) hx hb dX54_mapping_59 (by decide) ?_
              exact k_iret (v := (-1)) X hH (0, f_maps, f_mapCount) hw rfl rfl dX54_mapping_60
set_option maxHeartbeats 4000000 in
theorem atX54_triples_108 {p : Program} {l : Launch} {e : Env} {s : State} {m : MethodId} {args : Array Value} {below : List Frame} {meth : Method} {c : Code} {dC : Nat → ClassId} {dI : Nat → Nat → Nat} {cl : List vw_C} {ci : Nat} (hc : cl[ci]? = some (RX54, TX54, 23)) {ad : Nat → Nat} {d : Nat → ClassId} {A : Nat → Prop} {post : Int → Int → Prop} {f_cells : Nat → Int32} {f_sizes : Nat → Int32} {f_keys : Nat → Int32} {f_maps : Nat → Int32} {f_mapCount : Int32} {f_atoms : Nat → Int32} {f_atomCount : Int32} {f_spans : Nat → Int32} {f_spanCount : Int32} {f_unions : Nat → Int32} {f_unionCount : Int32} {f_isLarge : Int32} {f_trial : Nat → Int32} {f_rowAt : Nat → Int32} {f_answers : Nat → Int32} {f_foundBy : Nat → Int32} {f_firstBy : Nat → Int32} {f_lastBy : Nat → Int32} {f_order : Nat → Int32} {f_answerCount : Int32} {f_asked : Nat → Int32} {f_tooMany : Int32} (X : kX p s m args meth c cX54_triples 8 RX54 (some .int) (dC, dI) cl (tX54 d)) {K60 : Int → Int → Prop} {x1 : Int32} {x2 : Int32} {x3 : Int32} {x5 : Int32} {f_thrown : Int32} (hk60 : ∀ (x4 : Int32) (x6 : Int32), K60 x4.toInt x6.toInt → ∀ (H : Heap) (locs : List Loc) (ls : Array Slot), kH (dC, dI) cl A s.heap H locs (wX54 ci ad d f_thrown f_cells f_sizes f_keys f_maps f_mapCount f_atoms f_atomCount f_spans f_spanCount f_unions f_unionCount f_isLarge f_trial f_rowAt f_answers f_foundBy f_firstBy f_lastBy f_order f_answerCount f_asked f_tooMany) → lv_has ls 8 [(0, .ref (ad 0)), (1, .int x1), (2, .int x2), (3, .int x3), (4, .int x4), (5, .int x5), (6, .int x6)] → W p l e ({ frames := 2, cells := 0, slots := 0, locals := 46 } : Room) s m args below meth c H locs 0 0 (MQ below (va_Qi (fun (r : Int32) (u : Int32) => post r.toInt (u).toInt) (kB (dC, dI) cl (tX54 d) A (fun u : Int32 => (wX54 ci ad d (u) f_cells f_sizes f_keys f_maps f_mapCount f_atoms f_atomCount f_spans f_spanCount f_unions f_unionCount f_isLarge f_trial f_rowAt f_answers f_foundBy f_firstBy f_lastBy f_order f_answerCount f_asked f_tooMany))) A) args s 0 0 A) (F0 m 60 ls [])) :
    ∀ (x6 : Int32) (y0 : Int32), wX54_triples_108 K60 x2.toInt x3.toInt x5.toInt x6.toInt y0.toInt (zF f_cells) (zF f_maps) → ∀ (H : Heap) (locs : List Loc) (ls : Array Slot), kH (dC, dI) cl A s.heap H locs (wX54 ci ad d f_thrown f_cells f_sizes f_keys f_maps f_mapCount f_atoms f_atomCount f_spans f_spanCount f_unions f_unionCount f_isLarge f_trial f_rowAt f_answers f_foundBy f_firstBy f_lastBy f_order f_answerCount f_asked f_tooMany) → lv_has ls 8 [(0, .ref (ad 0)), (1, .int x1), (2, .int x2), (3, .int x3), (5, .int x5), (6, .int x6)] → W p l e ({ frames := 2, cells := 0, slots := 0, locals := 46 } : Room) s m args below meth c H locs 0 0 (MQ below (va_Qi (fun (r : Int32) (u : Int32) => post r.toInt (u).toInt) (kB (dC, dI) cl (tX54 d) A (fun u : Int32 => (wX54 ci ad d (u) f_cells f_sizes f_keys f_maps f_mapCount f_atoms f_atomCount f_spans f_spanCount f_unions f_unionCount f_isLarge f_trial f_rowAt f_answers f_foundBy f_firstBy f_lastBy f_order f_answerCount f_asked f_tooMany))) A) args s 0 0 A) (F0 m 108 ls [.int y0]) := by
  have hx := X.1.1
  have hb := X.1.2.1
  intro x6 y0 hw H locs ls hH hl
  unfold wX54_triples_108 at hw
  refine lv_istore (lv' := [(7, .int y0), (0, .ref (ad 0)), (1, .int x1), (2, .int x2), (3, .int x3), (5, .int x5), (6, .int x6)]) hx hb dX54_triples_108 hl (by decide) rfl (fun ls hl => ?_)
  refine lv_iload hx hb dX54_triples_110 (lv_at hl 0 rfl) ?_
  refine lv_if_eq (tgt := 183) hx hb dX54_triples_112 (by decide) (fun c_20 => ?_) (fun c_20 => ?_)
  · have hw := hw.1 (z_eq (rfl : y0.toInt = _) (rfl : (0 : Int32).toInt = 0) c_20)
    refine lv_iconst (v := 0) hx hb dX54_triples_183 (by decide) ?_
    refine lv_istore (lv' := [(4, .int 0), (7, .int y0), (0, .ref (ad 0)), (1, .int x1), (2, .int x2), (3, .int x3), (5, .int x5), (6, .int x6)]) hx hb dX54_triples_184 hl (by decide) rfl (fun ls hl => ?_)
    have hq_22 := hw.1
    have hw := hw.2
    obtain ⟨x6_21, ex6_21⟩ : ∃ y : Int32, y = x6 + 1 := ⟨_, rfl⟩
    have hw := hw x6_21.toInt (by rw [ex6_21]; exact (z_x (z_add (z_m (rfl : x6.toInt = _)) (z_m (rfl : (1 : Int32).toInt = 1))) hq_22))
    refine lv_iinc (v := x6_21) (lv' := [(6, .int x6_21), (4, .int 0), (7, .int y0), (0, .ref (ad 0)), (1, .int x1), (2, .int x2), (3, .int x3), (5, .int x5)]) hx hb dX54_triples_186 hl (k := 7) rfl (by rw [ex6_21]; rfl) (by decide) rfl (fun ls hl => ?_)
    refine lv_goto (tgt := 60) hx hb dX54_triples_189 (by decide) ?_
    exact hk60 0 x6_21 hw _ _ ls hH (lv_sub hl [3, 4, 5, 6, 1, 7, 0] rfl)
  · have hw := hw.2 (z_neq (rfl : y0.toInt = _) (rfl : (0 : Int32).toInt = 0) c_20)
    refine lv_aload_n hx hb dX54_triples_115 rfl (lv_at hl 1 rfl) ?_
    refine k_get X hH in_X54 0 rfl hc 4 (by decide) q6504 rfl dX54_triples_116 ?_
    refine lv_bipush (v := 6) hx hb dX54_triples_119 (by decide) ?_
    refine lv_iload hx hb dX54_triples_121 (lv_at hl 5 rfl) ?_
    refine lv_imul hx hb dX54_triples_123 ?_
    have e_23 := z_mul (z_m (rfl : (6 : Int32).toInt = 6)) (z_m (rfl : x5.toInt = _))
    refine lv_iconst (v := 1) hx hb dX54_triples_124 (by decide) ?_
    refine lv_iadd hx hb dX54_triples_125 ?_
    have e_24 := z_add e_23 (z_m (rfl : (1 : Int32).toInt = 1))
    have hq_25 := hw.1
    have hw := hw.2
    have e_26 := z_xi e_24 hq_25 (by decide)
    refine k_iald X hH 4 3 rfl rfl (z_in e_26 hq_25) dX54_triples_126 ?_
    have e_27 := z_ld (f := f_maps) e_26 hq_25.1
    refine lv_aload_n hx hb dX54_triples_127 rfl (lv_at hl 1 rfl) ?_
    refine k_get X hH in_X54 0 rfl hc 4 (by decide) q6504 rfl dX54_triples_128 ?_
    refine lv_bipush (v := 6) hx hb dX54_triples_131 (by decide) ?_
    refine lv_iload_n hx hb dX54_triples_133 rfl (lv_at hl 3 rfl) ?_
    refine lv_imul hx hb dX54_triples_134 ?_
    have e_28 := z_mul (z_m (rfl : (6 : Int32).toInt = 6)) (z_m (rfl : x2.toInt = _))
    refine lv_iconst (v := 1) hx hb dX54_triples_135 (by decide) ?_
    refine lv_iadd hx hb dX54_triples_136 ?_
    have e_29 := z_add e_28 (z_m (rfl : (1 : Int32).toInt = 1))
    have hq_30 := hw.1
    have hw := hw.2
    have e_31 := z_xi e_29 hq_30 (by decide)
    refine k_iald X hH 4 3 rfl rfl (z_in e_31 hq_30) dX54_triples_137 ?_
    have e_32 := z_ld (f := f_maps) e_31 hq_30.1
    refine lv_icmp_ne (tgt := 183) hx hb dX54_triples_138 (by decide) (fun c_33 => ?_) (fun c_33 => ?_)
    · have hw := hw.2 (z_ne e_27 e_32 c_33)
      refine lv_iconst (v := 0) hx hb dX54_triples_183 (by decide) ?_
      refine lv_istore (lv' := [(4, .int 0), (7, .int y0), (0, .ref (ad 0)), (1, .int x1), (2, .int x2), (3, .int x3), (5, .int x5), (6, .int x6)]) hx hb dX54_triples_184 hl (by decide) rfl (fun ls hl => ?_)
      have hq_35 := hw.1
      have hw := hw.2
      obtain ⟨x6_34, ex6_34⟩ : ∃ y : Int32, y = x6 + 1 := ⟨_, rfl⟩
      have hw := hw x6_34.toInt (by rw [ex6_34]; exact (z_x (z_add (z_m (rfl : x6.toInt = _)) (z_m (rfl : (1 : Int32).toInt = 1))) hq_35))
      refine lv_iinc (v := x6_34) (lv' := [(6, .int x6_34), (4, .int 0), (7, .int y0), (0, .ref (ad 0)), (1, .int x1), (2, .int x2), (3, .int x3), (5, .int x5)]) hx hb dX54_triples_186 hl (k := 7) rfl (by rw [ex6_34]; rfl) (by decide) rfl (fun ls hl => ?_)
      refine lv_goto (tgt := 60) hx hb dX54_triples_189 (by decide) ?_
      exact hk60 0 x6_34 hw _ _ ls hH (lv_sub hl [3, 4, 5, 6, 1, 7, 0] rfl)
    · have hw := hw.1 (z_eq e_27 e_32 c_33)
      refine lv_aload_n hx hb dX54_triples_141 rfl (lv_at hl 1 rfl) ?_
      refine lv_iload hx hb dX54_triples_142 (lv_at hl 5 rfl) ?_
      refine lv_iload hx hb dX54_triples_144 (lv_at hl 6 rfl) ?_
      refine lv_iconst (v := 0) hx hb dX54_triples_146 (by decide) ?_
      refine k_i0 hH (k_runV (As := [.int x5, .int x6, .int 0]) (rest := []) X hH.1 hH.2.1 X.2.2.2 (walkX54_codeOf hc (x1 := x5) (x2 := x6) (x3 := 0) (f_thrown := f_thrown) (f_cells := f_cells) (f_sizes := f_sizes) (f_keys := f_keys) (f_maps := f_maps) (f_mapCount := f_mapCount) (f_atoms := f_atoms) (f_atomCount := f_atomCount) (f_spans := f_spans) (f_spanCount := f_spanCount) (f_unions := f_unions) (f_unionCount := f_unionCount) (f_isLarge := f_isLarge) (f_trial := f_trial) (f_rowAt := f_rowAt) (f_answers := f_answers) (f_foundBy := f_foundBy) (f_firstBy := f_firstBy) (f_lastBy := f_lastBy) (f_order := f_order) (f_answerCount := f_answerCount) (f_asked := f_asked) (f_tooMany := f_tooMany) hw) (cwV 3 X.1.2.2.2.2 gX54_85 rfl rfl rfl hX54_codeOf ⟨Nat.le_of_ble_eq_true rfl, Nat.le_of_ble_eq_true rfl⟩) hc (q0 := 0) rfl rfl hl.1 rfl (Nat.le_of_ble_eq_true rfl) dX54_triples_147 ⟨Nat.le_refl 0, Nat.le_refl 0⟩) (fun r_36 _ H locs hw hH => ?_)
      have hH : kH (dC, dI) cl A s.heap H locs (wX54 ci ad d f_thrown f_cells f_sizes f_keys f_maps f_mapCount f_atoms f_atomCount f_spans f_spanCount f_unions f_unionCount f_isLarge f_trial f_rowAt f_answers f_foundBy f_firstBy f_lastBy f_order f_answerCount f_asked f_tooMany) := hH
      refine lv_aload_n hx hb dX54_triples_150 rfl (lv_at hl 1 rfl) ?_
      refine lv_iload_n hx hb dX54_triples_151 rfl (lv_at hl 3 rfl) ?_
      refine lv_iload_n hx hb dX54_triples_152 rfl (lv_at hl 4 rfl) ?_
      refine lv_iconst (v := 0) hx hb dX54_triples_153 (by decide) ?_
      refine k_i0 hH (k_runV (As := [.int x2, .int x3, .int 0]) (rest := [.int r_36]) X hH.1 hH.2.1 X.2.2.2 (walkX54_codeOf hc (x1 := x2) (x2 := x3) (x3 := 0) (f_thrown := f_thrown) (f_cells := f_cells) (f_sizes := f_sizes) (f_keys := f_keys) (f_maps := f_maps) (f_mapCount := f_mapCount) (f_atoms := f_atoms) (f_atomCount := f_atomCount) (f_spans := f_spans) (f_spanCount := f_spanCount) (f_unions := f_unions) (f_unionCount := f_unionCount) (f_isLarge := f_isLarge) (f_trial := f_trial) (f_rowAt := f_rowAt) (f_answers := f_answers) (f_foundBy := f_foundBy) (f_firstBy := f_firstBy) (f_lastBy := f_lastBy) (f_order := f_order) (f_answerCount := f_answerCount) (f_asked := f_asked) (f_tooMany := f_tooMany) hw) (cwV 3 X.1.2.2.2.2 gX54_85 rfl rfl rfl hX54_codeOf ⟨Nat.le_of_ble_eq_true rfl, Nat.le_of_ble_eq_true rfl⟩) hc (q0 := 0) rfl rfl hl.1 rfl (Nat.le_of_ble_eq_true rfl) dX54_triples_154 ⟨Nat.le_refl 0, Nat.le_refl 0⟩) (fun r_37 _ H locs hw hH => ?_)
      have hH : kH (dC, dI) cl A s.heap H locs (wX54 ci ad d f_thrown f_cells f_sizes f_keys f_maps f_mapCount f_atoms f_atomCount f_spans f_spanCount f_unions f_unionCount f_isLarge f_trial f_rowAt f_answers f_foundBy f_firstBy f_lastBy f_order f_answerCount f_asked f_tooMany) := hH
      refine lv_icmp_ne (tgt := 183) hx hb dX54_triples_157 (by decide) (fun c_38 => ?_) (fun c_38 => ?_)
      · have hw := hw.2 (z_ne (rfl : r_36.toInt = _) (rfl : r_37.toInt = _) c_38)
        refine lv_iconst (v := 0) hx hb dX54_triples_183 (by decide) ?_
        refine lv_istore (lv' := [(4, .int 0), (7, .int y0), (0, .ref (ad 0)), (1, .int x1), (2, .int x2), (3, .int x3), (5, .int x5), (6, .int x6)]) hx hb dX54_triples_184 hl (by decide) rfl (fun ls hl => ?_)
        have hq_40 := hw.1
        have hw := hw.2
        obtain ⟨x6_39, ex6_39⟩ : ∃ y : Int32, y = x6 + 1 := ⟨_, rfl⟩
        have hw := hw x6_39.toInt (by rw [ex6_39]; exact (z_x (z_add (z_m (rfl : x6.toInt = _)) (z_m (rfl : (1 : Int32).toInt = 1))) hq_40))
        refine lv_iinc (v := x6_39) (lv' := [(6, .int x6_39), (4, .int 0), (7, .int y0), (0, .ref (ad 0)), (1, .int x1), (2, .int x2), (3, .int x3), (5, .int x5)]) hx hb dX54_triples_186 hl (k := 7) rfl (by rw [ex6_39]; rfl) (by decide) rfl (fun ls hl => ?_)
        refine lv_goto (tgt := 60) hx hb dX54_triples_189 (by decide) ?_
        exact hk60 0 x6_39 hw _ _ ls hH (lv_sub hl [3, 4, 5, 6, 1, 7, 0] rfl)
      · have hw := hw.1 (z_eq (rfl : r_36.toInt = _) (rfl : r_37.toInt = _) c_38)
        refine lv_aload_n hx hb dX54_triples_160 rfl (lv_at hl 1 rfl) ?_
        refine lv_iload hx hb dX54_triples_161 (lv_at hl 5 rfl) ?_
        refine lv_iload hx hb dX54_triples_163 (lv_at hl 6 rfl) ?_
        refine lv_iconst (v := 1) hx hb dX54_triples_165 (by decide) ?_
        refine k_i0 hH (k_runV (As := [.int x5, .int x6, .int 1]) (rest := []) X hH.1 hH.2.1 X.2.2.2 (walkX54_codeOf hc (x1 := x5) (x2 := x6) (x3 := 1) (f_thrown := f_thrown) (f_cells := f_cells) (f_sizes := f_sizes) (f_keys := f_keys) (f_maps := f_maps) (f_mapCount := f_mapCount) (f_atoms := f_atoms) (f_atomCount := f_atomCount) (f_spans := f_spans) (f_spanCount := f_spanCount) (f_unions := f_unions) (f_unionCount := f_unionCount) (f_isLarge := f_isLarge) (f_trial := f_trial) (f_rowAt := f_rowAt) (f_answers := f_answers) (f_foundBy := f_foundBy) (f_firstBy := f_firstBy) (f_lastBy := f_lastBy) (f_order := f_order) (f_answerCount := f_answerCount) (f_asked := f_asked) (f_tooMany := f_tooMany) hw) (cwV 3 X.1.2.2.2.2 gX54_85 rfl rfl rfl hX54_codeOf ⟨Nat.le_of_ble_eq_true rfl, Nat.le_of_ble_eq_true rfl⟩) hc (q0 := 0) rfl rfl hl.1 rfl (Nat.le_of_ble_eq_true rfl) dX54_triples_166 ⟨Nat.le_refl 0, Nat.le_refl 0⟩) (fun r_41 _ H locs hw hH => ?_)
        have hH : kH (dC, dI) cl A s.heap H locs (wX54 ci ad d f_thrown f_cells f_sizes f_keys f_maps f_mapCount f_atoms f_atomCount f_spans f_spanCount f_unions f_unionCount f_isLarge f_trial f_rowAt f_answers f_foundBy f_firstBy f_lastBy f_order f_answerCount f_asked f_tooMany) := hH
        refine lv_aload_n hx hb dX54_triples_169 rfl (lv_at hl 1 rfl) ?_
        refine lv_iload_n hx hb dX54_triples_170 rfl (lv_at hl 3 rfl) ?_
        refine lv_iload_n hx hb dX54_triples_171 rfl (lv_at hl 4 rfl) ?_
        refine lv_iconst (v := 1) hx hb dX54_triples_172 (by decide) ?_
        refine k_i0 hH (k_runV (As := [.int x2, .int x3, .int 1]) (rest := [.int r_41]) X hH.1 hH.2.1 X.2.2.2 (walkX54_codeOf hc (x1 := x2) (x2 := x3) (x3 := 1) (f_thrown := f_thrown) (f_cells := f_cells) (f_sizes := f_sizes) (f_keys := f_keys) (f_maps := f_maps) (f_mapCount := f_mapCount) (f_atoms := f_atoms) (f_atomCount := f_atomCount) (f_spans := f_spans) (f_spanCount := f_spanCount) (f_unions := f_unions) (f_unionCount := f_unionCount) (f_isLarge := f_isLarge) (f_trial := f_trial) (f_rowAt := f_rowAt) (f_answers := f_answers) (f_foundBy := f_foundBy) (f_firstBy := f_firstBy) (f_lastBy := f_lastBy) (f_order := f_order) (f_answerCount := f_answerCount) (f_asked := f_asked) (f_tooMany := f_tooMany) hw) (cwV 3 X.1.2.2.2.2 gX54_85 rfl rfl rfl hX54_codeOf ⟨Nat.le_of_ble_eq_true rfl, Nat.le_of_ble_eq_true rfl⟩) hc (q0 := 0) rfl rfl hl.1 rfl (Nat.le_of_ble_eq_true rfl) dX54_triples_173 ⟨Nat.le_refl 0, Nat.le_refl 0⟩) (fun r_42 _ H locs hw hH => ?_)
        have hH : kH (dC, dI) cl A s.heap H locs (wX54 ci ad d f_thrown f_cells f_sizes f_keys f_maps f_mapCount f_atoms f_atomCount f_spans f_spanCount f_unions f_unionCount f_isLarge f_trial f_rowAt f_answers f_foundBy f_firstBy f_lastBy f_order f_answerCount f_asked f_tooMany) := hH
        refine lv_icmp_ne (tgt := 183) hx hb dX54_triples_176 (by decide) (fun c_43 => ?_) (fun c_43 => ?_)
        · have hw := hw.2 (z_ne (rfl : r_41.toInt = _) (rfl : r_42.toInt = _) c_43)
          refine lv_iconst (v := 0) hx hb dX54_triples_183 (by decide) ?_
          refine lv_istore (lv' := [(4, .int 0), (7, .int y0), (0, .ref (ad 0)), (1, .int x1), (2, .int x2), (3, .int x3), (5, .int x5), (6, .int x6)]) hx hb dX54_triples_184 hl (by decide) rfl (fun ls hl => ?_)
          have hq_45 := hw.1
          have hw := hw.2
          obtain ⟨x6_44, ex6_44⟩ : ∃ y : Int32, y = x6 + 1 := ⟨_, rfl⟩
          have hw := hw x6_44.toInt (by rw [ex6_44]; exact (z_x (z_add (z_m (rfl : x6.toInt = _)) (z_m (rfl : (1 : Int32).toInt = 1))) hq_45))
          refine lv_iinc (v := x6_44) (lv' := [(6, .int x6_44), (4, .int 0), (7, .int y0), (0, .ref (ad 0)), (1, .int x1), (2, .int x2), (3, .int x3), (5, .int x5)]) hx hb dX54_triples_186 hl (k := 7) rfl (by rw [ex6_44]; rfl) (by decide) rfl (fun ls hl => ?_)
          refine lv_goto (tgt := 60) hx hb dX54_triples_189 (by decide) ?_
          exact hk60 0 x6_44 hw _ _ ls hH (lv_sub hl [3, 4, 5, 6, 1, 7, 0] rfl)
        · have hw := hw.1 (z_eq (rfl : r_41.toInt = _) (rfl : r_42.toInt = _) c_43)
          refine lv_iconst (v := 1) hx hb dX54_triples_179 (by decide) ?_
          refine lv_goto (tgt := 184) hx hb dX54_triples_180 (by decide) ?_
          refine lv_istore (lv' := [(4, .int 1), (7, .int y0), (0, .ref (ad 0)), (1, .int x1), (2, .int x2), (3, .int x3), (5, .int x5), (6, .int x6)]) hx hb dX54_triples_184 hl (by decide) rfl (fun ls hl => ?_)
          have hq_47 := hw.1
          have hw := hw.2
          obtain ⟨x6_46, ex6_46⟩ : ∃ y : Int32, y = x6 + 1 := ⟨_, rfl⟩
          have hw := hw x6_46.toInt (by rw [ex6_46]; exact (z_x (z_add (z_m (rfl : x6.toInt = _)) (z_m (rfl : (1 : Int32).toInt = 1))) hq_47))
          refine lv_iinc (v := x6_46) (lv' := [(6, .int x6_46), (4, .int 1), (7, .int y0), (0, .ref (ad 0)), (1, .int x1), (2, .int x2), (3, .int x3), (5, .int x5)]) hx hb dX54_triples_186 hl (k := 7) rfl (by rw [ex6_46]; rfl) (by decide) rfl (fun ls hl => ?_)
          refine lv_goto (tgt := 60) hx hb dX54_triples_189 (by decide) ?_
          exact hk60 1 x6_46 hw _ _ ls hH (lv_sub hl [3, 4, 5, 6, 1, 7, 0] rfl)
set_option maxHeartbeats 4000000 in
theorem atX54_triples_60 {p : Program} {l : Launch} {e : Env} {s : State} {m : MethodId} {args : Array Value} {below : List Frame} {meth : Method} {c : Code} {dC : Nat → ClassId} {dI : Nat → Nat → Nat} {cl : List vw_C} {ci : Nat} (hc : cl[ci]? = some (RX54, TX54, 23)) {ad : Nat → Nat} {d : Nat → ClassId} {A : Nat → Prop} {post : Int → Int → Prop} {f_cells : Nat → Int32} {f_sizes : Nat → Int32} {f_keys : Nat → Int32} {f_maps : Nat → Int32} {f_mapCount : Int32} {f_atoms : Nat → Int32} {f_atomCount : Int32} {f_spans : Nat → Int32} {f_spanCount : Int32} {f_unions : Nat → Int32} {f_unionCount : Int32} {f_isLarge : Int32} {f_trial : Nat → Int32} {f_rowAt : Nat → Int32} {f_answers : Nat → Int32} {f_foundBy : Nat → Int32} {f_firstBy : Nat → Int32} {f_lastBy : Nat → Int32} {f_order : Nat → Int32} {f_answerCount : Int32} {f_asked : Nat → Int32} {f_tooMany : Int32} (X : kX p s m args meth c cX54_triples 8 RX54 (some .int) (dC, dI) cl (tX54 d)) {K192 : Int → Prop} {x1 : Int32} {x2 : Int32} {x3 : Int32} {x5 : Int32} {f_thrown : Int32} (hk192 : ∀ (x4 : Int32), K192 x4.toInt → ∀ (H : Heap) (locs : List Loc) (ls : Array Slot), kH (dC, dI) cl A s.heap H locs (wX54 ci ad d f_thrown f_cells f_sizes f_keys f_maps f_mapCount f_atoms f_atomCount f_spans f_spanCount f_unions f_unionCount f_isLarge f_trial f_rowAt f_answers f_foundBy f_firstBy f_lastBy f_order f_answerCount f_asked f_tooMany) → lv_has ls 8 [(0, .ref (ad 0)), (1, .int x1), (2, .int x2), (3, .int x3), (4, .int x4), (5, .int x5)] → W p l e ({ frames := 2, cells := 0, slots := 0, locals := 46 } : Room) s m args below meth c H locs 0 0 (MQ below (va_Qi (fun (r : Int32) (u : Int32) => post r.toInt (u).toInt) (kB (dC, dI) cl (tX54 d) A (fun u : Int32 => (wX54 ci ad d (u) f_cells f_sizes f_keys f_maps f_mapCount f_atoms f_atomCount f_spans f_spanCount f_unions f_unionCount f_isLarge f_trial f_rowAt f_answers f_foundBy f_firstBy f_lastBy f_order f_answerCount f_asked f_tooMany))) A) args s 0 0 A) (F0 m 192 ls [])) :
    ∀ (nn : Nat) (x4 : Int32) (x6 : Int32), wX54_triples_60 K192 x2.toInt x3.toInt x5.toInt (zF f_cells) (zF f_sizes) (zF f_maps) nn x4.toInt x6.toInt → ∀ (H : Heap) (locs : List Loc) (ls : Array Slot), kH (dC, dI) cl A s.heap H locs (wX54 ci ad d f_thrown f_cells f_sizes f_keys f_maps f_mapCount f_atoms f_atomCount f_spans f_spanCount f_unions f_unionCount f_isLarge f_trial f_rowAt f_answers f_foundBy f_firstBy f_lastBy f_order f_answerCount f_asked f_tooMany) → lv_has ls 8 [(0, .ref (ad 0)), (1, .int x1), (2, .int x2), (3, .int x3), (4, .int x4), (5, .int x5), (6, .int x6)] → W p l e ({ frames := 2, cells := 0, slots := 0, locals := 46 } : Room) s m args below meth c H locs 0 0 (MQ below (va_Qi (fun (r : Int32) (u : Int32) => post r.toInt (u).toInt) (kB (dC, dI) cl (tX54 d) A (fun u : Int32 => (wX54 ci ad d (u) f_cells f_sizes f_keys f_maps f_mapCount f_atoms f_atomCount f_spans f_spanCount f_unions f_unionCount f_isLarge f_trial f_rowAt f_answers f_foundBy f_firstBy f_lastBy f_order f_answerCount f_asked f_tooMany))) A) args s 0 0 A) (F0 m 60 ls []) := by
  have hx := X.1.1
  have hb := X.1.2.1
  intro nn
  induction nn with
  | zero =>
    intro x4 x6 hw
    exact False.elim hw
  | succ n ih =>
    intro x4 x6 hw H locs ls hH hl
    rw [wX54_triples_60] at hw
    refine lv_iload hx hb dX54_triples_60 (lv_at hl 6 rfl) ?_
    refine lv_aload_n hx hb dX54_triples_62 rfl (lv_at hl 0 rfl) ?_
    refine k_get X hH in_X54 0 rfl hc 2 (by decide) q6502 rfl dX54_triples_63 ?_
    refine lv_aload_n hx hb dX54_triples_66 rfl (lv_at hl 0 rfl) ?_
    refine k_get X hH in_X54 0 rfl hc 4 (by decide) q6504 rfl dX54_triples_67 ?_
    refine lv_bipush (v := 6) hx hb dX54_triples_70 (by decide) ?_
    refine lv_iload hx hb dX54_triples_72 (lv_at hl 5 rfl) ?_
    refine lv_imul hx hb dX54_triples_74 ?_
    have e_11 := z_mul (z_m (rfl : (6 : Int32).toInt = 6)) (z_m (rfl : x5.toInt = _))
    have hq_12 := hw.1
    have hw := hw.2
    have e_13 := z_xi e_11 hq_12 (by decide)
    refine k_iald X hH 4 3 rfl rfl (z_in e_13 hq_12) dX54_triples_75 ?_
    have e_14 := z_ld (f := f_maps) e_13 hq_12.1
    have hq_15 := hw.1
    have hw := hw.2
    refine k_iald X hH 2 1 rfl rfl (z_in e_14 hq_15) dX54_triples_76 ?_
    have e_16 := z_ld (f := f_sizes) e_14 hq_15.1
    refine lv_icmp_ge (tgt := 192) hx hb dX54_triples_77 (by decide) (fun c_17 => ?_) (fun c_17 => ?_)
    · have hw := hw.1 (z_le e_16 (rfl : x6.toInt = _) c_17)
      exact hk192 x4 hw _ _ ls hH (lv_sub hl [0, 1, 2, 3, 4, 5] rfl)
    · have hw := hw.2 (z_nle e_16 (rfl : x6.toInt = _) c_17)
      refine lv_iload hx hb dX54_triples_80 (lv_at hl 4 rfl) ?_
      refine lv_if_ne (tgt := 192) hx hb dX54_triples_82 (by decide) (fun c_18 => ?_) (fun c_18 => ?_)
      · have hw := hw.2 (z_ne (rfl : x4.toInt = _) (rfl : (0 : Int32).toInt = 0) c_18)
        exact hk192 x4 hw _ _ ls hH (lv_sub hl [0, 1, 2, 3, 4, 5] rfl)
      · have hw := hw.1 (z_eq (rfl : x4.toInt = _) (rfl : (0 : Int32).toInt = 0) c_18)
        refine lv_iload hx hb dX54_triples_85 (lv_at hl 5 rfl) ?_
        refine lv_iload_n hx hb dX54_triples_87 rfl (lv_at hl 2 rfl) ?_
        refine lv_icmp_lt (tgt := 103) hx hb dX54_triples_88 (by decide) (fun c_19 => ?_) (fun c_19 => ?_)
        · have hw := hw.1 (z_lt (rfl : x5.toInt = _) (rfl : x2.toInt = _) c_19)
          refine lv_iconst (v := 1) hx hb dX54_triples_103 (by decide) ?_
          refine lv_goto (tgt := 108) hx hb dX54_triples_104 (by decide) ?_
          exact atX54_triples_108 hc X (fun x4 x6 hw H locs ls hH hl => ih x4 x6 hw _ _ ls hH (lv_sub hl [0, 1, 2, 3, 4, 5, 6] rfl)) x6 1 hw _ _ ls hH (lv_sub hl [0, 1, 2, 3, 5, 6] rfl)
        · have hw := hw.2 (z_nlt (rfl : x5.toInt = _) (rfl : x2.toInt = _) c_19)
          refine lv_iload hx hb dX54_triples_91 (lv_at hl 5 rfl) ?_
          refine lv_iload_n hx hb dX54_triples_93 rfl (lv_at hl 2 rfl) ?_
          refine lv_icmp_ne (tgt := 107) hx hb dX54_triples_94 (by decide) (fun c_48 => ?_) (fun c_48 => ?_)
          · have hw := hw.2 (z_ne (rfl : x5.toInt = _) (rfl : x2.toInt = _) c_48)
            refine lv_iconst (v := 0) hx hb dX54_triples_107 (by decide) ?_
            exact atX54_triples_108 hc X (fun x4 x6 hw H locs ls hH hl => ih x4 x6 hw _ _ ls hH (lv_sub hl [0, 1, 2, 3, 4, 5, 6] rfl)) x6 0 hw _ _ ls hH (lv_sub hl [0, 1, 2, 3, 5, 6] rfl)
          · have hw := hw.1 (z_eq (rfl : x5.toInt = _) (rfl : x2.toInt = _) c_48)
            refine lv_iload hx hb dX54_triples_97 (lv_at hl 6 rfl) ?_
            refine lv_iload_n hx hb dX54_triples_99 rfl (lv_at hl 3 rfl) ?_
            refine lv_icmp_ge (tgt := 107) hx hb dX54_triples_100 (by decide) (fun c_49 => ?_) (fun c_49 => ?_)
            · have hw := hw.1 (z_le (rfl : x3.toInt = _) (rfl : x6.toInt = _) c_49)
              refine lv_iconst (v := 0) hx hb dX54_triples_107 (by decide) ?_
              exact atX54_triples_108 hc X (fun x4 x6 hw H locs ls hH hl => ih x4 x6 hw _ _ ls hH (lv_sub hl [0, 1, 2, 3, 4, 5, 6] rfl)) x6 0 hw _ _ ls hH (lv_sub hl [0, 1, 2, 3, 5, 6] rfl)
            · have hw := hw.2 (z_nle (rfl : x3.toInt = _) (rfl : x6.toInt = _) c_49)
              refine lv_iconst (v := 1) hx hb dX54_triples_103 (by decide) ?_
              refine lv_goto (tgt := 108) hx hb dX54_triples_104 (by decide) ?_
              exact atX54_triples_108 hc X (fun x4 x6 hw H locs ls hH hl => ih x4 x6 hw _ _ ls hH (lv_sub hl [0, 1, 2, 3, 4, 5, 6] rfl)) x6 1 hw _ _ ls hH (lv_sub hl [0, 1, 2, 3, 5, 6] rfl)
set_option maxHeartbeats 4000000 in
theorem atX54_triples_43 {p : Program} {l : Launch} {e : Env} {s : State} {m : MethodId} {args : Array Value} {below : List Frame} {meth : Method} {c : Code} {dC : Nat → ClassId} {dI : Nat → Nat → Nat} {cl : List vw_C} {ci : Nat} (hc : cl[ci]? = some (RX54, TX54, 23)) {ad : Nat → Nat} {d : Nat → ClassId} {A : Nat → Prop} {post : Int → Int → Prop} {f_cells : Nat → Int32} {f_sizes : Nat → Int32} {f_keys : Nat → Int32} {f_maps : Nat → Int32} {f_mapCount : Int32} {f_atoms : Nat → Int32} {f_atomCount : Int32} {f_spans : Nat → Int32} {f_spanCount : Int32} {f_unions : Nat → Int32} {f_unionCount : Int32} {f_isLarge : Int32} {f_trial : Nat → Int32} {f_rowAt : Nat → Int32} {f_answers : Nat → Int32} {f_foundBy : Nat → Int32} {f_firstBy : Nat → Int32} {f_lastBy : Nat → Int32} {f_order : Nat → Int32} {f_answerCount : Int32} {f_asked : Nat → Int32} {f_tooMany : Int32} (X : kX p s m args meth c cX54_triples 8 RX54 (some .int) (dC, dI) cl (tX54 d)) {K198 : Int → Prop} {x1 : Int32} {x2 : Int32} {x3 : Int32} {f_thrown : Int32} (hk198 : ∀ (x4 : Int32), K198 x4.toInt → ∀ (H : Heap) (locs : List Loc) (ls : Array Slot), kH (dC, dI) cl A s.heap H locs (wX54 ci ad d f_thrown f_cells f_sizes f_keys f_maps f_mapCount f_atoms f_atomCount f_spans f_spanCount f_unions f_unionCount f_isLarge f_trial f_rowAt f_answers f_foundBy f_firstBy f_lastBy f_order f_answerCount f_asked f_tooMany) → lv_has ls 8 [(0, .ref (ad 0)), (1, .int x1), (2, .int x2), (3, .int x3), (4, .int x4)] → W p l e ({ frames := 2, cells := 0, slots := 0, locals := 46 } : Room) s m args below meth c H locs 0 0 (MQ below (va_Qi (fun (r : Int32) (u : Int32) => post r.toInt (u).toInt) (kB (dC, dI) cl (tX54 d) A (fun u : Int32 => (wX54 ci ad d (u) f_cells f_sizes f_keys f_maps f_mapCount f_atoms f_atomCount f_spans f_spanCount f_unions f_unionCount f_isLarge f_trial f_rowAt f_answers f_foundBy f_firstBy f_lastBy f_order f_answerCount f_asked f_tooMany))) A) args s 0 0 A) (F0 m 198 ls [])) :
    ∀ (nn : Nat) (x4 : Int32) (x5 : Int32), wX54_triples_43 K198 x2.toInt x3.toInt (zF f_cells) (zF f_sizes) (zF f_maps) f_mapCount.toInt nn x4.toInt x5.toInt → ∀ (H : Heap) (locs : List Loc) (ls : Array Slot), kH (dC, dI) cl A s.heap H locs (wX54 ci ad d f_thrown f_cells f_sizes f_keys f_maps f_mapCount f_atoms f_atomCount f_spans f_spanCount f_unions f_unionCount f_isLarge f_trial f_rowAt f_answers f_foundBy f_firstBy f_lastBy f_order f_answerCount f_asked f_tooMany) → lv_has ls 8 [(0, .ref (ad 0)), (1, .int x1), (2, .int x2), (3, .int x3), (4, .int x4), (5, .int x5)] → W p l e ({ frames := 2, cells := 0, slots := 0, locals := 46 } : Room) s m args below meth c H locs 0 0 (MQ below (va_Qi (fun (r : Int32) (u : Int32) => post r.toInt (u).toInt) (kB (dC, dI) cl (tX54 d) A (fun u : Int32 => (wX54 ci ad d (u) f_cells f_sizes f_keys f_maps f_mapCount f_atoms f_atomCount f_spans f_spanCount f_unions f_unionCount f_isLarge f_trial f_rowAt f_answers f_foundBy f_firstBy f_lastBy f_order f_answerCount f_asked f_tooMany))) A) args s 0 0 A) (F0 m 43 ls []) := by
  have hx := X.1.1
  have hb := X.1.2.1
  intro nn
  induction nn with
  | zero =>
    intro x4 x5 hw
    exact False.elim hw
  | succ n ih =>
    intro x4 x5 hw H locs ls hH hl
    rw [wX54_triples_43] at hw
    refine lv_iload hx hb dX54_triples_43 (lv_at hl 5 rfl) ?_
    refine lv_aload_n hx hb dX54_triples_45 rfl (lv_at hl 0 rfl) ?_
    refine k_get X hH in_X54 0 rfl hc 5 (by decide) q6505 rfl dX54_triples_46 ?_
    refine lv_icmp_ge (tgt := 198) hx hb dX54_triples_49 (by decide) (fun c_9 => ?_) (fun c_9 => ?_)
    · have hw := hw.1 (z_le (rfl : f_mapCount.toInt = _) (rfl : x5.toInt = _) c_9)
      exact hk198 x4 hw _ _ ls hH (lv_sub hl [0, 1, 2, 3, 4] rfl)
    · have hw := hw.2 (z_nle (rfl : f_mapCount.toInt = _) (rfl : x5.toInt = _) c_9)
      refine lv_iload hx hb dX54_triples_52 (lv_at hl 4 rfl) ?_
      refine lv_if_ne (tgt := 198) hx hb dX54_triples_54 (by decide) (fun c_10 => ?_) (fun c_10 => ?_)
      · have hw := hw.2 (z_ne (rfl : x4.toInt = _) (rfl : (0 : Int32).toInt = 0) c_10)
        exact hk198 x4 hw _ _ ls hH (lv_sub hl [0, 1, 2, 3, 4] rfl)
      · have hw := hw.1 (z_eq (rfl : x4.toInt = _) (rfl : (0 : Int32).toInt = 0) c_10)
        refine lv_iconst (v := 0) hx hb dX54_triples_57 (by decide) ?_
        refine lv_istore (lv' := [(6, .int 0), (0, .ref (ad 0)), (1, .int x1), (2, .int x2), (3, .int x3), (4, .int x4), (5, .int x5)]) hx hb dX54_triples_58 hl (by decide) rfl (fun ls hl => ?_)
        obtain ⟨fu, hw⟩ := hw
        refine atX54_triples_60 hc X ?_ fu x4 0 hw _ _ ls hH (lv_sub hl [1, 2, 3, 4, 5, 6, 0] rfl)
        · intro x4_50 hw H locs ls hH hl
          have hq_52 := hw.1
          have hw := hw.2
          obtain ⟨x5_51, ex5_51⟩ : ∃ y : Int32, y = x5 + 1 := ⟨_, rfl⟩
          have hw := hw x5_51.toInt (by rw [ex5_51]; exact (z_x (z_add (z_m (rfl : x5.toInt = _)) (z_m (rfl : (1 : Int32).toInt = 1))) hq_52))
          refine lv_iinc (v := x5_51) (lv' := [(5, .int x5_51), (0, .ref (ad 0)), (1, .int x1), (2, .int x2), (3, .int x3), (4, .int x4_50)]) hx hb dX54_triples_192 hl (k := 5) rfl (by rw [ex5_51]; rfl) (by decide) rfl (fun ls hl => ?_)
          refine lv_goto (tgt := 43) hx hb dX54_triples_195 (by decide) ?_
          exact ih x4_50 x5_51 hw _ _ ls hH (lv_sub hl [1, 2, 3, 4, 5, 0] rfl)
set_option maxHeartbeats 4000000 in
theorem atX54_triples_198 {p : Program} {l : Launch} {e : Env} {s : State} {m : MethodId} {args : Array Value} {below : List Frame} {meth : Method} {c : Code} {dC : Nat → ClassId} {dI : Nat → Nat → Nat} {cl : List vw_C} {ci : Nat} (hc : cl[ci]? = some (RX54, TX54, 23)) {ad : Nat → Nat} {d : Nat → ClassId} {A : Nat → Prop} {post : Int → Int → Prop} {f_cells : Nat → Int32} {f_sizes : Nat → Int32} {f_keys : Nat → Int32} {f_maps : Nat → Int32} {f_mapCount : Int32} {f_atoms : Nat → Int32} {f_atomCount : Int32} {f_spans : Nat → Int32} {f_spanCount : Int32} {f_unions : Nat → Int32} {f_unionCount : Int32} {f_isLarge : Int32} {f_trial : Nat → Int32} {f_rowAt : Nat → Int32} {f_answers : Nat → Int32} {f_foundBy : Nat → Int32} {f_firstBy : Nat → Int32} {f_lastBy : Nat → Int32} {f_order : Nat → Int32} {f_answerCount : Int32} {f_asked : Nat → Int32} {f_tooMany : Int32} (X : kX p s m args meth c cX54_triples 8 RX54 (some .int) (dC, dI) cl (tX54 d)) {K19 : Int → Int → Prop} {x2 : Int32} {f_thrown : Int32} (hk19 : ∀ (x1 : Int32) (x3 : Int32), K19 x1.toInt x3.toInt → ∀ (H : Heap) (locs : List Loc) (ls : Array Slot), kH (dC, dI) cl A s.heap H locs (wX54 ci ad d f_thrown f_cells f_sizes f_keys f_maps f_mapCount f_atoms f_atomCount f_spans f_spanCount f_unions f_unionCount f_isLarge f_trial f_rowAt f_answers f_foundBy f_firstBy f_lastBy f_order f_answerCount f_asked f_tooMany) → lv_has ls 8 [(0, .ref (ad 0)), (1, .int x1), (2, .int x2), (3, .int x3)] → W p l e ({ frames := 2, cells := 0, slots := 0, locals := 46 } : Room) s m args below meth c H locs 0 0 (MQ below (va_Qi (fun (r : Int32) (u : Int32) => post r.toInt (u).toInt) (kB (dC, dI) cl (tX54 d) A (fun u : Int32 => (wX54 ci ad d (u) f_cells f_sizes f_keys f_maps f_mapCount f_atoms f_atomCount f_spans f_spanCount f_unions f_unionCount f_isLarge f_trial f_rowAt f_answers f_foundBy f_firstBy f_lastBy f_order f_answerCount f_asked f_tooMany))) A) args s 0 0 A) (F0 m 19 ls [])) :
    ∀ (x1 : Int32) (x3 : Int32) (x4 : Int32), wX54_triples_198 K19 x1.toInt x3.toInt x4.toInt → ∀ (H : Heap) (locs : List Loc) (ls : Array Slot), kH (dC, dI) cl A s.heap H locs (wX54 ci ad d f_thrown f_cells f_sizes f_keys f_maps f_mapCount f_atoms f_atomCount f_spans f_spanCount f_unions f_unionCount f_isLarge f_trial f_rowAt f_answers f_foundBy f_firstBy f_lastBy f_order f_answerCount f_asked f_tooMany) → lv_has ls 8 [(0, .ref (ad 0)), (1, .int x1), (2, .int x2), (3, .int x3), (4, .int x4)] → W p l e ({ frames := 2, cells := 0, slots := 0, locals := 46 } : Room) s m args below meth c H locs 0 0 (MQ below (va_Qi (fun (r : Int32) (u : Int32) => post r.toInt (u).toInt) (kB (dC, dI) cl (tX54 d) A (fun u : Int32 => (wX54 ci ad d (u) f_cells f_sizes f_keys f_maps f_mapCount f_atoms f_atomCount f_spans f_spanCount f_unions f_unionCount f_isLarge f_trial f_rowAt f_answers f_foundBy f_firstBy f_lastBy f_order f_answerCount f_asked f_tooMany))) A) args s 0 0 A) (F0 m 198 ls []) := by
  have hx := X.1.1
  have hb := X.1.2.1
  intro x1 x3 x4 hw H locs ls hH hl
  unfold wX54_triples_198 at hw
  refine lv_iload_n hx hb dX54_triples_198 rfl (lv_at hl 1 rfl) ?_
  refine lv_iload hx hb dX54_triples_199 (lv_at hl 4 rfl) ?_
  refine lv_if_eq (tgt := 208) hx hb dX54_triples_201 (by decide) (fun c_54 => ?_) (fun c_54 => ?_)
  · have hw := hw.1 (z_eq (rfl : x4.toInt = _) (rfl : (0 : Int32).toInt = 0) c_54)
    refine lv_iconst (v := 1) hx hb dX54_triples_208 (by decide) ?_
    refine lv_iadd hx hb dX54_triples_209 ?_
    have e_55 := z_add (z_m (rfl : x1.toInt = _)) (z_m (rfl : (1 : Int32).toInt = 1))
    have hq_56 := hw.1
    have hw := hw.2
    have e_57 := z_x e_55 hq_56
    refine lv_topi (fun x1_58 ex1_58 => ?_)
    have hw := hw x1_58.toInt (by rw [ex1_58]; exact e_57)
    refine lv_istore_n (lv' := [(1, .int x1_58), (0, .ref (ad 0)), (2, .int x2), (3, .int x3), (4, .int x4)]) hx hb dX54_triples_210 rfl hl (by decide) rfl (fun ls hl => ?_)
    have hq_60 := hw.1
    have hw := hw.2
    obtain ⟨x3_59, ex3_59⟩ : ∃ y : Int32, y = x3 + 1 := ⟨_, rfl⟩
    have hw := hw x3_59.toInt (by rw [ex3_59]; exact (z_x (z_add (z_m (rfl : x3.toInt = _)) (z_m (rfl : (1 : Int32).toInt = 1))) hq_60))
    refine lv_iinc (v := x3_59) (lv' := [(3, .int x3_59), (1, .int x1_58), (0, .ref (ad 0)), (2, .int x2), (4, .int x4)]) hx hb dX54_triples_211 hl (k := 3) rfl (by rw [ex3_59]; rfl) (by decide) rfl (fun ls hl => ?_)
    refine lv_goto (tgt := 19) hx hb dX54_triples_214 (by decide) ?_
    exact hk19 x1_58 x3_59 hw _ _ ls hH (lv_sub hl [2, 1, 3, 0] rfl)
  · have hw := hw.2 (z_neq (rfl : x4.toInt = _) (rfl : (0 : Int32).toInt = 0) c_54)
    refine lv_iconst (v := 0) hx hb dX54_triples_204 (by decide) ?_
    refine lv_goto (tgt := 209) hx hb dX54_triples_205 (by decide) ?_
    refine lv_iadd hx hb dX54_triples_209 ?_
    have e_61 := z_add (z_m (rfl : x1.toInt = _)) (z_m (rfl : (0 : Int32).toInt = 0))
    have hq_62 := hw.1
    have hw := hw.2
    have e_63 := z_x e_61 hq_62
    refine lv_topi (fun x1_64 ex1_64 => ?_)
    have hw := hw x1_64.toInt (by rw [ex1_64]; exact e_63)
    refine lv_istore_n (lv' := [(1, .int x1_64), (0, .ref (ad 0)), (2, .int x2), (3, .int x3), (4, .int x4)]) hx hb dX54_triples_210 rfl hl (by decide) rfl (fun ls hl => ?_)
    have hq_66 := hw.1
    have hw := hw.2
    obtain ⟨x3_65, ex3_65⟩ : ∃ y : Int32, y = x3 + 1 := ⟨_, rfl⟩
    have hw := hw x3_65.toInt (by rw [ex3_65]; exact (z_x (z_add (z_m (rfl : x3.toInt = _)) (z_m (rfl : (1 : Int32).toInt = 1))) hq_66))
    refine lv_iinc (v := x3_65) (lv' := [(3, .int x3_65), (1, .int x1_64), (0, .ref (ad 0)), (2, .int x2), (4, .int x4)]) hx hb dX54_triples_211 hl (k := 3) rfl (by rw [ex3_65]; rfl) (by decide) rfl (fun ls hl => ?_)
    refine lv_goto (tgt := 19) hx hb dX54_triples_214 (by decide) ?_
    exact hk19 x1_64 x3_65 hw _ _ ls hH (lv_sub hl [2, 1, 3, 0] rfl)
set_option maxHeartbeats 4000000 in
theorem atX54_triples_19 {p : Program} {l : Launch} {e : Env} {s : State} {m : MethodId} {args : Array Value} {below : List Frame} {meth : Method} {c : Code} {dC : Nat → ClassId} {dI : Nat → Nat → Nat} {cl : List vw_C} {ci : Nat} (hc : cl[ci]? = some (RX54, TX54, 23)) {ad : Nat → Nat} {d : Nat → ClassId} {A : Nat → Prop} {post : Int → Int → Prop} {f_cells : Nat → Int32} {f_sizes : Nat → Int32} {f_keys : Nat → Int32} {f_maps : Nat → Int32} {f_mapCount : Int32} {f_atoms : Nat → Int32} {f_atomCount : Int32} {f_spans : Nat → Int32} {f_spanCount : Int32} {f_unions : Nat → Int32} {f_unionCount : Int32} {f_isLarge : Int32} {f_trial : Nat → Int32} {f_rowAt : Nat → Int32} {f_answers : Nat → Int32} {f_foundBy : Nat → Int32} {f_firstBy : Nat → Int32} {f_lastBy : Nat → Int32} {f_order : Nat → Int32} {f_answerCount : Int32} {f_asked : Nat → Int32} {f_tooMany : Int32} (X : kX p s m args meth c cX54_triples 8 RX54 (some .int) (dC, dI) cl (tX54 d)) {K217 : Int → Prop} {x2 : Int32} {f_thrown : Int32} (hk217 : ∀ (x1 : Int32), K217 x1.toInt → ∀ (H : Heap) (locs : List Loc) (ls : Array Slot), kH (dC, dI) cl A s.heap H locs (wX54 ci ad d f_thrown f_cells f_sizes f_keys f_maps f_mapCount f_atoms f_atomCount f_spans f_spanCount f_unions f_unionCount f_isLarge f_trial f_rowAt f_answers f_foundBy f_firstBy f_lastBy f_order f_answerCount f_asked f_tooMany) → lv_has ls 8 [(0, .ref (ad 0)), (1, .int x1), (2, .int x2)] → W p l e ({ frames := 2, cells := 0, slots := 0, locals := 46 } : Room) s m args below meth c H locs 0 0 (MQ below (va_Qi (fun (r : Int32) (u : Int32) => post r.toInt (u).toInt) (kB (dC, dI) cl (tX54 d) A (fun u : Int32 => (wX54 ci ad d (u) f_cells f_sizes f_keys f_maps f_mapCount f_atoms f_atomCount f_spans f_spanCount f_unions f_unionCount f_isLarge f_trial f_rowAt f_answers f_foundBy f_firstBy f_lastBy f_order f_answerCount f_asked f_tooMany))) A) args s 0 0 A) (F0 m 217 ls [])) :
    ∀ (nn : Nat) (x1 : Int32) (x3 : Int32), wX54_triples_19 K217 x2.toInt (zF f_cells) (zF f_sizes) (zF f_maps) f_mapCount.toInt nn x1.toInt x3.toInt → ∀ (H : Heap) (locs : List Loc) (ls : Array Slot), kH (dC, dI) cl A s.heap H locs (wX54 ci ad d f_thrown f_cells f_sizes f_keys f_maps f_mapCount f_atoms f_atomCount f_spans f_spanCount f_unions f_unionCount f_isLarge f_trial f_rowAt f_answers f_foundBy f_firstBy f_lastBy f_order f_answerCount f_asked f_tooMany) → lv_has ls 8 [(0, .ref (ad 0)), (1, .int x1), (2, .int x2), (3, .int x3)] → W p l e ({ frames := 2, cells := 0, slots := 0, locals := 46 } : Room) s m args below meth c H locs 0 0 (MQ below (va_Qi (fun (r : Int32) (u : Int32) => post r.toInt (u).toInt) (kB (dC, dI) cl (tX54 d) A (fun u : Int32 => (wX54 ci ad d (u) f_cells f_sizes f_keys f_maps f_mapCount f_atoms f_atomCount f_spans f_spanCount f_unions f_unionCount f_isLarge f_trial f_rowAt f_answers f_foundBy f_firstBy f_lastBy f_order f_answerCount f_asked f_tooMany))) A) args s 0 0 A) (F0 m 19 ls []) := by
  have hx := X.1.1
  have hb := X.1.2.1
  intro nn
  induction nn with
  | zero =>
    intro x1 x3 hw
    exact False.elim hw
  | succ n ih =>
    intro x1 x3 hw H locs ls hH hl
    rw [wX54_triples_19] at hw
    refine lv_iload_n hx hb dX54_triples_19 rfl (lv_at hl 3 rfl) ?_
    refine lv_aload_n hx hb dX54_triples_20 rfl (lv_at hl 0 rfl) ?_
    refine k_get X hH in_X54 0 rfl hc 2 (by decide) q6502 rfl dX54_triples_21 ?_
    refine lv_aload_n hx hb dX54_triples_24 rfl (lv_at hl 0 rfl) ?_
    refine k_get X hH in_X54 0 rfl hc 4 (by decide) q6504 rfl dX54_triples_25 ?_
    refine lv_bipush (v := 6) hx hb dX54_triples_28 (by decide) ?_
    refine lv_iload_n hx hb dX54_triples_30 rfl (lv_at hl 2 rfl) ?_
    refine lv_imul hx hb dX54_triples_31 ?_
    have e_2 := z_mul (z_m (rfl : (6 : Int32).toInt = 6)) (z_m (rfl : x2.toInt = _))
    have hq_3 := hw.1
    have hw := hw.2
    have e_4 := z_xi e_2 hq_3 (by decide)
    refine k_iald X hH 4 3 rfl rfl (z_in e_4 hq_3) dX54_triples_32 ?_
    have e_5 := z_ld (f := f_maps) e_4 hq_3.1
    have hq_6 := hw.1
    have hw := hw.2
    refine k_iald X hH 2 1 rfl rfl (z_in e_5 hq_6) dX54_triples_33 ?_
    have e_7 := z_ld (f := f_sizes) e_5 hq_6.1
    refine lv_icmp_ge (tgt := 217) hx hb dX54_triples_34 (by decide) (fun c_8 => ?_) (fun c_8 => ?_)
    · have hw := hw.1 (z_le e_7 (rfl : x3.toInt = _) c_8)
      exact hk217 x1 hw _ _ ls hH (lv_sub hl [0, 1, 2] rfl)
    · have hw := hw.2 (z_nle e_7 (rfl : x3.toInt = _) c_8)
      refine lv_iconst (v := 0) hx hb dX54_triples_37 (by decide) ?_
      refine lv_istore (lv' := [(4, .int 0), (0, .ref (ad 0)), (1, .int x1), (2, .int x2), (3, .int x3)]) hx hb dX54_triples_38 hl (by decide) rfl (fun ls hl => ?_)
      refine lv_iconst (v := 0) hx hb dX54_triples_40 (by decide) ?_
      refine lv_istore (lv' := [(5, .int 0), (4, .int 0), (0, .ref (ad 0)), (1, .int x1), (2, .int x2), (3, .int x3)]) hx hb dX54_triples_41 hl (by decide) rfl (fun ls hl => ?_)
      obtain ⟨fu, hw⟩ := hw
      refine atX54_triples_43 hc X ?_ fu 0 0 hw _ _ ls hH (lv_sub hl [2, 3, 4, 5, 1, 0] rfl)
      · intro x4_53 hw H locs ls hH hl
        exact atX54_triples_198 hc X (fun x1 x3 hw H locs ls hH hl => ih x1 x3 hw _ _ ls hH (lv_sub hl [0, 1, 2, 3] rfl)) x1 x3 x4_53 hw _ _ ls hH (lv_sub hl [0, 1, 2, 3, 4] rfl)
set_option maxHeartbeats 4000000 in
theorem atX54_triples_9 {p : Program} {l : Launch} {e : Env} {s : State} {m : MethodId} {args : Array Value} {below : List Frame} {meth : Method} {c : Code} {dC : Nat → ClassId} {dI : Nat → Nat → Nat} {cl : List vw_C} {ci : Nat} (hc : cl[ci]? = some (RX54, TX54, 23)) {ad : Nat → Nat} {d : Nat → ClassId} {A : Nat → Prop} {post : Int → Int → Prop} {f_cells : Nat → Int32} {f_sizes : Nat → Int32} {f_keys : Nat → Int32} {f_maps : Nat → Int32} {f_mapCount : Int32} {f_atoms : Nat → Int32} {f_atomCount : Int32} {f_spans : Nat → Int32} {f_spanCount : Int32} {f_unions : Nat → Int32} {f_unionCount : Int32} {f_isLarge : Int32} {f_trial : Nat → Int32} {f_rowAt : Nat → Int32} {f_answers : Nat → Int32} {f_foundBy : Nat → Int32} {f_firstBy : Nat → Int32} {f_lastBy : Nat → Int32} {f_order : Nat → Int32} {f_answerCount : Int32} {f_asked : Nat → Int32} {f_tooMany : Int32} (X : kX p s m args meth c cX54_triples 8 RX54 (some .int) (dC, dI) cl (tX54 d)) {K223 : Int → Prop}  {f_thrown : Int32} (hk223 : ∀ (x1 : Int32), K223 x1.toInt → ∀ (H : Heap) (locs : List Loc) (ls : Array Slot), kH (dC, dI) cl A s.heap H locs (wX54 ci ad d f_thrown f_cells f_sizes f_keys f_maps f_mapCount f_atoms f_atomCount f_spans f_spanCount f_unions f_unionCount f_isLarge f_trial f_rowAt f_answers f_foundBy f_firstBy f_lastBy f_order f_answerCount f_asked f_tooMany) → lv_has ls 8 [(1, .int x1)] → W p l e ({ frames := 2, cells := 0, slots := 0, locals := 46 } : Room) s m args below meth c H locs 0 0 (MQ below (va_Qi (fun (r : Int32) (u : Int32) => post r.toInt (u).toInt) (kB (dC, dI) cl (tX54 d) A (fun u : Int32 => (wX54 ci ad d (u) f_cells f_sizes f_keys f_maps f_mapCount f_atoms f_atomCount f_spans f_spanCount f_unions f_unionCount f_isLarge f_trial f_rowAt f_answers f_foundBy f_firstBy f_lastBy f_order f_answerCount f_asked f_tooMany))) A) args s 0 0 A) (F0 m 223 ls [])) :
    ∀ (nn : Nat) (x1 : Int32) (x2 : Int32), wX54_triples_9 K223 (zF f_cells) (zF f_sizes) (zF f_maps) f_mapCount.toInt nn x1.toInt x2.toInt → ∀ (H : Heap) (locs : List Loc) (ls : Array Slot), kH (dC, dI) cl A s.heap H locs (wX54 ci ad d f_thrown f_cells f_sizes f_keys f_maps f_mapCount f_atoms f_atomCount f_spans f_spanCount f_unions f_unionCount f_isLarge f_trial f_rowAt f_answers f_foundBy f_firstBy f_lastBy f_order f_answerCount f_asked f_tooMany) → lv_has ls 8 [(0, .ref (ad 0)), (1, .int x1), (2, .int x2)] → W p l e ({ frames := 2, cells := 0, slots := 0, locals := 46 } : Room) s m args below meth c H locs 0 0 (MQ below (va_Qi (fun (r : Int32) (u : Int32) => post r.toInt (u).toInt) (kB (dC, dI) cl (tX54 d) A (fun u : Int32 => (wX54 ci ad d (u) f_cells f_sizes f_keys f_maps f_mapCount f_atoms f_atomCount f_spans f_spanCount f_unions f_unionCount f_isLarge f_trial f_rowAt f_answers f_foundBy f_firstBy f_lastBy f_order f_answerCount f_asked f_tooMany))) A) args s 0 0 A) (F0 m 9 ls []) := by
  have hx := X.1.1
  have hb := X.1.2.1
  intro nn
  induction nn with
  | zero =>
    intro x1 x2 hw
    exact False.elim hw
  | succ n ih =>
    intro x1 x2 hw H locs ls hH hl
    rw [wX54_triples_9] at hw
    refine lv_iload_n hx hb dX54_triples_9 rfl (lv_at hl 2 rfl) ?_
    refine lv_aload_n hx hb dX54_triples_10 rfl (lv_at hl 0 rfl) ?_
    refine k_get X hH in_X54 0 rfl hc 5 (by decide) q6505 rfl dX54_triples_11 ?_
    refine lv_icmp_ge (tgt := 223) hx hb dX54_triples_14 (by decide) (fun c_1 => ?_) (fun c_1 => ?_)
    · have hw := hw.1 (z_le (rfl : f_mapCount.toInt = _) (rfl : x2.toInt = _) c_1)
      exact hk223 x1 hw _ _ ls hH (lv_sub hl [1] rfl)
    · have hw := hw.2 (z_nle (rfl : f_mapCount.toInt = _) (rfl : x2.toInt = _) c_1)
      refine lv_iconst (v := 0) hx hb dX54_triples_17 (by decide) ?_
      refine lv_istore_n (lv' := [(3, .int 0), (0, .ref (ad 0)), (1, .int x1), (2, .int x2)]) hx hb dX54_triples_18 rfl hl (by decide) rfl (fun ls hl => ?_)
      obtain ⟨fu, hw⟩ := hw
      refine atX54_triples_19 hc X ?_ fu x1 0 hw _ _ ls hH (lv_sub hl [1, 2, 3, 0] rfl)
      · intro x1_67 hw H locs ls hH hl
        have hq_69 := hw.1
        have hw := hw.2
        obtain ⟨x2_68, ex2_68⟩ : ∃ y : Int32, y = x2 + 1 := ⟨_, rfl⟩
        have hw := hw x2_68.toInt (by rw [ex2_68]; exact (z_x (z_add (z_m (rfl : x2.toInt = _)) (z_m (rfl : (1 : Int32).toInt = 1))) hq_69))
        refine lv_iinc (v := x2_68) (lv' := [(2, .int x2_68), (0, .ref (ad 0)), (1, .int x1_67)]) hx hb dX54_triples_217 hl (k := 2) rfl (by rw [ex2_68]; rfl) (by decide) rfl (fun ls hl => ?_)
        refine lv_goto (tgt := 9) hx hb dX54_triples_220 (by decide) ?_
        exact ih x1_67 x2_68 hw _ _ ls hH (lv_sub hl [1, 2, 0] rfl)
set_option maxHeartbeats 4000000 in
theorem walkX54_triples {l : Launch} {dC : Nat → ClassId} {dI : Nat → Nat → Nat} {cl : List vw_C} {ci : Nat} (hc : cl[ci]? = some (RX54, TX54, 23)) {ad : Nat → Nat} {d : Nat → ClassId} {sz : Nat} {f_thrown : Int32} {f_cells : Nat → Int32} {f_sizes : Nat → Int32} {f_keys : Nat → Int32} {f_maps : Nat → Int32} {f_mapCount : Int32} {f_atoms : Nat → Int32} {f_atomCount : Int32} {f_spans : Nat → Int32} {f_spanCount : Int32} {f_unions : Nat → Int32} {f_unionCount : Int32} {f_isLarge : Int32} {f_trial : Nat → Int32} {f_rowAt : Nat → Int32} {f_answers : Nat → Int32} {f_foundBy : Nat → Int32} {f_firstBy : Nat → Int32} {f_lastBy : Nat → Int32} {f_order : Nat → Int32} {f_answerCount : Int32} {f_asked : Nat → Int32} {f_tooMany : Int32}  {post : Int → Int → Prop} (hw : wpX54_triples post (zF f_cells) (zF f_sizes) (zF f_maps) f_mapCount.toInt ) :
    Met l yX54_triples (ws_ yX54_triples cX54_triples 8 (some .int)) ({ frames := 2, cells := 0, slots := 0, locals := 46 } : Room) (kPc (dC, dI) cl (tX54 d) [.ref (ad 0)] sz (wX54 ci ad d f_thrown f_cells f_sizes f_keys f_maps f_mapCount f_atoms f_atomCount f_spans f_spanCount f_unions f_unionCount f_isLarge f_trial f_rowAt f_answers f_foundBy f_firstBy f_lastBy f_order f_answerCount f_asked f_tooMany)) (va_Qi (fun (r : Int32) (u : Int32) => post r.toInt (u).toInt) (kB (dC, dI) cl (tX54 d) (va_A (wX54 ci ad d f_thrown f_cells f_sizes f_keys f_maps f_mapCount f_atoms f_atomCount f_spans f_spanCount f_unions f_unionCount f_isLarge f_trial f_rowAt f_answers f_foundBy f_firstBy f_lastBy f_order f_answerCount f_asked f_tooMany) sz) (fun u : Int32 => (wX54 ci ad d (u) f_cells f_sizes f_keys f_maps f_mapCount f_atoms f_atomCount f_spans f_spanCount f_unions f_unionCount f_isLarge f_trial f_rowAt f_answers f_foundBy f_firstBy f_lastBy f_order f_answerCount f_asked f_tooMany))) (va_A (wX54 ci ad d f_thrown f_cells f_sizes f_keys f_maps f_mapCount f_atoms f_atomCount f_spans f_spanCount f_unions f_unionCount f_isLarge f_trial f_rowAt f_answers f_foundBy f_firstBy f_lastBy f_order f_answerCount f_asked f_tooMany) sz)) 0 0 (va_A (wX54 ci ad d f_thrown f_cells f_sizes f_keys f_maps f_mapCount f_atoms f_atomCount f_spans f_spanCount f_unions f_unionCount f_isLarge f_trial f_rowAt f_answers f_foundBy f_firstBy f_lastBy f_order f_answerCount f_asked f_tooMany) sz) := by
  refine k_enter (by decide) (Nat.le_of_ble_eq_true rfl) ?_
  intro p e s m below meth c ls X hsz hH hl
  subst hsz
  generalize va_A (wX54 ci ad d f_thrown f_cells f_sizes f_keys f_maps f_mapCount f_atoms f_atomCount f_spans f_spanCount f_unions f_unionCount f_isLarge f_trial f_rowAt f_answers f_foundBy f_firstBy f_lastBy f_order f_answerCount f_asked f_tooMany) s.heap.size = A at hH ⊢
  have hx := X.1.1
  have hb := X.1.2.1
  have hl : lv_has ls 8 [(0, .ref (ad 0))] := hl
  unfold wpX54_triples at hw
  refine lv_aload_n hx hb dX54_triples_0 rfl (lv_at hl 0 rfl) ?_
  refine lv_iconst (v := 0) hx hb dX54_triples_1 (by decide) ?_
  refine k_put X hH in_X54 tyX54_ok nmX54 0 rfl hc 0 (by decide) q6500 rfl (ty := .int) rfl rfl rfl (Nat.le_of_ble_eq_true rfl) dX54_triples_2 (ws1 := (wX54 ci ad d 0 f_cells f_sizes f_keys f_maps f_mapCount f_atoms f_atomCount f_spans f_spanCount f_unions f_unionCount f_isLarge f_trial f_rowAt f_answers f_foundBy f_firstBy f_lastBy f_order f_answerCount f_asked f_tooMany)) rfl (fun H locs hH => ?_)
  refine lv_iconst (v := 0) hx hb dX54_triples_5 (by decide) ?_
  refine lv_istore_n (lv' := [(1, .int 0), (0, .ref (ad 0))]) hx hb dX54_triples_6 rfl hl (by decide) rfl (fun ls hl => ?_)
  refine lv_iconst (v := 0) hx hb dX54_triples_7 (by decide) ?_
  refine lv_istore_n (lv' := [(2, .int 0), (1, .int 0), (0, .ref (ad 0))]) hx hb dX54_triples_8 rfl hl (by decide) rfl (fun ls hl => ?_)
  obtain ⟨fu, hw⟩ := hw
  refine atX54_triples_9 hc X ?_ fu 0 0 hw _ _ ls hH (lv_sub hl [2, 1, 0] rfl)
  · intro x1_70 hw H locs ls hH hl
    refine lv_iload_n hx hb dX54_triples_223 rfl (lv_at hl 0 rfl) ?_
    exact k_iret (v := x1_70) X hH (0) hw rfl rfl dX54_triples_224
set_option maxHeartbeats 4000000 in
theorem walkX54_atom {l : Launch} {dC : Nat → ClassId} {dI : Nat → Nat → Nat} {cl : List vw_C} {ci : Nat} (hc : cl[ci]? = some (RX54, TX54, 23)) {ad : Nat → Nat} {d : Nat → ClassId} {sz : Nat} {f_thrown : Int32} {f_cells : Nat → Int32} {f_sizes : Nat → Int32} {f_keys : Nat → Int32} {f_maps : Nat → Int32} {f_mapCount : Int32} {f_atoms : Nat → Int32} {f_atomCount : Int32} {f_spans : Nat → Int32} {f_spanCount : Int32} {f_unions : Nat → Int32} {f_unionCount : Int32} {f_isLarge : Int32} {f_trial : Nat → Int32} {f_rowAt : Nat → Int32} {f_answers : Nat → Int32} {f_foundBy : Nat → Int32} {f_firstBy : Nat → Int32} {f_lastBy : Nat → Int32} {f_order : Nat → Int32} {f_answerCount : Int32} {f_asked : Nat → Int32} {f_tooMany : Int32} {x1 : Int32} {x2 : Int32} {x3 : Int32} {post : Int → Int → (Int → Int) → Int → Prop} (hw : wpX54_atom post (zF f_atoms) f_atomCount.toInt x1.toInt x2.toInt x3.toInt) :
    Met l yX54_atom (ws_ yX54_atom cX54_atom 4 (some .int)) ({ frames := 1, cells := 0, slots := 0, locals := 21 } : Room) (kPc (dC, dI) cl (tX54 d) [.ref (ad 0), .int x1, .int x2, .int x3] sz (wX54 ci ad d f_thrown f_cells f_sizes f_keys f_maps f_mapCount f_atoms f_atomCount f_spans f_spanCount f_unions f_unionCount f_isLarge f_trial f_rowAt f_answers f_foundBy f_firstBy f_lastBy f_order f_answerCount f_asked f_tooMany)) (va_Qi (fun (r : Int32) (u : Int32 × (Nat → Int32) × Int32) => post r.toInt (u.1).toInt (zF (u.2.1)) (u.2.2).toInt) (kB (dC, dI) cl (tX54 d) (va_A (wX54 ci ad d f_thrown f_cells f_sizes f_keys f_maps f_mapCount f_atoms f_atomCount f_spans f_spanCount f_unions f_unionCount f_isLarge f_trial f_rowAt f_answers f_foundBy f_firstBy f_lastBy f_order f_answerCount f_asked f_tooMany) sz) (fun u : Int32 × (Nat → Int32) × Int32 => (wX54 ci ad d (u.1) f_cells f_sizes f_keys f_maps f_mapCount (u.2.1) (u.2.2) f_spans f_spanCount f_unions f_unionCount f_isLarge f_trial f_rowAt f_answers f_foundBy f_firstBy f_lastBy f_order f_answerCount f_asked f_tooMany))) (va_A (wX54 ci ad d f_thrown f_cells f_sizes f_keys f_maps f_mapCount f_atoms f_atomCount f_spans f_spanCount f_unions f_unionCount f_isLarge f_trial f_rowAt f_answers f_foundBy f_firstBy f_lastBy f_order f_answerCount f_asked f_tooMany) sz)) 0 0 (va_A (wX54 ci ad d f_thrown f_cells f_sizes f_keys f_maps f_mapCount f_atoms f_atomCount f_spans f_spanCount f_unions f_unionCount f_isLarge f_trial f_rowAt f_answers f_foundBy f_firstBy f_lastBy f_order f_answerCount f_asked f_tooMany) sz) := by
  refine k_enter (by decide) (Nat.le_of_ble_eq_true rfl) ?_
  intro p e s m below meth c ls X hsz hH hl
  subst hsz
  generalize va_A (wX54 ci ad d f_thrown f_cells f_sizes f_keys f_maps f_mapCount f_atoms f_atomCount f_spans f_spanCount f_unions f_unionCount f_isLarge f_trial f_rowAt f_answers f_foundBy f_firstBy f_lastBy f_order f_answerCount f_asked f_tooMany) s.heap.size = A at hH ⊢
  have hx := X.1.1
  have hb := X.1.2.1
  have hl : lv_has ls 4 [(0, .ref (ad 0)), (1, .int x1), (2, .int x2), (3, .int x3)] := hl
  unfold wpX54_atom at hw
  refine lv_aload_n hx hb dX54_atom_0 rfl (lv_at hl 0 rfl) ?_
  refine lv_iconst (v := 0) hx hb dX54_atom_1 (by decide) ?_
  refine k_put X hH in_X54 tyX54_ok nmX54 0 rfl hc 0 (by decide) q6500 rfl (ty := .int) rfl rfl rfl (Nat.le_of_ble_eq_true rfl) dX54_atom_2 (ws1 := (wX54 ci ad d 0 f_cells f_sizes f_keys f_maps f_mapCount f_atoms f_atomCount f_spans f_spanCount f_unions f_unionCount f_isLarge f_trial f_rowAt f_answers f_foundBy f_firstBy f_lastBy f_order f_answerCount f_asked f_tooMany)) rfl (fun H locs hH => ?_)
  refine lv_iload_n hx hb dX54_atom_5 rfl (lv_at hl 1 rfl) ?_
  refine lv_bipush (v := 8) hx hb dX54_atom_6 (by decide) ?_
  refine k_i0 hH (k_runS (As := [.int x1, .int 8]) (rest := []) X hH.1 hH.2.1 X.2.2.2 (walkX54_isIn hc (x0 := x1) (x1 := 8) (f_thrown := 0) (f_cells := f_cells) (f_sizes := f_sizes) (f_keys := f_keys) (f_maps := f_maps) (f_mapCount := f_mapCount) (f_atoms := f_atoms) (f_atomCount := f_atomCount) (f_spans := f_spans) (f_spanCount := f_spanCount) (f_unions := f_unions) (f_unionCount := f_unionCount) (f_isLarge := f_isLarge) (f_trial := f_trial) (f_rowAt := f_rowAt) (f_answers := f_answers) (f_foundBy := f_foundBy) (f_firstBy := f_firstBy) (f_lastBy := f_lastBy) (f_order := f_order) (f_answerCount := f_answerCount) (f_asked := f_asked) (f_tooMany := f_tooMany) hw) (va_cwS 2 X.1.2.2.2.2 gX54_64 rfl rfl rfl hX54_isIn ⟨Nat.le_of_ble_eq_true rfl, Nat.le_of_ble_eq_true rfl⟩) rfl hl.1 rfl (Nat.le_of_ble_eq_true rfl) dX54_atom_8 ⟨Nat.le_refl 0, Nat.le_refl 0⟩) (fun r_1 _ H locs hw hH => ?_)
  have hH : kH (dC, dI) cl A s.heap H locs (wX54 ci ad d 0 f_cells f_sizes f_keys f_maps f_mapCount f_atoms f_atomCount f_spans f_spanCount f_unions f_unionCount f_isLarge f_trial f_rowAt f_answers f_foundBy f_firstBy f_lastBy f_order f_answerCount f_asked f_tooMany) := hH
  refine lv_if_eq (tgt := 38) hx hb dX54_atom_11 (by decide) (fun c_2 => ?_) (fun c_2 => ?_)
  · have hw := hw.1 (z_eq (rfl : r_1.toInt = _) (rfl : (0 : Int32).toInt = 0) c_2)
    refine lv_iconst (v := (-1)) hx hb dX54_atom_38 (by decide) ?_
    exact k_iret (v := (-1)) X hH (0, f_atoms, f_atomCount) hw rfl rfl dX54_atom_39
  · have hw := hw.2 (z_neq (rfl : r_1.toInt = _) (rfl : (0 : Int32).toInt = 0) c_2)
    refine lv_iload_n hx hb dX54_atom_14 rfl (lv_at hl 2 rfl) ?_
    refine lv_bipush (v := (-6)) hx hb dX54_atom_15 (by decide) ?_
    refine lv_icmp_lt (tgt := 38) hx hb dX54_atom_17 (by decide) (fun c_3 => ?_) (fun c_3 => ?_)
    · have hw := hw.1 (z_lt (rfl : x2.toInt = _) (rfl : ((-6) : Int32).toInt = (-6)) c_3)
      refine lv_iconst (v := (-1)) hx hb dX54_atom_38 (by decide) ?_
      exact k_iret (v := (-1)) X hH (0, f_atoms, f_atomCount) hw rfl rfl dX54_atom_39
    · have hw := hw.2 (z_nlt (rfl : x2.toInt = _) (rfl : ((-6) : Int32).toInt = (-6)) c_3)
      refine lv_iload_n hx hb dX54_atom_20 rfl (lv_at hl 2 rfl) ?_
      refine lv_ldc (v := 60000) hx hb X.1.2.2.2.1 (X.1.2.2.2.2 _ q8681) dX54_atom_21 ?_
      refine lv_icmp_ge (tgt := 38) hx hb dX54_atom_23 (by decide) (fun c_4 => ?_) (fun c_4 => ?_)
      · have hw := hw.1 (z_le (rfl : (60000 : Int32).toInt = 60000) (rfl : x2.toInt = _) c_4)
        refine lv_iconst (v := (-1)) hx hb dX54_atom_38 (by decide) ?_
        exact k_iret (v := (-1)) X hH (0, f_atoms, f_atomCount) hw rfl rfl dX54_atom_39
      · have hw := hw.2 (z_nle (rfl : (60000 : Int32).toInt = 60000) (rfl : x2.toInt = _) c_4)
        refine lv_iload_n hx hb dX54_atom_26 rfl (lv_at hl 3 rfl) ?_
        refine lv_bipush (v := (-6)) hx hb dX54_atom_27 (by decide) ?_
        refine lv_icmp_lt (tgt := 38) hx hb dX54_atom_29 (by decide) (fun c_5 => ?_) (fun c_5 => ?_)
        · have hw := hw.1 (z_lt (rfl : x3.toInt = _) (rfl : ((-6) : Int32).toInt = (-6)) c_5)
          refine lv_iconst (v := (-1)) hx hb dX54_atom_38 (by decide) ?_
          exact k_iret (v := (-1)) X hH (0, f_atoms, f_atomCount) hw rfl rfl dX54_atom_39
        · have hw := hw.2 (z_nlt (rfl : x3.toInt = _) (rfl : ((-6) : Int32).toInt = (-6)) c_5)
          refine lv_iload_n hx hb dX54_atom_32 rfl (lv_at hl 3 rfl) ?_
          refine lv_ldc (v := 60000) hx hb X.1.2.2.2.1 (X.1.2.2.2.2 _ q8681) dX54_atom_33 ?_
          refine lv_icmp_lt (tgt := 40) hx hb dX54_atom_35 (by decide) (fun c_6 => ?_) (fun c_6 => ?_)
          · have hw := hw.1 (z_lt (rfl : x3.toInt = _) (rfl : (60000 : Int32).toInt = 60000) c_6)
            refine lv_aload_n hx hb dX54_atom_40 rfl (lv_at hl 0 rfl) ?_
            refine k_get X hH in_X54 0 rfl hc 7 (by decide) q6507 rfl dX54_atom_41 ?_
            refine lv_iconst (v := 4) hx hb dX54_atom_44 (by decide) ?_
            refine lv_icmp_ne (tgt := 51) hx hb dX54_atom_45 (by decide) (fun c_7 => ?_) (fun c_7 => ?_)
            · have hw := hw.2 (z_ne (rfl : f_atomCount.toInt = _) (rfl : (4 : Int32).toInt = 4) c_7)
              refine lv_aload_n hx hb dX54_atom_51 rfl (lv_at hl 0 rfl) ?_
              refine k_get X hH in_X54 0 rfl hc 6 (by decide) q6506 rfl dX54_atom_52 ?_
              refine lv_iconst (v := 3) hx hb dX54_atom_55 (by decide) ?_
              refine lv_aload_n hx hb dX54_atom_56 rfl (lv_at hl 0 rfl) ?_
              refine k_get X hH in_X54 0 rfl hc 7 (by decide) q6507 rfl dX54_atom_57 ?_
              refine lv_imul hx hb dX54_atom_60 ?_
              have e_8 := z_mul (z_m (rfl : (3 : Int32).toInt = 3)) (z_m (rfl : f_atomCount.toInt = _))
              refine lv_iload_n hx hb dX54_atom_61 rfl (lv_at hl 1 rfl) ?_
              have hq_10 := hw.1
              have hw := hw.2
              have e_11 := z_xi e_8 hq_10 (by decide)
              obtain ⟨f_atoms_9, ef_atoms_9⟩ : ∃ y : Nat → Int32, y = upd f_atoms (3 * f_atomCount).toNatClampNeg x1 := ⟨_, rfl⟩
              refine k_iast X hH 5 4 rfl rfl (z_in e_11 hq_10) dX54_atom_62 ef_atoms_9 (ws1 := (wX54 ci ad d 0 f_cells f_sizes f_keys f_maps f_mapCount f_atoms_9 f_atomCount f_spans f_spanCount f_unions f_unionCount f_isLarge f_trial f_rowAt f_answers f_foundBy f_firstBy f_lastBy f_order f_answerCount f_asked f_tooMany)) rfl (fun H locs hH => ?_)
              have hw := hw (zF f_atoms_9) (by rw [ef_atoms_9]; exact z_st (f := f_atoms) e_11 hq_10.1 (rfl : x1.toInt = _))
              refine lv_aload_n hx hb dX54_atom_63 rfl (lv_at hl 0 rfl) ?_
              refine k_get X hH in_X54 0 rfl hc 6 (by decide) q6506 rfl dX54_atom_64 ?_
              refine lv_iconst (v := 3) hx hb dX54_atom_67 (by decide) ?_
              refine lv_aload_n hx hb dX54_atom_68 rfl (lv_at hl 0 rfl) ?_
              refine k_get X hH in_X54 0 rfl hc 7 (by decide) q6507 rfl dX54_atom_69 ?_
              refine lv_imul hx hb dX54_atom_72 ?_
              have e_12 := z_mul (z_m (rfl : (3 : Int32).toInt = 3)) (z_m (rfl : f_atomCount.toInt = _))
              refine lv_iconst (v := 1) hx hb dX54_atom_73 (by decide) ?_
              refine lv_iadd hx hb dX54_atom_74 ?_
              have e_13 := z_add e_12 (z_m (rfl : (1 : Int32).toInt = 1))
              refine lv_iload_n hx hb dX54_atom_75 rfl (lv_at hl 2 rfl) ?_
              have hq_15 := hw.1
              have hw := hw.2
              have e_16 := z_xi e_13 hq_15 (by decide)
              obtain ⟨f_atoms_14, ef_atoms_14⟩ : ∃ y : Nat → Int32, y = upd f_atoms_9 ((3 * f_atomCount) + 1).toNatClampNeg x2 := ⟨_, rfl⟩
              refine k_iast X hH 5 4 rfl rfl (z_in e_16 hq_15) dX54_atom_76 ef_atoms_14 (ws1 := (wX54 ci ad d 0 f_cells f_sizes f_keys f_maps f_mapCount f_atoms_14 f_atomCount f_spans f_spanCount f_unions f_unionCount f_isLarge f_trial f_rowAt f_answers f_foundBy f_firstBy f_lastBy f_order f_answerCount f_asked f_tooMany)) rfl (fun H locs hH => ?_)
              have hw := hw (zF f_atoms_14) (by rw [ef_atoms_14]; exact z_st (f := f_atoms_9) e_16 hq_15.1 (rfl : x2.toInt = _))
              refine lv_aload_n hx hb dX54_atom_77 rfl (lv_at hl 0 rfl) ?_
              refine k_get X hH in_X54 0 rfl hc 6 (by decide) q6506 rfl dX54_atom_78 ?_
              refine lv_iconst (v := 3) hx hb dX54_atom_81 (by decide) ?_
              refine lv_aload_n hx hb dX54_atom_82 rfl (lv_at hl 0 rfl) ?_
              refine k_get X hH in_X54 0 rfl hc 7 (by decide) q6507 rfl dX54_atom_83 ?_
              refine lv_imul hx hb dX54_atom_86 ?_
              have e_17 := z_mul (z_m (rfl : (3 : Int32).toInt = 3)) (z_m (rfl : f_atomCount.toInt = _))
              refine lv_iconst (v := 2) hx hb dX54_atom_87 (by decide) ?_
              refine lv_iadd hx hb dX54_atom_88 ?_
              have e_18 := z_add e_17 (z_m (rfl : (2 : Int32).toInt = 2))
              refine lv_iload_n hx hb dX54_atom_89 rfl (lv_at hl 3 rfl) ?_
              have hq_20 := hw.1
              have hw := hw.2
              have e_21 := z_xi e_18 hq_20 (by decide)
              obtain ⟨f_atoms_19, ef_atoms_19⟩ : ∃ y : Nat → Int32, y = upd f_atoms_14 ((3 * f_atomCount) + 2).toNatClampNeg x3 := ⟨_, rfl⟩
              refine k_iast X hH 5 4 rfl rfl (z_in e_21 hq_20) dX54_atom_90 ef_atoms_19 (ws1 := (wX54 ci ad d 0 f_cells f_sizes f_keys f_maps f_mapCount f_atoms_19 f_atomCount f_spans f_spanCount f_unions f_unionCount f_isLarge f_trial f_rowAt f_answers f_foundBy f_firstBy f_lastBy f_order f_answerCount f_asked f_tooMany)) rfl (fun H locs hH => ?_)
              have hw := hw (zF f_atoms_19) (by rw [ef_atoms_19]; exact z_st (f := f_atoms_14) e_21 hq_20.1 (rfl : x3.toInt = _))
              refine lv_aload_n hx hb dX54_atom_91 rfl (lv_at hl 0 rfl) ?_
              refine lv_dup hx hb dX54_atom_92 rfl ?_
              refine k_get X hH in_X54 0 rfl hc 7 (by decide) q6507 rfl dX54_atom_93 ?_
              refine lv_iconst (v := 1) hx hb dX54_atom_96 (by decide) ?_
              refine lv_iadd hx hb dX54_atom_97 ?_
              have e_22 := z_add (z_m (rfl : f_atomCount.toInt = _)) (z_m (rfl : (1 : Int32).toInt = 1))
              have hq_23 := hw.1
              have hw := hw.2
              have e_24 := z_x e_22 hq_23
              refine lv_topi (fun f_atomCount_25 ef_atomCount_25 => ?_)
              have hw := hw f_atomCount_25.toInt (by rw [ef_atomCount_25]; exact e_24)
              refine k_put X hH in_X54 tyX54_ok nmX54 0 rfl hc 7 (by decide) q6507 rfl (ty := .int) rfl rfl rfl (Nat.le_of_ble_eq_true rfl) dX54_atom_98 (ws1 := (wX54 ci ad d 0 f_cells f_sizes f_keys f_maps f_mapCount f_atoms_19 f_atomCount_25 f_spans f_spanCount f_unions f_unionCount f_isLarge f_trial f_rowAt f_answers f_foundBy f_firstBy f_lastBy f_order f_answerCount f_asked f_tooMany)) rfl (fun H locs hH => ?_)
              refine lv_aload_n hx hb dX54_atom_101 rfl (lv_at hl 0 rfl) ?_
              refine k_get X hH in_X54 0 rfl hc 7 (by decide) q6507 rfl dX54_atom_102 ?_
              exact k_iret (v := f_atomCount_25) X hH (0, f_atoms_19, f_atomCount_25) hw rfl rfl dX54_atom_105
            · have hw := hw.1 (z_eq (rfl : f_atomCount.toInt = _) (rfl : (4 : Int32).toInt = 4) c_7)
              refine lv_bipush (v := (-2)) hx hb dX54_atom_48 (by decide) ?_
              exact k_iret (v := (-2)) X hH (0, f_atoms, f_atomCount) hw rfl rfl dX54_atom_50
          · have hw := hw.2 (z_nlt (rfl : x3.toInt = _) (rfl : (60000 : Int32).toInt = 60000) c_6)
            refine lv_iconst (v := (-1)) hx hb dX54_atom_38 (by decide) ?_
            exact k_iret (v := (-1)) X hH (0, f_atoms, f_atomCount) hw rfl rfl dX54_atom_39
set_option maxHeartbeats 4000000 in
theorem walkX54_span {l : Launch} {dC : Nat → ClassId} {dI : Nat → Nat → Nat} {cl : List vw_C} {ci : Nat} (hc : cl[ci]? = some (RX54, TX54, 23)) {ad : Nat → Nat} {d : Nat → ClassId} {sz : Nat} {f_thrown : Int32} {f_cells : Nat → Int32} {f_sizes : Nat → Int32} {f_keys : Nat → Int32} {f_maps : Nat → Int32} {f_mapCount : Int32} {f_atoms : Nat → Int32} {f_atomCount : Int32} {f_spans : Nat → Int32} {f_spanCount : Int32} {f_unions : Nat → Int32} {f_unionCount : Int32} {f_isLarge : Int32} {f_trial : Nat → Int32} {f_rowAt : Nat → Int32} {f_answers : Nat → Int32} {f_foundBy : Nat → Int32} {f_firstBy : Nat → Int32} {f_lastBy : Nat → Int32} {f_order : Nat → Int32} {f_answerCount : Int32} {f_asked : Nat → Int32} {f_tooMany : Int32} {x1 : Int32} {x2 : Int32} {x3 : Int32} {post : Int → Int → (Int → Int) → Int → Prop} (hw : wpX54_span post (zF f_spans) f_spanCount.toInt x1.toInt x2.toInt x3.toInt) :
    Met l yX54_span (ws_ yX54_span cX54_span 4 (some .int)) ({ frames := 1, cells := 0, slots := 0, locals := 21 } : Room) (kPc (dC, dI) cl (tX54 d) [.ref (ad 0), .int x1, .int x2, .int x3] sz (wX54 ci ad d f_thrown f_cells f_sizes f_keys f_maps f_mapCount f_atoms f_atomCount f_spans f_spanCount f_unions f_unionCount f_isLarge f_trial f_rowAt f_answers f_foundBy f_firstBy f_lastBy f_order f_answerCount f_asked f_tooMany)) (va_Qi (fun (r : Int32) (u : Int32 × (Nat → Int32) × Int32) => post r.toInt (u.1).toInt (zF (u.2.1)) (u.2.2).toInt) (kB (dC, dI) cl (tX54 d) (va_A (wX54 ci ad d f_thrown f_cells f_sizes f_keys f_maps f_mapCount f_atoms f_atomCount f_spans f_spanCount f_unions f_unionCount f_isLarge f_trial f_rowAt f_answers f_foundBy f_firstBy f_lastBy f_order f_answerCount f_asked f_tooMany) sz) (fun u : Int32 × (Nat → Int32) × Int32 => (wX54 ci ad d (u.1) f_cells f_sizes f_keys f_maps f_mapCount f_atoms f_atomCount (u.2.1) (u.2.2) f_unions f_unionCount f_isLarge f_trial f_rowAt f_answers f_foundBy f_firstBy f_lastBy f_order f_answerCount f_asked f_tooMany))) (va_A (wX54 ci ad d f_thrown f_cells f_sizes f_keys f_maps f_mapCount f_atoms f_atomCount f_spans f_spanCount f_unions f_unionCount f_isLarge f_trial f_rowAt f_answers f_foundBy f_firstBy f_lastBy f_order f_answerCount f_asked f_tooMany) sz)) 0 0 (va_A (wX54 ci ad d f_thrown f_cells f_sizes f_keys f_maps f_mapCount f_atoms f_atomCount f_spans f_spanCount f_unions f_unionCount f_isLarge f_trial f_rowAt f_answers f_foundBy f_firstBy f_lastBy f_order f_answerCount f_asked f_tooMany) sz) := by
  refine k_enter (by decide) (Nat.le_of_ble_eq_true rfl) ?_
  intro p e s m below meth c ls X hsz hH hl
  subst hsz
  generalize va_A (wX54 ci ad d f_thrown f_cells f_sizes f_keys f_maps f_mapCount f_atoms f_atomCount f_spans f_spanCount f_unions f_unionCount f_isLarge f_trial f_rowAt f_answers f_foundBy f_firstBy f_lastBy f_order f_answerCount f_asked f_tooMany) s.heap.size = A at hH ⊢
  have hx := X.1.1
  have hb := X.1.2.1
  have hl : lv_has ls 4 [(0, .ref (ad 0)), (1, .int x1), (2, .int x2), (3, .int x3)] := hl
  unfold wpX54_span at hw
  refine lv_aload_n hx hb dX54_span_0 rfl (lv_at hl 0 rfl) ?_
  refine lv_iconst (v := 0) hx hb dX54_span_1 (by decide) ?_
  refine k_put X hH in_X54 tyX54_ok nmX54 0 rfl hc 0 (by decide) q6500 rfl (ty := .int) rfl rfl rfl (Nat.le_of_ble_eq_true rfl) dX54_span_2 (ws1 := (wX54 ci ad d 0 f_cells f_sizes f_keys f_maps f_mapCount f_atoms f_atomCount f_spans f_spanCount f_unions f_unionCount f_isLarge f_trial f_rowAt f_answers f_foundBy f_firstBy f_lastBy f_order f_answerCount f_asked f_tooMany)) rfl (fun H locs hH => ?_)
  refine lv_iload_n hx hb dX54_span_5 rfl (lv_at hl 1 rfl) ?_
  refine lv_bipush (v := 6) hx hb dX54_span_6 (by decide) ?_
  refine k_i0 hH (k_runS (As := [.int x1, .int 6]) (rest := []) X hH.1 hH.2.1 X.2.2.2 (walkX54_isIn hc (x0 := x1) (x1 := 6) (f_thrown := 0) (f_cells := f_cells) (f_sizes := f_sizes) (f_keys := f_keys) (f_maps := f_maps) (f_mapCount := f_mapCount) (f_atoms := f_atoms) (f_atomCount := f_atomCount) (f_spans := f_spans) (f_spanCount := f_spanCount) (f_unions := f_unions) (f_unionCount := f_unionCount) (f_isLarge := f_isLarge) (f_trial := f_trial) (f_rowAt := f_rowAt) (f_answers := f_answers) (f_foundBy := f_foundBy) (f_firstBy := f_firstBy) (f_lastBy := f_lastBy) (f_order := f_order) (f_answerCount := f_answerCount) (f_asked := f_asked) (f_tooMany := f_tooMany) hw) (va_cwS 2 X.1.2.2.2.2 gX54_64 rfl rfl rfl hX54_isIn ⟨Nat.le_of_ble_eq_true rfl, Nat.le_of_ble_eq_true rfl⟩) rfl hl.1 rfl (Nat.le_of_ble_eq_true rfl) dX54_span_8 ⟨Nat.le_refl 0, Nat.le_refl 0⟩) (fun r_1 _ H locs hw hH => ?_)
  have hH : kH (dC, dI) cl A s.heap H locs (wX54 ci ad d 0 f_cells f_sizes f_keys f_maps f_mapCount f_atoms f_atomCount f_spans f_spanCount f_unions f_unionCount f_isLarge f_trial f_rowAt f_answers f_foundBy f_firstBy f_lastBy f_order f_answerCount f_asked f_tooMany) := hH
  refine lv_if_ne (tgt := 16) hx hb dX54_span_11 (by decide) (fun c_2 => ?_) (fun c_2 => ?_)
  · have hw := hw.2 (z_ne (rfl : r_1.toInt = _) (rfl : (0 : Int32).toInt = 0) c_2)
    refine lv_aload_n hx hb dX54_span_16 rfl (lv_at hl 0 rfl) ?_
    refine k_get X hH in_X54 0 rfl hc 9 (by decide) q6509 rfl dX54_span_17 ?_
    refine lv_iconst (v := 4) hx hb dX54_span_20 (by decide) ?_
    refine lv_icmp_ne (tgt := 27) hx hb dX54_span_21 (by decide) (fun c_3 => ?_) (fun c_3 => ?_)
    · have hw := hw.2 (z_ne (rfl : f_spanCount.toInt = _) (rfl : (4 : Int32).toInt = 4) c_3)
      refine lv_aload_n hx hb dX54_span_27 rfl (lv_at hl 0 rfl) ?_
      refine k_get X hH in_X54 0 rfl hc 8 (by decide) q6508 rfl dX54_span_28 ?_
      refine lv_iconst (v := 3) hx hb dX54_span_31 (by decide) ?_
      refine lv_aload_n hx hb dX54_span_32 rfl (lv_at hl 0 rfl) ?_
      refine k_get X hH in_X54 0 rfl hc 9 (by decide) q6509 rfl dX54_span_33 ?_
      refine lv_imul hx hb dX54_span_36 ?_
      have e_4 := z_mul (z_m (rfl : (3 : Int32).toInt = 3)) (z_m (rfl : f_spanCount.toInt = _))
      refine lv_iload_n hx hb dX54_span_37 rfl (lv_at hl 1 rfl) ?_
      have hq_6 := hw.1
      have hw := hw.2
      have e_7 := z_xi e_4 hq_6 (by decide)
      obtain ⟨f_spans_5, ef_spans_5⟩ : ∃ y : Nat → Int32, y = upd f_spans (3 * f_spanCount).toNatClampNeg x1 := ⟨_, rfl⟩
      refine k_iast X hH 6 5 rfl rfl (z_in e_7 hq_6) dX54_span_38 ef_spans_5 (ws1 := (wX54 ci ad d 0 f_cells f_sizes f_keys f_maps f_mapCount f_atoms f_atomCount f_spans_5 f_spanCount f_unions f_unionCount f_isLarge f_trial f_rowAt f_answers f_foundBy f_firstBy f_lastBy f_order f_answerCount f_asked f_tooMany)) rfl (fun H locs hH => ?_)
      have hw := hw (zF f_spans_5) (by rw [ef_spans_5]; exact z_st (f := f_spans) e_7 hq_6.1 (rfl : x1.toInt = _))
      refine lv_aload_n hx hb dX54_span_39 rfl (lv_at hl 0 rfl) ?_
      refine k_get X hH in_X54 0 rfl hc 8 (by decide) q6508 rfl dX54_span_40 ?_
      refine lv_iconst (v := 3) hx hb dX54_span_43 (by decide) ?_
      refine lv_aload_n hx hb dX54_span_44 rfl (lv_at hl 0 rfl) ?_
      refine k_get X hH in_X54 0 rfl hc 9 (by decide) q6509 rfl dX54_span_45 ?_
      refine lv_imul hx hb dX54_span_48 ?_
      have e_8 := z_mul (z_m (rfl : (3 : Int32).toInt = 3)) (z_m (rfl : f_spanCount.toInt = _))
      refine lv_iconst (v := 1) hx hb dX54_span_49 (by decide) ?_
      refine lv_iadd hx hb dX54_span_50 ?_
      have e_9 := z_add e_8 (z_m (rfl : (1 : Int32).toInt = 1))
      refine lv_iload_n hx hb dX54_span_51 rfl (lv_at hl 2 rfl) ?_
      have hq_11 := hw.1
      have hw := hw.2
      have e_12 := z_xi e_9 hq_11 (by decide)
      obtain ⟨f_spans_10, ef_spans_10⟩ : ∃ y : Nat → Int32, y = upd f_spans_5 ((3 * f_spanCount) + 1).toNatClampNeg x2 := ⟨_, rfl⟩
      refine k_iast X hH 6 5 rfl rfl (z_in e_12 hq_11) dX54_span_52 ef_spans_10 (ws1 := (wX54 ci ad d 0 f_cells f_sizes f_keys f_maps f_mapCount f_atoms f_atomCount f_spans_10 f_spanCount f_unions f_unionCount f_isLarge f_trial f_rowAt f_answers f_foundBy f_firstBy f_lastBy f_order f_answerCount f_asked f_tooMany)) rfl (fun H locs hH => ?_)
      have hw := hw (zF f_spans_10) (by rw [ef_spans_10]; exact z_st (f := f_spans_5) e_12 hq_11.1 (rfl : x2.toInt = _))
      refine lv_aload_n hx hb dX54_span_53 rfl (lv_at hl 0 rfl) ?_
      refine k_get X hH in_X54 0 rfl hc 8 (by decide) q6508 rfl dX54_span_54 ?_
      refine lv_iconst (v := 3) hx hb dX54_span_57 (by decide) ?_
      refine lv_aload_n hx hb dX54_span_58 rfl (lv_at hl 0 rfl) ?_
      refine k_get X hH in_X54 0 rfl hc 9 (by decide) q6509 rfl dX54_span_59 ?_
      refine lv_imul hx hb dX54_span_62 ?_
      have e_13 := z_mul (z_m (rfl : (3 : Int32).toInt = 3)) (z_m (rfl : f_spanCount.toInt = _))
      refine lv_iconst (v := 2) hx hb dX54_span_63 (by decide) ?_
      refine lv_iadd hx hb dX54_span_64 ?_
      have e_14 := z_add e_13 (z_m (rfl : (2 : Int32).toInt = 2))
      refine lv_iload_n hx hb dX54_span_65 rfl (lv_at hl 3 rfl) ?_
      have hq_16 := hw.1
      have hw := hw.2
      have e_17 := z_xi e_14 hq_16 (by decide)
      obtain ⟨f_spans_15, ef_spans_15⟩ : ∃ y : Nat → Int32, y = upd f_spans_10 ((3 * f_spanCount) + 2).toNatClampNeg x3 := ⟨_, rfl⟩
      refine k_iast X hH 6 5 rfl rfl (z_in e_17 hq_16) dX54_span_66 ef_spans_15 (ws1 := (wX54 ci ad d 0 f_cells f_sizes f_keys f_maps f_mapCount f_atoms f_atomCount f_spans_15 f_spanCount f_unions f_unionCount f_isLarge f_trial f_rowAt f_answers f_foundBy f_firstBy f_lastBy f_order f_answerCount f_asked f_tooMany)) rfl (fun H locs hH => ?_)
      have hw := hw (zF f_spans_15) (by rw [ef_spans_15]; exact z_st (f := f_spans_10) e_17 hq_16.1 (rfl : x3.toInt = _))
      refine lv_aload_n hx hb dX54_span_67 rfl (lv_at hl 0 rfl) ?_
      refine lv_dup hx hb dX54_span_68 rfl ?_
      refine k_get X hH in_X54 0 rfl hc 9 (by decide) q6509 rfl dX54_span_69 ?_
      refine lv_iconst (v := 1) hx hb dX54_span_72 (by decide) ?_
      refine lv_iadd hx hb dX54_span_73 ?_
      have e_18 := z_add (z_m (rfl : f_spanCount.toInt = _)) (z_m (rfl : (1 : Int32).toInt = 1))
      have hq_19 := hw.1
      have hw := hw.2
      have e_20 := z_x e_18 hq_19
      refine lv_topi (fun f_spanCount_21 ef_spanCount_21 => ?_)
      have hw := hw f_spanCount_21.toInt (by rw [ef_spanCount_21]; exact e_20)
      refine k_put X hH in_X54 tyX54_ok nmX54 0 rfl hc 9 (by decide) q6509 rfl (ty := .int) rfl rfl rfl (Nat.le_of_ble_eq_true rfl) dX54_span_74 (ws1 := (wX54 ci ad d 0 f_cells f_sizes f_keys f_maps f_mapCount f_atoms f_atomCount f_spans_15 f_spanCount_21 f_unions f_unionCount f_isLarge f_trial f_rowAt f_answers f_foundBy f_firstBy f_lastBy f_order f_answerCount f_asked f_tooMany)) rfl (fun H locs hH => ?_)
      refine lv_aload_n hx hb dX54_span_77 rfl (lv_at hl 0 rfl) ?_
      refine k_get X hH in_X54 0 rfl hc 9 (by decide) q6509 rfl dX54_span_78 ?_
      exact k_iret (v := f_spanCount_21) X hH (0, f_spans_15, f_spanCount_21) hw rfl rfl dX54_span_81
    · have hw := hw.1 (z_eq (rfl : f_spanCount.toInt = _) (rfl : (4 : Int32).toInt = 4) c_3)
      refine lv_bipush (v := (-2)) hx hb dX54_span_24 (by decide) ?_
      exact k_iret (v := (-2)) X hH (0, f_spans, f_spanCount) hw rfl rfl dX54_span_26
  · have hw := hw.1 (z_eq (rfl : r_1.toInt = _) (rfl : (0 : Int32).toInt = 0) c_2)
    refine lv_iconst (v := (-1)) hx hb dX54_span_14 (by decide) ?_
    exact k_iret (v := (-1)) X hH (0, f_spans, f_spanCount) hw rfl rfl dX54_span_15
set_option maxHeartbeats 4000000 in
theorem walkX54_clear {l : Launch} {dC : Nat → ClassId} {dI : Nat → Nat → Nat} {cl : List vw_C} {ci : Nat} (hc : cl[ci]? = some (RX54, TX54, 23)) {ad : Nat → Nat} {d : Nat → ClassId} {sz : Nat} {f_thrown : Int32} {f_cells : Nat → Int32} {f_sizes : Nat → Int32} {f_keys : Nat → Int32} {f_maps : Nat → Int32} {f_mapCount : Int32} {f_atoms : Nat → Int32} {f_atomCount : Int32} {f_spans : Nat → Int32} {f_spanCount : Int32} {f_unions : Nat → Int32} {f_unionCount : Int32} {f_isLarge : Int32} {f_trial : Nat → Int32} {f_rowAt : Nat → Int32} {f_answers : Nat → Int32} {f_foundBy : Nat → Int32} {f_firstBy : Nat → Int32} {f_lastBy : Nat → Int32} {f_order : Nat → Int32} {f_answerCount : Int32} {f_asked : Nat → Int32} {f_tooMany : Int32}  {post : Int → Int → Int → Int → Prop} (hw : wpX54_clear post f_atomCount.toInt ) :
    Met l yX54_clear (ws_ yX54_clear cX54_clear 2 (some .int)) ({ frames := 0, cells := 0, slots := 0, locals := 0 } : Room) (kPc (dC, dI) cl (tX54 d) [.ref (ad 0)] sz (wX54 ci ad d f_thrown f_cells f_sizes f_keys f_maps f_mapCount f_atoms f_atomCount f_spans f_spanCount f_unions f_unionCount f_isLarge f_trial f_rowAt f_answers f_foundBy f_firstBy f_lastBy f_order f_answerCount f_asked f_tooMany)) (va_Qi (fun (r : Int32) (u : Int32 × Int32 × Int32) => post r.toInt (u.1).toInt (u.2.1).toInt (u.2.2).toInt) (kB (dC, dI) cl (tX54 d) (va_A (wX54 ci ad d f_thrown f_cells f_sizes f_keys f_maps f_mapCount f_atoms f_atomCount f_spans f_spanCount f_unions f_unionCount f_isLarge f_trial f_rowAt f_answers f_foundBy f_firstBy f_lastBy f_order f_answerCount f_asked f_tooMany) sz) (fun u : Int32 × Int32 × Int32 => (wX54 ci ad d (u.1) f_cells f_sizes f_keys f_maps f_mapCount f_atoms (u.2.1) f_spans (u.2.2) f_unions f_unionCount f_isLarge f_trial f_rowAt f_answers f_foundBy f_firstBy f_lastBy f_order f_answerCount f_asked f_tooMany))) (va_A (wX54 ci ad d f_thrown f_cells f_sizes f_keys f_maps f_mapCount f_atoms f_atomCount f_spans f_spanCount f_unions f_unionCount f_isLarge f_trial f_rowAt f_answers f_foundBy f_firstBy f_lastBy f_order f_answerCount f_asked f_tooMany) sz)) 0 0 (va_A (wX54 ci ad d f_thrown f_cells f_sizes f_keys f_maps f_mapCount f_atoms f_atomCount f_spans f_spanCount f_unions f_unionCount f_isLarge f_trial f_rowAt f_answers f_foundBy f_firstBy f_lastBy f_order f_answerCount f_asked f_tooMany) sz) := by
  refine k_enter (by decide) (Nat.le_of_ble_eq_true rfl) ?_
  intro p e s m below meth c ls X hsz hH hl
  subst hsz
  generalize va_A (wX54 ci ad d f_thrown f_cells f_sizes f_keys f_maps f_mapCount f_atoms f_atomCount f_spans f_spanCount f_unions f_unionCount f_isLarge f_trial f_rowAt f_answers f_foundBy f_firstBy f_lastBy f_order f_answerCount f_asked f_tooMany) s.heap.size = A at hH ⊢
  have hx := X.1.1
  have hb := X.1.2.1
  have hl : lv_has ls 2 [(0, .ref (ad 0))] := hl
  unfold wpX54_clear at hw
  refine lv_aload_n hx hb dX54_clear_0 rfl (lv_at hl 0 rfl) ?_
  refine lv_iconst (v := 0) hx hb dX54_clear_1 (by decide) ?_
  refine k_put X hH in_X54 tyX54_ok nmX54 0 rfl hc 0 (by decide) q6500 rfl (ty := .int) rfl rfl rfl (Nat.le_of_ble_eq_true rfl) dX54_clear_2 (ws1 := (wX54 ci ad d 0 f_cells f_sizes f_keys f_maps f_mapCount f_atoms f_atomCount f_spans f_spanCount f_unions f_unionCount f_isLarge f_trial f_rowAt f_answers f_foundBy f_firstBy f_lastBy f_order f_answerCount f_asked f_tooMany)) rfl (fun H locs hH => ?_)
  refine lv_aload_n hx hb dX54_clear_5 rfl (lv_at hl 0 rfl) ?_
  refine k_get X hH in_X54 0 rfl hc 7 (by decide) q6507 rfl dX54_clear_6 ?_
  refine lv_istore_n (lv' := [(1, .int f_atomCount), (0, .ref (ad 0))]) hx hb dX54_clear_9 rfl hl (by decide) rfl (fun ls hl => ?_)
  refine lv_aload_n hx hb dX54_clear_10 rfl (lv_at hl 1 rfl) ?_
  refine lv_iconst (v := 0) hx hb dX54_clear_11 (by decide) ?_
  refine k_put X hH in_X54 tyX54_ok nmX54 0 rfl hc 7 (by decide) q6507 rfl (ty := .int) rfl rfl rfl (Nat.le_of_ble_eq_true rfl) dX54_clear_12 (ws1 := (wX54 ci ad d 0 f_cells f_sizes f_keys f_maps f_mapCount f_atoms 0 f_spans f_spanCount f_unions f_unionCount f_isLarge f_trial f_rowAt f_answers f_foundBy f_firstBy f_lastBy f_order f_answerCount f_asked f_tooMany)) rfl (fun H locs hH => ?_)
  refine lv_aload_n hx hb dX54_clear_15 rfl (lv_at hl 1 rfl) ?_
  refine lv_iconst (v := 0) hx hb dX54_clear_16 (by decide) ?_
  refine k_put X hH in_X54 tyX54_ok nmX54 0 rfl hc 9 (by decide) q6509 rfl (ty := .int) rfl rfl rfl (Nat.le_of_ble_eq_true rfl) dX54_clear_17 (ws1 := (wX54 ci ad d 0 f_cells f_sizes f_keys f_maps f_mapCount f_atoms 0 f_spans 0 f_unions f_unionCount f_isLarge f_trial f_rowAt f_answers f_foundBy f_firstBy f_lastBy f_order f_answerCount f_asked f_tooMany)) rfl (fun H locs hH => ?_)
  refine lv_iload_n hx hb dX54_clear_20 rfl (lv_at hl 0 rfl) ?_
  exact k_iret (v := f_atomCount) X hH (0, 0, 0) hw rfl rfl dX54_clear_21
set_option maxHeartbeats 4000000 in
theorem walkX54_unions {l : Launch} {dC : Nat → ClassId} {dI : Nat → Nat → Nat} {cl : List vw_C} {ci : Nat} (hc : cl[ci]? = some (RX54, TX54, 23)) {ad : Nat → Nat} {d : Nat → ClassId} {sz : Nat} {f_thrown : Int32} {f_cells : Nat → Int32} {f_sizes : Nat → Int32} {f_keys : Nat → Int32} {f_maps : Nat → Int32} {f_mapCount : Int32} {f_atoms : Nat → Int32} {f_atomCount : Int32} {f_spans : Nat → Int32} {f_spanCount : Int32} {f_unions : Nat → Int32} {f_unionCount : Int32} {f_isLarge : Int32} {f_trial : Nat → Int32} {f_rowAt : Nat → Int32} {f_answers : Nat → Int32} {f_foundBy : Nat → Int32} {f_firstBy : Nat → Int32} {f_lastBy : Nat → Int32} {f_order : Nat → Int32} {f_answerCount : Int32} {f_asked : Nat → Int32} {f_tooMany : Int32}  {post : Int → Int → (Int → Int) → Int → Int → (Int → Int) → Prop} (hw : wpX54_unions post (zF f_keys) (zF f_maps) f_mapCount.toInt (zF f_atoms) f_atomCount.toInt (zF f_unions) f_unionCount.toInt f_isLarge.toInt (zF f_trial) ) :
    Met l yX54_unions (ws_ yX54_unions cX54_unions 2 (some .int)) ({ frames := 5, cells := 0, slots := 0, locals := 115 } : Room) (kPc (dC, dI) cl (tX54 d) [.ref (ad 0)] sz (wX54 ci ad d f_thrown f_cells f_sizes f_keys f_maps f_mapCount f_atoms f_atomCount f_spans f_spanCount f_unions f_unionCount f_isLarge f_trial f_rowAt f_answers f_foundBy f_firstBy f_lastBy f_order f_answerCount f_asked f_tooMany)) (va_Qi (fun (r : Int32) (u : Int32 × (Nat → Int32) × Int32 × Int32 × (Nat → Int32)) => post r.toInt (u.1).toInt (zF (u.2.1)) (u.2.2.1).toInt (u.2.2.2.1).toInt (zF (u.2.2.2.2))) (kB (dC, dI) cl (tX54 d) (va_A (wX54 ci ad d f_thrown f_cells f_sizes f_keys f_maps f_mapCount f_atoms f_atomCount f_spans f_spanCount f_unions f_unionCount f_isLarge f_trial f_rowAt f_answers f_foundBy f_firstBy f_lastBy f_order f_answerCount f_asked f_tooMany) sz) (fun u : Int32 × (Nat → Int32) × Int32 × Int32 × (Nat → Int32) => (wX54 ci ad d (u.1) f_cells f_sizes f_keys f_maps f_mapCount f_atoms f_atomCount f_spans f_spanCount (u.2.1) (u.2.2.1) (u.2.2.2.1) (u.2.2.2.2) f_rowAt f_answers f_foundBy f_firstBy f_lastBy f_order f_answerCount f_asked f_tooMany))) (va_A (wX54 ci ad d f_thrown f_cells f_sizes f_keys f_maps f_mapCount f_atoms f_atomCount f_spans f_spanCount f_unions f_unionCount f_isLarge f_trial f_rowAt f_answers f_foundBy f_firstBy f_lastBy f_order f_answerCount f_asked f_tooMany) sz)) 0 0 (va_A (wX54 ci ad d f_thrown f_cells f_sizes f_keys f_maps f_mapCount f_atoms f_atomCount f_spans f_spanCount f_unions f_unionCount f_isLarge f_trial f_rowAt f_answers f_foundBy f_firstBy f_lastBy f_order f_answerCount f_asked f_tooMany) sz) := by
  refine k_enter (by decide) (Nat.le_of_ble_eq_true rfl) ?_
  intro p e s m below meth c ls X hsz hH hl
  subst hsz
  generalize va_A (wX54 ci ad d f_thrown f_cells f_sizes f_keys f_maps f_mapCount f_atoms f_atomCount f_spans f_spanCount f_unions f_unionCount f_isLarge f_trial f_rowAt f_answers f_foundBy f_firstBy f_lastBy f_order f_answerCount f_asked f_tooMany) s.heap.size = A at hH ⊢
  have hx := X.1.1
  have hb := X.1.2.1
  have hl : lv_has ls 2 [(0, .ref (ad 0))] := hl
  unfold wpX54_unions at hw
  refine lv_aload_n hx hb dX54_unions_0 rfl (lv_at hl 0 rfl) ?_
  refine k_i0 hH (k_runV (As := []) (rest := []) X hH.1 hH.2.1 X.2.2.2 (walkX54_ready hc (f_thrown := f_thrown) (f_cells := f_cells) (f_sizes := f_sizes) (f_keys := f_keys) (f_maps := f_maps) (f_mapCount := f_mapCount) (f_atoms := f_atoms) (f_atomCount := f_atomCount) (f_spans := f_spans) (f_spanCount := f_spanCount) (f_unions := f_unions) (f_unionCount := f_unionCount) (f_isLarge := f_isLarge) (f_trial := f_trial) (f_rowAt := f_rowAt) (f_answers := f_answers) (f_foundBy := f_foundBy) (f_firstBy := f_firstBy) (f_lastBy := f_lastBy) (f_order := f_order) (f_answerCount := f_answerCount) (f_asked := f_asked) (f_tooMany := f_tooMany) hw) (cwV 0 X.1.2.2.2.2 gX54_121 rfl rfl rfl hX54_ready ⟨Nat.le_of_ble_eq_true rfl, Nat.le_of_ble_eq_true rfl⟩) hc (q0 := 0) rfl rfl hl.1 rfl (Nat.le_of_ble_eq_true rfl) dX54_unions_1 ⟨Nat.le_refl 0, Nat.le_refl 0⟩) (fun r_1 u H locs hw hH => ?_)
  obtain ⟨f_thrown_2, f_unions_3, f_unionCount_4, f_isLarge_5, f_trial_6⟩ := u
  have hH : kH (dC, dI) cl A s.heap H locs (wX54 ci ad d f_thrown_2 f_cells f_sizes f_keys f_maps f_mapCount f_atoms f_atomCount f_spans f_spanCount f_unions_3 f_unionCount_4 f_isLarge_5 f_trial_6 f_rowAt f_answers f_foundBy f_firstBy f_lastBy f_order f_answerCount f_asked f_tooMany) := hH
  refine lv_istore_n (lv' := [(1, .int r_1), (0, .ref (ad 0))]) hx hb dX54_unions_4 rfl hl (by decide) rfl (fun ls hl => ?_)
  refine lv_iload_n hx hb dX54_unions_5 rfl (lv_at hl 0 rfl) ?_
  refine lv_if_ge (tgt := 13) hx hb dX54_unions_6 (by decide) (fun c_7 => ?_) (fun c_7 => ?_)
  · have hw := hw.1 (z_le (rfl : (0 : Int32).toInt = 0) (rfl : r_1.toInt = _) c_7)
    refine lv_aload_n hx hb dX54_unions_13 rfl (lv_at hl 1 rfl) ?_
    refine k_get X hH in_X54 0 rfl hc 11 (by decide) q6511 rfl dX54_unions_14 ?_
    exact k_iret (v := f_unionCount_4) X hH (f_thrown_2, f_unions_3, f_unionCount_4, f_isLarge_5, f_trial_6) hw rfl rfl dX54_unions_17
  · have hw := hw.2 (z_nle (rfl : (0 : Int32).toInt = 0) (rfl : r_1.toInt = _) c_7)
    refine lv_iload_n hx hb dX54_unions_9 rfl (lv_at hl 0 rfl) ?_
    refine lv_goto (tgt := 17) hx hb dX54_unions_10 (by decide) ?_
    exact k_iret (v := r_1) X hH (f_thrown_2, f_unions_3, f_unionCount_4, f_isLarge_5, f_trial_6) hw rfl rfl dX54_unions_17
set_option maxHeartbeats 4000000 in
theorem walkX54_union {l : Launch} {dC : Nat → ClassId} {dI : Nat → Nat → Nat} {cl : List vw_C} {ci : Nat} (hc : cl[ci]? = some (RX54, TX54, 23)) {ad : Nat → Nat} {d : Nat → ClassId} {sz : Nat} {f_thrown : Int32} {f_cells : Nat → Int32} {f_sizes : Nat → Int32} {f_keys : Nat → Int32} {f_maps : Nat → Int32} {f_mapCount : Int32} {f_atoms : Nat → Int32} {f_atomCount : Int32} {f_spans : Nat → Int32} {f_spanCount : Int32} {f_unions : Nat → Int32} {f_unionCount : Int32} {f_isLarge : Int32} {f_trial : Nat → Int32} {f_rowAt : Nat → Int32} {f_answers : Nat → Int32} {f_foundBy : Nat → Int32} {f_firstBy : Nat → Int32} {f_lastBy : Nat → Int32} {f_order : Nat → Int32} {f_answerCount : Int32} {f_asked : Nat → Int32} {f_tooMany : Int32} {x1 : Int32} {x2 : Int32} {post : Int → Int → (Int → Int) → Int → Int → (Int → Int) → Prop} (hw : wpX54_union post (zF f_keys) (zF f_maps) f_mapCount.toInt (zF f_atoms) f_atomCount.toInt (zF f_unions) f_unionCount.toInt f_isLarge.toInt (zF f_trial) x1.toInt x2.toInt) :
    Met l yX54_union (ws_ yX54_union cX54_union 4 (some .int)) ({ frames := 5, cells := 0, slots := 0, locals := 115 } : Room) (kPc (dC, dI) cl (tX54 d) [.ref (ad 0), .int x1, .int x2] sz (wX54 ci ad d f_thrown f_cells f_sizes f_keys f_maps f_mapCount f_atoms f_atomCount f_spans f_spanCount f_unions f_unionCount f_isLarge f_trial f_rowAt f_answers f_foundBy f_firstBy f_lastBy f_order f_answerCount f_asked f_tooMany)) (va_Qi (fun (r : Int32) (u : Int32 × (Nat → Int32) × Int32 × Int32 × (Nat → Int32)) => post r.toInt (u.1).toInt (zF (u.2.1)) (u.2.2.1).toInt (u.2.2.2.1).toInt (zF (u.2.2.2.2))) (kB (dC, dI) cl (tX54 d) (va_A (wX54 ci ad d f_thrown f_cells f_sizes f_keys f_maps f_mapCount f_atoms f_atomCount f_spans f_spanCount f_unions f_unionCount f_isLarge f_trial f_rowAt f_answers f_foundBy f_firstBy f_lastBy f_order f_answerCount f_asked f_tooMany) sz) (fun u : Int32 × (Nat → Int32) × Int32 × Int32 × (Nat → Int32) => (wX54 ci ad d (u.1) f_cells f_sizes f_keys f_maps f_mapCount f_atoms f_atomCount f_spans f_spanCount (u.2.1) (u.2.2.1) (u.2.2.2.1) (u.2.2.2.2) f_rowAt f_answers f_foundBy f_firstBy f_lastBy f_order f_answerCount f_asked f_tooMany))) (va_A (wX54 ci ad d f_thrown f_cells f_sizes f_keys f_maps f_mapCount f_atoms f_atomCount f_spans f_spanCount f_unions f_unionCount f_isLarge f_trial f_rowAt f_answers f_foundBy f_firstBy f_lastBy f_order f_answerCount f_asked f_tooMany) sz)) 0 0 (va_A (wX54 ci ad d f_thrown f_cells f_sizes f_keys f_maps f_mapCount f_atoms f_atomCount f_spans f_spanCount f_unions f_unionCount f_isLarge f_trial f_rowAt f_answers f_foundBy f_firstBy f_lastBy f_order f_answerCount f_asked f_tooMany) sz) := by
  refine k_enter (by decide) (Nat.le_of_ble_eq_true rfl) ?_
  intro p e s m below meth c ls X hsz hH hl
  subst hsz
  generalize va_A (wX54 ci ad d f_thrown f_cells f_sizes f_keys f_maps f_mapCount f_atoms f_atomCount f_spans f_spanCount f_unions f_unionCount f_isLarge f_trial f_rowAt f_answers f_foundBy f_firstBy f_lastBy f_order f_answerCount f_asked f_tooMany) s.heap.size = A at hH ⊢
  have hx := X.1.1
  have hb := X.1.2.1
  have hl : lv_has ls 4 [(0, .ref (ad 0)), (1, .int x1), (2, .int x2)] := hl
  unfold wpX54_union at hw
  refine lv_aload_n hx hb dX54_union_0 rfl (lv_at hl 0 rfl) ?_
  refine k_i0 hH (k_runV (As := []) (rest := []) X hH.1 hH.2.1 X.2.2.2 (walkX54_ready hc (f_thrown := f_thrown) (f_cells := f_cells) (f_sizes := f_sizes) (f_keys := f_keys) (f_maps := f_maps) (f_mapCount := f_mapCount) (f_atoms := f_atoms) (f_atomCount := f_atomCount) (f_spans := f_spans) (f_spanCount := f_spanCount) (f_unions := f_unions) (f_unionCount := f_unionCount) (f_isLarge := f_isLarge) (f_trial := f_trial) (f_rowAt := f_rowAt) (f_answers := f_answers) (f_foundBy := f_foundBy) (f_firstBy := f_firstBy) (f_lastBy := f_lastBy) (f_order := f_order) (f_answerCount := f_answerCount) (f_asked := f_asked) (f_tooMany := f_tooMany) hw) (cwV 0 X.1.2.2.2.2 gX54_121 rfl rfl rfl hX54_ready ⟨Nat.le_of_ble_eq_true rfl, Nat.le_of_ble_eq_true rfl⟩) hc (q0 := 0) rfl rfl hl.1 rfl (Nat.le_of_ble_eq_true rfl) dX54_union_1 ⟨Nat.le_refl 0, Nat.le_refl 0⟩) (fun r_1 u H locs hw hH => ?_)
  obtain ⟨f_thrown_2, f_unions_3, f_unionCount_4, f_isLarge_5, f_trial_6⟩ := u
  have hH : kH (dC, dI) cl A s.heap H locs (wX54 ci ad d f_thrown_2 f_cells f_sizes f_keys f_maps f_mapCount f_atoms f_atomCount f_spans f_spanCount f_unions_3 f_unionCount_4 f_isLarge_5 f_trial_6 f_rowAt f_answers f_foundBy f_firstBy f_lastBy f_order f_answerCount f_asked f_tooMany) := hH
  refine lv_istore_n (lv' := [(3, .int r_1), (0, .ref (ad 0)), (1, .int x1), (2, .int x2)]) hx hb dX54_union_4 rfl hl (by decide) rfl (fun ls hl => ?_)
  refine lv_iload_n hx hb dX54_union_5 rfl (lv_at hl 0 rfl) ?_
  refine lv_if_ge (tgt := 11) hx hb dX54_union_6 (by decide) (fun c_7 => ?_) (fun c_7 => ?_)
  · have hw := hw.1 (z_le (rfl : (0 : Int32).toInt = 0) (rfl : r_1.toInt = _) c_7)
    refine lv_iload_n hx hb dX54_union_11 rfl (lv_at hl 2 rfl) ?_
    refine lv_aload_n hx hb dX54_union_12 rfl (lv_at hl 1 rfl) ?_
    refine k_get X hH in_X54 0 rfl hc 11 (by decide) q6511 rfl dX54_union_13 ?_
    refine k_i0 hH (k_runS (As := [.int x1, .int f_unionCount_4]) (rest := []) X hH.1 hH.2.1 X.2.2.2 (walkX54_isIn hc (x0 := x1) (x1 := f_unionCount_4) (f_thrown := f_thrown_2) (f_cells := f_cells) (f_sizes := f_sizes) (f_keys := f_keys) (f_maps := f_maps) (f_mapCount := f_mapCount) (f_atoms := f_atoms) (f_atomCount := f_atomCount) (f_spans := f_spans) (f_spanCount := f_spanCount) (f_unions := f_unions_3) (f_unionCount := f_unionCount_4) (f_isLarge := f_isLarge_5) (f_trial := f_trial_6) (f_rowAt := f_rowAt) (f_answers := f_answers) (f_foundBy := f_foundBy) (f_firstBy := f_firstBy) (f_lastBy := f_lastBy) (f_order := f_order) (f_answerCount := f_answerCount) (f_asked := f_asked) (f_tooMany := f_tooMany) hw) (va_cwS 2 X.1.2.2.2.2 gX54_64 rfl rfl rfl hX54_isIn ⟨Nat.le_of_ble_eq_true rfl, Nat.le_of_ble_eq_true rfl⟩) rfl hl.1 rfl (Nat.le_of_ble_eq_true rfl) dX54_union_16 ⟨Nat.le_refl 0, Nat.le_refl 0⟩) (fun r_8 _ H locs hw hH => ?_)
    have hH : kH (dC, dI) cl A s.heap H locs (wX54 ci ad d f_thrown_2 f_cells f_sizes f_keys f_maps f_mapCount f_atoms f_atomCount f_spans f_spanCount f_unions_3 f_unionCount_4 f_isLarge_5 f_trial_6 f_rowAt f_answers f_foundBy f_firstBy f_lastBy f_order f_answerCount f_asked f_tooMany) := hH
    refine lv_if_eq (tgt := 31) hx hb dX54_union_19 (by decide) (fun c_9 => ?_) (fun c_9 => ?_)
    · have hw := hw.1 (z_eq (rfl : r_8.toInt = _) (rfl : (0 : Int32).toInt = 0) c_9)
      refine lv_iconst (v := (-1)) hx hb dX54_union_31 (by decide) ?_
      exact k_iret (v := (-1)) X hH (f_thrown_2, f_unions_3, f_unionCount_4, f_isLarge_5, f_trial_6) hw rfl rfl dX54_union_32
    · have hw := hw.2 (z_neq (rfl : r_8.toInt = _) (rfl : (0 : Int32).toInt = 0) c_9)
      refine lv_iload_n hx hb dX54_union_22 rfl (lv_at hl 3 rfl) ?_
      refine lv_bipush (v := 9) hx hb dX54_union_23 (by decide) ?_
      refine k_i0 hH (k_runS (As := [.int x2, .int 9]) (rest := []) X hH.1 hH.2.1 X.2.2.2 (walkX54_isIn hc (x0 := x2) (x1 := 9) (f_thrown := f_thrown_2) (f_cells := f_cells) (f_sizes := f_sizes) (f_keys := f_keys) (f_maps := f_maps) (f_mapCount := f_mapCount) (f_atoms := f_atoms) (f_atomCount := f_atomCount) (f_spans := f_spans) (f_spanCount := f_spanCount) (f_unions := f_unions_3) (f_unionCount := f_unionCount_4) (f_isLarge := f_isLarge_5) (f_trial := f_trial_6) (f_rowAt := f_rowAt) (f_answers := f_answers) (f_foundBy := f_foundBy) (f_firstBy := f_firstBy) (f_lastBy := f_lastBy) (f_order := f_order) (f_answerCount := f_answerCount) (f_asked := f_asked) (f_tooMany := f_tooMany) hw) (va_cwS 2 X.1.2.2.2.2 gX54_64 rfl rfl rfl hX54_isIn ⟨Nat.le_of_ble_eq_true rfl, Nat.le_of_ble_eq_true rfl⟩) rfl hl.1 rfl (Nat.le_of_ble_eq_true rfl) dX54_union_25 ⟨Nat.le_refl 0, Nat.le_refl 0⟩) (fun r_10 _ H locs hw hH => ?_)
      have hH : kH (dC, dI) cl A s.heap H locs (wX54 ci ad d f_thrown_2 f_cells f_sizes f_keys f_maps f_mapCount f_atoms f_atomCount f_spans f_spanCount f_unions_3 f_unionCount_4 f_isLarge_5 f_trial_6 f_rowAt f_answers f_foundBy f_firstBy f_lastBy f_order f_answerCount f_asked f_tooMany) := hH
      refine lv_if_ne (tgt := 33) hx hb dX54_union_28 (by decide) (fun c_11 => ?_) (fun c_11 => ?_)
      · have hw := hw.2 (z_ne (rfl : r_10.toInt = _) (rfl : (0 : Int32).toInt = 0) c_11)
        refine lv_iload_n hx hb dX54_union_33 rfl (lv_at hl 3 rfl) ?_
        refine lv_bipush (v := 8) hx hb dX54_union_34 (by decide) ?_
        refine lv_icmp_ge (tgt := 51) hx hb dX54_union_36 (by decide) (fun c_12 => ?_) (fun c_12 => ?_)
        · have hw := hw.1 (z_le (rfl : (8 : Int32).toInt = 8) (rfl : x2.toInt = _) c_12)
          refine lv_aload_n hx hb dX54_union_51 rfl (lv_at hl 1 rfl) ?_
          refine k_get X hH in_X54 0 rfl hc 10 (by decide) q6510 rfl dX54_union_52 ?_
          refine lv_bipush (v := 9) hx hb dX54_union_55 (by decide) ?_
          refine lv_iload_n hx hb dX54_union_57 rfl (lv_at hl 2 rfl) ?_
          refine lv_imul hx hb dX54_union_58 ?_
          have e_13 := z_mul (z_m (rfl : (9 : Int32).toInt = 9)) (z_m (rfl : x1.toInt = _))
          refine lv_iload_n hx hb dX54_union_59 rfl (lv_at hl 3 rfl) ?_
          refine lv_iadd hx hb dX54_union_60 ?_
          have e_14 := z_add e_13 (z_m (rfl : x2.toInt = _))
          have hq_15 := hw.1
          have hw := hw.2
          have e_16 := z_xi e_14 hq_15 (by decide)
          refine k_iald X hH 7 6 rfl rfl (z_in e_16 hq_15) dX54_union_61 ?_
          have e_17 := z_ld (f := f_unions_3) e_16 hq_15.1
          exact k_iret (v := f_unions_3 ((9 * x1) + x2).toNatClampNeg) X hH (f_thrown_2, f_unions_3, f_unionCount_4, f_isLarge_5, f_trial_6) (by rw [show (f_unions_3 ((9 * x1) + x2).toNatClampNeg : Int32).toInt = _ from e_17]; exact hw) rfl rfl dX54_union_62
        · have hw := hw.2 (z_nle (rfl : (8 : Int32).toInt = 8) (rfl : x2.toInt = _) c_12)
          refine lv_iload_n hx hb dX54_union_39 rfl (lv_at hl 3 rfl) ?_
          refine lv_iconst (v := 4) hx hb dX54_union_40 (by decide) ?_
          have hq_18 := hw.1
          have hw := hw.2
          refine lv_irem hx hb dX54_union_41 (by decide) ?_
          have e_19 := z_rem (rfl : x2.toInt = _) (rfl : (4 : Int32).toInt = 4) hq_18 (by decide)
          refine lv_aload_n hx hb dX54_union_42 rfl (lv_at hl 1 rfl) ?_
          refine k_get X hH in_X54 0 rfl hc 7 (by decide) q6507 rfl dX54_union_43 ?_
          refine lv_icmp_lt (tgt := 51) hx hb dX54_union_46 (by decide) (fun c_20 => ?_) (fun c_20 => ?_)
          · have hw := hw.1 (z_lt e_19 (rfl : f_atomCount.toInt = _) c_20)
            refine lv_aload_n hx hb dX54_union_51 rfl (lv_at hl 1 rfl) ?_
            refine k_get X hH in_X54 0 rfl hc 10 (by decide) q6510 rfl dX54_union_52 ?_
            refine lv_bipush (v := 9) hx hb dX54_union_55 (by decide) ?_
            refine lv_iload_n hx hb dX54_union_57 rfl (lv_at hl 2 rfl) ?_
            refine lv_imul hx hb dX54_union_58 ?_
            have e_21 := z_mul (z_m (rfl : (9 : Int32).toInt = 9)) (z_m (rfl : x1.toInt = _))
            refine lv_iload_n hx hb dX54_union_59 rfl (lv_at hl 3 rfl) ?_
            refine lv_iadd hx hb dX54_union_60 ?_
            have e_22 := z_add e_21 (z_m (rfl : x2.toInt = _))
            have hq_23 := hw.1
            have hw := hw.2
            have e_24 := z_xi e_22 hq_23 (by decide)
            refine k_iald X hH 7 6 rfl rfl (z_in e_24 hq_23) dX54_union_61 ?_
            have e_25 := z_ld (f := f_unions_3) e_24 hq_23.1
            exact k_iret (v := f_unions_3 ((9 * x1) + x2).toNatClampNeg) X hH (f_thrown_2, f_unions_3, f_unionCount_4, f_isLarge_5, f_trial_6) (by rw [show (f_unions_3 ((9 * x1) + x2).toNatClampNeg : Int32).toInt = _ from e_25]; exact hw) rfl rfl dX54_union_62
          · have hw := hw.2 (z_nlt e_19 (rfl : f_atomCount.toInt = _) c_20)
            refine lv_iconst (v := (-1)) hx hb dX54_union_49 (by decide) ?_
            exact k_iret (v := (-1)) X hH (f_thrown_2, f_unions_3, f_unionCount_4, f_isLarge_5, f_trial_6) hw rfl rfl dX54_union_50
      · have hw := hw.1 (z_eq (rfl : r_10.toInt = _) (rfl : (0 : Int32).toInt = 0) c_11)
        refine lv_iconst (v := (-1)) hx hb dX54_union_31 (by decide) ?_
        exact k_iret (v := (-1)) X hH (f_thrown_2, f_unions_3, f_unionCount_4, f_isLarge_5, f_trial_6) hw rfl rfl dX54_union_32
  · have hw := hw.2 (z_nle (rfl : (0 : Int32).toInt = 0) (rfl : r_1.toInt = _) c_7)
    refine lv_iload_n hx hb dX54_union_9 rfl (lv_at hl 0 rfl) ?_
    exact k_iret (v := r_1) X hH (f_thrown_2, f_unions_3, f_unionCount_4, f_isLarge_5, f_trial_6) hw rfl rfl dX54_union_10
set_option maxHeartbeats 4000000 in
theorem atX54_isFirst_2 {p : Program} {l : Launch} {e : Env} {s : State} {m : MethodId} {args : Array Value} {below : List Frame} {meth : Method} {c : Code} {dC : Nat → ClassId} {dI : Nat → Nat → Nat} {cl : List vw_C} {ci : Nat} (hc : cl[ci]? = some (RX54, TX54, 23)) {ad : Nat → Nat} {d : Nat → ClassId} {A : Nat → Prop} {post : Int → Prop} {f_thrown : Int32} {f_cells : Nat → Int32} {f_sizes : Nat → Int32} {f_keys : Nat → Int32} {f_maps : Nat → Int32} {f_mapCount : Int32} {f_atoms : Nat → Int32} {f_atomCount : Int32} {f_spans : Nat → Int32} {f_spanCount : Int32} {f_unions : Nat → Int32} {f_unionCount : Int32} {f_isLarge : Int32} {f_trial : Nat → Int32} {f_rowAt : Nat → Int32} {f_answers : Nat → Int32} {f_foundBy : Nat → Int32} {f_firstBy : Nat → Int32} {f_lastBy : Nat → Int32} {f_order : Nat → Int32} {f_answerCount : Int32} {f_asked : Nat → Int32} {f_tooMany : Int32} (X : kX p s m args meth c cX54_isFirst 4 RX54 (some .boolean) (dC, dI) cl (tX54 d)) {K36 : Prop} {K44 : Prop} {x1 : Int32} {x2 : Int32}  (hk36 : K36  → ∀ (H : Heap) (locs : List Loc) (ls : Array Slot), kH (dC, dI) cl A s.heap H locs (wX54 ci ad d f_thrown f_cells f_sizes f_keys f_maps f_mapCount f_atoms f_atomCount f_spans f_spanCount f_unions f_unionCount f_isLarge f_trial f_rowAt f_answers f_foundBy f_firstBy f_lastBy f_order f_answerCount f_asked f_tooMany) → lv_has ls 4 [] → W p l e ({ frames := 0, cells := 0, slots := 0, locals := 0 } : Room) s m args below meth c H locs 0 0 (MQ below (va_Qi (fun (r : Int32) (_ : Unit) => post r.toInt) (kB (dC, dI) cl (tX54 d) A (fun _ : Unit => (wX54 ci ad d f_thrown f_cells f_sizes f_keys f_maps f_mapCount f_atoms f_atomCount f_spans f_spanCount f_unions f_unionCount f_isLarge f_trial f_rowAt f_answers f_foundBy f_firstBy f_lastBy f_order f_answerCount f_asked f_tooMany))) A) args s 0 0 A) (F0 m 36 ls [])) (hk44 : K44  → ∀ (H : Heap) (locs : List Loc) (ls : Array Slot), kH (dC, dI) cl A s.heap H locs (wX54 ci ad d f_thrown f_cells f_sizes f_keys f_maps f_mapCount f_atoms f_atomCount f_spans f_spanCount f_unions f_unionCount f_isLarge f_trial f_rowAt f_answers f_foundBy f_firstBy f_lastBy f_order f_answerCount f_asked f_tooMany) → lv_has ls 4 [] → W p l e ({ frames := 0, cells := 0, slots := 0, locals := 0 } : Room) s m args below meth c H locs 0 0 (MQ below (va_Qi (fun (r : Int32) (_ : Unit) => post r.toInt) (kB (dC, dI) cl (tX54 d) A (fun _ : Unit => (wX54 ci ad d f_thrown f_cells f_sizes f_keys f_maps f_mapCount f_atoms f_atomCount f_spans f_spanCount f_unions f_unionCount f_isLarge f_trial f_rowAt f_answers f_foundBy f_firstBy f_lastBy f_order f_answerCount f_asked f_tooMany))) A) args s 0 0 A) (F0 m 44 ls [])) :
    ∀ (nn : Nat) (x3 : Int32), wX54_isFirst_2 K36 K44 x1.toInt x2.toInt (zF f_unions) nn x3.toInt → ∀ (H : Heap) (locs : List Loc) (ls : Array Slot), kH (dC, dI) cl A s.heap H locs (wX54 ci ad d f_thrown f_cells f_sizes f_keys f_maps f_mapCount f_atoms f_atomCount f_spans f_spanCount f_unions f_unionCount f_isLarge f_trial f_rowAt f_answers f_foundBy f_firstBy f_lastBy f_order f_answerCount f_asked f_tooMany) → lv_has ls 4 [(0, .ref (ad 0)), (1, .int x1), (2, .int x2), (3, .int x3)] → W p l e ({ frames := 0, cells := 0, slots := 0, locals := 0 } : Room) s m args below meth c H locs 0 0 (MQ below (va_Qi (fun (r : Int32) (_ : Unit) => post r.toInt) (kB (dC, dI) cl (tX54 d) A (fun _ : Unit => (wX54 ci ad d f_thrown f_cells f_sizes f_keys f_maps f_mapCount f_atoms f_atomCount f_spans f_spanCount f_unions f_unionCount f_isLarge f_trial f_rowAt f_answers f_foundBy f_firstBy f_lastBy f_order f_answerCount f_asked f_tooMany))) A) args s 0 0 A) (F0 m 2 ls []) := by
  have hx := X.1.1
  have hb := X.1.2.1
  intro nn
  induction nn with
  | zero =>
    intro x3 hw
    exact False.elim hw
  | succ n ih =>
    intro x3 hw H locs ls hH hl
    rw [wX54_isFirst_2] at hw
    refine lv_iload_n hx hb dX54_isFirst_2 rfl (lv_at hl 3 rfl) ?_
    refine lv_iload_n hx hb dX54_isFirst_3 rfl (lv_at hl 2 rfl) ?_
    refine lv_icmp_ge (tgt := 44) hx hb dX54_isFirst_4 (by decide) (fun c_1 => ?_) (fun c_1 => ?_)
    · have hw := hw.1 (z_le (rfl : x2.toInt = _) (rfl : x3.toInt = _) c_1)
      exact hk44  hw _ _ ls hH (lv_sub hl [] rfl)
    · have hw := hw.2 (z_nle (rfl : x2.toInt = _) (rfl : x3.toInt = _) c_1)
      refine lv_aload_n hx hb dX54_isFirst_7 rfl (lv_at hl 0 rfl) ?_
      refine k_get X hH in_X54 0 rfl hc 10 (by decide) q6510 rfl dX54_isFirst_8 ?_
      refine lv_bipush (v := 9) hx hb dX54_isFirst_11 (by decide) ?_
      refine lv_iload_n hx hb dX54_isFirst_13 rfl (lv_at hl 1 rfl) ?_
      refine lv_imul hx hb dX54_isFirst_14 ?_
      have e_2 := z_mul (z_m (rfl : (9 : Int32).toInt = 9)) (z_m (rfl : x1.toInt = _))
      refine lv_iconst (v := 4) hx hb dX54_isFirst_15 (by decide) ?_
      refine lv_iadd hx hb dX54_isFirst_16 ?_
      have e_3 := z_add e_2 (z_m (rfl : (4 : Int32).toInt = 4))
      refine lv_iload_n hx hb dX54_isFirst_17 rfl (lv_at hl 3 rfl) ?_
      refine lv_iadd hx hb dX54_isFirst_18 ?_
      have e_4 := z_add e_3 (z_m (rfl : x3.toInt = _))
      have hq_5 := hw.1
      have hw := hw.2
      have e_6 := z_xi e_4 hq_5 (by decide)
      refine k_iald X hH 7 6 rfl rfl (z_in e_6 hq_5) dX54_isFirst_19 ?_
      have e_7 := z_ld (f := f_unions) e_6 hq_5.1
      refine lv_aload_n hx hb dX54_isFirst_20 rfl (lv_at hl 0 rfl) ?_
      refine k_get X hH in_X54 0 rfl hc 10 (by decide) q6510 rfl dX54_isFirst_21 ?_
      refine lv_bipush (v := 9) hx hb dX54_isFirst_24 (by decide) ?_
      refine lv_iload_n hx hb dX54_isFirst_26 rfl (lv_at hl 1 rfl) ?_
      refine lv_imul hx hb dX54_isFirst_27 ?_
      have e_8 := z_mul (z_m (rfl : (9 : Int32).toInt = 9)) (z_m (rfl : x1.toInt = _))
      refine lv_iconst (v := 4) hx hb dX54_isFirst_28 (by decide) ?_
      refine lv_iadd hx hb dX54_isFirst_29 ?_
      have e_9 := z_add e_8 (z_m (rfl : (4 : Int32).toInt = 4))
      refine lv_iload_n hx hb dX54_isFirst_30 rfl (lv_at hl 2 rfl) ?_
      refine lv_iadd hx hb dX54_isFirst_31 ?_
      have e_10 := z_add e_9 (z_m (rfl : x2.toInt = _))
      have hq_11 := hw.1
      have hw := hw.2
      have e_12 := z_xi e_10 hq_11 (by decide)
      refine k_iald X hH 7 6 rfl rfl (z_in e_12 hq_11) dX54_isFirst_32 ?_
      have e_13 := z_ld (f := f_unions) e_12 hq_11.1
      refine lv_icmp_ne (tgt := 38) hx hb dX54_isFirst_33 (by decide) (fun c_14 => ?_) (fun c_14 => ?_)
      · have hw := hw.2 (z_ne e_7 e_13 c_14)
        have hq_16 := hw.1
        have hw := hw.2
        obtain ⟨x3_15, ex3_15⟩ : ∃ y : Int32, y = x3 + 1 := ⟨_, rfl⟩
        have hw := hw x3_15.toInt (by rw [ex3_15]; exact (z_x (z_add (z_m (rfl : x3.toInt = _)) (z_m (rfl : (1 : Int32).toInt = 1))) hq_16))
        refine lv_iinc (v := x3_15) (lv' := [(3, .int x3_15), (0, .ref (ad 0)), (1, .int x1), (2, .int x2)]) hx hb dX54_isFirst_38 hl (k := 3) rfl (by rw [ex3_15]; rfl) (by decide) rfl (fun ls hl => ?_)
        refine lv_goto (tgt := 2) hx hb dX54_isFirst_41 (by decide) ?_
        exact ih x3_15 hw _ _ ls hH (lv_sub hl [1, 2, 3, 0] rfl)
      · have hw := hw.1 (z_eq e_7 e_13 c_14)
        exact hk36  hw _ _ ls hH (lv_sub hl [] rfl)
set_option maxHeartbeats 4000000 in
theorem walkX54_isFirst {l : Launch} {dC : Nat → ClassId} {dI : Nat → Nat → Nat} {cl : List vw_C} {ci : Nat} (hc : cl[ci]? = some (RX54, TX54, 23)) {ad : Nat → Nat} {d : Nat → ClassId} {sz : Nat} {f_thrown : Int32} {f_cells : Nat → Int32} {f_sizes : Nat → Int32} {f_keys : Nat → Int32} {f_maps : Nat → Int32} {f_mapCount : Int32} {f_atoms : Nat → Int32} {f_atomCount : Int32} {f_spans : Nat → Int32} {f_spanCount : Int32} {f_unions : Nat → Int32} {f_unionCount : Int32} {f_isLarge : Int32} {f_trial : Nat → Int32} {f_rowAt : Nat → Int32} {f_answers : Nat → Int32} {f_foundBy : Nat → Int32} {f_firstBy : Nat → Int32} {f_lastBy : Nat → Int32} {f_order : Nat → Int32} {f_answerCount : Int32} {f_asked : Nat → Int32} {f_tooMany : Int32} {x1 : Int32} {x2 : Int32} {post : Int → Prop} (hw : wpX54_isFirst post (zF f_unions) x1.toInt x2.toInt) :
    Met l yX54_isFirst (ws_ yX54_isFirst cX54_isFirst 4 (some .boolean)) ({ frames := 0, cells := 0, slots := 0, locals := 0 } : Room) (kPc (dC, dI) cl (tX54 d) [.ref (ad 0), .int x1, .int x2] sz (wX54 ci ad d f_thrown f_cells f_sizes f_keys f_maps f_mapCount f_atoms f_atomCount f_spans f_spanCount f_unions f_unionCount f_isLarge f_trial f_rowAt f_answers f_foundBy f_firstBy f_lastBy f_order f_answerCount f_asked f_tooMany)) (va_Qi (fun (r : Int32) (_ : Unit) => post r.toInt) (kB (dC, dI) cl (tX54 d) (va_A (wX54 ci ad d f_thrown f_cells f_sizes f_keys f_maps f_mapCount f_atoms f_atomCount f_spans f_spanCount f_unions f_unionCount f_isLarge f_trial f_rowAt f_answers f_foundBy f_firstBy f_lastBy f_order f_answerCount f_asked f_tooMany) sz) (fun _ : Unit => (wX54 ci ad d f_thrown f_cells f_sizes f_keys f_maps f_mapCount f_atoms f_atomCount f_spans f_spanCount f_unions f_unionCount f_isLarge f_trial f_rowAt f_answers f_foundBy f_firstBy f_lastBy f_order f_answerCount f_asked f_tooMany))) (va_A (wX54 ci ad d f_thrown f_cells f_sizes f_keys f_maps f_mapCount f_atoms f_atomCount f_spans f_spanCount f_unions f_unionCount f_isLarge f_trial f_rowAt f_answers f_foundBy f_firstBy f_lastBy f_order f_answerCount f_asked f_tooMany) sz)) 0 0 (va_A (wX54 ci ad d f_thrown f_cells f_sizes f_keys f_maps f_mapCount f_atoms f_atomCount f_spans f_spanCount f_unions f_unionCount f_isLarge f_trial f_rowAt f_answers f_foundBy f_firstBy f_lastBy f_order f_answerCount f_asked f_tooMany) sz) := by
  refine k_enter (by decide) (Nat.le_of_ble_eq_true rfl) ?_
  intro p e s m below meth c ls X hsz hH hl
  subst hsz
  generalize va_A (wX54 ci ad d f_thrown f_cells f_sizes f_keys f_maps f_mapCount f_atoms f_atomCount f_spans f_spanCount f_unions f_unionCount f_isLarge f_trial f_rowAt f_answers f_foundBy f_firstBy f_lastBy f_order f_answerCount f_asked f_tooMany) s.heap.size = A at hH ⊢
  have hx := X.1.1
  have hb := X.1.2.1
  have hl : lv_has ls 4 [(0, .ref (ad 0)), (1, .int x1), (2, .int x2)] := hl
  unfold wpX54_isFirst at hw
  refine lv_iconst (v := 0) hx hb dX54_isFirst_0 (by decide) ?_
  refine lv_istore_n (lv' := [(3, .int 0), (0, .ref (ad 0)), (1, .int x1), (2, .int x2)]) hx hb dX54_isFirst_1 rfl hl (by decide) rfl (fun ls hl => ?_)
  obtain ⟨fu, hw⟩ := hw
  refine atX54_isFirst_2 hc X ?_ ?_ fu 0 hw _ _ ls hH (lv_sub hl [1, 2, 3, 0] rfl)
  · intro hw H locs ls hH hl
    refine lv_iconst (v := 0) hx hb dX54_isFirst_36 (by decide) ?_
    exact k_iret (v := 0) X hH () hw rfl rfl dX54_isFirst_37
  · intro hw H locs ls hH hl
    refine lv_iconst (v := 1) hx hb dX54_isFirst_44 (by decide) ?_
    exact k_iret (v := 1) X hH () hw rfl rfl dX54_isFirst_45
set_option maxHeartbeats 4000000 in
theorem atX54_estimate_29 {p : Program} {l : Launch} {e : Env} {s : State} {m : MethodId} {args : Array Value} {below : List Frame} {meth : Method} {c : Code} {dC : Nat → ClassId} {dI : Nat → Nat → Nat} {cl : List vw_C} {ci : Nat} (hc : cl[ci]? = some (RX54, TX54, 23)) {ad : Nat → Nat} {d : Nat → ClassId} {A : Nat → Prop} {post : Int → Int → (Int → Int) → Int → Int → (Int → Int) → Prop} {f_cells : Nat → Int32} {f_sizes : Nat → Int32} {f_keys : Nat → Int32} {f_maps : Nat → Int32} {f_mapCount : Int32} {f_atoms : Nat → Int32} {f_atomCount : Int32} {f_spans : Nat → Int32} {f_spanCount : Int32} {f_rowAt : Nat → Int32} {f_answers : Nat → Int32} {f_foundBy : Nat → Int32} {f_firstBy : Nat → Int32} {f_lastBy : Nat → Int32} {f_order : Nat → Int32} {f_answerCount : Int32} {f_asked : Nat → Int32} {f_tooMany : Int32} (X : kX p s m args meth c cX54_estimate 5 RX54 (some .int) (dC, dI) cl (tX54 d)) {K86 : Int → Prop} {x1 : Int32} {f_thrown : Int32} {f_unions : Nat → Int32} {f_unionCount : Int32} {f_isLarge : Int32} {f_trial : Nat → Int32} (hk86 : ∀ (x3 : Int32), K86 x3.toInt → ∀ (H : Heap) (locs : List Loc) (ls : Array Slot), kH (dC, dI) cl A s.heap H locs (wX54 ci ad d f_thrown f_cells f_sizes f_keys f_maps f_mapCount f_atoms f_atomCount f_spans f_spanCount f_unions f_unionCount f_isLarge f_trial f_rowAt f_answers f_foundBy f_firstBy f_lastBy f_order f_answerCount f_asked f_tooMany) → lv_has ls 5 [(3, .int x3)] → W p l e ({ frames := 5, cells := 0, slots := 0, locals := 115 } : Room) s m args below meth c H locs 0 0 (MQ below (va_Qi (fun (r : Int32) (u : Int32 × (Nat → Int32) × Int32 × Int32 × (Nat → Int32)) => post r.toInt (u.1).toInt (zF (u.2.1)) (u.2.2.1).toInt (u.2.2.2.1).toInt (zF (u.2.2.2.2))) (kB (dC, dI) cl (tX54 d) A (fun u : Int32 × (Nat → Int32) × Int32 × Int32 × (Nat → Int32) => (wX54 ci ad d (u.1) f_cells f_sizes f_keys f_maps f_mapCount f_atoms f_atomCount f_spans f_spanCount (u.2.1) (u.2.2.1) (u.2.2.2.1) (u.2.2.2.2) f_rowAt f_answers f_foundBy f_firstBy f_lastBy f_order f_answerCount f_asked f_tooMany))) A) args s 0 0 A) (F0 m 86 ls [])) :
    ∀ (nn : Nat) (x3 : Int32) (x4 : Int32), wX54_estimate_29 K86 x1.toInt (zF f_sizes) (zF f_maps) f_atomCount.toInt (zF f_unions) nn x3.toInt x4.toInt → ∀ (H : Heap) (locs : List Loc) (ls : Array Slot), kH (dC, dI) cl A s.heap H locs (wX54 ci ad d f_thrown f_cells f_sizes f_keys f_maps f_mapCount f_atoms f_atomCount f_spans f_spanCount f_unions f_unionCount f_isLarge f_trial f_rowAt f_answers f_foundBy f_firstBy f_lastBy f_order f_answerCount f_asked f_tooMany) → lv_has ls 5 [(0, .ref (ad 0)), (1, .int x1), (3, .int x3), (4, .int x4)] → W p l e ({ frames := 5, cells := 0, slots := 0, locals := 115 } : Room) s m args below meth c H locs 0 0 (MQ below (va_Qi (fun (r : Int32) (u : Int32 × (Nat → Int32) × Int32 × Int32 × (Nat → Int32)) => post r.toInt (u.1).toInt (zF (u.2.1)) (u.2.2.1).toInt (u.2.2.2.1).toInt (zF (u.2.2.2.2))) (kB (dC, dI) cl (tX54 d) A (fun u : Int32 × (Nat → Int32) × Int32 × Int32 × (Nat → Int32) => (wX54 ci ad d (u.1) f_cells f_sizes f_keys f_maps f_mapCount f_atoms f_atomCount f_spans f_spanCount (u.2.1) (u.2.2.1) (u.2.2.2.1) (u.2.2.2.2) f_rowAt f_answers f_foundBy f_firstBy f_lastBy f_order f_answerCount f_asked f_tooMany))) A) args s 0 0 A) (F0 m 29 ls []) := by
  have hx := X.1.1
  have hb := X.1.2.1
  intro nn
  induction nn with
  | zero =>
    intro x3 x4 hw
    exact False.elim hw
  | succ n ih =>
    intro x3 x4 hw H locs ls hH hl
    rw [wX54_estimate_29] at hw
    refine lv_iload hx hb dX54_estimate_29 (lv_at hl 3 rfl) ?_
    refine lv_aload_n hx hb dX54_estimate_31 rfl (lv_at hl 0 rfl) ?_
    refine k_get X hH in_X54 0 rfl hc 7 (by decide) q6507 rfl dX54_estimate_32 ?_
    refine lv_icmp_ge (tgt := 86) hx hb dX54_estimate_35 (by decide) (fun c_10 => ?_) (fun c_10 => ?_)
    · have hw := hw.1 (z_le (rfl : f_atomCount.toInt = _) (rfl : x4.toInt = _) c_10)
      exact hk86 x3 hw _ _ ls hH (lv_sub hl [2] rfl)
    · have hw := hw.2 (z_nle (rfl : f_atomCount.toInt = _) (rfl : x4.toInt = _) c_10)
      refine lv_aload_n hx hb dX54_estimate_38 rfl (lv_at hl 0 rfl) ?_
      refine lv_iload_n hx hb dX54_estimate_39 rfl (lv_at hl 1 rfl) ?_
      refine lv_iload hx hb dX54_estimate_40 (lv_at hl 3 rfl) ?_
      refine k_i0 hH (k_runV (As := [.int x1, .int x4]) (rest := []) X hH.1 hH.2.1 X.2.2.2 (walkX54_isFirst hc (x1 := x1) (x2 := x4) (f_thrown := f_thrown) (f_cells := f_cells) (f_sizes := f_sizes) (f_keys := f_keys) (f_maps := f_maps) (f_mapCount := f_mapCount) (f_atoms := f_atoms) (f_atomCount := f_atomCount) (f_spans := f_spans) (f_spanCount := f_spanCount) (f_unions := f_unions) (f_unionCount := f_unionCount) (f_isLarge := f_isLarge) (f_trial := f_trial) (f_rowAt := f_rowAt) (f_answers := f_answers) (f_foundBy := f_foundBy) (f_firstBy := f_firstBy) (f_lastBy := f_lastBy) (f_order := f_order) (f_answerCount := f_answerCount) (f_asked := f_asked) (f_tooMany := f_tooMany) hw) (cwV 2 X.1.2.2.2.2 gX54_125 rfl rfl rfl hX54_isFirst ⟨Nat.le_of_ble_eq_true rfl, Nat.le_of_ble_eq_true rfl⟩) hc (q0 := 0) rfl rfl hl.1 rfl (Nat.le_of_ble_eq_true rfl) dX54_estimate_42 ⟨Nat.le_refl 0, Nat.le_refl 0⟩) (fun r_11 _ H locs hw hH => ?_)
      have hH : kH (dC, dI) cl A s.heap H locs (wX54 ci ad d f_thrown f_cells f_sizes f_keys f_maps f_mapCount f_atoms f_atomCount f_spans f_spanCount f_unions f_unionCount f_isLarge f_trial f_rowAt f_answers f_foundBy f_firstBy f_lastBy f_order f_answerCount f_asked f_tooMany) := hH
      refine lv_if_eq (tgt := 78) hx hb dX54_estimate_45 (by decide) (fun c_12 => ?_) (fun c_12 => ?_)
      · have hw := hw.1 (z_eq (rfl : r_11.toInt = _) (rfl : (0 : Int32).toInt = 0) c_12)
        refine lv_iload_n hx hb dX54_estimate_78 rfl (lv_at hl 2 rfl) ?_
        refine lv_istore_n (lv' := [(3, .int x3), (0, .ref (ad 0)), (1, .int x1), (4, .int x4)]) hx hb dX54_estimate_79 rfl hl (by decide) rfl (fun ls hl => ?_)
        have hq_14 := hw.1
        have hw := hw.2
        obtain ⟨x4_13, ex4_13⟩ : ∃ y : Int32, y = x4 + 1 := ⟨_, rfl⟩
        have hw := hw x4_13.toInt (by rw [ex4_13]; exact (z_x (z_add (z_m (rfl : x4.toInt = _)) (z_m (rfl : (1 : Int32).toInt = 1))) hq_14))
        refine lv_iinc (v := x4_13) (lv' := [(4, .int x4_13), (3, .int x3), (0, .ref (ad 0)), (1, .int x1)]) hx hb dX54_estimate_80 hl (k := 3) rfl (by rw [ex4_13]; rfl) (by decide) rfl (fun ls hl => ?_)
        refine lv_goto (tgt := 29) hx hb dX54_estimate_83 (by decide) ?_
        exact ih x3 x4_13 hw _ _ ls hH (lv_sub hl [2, 3, 1, 0] rfl)
      · have hw := hw.2 (z_neq (rfl : r_11.toInt = _) (rfl : (0 : Int32).toInt = 0) c_12)
        refine lv_iload_n hx hb dX54_estimate_48 rfl (lv_at hl 2 rfl) ?_
        refine lv_aload_n hx hb dX54_estimate_49 rfl (lv_at hl 0 rfl) ?_
        refine k_get X hH in_X54 0 rfl hc 2 (by decide) q6502 rfl dX54_estimate_50 ?_
        refine lv_aload_n hx hb dX54_estimate_53 rfl (lv_at hl 0 rfl) ?_
        refine k_get X hH in_X54 0 rfl hc 4 (by decide) q6504 rfl dX54_estimate_54 ?_
        refine lv_bipush (v := 6) hx hb dX54_estimate_57 (by decide) ?_
        refine lv_aload_n hx hb dX54_estimate_59 rfl (lv_at hl 0 rfl) ?_
        refine k_get X hH in_X54 0 rfl hc 10 (by decide) q6510 rfl dX54_estimate_60 ?_
        refine lv_bipush (v := 9) hx hb dX54_estimate_63 (by decide) ?_
        refine lv_iload_n hx hb dX54_estimate_65 rfl (lv_at hl 1 rfl) ?_
        refine lv_imul hx hb dX54_estimate_66 ?_
        have e_15 := z_mul (z_m (rfl : (9 : Int32).toInt = 9)) (z_m (rfl : x1.toInt = _))
        refine lv_iload hx hb dX54_estimate_67 (lv_at hl 3 rfl) ?_
        refine lv_iadd hx hb dX54_estimate_69 ?_
        have e_16 := z_add e_15 (z_m (rfl : x4.toInt = _))
        have hq_17 := hw.1
        have hw := hw.2
        have e_18 := z_xi e_16 hq_17 (by decide)
        refine k_iald X hH 7 6 rfl rfl (z_in e_18 hq_17) dX54_estimate_70 ?_
        have e_19 := z_ld (f := f_unions) e_18 hq_17.1
        refine lv_imul hx hb dX54_estimate_71 ?_
        have e_20 := z_mul (z_m (rfl : (6 : Int32).toInt = 6)) (z_m e_19)
        have hq_21 := hw.1
        have hw := hw.2
        have e_22 := z_xi e_20 hq_21 (by decide)
        refine k_iald X hH 4 3 rfl rfl (z_in e_22 hq_21) dX54_estimate_72 ?_
        have e_23 := z_ld (f := f_maps) e_22 hq_21.1
        have hq_24 := hw.1
        have hw := hw.2
        refine k_iald X hH 2 1 rfl rfl (z_in e_23 hq_24) dX54_estimate_73 ?_
        have e_25 := z_ld (f := f_sizes) e_23 hq_24.1
        refine lv_imul hx hb dX54_estimate_74 ?_
        have e_26 := z_mul (z_m (rfl : x3.toInt = _)) (z_m e_25)
        refine lv_goto (tgt := 79) hx hb dX54_estimate_75 (by decide) ?_
        have hq_27 := hw.1
        have hw := hw.2
        have e_28 := z_x e_26 hq_27
        refine lv_topi (fun x3_29 ex3_29 => ?_)
        have hw := hw x3_29.toInt (by rw [ex3_29]; exact e_28)
        refine lv_istore_n (lv' := [(3, .int x3_29), (0, .ref (ad 0)), (1, .int x1), (4, .int x4)]) hx hb dX54_estimate_79 rfl hl (by decide) rfl (fun ls hl => ?_)
        have hq_31 := hw.1
        have hw := hw.2
        obtain ⟨x4_30, ex4_30⟩ : ∃ y : Int32, y = x4 + 1 := ⟨_, rfl⟩
        have hw := hw x4_30.toInt (by rw [ex4_30]; exact (z_x (z_add (z_m (rfl : x4.toInt = _)) (z_m (rfl : (1 : Int32).toInt = 1))) hq_31))
        refine lv_iinc (v := x4_30) (lv' := [(4, .int x4_30), (3, .int x3_29), (0, .ref (ad 0)), (1, .int x1)]) hx hb dX54_estimate_80 hl (k := 3) rfl (by rw [ex4_30]; rfl) (by decide) rfl (fun ls hl => ?_)
        refine lv_goto (tgt := 29) hx hb dX54_estimate_83 (by decide) ?_
        exact ih x3_29 x4_30 hw _ _ ls hH (lv_sub hl [2, 3, 1, 0] rfl)
set_option maxHeartbeats 4000000 in
theorem walkX54_estimate {l : Launch} {dC : Nat → ClassId} {dI : Nat → Nat → Nat} {cl : List vw_C} {ci : Nat} (hc : cl[ci]? = some (RX54, TX54, 23)) {ad : Nat → Nat} {d : Nat → ClassId} {sz : Nat} {f_thrown : Int32} {f_cells : Nat → Int32} {f_sizes : Nat → Int32} {f_keys : Nat → Int32} {f_maps : Nat → Int32} {f_mapCount : Int32} {f_atoms : Nat → Int32} {f_atomCount : Int32} {f_spans : Nat → Int32} {f_spanCount : Int32} {f_unions : Nat → Int32} {f_unionCount : Int32} {f_isLarge : Int32} {f_trial : Nat → Int32} {f_rowAt : Nat → Int32} {f_answers : Nat → Int32} {f_foundBy : Nat → Int32} {f_firstBy : Nat → Int32} {f_lastBy : Nat → Int32} {f_order : Nat → Int32} {f_answerCount : Int32} {f_asked : Nat → Int32} {f_tooMany : Int32} {x1 : Int32} {post : Int → Int → (Int → Int) → Int → Int → (Int → Int) → Prop} (hw : wpX54_estimate post (zF f_sizes) (zF f_keys) (zF f_maps) f_mapCount.toInt (zF f_atoms) f_atomCount.toInt (zF f_unions) f_unionCount.toInt f_isLarge.toInt (zF f_trial) x1.toInt) :
    Met l yX54_estimate (ws_ yX54_estimate cX54_estimate 5 (some .int)) ({ frames := 5, cells := 0, slots := 0, locals := 115 } : Room) (kPc (dC, dI) cl (tX54 d) [.ref (ad 0), .int x1] sz (wX54 ci ad d f_thrown f_cells f_sizes f_keys f_maps f_mapCount f_atoms f_atomCount f_spans f_spanCount f_unions f_unionCount f_isLarge f_trial f_rowAt f_answers f_foundBy f_firstBy f_lastBy f_order f_answerCount f_asked f_tooMany)) (va_Qi (fun (r : Int32) (u : Int32 × (Nat → Int32) × Int32 × Int32 × (Nat → Int32)) => post r.toInt (u.1).toInt (zF (u.2.1)) (u.2.2.1).toInt (u.2.2.2.1).toInt (zF (u.2.2.2.2))) (kB (dC, dI) cl (tX54 d) (va_A (wX54 ci ad d f_thrown f_cells f_sizes f_keys f_maps f_mapCount f_atoms f_atomCount f_spans f_spanCount f_unions f_unionCount f_isLarge f_trial f_rowAt f_answers f_foundBy f_firstBy f_lastBy f_order f_answerCount f_asked f_tooMany) sz) (fun u : Int32 × (Nat → Int32) × Int32 × Int32 × (Nat → Int32) => (wX54 ci ad d (u.1) f_cells f_sizes f_keys f_maps f_mapCount f_atoms f_atomCount f_spans f_spanCount (u.2.1) (u.2.2.1) (u.2.2.2.1) (u.2.2.2.2) f_rowAt f_answers f_foundBy f_firstBy f_lastBy f_order f_answerCount f_asked f_tooMany))) (va_A (wX54 ci ad d f_thrown f_cells f_sizes f_keys f_maps f_mapCount f_atoms f_atomCount f_spans f_spanCount f_unions f_unionCount f_isLarge f_trial f_rowAt f_answers f_foundBy f_firstBy f_lastBy f_order f_answerCount f_asked f_tooMany) sz)) 0 0 (va_A (wX54 ci ad d f_thrown f_cells f_sizes f_keys f_maps f_mapCount f_atoms f_atomCount f_spans f_spanCount f_unions f_unionCount f_isLarge f_trial f_rowAt f_answers f_foundBy f_firstBy f_lastBy f_order f_answerCount f_asked f_tooMany) sz) := by
  refine k_enter (by decide) (Nat.le_of_ble_eq_true rfl) ?_
  intro p e s m below meth c ls X hsz hH hl
  subst hsz
  generalize va_A (wX54 ci ad d f_thrown f_cells f_sizes f_keys f_maps f_mapCount f_atoms f_atomCount f_spans f_spanCount f_unions f_unionCount f_isLarge f_trial f_rowAt f_answers f_foundBy f_firstBy f_lastBy f_order f_answerCount f_asked f_tooMany) s.heap.size = A at hH ⊢
  have hx := X.1.1
  have hb := X.1.2.1
  have hl : lv_has ls 5 [(0, .ref (ad 0)), (1, .int x1)] := hl
  unfold wpX54_estimate at hw
  refine lv_aload_n hx hb dX54_estimate_0 rfl (lv_at hl 0 rfl) ?_
  refine k_i0 hH (k_runV (As := []) (rest := []) X hH.1 hH.2.1 X.2.2.2 (walkX54_ready hc (f_thrown := f_thrown) (f_cells := f_cells) (f_sizes := f_sizes) (f_keys := f_keys) (f_maps := f_maps) (f_mapCount := f_mapCount) (f_atoms := f_atoms) (f_atomCount := f_atomCount) (f_spans := f_spans) (f_spanCount := f_spanCount) (f_unions := f_unions) (f_unionCount := f_unionCount) (f_isLarge := f_isLarge) (f_trial := f_trial) (f_rowAt := f_rowAt) (f_answers := f_answers) (f_foundBy := f_foundBy) (f_firstBy := f_firstBy) (f_lastBy := f_lastBy) (f_order := f_order) (f_answerCount := f_answerCount) (f_asked := f_asked) (f_tooMany := f_tooMany) hw) (cwV 0 X.1.2.2.2.2 gX54_121 rfl rfl rfl hX54_ready ⟨Nat.le_of_ble_eq_true rfl, Nat.le_of_ble_eq_true rfl⟩) hc (q0 := 0) rfl rfl hl.1 rfl (Nat.le_of_ble_eq_true rfl) dX54_estimate_1 ⟨Nat.le_refl 0, Nat.le_refl 0⟩) (fun r_1 u H locs hw hH => ?_)
  obtain ⟨f_thrown_2, f_unions_3, f_unionCount_4, f_isLarge_5, f_trial_6⟩ := u
  have hH : kH (dC, dI) cl A s.heap H locs (wX54 ci ad d f_thrown_2 f_cells f_sizes f_keys f_maps f_mapCount f_atoms f_atomCount f_spans f_spanCount f_unions_3 f_unionCount_4 f_isLarge_5 f_trial_6 f_rowAt f_answers f_foundBy f_firstBy f_lastBy f_order f_answerCount f_asked f_tooMany) := hH
  refine lv_istore_n (lv' := [(2, .int r_1), (0, .ref (ad 0)), (1, .int x1)]) hx hb dX54_estimate_4 rfl hl (by decide) rfl (fun ls hl => ?_)
  refine lv_iload_n hx hb dX54_estimate_5 rfl (lv_at hl 0 rfl) ?_
  refine lv_if_ge (tgt := 11) hx hb dX54_estimate_6 (by decide) (fun c_7 => ?_) (fun c_7 => ?_)
  · have hw := hw.1 (z_le (rfl : (0 : Int32).toInt = 0) (rfl : r_1.toInt = _) c_7)
    refine lv_iload_n hx hb dX54_estimate_11 rfl (lv_at hl 2 rfl) ?_
    refine lv_aload_n hx hb dX54_estimate_12 rfl (lv_at hl 1 rfl) ?_
    refine k_get X hH in_X54 0 rfl hc 11 (by decide) q6511 rfl dX54_estimate_13 ?_
    refine k_i0 hH (k_runS (As := [.int x1, .int f_unionCount_4]) (rest := []) X hH.1 hH.2.1 X.2.2.2 (walkX54_isIn hc (x0 := x1) (x1 := f_unionCount_4) (f_thrown := f_thrown_2) (f_cells := f_cells) (f_sizes := f_sizes) (f_keys := f_keys) (f_maps := f_maps) (f_mapCount := f_mapCount) (f_atoms := f_atoms) (f_atomCount := f_atomCount) (f_spans := f_spans) (f_spanCount := f_spanCount) (f_unions := f_unions_3) (f_unionCount := f_unionCount_4) (f_isLarge := f_isLarge_5) (f_trial := f_trial_6) (f_rowAt := f_rowAt) (f_answers := f_answers) (f_foundBy := f_foundBy) (f_firstBy := f_firstBy) (f_lastBy := f_lastBy) (f_order := f_order) (f_answerCount := f_answerCount) (f_asked := f_asked) (f_tooMany := f_tooMany) hw) (va_cwS 2 X.1.2.2.2.2 gX54_64 rfl rfl rfl hX54_isIn ⟨Nat.le_of_ble_eq_true rfl, Nat.le_of_ble_eq_true rfl⟩) rfl hl.1 rfl (Nat.le_of_ble_eq_true rfl) dX54_estimate_16 ⟨Nat.le_refl 0, Nat.le_refl 0⟩) (fun r_8 _ H locs hw hH => ?_)
    have hH : kH (dC, dI) cl A s.heap H locs (wX54 ci ad d f_thrown_2 f_cells f_sizes f_keys f_maps f_mapCount f_atoms f_atomCount f_spans f_spanCount f_unions_3 f_unionCount_4 f_isLarge_5 f_trial_6 f_rowAt f_answers f_foundBy f_firstBy f_lastBy f_order f_answerCount f_asked f_tooMany) := hH
    refine lv_if_ne (tgt := 24) hx hb dX54_estimate_19 (by decide) (fun c_9 => ?_) (fun c_9 => ?_)
    · have hw := hw.2 (z_ne (rfl : r_8.toInt = _) (rfl : (0 : Int32).toInt = 0) c_9)
      refine lv_iconst (v := 1) hx hb dX54_estimate_24 (by decide) ?_
      refine lv_istore_n (lv' := [(3, .int 1), (2, .int r_1), (0, .ref (ad 0)), (1, .int x1)]) hx hb dX54_estimate_25 rfl hl (by decide) rfl (fun ls hl => ?_)
      refine lv_iconst (v := 0) hx hb dX54_estimate_26 (by decide) ?_
      refine lv_istore (lv' := [(4, .int 0), (3, .int 1), (2, .int r_1), (0, .ref (ad 0)), (1, .int x1)]) hx hb dX54_estimate_27 hl (by decide) rfl (fun ls hl => ?_)
      obtain ⟨fu, hw⟩ := hw
      refine atX54_estimate_29 hc X ?_ fu 1 0 hw _ _ ls hH (lv_sub hl [3, 4, 1, 0] rfl)
      · intro x3_32 hw H locs ls hH hl
        refine lv_iload_n hx hb dX54_estimate_86 rfl (lv_at hl 0 rfl) ?_
        exact k_iret (v := x3_32) X hH (f_thrown_2, f_unions_3, f_unionCount_4, f_isLarge_5, f_trial_6) hw rfl rfl dX54_estimate_87
    · have hw := hw.1 (z_eq (rfl : r_8.toInt = _) (rfl : (0 : Int32).toInt = 0) c_9)
      refine lv_iconst (v := (-1)) hx hb dX54_estimate_22 (by decide) ?_
      exact k_iret (v := (-1)) X hH (f_thrown_2, f_unions_3, f_unionCount_4, f_isLarge_5, f_trial_6) hw rfl rfl dX54_estimate_23
  · have hw := hw.2 (z_nle (rfl : (0 : Int32).toInt = 0) (rfl : r_1.toInt = _) c_7)
    refine lv_iload_n hx hb dX54_estimate_9 rfl (lv_at hl 0 rfl) ?_
    exact k_iret (v := r_1) X hH (f_thrown_2, f_unions_3, f_unionCount_4, f_isLarge_5, f_trial_6) hw rfl rfl dX54_estimate_10
set_option maxHeartbeats 4000000 in
theorem walkX54_found {l : Launch} {dC : Nat → ClassId} {dI : Nat → Nat → Nat} {cl : List vw_C} {ci : Nat} (hc : cl[ci]? = some (RX54, TX54, 23)) {ad : Nat → Nat} {d : Nat → ClassId} {sz : Nat} {f_thrown : Int32} {f_cells : Nat → Int32} {f_sizes : Nat → Int32} {f_keys : Nat → Int32} {f_maps : Nat → Int32} {f_mapCount : Int32} {f_atoms : Nat → Int32} {f_atomCount : Int32} {f_spans : Nat → Int32} {f_spanCount : Int32} {f_unions : Nat → Int32} {f_unionCount : Int32} {f_isLarge : Int32} {f_trial : Nat → Int32} {f_rowAt : Nat → Int32} {f_answers : Nat → Int32} {f_foundBy : Nat → Int32} {f_firstBy : Nat → Int32} {f_lastBy : Nat → Int32} {f_order : Nat → Int32} {f_answerCount : Int32} {f_asked : Nat → Int32} {f_tooMany : Int32} {x1 : Int32} {x2 : Int32} {post : Int → Int → Prop} (hw : wpX54_found post (zF f_foundBy) (zF f_firstBy) (zF f_order) f_answerCount.toInt x1.toInt x2.toInt) :
    Met l yX54_found (ws_ yX54_found cX54_found 3 (some .int)) ({ frames := 1, cells := 0, slots := 0, locals := 21 } : Room) (kPc (dC, dI) cl (tX54 d) [.ref (ad 0), .int x1, .int x2] sz (wX54 ci ad d f_thrown f_cells f_sizes f_keys f_maps f_mapCount f_atoms f_atomCount f_spans f_spanCount f_unions f_unionCount f_isLarge f_trial f_rowAt f_answers f_foundBy f_firstBy f_lastBy f_order f_answerCount f_asked f_tooMany)) (va_Qi (fun (r : Int32) (u : Int32) => post r.toInt (u).toInt) (kB (dC, dI) cl (tX54 d) (va_A (wX54 ci ad d f_thrown f_cells f_sizes f_keys f_maps f_mapCount f_atoms f_atomCount f_spans f_spanCount f_unions f_unionCount f_isLarge f_trial f_rowAt f_answers f_foundBy f_firstBy f_lastBy f_order f_answerCount f_asked f_tooMany) sz) (fun u : Int32 => (wX54 ci ad d (u) f_cells f_sizes f_keys f_maps f_mapCount f_atoms f_atomCount f_spans f_spanCount f_unions f_unionCount f_isLarge f_trial f_rowAt f_answers f_foundBy f_firstBy f_lastBy f_order f_answerCount f_asked f_tooMany))) (va_A (wX54 ci ad d f_thrown f_cells f_sizes f_keys f_maps f_mapCount f_atoms f_atomCount f_spans f_spanCount f_unions f_unionCount f_isLarge f_trial f_rowAt f_answers f_foundBy f_firstBy f_lastBy f_order f_answerCount f_asked f_tooMany) sz)) 0 0 (va_A (wX54 ci ad d f_thrown f_cells f_sizes f_keys f_maps f_mapCount f_atoms f_atomCount f_spans f_spanCount f_unions f_unionCount f_isLarge f_trial f_rowAt f_answers f_foundBy f_firstBy f_lastBy f_order f_answerCount f_asked f_tooMany) sz) := by
  refine k_enter (by decide) (Nat.le_of_ble_eq_true rfl) ?_
  intro p e s m below meth c ls X hsz hH hl
  subst hsz
  generalize va_A (wX54 ci ad d f_thrown f_cells f_sizes f_keys f_maps f_mapCount f_atoms f_atomCount f_spans f_spanCount f_unions f_unionCount f_isLarge f_trial f_rowAt f_answers f_foundBy f_firstBy f_lastBy f_order f_answerCount f_asked f_tooMany) s.heap.size = A at hH ⊢
  have hx := X.1.1
  have hb := X.1.2.1
  have hl : lv_has ls 3 [(0, .ref (ad 0)), (1, .int x1), (2, .int x2)] := hl
  unfold wpX54_found at hw
  refine lv_aload_n hx hb dX54_found_0 rfl (lv_at hl 0 rfl) ?_
  refine lv_iconst (v := 0) hx hb dX54_found_1 (by decide) ?_
  refine k_put X hH in_X54 tyX54_ok nmX54 0 rfl hc 0 (by decide) q6500 rfl (ty := .int) rfl rfl rfl (Nat.le_of_ble_eq_true rfl) dX54_found_2 (ws1 := (wX54 ci ad d 0 f_cells f_sizes f_keys f_maps f_mapCount f_atoms f_atomCount f_spans f_spanCount f_unions f_unionCount f_isLarge f_trial f_rowAt f_answers f_foundBy f_firstBy f_lastBy f_order f_answerCount f_asked f_tooMany)) rfl (fun H locs hH => ?_)
  refine lv_iload_n hx hb dX54_found_5 rfl (lv_at hl 1 rfl) ?_
  refine lv_aload_n hx hb dX54_found_6 rfl (lv_at hl 0 rfl) ?_
  refine k_get X hH in_X54 0 rfl hc 20 (by decide) q6520 rfl dX54_found_7 ?_
  refine k_i0 hH (k_runS (As := [.int x1, .int f_answerCount]) (rest := []) X hH.1 hH.2.1 X.2.2.2 (walkX54_isIn hc (x0 := x1) (x1 := f_answerCount) (f_thrown := 0) (f_cells := f_cells) (f_sizes := f_sizes) (f_keys := f_keys) (f_maps := f_maps) (f_mapCount := f_mapCount) (f_atoms := f_atoms) (f_atomCount := f_atomCount) (f_spans := f_spans) (f_spanCount := f_spanCount) (f_unions := f_unions) (f_unionCount := f_unionCount) (f_isLarge := f_isLarge) (f_trial := f_trial) (f_rowAt := f_rowAt) (f_answers := f_answers) (f_foundBy := f_foundBy) (f_firstBy := f_firstBy) (f_lastBy := f_lastBy) (f_order := f_order) (f_answerCount := f_answerCount) (f_asked := f_asked) (f_tooMany := f_tooMany) hw) (va_cwS 2 X.1.2.2.2.2 gX54_64 rfl rfl rfl hX54_isIn ⟨Nat.le_of_ble_eq_true rfl, Nat.le_of_ble_eq_true rfl⟩) rfl hl.1 rfl (Nat.le_of_ble_eq_true rfl) dX54_found_10 ⟨Nat.le_refl 0, Nat.le_refl 0⟩) (fun r_1 _ H locs hw hH => ?_)
  have hH : kH (dC, dI) cl A s.heap H locs (wX54 ci ad d 0 f_cells f_sizes f_keys f_maps f_mapCount f_atoms f_atomCount f_spans f_spanCount f_unions f_unionCount f_isLarge f_trial f_rowAt f_answers f_foundBy f_firstBy f_lastBy f_order f_answerCount f_asked f_tooMany) := hH
  refine lv_if_eq (tgt := 24) hx hb dX54_found_13 (by decide) (fun c_2 => ?_) (fun c_2 => ?_)
  · have hw := hw.1 (z_eq (rfl : r_1.toInt = _) (rfl : (0 : Int32).toInt = 0) c_2)
    refine lv_iconst (v := (-1)) hx hb dX54_found_24 (by decide) ?_
    exact k_iret (v := (-1)) X hH (0) hw rfl rfl dX54_found_25
  · have hw := hw.2 (z_neq (rfl : r_1.toInt = _) (rfl : (0 : Int32).toInt = 0) c_2)
    refine lv_iload_n hx hb dX54_found_16 rfl (lv_at hl 2 rfl) ?_
    refine lv_iconst (v := 2) hx hb dX54_found_17 (by decide) ?_
    refine k_i0 hH (k_runS (As := [.int x2, .int 2]) (rest := []) X hH.1 hH.2.1 X.2.2.2 (walkX54_isIn hc (x0 := x2) (x1 := 2) (f_thrown := 0) (f_cells := f_cells) (f_sizes := f_sizes) (f_keys := f_keys) (f_maps := f_maps) (f_mapCount := f_mapCount) (f_atoms := f_atoms) (f_atomCount := f_atomCount) (f_spans := f_spans) (f_spanCount := f_spanCount) (f_unions := f_unions) (f_unionCount := f_unionCount) (f_isLarge := f_isLarge) (f_trial := f_trial) (f_rowAt := f_rowAt) (f_answers := f_answers) (f_foundBy := f_foundBy) (f_firstBy := f_firstBy) (f_lastBy := f_lastBy) (f_order := f_order) (f_answerCount := f_answerCount) (f_asked := f_asked) (f_tooMany := f_tooMany) hw) (va_cwS 2 X.1.2.2.2.2 gX54_64 rfl rfl rfl hX54_isIn ⟨Nat.le_of_ble_eq_true rfl, Nat.le_of_ble_eq_true rfl⟩) rfl hl.1 rfl (Nat.le_of_ble_eq_true rfl) dX54_found_18 ⟨Nat.le_refl 0, Nat.le_refl 0⟩) (fun r_3 _ H locs hw hH => ?_)
    have hH : kH (dC, dI) cl A s.heap H locs (wX54 ci ad d 0 f_cells f_sizes f_keys f_maps f_mapCount f_atoms f_atomCount f_spans f_spanCount f_unions f_unionCount f_isLarge f_trial f_rowAt f_answers f_foundBy f_firstBy f_lastBy f_order f_answerCount f_asked f_tooMany) := hH
    refine lv_if_ne (tgt := 26) hx hb dX54_found_21 (by decide) (fun c_4 => ?_) (fun c_4 => ?_)
    · have hw := hw.2 (z_ne (rfl : r_3.toInt = _) (rfl : (0 : Int32).toInt = 0) c_4)
      refine lv_iload_n hx hb dX54_found_26 rfl (lv_at hl 2 rfl) ?_
      refine lv_if_ne (tgt := 44) hx hb dX54_found_27 (by decide) (fun c_5 => ?_) (fun c_5 => ?_)
      · have hw := hw.2 (z_ne (rfl : x2.toInt = _) (rfl : (0 : Int32).toInt = 0) c_5)
        refine lv_aload_n hx hb dX54_found_44 rfl (lv_at hl 0 rfl) ?_
        refine k_get X hH in_X54 0 rfl hc 17 (by decide) q6517 rfl dX54_found_45 ?_
        refine lv_aload_n hx hb dX54_found_48 rfl (lv_at hl 0 rfl) ?_
        refine k_get X hH in_X54 0 rfl hc 19 (by decide) q6519 rfl dX54_found_49 ?_
        refine lv_iload_n hx hb dX54_found_52 rfl (lv_at hl 1 rfl) ?_
        have hq_6 := hw.1
        have hw := hw.2
        refine k_iald X hH 14 13 rfl rfl (z_in (rfl : x1.toInt = _) hq_6) dX54_found_53 ?_
        have e_7 := z_ld (f := f_order) (rfl : x1.toInt = _) hq_6.1
        have hq_8 := hw.1
        have hw := hw.2
        refine k_iald X hH 12 11 rfl rfl (z_in e_7 hq_8) dX54_found_54 ?_
        have e_9 := z_ld (f := f_firstBy) e_7 hq_8.1
        exact k_iret (v := f_firstBy (f_order x1.toNatClampNeg).toNatClampNeg) X hH (0) (by rw [show (f_firstBy (f_order x1.toNatClampNeg).toNatClampNeg : Int32).toInt = _ from e_9]; exact hw) rfl rfl dX54_found_55
      · have hw := hw.1 (z_eq (rfl : x2.toInt = _) (rfl : (0 : Int32).toInt = 0) c_5)
        refine lv_aload_n hx hb dX54_found_30 rfl (lv_at hl 0 rfl) ?_
        refine k_get X hH in_X54 0 rfl hc 16 (by decide) q6516 rfl dX54_found_31 ?_
        refine lv_aload_n hx hb dX54_found_34 rfl (lv_at hl 0 rfl) ?_
        refine k_get X hH in_X54 0 rfl hc 19 (by decide) q6519 rfl dX54_found_35 ?_
        refine lv_iload_n hx hb dX54_found_38 rfl (lv_at hl 1 rfl) ?_
        have hq_10 := hw.1
        have hw := hw.2
        refine k_iald X hH 14 13 rfl rfl (z_in (rfl : x1.toInt = _) hq_10) dX54_found_39 ?_
        have e_11 := z_ld (f := f_order) (rfl : x1.toInt = _) hq_10.1
        have hq_12 := hw.1
        have hw := hw.2
        refine k_iald X hH 11 10 rfl rfl (z_in e_11 hq_12) dX54_found_40 ?_
        have e_13 := z_ld (f := f_foundBy) e_11 hq_12.1
        refine lv_goto (tgt := 55) hx hb dX54_found_41 (by decide) ?_
        exact k_iret (v := f_foundBy (f_order x1.toNatClampNeg).toNatClampNeg) X hH (0) (by rw [show (f_foundBy (f_order x1.toNatClampNeg).toNatClampNeg : Int32).toInt = _ from e_13]; exact hw) rfl rfl dX54_found_55
    · have hw := hw.1 (z_eq (rfl : r_3.toInt = _) (rfl : (0 : Int32).toInt = 0) c_4)
      refine lv_iconst (v := (-1)) hx hb dX54_found_24 (by decide) ?_
      exact k_iret (v := (-1)) X hH (0) hw rfl rfl dX54_found_25
