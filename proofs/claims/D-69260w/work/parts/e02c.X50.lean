/-! KnowHouseModel$ProofCheckerModel (printed by tools/zgen.py) -/
set_option maxRecDepth 100000
set_option maxHeartbeats 4000000 in
theorem walkX50_isTerm {l : Launch} {dC : Nat → ClassId} {dI : Nat → Nat → Nat} {cl : List vw_C} {ci : Nat} (hc : cl[ci]? = some (RX50, TX50, 17)) {ad : Nat → Nat} {d : Nat → ClassId} {sz : Nat} {f_phrases : Nat → Int64} {f_axioms : Nat → Int32} {f_axiomCount : Int32} {f_triples : Nat → Int32} {f_tripleCount : Int32} {f_rules : Nat → Int32} {f_instances : Nat → Int32} {f_counts : Nat → Int32} {f_premises : Nat → Int32} {f_rows : Int32} {f_stated : Nat → Int32} {f_marks : Nat → Int32} {f_broken : Int32} {f_text : Nat → Int32} {f_size : Int32} {f_sizes : Nat → Int32} {f_places : Nat → Int32} {x0 : Int32} {post : Int → Prop} (hw : wpX50_isTerm post  x0.toInt) :
    Met l yX50_isTerm (ws_ yX50_isTerm cX50_isTerm 1 (some .boolean)) ({ frames := 0, cells := 0, slots := 0, locals := 0 } : Room) (kPc (dC, dI) cl (tX50 d) [.int x0] sz (wX50 ci ad d f_phrases f_axioms f_axiomCount f_triples f_tripleCount f_rules f_instances f_counts f_premises f_rows f_stated f_marks f_broken f_text f_size f_sizes f_places)) (va_Qi (fun (r : Int32) (_ : Unit) => post r.toInt) (kB (dC, dI) cl (tX50 d) (va_A (wX50 ci ad d f_phrases f_axioms f_axiomCount f_triples f_tripleCount f_rules f_instances f_counts f_premises f_rows f_stated f_marks f_broken f_text f_size f_sizes f_places) sz) (fun _ : Unit => (wX50 ci ad d f_phrases f_axioms f_axiomCount f_triples f_tripleCount f_rules f_instances f_counts f_premises f_rows f_stated f_marks f_broken f_text f_size f_sizes f_places))) (va_A (wX50 ci ad d f_phrases f_axioms f_axiomCount f_triples f_tripleCount f_rules f_instances f_counts f_premises f_rows f_stated f_marks f_broken f_text f_size f_sizes f_places) sz)) 0 0 (va_A (wX50 ci ad d f_phrases f_axioms f_axiomCount f_triples f_tripleCount f_rules f_instances f_counts f_premises f_rows f_stated f_marks f_broken f_text f_size f_sizes f_places) sz) := by
  refine k_enter (by decide) (Nat.le_of_ble_eq_true rfl) ?_
  intro p e s m below meth c ls X hsz hH hl
  subst hsz
  generalize va_A (wX50 ci ad d f_phrases f_axioms f_axiomCount f_triples f_tripleCount f_rules f_instances f_counts f_premises f_rows f_stated f_marks f_broken f_text f_size f_sizes f_places) s.heap.size = A at hH ⊢
  have hx := X.1.1
  have hb := X.1.2.1
  have hl : lv_has ls 1 [(0, .int x0)] := hl
  unfold wpX50_isTerm at hw
  refine lv_iload_n hx hb dX50_isTerm_0 rfl (lv_at hl 0 rfl) ?_
  refine lv_if_lt (tgt := 15) hx hb dX50_isTerm_1 (by decide) (fun c_1 => ?_) (fun c_1 => ?_)
  · have hw := hw.1 (z_lt (rfl : x0.toInt = _) (rfl : (0 : Int32).toInt = 0) c_1)
    refine lv_iconst (v := 0) hx hb dX50_isTerm_15 (by decide) ?_
    exact k_iret (v := 0) X hH () hw rfl rfl dX50_isTerm_16
  · have hw := hw.2 (z_nlt (rfl : x0.toInt = _) (rfl : (0 : Int32).toInt = 0) c_1)
    refine lv_iload_n hx hb dX50_isTerm_4 rfl (lv_at hl 0 rfl) ?_
    refine lv_sipush (v := 1000) hx hb dX50_isTerm_5 (by decide) ?_
    refine lv_icmp_ge (tgt := 15) hx hb dX50_isTerm_8 (by decide) (fun c_2 => ?_) (fun c_2 => ?_)
    · have hw := hw.1 (z_le (rfl : (1000 : Int32).toInt = 1000) (rfl : x0.toInt = _) c_2)
      refine lv_iconst (v := 0) hx hb dX50_isTerm_15 (by decide) ?_
      exact k_iret (v := 0) X hH () hw rfl rfl dX50_isTerm_16
    · have hw := hw.2 (z_nle (rfl : (1000 : Int32).toInt = 1000) (rfl : x0.toInt = _) c_2)
      refine lv_iconst (v := 1) hx hb dX50_isTerm_11 (by decide) ?_
      refine lv_goto (tgt := 16) hx hb dX50_isTerm_12 (by decide) ?_
      exact k_iret (v := 1) X hH () hw rfl rfl dX50_isTerm_16
set_option maxHeartbeats 4000000 in
theorem atX50_axiom_58 {p : Program} {l : Launch} {e : Env} {s : State} {m : MethodId} {args : Array Value} {below : List Frame} {meth : Method} {c : Code} {dC : Nat → ClassId} {dI : Nat → Nat → Nat} {cl : List vw_C} {ci : Nat} (hc : cl[ci]? = some (RX50, TX50, 17)) {ad : Nat → Nat} {d : Nat → ClassId} {A : Nat → Prop} {post : Int → (Int → Int) → Int → Prop} {f_phrases : Nat → Int64} {f_triples : Nat → Int32} {f_tripleCount : Int32} {f_rules : Nat → Int32} {f_instances : Nat → Int32} {f_counts : Nat → Int32} {f_premises : Nat → Int32} {f_rows : Int32} {f_stated : Nat → Int32} {f_marks : Nat → Int32} {f_broken : Int32} {f_text : Nat → Int32} {f_size : Int32} {f_sizes : Nat → Int32} {f_places : Nat → Int32} (X : kX p s m args meth c cX50_axiom 5 RX50 (some .int) (dC, dI) cl (tX50 d))     :
    ∀ (x1 : Int32) (x2 : Int32) (x3 : Int32) (x4 : Int32) (f_axioms : Nat → Int32) (f_axiomCount : Int32), wX50_axiom_58 post x1.toInt x2.toInt x3.toInt x4.toInt (zF f_axioms) f_axiomCount.toInt → ∀ (H : Heap) (locs : List Loc) (ls : Array Slot), kH (dC, dI) cl A s.heap H locs (wX50 ci ad d f_phrases f_axioms f_axiomCount f_triples f_tripleCount f_rules f_instances f_counts f_premises f_rows f_stated f_marks f_broken f_text f_size f_sizes f_places) → lv_has ls 5 [(0, .ref (ad 0)), (1, .int x1), (2, .int x2), (3, .int x3), (4, .int x4)] → W p l e ({ frames := 1, cells := 0, slots := 0, locals := 20 } : Room) s m args below meth c H locs 0 0 (MQ below (va_Qi (fun (r : Int32) (u : (Nat → Int32) × Int32) => post r.toInt (zF (u.1)) (u.2).toInt) (kB (dC, dI) cl (tX50 d) A (fun u : (Nat → Int32) × Int32 => (wX50 ci ad d f_phrases (u.1) (u.2) f_triples f_tripleCount f_rules f_instances f_counts f_premises f_rows f_stated f_marks f_broken f_text f_size f_sizes f_places))) A) args s 0 0 A) (F0 m 58 ls []) := by
  have hx := X.1.1
  have hb := X.1.2.1
  intro x1 x2 x3 x4 f_axioms f_axiomCount hw H locs ls hH hl
  unfold wX50_axiom_58 at hw
  refine lv_aload_n hx hb dX50_axiom_58 rfl (lv_at hl 0 rfl) ?_
  refine k_get X hH in_X50 0 rfl hc 2 (by decide) q6286 rfl dX50_axiom_59 ?_
  refine lv_bipush (v := 100) hx hb dX50_axiom_62 (by decide) ?_
  refine lv_icmp_ne (tgt := 70) hx hb dX50_axiom_64 (by decide) (fun c_7 => ?_) (fun c_7 => ?_)
  · have hw := hw.2 (z_ne (rfl : f_axiomCount.toInt = _) (rfl : (100 : Int32).toInt = 100) c_7)
    refine lv_aload_n hx hb dX50_axiom_70 rfl (lv_at hl 0 rfl) ?_
    refine lv_dup hx hb dX50_axiom_71 rfl ?_
    refine k_get X hH in_X50 0 rfl hc 2 (by decide) q6286 rfl dX50_axiom_72 ?_
    refine lv_iconst (v := 1) hx hb dX50_axiom_75 (by decide) ?_
    refine lv_iadd hx hb dX50_axiom_76 ?_
    have e_8 := z_add (z_m (rfl : f_axiomCount.toInt = _)) (z_m (rfl : (1 : Int32).toInt = 1))
    have hq_9 := hw.1
    have hw := hw.2
    have e_10 := z_x e_8 hq_9
    refine lv_topi (fun f_axiomCount_11 ef_axiomCount_11 => ?_)
    have hw := hw f_axiomCount_11.toInt (by rw [ef_axiomCount_11]; exact e_10)
    refine k_put X hH in_X50 tyX50_ok nmX50 0 rfl hc 2 (by decide) q6286 rfl (ty := .int) rfl rfl rfl (Nat.le_of_ble_eq_true rfl) dX50_axiom_77 (ws1 := (wX50 ci ad d f_phrases f_axioms f_axiomCount_11 f_triples f_tripleCount f_rules f_instances f_counts f_premises f_rows f_stated f_marks f_broken f_text f_size f_sizes f_places)) rfl (fun H locs hH => ?_)
    refine lv_aload_n hx hb dX50_axiom_80 rfl (lv_at hl 0 rfl) ?_
    refine k_get X hH in_X50 0 rfl hc 1 (by decide) q6285 rfl dX50_axiom_81 ?_
    refine lv_iconst (v := 4) hx hb dX50_axiom_84 (by decide) ?_
    refine lv_aload_n hx hb dX50_axiom_85 rfl (lv_at hl 0 rfl) ?_
    refine k_get X hH in_X50 0 rfl hc 2 (by decide) q6286 rfl dX50_axiom_86 ?_
    refine lv_imul hx hb dX50_axiom_89 ?_
    have e_12 := z_mul (z_m (rfl : (4 : Int32).toInt = 4)) (z_m (rfl : f_axiomCount_11.toInt = _))
    refine lv_iload_n hx hb dX50_axiom_90 rfl (lv_at hl 1 rfl) ?_
    have hq_14 := hw.1
    have hw := hw.2
    have e_15 := z_xi e_12 hq_14 (by decide)
    obtain ⟨f_axioms_13, ef_axioms_13⟩ : ∃ y : Nat → Int32, y = upd f_axioms (4 * f_axiomCount_11).toNatClampNeg x1 := ⟨_, rfl⟩
    refine k_iast X hH 2 1 rfl rfl (z_in e_15 hq_14) dX50_axiom_91 ef_axioms_13 (ws1 := (wX50 ci ad d f_phrases f_axioms_13 f_axiomCount_11 f_triples f_tripleCount f_rules f_instances f_counts f_premises f_rows f_stated f_marks f_broken f_text f_size f_sizes f_places)) rfl (fun H locs hH => ?_)
    have hw := hw (zF f_axioms_13) (by rw [ef_axioms_13]; exact z_st (f := f_axioms) e_15 hq_14.1 (rfl : x1.toInt = _))
    refine lv_aload_n hx hb dX50_axiom_92 rfl (lv_at hl 0 rfl) ?_
    refine k_get X hH in_X50 0 rfl hc 1 (by decide) q6285 rfl dX50_axiom_93 ?_
    refine lv_iconst (v := 4) hx hb dX50_axiom_96 (by decide) ?_
    refine lv_aload_n hx hb dX50_axiom_97 rfl (lv_at hl 0 rfl) ?_
    refine k_get X hH in_X50 0 rfl hc 2 (by decide) q6286 rfl dX50_axiom_98 ?_
    refine lv_imul hx hb dX50_axiom_101 ?_
    have e_16 := z_mul (z_m (rfl : (4 : Int32).toInt = 4)) (z_m (rfl : f_axiomCount_11.toInt = _))
    refine lv_iconst (v := 1) hx hb dX50_axiom_102 (by decide) ?_
    refine lv_iadd hx hb dX50_axiom_103 ?_
    have e_17 := z_add e_16 (z_m (rfl : (1 : Int32).toInt = 1))
    refine lv_iload_n hx hb dX50_axiom_104 rfl (lv_at hl 2 rfl) ?_
    have hq_19 := hw.1
    have hw := hw.2
    have e_20 := z_xi e_17 hq_19 (by decide)
    obtain ⟨f_axioms_18, ef_axioms_18⟩ : ∃ y : Nat → Int32, y = upd f_axioms_13 ((4 * f_axiomCount_11) + 1).toNatClampNeg x2 := ⟨_, rfl⟩
    refine k_iast X hH 2 1 rfl rfl (z_in e_20 hq_19) dX50_axiom_105 ef_axioms_18 (ws1 := (wX50 ci ad d f_phrases f_axioms_18 f_axiomCount_11 f_triples f_tripleCount f_rules f_instances f_counts f_premises f_rows f_stated f_marks f_broken f_text f_size f_sizes f_places)) rfl (fun H locs hH => ?_)
    have hw := hw (zF f_axioms_18) (by rw [ef_axioms_18]; exact z_st (f := f_axioms_13) e_20 hq_19.1 (rfl : x2.toInt = _))
    refine lv_aload_n hx hb dX50_axiom_106 rfl (lv_at hl 0 rfl) ?_
    refine k_get X hH in_X50 0 rfl hc 1 (by decide) q6285 rfl dX50_axiom_107 ?_
    refine lv_iconst (v := 4) hx hb dX50_axiom_110 (by decide) ?_
    refine lv_aload_n hx hb dX50_axiom_111 rfl (lv_at hl 0 rfl) ?_
    refine k_get X hH in_X50 0 rfl hc 2 (by decide) q6286 rfl dX50_axiom_112 ?_
    refine lv_imul hx hb dX50_axiom_115 ?_
    have e_21 := z_mul (z_m (rfl : (4 : Int32).toInt = 4)) (z_m (rfl : f_axiomCount_11.toInt = _))
    refine lv_iconst (v := 2) hx hb dX50_axiom_116 (by decide) ?_
    refine lv_iadd hx hb dX50_axiom_117 ?_
    have e_22 := z_add e_21 (z_m (rfl : (2 : Int32).toInt = 2))
    refine lv_iload hx hb dX50_axiom_118 (lv_at hl 4 rfl) ?_
    refine lv_if_eq (tgt := 127) hx hb dX50_axiom_120 (by decide) (fun c_23 => ?_) (fun c_23 => ?_)
    · have hw := hw.1 (z_eq (rfl : x4.toInt = _) (rfl : (0 : Int32).toInt = 0) c_23)
      refine lv_iload_n hx hb dX50_axiom_127 rfl (lv_at hl 3 rfl) ?_
      have hq_25 := hw.1
      have hw := hw.2
      have e_26 := z_xi e_22 hq_25 (by decide)
      obtain ⟨f_axioms_24, ef_axioms_24⟩ : ∃ y : Nat → Int32, y = upd f_axioms_18 ((4 * f_axiomCount_11) + 2).toNatClampNeg x3 := ⟨_, rfl⟩
      refine k_iast X hH 2 1 rfl rfl (z_in e_26 hq_25) dX50_axiom_128 ef_axioms_24 (ws1 := (wX50 ci ad d f_phrases f_axioms_24 f_axiomCount_11 f_triples f_tripleCount f_rules f_instances f_counts f_premises f_rows f_stated f_marks f_broken f_text f_size f_sizes f_places)) rfl (fun H locs hH => ?_)
      have hw := hw (zF f_axioms_24) (by rw [ef_axioms_24]; exact z_st (f := f_axioms_18) e_26 hq_25.1 (rfl : x3.toInt = _))
      refine lv_aload_n hx hb dX50_axiom_129 rfl (lv_at hl 0 rfl) ?_
      refine k_get X hH in_X50 0 rfl hc 1 (by decide) q6285 rfl dX50_axiom_130 ?_
      refine lv_iconst (v := 4) hx hb dX50_axiom_133 (by decide) ?_
      refine lv_aload_n hx hb dX50_axiom_134 rfl (lv_at hl 0 rfl) ?_
      refine k_get X hH in_X50 0 rfl hc 2 (by decide) q6286 rfl dX50_axiom_135 ?_
      refine lv_imul hx hb dX50_axiom_138 ?_
      have e_27 := z_mul (z_m (rfl : (4 : Int32).toInt = 4)) (z_m (rfl : f_axiomCount_11.toInt = _))
      refine lv_iconst (v := 3) hx hb dX50_axiom_139 (by decide) ?_
      refine lv_iadd hx hb dX50_axiom_140 ?_
      have e_28 := z_add e_27 (z_m (rfl : (3 : Int32).toInt = 3))
      refine lv_iconst (v := 0) hx hb dX50_axiom_141 (by decide) ?_
      have hq_30 := hw.1
      have hw := hw.2
      have e_31 := z_xi e_28 hq_30 (by decide)
      obtain ⟨f_axioms_29, ef_axioms_29⟩ : ∃ y : Nat → Int32, y = upd f_axioms_24 ((4 * f_axiomCount_11) + 3).toNatClampNeg 0 := ⟨_, rfl⟩
      refine k_iast X hH 2 1 rfl rfl (z_in e_31 hq_30) dX50_axiom_142 ef_axioms_29 (ws1 := (wX50 ci ad d f_phrases f_axioms_29 f_axiomCount_11 f_triples f_tripleCount f_rules f_instances f_counts f_premises f_rows f_stated f_marks f_broken f_text f_size f_sizes f_places)) rfl (fun H locs hH => ?_)
      have hw := hw (zF f_axioms_29) (by rw [ef_axioms_29]; exact z_st (f := f_axioms_24) e_31 hq_30.1 (rfl : (0 : Int32).toInt = 0))
      refine lv_aload_n hx hb dX50_axiom_143 rfl (lv_at hl 0 rfl) ?_
      refine k_get X hH in_X50 0 rfl hc 2 (by decide) q6286 rfl dX50_axiom_144 ?_
      exact k_iret (v := f_axiomCount_11) X hH (f_axioms_29, f_axiomCount_11) hw rfl rfl dX50_axiom_147
    · have hw := hw.2 (z_neq (rfl : x4.toInt = _) (rfl : (0 : Int32).toInt = 0) c_23)
      refine lv_iconst (v := 0) hx hb dX50_axiom_123 (by decide) ?_
      refine lv_goto (tgt := 128) hx hb dX50_axiom_124 (by decide) ?_
      have hq_33 := hw.1
      have hw := hw.2
      have e_34 := z_xi e_22 hq_33 (by decide)
      obtain ⟨f_axioms_32, ef_axioms_32⟩ : ∃ y : Nat → Int32, y = upd f_axioms_18 ((4 * f_axiomCount_11) + 2).toNatClampNeg 0 := ⟨_, rfl⟩
      refine k_iast X hH 2 1 rfl rfl (z_in e_34 hq_33) dX50_axiom_128 ef_axioms_32 (ws1 := (wX50 ci ad d f_phrases f_axioms_32 f_axiomCount_11 f_triples f_tripleCount f_rules f_instances f_counts f_premises f_rows f_stated f_marks f_broken f_text f_size f_sizes f_places)) rfl (fun H locs hH => ?_)
      have hw := hw (zF f_axioms_32) (by rw [ef_axioms_32]; exact z_st (f := f_axioms_18) e_34 hq_33.1 (rfl : (0 : Int32).toInt = 0))
      refine lv_aload_n hx hb dX50_axiom_129 rfl (lv_at hl 0 rfl) ?_
      refine k_get X hH in_X50 0 rfl hc 1 (by decide) q6285 rfl dX50_axiom_130 ?_
      refine lv_iconst (v := 4) hx hb dX50_axiom_133 (by decide) ?_
      refine lv_aload_n hx hb dX50_axiom_134 rfl (lv_at hl 0 rfl) ?_
      refine k_get X hH in_X50 0 rfl hc 2 (by decide) q6286 rfl dX50_axiom_135 ?_
      refine lv_imul hx hb dX50_axiom_138 ?_
      have e_35 := z_mul (z_m (rfl : (4 : Int32).toInt = 4)) (z_m (rfl : f_axiomCount_11.toInt = _))
      refine lv_iconst (v := 3) hx hb dX50_axiom_139 (by decide) ?_
      refine lv_iadd hx hb dX50_axiom_140 ?_
      have e_36 := z_add e_35 (z_m (rfl : (3 : Int32).toInt = 3))
      refine lv_iconst (v := 0) hx hb dX50_axiom_141 (by decide) ?_
      have hq_38 := hw.1
      have hw := hw.2
      have e_39 := z_xi e_36 hq_38 (by decide)
      obtain ⟨f_axioms_37, ef_axioms_37⟩ : ∃ y : Nat → Int32, y = upd f_axioms_32 ((4 * f_axiomCount_11) + 3).toNatClampNeg 0 := ⟨_, rfl⟩
      refine k_iast X hH 2 1 rfl rfl (z_in e_39 hq_38) dX50_axiom_142 ef_axioms_37 (ws1 := (wX50 ci ad d f_phrases f_axioms_37 f_axiomCount_11 f_triples f_tripleCount f_rules f_instances f_counts f_premises f_rows f_stated f_marks f_broken f_text f_size f_sizes f_places)) rfl (fun H locs hH => ?_)
      have hw := hw (zF f_axioms_37) (by rw [ef_axioms_37]; exact z_st (f := f_axioms_32) e_39 hq_38.1 (rfl : (0 : Int32).toInt = 0))
      refine lv_aload_n hx hb dX50_axiom_143 rfl (lv_at hl 0 rfl) ?_
      refine k_get X hH in_X50 0 rfl hc 2 (by decide) q6286 rfl dX50_axiom_144 ?_
      exact k_iret (v := f_axiomCount_11) X hH (f_axioms_37, f_axiomCount_11) hw rfl rfl dX50_axiom_147
  · have hw := hw.1 (z_eq (rfl : f_axiomCount.toInt = _) (rfl : (100 : Int32).toInt = 100) c_7)
    refine lv_bipush (v := (-4)) hx hb dX50_axiom_67 (by decide) ?_
    exact k_iret (v := (-4)) X hH (f_axioms, f_axiomCount) hw rfl rfl dX50_axiom_69
set_option maxHeartbeats 4000000 in
theorem atX50_axiom_23 {p : Program} {l : Launch} {e : Env} {s : State} {m : MethodId} {args : Array Value} {below : List Frame} {meth : Method} {c : Code} {dC : Nat → ClassId} {dI : Nat → Nat → Nat} {cl : List vw_C} {ci : Nat} (hc : cl[ci]? = some (RX50, TX50, 17)) {ad : Nat → Nat} {d : Nat → ClassId} {A : Nat → Prop} {post : Int → (Int → Int) → Int → Prop} {f_phrases : Nat → Int64} {f_triples : Nat → Int32} {f_tripleCount : Int32} {f_rules : Nat → Int32} {f_instances : Nat → Int32} {f_counts : Nat → Int32} {f_premises : Nat → Int32} {f_rows : Int32} {f_stated : Nat → Int32} {f_marks : Nat → Int32} {f_broken : Int32} {f_text : Nat → Int32} {f_size : Int32} {f_sizes : Nat → Int32} {f_places : Nat → Int32} (X : kX p s m args meth c cX50_axiom 5 RX50 (some .int) (dC, dI) cl (tX50 d))     :
    ∀ (x1 : Int32) (x2 : Int32) (x3 : Int32) (y0 : Int32) (f_axioms : Nat → Int32) (f_axiomCount : Int32), wX50_axiom_23 post x1.toInt x2.toInt x3.toInt y0.toInt (zF f_axioms) f_axiomCount.toInt → ∀ (H : Heap) (locs : List Loc) (ls : Array Slot), kH (dC, dI) cl A s.heap H locs (wX50 ci ad d f_phrases f_axioms f_axiomCount f_triples f_tripleCount f_rules f_instances f_counts f_premises f_rows f_stated f_marks f_broken f_text f_size f_sizes f_places) → lv_has ls 5 [(0, .ref (ad 0)), (1, .int x1), (2, .int x2), (3, .int x3)] → W p l e ({ frames := 1, cells := 0, slots := 0, locals := 20 } : Room) s m args below meth c H locs 0 0 (MQ below (va_Qi (fun (r : Int32) (u : (Nat → Int32) × Int32) => post r.toInt (zF (u.1)) (u.2).toInt) (kB (dC, dI) cl (tX50 d) A (fun u : (Nat → Int32) × Int32 => (wX50 ci ad d f_phrases (u.1) (u.2) f_triples f_tripleCount f_rules f_instances f_counts f_premises f_rows f_stated f_marks f_broken f_text f_size f_sizes f_places))) A) args s 0 0 A) (F0 m 23 ls [.int y0]) := by
  have hx := X.1.1
  have hb := X.1.2.1
  intro x1 x2 x3 y0 f_axioms f_axiomCount hw H locs ls hH hl
  unfold wX50_axiom_23 at hw
  refine lv_istore (lv' := [(4, .int y0), (0, .ref (ad 0)), (1, .int x1), (2, .int x2), (3, .int x3)]) hx hb dX50_axiom_23 hl (by decide) rfl (fun ls hl => ?_)
  refine lv_iload_n hx hb dX50_axiom_25 rfl (lv_at hl 2 rfl) ?_
  refine lv_iconst (v := 1) hx hb dX50_axiom_26 (by decide) ?_
  refine lv_icmp_lt (tgt := 55) hx hb dX50_axiom_27 (by decide) (fun c_2 => ?_) (fun c_2 => ?_)
  · have hw := hw.1 (z_lt (rfl : x1.toInt = _) (rfl : (1 : Int32).toInt = 1) c_2)
    refine lv_bipush (v := (-2)) hx hb dX50_axiom_55 (by decide) ?_
    exact k_iret (v := (-2)) X hH (f_axioms, f_axiomCount) hw rfl rfl dX50_axiom_57
  · have hw := hw.2 (z_nlt (rfl : x1.toInt = _) (rfl : (1 : Int32).toInt = 1) c_2)
    refine lv_iload_n hx hb dX50_axiom_30 rfl (lv_at hl 2 rfl) ?_
    refine lv_bipush (v := 10) hx hb dX50_axiom_31 (by decide) ?_
    refine lv_icmp_gt (tgt := 55) hx hb dX50_axiom_33 (by decide) (fun c_3 => ?_) (fun c_3 => ?_)
    · have hw := hw.1 (z_lt (rfl : (10 : Int32).toInt = 10) (rfl : x1.toInt = _) c_3)
      refine lv_bipush (v := (-2)) hx hb dX50_axiom_55 (by decide) ?_
      exact k_iret (v := (-2)) X hH (f_axioms, f_axiomCount) hw rfl rfl dX50_axiom_57
    · have hw := hw.2 (z_nlt (rfl : (10 : Int32).toInt = 10) (rfl : x1.toInt = _) c_3)
      refine lv_iload_n hx hb dX50_axiom_36 rfl (lv_at hl 3 rfl) ?_
      refine k_i0 hH (k_runS (As := [.int x2]) (rest := []) X hH.1 hH.2.1 X.2.2.2 (walkX50_isTerm hc (x0 := x2) (f_phrases := f_phrases) (f_axioms := f_axioms) (f_axiomCount := f_axiomCount) (f_triples := f_triples) (f_tripleCount := f_tripleCount) (f_rules := f_rules) (f_instances := f_instances) (f_counts := f_counts) (f_premises := f_premises) (f_rows := f_rows) (f_stated := f_stated) (f_marks := f_marks) (f_broken := f_broken) (f_text := f_text) (f_size := f_size) (f_sizes := f_sizes) (f_places := f_places) hw) (va_cwS 1 X.1.2.2.2.2 gX50_156 rfl rfl rfl hX50_isTerm ⟨Nat.le_of_ble_eq_true rfl, Nat.le_of_ble_eq_true rfl⟩) rfl hl.1 rfl (Nat.le_of_ble_eq_true rfl) dX50_axiom_37 ⟨Nat.le_refl 0, Nat.le_refl 0⟩) (fun r_4 _ H locs hw hH => ?_)
      have hH : kH (dC, dI) cl A s.heap H locs (wX50 ci ad d f_phrases f_axioms f_axiomCount f_triples f_tripleCount f_rules f_instances f_counts f_premises f_rows f_stated f_marks f_broken f_text f_size f_sizes f_places) := hH
      refine lv_if_eq (tgt := 55) hx hb dX50_axiom_40 (by decide) (fun c_5 => ?_) (fun c_5 => ?_)
      · have hw := hw.1 (z_eq (rfl : r_4.toInt = _) (rfl : (0 : Int32).toInt = 0) c_5)
        refine lv_bipush (v := (-2)) hx hb dX50_axiom_55 (by decide) ?_
        exact k_iret (v := (-2)) X hH (f_axioms, f_axiomCount) hw rfl rfl dX50_axiom_57
      · have hw := hw.2 (z_neq (rfl : r_4.toInt = _) (rfl : (0 : Int32).toInt = 0) c_5)
        refine lv_iload hx hb dX50_axiom_43 (lv_at hl 0 rfl) ?_
        refine lv_if_ne (tgt := 58) hx hb dX50_axiom_45 (by decide) (fun c_6 => ?_) (fun c_6 => ?_)
        · have hw := hw.2 (z_ne (rfl : y0.toInt = _) (rfl : (0 : Int32).toInt = 0) c_6)
          exact atX50_axiom_58 hc X x1 x2 x3 y0 f_axioms f_axiomCount hw _ _ ls hH (lv_sub hl [1, 2, 3, 4, 0] rfl)
        · have hw := hw.1 (z_eq (rfl : y0.toInt = _) (rfl : (0 : Int32).toInt = 0) c_6)
          refine lv_iload_n hx hb dX50_axiom_48 rfl (lv_at hl 4 rfl) ?_
          refine k_i0 hH (k_runS (As := [.int x3]) (rest := []) X hH.1 hH.2.1 X.2.2.2 (walkX50_isTerm hc (x0 := x3) (f_phrases := f_phrases) (f_axioms := f_axioms) (f_axiomCount := f_axiomCount) (f_triples := f_triples) (f_tripleCount := f_tripleCount) (f_rules := f_rules) (f_instances := f_instances) (f_counts := f_counts) (f_premises := f_premises) (f_rows := f_rows) (f_stated := f_stated) (f_marks := f_marks) (f_broken := f_broken) (f_text := f_text) (f_size := f_size) (f_sizes := f_sizes) (f_places := f_places) hw) (va_cwS 1 X.1.2.2.2.2 gX50_156 rfl rfl rfl hX50_isTerm ⟨Nat.le_of_ble_eq_true rfl, Nat.le_of_ble_eq_true rfl⟩) rfl hl.1 rfl (Nat.le_of_ble_eq_true rfl) dX50_axiom_49 ⟨Nat.le_refl 0, Nat.le_refl 0⟩) (fun r_40 _ H locs hw hH => ?_)
          have hH : kH (dC, dI) cl A s.heap H locs (wX50 ci ad d f_phrases f_axioms f_axiomCount f_triples f_tripleCount f_rules f_instances f_counts f_premises f_rows f_stated f_marks f_broken f_text f_size f_sizes f_places) := hH
          refine lv_if_ne (tgt := 58) hx hb dX50_axiom_52 (by decide) (fun c_41 => ?_) (fun c_41 => ?_)
          · have hw := hw.2 (z_ne (rfl : r_40.toInt = _) (rfl : (0 : Int32).toInt = 0) c_41)
            exact atX50_axiom_58 hc X x1 x2 x3 y0 f_axioms f_axiomCount hw _ _ ls hH (lv_sub hl [1, 2, 3, 4, 0] rfl)
          · have hw := hw.1 (z_eq (rfl : r_40.toInt = _) (rfl : (0 : Int32).toInt = 0) c_41)
            refine lv_bipush (v := (-2)) hx hb dX50_axiom_55 (by decide) ?_
            exact k_iret (v := (-2)) X hH (f_axioms, f_axiomCount) hw rfl rfl dX50_axiom_57
set_option maxHeartbeats 4000000 in
theorem walkX50_axiom {l : Launch} {dC : Nat → ClassId} {dI : Nat → Nat → Nat} {cl : List vw_C} {ci : Nat} (hc : cl[ci]? = some (RX50, TX50, 17)) {ad : Nat → Nat} {d : Nat → ClassId} {sz : Nat} {f_phrases : Nat → Int64} {f_axioms : Nat → Int32} {f_axiomCount : Int32} {f_triples : Nat → Int32} {f_tripleCount : Int32} {f_rules : Nat → Int32} {f_instances : Nat → Int32} {f_counts : Nat → Int32} {f_premises : Nat → Int32} {f_rows : Int32} {f_stated : Nat → Int32} {f_marks : Nat → Int32} {f_broken : Int32} {f_text : Nat → Int32} {f_size : Int32} {f_sizes : Nat → Int32} {f_places : Nat → Int32} {x1 : Int32} {x2 : Int32} {x3 : Int32} {post : Int → (Int → Int) → Int → Prop} (hw : wpX50_axiom post (zF f_axioms) f_axiomCount.toInt x1.toInt x2.toInt x3.toInt) :
    Met l yX50_axiom (ws_ yX50_axiom cX50_axiom 5 (some .int)) ({ frames := 1, cells := 0, slots := 0, locals := 20 } : Room) (kPc (dC, dI) cl (tX50 d) [.ref (ad 0), .int x1, .int x2, .int x3] sz (wX50 ci ad d f_phrases f_axioms f_axiomCount f_triples f_tripleCount f_rules f_instances f_counts f_premises f_rows f_stated f_marks f_broken f_text f_size f_sizes f_places)) (va_Qi (fun (r : Int32) (u : (Nat → Int32) × Int32) => post r.toInt (zF (u.1)) (u.2).toInt) (kB (dC, dI) cl (tX50 d) (va_A (wX50 ci ad d f_phrases f_axioms f_axiomCount f_triples f_tripleCount f_rules f_instances f_counts f_premises f_rows f_stated f_marks f_broken f_text f_size f_sizes f_places) sz) (fun u : (Nat → Int32) × Int32 => (wX50 ci ad d f_phrases (u.1) (u.2) f_triples f_tripleCount f_rules f_instances f_counts f_premises f_rows f_stated f_marks f_broken f_text f_size f_sizes f_places))) (va_A (wX50 ci ad d f_phrases f_axioms f_axiomCount f_triples f_tripleCount f_rules f_instances f_counts f_premises f_rows f_stated f_marks f_broken f_text f_size f_sizes f_places) sz)) 0 0 (va_A (wX50 ci ad d f_phrases f_axioms f_axiomCount f_triples f_tripleCount f_rules f_instances f_counts f_premises f_rows f_stated f_marks f_broken f_text f_size f_sizes f_places) sz) := by
  refine k_enter (by decide) (Nat.le_of_ble_eq_true rfl) ?_
  intro p e s m below meth c ls X hsz hH hl
  subst hsz
  generalize va_A (wX50 ci ad d f_phrases f_axioms f_axiomCount f_triples f_tripleCount f_rules f_instances f_counts f_premises f_rows f_stated f_marks f_broken f_text f_size f_sizes f_places) s.heap.size = A at hH ⊢
  have hx := X.1.1
  have hb := X.1.2.1
  have hl : lv_has ls 5 [(0, .ref (ad 0)), (1, .int x1), (2, .int x2), (3, .int x3)] := hl
  unfold wpX50_axiom at hw
  refine lv_iload_n hx hb dX50_axiom_0 rfl (lv_at hl 1 rfl) ?_
  refine lv_bipush (v := 6) hx hb dX50_axiom_1 (by decide) ?_
  refine lv_icmp_eq (tgt := 18) hx hb dX50_axiom_3 (by decide) (fun c_1 => ?_) (fun c_1 => ?_)
  · have hw := hw.1 (z_eq (rfl : x1.toInt = _) (rfl : (6 : Int32).toInt = 6) c_1)
    refine lv_iconst (v := 1) hx hb dX50_axiom_18 (by decide) ?_
    refine lv_goto (tgt := 23) hx hb dX50_axiom_19 (by decide) ?_
    exact atX50_axiom_23 hc X x1 x2 x3 1 f_axioms f_axiomCount hw _ _ ls hH (lv_sub hl [0, 1, 2, 3] rfl)
  · have hw := hw.2 (z_neq (rfl : x1.toInt = _) (rfl : (6 : Int32).toInt = 6) c_1)
    refine lv_iload_n hx hb dX50_axiom_6 rfl (lv_at hl 1 rfl) ?_
    refine lv_bipush (v := 7) hx hb dX50_axiom_7 (by decide) ?_
    refine lv_icmp_eq (tgt := 18) hx hb dX50_axiom_9 (by decide) (fun c_42 => ?_) (fun c_42 => ?_)
    · have hw := hw.1 (z_eq (rfl : x1.toInt = _) (rfl : (7 : Int32).toInt = 7) c_42)
      refine lv_iconst (v := 1) hx hb dX50_axiom_18 (by decide) ?_
      refine lv_goto (tgt := 23) hx hb dX50_axiom_19 (by decide) ?_
      exact atX50_axiom_23 hc X x1 x2 x3 1 f_axioms f_axiomCount hw _ _ ls hH (lv_sub hl [0, 1, 2, 3] rfl)
    · have hw := hw.2 (z_neq (rfl : x1.toInt = _) (rfl : (7 : Int32).toInt = 7) c_42)
      refine lv_iload_n hx hb dX50_axiom_12 rfl (lv_at hl 1 rfl) ?_
      refine lv_bipush (v := 9) hx hb dX50_axiom_13 (by decide) ?_
      refine lv_icmp_ne (tgt := 22) hx hb dX50_axiom_15 (by decide) (fun c_43 => ?_) (fun c_43 => ?_)
      · have hw := hw.2 (z_ne (rfl : x1.toInt = _) (rfl : (9 : Int32).toInt = 9) c_43)
        refine lv_iconst (v := 0) hx hb dX50_axiom_22 (by decide) ?_
        exact atX50_axiom_23 hc X x1 x2 x3 0 f_axioms f_axiomCount hw _ _ ls hH (lv_sub hl [0, 1, 2, 3] rfl)
      · have hw := hw.1 (z_eq (rfl : x1.toInt = _) (rfl : (9 : Int32).toInt = 9) c_43)
        refine lv_iconst (v := 1) hx hb dX50_axiom_18 (by decide) ?_
        refine lv_goto (tgt := 23) hx hb dX50_axiom_19 (by decide) ?_
        exact atX50_axiom_23 hc X x1 x2 x3 1 f_axioms f_axiomCount hw _ _ ls hH (lv_sub hl [0, 1, 2, 3] rfl)
set_option maxHeartbeats 4000000 in
theorem atX50_triple_27 {p : Program} {l : Launch} {e : Env} {s : State} {m : MethodId} {args : Array Value} {below : List Frame} {meth : Method} {c : Code} {dC : Nat → ClassId} {dI : Nat → Nat → Nat} {cl : List vw_C} {ci : Nat} (hc : cl[ci]? = some (RX50, TX50, 17)) {ad : Nat → Nat} {d : Nat → ClassId} {A : Nat → Prop} {post : Int → (Int → Int) → Int → Prop} {f_phrases : Nat → Int64} {f_axioms : Nat → Int32} {f_axiomCount : Int32} {f_rules : Nat → Int32} {f_instances : Nat → Int32} {f_counts : Nat → Int32} {f_premises : Nat → Int32} {f_rows : Int32} {f_stated : Nat → Int32} {f_marks : Nat → Int32} {f_broken : Int32} {f_text : Nat → Int32} {f_size : Int32} {f_sizes : Nat → Int32} {f_places : Nat → Int32} (X : kX p s m args meth c cX50_triple 5 RX50 (some .int) (dC, dI) cl (tX50 d)) {K81 : Int → Prop} {K90 : Prop} {x1 : Int32} {x2 : Int32} {x3 : Int32} {f_triples : Nat → Int32} {f_tripleCount : Int32} (hk81 : ∀ (x4 : Int32), K81 x4.toInt → ∀ (H : Heap) (locs : List Loc) (ls : Array Slot), kH (dC, dI) cl A s.heap H locs (wX50 ci ad d f_phrases f_axioms f_axiomCount f_triples f_tripleCount f_rules f_instances f_counts f_premises f_rows f_stated f_marks f_broken f_text f_size f_sizes f_places) → lv_has ls 5 [(4, .int x4)] → W p l e ({ frames := 1, cells := 0, slots := 0, locals := 20 } : Room) s m args below meth c H locs 0 0 (MQ below (va_Qi (fun (r : Int32) (u : (Nat → Int32) × Int32) => post r.toInt (zF (u.1)) (u.2).toInt) (kB (dC, dI) cl (tX50 d) A (fun u : (Nat → Int32) × Int32 => (wX50 ci ad d f_phrases f_axioms f_axiomCount (u.1) (u.2) f_rules f_instances f_counts f_premises f_rows f_stated f_marks f_broken f_text f_size f_sizes f_places))) A) args s 0 0 A) (F0 m 81 ls [])) (hk90 : K90  → ∀ (H : Heap) (locs : List Loc) (ls : Array Slot), kH (dC, dI) cl A s.heap H locs (wX50 ci ad d f_phrases f_axioms f_axiomCount f_triples f_tripleCount f_rules f_instances f_counts f_premises f_rows f_stated f_marks f_broken f_text f_size f_sizes f_places) → lv_has ls 5 [(0, .ref (ad 0)), (1, .int x1), (2, .int x2), (3, .int x3)] → W p l e ({ frames := 1, cells := 0, slots := 0, locals := 20 } : Room) s m args below meth c H locs 0 0 (MQ below (va_Qi (fun (r : Int32) (u : (Nat → Int32) × Int32) => post r.toInt (zF (u.1)) (u.2).toInt) (kB (dC, dI) cl (tX50 d) A (fun u : (Nat → Int32) × Int32 => (wX50 ci ad d f_phrases f_axioms f_axiomCount (u.1) (u.2) f_rules f_instances f_counts f_premises f_rows f_stated f_marks f_broken f_text f_size f_sizes f_places))) A) args s 0 0 A) (F0 m 90 ls [])) :
    ∀ (nn : Nat) (x4 : Int32), wX50_triple_27 K81 K90 x1.toInt x2.toInt x3.toInt (zF f_triples) f_tripleCount.toInt nn x4.toInt → ∀ (H : Heap) (locs : List Loc) (ls : Array Slot), kH (dC, dI) cl A s.heap H locs (wX50 ci ad d f_phrases f_axioms f_axiomCount f_triples f_tripleCount f_rules f_instances f_counts f_premises f_rows f_stated f_marks f_broken f_text f_size f_sizes f_places) → lv_has ls 5 [(0, .ref (ad 0)), (1, .int x1), (2, .int x2), (3, .int x3), (4, .int x4)] → W p l e ({ frames := 1, cells := 0, slots := 0, locals := 20 } : Room) s m args below meth c H locs 0 0 (MQ below (va_Qi (fun (r : Int32) (u : (Nat → Int32) × Int32) => post r.toInt (zF (u.1)) (u.2).toInt) (kB (dC, dI) cl (tX50 d) A (fun u : (Nat → Int32) × Int32 => (wX50 ci ad d f_phrases f_axioms f_axiomCount (u.1) (u.2) f_rules f_instances f_counts f_premises f_rows f_stated f_marks f_broken f_text f_size f_sizes f_places))) A) args s 0 0 A) (F0 m 27 ls []) := by
  have hx := X.1.1
  have hb := X.1.2.1
  intro nn
  induction nn with
  | zero =>
    intro x4 hw
    exact False.elim hw
  | succ n ih =>
    intro x4 hw H locs ls hH hl
    rw [wX50_triple_27] at hw
    refine lv_iload hx hb dX50_triple_27 (lv_at hl 4 rfl) ?_
    refine lv_aload_n hx hb dX50_triple_29 rfl (lv_at hl 0 rfl) ?_
    refine k_get X hH in_X50 0 rfl hc 4 (by decide) q6288 rfl dX50_triple_30 ?_
    refine lv_icmp_gt (tgt := 90) hx hb dX50_triple_33 (by decide) (fun c_7 => ?_) (fun c_7 => ?_)
    · have hw := hw.1 (z_lt (rfl : f_tripleCount.toInt = _) (rfl : x4.toInt = _) c_7)
      exact hk90  hw _ _ ls hH (lv_sub hl [0, 1, 2, 3] rfl)
    · have hw := hw.2 (z_nlt (rfl : f_tripleCount.toInt = _) (rfl : x4.toInt = _) c_7)
      refine lv_aload_n hx hb dX50_triple_36 rfl (lv_at hl 0 rfl) ?_
      refine k_get X hH in_X50 0 rfl hc 3 (by decide) q6287 rfl dX50_triple_37 ?_
      refine lv_iconst (v := 4) hx hb dX50_triple_40 (by decide) ?_
      refine lv_iload hx hb dX50_triple_41 (lv_at hl 4 rfl) ?_
      refine lv_imul hx hb dX50_triple_43 ?_
      have e_8 := z_mul (z_m (rfl : (4 : Int32).toInt = 4)) (z_m (rfl : x4.toInt = _))
      refine lv_iconst (v := 1) hx hb dX50_triple_44 (by decide) ?_
      refine lv_iadd hx hb dX50_triple_45 ?_
      have e_9 := z_add e_8 (z_m (rfl : (1 : Int32).toInt = 1))
      have hq_10 := hw.1
      have hw := hw.2
      have e_11 := z_xi e_9 hq_10 (by decide)
      refine k_iald X hH 3 2 rfl rfl (z_in e_11 hq_10) dX50_triple_46 ?_
      have e_12 := z_ld (f := f_triples) e_11 hq_10.1
      refine lv_iload_n hx hb dX50_triple_47 rfl (lv_at hl 1 rfl) ?_
      refine lv_icmp_ne (tgt := 84) hx hb dX50_triple_48 (by decide) (fun c_13 => ?_) (fun c_13 => ?_)
      · have hw := hw.2 (z_ne e_12 (rfl : x1.toInt = _) c_13)
        have hq_15 := hw.1
        have hw := hw.2
        obtain ⟨x4_14, ex4_14⟩ : ∃ y : Int32, y = x4 + 1 := ⟨_, rfl⟩
        have hw := hw x4_14.toInt (by rw [ex4_14]; exact (z_x (z_add (z_m (rfl : x4.toInt = _)) (z_m (rfl : (1 : Int32).toInt = 1))) hq_15))
        refine lv_iinc (v := x4_14) (lv' := [(4, .int x4_14), (0, .ref (ad 0)), (1, .int x1), (2, .int x2), (3, .int x3)]) hx hb dX50_triple_84 hl (k := 4) rfl (by rw [ex4_14]; rfl) (by decide) rfl (fun ls hl => ?_)
        refine lv_goto (tgt := 27) hx hb dX50_triple_87 (by decide) ?_
        exact ih x4_14 hw _ _ ls hH (lv_sub hl [1, 2, 3, 4, 0] rfl)
      · have hw := hw.1 (z_eq e_12 (rfl : x1.toInt = _) c_13)
        refine lv_aload_n hx hb dX50_triple_51 rfl (lv_at hl 0 rfl) ?_
        refine k_get X hH in_X50 0 rfl hc 3 (by decide) q6287 rfl dX50_triple_52 ?_
        refine lv_iconst (v := 4) hx hb dX50_triple_55 (by decide) ?_
        refine lv_iload hx hb dX50_triple_56 (lv_at hl 4 rfl) ?_
        refine lv_imul hx hb dX50_triple_58 ?_
        have e_16 := z_mul (z_m (rfl : (4 : Int32).toInt = 4)) (z_m (rfl : x4.toInt = _))
        refine lv_iconst (v := 2) hx hb dX50_triple_59 (by decide) ?_
        refine lv_iadd hx hb dX50_triple_60 ?_
        have e_17 := z_add e_16 (z_m (rfl : (2 : Int32).toInt = 2))
        have hq_18 := hw.1
        have hw := hw.2
        have e_19 := z_xi e_17 hq_18 (by decide)
        refine k_iald X hH 3 2 rfl rfl (z_in e_19 hq_18) dX50_triple_61 ?_
        have e_20 := z_ld (f := f_triples) e_19 hq_18.1
        refine lv_iload_n hx hb dX50_triple_62 rfl (lv_at hl 2 rfl) ?_
        refine lv_icmp_ne (tgt := 84) hx hb dX50_triple_63 (by decide) (fun c_21 => ?_) (fun c_21 => ?_)
        · have hw := hw.2 (z_ne e_20 (rfl : x2.toInt = _) c_21)
          have hq_23 := hw.1
          have hw := hw.2
          obtain ⟨x4_22, ex4_22⟩ : ∃ y : Int32, y = x4 + 1 := ⟨_, rfl⟩
          have hw := hw x4_22.toInt (by rw [ex4_22]; exact (z_x (z_add (z_m (rfl : x4.toInt = _)) (z_m (rfl : (1 : Int32).toInt = 1))) hq_23))
          refine lv_iinc (v := x4_22) (lv' := [(4, .int x4_22), (0, .ref (ad 0)), (1, .int x1), (2, .int x2), (3, .int x3)]) hx hb dX50_triple_84 hl (k := 4) rfl (by rw [ex4_22]; rfl) (by decide) rfl (fun ls hl => ?_)
          refine lv_goto (tgt := 27) hx hb dX50_triple_87 (by decide) ?_
          exact ih x4_22 hw _ _ ls hH (lv_sub hl [1, 2, 3, 4, 0] rfl)
        · have hw := hw.1 (z_eq e_20 (rfl : x2.toInt = _) c_21)
          refine lv_aload_n hx hb dX50_triple_66 rfl (lv_at hl 0 rfl) ?_
          refine k_get X hH in_X50 0 rfl hc 3 (by decide) q6287 rfl dX50_triple_67 ?_
          refine lv_iconst (v := 4) hx hb dX50_triple_70 (by decide) ?_
          refine lv_iload hx hb dX50_triple_71 (lv_at hl 4 rfl) ?_
          refine lv_imul hx hb dX50_triple_73 ?_
          have e_24 := z_mul (z_m (rfl : (4 : Int32).toInt = 4)) (z_m (rfl : x4.toInt = _))
          refine lv_iconst (v := 3) hx hb dX50_triple_74 (by decide) ?_
          refine lv_iadd hx hb dX50_triple_75 ?_
          have e_25 := z_add e_24 (z_m (rfl : (3 : Int32).toInt = 3))
          have hq_26 := hw.1
          have hw := hw.2
          have e_27 := z_xi e_25 hq_26 (by decide)
          refine k_iald X hH 3 2 rfl rfl (z_in e_27 hq_26) dX50_triple_76 ?_
          have e_28 := z_ld (f := f_triples) e_27 hq_26.1
          refine lv_iload_n hx hb dX50_triple_77 rfl (lv_at hl 3 rfl) ?_
          refine lv_icmp_ne (tgt := 84) hx hb dX50_triple_78 (by decide) (fun c_29 => ?_) (fun c_29 => ?_)
          · have hw := hw.2 (z_ne e_28 (rfl : x3.toInt = _) c_29)
            have hq_31 := hw.1
            have hw := hw.2
            obtain ⟨x4_30, ex4_30⟩ : ∃ y : Int32, y = x4 + 1 := ⟨_, rfl⟩
            have hw := hw x4_30.toInt (by rw [ex4_30]; exact (z_x (z_add (z_m (rfl : x4.toInt = _)) (z_m (rfl : (1 : Int32).toInt = 1))) hq_31))
            refine lv_iinc (v := x4_30) (lv' := [(4, .int x4_30), (0, .ref (ad 0)), (1, .int x1), (2, .int x2), (3, .int x3)]) hx hb dX50_triple_84 hl (k := 4) rfl (by rw [ex4_30]; rfl) (by decide) rfl (fun ls hl => ?_)
            refine lv_goto (tgt := 27) hx hb dX50_triple_87 (by decide) ?_
            exact ih x4_30 hw _ _ ls hH (lv_sub hl [1, 2, 3, 4, 0] rfl)
          · have hw := hw.1 (z_eq e_28 (rfl : x3.toInt = _) c_29)
            exact hk81 x4 hw _ _ ls hH (lv_sub hl [4] rfl)
set_option maxHeartbeats 4000000 in
theorem walkX50_triple {l : Launch} {dC : Nat → ClassId} {dI : Nat → Nat → Nat} {cl : List vw_C} {ci : Nat} (hc : cl[ci]? = some (RX50, TX50, 17)) {ad : Nat → Nat} {d : Nat → ClassId} {sz : Nat} {f_phrases : Nat → Int64} {f_axioms : Nat → Int32} {f_axiomCount : Int32} {f_triples : Nat → Int32} {f_tripleCount : Int32} {f_rules : Nat → Int32} {f_instances : Nat → Int32} {f_counts : Nat → Int32} {f_premises : Nat → Int32} {f_rows : Int32} {f_stated : Nat → Int32} {f_marks : Nat → Int32} {f_broken : Int32} {f_text : Nat → Int32} {f_size : Int32} {f_sizes : Nat → Int32} {f_places : Nat → Int32} {x1 : Int32} {x2 : Int32} {x3 : Int32} {post : Int → (Int → Int) → Int → Prop} (hw : wpX50_triple post (zF f_triples) f_tripleCount.toInt x1.toInt x2.toInt x3.toInt) :
    Met l yX50_triple (ws_ yX50_triple cX50_triple 5 (some .int)) ({ frames := 1, cells := 0, slots := 0, locals := 20 } : Room) (kPc (dC, dI) cl (tX50 d) [.ref (ad 0), .int x1, .int x2, .int x3] sz (wX50 ci ad d f_phrases f_axioms f_axiomCount f_triples f_tripleCount f_rules f_instances f_counts f_premises f_rows f_stated f_marks f_broken f_text f_size f_sizes f_places)) (va_Qi (fun (r : Int32) (u : (Nat → Int32) × Int32) => post r.toInt (zF (u.1)) (u.2).toInt) (kB (dC, dI) cl (tX50 d) (va_A (wX50 ci ad d f_phrases f_axioms f_axiomCount f_triples f_tripleCount f_rules f_instances f_counts f_premises f_rows f_stated f_marks f_broken f_text f_size f_sizes f_places) sz) (fun u : (Nat → Int32) × Int32 => (wX50 ci ad d f_phrases f_axioms f_axiomCount (u.1) (u.2) f_rules f_instances f_counts f_premises f_rows f_stated f_marks f_broken f_text f_size f_sizes f_places))) (va_A (wX50 ci ad d f_phrases f_axioms f_axiomCount f_triples f_tripleCount f_rules f_instances f_counts f_premises f_rows f_stated f_marks f_broken f_text f_size f_sizes f_places) sz)) 0 0 (va_A (wX50 ci ad d f_phrases f_axioms f_axiomCount f_triples f_tripleCount f_rules f_instances f_counts f_premises f_rows f_stated f_marks f_broken f_text f_size f_sizes f_places) sz) := by
  refine k_enter (by decide) (Nat.le_of_ble_eq_true rfl) ?_
  intro p e s m below meth c ls X hsz hH hl
  subst hsz
  generalize va_A (wX50 ci ad d f_phrases f_axioms f_axiomCount f_triples f_tripleCount f_rules f_instances f_counts f_premises f_rows f_stated f_marks f_broken f_text f_size f_sizes f_places) s.heap.size = A at hH ⊢
  have hx := X.1.1
  have hb := X.1.2.1
  have hl : lv_has ls 5 [(0, .ref (ad 0)), (1, .int x1), (2, .int x2), (3, .int x3)] := hl
  unfold wpX50_triple at hw
  refine lv_iload_n hx hb dX50_triple_0 rfl (lv_at hl 1 rfl) ?_
  refine k_i0 hH (k_runS (As := [.int x1]) (rest := []) X hH.1 hH.2.1 X.2.2.2 (walkX50_isTerm hc (x0 := x1) (f_phrases := f_phrases) (f_axioms := f_axioms) (f_axiomCount := f_axiomCount) (f_triples := f_triples) (f_tripleCount := f_tripleCount) (f_rules := f_rules) (f_instances := f_instances) (f_counts := f_counts) (f_premises := f_premises) (f_rows := f_rows) (f_stated := f_stated) (f_marks := f_marks) (f_broken := f_broken) (f_text := f_text) (f_size := f_size) (f_sizes := f_sizes) (f_places := f_places) hw) (va_cwS 1 X.1.2.2.2.2 gX50_156 rfl rfl rfl hX50_isTerm ⟨Nat.le_of_ble_eq_true rfl, Nat.le_of_ble_eq_true rfl⟩) rfl hl.1 rfl (Nat.le_of_ble_eq_true rfl) dX50_triple_1 ⟨Nat.le_refl 0, Nat.le_refl 0⟩) (fun r_1 _ H locs hw hH => ?_)
  have hH : kH (dC, dI) cl A s.heap H locs (wX50 ci ad d f_phrases f_axioms f_axiomCount f_triples f_tripleCount f_rules f_instances f_counts f_premises f_rows f_stated f_marks f_broken f_text f_size f_sizes f_places) := hH
  refine lv_if_eq (tgt := 21) hx hb dX50_triple_4 (by decide) (fun c_2 => ?_) (fun c_2 => ?_)
  · have hw := hw.1 (z_eq (rfl : r_1.toInt = _) (rfl : (0 : Int32).toInt = 0) c_2)
    refine lv_bipush (v := (-2)) hx hb dX50_triple_21 (by decide) ?_
    exact k_iret (v := (-2)) X hH (f_triples, f_tripleCount) hw rfl rfl dX50_triple_23
  · have hw := hw.2 (z_neq (rfl : r_1.toInt = _) (rfl : (0 : Int32).toInt = 0) c_2)
    refine lv_iload_n hx hb dX50_triple_7 rfl (lv_at hl 2 rfl) ?_
    refine k_i0 hH (k_runS (As := [.int x2]) (rest := []) X hH.1 hH.2.1 X.2.2.2 (walkX50_isTerm hc (x0 := x2) (f_phrases := f_phrases) (f_axioms := f_axioms) (f_axiomCount := f_axiomCount) (f_triples := f_triples) (f_tripleCount := f_tripleCount) (f_rules := f_rules) (f_instances := f_instances) (f_counts := f_counts) (f_premises := f_premises) (f_rows := f_rows) (f_stated := f_stated) (f_marks := f_marks) (f_broken := f_broken) (f_text := f_text) (f_size := f_size) (f_sizes := f_sizes) (f_places := f_places) hw) (va_cwS 1 X.1.2.2.2.2 gX50_156 rfl rfl rfl hX50_isTerm ⟨Nat.le_of_ble_eq_true rfl, Nat.le_of_ble_eq_true rfl⟩) rfl hl.1 rfl (Nat.le_of_ble_eq_true rfl) dX50_triple_8 ⟨Nat.le_refl 0, Nat.le_refl 0⟩) (fun r_3 _ H locs hw hH => ?_)
    have hH : kH (dC, dI) cl A s.heap H locs (wX50 ci ad d f_phrases f_axioms f_axiomCount f_triples f_tripleCount f_rules f_instances f_counts f_premises f_rows f_stated f_marks f_broken f_text f_size f_sizes f_places) := hH
    refine lv_if_eq (tgt := 21) hx hb dX50_triple_11 (by decide) (fun c_4 => ?_) (fun c_4 => ?_)
    · have hw := hw.1 (z_eq (rfl : r_3.toInt = _) (rfl : (0 : Int32).toInt = 0) c_4)
      refine lv_bipush (v := (-2)) hx hb dX50_triple_21 (by decide) ?_
      exact k_iret (v := (-2)) X hH (f_triples, f_tripleCount) hw rfl rfl dX50_triple_23
    · have hw := hw.2 (z_neq (rfl : r_3.toInt = _) (rfl : (0 : Int32).toInt = 0) c_4)
      refine lv_iload_n hx hb dX50_triple_14 rfl (lv_at hl 3 rfl) ?_
      refine k_i0 hH (k_runS (As := [.int x3]) (rest := []) X hH.1 hH.2.1 X.2.2.2 (walkX50_isTerm hc (x0 := x3) (f_phrases := f_phrases) (f_axioms := f_axioms) (f_axiomCount := f_axiomCount) (f_triples := f_triples) (f_tripleCount := f_tripleCount) (f_rules := f_rules) (f_instances := f_instances) (f_counts := f_counts) (f_premises := f_premises) (f_rows := f_rows) (f_stated := f_stated) (f_marks := f_marks) (f_broken := f_broken) (f_text := f_text) (f_size := f_size) (f_sizes := f_sizes) (f_places := f_places) hw) (va_cwS 1 X.1.2.2.2.2 gX50_156 rfl rfl rfl hX50_isTerm ⟨Nat.le_of_ble_eq_true rfl, Nat.le_of_ble_eq_true rfl⟩) rfl hl.1 rfl (Nat.le_of_ble_eq_true rfl) dX50_triple_15 ⟨Nat.le_refl 0, Nat.le_refl 0⟩) (fun r_5 _ H locs hw hH => ?_)
      have hH : kH (dC, dI) cl A s.heap H locs (wX50 ci ad d f_phrases f_axioms f_axiomCount f_triples f_tripleCount f_rules f_instances f_counts f_premises f_rows f_stated f_marks f_broken f_text f_size f_sizes f_places) := hH
      refine lv_if_ne (tgt := 24) hx hb dX50_triple_18 (by decide) (fun c_6 => ?_) (fun c_6 => ?_)
      · have hw := hw.2 (z_ne (rfl : r_5.toInt = _) (rfl : (0 : Int32).toInt = 0) c_6)
        refine lv_iconst (v := 1) hx hb dX50_triple_24 (by decide) ?_
        refine lv_istore (lv' := [(4, .int 1), (0, .ref (ad 0)), (1, .int x1), (2, .int x2), (3, .int x3)]) hx hb dX50_triple_25 hl (by decide) rfl (fun ls hl => ?_)
        obtain ⟨fu, hw⟩ := hw
        refine atX50_triple_27 hc X ?_ ?_ fu 1 hw _ _ ls hH (lv_sub hl [1, 2, 3, 4, 0] rfl)
        · intro x4_32 hw H locs ls hH hl
          refine lv_iload hx hb dX50_triple_81 (lv_at hl 0 rfl) ?_
          exact k_iret (v := x4_32) X hH (f_triples, f_tripleCount) hw rfl rfl dX50_triple_83
        · intro hw H locs ls hH hl
          refine lv_aload_n hx hb dX50_triple_90 rfl (lv_at hl 0 rfl) ?_
          refine k_get X hH in_X50 0 rfl hc 4 (by decide) q6288 rfl dX50_triple_91 ?_
          refine lv_bipush (v := 100) hx hb dX50_triple_94 (by decide) ?_
          refine lv_icmp_ne (tgt := 102) hx hb dX50_triple_96 (by decide) (fun c_33 => ?_) (fun c_33 => ?_)
          · have hw := hw.2 (z_ne (rfl : f_tripleCount.toInt = _) (rfl : (100 : Int32).toInt = 100) c_33)
            refine lv_aload_n hx hb dX50_triple_102 rfl (lv_at hl 0 rfl) ?_
            refine lv_dup hx hb dX50_triple_103 rfl ?_
            refine k_get X hH in_X50 0 rfl hc 4 (by decide) q6288 rfl dX50_triple_104 ?_
            refine lv_iconst (v := 1) hx hb dX50_triple_107 (by decide) ?_
            refine lv_iadd hx hb dX50_triple_108 ?_
            have e_34 := z_add (z_m (rfl : f_tripleCount.toInt = _)) (z_m (rfl : (1 : Int32).toInt = 1))
            have hq_35 := hw.1
            have hw := hw.2
            have e_36 := z_x e_34 hq_35
            refine lv_topi (fun f_tripleCount_37 ef_tripleCount_37 => ?_)
            have hw := hw f_tripleCount_37.toInt (by rw [ef_tripleCount_37]; exact e_36)
            refine k_put X hH in_X50 tyX50_ok nmX50 0 rfl hc 4 (by decide) q6288 rfl (ty := .int) rfl rfl rfl (Nat.le_of_ble_eq_true rfl) dX50_triple_109 (ws1 := (wX50 ci ad d f_phrases f_axioms f_axiomCount f_triples f_tripleCount_37 f_rules f_instances f_counts f_premises f_rows f_stated f_marks f_broken f_text f_size f_sizes f_places)) rfl (fun H locs hH => ?_)
            refine lv_aload_n hx hb dX50_triple_112 rfl (lv_at hl 0 rfl) ?_
            refine k_get X hH in_X50 0 rfl hc 3 (by decide) q6287 rfl dX50_triple_113 ?_
            refine lv_iconst (v := 4) hx hb dX50_triple_116 (by decide) ?_
            refine lv_aload_n hx hb dX50_triple_117 rfl (lv_at hl 0 rfl) ?_
            refine k_get X hH in_X50 0 rfl hc 4 (by decide) q6288 rfl dX50_triple_118 ?_
            refine lv_imul hx hb dX50_triple_121 ?_
            have e_38 := z_mul (z_m (rfl : (4 : Int32).toInt = 4)) (z_m (rfl : f_tripleCount_37.toInt = _))
            refine lv_bipush (v := 11) hx hb dX50_triple_122 (by decide) ?_
            have hq_40 := hw.1
            have hw := hw.2
            have e_41 := z_xi e_38 hq_40 (by decide)
            obtain ⟨f_triples_39, ef_triples_39⟩ : ∃ y : Nat → Int32, y = upd f_triples (4 * f_tripleCount_37).toNatClampNeg 11 := ⟨_, rfl⟩
            refine k_iast X hH 3 2 rfl rfl (z_in e_41 hq_40) dX50_triple_124 ef_triples_39 (ws1 := (wX50 ci ad d f_phrases f_axioms f_axiomCount f_triples_39 f_tripleCount_37 f_rules f_instances f_counts f_premises f_rows f_stated f_marks f_broken f_text f_size f_sizes f_places)) rfl (fun H locs hH => ?_)
            have hw := hw (zF f_triples_39) (by rw [ef_triples_39]; exact z_st (f := f_triples) e_41 hq_40.1 (rfl : (11 : Int32).toInt = 11))
            refine lv_aload_n hx hb dX50_triple_125 rfl (lv_at hl 0 rfl) ?_
            refine k_get X hH in_X50 0 rfl hc 3 (by decide) q6287 rfl dX50_triple_126 ?_
            refine lv_iconst (v := 4) hx hb dX50_triple_129 (by decide) ?_
            refine lv_aload_n hx hb dX50_triple_130 rfl (lv_at hl 0 rfl) ?_
            refine k_get X hH in_X50 0 rfl hc 4 (by decide) q6288 rfl dX50_triple_131 ?_
            refine lv_imul hx hb dX50_triple_134 ?_
            have e_42 := z_mul (z_m (rfl : (4 : Int32).toInt = 4)) (z_m (rfl : f_tripleCount_37.toInt = _))
            refine lv_iconst (v := 1) hx hb dX50_triple_135 (by decide) ?_
            refine lv_iadd hx hb dX50_triple_136 ?_
            have e_43 := z_add e_42 (z_m (rfl : (1 : Int32).toInt = 1))
            refine lv_iload_n hx hb dX50_triple_137 rfl (lv_at hl 1 rfl) ?_
            have hq_45 := hw.1
            have hw := hw.2
            have e_46 := z_xi e_43 hq_45 (by decide)
            obtain ⟨f_triples_44, ef_triples_44⟩ : ∃ y : Nat → Int32, y = upd f_triples_39 ((4 * f_tripleCount_37) + 1).toNatClampNeg x1 := ⟨_, rfl⟩
            refine k_iast X hH 3 2 rfl rfl (z_in e_46 hq_45) dX50_triple_138 ef_triples_44 (ws1 := (wX50 ci ad d f_phrases f_axioms f_axiomCount f_triples_44 f_tripleCount_37 f_rules f_instances f_counts f_premises f_rows f_stated f_marks f_broken f_text f_size f_sizes f_places)) rfl (fun H locs hH => ?_)
            have hw := hw (zF f_triples_44) (by rw [ef_triples_44]; exact z_st (f := f_triples_39) e_46 hq_45.1 (rfl : x1.toInt = _))
            refine lv_aload_n hx hb dX50_triple_139 rfl (lv_at hl 0 rfl) ?_
            refine k_get X hH in_X50 0 rfl hc 3 (by decide) q6287 rfl dX50_triple_140 ?_
            refine lv_iconst (v := 4) hx hb dX50_triple_143 (by decide) ?_
            refine lv_aload_n hx hb dX50_triple_144 rfl (lv_at hl 0 rfl) ?_
            refine k_get X hH in_X50 0 rfl hc 4 (by decide) q6288 rfl dX50_triple_145 ?_
            refine lv_imul hx hb dX50_triple_148 ?_
            have e_47 := z_mul (z_m (rfl : (4 : Int32).toInt = 4)) (z_m (rfl : f_tripleCount_37.toInt = _))
            refine lv_iconst (v := 2) hx hb dX50_triple_149 (by decide) ?_
            refine lv_iadd hx hb dX50_triple_150 ?_
            have e_48 := z_add e_47 (z_m (rfl : (2 : Int32).toInt = 2))
            refine lv_iload_n hx hb dX50_triple_151 rfl (lv_at hl 2 rfl) ?_
            have hq_50 := hw.1
            have hw := hw.2
            have e_51 := z_xi e_48 hq_50 (by decide)
            obtain ⟨f_triples_49, ef_triples_49⟩ : ∃ y : Nat → Int32, y = upd f_triples_44 ((4 * f_tripleCount_37) + 2).toNatClampNeg x2 := ⟨_, rfl⟩
            refine k_iast X hH 3 2 rfl rfl (z_in e_51 hq_50) dX50_triple_152 ef_triples_49 (ws1 := (wX50 ci ad d f_phrases f_axioms f_axiomCount f_triples_49 f_tripleCount_37 f_rules f_instances f_counts f_premises f_rows f_stated f_marks f_broken f_text f_size f_sizes f_places)) rfl (fun H locs hH => ?_)
            have hw := hw (zF f_triples_49) (by rw [ef_triples_49]; exact z_st (f := f_triples_44) e_51 hq_50.1 (rfl : x2.toInt = _))
            refine lv_aload_n hx hb dX50_triple_153 rfl (lv_at hl 0 rfl) ?_
            refine k_get X hH in_X50 0 rfl hc 3 (by decide) q6287 rfl dX50_triple_154 ?_
            refine lv_iconst (v := 4) hx hb dX50_triple_157 (by decide) ?_
            refine lv_aload_n hx hb dX50_triple_158 rfl (lv_at hl 0 rfl) ?_
            refine k_get X hH in_X50 0 rfl hc 4 (by decide) q6288 rfl dX50_triple_159 ?_
            refine lv_imul hx hb dX50_triple_162 ?_
            have e_52 := z_mul (z_m (rfl : (4 : Int32).toInt = 4)) (z_m (rfl : f_tripleCount_37.toInt = _))
            refine lv_iconst (v := 3) hx hb dX50_triple_163 (by decide) ?_
            refine lv_iadd hx hb dX50_triple_164 ?_
            have e_53 := z_add e_52 (z_m (rfl : (3 : Int32).toInt = 3))
            refine lv_iload_n hx hb dX50_triple_165 rfl (lv_at hl 3 rfl) ?_
            have hq_55 := hw.1
            have hw := hw.2
            have e_56 := z_xi e_53 hq_55 (by decide)
            obtain ⟨f_triples_54, ef_triples_54⟩ : ∃ y : Nat → Int32, y = upd f_triples_49 ((4 * f_tripleCount_37) + 3).toNatClampNeg x3 := ⟨_, rfl⟩
            refine k_iast X hH 3 2 rfl rfl (z_in e_56 hq_55) dX50_triple_166 ef_triples_54 (ws1 := (wX50 ci ad d f_phrases f_axioms f_axiomCount f_triples_54 f_tripleCount_37 f_rules f_instances f_counts f_premises f_rows f_stated f_marks f_broken f_text f_size f_sizes f_places)) rfl (fun H locs hH => ?_)
            have hw := hw (zF f_triples_54) (by rw [ef_triples_54]; exact z_st (f := f_triples_49) e_56 hq_55.1 (rfl : x3.toInt = _))
            refine lv_aload_n hx hb dX50_triple_167 rfl (lv_at hl 0 rfl) ?_
            refine k_get X hH in_X50 0 rfl hc 4 (by decide) q6288 rfl dX50_triple_168 ?_
            exact k_iret (v := f_tripleCount_37) X hH (f_triples_54, f_tripleCount_37) hw rfl rfl dX50_triple_171
          · have hw := hw.1 (z_eq (rfl : f_tripleCount.toInt = _) (rfl : (100 : Int32).toInt = 100) c_33)
            refine lv_bipush (v := (-4)) hx hb dX50_triple_99 (by decide) ?_
            exact k_iret (v := (-4)) X hH (f_triples, f_tripleCount) hw rfl rfl dX50_triple_101
      · have hw := hw.1 (z_eq (rfl : r_5.toInt = _) (rfl : (0 : Int32).toInt = 0) c_6)
        refine lv_bipush (v := (-2)) hx hb dX50_triple_21 (by decide) ?_
        exact k_iret (v := (-2)) X hH (f_triples, f_tripleCount) hw rfl rfl dX50_triple_23
set_option maxHeartbeats 4000000 in
theorem walkX50_isInstance {l : Launch} {dC : Nat → ClassId} {dI : Nat → Nat → Nat} {cl : List vw_C} {ci : Nat} (hc : cl[ci]? = some (RX50, TX50, 17)) {ad : Nat → Nat} {d : Nat → ClassId} {sz : Nat} {f_phrases : Nat → Int64} {f_axioms : Nat → Int32} {f_axiomCount : Int32} {f_triples : Nat → Int32} {f_tripleCount : Int32} {f_rules : Nat → Int32} {f_instances : Nat → Int32} {f_counts : Nat → Int32} {f_premises : Nat → Int32} {f_rows : Int32} {f_stated : Nat → Int32} {f_marks : Nat → Int32} {f_broken : Int32} {f_text : Nat → Int32} {f_size : Int32} {f_sizes : Nat → Int32} {f_places : Nat → Int32} {x1 : Int32} {x2 : Int32} {post : Int → Prop} (hw : wpX50_isInstance post f_axiomCount.toInt f_tripleCount.toInt x1.toInt x2.toInt) :
    Met l yX50_isInstance (ws_ yX50_isInstance cX50_isInstance 3 (some .boolean)) ({ frames := 1, cells := 0, slots := 0, locals := 20 } : Room) (kPc (dC, dI) cl (tX50 d) [.ref (ad 0), .int x1, .int x2] sz (wX50 ci ad d f_phrases f_axioms f_axiomCount f_triples f_tripleCount f_rules f_instances f_counts f_premises f_rows f_stated f_marks f_broken f_text f_size f_sizes f_places)) (va_Qi (fun (r : Int32) (_ : Unit) => post r.toInt) (kB (dC, dI) cl (tX50 d) (va_A (wX50 ci ad d f_phrases f_axioms f_axiomCount f_triples f_tripleCount f_rules f_instances f_counts f_premises f_rows f_stated f_marks f_broken f_text f_size f_sizes f_places) sz) (fun _ : Unit => (wX50 ci ad d f_phrases f_axioms f_axiomCount f_triples f_tripleCount f_rules f_instances f_counts f_premises f_rows f_stated f_marks f_broken f_text f_size f_sizes f_places))) (va_A (wX50 ci ad d f_phrases f_axioms f_axiomCount f_triples f_tripleCount f_rules f_instances f_counts f_premises f_rows f_stated f_marks f_broken f_text f_size f_sizes f_places) sz)) 0 0 (va_A (wX50 ci ad d f_phrases f_axioms f_axiomCount f_triples f_tripleCount f_rules f_instances f_counts f_premises f_rows f_stated f_marks f_broken f_text f_size f_sizes f_places) sz) := by
  refine k_enter (by decide) (Nat.le_of_ble_eq_true rfl) ?_
  intro p e s m below meth c ls X hsz hH hl
  subst hsz
  generalize va_A (wX50 ci ad d f_phrases f_axioms f_axiomCount f_triples f_tripleCount f_rules f_instances f_counts f_premises f_rows f_stated f_marks f_broken f_text f_size f_sizes f_places) s.heap.size = A at hH ⊢
  have hx := X.1.1
  have hb := X.1.2.1
  have hl : lv_has ls 3 [(0, .ref (ad 0)), (1, .int x1), (2, .int x2)] := hl
  unfold wpX50_isInstance at hw
  refine lv_iload_n hx hb dX50_isInstance_0 rfl (lv_at hl 1 rfl) ?_
  refine lv_if_ne (tgt := 22) hx hb dX50_isInstance_1 (by decide) (fun c_1 => ?_) (fun c_1 => ?_)
  · have hw := hw.2 (z_ne (rfl : x1.toInt = _) (rfl : (0 : Int32).toInt = 0) c_1)
    refine lv_iload_n hx hb dX50_isInstance_22 rfl (lv_at hl 1 rfl) ?_
    refine lv_iconst (v := 1) hx hb dX50_isInstance_23 (by decide) ?_
    refine lv_icmp_eq (tgt := 33) hx hb dX50_isInstance_24 (by decide) (fun c_2 => ?_) (fun c_2 => ?_)
    · have hw := hw.1 (z_eq (rfl : x1.toInt = _) (rfl : (1 : Int32).toInt = 1) c_2)
      refine lv_iload_n hx hb dX50_isInstance_33 rfl (lv_at hl 2 rfl) ?_
      refine lv_if_le (tgt := 49) hx hb dX50_isInstance_34 (by decide) (fun c_3 => ?_) (fun c_3 => ?_)
      · have hw := hw.1 (z_le (rfl : x2.toInt = _) (rfl : (0 : Int32).toInt = 0) c_3)
        refine lv_iconst (v := 0) hx hb dX50_isInstance_49 (by decide) ?_
        exact k_iret (v := 0) X hH () hw rfl rfl dX50_isInstance_50
      · have hw := hw.2 (z_nle (rfl : x2.toInt = _) (rfl : (0 : Int32).toInt = 0) c_3)
        refine lv_iload_n hx hb dX50_isInstance_37 rfl (lv_at hl 2 rfl) ?_
        refine lv_aload_n hx hb dX50_isInstance_38 rfl (lv_at hl 0 rfl) ?_
        refine k_get X hH in_X50 0 rfl hc 4 (by decide) q6288 rfl dX50_isInstance_39 ?_
        refine lv_icmp_gt (tgt := 49) hx hb dX50_isInstance_42 (by decide) (fun c_4 => ?_) (fun c_4 => ?_)
        · have hw := hw.1 (z_lt (rfl : f_tripleCount.toInt = _) (rfl : x2.toInt = _) c_4)
          refine lv_iconst (v := 0) hx hb dX50_isInstance_49 (by decide) ?_
          exact k_iret (v := 0) X hH () hw rfl rfl dX50_isInstance_50
        · have hw := hw.2 (z_nlt (rfl : f_tripleCount.toInt = _) (rfl : x2.toInt = _) c_4)
          refine lv_iconst (v := 1) hx hb dX50_isInstance_45 (by decide) ?_
          refine lv_goto (tgt := 50) hx hb dX50_isInstance_46 (by decide) ?_
          exact k_iret (v := 1) X hH () hw rfl rfl dX50_isInstance_50
    · have hw := hw.2 (z_neq (rfl : x1.toInt = _) (rfl : (1 : Int32).toInt = 1) c_2)
      refine lv_iload_n hx hb dX50_isInstance_27 rfl (lv_at hl 1 rfl) ?_
      refine lv_bipush (v := 17) hx hb dX50_isInstance_28 (by decide) ?_
      refine lv_icmp_ne (tgt := 51) hx hb dX50_isInstance_30 (by decide) (fun c_5 => ?_) (fun c_5 => ?_)
      · have hw := hw.2 (z_ne (rfl : x1.toInt = _) (rfl : (17 : Int32).toInt = 17) c_5)
        refine lv_iload_n hx hb dX50_isInstance_51 rfl (lv_at hl 1 rfl) ?_
        refine lv_iconst (v := 2) hx hb dX50_isInstance_52 (by decide) ?_
        refine lv_icmp_ne (tgt := 63) hx hb dX50_isInstance_53 (by decide) (fun c_6 => ?_) (fun c_6 => ?_)
        · have hw := hw.2 (z_ne (rfl : x1.toInt = _) (rfl : (2 : Int32).toInt = 2) c_6)
          refine lv_iconst (v := 1) hx hb dX50_isInstance_63 (by decide) ?_
          refine lv_goto (tgt := 68) hx hb dX50_isInstance_64 (by decide) ?_
          exact k_iret (v := 1) X hH () hw rfl rfl dX50_isInstance_68
        · have hw := hw.1 (z_eq (rfl : x1.toInt = _) (rfl : (2 : Int32).toInt = 2) c_6)
          refine lv_iload_n hx hb dX50_isInstance_56 rfl (lv_at hl 2 rfl) ?_
          refine k_i0 hH (k_runS (As := [.int x2]) (rest := []) X hH.1 hH.2.1 X.2.2.2 (walkX50_isTerm hc (x0 := x2) (f_phrases := f_phrases) (f_axioms := f_axioms) (f_axiomCount := f_axiomCount) (f_triples := f_triples) (f_tripleCount := f_tripleCount) (f_rules := f_rules) (f_instances := f_instances) (f_counts := f_counts) (f_premises := f_premises) (f_rows := f_rows) (f_stated := f_stated) (f_marks := f_marks) (f_broken := f_broken) (f_text := f_text) (f_size := f_size) (f_sizes := f_sizes) (f_places := f_places) hw) (va_cwS 1 X.1.2.2.2.2 gX50_156 rfl rfl rfl hX50_isTerm ⟨Nat.le_of_ble_eq_true rfl, Nat.le_of_ble_eq_true rfl⟩) rfl hl.1 rfl (Nat.le_of_ble_eq_true rfl) dX50_isInstance_57 ⟨Nat.le_refl 0, Nat.le_refl 0⟩) (fun r_7 _ H locs hw hH => ?_)
          have hH : kH (dC, dI) cl A s.heap H locs (wX50 ci ad d f_phrases f_axioms f_axiomCount f_triples f_tripleCount f_rules f_instances f_counts f_premises f_rows f_stated f_marks f_broken f_text f_size f_sizes f_places) := hH
          refine lv_if_eq (tgt := 67) hx hb dX50_isInstance_60 (by decide) (fun c_8 => ?_) (fun c_8 => ?_)
          · have hw := hw.1 (z_eq (rfl : r_7.toInt = _) (rfl : (0 : Int32).toInt = 0) c_8)
            refine lv_iconst (v := 0) hx hb dX50_isInstance_67 (by decide) ?_
            exact k_iret (v := 0) X hH () hw rfl rfl dX50_isInstance_68
          · have hw := hw.2 (z_neq (rfl : r_7.toInt = _) (rfl : (0 : Int32).toInt = 0) c_8)
            refine lv_iconst (v := 1) hx hb dX50_isInstance_63 (by decide) ?_
            refine lv_goto (tgt := 68) hx hb dX50_isInstance_64 (by decide) ?_
            exact k_iret (v := 1) X hH () hw rfl rfl dX50_isInstance_68
      · have hw := hw.1 (z_eq (rfl : x1.toInt = _) (rfl : (17 : Int32).toInt = 17) c_5)
        refine lv_iload_n hx hb dX50_isInstance_33 rfl (lv_at hl 2 rfl) ?_
        refine lv_if_le (tgt := 49) hx hb dX50_isInstance_34 (by decide) (fun c_9 => ?_) (fun c_9 => ?_)
        · have hw := hw.1 (z_le (rfl : x2.toInt = _) (rfl : (0 : Int32).toInt = 0) c_9)
          refine lv_iconst (v := 0) hx hb dX50_isInstance_49 (by decide) ?_
          exact k_iret (v := 0) X hH () hw rfl rfl dX50_isInstance_50
        · have hw := hw.2 (z_nle (rfl : x2.toInt = _) (rfl : (0 : Int32).toInt = 0) c_9)
          refine lv_iload_n hx hb dX50_isInstance_37 rfl (lv_at hl 2 rfl) ?_
          refine lv_aload_n hx hb dX50_isInstance_38 rfl (lv_at hl 0 rfl) ?_
          refine k_get X hH in_X50 0 rfl hc 4 (by decide) q6288 rfl dX50_isInstance_39 ?_
          refine lv_icmp_gt (tgt := 49) hx hb dX50_isInstance_42 (by decide) (fun c_10 => ?_) (fun c_10 => ?_)
          · have hw := hw.1 (z_lt (rfl : f_tripleCount.toInt = _) (rfl : x2.toInt = _) c_10)
            refine lv_iconst (v := 0) hx hb dX50_isInstance_49 (by decide) ?_
            exact k_iret (v := 0) X hH () hw rfl rfl dX50_isInstance_50
          · have hw := hw.2 (z_nlt (rfl : f_tripleCount.toInt = _) (rfl : x2.toInt = _) c_10)
            refine lv_iconst (v := 1) hx hb dX50_isInstance_45 (by decide) ?_
            refine lv_goto (tgt := 50) hx hb dX50_isInstance_46 (by decide) ?_
            exact k_iret (v := 1) X hH () hw rfl rfl dX50_isInstance_50
  · have hw := hw.1 (z_eq (rfl : x1.toInt = _) (rfl : (0 : Int32).toInt = 0) c_1)
    refine lv_iload_n hx hb dX50_isInstance_4 rfl (lv_at hl 2 rfl) ?_
    refine lv_if_le (tgt := 20) hx hb dX50_isInstance_5 (by decide) (fun c_11 => ?_) (fun c_11 => ?_)
    · have hw := hw.1 (z_le (rfl : x2.toInt = _) (rfl : (0 : Int32).toInt = 0) c_11)
      refine lv_iconst (v := 0) hx hb dX50_isInstance_20 (by decide) ?_
      exact k_iret (v := 0) X hH () hw rfl rfl dX50_isInstance_21
    · have hw := hw.2 (z_nle (rfl : x2.toInt = _) (rfl : (0 : Int32).toInt = 0) c_11)
      refine lv_iload_n hx hb dX50_isInstance_8 rfl (lv_at hl 2 rfl) ?_
      refine lv_aload_n hx hb dX50_isInstance_9 rfl (lv_at hl 0 rfl) ?_
      refine k_get X hH in_X50 0 rfl hc 2 (by decide) q6286 rfl dX50_isInstance_10 ?_
      refine lv_icmp_gt (tgt := 20) hx hb dX50_isInstance_13 (by decide) (fun c_12 => ?_) (fun c_12 => ?_)
      · have hw := hw.1 (z_lt (rfl : f_axiomCount.toInt = _) (rfl : x2.toInt = _) c_12)
        refine lv_iconst (v := 0) hx hb dX50_isInstance_20 (by decide) ?_
        exact k_iret (v := 0) X hH () hw rfl rfl dX50_isInstance_21
      · have hw := hw.2 (z_nlt (rfl : f_axiomCount.toInt = _) (rfl : x2.toInt = _) c_12)
        refine lv_iconst (v := 1) hx hb dX50_isInstance_16 (by decide) ?_
        refine lv_goto (tgt := 21) hx hb dX50_isInstance_17 (by decide) ?_
        exact k_iret (v := 1) X hH () hw rfl rfl dX50_isInstance_21
set_option maxHeartbeats 4000000 in
theorem walkX50_isRow {l : Launch} {dC : Nat → ClassId} {dI : Nat → Nat → Nat} {cl : List vw_C} {ci : Nat} (hc : cl[ci]? = some (RX50, TX50, 17)) {ad : Nat → Nat} {d : Nat → ClassId} {sz : Nat} {f_phrases : Nat → Int64} {f_axioms : Nat → Int32} {f_axiomCount : Int32} {f_triples : Nat → Int32} {f_tripleCount : Int32} {f_rules : Nat → Int32} {f_instances : Nat → Int32} {f_counts : Nat → Int32} {f_premises : Nat → Int32} {f_rows : Int32} {f_stated : Nat → Int32} {f_marks : Nat → Int32} {f_broken : Int32} {f_text : Nat → Int32} {f_size : Int32} {f_sizes : Nat → Int32} {f_places : Nat → Int32} {x1 : Int32} {post : Int → Prop} (hw : wpX50_isRow post f_rows.toInt x1.toInt) :
    Met l yX50_isRow (ws_ yX50_isRow cX50_isRow 2 (some .boolean)) ({ frames := 0, cells := 0, slots := 0, locals := 0 } : Room) (kPc (dC, dI) cl (tX50 d) [.ref (ad 0), .int x1] sz (wX50 ci ad d f_phrases f_axioms f_axiomCount f_triples f_tripleCount f_rules f_instances f_counts f_premises f_rows f_stated f_marks f_broken f_text f_size f_sizes f_places)) (va_Qi (fun (r : Int32) (_ : Unit) => post r.toInt) (kB (dC, dI) cl (tX50 d) (va_A (wX50 ci ad d f_phrases f_axioms f_axiomCount f_triples f_tripleCount f_rules f_instances f_counts f_premises f_rows f_stated f_marks f_broken f_text f_size f_sizes f_places) sz) (fun _ : Unit => (wX50 ci ad d f_phrases f_axioms f_axiomCount f_triples f_tripleCount f_rules f_instances f_counts f_premises f_rows f_stated f_marks f_broken f_text f_size f_sizes f_places))) (va_A (wX50 ci ad d f_phrases f_axioms f_axiomCount f_triples f_tripleCount f_rules f_instances f_counts f_premises f_rows f_stated f_marks f_broken f_text f_size f_sizes f_places) sz)) 0 0 (va_A (wX50 ci ad d f_phrases f_axioms f_axiomCount f_triples f_tripleCount f_rules f_instances f_counts f_premises f_rows f_stated f_marks f_broken f_text f_size f_sizes f_places) sz) := by
  refine k_enter (by decide) (Nat.le_of_ble_eq_true rfl) ?_
  intro p e s m below meth c ls X hsz hH hl
  subst hsz
  generalize va_A (wX50 ci ad d f_phrases f_axioms f_axiomCount f_triples f_tripleCount f_rules f_instances f_counts f_premises f_rows f_stated f_marks f_broken f_text f_size f_sizes f_places) s.heap.size = A at hH ⊢
  have hx := X.1.1
  have hb := X.1.2.1
  have hl : lv_has ls 2 [(0, .ref (ad 0)), (1, .int x1)] := hl
  unfold wpX50_isRow at hw
  refine lv_iload_n hx hb dX50_isRow_0 rfl (lv_at hl 1 rfl) ?_
  refine lv_if_le (tgt := 16) hx hb dX50_isRow_1 (by decide) (fun c_1 => ?_) (fun c_1 => ?_)
  · have hw := hw.1 (z_le (rfl : x1.toInt = _) (rfl : (0 : Int32).toInt = 0) c_1)
    refine lv_iconst (v := 0) hx hb dX50_isRow_16 (by decide) ?_
    exact k_iret (v := 0) X hH () hw rfl rfl dX50_isRow_17
  · have hw := hw.2 (z_nle (rfl : x1.toInt = _) (rfl : (0 : Int32).toInt = 0) c_1)
    refine lv_iload_n hx hb dX50_isRow_4 rfl (lv_at hl 1 rfl) ?_
    refine lv_aload_n hx hb dX50_isRow_5 rfl (lv_at hl 0 rfl) ?_
    refine k_get X hH in_X50 0 rfl hc 9 (by decide) q6293 rfl dX50_isRow_6 ?_
    refine lv_icmp_gt (tgt := 16) hx hb dX50_isRow_9 (by decide) (fun c_2 => ?_) (fun c_2 => ?_)
    · have hw := hw.1 (z_lt (rfl : f_rows.toInt = _) (rfl : x1.toInt = _) c_2)
      refine lv_iconst (v := 0) hx hb dX50_isRow_16 (by decide) ?_
      exact k_iret (v := 0) X hH () hw rfl rfl dX50_isRow_17
    · have hw := hw.2 (z_nlt (rfl : f_rows.toInt = _) (rfl : x1.toInt = _) c_2)
      refine lv_iconst (v := 1) hx hb dX50_isRow_12 (by decide) ?_
      refine lv_goto (tgt := 17) hx hb dX50_isRow_13 (by decide) ?_
      exact k_iret (v := 1) X hH () hw rfl rfl dX50_isRow_17
set_option maxHeartbeats 4000000 in
theorem walkX50_takes {l : Launch} {dC : Nat → ClassId} {dI : Nat → Nat → Nat} {cl : List vw_C} {ci : Nat} (hc : cl[ci]? = some (RX50, TX50, 17)) {ad : Nat → Nat} {d : Nat → ClassId} {sz : Nat} {f_phrases : Nat → Int64} {f_axioms : Nat → Int32} {f_axiomCount : Int32} {f_triples : Nat → Int32} {f_tripleCount : Int32} {f_rules : Nat → Int32} {f_instances : Nat → Int32} {f_counts : Nat → Int32} {f_premises : Nat → Int32} {f_rows : Int32} {f_stated : Nat → Int32} {f_marks : Nat → Int32} {f_broken : Int32} {f_text : Nat → Int32} {f_size : Int32} {f_sizes : Nat → Int32} {f_places : Nat → Int32} {x0 : Int32} {post : Int → Prop} (hw : wpX50_takes post  x0.toInt) :
    Met l yX50_takes (ws_ yX50_takes cX50_takes 1 (some .int)) ({ frames := 0, cells := 0, slots := 0, locals := 0 } : Room) (kPc (dC, dI) cl (tX50 d) [.int x0] sz (wX50 ci ad d f_phrases f_axioms f_axiomCount f_triples f_tripleCount f_rules f_instances f_counts f_premises f_rows f_stated f_marks f_broken f_text f_size f_sizes f_places)) (va_Qi (fun (r : Int32) (_ : Unit) => post r.toInt) (kB (dC, dI) cl (tX50 d) (va_A (wX50 ci ad d f_phrases f_axioms f_axiomCount f_triples f_tripleCount f_rules f_instances f_counts f_premises f_rows f_stated f_marks f_broken f_text f_size f_sizes f_places) sz) (fun _ : Unit => (wX50 ci ad d f_phrases f_axioms f_axiomCount f_triples f_tripleCount f_rules f_instances f_counts f_premises f_rows f_stated f_marks f_broken f_text f_size f_sizes f_places))) (va_A (wX50 ci ad d f_phrases f_axioms f_axiomCount f_triples f_tripleCount f_rules f_instances f_counts f_premises f_rows f_stated f_marks f_broken f_text f_size f_sizes f_places) sz)) 0 0 (va_A (wX50 ci ad d f_phrases f_axioms f_axiomCount f_triples f_tripleCount f_rules f_instances f_counts f_premises f_rows f_stated f_marks f_broken f_text f_size f_sizes f_places) sz) := by
  refine k_enter (by decide) (Nat.le_of_ble_eq_true rfl) ?_
  intro p e s m below meth c ls X hsz hH hl
  subst hsz
  generalize va_A (wX50 ci ad d f_phrases f_axioms f_axiomCount f_triples f_tripleCount f_rules f_instances f_counts f_premises f_rows f_stated f_marks f_broken f_text f_size f_sizes f_places) s.heap.size = A at hH ⊢
  have hx := X.1.1
  have hb := X.1.2.1
  have hl : lv_has ls 1 [(0, .int x0)] := hl
  unfold wpX50_takes at hw
  refine lv_iload_n hx hb dX50_takes_0 rfl (lv_at hl 0 rfl) ?_
  refine lv_iconst (v := 3) hx hb dX50_takes_1 (by decide) ?_
  refine lv_icmp_ge (tgt := 7) hx hb dX50_takes_2 (by decide) (fun c_1 => ?_) (fun c_1 => ?_)
  · have hw := hw.1 (z_le (rfl : (3 : Int32).toInt = 3) (rfl : x0.toInt = _) c_1)
    refine lv_iload_n hx hb dX50_takes_7 rfl (lv_at hl 0 rfl) ?_
    refine lv_bipush (v := 12) hx hb dX50_takes_8 (by decide) ?_
    refine lv_icmp_eq (tgt := 19) hx hb dX50_takes_10 (by decide) (fun c_2 => ?_) (fun c_2 => ?_)
    · have hw := hw.1 (z_eq (rfl : x0.toInt = _) (rfl : (12 : Int32).toInt = 12) c_2)
      refine lv_iconst (v := 1) hx hb dX50_takes_19 (by decide) ?_
      exact k_iret (v := 1) X hH () hw rfl rfl dX50_takes_20
    · have hw := hw.2 (z_neq (rfl : x0.toInt = _) (rfl : (12 : Int32).toInt = 12) c_2)
      refine lv_iload_n hx hb dX50_takes_13 rfl (lv_at hl 0 rfl) ?_
      refine lv_bipush (v := 17) hx hb dX50_takes_14 (by decide) ?_
      refine lv_icmp_ne (tgt := 21) hx hb dX50_takes_16 (by decide) (fun c_3 => ?_) (fun c_3 => ?_)
      · have hw := hw.2 (z_ne (rfl : x0.toInt = _) (rfl : (17 : Int32).toInt = 17) c_3)
        refine lv_iload_n hx hb dX50_takes_21 rfl (lv_at hl 0 rfl) ?_
        refine lv_bipush (v := 10) hx hb dX50_takes_22 (by decide) ?_
        refine lv_icmp_eq (tgt := 39) hx hb dX50_takes_24 (by decide) (fun c_4 => ?_) (fun c_4 => ?_)
        · have hw := hw.1 (z_eq (rfl : x0.toInt = _) (rfl : (10 : Int32).toInt = 10) c_4)
          refine lv_iconst (v := 3) hx hb dX50_takes_39 (by decide) ?_
          refine lv_goto (tgt := 44) hx hb dX50_takes_40 (by decide) ?_
          exact k_iret (v := 3) X hH () hw rfl rfl dX50_takes_44
        · have hw := hw.2 (z_neq (rfl : x0.toInt = _) (rfl : (10 : Int32).toInt = 10) c_4)
          refine lv_iload_n hx hb dX50_takes_27 rfl (lv_at hl 0 rfl) ?_
          refine lv_bipush (v := 14) hx hb dX50_takes_28 (by decide) ?_
          refine lv_icmp_eq (tgt := 39) hx hb dX50_takes_30 (by decide) (fun c_5 => ?_) (fun c_5 => ?_)
          · have hw := hw.1 (z_eq (rfl : x0.toInt = _) (rfl : (14 : Int32).toInt = 14) c_5)
            refine lv_iconst (v := 3) hx hb dX50_takes_39 (by decide) ?_
            refine lv_goto (tgt := 44) hx hb dX50_takes_40 (by decide) ?_
            exact k_iret (v := 3) X hH () hw rfl rfl dX50_takes_44
          · have hw := hw.2 (z_neq (rfl : x0.toInt = _) (rfl : (14 : Int32).toInt = 14) c_5)
            refine lv_iload_n hx hb dX50_takes_33 rfl (lv_at hl 0 rfl) ?_
            refine lv_bipush (v := 15) hx hb dX50_takes_34 (by decide) ?_
            refine lv_icmp_ne (tgt := 43) hx hb dX50_takes_36 (by decide) (fun c_6 => ?_) (fun c_6 => ?_)
            · have hw := hw.2 (z_ne (rfl : x0.toInt = _) (rfl : (15 : Int32).toInt = 15) c_6)
              refine lv_iconst (v := 2) hx hb dX50_takes_43 (by decide) ?_
              exact k_iret (v := 2) X hH () hw rfl rfl dX50_takes_44
            · have hw := hw.1 (z_eq (rfl : x0.toInt = _) (rfl : (15 : Int32).toInt = 15) c_6)
              refine lv_iconst (v := 3) hx hb dX50_takes_39 (by decide) ?_
              refine lv_goto (tgt := 44) hx hb dX50_takes_40 (by decide) ?_
              exact k_iret (v := 3) X hH () hw rfl rfl dX50_takes_44
      · have hw := hw.1 (z_eq (rfl : x0.toInt = _) (rfl : (17 : Int32).toInt = 17) c_3)
        refine lv_iconst (v := 1) hx hb dX50_takes_19 (by decide) ?_
        exact k_iret (v := 1) X hH () hw rfl rfl dX50_takes_20
  · have hw := hw.2 (z_nle (rfl : (3 : Int32).toInt = 3) (rfl : x0.toInt = _) c_1)
    refine lv_iconst (v := 0) hx hb dX50_takes_5 (by decide) ?_
    exact k_iret (v := 0) X hH () hw rfl rfl dX50_takes_6
set_option maxHeartbeats 4000000 in
theorem walkX50_lay {l : Launch} {dC : Nat → ClassId} {dI : Nat → Nat → Nat} {cl : List vw_C} {ci : Nat} (hc : cl[ci]? = some (RX50, TX50, 17)) {ad : Nat → Nat} {d : Nat → ClassId} {sz : Nat} {f_phrases : Nat → Int64} {f_axioms : Nat → Int32} {f_axiomCount : Int32} {f_triples : Nat → Int32} {f_tripleCount : Int32} {f_rules : Nat → Int32} {f_instances : Nat → Int32} {f_counts : Nat → Int32} {f_premises : Nat → Int32} {f_rows : Int32} {f_stated : Nat → Int32} {f_marks : Nat → Int32} {f_broken : Int32} {f_text : Nat → Int32} {f_size : Int32} {f_sizes : Nat → Int32} {f_places : Nat → Int32} {x1 : Int32} {x2 : Int32} {post : (Int → Int) → (Int → Int) → Prop} (hw : wpX50_lay post (zF f_counts) (zF f_premises) x1.toInt x2.toInt) :
    Met l yX50_lay (ws_ yX50_lay cX50_lay 3 none) ({ frames := 0, cells := 0, slots := 0, locals := 0 } : Room) (kPc (dC, dI) cl (tX50 d) [.ref (ad 0), .int x1, .int x2] sz (wX50 ci ad d f_phrases f_axioms f_axiomCount f_triples f_tripleCount f_rules f_instances f_counts f_premises f_rows f_stated f_marks f_broken f_text f_size f_sizes f_places)) (va_Qv (fun (u : (Nat → Int32) × (Nat → Int32)) => post (zF (u.1)) (zF (u.2))) (kB (dC, dI) cl (tX50 d) (va_A (wX50 ci ad d f_phrases f_axioms f_axiomCount f_triples f_tripleCount f_rules f_instances f_counts f_premises f_rows f_stated f_marks f_broken f_text f_size f_sizes f_places) sz) (fun u : (Nat → Int32) × (Nat → Int32) => (wX50 ci ad d f_phrases f_axioms f_axiomCount f_triples f_tripleCount f_rules f_instances (u.1) (u.2) f_rows f_stated f_marks f_broken f_text f_size f_sizes f_places))) (va_A (wX50 ci ad d f_phrases f_axioms f_axiomCount f_triples f_tripleCount f_rules f_instances f_counts f_premises f_rows f_stated f_marks f_broken f_text f_size f_sizes f_places) sz)) 0 0 (va_A (wX50 ci ad d f_phrases f_axioms f_axiomCount f_triples f_tripleCount f_rules f_instances f_counts f_premises f_rows f_stated f_marks f_broken f_text f_size f_sizes f_places) sz) := by
  refine k_enter (by decide) (Nat.le_of_ble_eq_true rfl) ?_
  intro p e s m below meth c ls X hsz hH hl
  subst hsz
  generalize va_A (wX50 ci ad d f_phrases f_axioms f_axiomCount f_triples f_tripleCount f_rules f_instances f_counts f_premises f_rows f_stated f_marks f_broken f_text f_size f_sizes f_places) s.heap.size = A at hH ⊢
  have hx := X.1.1
  have hb := X.1.2.1
  have hl : lv_has ls 3 [(0, .ref (ad 0)), (1, .int x1), (2, .int x2)] := hl
  unfold wpX50_lay at hw
  refine lv_aload_n hx hb dX50_lay_0 rfl (lv_at hl 0 rfl) ?_
  refine k_get X hH in_X50 0 rfl hc 8 (by decide) q6292 rfl dX50_lay_1 ?_
  refine lv_iconst (v := 3) hx hb dX50_lay_4 (by decide) ?_
  refine lv_iload_n hx hb dX50_lay_5 rfl (lv_at hl 1 rfl) ?_
  refine lv_imul hx hb dX50_lay_6 ?_
  have e_1 := z_mul (z_m (rfl : (3 : Int32).toInt = 3)) (z_m (rfl : x1.toInt = _))
  refine lv_aload_n hx hb dX50_lay_7 rfl (lv_at hl 0 rfl) ?_
  refine k_get X hH in_X50 0 rfl hc 7 (by decide) q6291 rfl dX50_lay_8 ?_
  refine lv_iload_n hx hb dX50_lay_11 rfl (lv_at hl 1 rfl) ?_
  have hq_2 := hw.1
  have hw := hw.2
  refine k_iald X hH 6 5 rfl rfl (z_in (rfl : x1.toInt = _) hq_2) dX50_lay_12 ?_
  have e_3 := z_ld (f := f_counts) (rfl : x1.toInt = _) hq_2.1
  refine lv_iadd hx hb dX50_lay_13 ?_
  have e_4 := z_add e_1 (z_m e_3)
  refine lv_iload_n hx hb dX50_lay_14 rfl (lv_at hl 2 rfl) ?_
  have hq_6 := hw.1
  have hw := hw.2
  have e_7 := z_xi e_4 hq_6 (by decide)
  obtain ⟨f_premises_5, ef_premises_5⟩ : ∃ y : Nat → Int32, y = upd f_premises ((3 * x1) + (f_counts x1.toNatClampNeg)).toNatClampNeg x2 := ⟨_, rfl⟩
  refine k_iast X hH 7 6 rfl rfl (z_in e_7 hq_6) dX50_lay_15 ef_premises_5 (ws1 := (wX50 ci ad d f_phrases f_axioms f_axiomCount f_triples f_tripleCount f_rules f_instances f_counts f_premises_5 f_rows f_stated f_marks f_broken f_text f_size f_sizes f_places)) rfl (fun H locs hH => ?_)
  have hw := hw (zF f_premises_5) (by rw [ef_premises_5]; exact z_st (f := f_premises) e_7 hq_6.1 (rfl : x2.toInt = _))
  refine lv_aload_n hx hb dX50_lay_16 rfl (lv_at hl 0 rfl) ?_
  refine k_get X hH in_X50 0 rfl hc 7 (by decide) q6291 rfl dX50_lay_17 ?_
  refine lv_iload_n hx hb dX50_lay_20 rfl (lv_at hl 1 rfl) ?_
  refine lv_dup2_11 hx hb dX50_lay_21 rfl rfl ?_
  refine k_iald X hH 6 5 rfl rfl (z_in (rfl : x1.toInt = _) hq_2) dX50_lay_22 ?_
  have e_8 := z_ld (f := f_counts) (rfl : x1.toInt = _) hq_2.1
  refine lv_iconst (v := 1) hx hb dX50_lay_23 (by decide) ?_
  refine lv_iadd hx hb dX50_lay_24 ?_
  have e_9 := z_add (z_m e_8) (z_m (rfl : (1 : Int32).toInt = 1))
  have hq_10 := hw.1
  have hw := hw.2
  have e_11 := z_x e_9 hq_10
  refine lv_topi (fun v_12 ev_12 => ?_)
  have hw := hw v_12.toInt (by rw [ev_12]; exact e_11)
  obtain ⟨f_counts_13, ef_counts_13⟩ : ∃ y : Nat → Int32, y = upd f_counts x1.toNatClampNeg v_12 := ⟨_, rfl⟩
  refine k_iast X hH 6 5 rfl rfl (z_in (rfl : x1.toInt = _) hq_2) dX50_lay_25 ef_counts_13 (ws1 := (wX50 ci ad d f_phrases f_axioms f_axiomCount f_triples f_tripleCount f_rules f_instances f_counts_13 f_premises_5 f_rows f_stated f_marks f_broken f_text f_size f_sizes f_places)) rfl (fun H locs hH => ?_)
  have hw := hw (zF f_counts_13) (by rw [ef_counts_13]; exact z_st (f := f_counts) (rfl : x1.toInt = _) hq_2.1 (rfl : v_12.toInt = _))
  exact k_vret X hH (f_counts_13, f_premises_5) hw rfl dX50_lay_26
set_option maxHeartbeats 4000000 in
theorem atX50_row_38 {p : Program} {l : Launch} {e : Env} {s : State} {m : MethodId} {args : Array Value} {below : List Frame} {meth : Method} {c : Code} {dC : Nat → ClassId} {dI : Nat → Nat → Nat} {cl : List vw_C} {ci : Nat} (hc : cl[ci]? = some (RX50, TX50, 17)) {ad : Nat → Nat} {d : Nat → ClassId} {A : Nat → Prop} {post : Int → (Int → Int) → (Int → Int) → (Int → Int) → (Int → Int) → Int → Prop} {f_phrases : Nat → Int64} {f_axioms : Nat → Int32} {f_axiomCount : Int32} {f_triples : Nat → Int32} {f_tripleCount : Int32} {f_stated : Nat → Int32} {f_marks : Nat → Int32} {f_broken : Int32} {f_text : Nat → Int32} {f_size : Int32} {f_sizes : Nat → Int32} {f_places : Nat → Int32} (X : kX p s m args meth c cX50_row 4 RX50 (some .int) (dC, dI) cl (tX50 d))     :
    ∀ (x1 : Int32) (x2 : Int32) (x3 : Int32) (f_rules : Nat → Int32) (f_instances : Nat → Int32) (f_counts : Nat → Int32) (f_premises : Nat → Int32) (f_rows : Int32), wX50_row_38 post x1.toInt x2.toInt x3.toInt (zF f_rules) (zF f_instances) (zF f_counts) (zF f_premises) f_rows.toInt → ∀ (H : Heap) (locs : List Loc) (ls : Array Slot), kH (dC, dI) cl A s.heap H locs (wX50 ci ad d f_phrases f_axioms f_axiomCount f_triples f_tripleCount f_rules f_instances f_counts f_premises f_rows f_stated f_marks f_broken f_text f_size f_sizes f_places) → lv_has ls 4 [(0, .ref (ad 0)), (1, .int x1), (2, .int x2), (3, .int x3)] → W p l e ({ frames := 2, cells := 0, slots := 0, locals := 42 } : Room) s m args below meth c H locs 0 0 (MQ below (va_Qi (fun (r : Int32) (u : (Nat → Int32) × (Nat → Int32) × (Nat → Int32) × (Nat → Int32) × Int32) => post r.toInt (zF (u.1)) (zF (u.2.1)) (zF (u.2.2.1)) (zF (u.2.2.2.1)) (u.2.2.2.2).toInt) (kB (dC, dI) cl (tX50 d) A (fun u : (Nat → Int32) × (Nat → Int32) × (Nat → Int32) × (Nat → Int32) × Int32 => (wX50 ci ad d f_phrases f_axioms f_axiomCount f_triples f_tripleCount (u.1) (u.2.1) (u.2.2.1) (u.2.2.2.1) (u.2.2.2.2) f_stated f_marks f_broken f_text f_size f_sizes f_places))) A) args s 0 0 A) (F0 m 38 ls []) := by
  have hx := X.1.1
  have hb := X.1.2.1
  intro x1 x2 x3 f_rules f_instances f_counts f_premises f_rows hw H locs ls hH hl
  unfold wX50_row_38 at hw
  refine lv_aload_n hx hb dX50_row_38 rfl (lv_at hl 0 rfl) ?_
  refine k_get X hH in_X50 0 rfl hc 9 (by decide) q6293 rfl dX50_row_39 ?_
  refine lv_sipush (v := 300) hx hb dX50_row_42 (by decide) ?_
  refine lv_icmp_ne (tgt := 50) hx hb dX50_row_45 (by decide) (fun c_6 => ?_) (fun c_6 => ?_)
  · have hw := hw.2 (z_ne (rfl : f_rows.toInt = _) (rfl : (300 : Int32).toInt = 300) c_6)
    refine lv_aload_n hx hb dX50_row_50 rfl (lv_at hl 0 rfl) ?_
    refine lv_dup hx hb dX50_row_51 rfl ?_
    refine k_get X hH in_X50 0 rfl hc 9 (by decide) q6293 rfl dX50_row_52 ?_
    refine lv_iconst (v := 1) hx hb dX50_row_55 (by decide) ?_
    refine lv_iadd hx hb dX50_row_56 ?_
    have e_7 := z_add (z_m (rfl : f_rows.toInt = _)) (z_m (rfl : (1 : Int32).toInt = 1))
    have hq_8 := hw.1
    have hw := hw.2
    have e_9 := z_x e_7 hq_8
    refine lv_topi (fun f_rows_10 ef_rows_10 => ?_)
    have hw := hw f_rows_10.toInt (by rw [ef_rows_10]; exact e_9)
    refine k_put X hH in_X50 tyX50_ok nmX50 0 rfl hc 9 (by decide) q6293 rfl (ty := .int) rfl rfl rfl (Nat.le_of_ble_eq_true rfl) dX50_row_57 (ws1 := (wX50 ci ad d f_phrases f_axioms f_axiomCount f_triples f_tripleCount f_rules f_instances f_counts f_premises f_rows_10 f_stated f_marks f_broken f_text f_size f_sizes f_places)) rfl (fun H locs hH => ?_)
    refine lv_aload_n hx hb dX50_row_60 rfl (lv_at hl 0 rfl) ?_
    refine k_get X hH in_X50 0 rfl hc 5 (by decide) q6289 rfl dX50_row_61 ?_
    refine lv_aload_n hx hb dX50_row_64 rfl (lv_at hl 0 rfl) ?_
    refine k_get X hH in_X50 0 rfl hc 9 (by decide) q6293 rfl dX50_row_65 ?_
    refine lv_iload_n hx hb dX50_row_68 rfl (lv_at hl 1 rfl) ?_
    have hq_12 := hw.1
    have hw := hw.2
    obtain ⟨f_rules_11, ef_rules_11⟩ : ∃ y : Nat → Int32, y = upd f_rules f_rows_10.toNatClampNeg x1 := ⟨_, rfl⟩
    refine k_iast X hH 4 3 rfl rfl (z_in (rfl : f_rows_10.toInt = _) hq_12) dX50_row_69 ef_rules_11 (ws1 := (wX50 ci ad d f_phrases f_axioms f_axiomCount f_triples f_tripleCount f_rules_11 f_instances f_counts f_premises f_rows_10 f_stated f_marks f_broken f_text f_size f_sizes f_places)) rfl (fun H locs hH => ?_)
    have hw := hw (zF f_rules_11) (by rw [ef_rules_11]; exact z_st (f := f_rules) (rfl : f_rows_10.toInt = _) hq_12.1 (rfl : x1.toInt = _))
    refine lv_aload_n hx hb dX50_row_70 rfl (lv_at hl 0 rfl) ?_
    refine k_get X hH in_X50 0 rfl hc 6 (by decide) q6290 rfl dX50_row_71 ?_
    refine lv_aload_n hx hb dX50_row_74 rfl (lv_at hl 0 rfl) ?_
    refine k_get X hH in_X50 0 rfl hc 9 (by decide) q6293 rfl dX50_row_75 ?_
    refine lv_iload_n hx hb dX50_row_78 rfl (lv_at hl 2 rfl) ?_
    obtain ⟨f_instances_13, ef_instances_13⟩ : ∃ y : Nat → Int32, y = upd f_instances f_rows_10.toNatClampNeg x2 := ⟨_, rfl⟩
    refine k_iast X hH 5 4 rfl rfl (z_in (rfl : f_rows_10.toInt = _) hq_12) dX50_row_79 ef_instances_13 (ws1 := (wX50 ci ad d f_phrases f_axioms f_axiomCount f_triples f_tripleCount f_rules_11 f_instances_13 f_counts f_premises f_rows_10 f_stated f_marks f_broken f_text f_size f_sizes f_places)) rfl (fun H locs hH => ?_)
    have hw := hw (zF f_instances_13) (by rw [ef_instances_13]; exact z_st (f := f_instances) (rfl : f_rows_10.toInt = _) hq_12.1 (rfl : x2.toInt = _))
    refine lv_aload_n hx hb dX50_row_80 rfl (lv_at hl 0 rfl) ?_
    refine k_get X hH in_X50 0 rfl hc 7 (by decide) q6291 rfl dX50_row_81 ?_
    refine lv_aload_n hx hb dX50_row_84 rfl (lv_at hl 0 rfl) ?_
    refine k_get X hH in_X50 0 rfl hc 9 (by decide) q6293 rfl dX50_row_85 ?_
    refine lv_iconst (v := 0) hx hb dX50_row_88 (by decide) ?_
    obtain ⟨f_counts_14, ef_counts_14⟩ : ∃ y : Nat → Int32, y = upd f_counts f_rows_10.toNatClampNeg 0 := ⟨_, rfl⟩
    refine k_iast X hH 6 5 rfl rfl (z_in (rfl : f_rows_10.toInt = _) hq_12) dX50_row_89 ef_counts_14 (ws1 := (wX50 ci ad d f_phrases f_axioms f_axiomCount f_triples f_tripleCount f_rules_11 f_instances_13 f_counts_14 f_premises f_rows_10 f_stated f_marks f_broken f_text f_size f_sizes f_places)) rfl (fun H locs hH => ?_)
    have hw := hw (zF f_counts_14) (by rw [ef_counts_14]; exact z_st (f := f_counts) (rfl : f_rows_10.toInt = _) hq_12.1 (rfl : (0 : Int32).toInt = 0))
    refine lv_iload_n hx hb dX50_row_90 rfl (lv_at hl 3 rfl) ?_
    refine lv_if_eq (tgt := 103) hx hb dX50_row_91 (by decide) (fun c_15 => ?_) (fun c_15 => ?_)
    · have hw := hw.1 (z_eq (rfl : x3.toInt = _) (rfl : (0 : Int32).toInt = 0) c_15)
      refine lv_aload_n hx hb dX50_row_103 rfl (lv_at hl 0 rfl) ?_
      refine k_get X hH in_X50 0 rfl hc 9 (by decide) q6293 rfl dX50_row_104 ?_
      exact k_iret (v := f_rows_10) X hH (f_rules_11, f_instances_13, f_counts_14, f_premises, f_rows_10) hw rfl rfl dX50_row_107
    · have hw := hw.2 (z_neq (rfl : x3.toInt = _) (rfl : (0 : Int32).toInt = 0) c_15)
      refine lv_aload_n hx hb dX50_row_94 rfl (lv_at hl 0 rfl) ?_
      refine lv_aload_n hx hb dX50_row_95 rfl (lv_at hl 0 rfl) ?_
      refine k_get X hH in_X50 0 rfl hc 9 (by decide) q6293 rfl dX50_row_96 ?_
      refine lv_iload_n hx hb dX50_row_99 rfl (lv_at hl 3 rfl) ?_
      refine k_v0 hH (k_runV (As := [.int f_rows_10, .int x3]) (rest := []) X hH.1 hH.2.1 X.2.2.2 (walkX50_lay hc (x1 := f_rows_10) (x2 := x3) (f_phrases := f_phrases) (f_axioms := f_axioms) (f_axiomCount := f_axiomCount) (f_triples := f_triples) (f_tripleCount := f_tripleCount) (f_rules := f_rules_11) (f_instances := f_instances_13) (f_counts := f_counts_14) (f_premises := f_premises) (f_rows := f_rows_10) (f_stated := f_stated) (f_marks := f_marks) (f_broken := f_broken) (f_text := f_text) (f_size := f_size) (f_sizes := f_sizes) (f_places := f_places) hw) (cwV 2 X.1.2.2.2.2 gX50_181 rfl rfl rfl hX50_lay ⟨Nat.le_of_ble_eq_true rfl, Nat.le_of_ble_eq_true rfl⟩) hc (q0 := 0) rfl rfl hl.1 rfl (Nat.le_of_ble_eq_true rfl) dX50_row_100 ⟨Nat.le_refl 0, Nat.le_refl 0⟩) (fun u H locs hw hH => ?_)
      obtain ⟨f_counts_16, f_premises_17⟩ := u
      have hH : kH (dC, dI) cl A s.heap H locs (wX50 ci ad d f_phrases f_axioms f_axiomCount f_triples f_tripleCount f_rules_11 f_instances_13 f_counts_16 f_premises_17 f_rows_10 f_stated f_marks f_broken f_text f_size f_sizes f_places) := hH
      refine lv_aload_n hx hb dX50_row_103 rfl (lv_at hl 0 rfl) ?_
      refine k_get X hH in_X50 0 rfl hc 9 (by decide) q6293 rfl dX50_row_104 ?_
      exact k_iret (v := f_rows_10) X hH (f_rules_11, f_instances_13, f_counts_16, f_premises_17, f_rows_10) hw rfl rfl dX50_row_107
  · have hw := hw.1 (z_eq (rfl : f_rows.toInt = _) (rfl : (300 : Int32).toInt = 300) c_6)
    refine lv_iconst (v := 0) hx hb dX50_row_48 (by decide) ?_
    exact k_iret (v := 0) X hH (f_rules, f_instances, f_counts, f_premises, f_rows) hw rfl rfl dX50_row_49
set_option maxHeartbeats 4000000 in
theorem walkX50_row {l : Launch} {dC : Nat → ClassId} {dI : Nat → Nat → Nat} {cl : List vw_C} {ci : Nat} (hc : cl[ci]? = some (RX50, TX50, 17)) {ad : Nat → Nat} {d : Nat → ClassId} {sz : Nat} {f_phrases : Nat → Int64} {f_axioms : Nat → Int32} {f_axiomCount : Int32} {f_triples : Nat → Int32} {f_tripleCount : Int32} {f_rules : Nat → Int32} {f_instances : Nat → Int32} {f_counts : Nat → Int32} {f_premises : Nat → Int32} {f_rows : Int32} {f_stated : Nat → Int32} {f_marks : Nat → Int32} {f_broken : Int32} {f_text : Nat → Int32} {f_size : Int32} {f_sizes : Nat → Int32} {f_places : Nat → Int32} {x1 : Int32} {x2 : Int32} {x3 : Int32} {post : Int → (Int → Int) → (Int → Int) → (Int → Int) → (Int → Int) → Int → Prop} (hw : wpX50_row post f_axiomCount.toInt f_tripleCount.toInt (zF f_rules) (zF f_instances) (zF f_counts) (zF f_premises) f_rows.toInt x1.toInt x2.toInt x3.toInt) :
    Met l yX50_row (ws_ yX50_row cX50_row 4 (some .int)) ({ frames := 2, cells := 0, slots := 0, locals := 42 } : Room) (kPc (dC, dI) cl (tX50 d) [.ref (ad 0), .int x1, .int x2, .int x3] sz (wX50 ci ad d f_phrases f_axioms f_axiomCount f_triples f_tripleCount f_rules f_instances f_counts f_premises f_rows f_stated f_marks f_broken f_text f_size f_sizes f_places)) (va_Qi (fun (r : Int32) (u : (Nat → Int32) × (Nat → Int32) × (Nat → Int32) × (Nat → Int32) × Int32) => post r.toInt (zF (u.1)) (zF (u.2.1)) (zF (u.2.2.1)) (zF (u.2.2.2.1)) (u.2.2.2.2).toInt) (kB (dC, dI) cl (tX50 d) (va_A (wX50 ci ad d f_phrases f_axioms f_axiomCount f_triples f_tripleCount f_rules f_instances f_counts f_premises f_rows f_stated f_marks f_broken f_text f_size f_sizes f_places) sz) (fun u : (Nat → Int32) × (Nat → Int32) × (Nat → Int32) × (Nat → Int32) × Int32 => (wX50 ci ad d f_phrases f_axioms f_axiomCount f_triples f_tripleCount (u.1) (u.2.1) (u.2.2.1) (u.2.2.2.1) (u.2.2.2.2) f_stated f_marks f_broken f_text f_size f_sizes f_places))) (va_A (wX50 ci ad d f_phrases f_axioms f_axiomCount f_triples f_tripleCount f_rules f_instances f_counts f_premises f_rows f_stated f_marks f_broken f_text f_size f_sizes f_places) sz)) 0 0 (va_A (wX50 ci ad d f_phrases f_axioms f_axiomCount f_triples f_tripleCount f_rules f_instances f_counts f_premises f_rows f_stated f_marks f_broken f_text f_size f_sizes f_places) sz) := by
  refine k_enter (by decide) (Nat.le_of_ble_eq_true rfl) ?_
  intro p e s m below meth c ls X hsz hH hl
  subst hsz
  generalize va_A (wX50 ci ad d f_phrases f_axioms f_axiomCount f_triples f_tripleCount f_rules f_instances f_counts f_premises f_rows f_stated f_marks f_broken f_text f_size f_sizes f_places) s.heap.size = A at hH ⊢
  have hx := X.1.1
  have hb := X.1.2.1
  have hl : lv_has ls 4 [(0, .ref (ad 0)), (1, .int x1), (2, .int x2), (3, .int x3)] := hl
  unfold wpX50_row at hw
  refine lv_iload_n hx hb dX50_row_0 rfl (lv_at hl 1 rfl) ?_
  refine lv_if_lt (tgt := 48) hx hb dX50_row_1 (by decide) (fun c_1 => ?_) (fun c_1 => ?_)
  · have hw := hw.1 (z_lt (rfl : x1.toInt = _) (rfl : (0 : Int32).toInt = 0) c_1)
    refine lv_iconst (v := 0) hx hb dX50_row_48 (by decide) ?_
    exact k_iret (v := 0) X hH (f_rules, f_instances, f_counts, f_premises, f_rows) hw rfl rfl dX50_row_49
  · have hw := hw.2 (z_nlt (rfl : x1.toInt = _) (rfl : (0 : Int32).toInt = 0) c_1)
    refine lv_iload_n hx hb dX50_row_4 rfl (lv_at hl 1 rfl) ?_
    refine lv_bipush (v := 17) hx hb dX50_row_5 (by decide) ?_
    refine lv_icmp_gt (tgt := 48) hx hb dX50_row_7 (by decide) (fun c_2 => ?_) (fun c_2 => ?_)
    · have hw := hw.1 (z_lt (rfl : (17 : Int32).toInt = 17) (rfl : x1.toInt = _) c_2)
      refine lv_iconst (v := 0) hx hb dX50_row_48 (by decide) ?_
      exact k_iret (v := 0) X hH (f_rules, f_instances, f_counts, f_premises, f_rows) hw rfl rfl dX50_row_49
    · have hw := hw.2 (z_nlt (rfl : (17 : Int32).toInt = 17) (rfl : x1.toInt = _) c_2)
      refine lv_aload_n hx hb dX50_row_10 rfl (lv_at hl 0 rfl) ?_
      refine lv_iload_n hx hb dX50_row_11 rfl (lv_at hl 1 rfl) ?_
      refine lv_iload_n hx hb dX50_row_12 rfl (lv_at hl 2 rfl) ?_
      refine k_i0 hH (k_runV (As := [.int x1, .int x2]) (rest := []) X hH.1 hH.2.1 X.2.2.2 (walkX50_isInstance hc (x1 := x1) (x2 := x2) (f_phrases := f_phrases) (f_axioms := f_axioms) (f_axiomCount := f_axiomCount) (f_triples := f_triples) (f_tripleCount := f_tripleCount) (f_rules := f_rules) (f_instances := f_instances) (f_counts := f_counts) (f_premises := f_premises) (f_rows := f_rows) (f_stated := f_stated) (f_marks := f_marks) (f_broken := f_broken) (f_text := f_text) (f_size := f_size) (f_sizes := f_sizes) (f_places := f_places) hw) (cwV 2 X.1.2.2.2.2 gX50_170 rfl rfl rfl hX50_isInstance ⟨Nat.le_of_ble_eq_true rfl, Nat.le_of_ble_eq_true rfl⟩) hc (q0 := 0) rfl rfl hl.1 rfl (Nat.le_of_ble_eq_true rfl) dX50_row_13 ⟨Nat.le_refl 0, Nat.le_refl 0⟩) (fun r_3 _ H locs hw hH => ?_)
      have hH : kH (dC, dI) cl A s.heap H locs (wX50 ci ad d f_phrases f_axioms f_axiomCount f_triples f_tripleCount f_rules f_instances f_counts f_premises f_rows f_stated f_marks f_broken f_text f_size f_sizes f_places) := hH
      refine lv_if_eq (tgt := 48) hx hb dX50_row_16 (by decide) (fun c_4 => ?_) (fun c_4 => ?_)
      · have hw := hw.1 (z_eq (rfl : r_3.toInt = _) (rfl : (0 : Int32).toInt = 0) c_4)
        refine lv_iconst (v := 0) hx hb dX50_row_48 (by decide) ?_
        exact k_iret (v := 0) X hH (f_rules, f_instances, f_counts, f_premises, f_rows) hw rfl rfl dX50_row_49
      · have hw := hw.2 (z_neq (rfl : r_3.toInt = _) (rfl : (0 : Int32).toInt = 0) c_4)
        refine lv_iload_n hx hb dX50_row_19 rfl (lv_at hl 3 rfl) ?_
        refine lv_if_eq (tgt := 38) hx hb dX50_row_20 (by decide) (fun c_5 => ?_) (fun c_5 => ?_)
        · have hw := hw.1 (z_eq (rfl : x3.toInt = _) (rfl : (0 : Int32).toInt = 0) c_5)
          exact atX50_row_38 hc X x1 x2 x3 f_rules f_instances f_counts f_premises f_rows hw _ _ ls hH (lv_sub hl [0, 1, 2, 3] rfl)
        · have hw := hw.2 (z_neq (rfl : x3.toInt = _) (rfl : (0 : Int32).toInt = 0) c_5)
          refine lv_aload_n hx hb dX50_row_23 rfl (lv_at hl 0 rfl) ?_
          refine lv_iload_n hx hb dX50_row_24 rfl (lv_at hl 3 rfl) ?_
          refine k_i0 hH (k_runV (As := [.int x3]) (rest := []) X hH.1 hH.2.1 X.2.2.2 (walkX50_isRow hc (x1 := x3) (f_phrases := f_phrases) (f_axioms := f_axioms) (f_axiomCount := f_axiomCount) (f_triples := f_triples) (f_tripleCount := f_tripleCount) (f_rules := f_rules) (f_instances := f_instances) (f_counts := f_counts) (f_premises := f_premises) (f_rows := f_rows) (f_stated := f_stated) (f_marks := f_marks) (f_broken := f_broken) (f_text := f_text) (f_size := f_size) (f_sizes := f_sizes) (f_places := f_places) hw) (cwV 1 X.1.2.2.2.2 gX50_174 rfl rfl rfl hX50_isRow ⟨Nat.le_of_ble_eq_true rfl, Nat.le_of_ble_eq_true rfl⟩) hc (q0 := 0) rfl rfl hl.1 rfl (Nat.le_of_ble_eq_true rfl) dX50_row_25 ⟨Nat.le_refl 0, Nat.le_refl 0⟩) (fun r_18 _ H locs hw hH => ?_)
          have hH : kH (dC, dI) cl A s.heap H locs (wX50 ci ad d f_phrases f_axioms f_axiomCount f_triples f_tripleCount f_rules f_instances f_counts f_premises f_rows f_stated f_marks f_broken f_text f_size f_sizes f_places) := hH
          refine lv_if_eq (tgt := 48) hx hb dX50_row_28 (by decide) (fun c_19 => ?_) (fun c_19 => ?_)
          · have hw := hw.1 (z_eq (rfl : r_18.toInt = _) (rfl : (0 : Int32).toInt = 0) c_19)
            refine lv_iconst (v := 0) hx hb dX50_row_48 (by decide) ?_
            exact k_iret (v := 0) X hH (f_rules, f_instances, f_counts, f_premises, f_rows) hw rfl rfl dX50_row_49
          · have hw := hw.2 (z_neq (rfl : r_18.toInt = _) (rfl : (0 : Int32).toInt = 0) c_19)
            refine lv_iload_n hx hb dX50_row_31 rfl (lv_at hl 1 rfl) ?_
            refine k_i0 hH (k_runS (As := [.int x1]) (rest := []) X hH.1 hH.2.1 X.2.2.2 (walkX50_takes hc (x0 := x1) (f_phrases := f_phrases) (f_axioms := f_axioms) (f_axiomCount := f_axiomCount) (f_triples := f_triples) (f_tripleCount := f_tripleCount) (f_rules := f_rules) (f_instances := f_instances) (f_counts := f_counts) (f_premises := f_premises) (f_rows := f_rows) (f_stated := f_stated) (f_marks := f_marks) (f_broken := f_broken) (f_text := f_text) (f_size := f_size) (f_sizes := f_sizes) (f_places := f_places) hw) (va_cwS 1 X.1.2.2.2.2 gX50_177 rfl rfl rfl hX50_takes ⟨Nat.le_of_ble_eq_true rfl, Nat.le_of_ble_eq_true rfl⟩) rfl hl.1 rfl (Nat.le_of_ble_eq_true rfl) dX50_row_32 ⟨Nat.le_refl 0, Nat.le_refl 0⟩) (fun r_20 _ H locs hw hH => ?_)
            have hH : kH (dC, dI) cl A s.heap H locs (wX50 ci ad d f_phrases f_axioms f_axiomCount f_triples f_tripleCount f_rules f_instances f_counts f_premises f_rows f_stated f_marks f_broken f_text f_size f_sizes f_places) := hH
            refine lv_if_eq (tgt := 48) hx hb dX50_row_35 (by decide) (fun c_21 => ?_) (fun c_21 => ?_)
            · have hw := hw.1 (z_eq (rfl : r_20.toInt = _) (rfl : (0 : Int32).toInt = 0) c_21)
              refine lv_iconst (v := 0) hx hb dX50_row_48 (by decide) ?_
              exact k_iret (v := 0) X hH (f_rules, f_instances, f_counts, f_premises, f_rows) hw rfl rfl dX50_row_49
            · have hw := hw.2 (z_neq (rfl : r_20.toInt = _) (rfl : (0 : Int32).toInt = 0) c_21)
              exact atX50_row_38 hc X x1 x2 x3 f_rules f_instances f_counts f_premises f_rows hw _ _ ls hH (lv_sub hl [0, 1, 2, 3] rfl)
set_option maxHeartbeats 4000000 in
theorem walkX50_premise {l : Launch} {dC : Nat → ClassId} {dI : Nat → Nat → Nat} {cl : List vw_C} {ci : Nat} (hc : cl[ci]? = some (RX50, TX50, 17)) {ad : Nat → Nat} {d : Nat → ClassId} {sz : Nat} {f_phrases : Nat → Int64} {f_axioms : Nat → Int32} {f_axiomCount : Int32} {f_triples : Nat → Int32} {f_tripleCount : Int32} {f_rules : Nat → Int32} {f_instances : Nat → Int32} {f_counts : Nat → Int32} {f_premises : Nat → Int32} {f_rows : Int32} {f_stated : Nat → Int32} {f_marks : Nat → Int32} {f_broken : Int32} {f_text : Nat → Int32} {f_size : Int32} {f_sizes : Nat → Int32} {f_places : Nat → Int32} {x1 : Int32} {x2 : Int32} {post : Int → (Int → Int) → (Int → Int) → Prop} (hw : wpX50_premise post (zF f_rules) (zF f_counts) (zF f_premises) f_rows.toInt x1.toInt x2.toInt) :
    Met l yX50_premise (ws_ yX50_premise cX50_premise 3 (some .int)) ({ frames := 1, cells := 0, slots := 0, locals := 22 } : Room) (kPc (dC, dI) cl (tX50 d) [.ref (ad 0), .int x1, .int x2] sz (wX50 ci ad d f_phrases f_axioms f_axiomCount f_triples f_tripleCount f_rules f_instances f_counts f_premises f_rows f_stated f_marks f_broken f_text f_size f_sizes f_places)) (va_Qi (fun (r : Int32) (u : (Nat → Int32) × (Nat → Int32)) => post r.toInt (zF (u.1)) (zF (u.2))) (kB (dC, dI) cl (tX50 d) (va_A (wX50 ci ad d f_phrases f_axioms f_axiomCount f_triples f_tripleCount f_rules f_instances f_counts f_premises f_rows f_stated f_marks f_broken f_text f_size f_sizes f_places) sz) (fun u : (Nat → Int32) × (Nat → Int32) => (wX50 ci ad d f_phrases f_axioms f_axiomCount f_triples f_tripleCount f_rules f_instances (u.1) (u.2) f_rows f_stated f_marks f_broken f_text f_size f_sizes f_places))) (va_A (wX50 ci ad d f_phrases f_axioms f_axiomCount f_triples f_tripleCount f_rules f_instances f_counts f_premises f_rows f_stated f_marks f_broken f_text f_size f_sizes f_places) sz)) 0 0 (va_A (wX50 ci ad d f_phrases f_axioms f_axiomCount f_triples f_tripleCount f_rules f_instances f_counts f_premises f_rows f_stated f_marks f_broken f_text f_size f_sizes f_places) sz) := by
  refine k_enter (by decide) (Nat.le_of_ble_eq_true rfl) ?_
  intro p e s m below meth c ls X hsz hH hl
  subst hsz
  generalize va_A (wX50 ci ad d f_phrases f_axioms f_axiomCount f_triples f_tripleCount f_rules f_instances f_counts f_premises f_rows f_stated f_marks f_broken f_text f_size f_sizes f_places) s.heap.size = A at hH ⊢
  have hx := X.1.1
  have hb := X.1.2.1
  have hl : lv_has ls 3 [(0, .ref (ad 0)), (1, .int x1), (2, .int x2)] := hl
  unfold wpX50_premise at hw
  refine lv_aload_n hx hb dX50_premise_0 rfl (lv_at hl 0 rfl) ?_
  refine lv_iload_n hx hb dX50_premise_1 rfl (lv_at hl 1 rfl) ?_
  refine k_i0 hH (k_runV (As := [.int x1]) (rest := []) X hH.1 hH.2.1 X.2.2.2 (walkX50_isRow hc (x1 := x1) (f_phrases := f_phrases) (f_axioms := f_axioms) (f_axiomCount := f_axiomCount) (f_triples := f_triples) (f_tripleCount := f_tripleCount) (f_rules := f_rules) (f_instances := f_instances) (f_counts := f_counts) (f_premises := f_premises) (f_rows := f_rows) (f_stated := f_stated) (f_marks := f_marks) (f_broken := f_broken) (f_text := f_text) (f_size := f_size) (f_sizes := f_sizes) (f_places := f_places) hw) (cwV 1 X.1.2.2.2.2 gX50_174 rfl rfl rfl hX50_isRow ⟨Nat.le_of_ble_eq_true rfl, Nat.le_of_ble_eq_true rfl⟩) hc (q0 := 0) rfl rfl hl.1 rfl (Nat.le_of_ble_eq_true rfl) dX50_premise_2 ⟨Nat.le_refl 0, Nat.le_refl 0⟩) (fun r_1 _ H locs hw hH => ?_)
  have hH : kH (dC, dI) cl A s.heap H locs (wX50 ci ad d f_phrases f_axioms f_axiomCount f_triples f_tripleCount f_rules f_instances f_counts f_premises f_rows f_stated f_marks f_broken f_text f_size f_sizes f_places) := hH
  refine lv_if_eq (tgt := 16) hx hb dX50_premise_5 (by decide) (fun c_2 => ?_) (fun c_2 => ?_)
  · have hw := hw.1 (z_eq (rfl : r_1.toInt = _) (rfl : (0 : Int32).toInt = 0) c_2)
    refine lv_iconst (v := (-1)) hx hb dX50_premise_16 (by decide) ?_
    exact k_iret (v := (-1)) X hH (f_counts, f_premises) hw rfl rfl dX50_premise_17
  · have hw := hw.2 (z_neq (rfl : r_1.toInt = _) (rfl : (0 : Int32).toInt = 0) c_2)
    refine lv_aload_n hx hb dX50_premise_8 rfl (lv_at hl 0 rfl) ?_
    refine lv_iload_n hx hb dX50_premise_9 rfl (lv_at hl 2 rfl) ?_
    refine k_i0 hH (k_runV (As := [.int x2]) (rest := []) X hH.1 hH.2.1 X.2.2.2 (walkX50_isRow hc (x1 := x2) (f_phrases := f_phrases) (f_axioms := f_axioms) (f_axiomCount := f_axiomCount) (f_triples := f_triples) (f_tripleCount := f_tripleCount) (f_rules := f_rules) (f_instances := f_instances) (f_counts := f_counts) (f_premises := f_premises) (f_rows := f_rows) (f_stated := f_stated) (f_marks := f_marks) (f_broken := f_broken) (f_text := f_text) (f_size := f_size) (f_sizes := f_sizes) (f_places := f_places) hw) (cwV 1 X.1.2.2.2.2 gX50_174 rfl rfl rfl hX50_isRow ⟨Nat.le_of_ble_eq_true rfl, Nat.le_of_ble_eq_true rfl⟩) hc (q0 := 0) rfl rfl hl.1 rfl (Nat.le_of_ble_eq_true rfl) dX50_premise_10 ⟨Nat.le_refl 0, Nat.le_refl 0⟩) (fun r_3 _ H locs hw hH => ?_)
    have hH : kH (dC, dI) cl A s.heap H locs (wX50 ci ad d f_phrases f_axioms f_axiomCount f_triples f_tripleCount f_rules f_instances f_counts f_premises f_rows f_stated f_marks f_broken f_text f_size f_sizes f_places) := hH
    refine lv_if_ne (tgt := 18) hx hb dX50_premise_13 (by decide) (fun c_4 => ?_) (fun c_4 => ?_)
    · have hw := hw.2 (z_ne (rfl : r_3.toInt = _) (rfl : (0 : Int32).toInt = 0) c_4)
      refine lv_iload_n hx hb dX50_premise_18 rfl (lv_at hl 2 rfl) ?_
      refine lv_iload_n hx hb dX50_premise_19 rfl (lv_at hl 1 rfl) ?_
      refine lv_icmp_ge (tgt := 41) hx hb dX50_premise_20 (by decide) (fun c_5 => ?_) (fun c_5 => ?_)
      · have hw := hw.1 (z_le (rfl : x1.toInt = _) (rfl : x2.toInt = _) c_5)
        refine lv_bipush (v := (-3)) hx hb dX50_premise_41 (by decide) ?_
        exact k_iret (v := (-3)) X hH (f_counts, f_premises) hw rfl rfl dX50_premise_43
      · have hw := hw.2 (z_nle (rfl : x1.toInt = _) (rfl : x2.toInt = _) c_5)
        refine lv_aload_n hx hb dX50_premise_23 rfl (lv_at hl 0 rfl) ?_
        refine k_get X hH in_X50 0 rfl hc 7 (by decide) q6291 rfl dX50_premise_24 ?_
        refine lv_iload_n hx hb dX50_premise_27 rfl (lv_at hl 1 rfl) ?_
        have hq_6 := hw.1
        have hw := hw.2
        refine k_iald X hH 6 5 rfl rfl (z_in (rfl : x1.toInt = _) hq_6) dX50_premise_28 ?_
        have e_7 := z_ld (f := f_counts) (rfl : x1.toInt = _) hq_6.1
        refine lv_aload_n hx hb dX50_premise_29 rfl (lv_at hl 0 rfl) ?_
        refine k_get X hH in_X50 0 rfl hc 5 (by decide) q6289 rfl dX50_premise_30 ?_
        refine lv_iload_n hx hb dX50_premise_33 rfl (lv_at hl 1 rfl) ?_
        refine k_iald X hH 4 3 rfl rfl (z_in (rfl : x1.toInt = _) hq_6) dX50_premise_34 ?_
        have e_8 := z_ld (f := f_rules) (rfl : x1.toInt = _) hq_6.1
        refine k_i0 hH (k_runS (As := [.int (f_rules x1.toNatClampNeg)]) (rest := [.int (f_counts x1.toNatClampNeg)]) X hH.1 hH.2.1 X.2.2.2 (walkX50_takes hc (x0 := (f_rules x1.toNatClampNeg)) (f_phrases := f_phrases) (f_axioms := f_axioms) (f_axiomCount := f_axiomCount) (f_triples := f_triples) (f_tripleCount := f_tripleCount) (f_rules := f_rules) (f_instances := f_instances) (f_counts := f_counts) (f_premises := f_premises) (f_rows := f_rows) (f_stated := f_stated) (f_marks := f_marks) (f_broken := f_broken) (f_text := f_text) (f_size := f_size) (f_sizes := f_sizes) (f_places := f_places) (by rw [show (f_rules x1.toNatClampNeg : Int32).toInt = _ from e_8]; exact hw)) (va_cwS 1 X.1.2.2.2.2 gX50_177 rfl rfl rfl hX50_takes ⟨Nat.le_of_ble_eq_true rfl, Nat.le_of_ble_eq_true rfl⟩) rfl hl.1 rfl (Nat.le_of_ble_eq_true rfl) dX50_premise_35 ⟨Nat.le_refl 0, Nat.le_refl 0⟩) (fun r_9 _ H locs hw hH => ?_)
        have hH : kH (dC, dI) cl A s.heap H locs (wX50 ci ad d f_phrases f_axioms f_axiomCount f_triples f_tripleCount f_rules f_instances f_counts f_premises f_rows f_stated f_marks f_broken f_text f_size f_sizes f_places) := hH
        refine lv_icmp_lt (tgt := 44) hx hb dX50_premise_38 (by decide) (fun c_10 => ?_) (fun c_10 => ?_)
        · have hw := hw.1 (z_lt e_7 (rfl : r_9.toInt = _) c_10)
          refine lv_aload_n hx hb dX50_premise_44 rfl (lv_at hl 0 rfl) ?_
          refine lv_iload_n hx hb dX50_premise_45 rfl (lv_at hl 1 rfl) ?_
          refine lv_iload_n hx hb dX50_premise_46 rfl (lv_at hl 2 rfl) ?_
          refine k_v0 hH (k_runV (As := [.int x1, .int x2]) (rest := []) X hH.1 hH.2.1 X.2.2.2 (walkX50_lay hc (x1 := x1) (x2 := x2) (f_phrases := f_phrases) (f_axioms := f_axioms) (f_axiomCount := f_axiomCount) (f_triples := f_triples) (f_tripleCount := f_tripleCount) (f_rules := f_rules) (f_instances := f_instances) (f_counts := f_counts) (f_premises := f_premises) (f_rows := f_rows) (f_stated := f_stated) (f_marks := f_marks) (f_broken := f_broken) (f_text := f_text) (f_size := f_size) (f_sizes := f_sizes) (f_places := f_places) hw) (cwV 2 X.1.2.2.2.2 gX50_181 rfl rfl rfl hX50_lay ⟨Nat.le_of_ble_eq_true rfl, Nat.le_of_ble_eq_true rfl⟩) hc (q0 := 0) rfl rfl hl.1 rfl (Nat.le_of_ble_eq_true rfl) dX50_premise_47 ⟨Nat.le_refl 0, Nat.le_refl 0⟩) (fun u H locs hw hH => ?_)
          obtain ⟨f_counts_11, f_premises_12⟩ := u
          have hH : kH (dC, dI) cl A s.heap H locs (wX50 ci ad d f_phrases f_axioms f_axiomCount f_triples f_tripleCount f_rules f_instances f_counts_11 f_premises_12 f_rows f_stated f_marks f_broken f_text f_size f_sizes f_places) := hH
          refine lv_aload_n hx hb dX50_premise_50 rfl (lv_at hl 0 rfl) ?_
          refine k_get X hH in_X50 0 rfl hc 7 (by decide) q6291 rfl dX50_premise_51 ?_
          refine lv_iload_n hx hb dX50_premise_54 rfl (lv_at hl 1 rfl) ?_
          refine k_iald X hH 6 5 rfl rfl (z_in (rfl : x1.toInt = _) hq_6) dX50_premise_55 ?_
          have e_13 := z_ld (f := f_counts_11) (rfl : x1.toInt = _) hq_6.1
          exact k_iret (v := f_counts_11 x1.toNatClampNeg) X hH (f_counts_11, f_premises_12) (by rw [show (f_counts_11 x1.toNatClampNeg : Int32).toInt = _ from e_13]; exact hw) rfl rfl dX50_premise_56
        · have hw := hw.2 (z_nlt e_7 (rfl : r_9.toInt = _) c_10)
          refine lv_bipush (v := (-3)) hx hb dX50_premise_41 (by decide) ?_
          exact k_iret (v := (-3)) X hH (f_counts, f_premises) hw rfl rfl dX50_premise_43
    · have hw := hw.1 (z_eq (rfl : r_3.toInt = _) (rfl : (0 : Int32).toInt = 0) c_4)
      refine lv_iconst (v := (-1)) hx hb dX50_premise_16 (by decide) ?_
      exact k_iret (v := (-1)) X hH (f_counts, f_premises) hw rfl rfl dX50_premise_17
set_option maxHeartbeats 4000000 in
theorem atX50_mark_2 {p : Program} {l : Launch} {e : Env} {s : State} {m : MethodId} {args : Array Value} {below : List Frame} {meth : Method} {c : Code} {dC : Nat → ClassId} {dI : Nat → Nat → Nat} {cl : List vw_C} {ci : Nat} (hc : cl[ci]? = some (RX50, TX50, 17)) {ad : Nat → Nat} {d : Nat → ClassId} {A : Nat → Prop} {post : Int → (Int → Int) → Prop} {f_phrases : Nat → Int64} {f_axioms : Nat → Int32} {f_axiomCount : Int32} {f_triples : Nat → Int32} {f_tripleCount : Int32} {f_rules : Nat → Int32} {f_instances : Nat → Int32} {f_counts : Nat → Int32} {f_premises : Nat → Int32} {f_rows : Int32} {f_stated : Nat → Int32} {f_broken : Int32} {f_text : Nat → Int32} {f_size : Int32} {f_sizes : Nat → Int32} {f_places : Nat → Int32} (X : kX p s m args meth c cX50_mark 5 RX50 (some .int) (dC, dI) cl (tX50 d)) {K32 : (Int → Int) → Prop} {x1 : Int32}  (hk32 : ∀ (f_marks : Nat → Int32), K32 (zF f_marks) → ∀ (H : Heap) (locs : List Loc) (ls : Array Slot), kH (dC, dI) cl A s.heap H locs (wX50 ci ad d f_phrases f_axioms f_axiomCount f_triples f_tripleCount f_rules f_instances f_counts f_premises f_rows f_stated f_marks f_broken f_text f_size f_sizes f_places) → lv_has ls 5 [(0, .ref (ad 0)), (1, .int x1)] → W p l e ({ frames := 0, cells := 0, slots := 0, locals := 0 } : Room) s m args below meth c H locs 0 0 (MQ below (va_Qi (fun (r : Int32) (u : (Nat → Int32)) => post r.toInt (zF (u))) (kB (dC, dI) cl (tX50 d) A (fun u : (Nat → Int32) => (wX50 ci ad d f_phrases f_axioms f_axiomCount f_triples f_tripleCount f_rules f_instances f_counts f_premises f_rows f_stated (u) f_broken f_text f_size f_sizes f_places))) A) args s 0 0 A) (F0 m 32 ls [])) :
    ∀ (nn : Nat) (x2 : Int32) (f_marks : Nat → Int32), wX50_mark_2 K32 x1.toInt f_rows.toInt nn x2.toInt (zF f_marks) → ∀ (H : Heap) (locs : List Loc) (ls : Array Slot), kH (dC, dI) cl A s.heap H locs (wX50 ci ad d f_phrases f_axioms f_axiomCount f_triples f_tripleCount f_rules f_instances f_counts f_premises f_rows f_stated f_marks f_broken f_text f_size f_sizes f_places) → lv_has ls 5 [(0, .ref (ad 0)), (1, .int x1), (2, .int x2)] → W p l e ({ frames := 0, cells := 0, slots := 0, locals := 0 } : Room) s m args below meth c H locs 0 0 (MQ below (va_Qi (fun (r : Int32) (u : (Nat → Int32)) => post r.toInt (zF (u))) (kB (dC, dI) cl (tX50 d) A (fun u : (Nat → Int32) => (wX50 ci ad d f_phrases f_axioms f_axiomCount f_triples f_tripleCount f_rules f_instances f_counts f_premises f_rows f_stated (u) f_broken f_text f_size f_sizes f_places))) A) args s 0 0 A) (F0 m 2 ls []) := by
  have hx := X.1.1
  have hb := X.1.2.1
  intro nn
  induction nn with
  | zero =>
    intro x2 f_marks hw
    exact False.elim hw
  | succ n ih =>
    intro x2 f_marks hw H locs ls hH hl
    rw [wX50_mark_2] at hw
    refine lv_iload_n hx hb dX50_mark_2 rfl (lv_at hl 2 rfl) ?_
    refine lv_aload_n hx hb dX50_mark_3 rfl (lv_at hl 0 rfl) ?_
    refine k_get X hH in_X50 0 rfl hc 9 (by decide) q6293 rfl dX50_mark_4 ?_
    refine lv_icmp_gt (tgt := 32) hx hb dX50_mark_7 (by decide) (fun c_1 => ?_) (fun c_1 => ?_)
    · have hw := hw.1 (z_lt (rfl : f_rows.toInt = _) (rfl : x2.toInt = _) c_1)
      exact hk32 f_marks hw _ _ ls hH (lv_sub hl [0, 1] rfl)
    · have hw := hw.2 (z_nlt (rfl : f_rows.toInt = _) (rfl : x2.toInt = _) c_1)
      refine lv_aload_n hx hb dX50_mark_10 rfl (lv_at hl 0 rfl) ?_
      refine k_get X hH in_X50 0 rfl hc 11 (by decide) q6295 rfl dX50_mark_11 ?_
      refine lv_iload_n hx hb dX50_mark_14 rfl (lv_at hl 2 rfl) ?_
      refine lv_iload_n hx hb dX50_mark_15 rfl (lv_at hl 2 rfl) ?_
      refine lv_iload_n hx hb dX50_mark_16 rfl (lv_at hl 1 rfl) ?_
      refine lv_icmp_ne (tgt := 24) hx hb dX50_mark_17 (by decide) (fun c_2 => ?_) (fun c_2 => ?_)
      · have hw := hw.2 (z_ne (rfl : x2.toInt = _) (rfl : x1.toInt = _) c_2)
        refine lv_iconst (v := 0) hx hb dX50_mark_24 (by decide) ?_
        have hq_4 := hw.1
        have hw := hw.2
        obtain ⟨f_marks_3, ef_marks_3⟩ : ∃ y : Nat → Int32, y = upd f_marks x2.toNatClampNeg (vp_nar .boolean 0) := ⟨_, rfl⟩
        refine k_zast X hH 9 8 rfl rfl (z_in (rfl : x2.toInt = _) hq_4) dX50_mark_25 ef_marks_3 (ws1 := (wX50 ci ad d f_phrases f_axioms f_axiomCount f_triples f_tripleCount f_rules f_instances f_counts f_premises f_rows f_stated f_marks_3 f_broken f_text f_size f_sizes f_places)) rfl (fun H locs hH => ?_)
        have hw := hw (zF f_marks_3) (by rw [ef_marks_3]; exact z_st (f := f_marks) (rfl : x2.toInt = _) hq_4.1 (z_narZ (rfl : (0 : Int32).toInt = 0) (by decide)))
        have hq_6 := hw.1
        have hw := hw.2
        obtain ⟨x2_5, ex2_5⟩ : ∃ y : Int32, y = x2 + 1 := ⟨_, rfl⟩
        have hw := hw x2_5.toInt (by rw [ex2_5]; exact (z_x (z_add (z_m (rfl : x2.toInt = _)) (z_m (rfl : (1 : Int32).toInt = 1))) hq_6))
        refine lv_iinc (v := x2_5) (lv' := [(2, .int x2_5), (0, .ref (ad 0)), (1, .int x1)]) hx hb dX50_mark_26 hl (k := 2) rfl (by rw [ex2_5]; rfl) (by decide) rfl (fun ls hl => ?_)
        refine lv_goto (tgt := 2) hx hb dX50_mark_29 (by decide) ?_
        exact ih x2_5 f_marks_3 hw _ _ ls hH (lv_sub hl [1, 2, 0] rfl)
      · have hw := hw.1 (z_eq (rfl : x2.toInt = _) (rfl : x1.toInt = _) c_2)
        refine lv_iconst (v := 1) hx hb dX50_mark_20 (by decide) ?_
        refine lv_goto (tgt := 25) hx hb dX50_mark_21 (by decide) ?_
        have hq_8 := hw.1
        have hw := hw.2
        obtain ⟨f_marks_7, ef_marks_7⟩ : ∃ y : Nat → Int32, y = upd f_marks x2.toNatClampNeg (vp_nar .boolean 1) := ⟨_, rfl⟩
        refine k_zast X hH 9 8 rfl rfl (z_in (rfl : x2.toInt = _) hq_8) dX50_mark_25 ef_marks_7 (ws1 := (wX50 ci ad d f_phrases f_axioms f_axiomCount f_triples f_tripleCount f_rules f_instances f_counts f_premises f_rows f_stated f_marks_7 f_broken f_text f_size f_sizes f_places)) rfl (fun H locs hH => ?_)
        have hw := hw (zF f_marks_7) (by rw [ef_marks_7]; exact z_st (f := f_marks) (rfl : x2.toInt = _) hq_8.1 (z_narZ (rfl : (1 : Int32).toInt = 1) (by decide)))
        have hq_10 := hw.1
        have hw := hw.2
        obtain ⟨x2_9, ex2_9⟩ : ∃ y : Int32, y = x2 + 1 := ⟨_, rfl⟩
        have hw := hw x2_9.toInt (by rw [ex2_9]; exact (z_x (z_add (z_m (rfl : x2.toInt = _)) (z_m (rfl : (1 : Int32).toInt = 1))) hq_10))
        refine lv_iinc (v := x2_9) (lv' := [(2, .int x2_9), (0, .ref (ad 0)), (1, .int x1)]) hx hb dX50_mark_26 hl (k := 2) rfl (by rw [ex2_9]; rfl) (by decide) rfl (fun ls hl => ?_)
        refine lv_goto (tgt := 2) hx hb dX50_mark_29 (by decide) ?_
        exact ih x2_9 f_marks_7 hw _ _ ls hH (lv_sub hl [1, 2, 0] rfl)
set_option maxHeartbeats 4000000 in
theorem atX50_mark_58 {p : Program} {l : Launch} {e : Env} {s : State} {m : MethodId} {args : Array Value} {below : List Frame} {meth : Method} {c : Code} {dC : Nat → ClassId} {dI : Nat → Nat → Nat} {cl : List vw_C} {ci : Nat} (hc : cl[ci]? = some (RX50, TX50, 17)) {ad : Nat → Nat} {d : Nat → ClassId} {A : Nat → Prop} {post : Int → (Int → Int) → Prop} {f_phrases : Nat → Int64} {f_axioms : Nat → Int32} {f_axiomCount : Int32} {f_triples : Nat → Int32} {f_tripleCount : Int32} {f_rules : Nat → Int32} {f_instances : Nat → Int32} {f_counts : Nat → Int32} {f_premises : Nat → Int32} {f_rows : Int32} {f_stated : Nat → Int32} {f_broken : Int32} {f_text : Nat → Int32} {f_size : Int32} {f_sizes : Nat → Int32} {f_places : Nat → Int32} (X : kX p s m args meth c cX50_mark 5 RX50 (some .int) (dC, dI) cl (tX50 d)) {K92 : (Int → Int) → Prop} {x2 : Int32} {x3 : Int32}  (hk92 : ∀ (f_marks : Nat → Int32), K92 (zF f_marks) → ∀ (H : Heap) (locs : List Loc) (ls : Array Slot), kH (dC, dI) cl A s.heap H locs (wX50 ci ad d f_phrases f_axioms f_axiomCount f_triples f_tripleCount f_rules f_instances f_counts f_premises f_rows f_stated f_marks f_broken f_text f_size f_sizes f_places) → lv_has ls 5 [(0, .ref (ad 0)), (2, .int x2), (3, .int x3)] → W p l e ({ frames := 0, cells := 0, slots := 0, locals := 0 } : Room) s m args below meth c H locs 0 0 (MQ below (va_Qi (fun (r : Int32) (u : (Nat → Int32)) => post r.toInt (zF (u))) (kB (dC, dI) cl (tX50 d) A (fun u : (Nat → Int32) => (wX50 ci ad d f_phrases f_axioms f_axiomCount f_triples f_tripleCount f_rules f_instances f_counts f_premises f_rows f_stated (u) f_broken f_text f_size f_sizes f_places))) A) args s 0 0 A) (F0 m 92 ls [])) :
    ∀ (nn : Nat) (x4 : Int32) (f_marks : Nat → Int32), wX50_mark_58 K92 x3.toInt (zF f_counts) (zF f_premises) nn x4.toInt (zF f_marks) → ∀ (H : Heap) (locs : List Loc) (ls : Array Slot), kH (dC, dI) cl A s.heap H locs (wX50 ci ad d f_phrases f_axioms f_axiomCount f_triples f_tripleCount f_rules f_instances f_counts f_premises f_rows f_stated f_marks f_broken f_text f_size f_sizes f_places) → lv_has ls 5 [(0, .ref (ad 0)), (2, .int x2), (3, .int x3), (4, .int x4)] → W p l e ({ frames := 0, cells := 0, slots := 0, locals := 0 } : Room) s m args below meth c H locs 0 0 (MQ below (va_Qi (fun (r : Int32) (u : (Nat → Int32)) => post r.toInt (zF (u))) (kB (dC, dI) cl (tX50 d) A (fun u : (Nat → Int32) => (wX50 ci ad d f_phrases f_axioms f_axiomCount f_triples f_tripleCount f_rules f_instances f_counts f_premises f_rows f_stated (u) f_broken f_text f_size f_sizes f_places))) A) args s 0 0 A) (F0 m 58 ls []) := by
  have hx := X.1.1
  have hb := X.1.2.1
  intro nn
  induction nn with
  | zero =>
    intro x4 f_marks hw
    exact False.elim hw
  | succ n ih =>
    intro x4 f_marks hw H locs ls hH hl
    rw [wX50_mark_58] at hw
    refine lv_iload hx hb dX50_mark_58 (lv_at hl 3 rfl) ?_
    refine lv_aload_n hx hb dX50_mark_60 rfl (lv_at hl 0 rfl) ?_
    refine k_get X hH in_X50 0 rfl hc 7 (by decide) q6291 rfl dX50_mark_61 ?_
    refine lv_iload_n hx hb dX50_mark_64 rfl (lv_at hl 2 rfl) ?_
    have hq_18 := hw.1
    have hw := hw.2
    refine k_iald X hH 6 5 rfl rfl (z_in (rfl : x3.toInt = _) hq_18) dX50_mark_65 ?_
    have e_19 := z_ld (f := f_counts) (rfl : x3.toInt = _) hq_18.1
    refine lv_icmp_ge (tgt := 92) hx hb dX50_mark_66 (by decide) (fun c_20 => ?_) (fun c_20 => ?_)
    · have hw := hw.1 (z_le e_19 (rfl : x4.toInt = _) c_20)
      exact hk92 f_marks hw _ _ ls hH (lv_sub hl [0, 1, 2] rfl)
    · have hw := hw.2 (z_nle e_19 (rfl : x4.toInt = _) c_20)
      refine lv_aload_n hx hb dX50_mark_69 rfl (lv_at hl 0 rfl) ?_
      refine k_get X hH in_X50 0 rfl hc 11 (by decide) q6295 rfl dX50_mark_70 ?_
      refine lv_aload_n hx hb dX50_mark_73 rfl (lv_at hl 0 rfl) ?_
      refine k_get X hH in_X50 0 rfl hc 8 (by decide) q6292 rfl dX50_mark_74 ?_
      refine lv_iconst (v := 3) hx hb dX50_mark_77 (by decide) ?_
      refine lv_iload_n hx hb dX50_mark_78 rfl (lv_at hl 2 rfl) ?_
      refine lv_imul hx hb dX50_mark_79 ?_
      have e_21 := z_mul (z_m (rfl : (3 : Int32).toInt = 3)) (z_m (rfl : x3.toInt = _))
      refine lv_iload hx hb dX50_mark_80 (lv_at hl 3 rfl) ?_
      refine lv_iadd hx hb dX50_mark_82 ?_
      have e_22 := z_add e_21 (z_m (rfl : x4.toInt = _))
      have hq_23 := hw.1
      have hw := hw.2
      have e_24 := z_xi e_22 hq_23 (by decide)
      refine k_iald X hH 7 6 rfl rfl (z_in e_24 hq_23) dX50_mark_83 ?_
      have e_25 := z_ld (f := f_premises) e_24 hq_23.1
      refine lv_iconst (v := 1) hx hb dX50_mark_84 (by decide) ?_
      have hq_27 := hw.1
      have hw := hw.2
      obtain ⟨f_marks_26, ef_marks_26⟩ : ∃ y : Nat → Int32, y = upd f_marks (f_premises ((3 * x3) + x4).toNatClampNeg).toNatClampNeg (vp_nar .boolean 1) := ⟨_, rfl⟩
      refine k_zast X hH 9 8 rfl rfl (z_in e_25 hq_27) dX50_mark_85 ef_marks_26 (ws1 := (wX50 ci ad d f_phrases f_axioms f_axiomCount f_triples f_tripleCount f_rules f_instances f_counts f_premises f_rows f_stated f_marks_26 f_broken f_text f_size f_sizes f_places)) rfl (fun H locs hH => ?_)
      have hw := hw (zF f_marks_26) (by rw [ef_marks_26]; exact z_st (f := f_marks) e_25 hq_27.1 (z_narZ (rfl : (1 : Int32).toInt = 1) (by decide)))
      have hq_29 := hw.1
      have hw := hw.2
      obtain ⟨x4_28, ex4_28⟩ : ∃ y : Int32, y = x4 + 1 := ⟨_, rfl⟩
      have hw := hw x4_28.toInt (by rw [ex4_28]; exact (z_x (z_add (z_m (rfl : x4.toInt = _)) (z_m (rfl : (1 : Int32).toInt = 1))) hq_29))
      refine lv_iinc (v := x4_28) (lv' := [(4, .int x4_28), (0, .ref (ad 0)), (2, .int x2), (3, .int x3)]) hx hb dX50_mark_86 hl (k := 3) rfl (by rw [ex4_28]; rfl) (by decide) rfl (fun ls hl => ?_)
      refine lv_goto (tgt := 58) hx hb dX50_mark_89 (by decide) ?_
      exact ih x4_28 f_marks_26 hw _ _ ls hH (lv_sub hl [1, 2, 3, 0] rfl)
set_option maxHeartbeats 4000000 in
theorem atX50_mark_36 {p : Program} {l : Launch} {e : Env} {s : State} {m : MethodId} {args : Array Value} {below : List Frame} {meth : Method} {c : Code} {dC : Nat → ClassId} {dI : Nat → Nat → Nat} {cl : List vw_C} {ci : Nat} (hc : cl[ci]? = some (RX50, TX50, 17)) {ad : Nat → Nat} {d : Nat → ClassId} {A : Nat → Prop} {post : Int → (Int → Int) → Prop} {f_phrases : Nat → Int64} {f_axioms : Nat → Int32} {f_axiomCount : Int32} {f_triples : Nat → Int32} {f_tripleCount : Int32} {f_rules : Nat → Int32} {f_instances : Nat → Int32} {f_counts : Nat → Int32} {f_premises : Nat → Int32} {f_rows : Int32} {f_stated : Nat → Int32} {f_broken : Int32} {f_text : Nat → Int32} {f_size : Int32} {f_sizes : Nat → Int32} {f_places : Nat → Int32} (X : kX p s m args meth c cX50_mark 5 RX50 (some .int) (dC, dI) cl (tX50 d)) {K98 : Int → (Int → Int) → Prop}   (hk98 : ∀ (x2 : Int32) (f_marks : Nat → Int32), K98 x2.toInt (zF f_marks) → ∀ (H : Heap) (locs : List Loc) (ls : Array Slot), kH (dC, dI) cl A s.heap H locs (wX50 ci ad d f_phrases f_axioms f_axiomCount f_triples f_tripleCount f_rules f_instances f_counts f_premises f_rows f_stated f_marks f_broken f_text f_size f_sizes f_places) → lv_has ls 5 [(2, .int x2)] → W p l e ({ frames := 0, cells := 0, slots := 0, locals := 0 } : Room) s m args below meth c H locs 0 0 (MQ below (va_Qi (fun (r : Int32) (u : (Nat → Int32)) => post r.toInt (zF (u))) (kB (dC, dI) cl (tX50 d) A (fun u : (Nat → Int32) => (wX50 ci ad d f_phrases f_axioms f_axiomCount f_triples f_tripleCount f_rules f_instances f_counts f_premises f_rows f_stated (u) f_broken f_text f_size f_sizes f_places))) A) args s 0 0 A) (F0 m 98 ls [])) :
    ∀ (nn : Nat) (x2 : Int32) (x3 : Int32) (f_marks : Nat → Int32), wX50_mark_36 K98 (zF f_counts) (zF f_premises) nn x2.toInt x3.toInt (zF f_marks) → ∀ (H : Heap) (locs : List Loc) (ls : Array Slot), kH (dC, dI) cl A s.heap H locs (wX50 ci ad d f_phrases f_axioms f_axiomCount f_triples f_tripleCount f_rules f_instances f_counts f_premises f_rows f_stated f_marks f_broken f_text f_size f_sizes f_places) → lv_has ls 5 [(0, .ref (ad 0)), (2, .int x2), (3, .int x3)] → W p l e ({ frames := 0, cells := 0, slots := 0, locals := 0 } : Room) s m args below meth c H locs 0 0 (MQ below (va_Qi (fun (r : Int32) (u : (Nat → Int32)) => post r.toInt (zF (u))) (kB (dC, dI) cl (tX50 d) A (fun u : (Nat → Int32) => (wX50 ci ad d f_phrases f_axioms f_axiomCount f_triples f_tripleCount f_rules f_instances f_counts f_premises f_rows f_stated (u) f_broken f_text f_size f_sizes f_places))) A) args s 0 0 A) (F0 m 36 ls []) := by
  have hx := X.1.1
  have hb := X.1.2.1
  intro nn
  induction nn with
  | zero =>
    intro x2 x3 f_marks hw
    exact False.elim hw
  | succ n ih =>
    intro x2 x3 f_marks hw H locs ls hH hl
    rw [wX50_mark_36] at hw
    refine lv_iload_n hx hb dX50_mark_36 rfl (lv_at hl 2 rfl) ?_
    refine lv_if_le (tgt := 98) hx hb dX50_mark_37 (by decide) (fun c_12 => ?_) (fun c_12 => ?_)
    · have hw := hw.1 (z_le (rfl : x3.toInt = _) (rfl : (0 : Int32).toInt = 0) c_12)
      exact hk98 x2 f_marks hw _ _ ls hH (lv_sub hl [1] rfl)
    · have hw := hw.2 (z_nle (rfl : x3.toInt = _) (rfl : (0 : Int32).toInt = 0) c_12)
      refine lv_aload_n hx hb dX50_mark_40 rfl (lv_at hl 0 rfl) ?_
      refine k_get X hH in_X50 0 rfl hc 11 (by decide) q6295 rfl dX50_mark_41 ?_
      refine lv_iload_n hx hb dX50_mark_44 rfl (lv_at hl 2 rfl) ?_
      have hq_13 := hw.1
      have hw := hw.2
      refine k_zald X hH 9 8 rfl rfl (z_in (rfl : x3.toInt = _) hq_13) dX50_mark_45 ?_
      have e_14 := z_ld (f := f_marks) (rfl : x3.toInt = _) hq_13.1
      refine lv_if_ne (tgt := 52) hx hb dX50_mark_46 (by decide) (fun c_15 => ?_) (fun c_15 => ?_)
      · have hw := hw.2 (z_ne e_14 (rfl : (0 : Int32).toInt = 0) c_15)
        have hq_17 := hw.1
        have hw := hw.2
        obtain ⟨x2_16, ex2_16⟩ : ∃ y : Int32, y = x2 + 1 := ⟨_, rfl⟩
        have hw := hw x2_16.toInt (by rw [ex2_16]; exact (z_x (z_add (z_m (rfl : x2.toInt = _)) (z_m (rfl : (1 : Int32).toInt = 1))) hq_17))
        refine lv_iinc (v := x2_16) (lv' := [(2, .int x2_16), (0, .ref (ad 0)), (3, .int x3)]) hx hb dX50_mark_52 hl (k := 1) rfl (by rw [ex2_16]; rfl) (by decide) rfl (fun ls hl => ?_)
        refine lv_iconst (v := 0) hx hb dX50_mark_55 (by decide) ?_
        refine lv_istore (lv' := [(4, .int 0), (2, .int x2_16), (0, .ref (ad 0)), (3, .int x3)]) hx hb dX50_mark_56 hl (by decide) rfl (fun ls hl => ?_)
        obtain ⟨fu, hw⟩ := hw
        refine atX50_mark_58 hc X ?_ fu 0 f_marks hw _ _ ls hH (lv_sub hl [2, 1, 3, 0] rfl)
        · intro f_marks_30 hw H locs ls hH hl
          have hq_32 := hw.1
          have hw := hw.2
          obtain ⟨x3_31, ex3_31⟩ : ∃ y : Int32, y = x3 + (-1) := ⟨_, rfl⟩
          have hw := hw x3_31.toInt (by rw [ex3_31]; exact (z_x (z_add (z_m (rfl : x3.toInt = _)) (z_m (rfl : ((-1) : Int32).toInt = (-1)))) hq_32))
          refine lv_iinc (v := x3_31) (lv' := [(3, .int x3_31), (0, .ref (ad 0)), (2, .int x2_16)]) hx hb dX50_mark_92 hl (k := 2) rfl (by rw [ex3_31]; rfl) (by decide) rfl (fun ls hl => ?_)
          refine lv_goto (tgt := 36) hx hb dX50_mark_95 (by decide) ?_
          exact ih x2_16 x3_31 f_marks_30 hw _ _ ls hH (lv_sub hl [1, 2, 0] rfl)
      · have hw := hw.1 (z_eq e_14 (rfl : (0 : Int32).toInt = 0) c_15)
        refine lv_goto (tgt := 92) hx hb dX50_mark_49 (by decide) ?_
        have hq_34 := hw.1
        have hw := hw.2
        obtain ⟨x3_33, ex3_33⟩ : ∃ y : Int32, y = x3 + (-1) := ⟨_, rfl⟩
        have hw := hw x3_33.toInt (by rw [ex3_33]; exact (z_x (z_add (z_m (rfl : x3.toInt = _)) (z_m (rfl : ((-1) : Int32).toInt = (-1)))) hq_34))
        refine lv_iinc (v := x3_33) (lv' := [(3, .int x3_33), (0, .ref (ad 0)), (2, .int x2)]) hx hb dX50_mark_92 hl (k := 2) rfl (by rw [ex3_33]; rfl) (by decide) rfl (fun ls hl => ?_)
        refine lv_goto (tgt := 36) hx hb dX50_mark_95 (by decide) ?_
        exact ih x2 x3_33 f_marks hw _ _ ls hH (lv_sub hl [1, 2, 0] rfl)
set_option maxHeartbeats 4000000 in
theorem walkX50_mark {l : Launch} {dC : Nat → ClassId} {dI : Nat → Nat → Nat} {cl : List vw_C} {ci : Nat} (hc : cl[ci]? = some (RX50, TX50, 17)) {ad : Nat → Nat} {d : Nat → ClassId} {sz : Nat} {f_phrases : Nat → Int64} {f_axioms : Nat → Int32} {f_axiomCount : Int32} {f_triples : Nat → Int32} {f_tripleCount : Int32} {f_rules : Nat → Int32} {f_instances : Nat → Int32} {f_counts : Nat → Int32} {f_premises : Nat → Int32} {f_rows : Int32} {f_stated : Nat → Int32} {f_marks : Nat → Int32} {f_broken : Int32} {f_text : Nat → Int32} {f_size : Int32} {f_sizes : Nat → Int32} {f_places : Nat → Int32} {x1 : Int32} {post : Int → (Int → Int) → Prop} (hw : wpX50_mark post (zF f_counts) (zF f_premises) f_rows.toInt (zF f_marks) x1.toInt) :
    Met l yX50_mark (ws_ yX50_mark cX50_mark 5 (some .int)) ({ frames := 0, cells := 0, slots := 0, locals := 0 } : Room) (kPc (dC, dI) cl (tX50 d) [.ref (ad 0), .int x1] sz (wX50 ci ad d f_phrases f_axioms f_axiomCount f_triples f_tripleCount f_rules f_instances f_counts f_premises f_rows f_stated f_marks f_broken f_text f_size f_sizes f_places)) (va_Qi (fun (r : Int32) (u : (Nat → Int32)) => post r.toInt (zF (u))) (kB (dC, dI) cl (tX50 d) (va_A (wX50 ci ad d f_phrases f_axioms f_axiomCount f_triples f_tripleCount f_rules f_instances f_counts f_premises f_rows f_stated f_marks f_broken f_text f_size f_sizes f_places) sz) (fun u : (Nat → Int32) => (wX50 ci ad d f_phrases f_axioms f_axiomCount f_triples f_tripleCount f_rules f_instances f_counts f_premises f_rows f_stated (u) f_broken f_text f_size f_sizes f_places))) (va_A (wX50 ci ad d f_phrases f_axioms f_axiomCount f_triples f_tripleCount f_rules f_instances f_counts f_premises f_rows f_stated f_marks f_broken f_text f_size f_sizes f_places) sz)) 0 0 (va_A (wX50 ci ad d f_phrases f_axioms f_axiomCount f_triples f_tripleCount f_rules f_instances f_counts f_premises f_rows f_stated f_marks f_broken f_text f_size f_sizes f_places) sz) := by
  refine k_enter (by decide) (Nat.le_of_ble_eq_true rfl) ?_
  intro p e s m below meth c ls X hsz hH hl
  subst hsz
  generalize va_A (wX50 ci ad d f_phrases f_axioms f_axiomCount f_triples f_tripleCount f_rules f_instances f_counts f_premises f_rows f_stated f_marks f_broken f_text f_size f_sizes f_places) s.heap.size = A at hH ⊢
  have hx := X.1.1
  have hb := X.1.2.1
  have hl : lv_has ls 5 [(0, .ref (ad 0)), (1, .int x1)] := hl
  unfold wpX50_mark at hw
  refine lv_iconst (v := 1) hx hb dX50_mark_0 (by decide) ?_
  refine lv_istore_n (lv' := [(2, .int 1), (0, .ref (ad 0)), (1, .int x1)]) hx hb dX50_mark_1 rfl hl (by decide) rfl (fun ls hl => ?_)
  obtain ⟨fu, hw⟩ := hw
  refine atX50_mark_2 hc X ?_ fu 1 f_marks hw _ _ ls hH (lv_sub hl [1, 2, 0] rfl)
  · intro f_marks_11 hw H locs ls hH hl
    refine lv_iconst (v := 0) hx hb dX50_mark_32 (by decide) ?_
    refine lv_istore_n (lv' := [(2, .int 0), (0, .ref (ad 0)), (1, .int x1)]) hx hb dX50_mark_33 rfl hl (by decide) rfl (fun ls hl => ?_)
    refine lv_iload_n hx hb dX50_mark_34 rfl (lv_at hl 2 rfl) ?_
    refine lv_istore_n (lv' := [(3, .int x1), (2, .int 0), (0, .ref (ad 0)), (1, .int x1)]) hx hb dX50_mark_35 rfl hl (by decide) rfl (fun ls hl => ?_)
    obtain ⟨fu, hw⟩ := hw
    refine atX50_mark_36 hc X ?_ fu 0 x1 f_marks_11 hw _ _ ls hH (lv_sub hl [2, 1, 0] rfl)
    · intro x2_35 f_marks_36 hw H locs ls hH hl
      refine lv_iload_n hx hb dX50_mark_98 rfl (lv_at hl 0 rfl) ?_
      exact k_iret (v := x2_35) X hH (f_marks_36) hw rfl rfl dX50_mark_99
set_option maxHeartbeats 4000000 in
theorem walkX50_state {l : Launch} {dC : Nat → ClassId} {dI : Nat → Nat → Nat} {cl : List vw_C} {ci : Nat} (hc : cl[ci]? = some (RX50, TX50, 17)) {ad : Nat → Nat} {d : Nat → ClassId} {sz : Nat} {f_phrases : Nat → Int64} {f_axioms : Nat → Int32} {f_axiomCount : Int32} {f_triples : Nat → Int32} {f_tripleCount : Int32} {f_rules : Nat → Int32} {f_instances : Nat → Int32} {f_counts : Nat → Int32} {f_premises : Nat → Int32} {f_rows : Int32} {f_stated : Nat → Int32} {f_marks : Nat → Int32} {f_broken : Int32} {f_text : Nat → Int32} {f_size : Int32} {f_sizes : Nat → Int32} {f_places : Nat → Int32} {x1 : Int32} {x2 : Int32} {x3 : Int32} {x4 : Int32} {x5 : Int32} {post : (Int → Int) → Prop} (hw : wpX50_state post (zF f_stated) x1.toInt x2.toInt x3.toInt x4.toInt x5.toInt) :
    Met l yX50_state (ws_ yX50_state cX50_state 6 none) ({ frames := 0, cells := 0, slots := 0, locals := 0 } : Room) (kPc (dC, dI) cl (tX50 d) [.ref (ad 0), .int x1, .int x2, .int x3, .int x4, .int x5] sz (wX50 ci ad d f_phrases f_axioms f_axiomCount f_triples f_tripleCount f_rules f_instances f_counts f_premises f_rows f_stated f_marks f_broken f_text f_size f_sizes f_places)) (va_Qv (fun (u : (Nat → Int32)) => post (zF (u))) (kB (dC, dI) cl (tX50 d) (va_A (wX50 ci ad d f_phrases f_axioms f_axiomCount f_triples f_tripleCount f_rules f_instances f_counts f_premises f_rows f_stated f_marks f_broken f_text f_size f_sizes f_places) sz) (fun u : (Nat → Int32) => (wX50 ci ad d f_phrases f_axioms f_axiomCount f_triples f_tripleCount f_rules f_instances f_counts f_premises f_rows (u) f_marks f_broken f_text f_size f_sizes f_places))) (va_A (wX50 ci ad d f_phrases f_axioms f_axiomCount f_triples f_tripleCount f_rules f_instances f_counts f_premises f_rows f_stated f_marks f_broken f_text f_size f_sizes f_places) sz)) 0 0 (va_A (wX50 ci ad d f_phrases f_axioms f_axiomCount f_triples f_tripleCount f_rules f_instances f_counts f_premises f_rows f_stated f_marks f_broken f_text f_size f_sizes f_places) sz) := by
  refine k_enter (by decide) (Nat.le_of_ble_eq_true rfl) ?_
  intro p e s m below meth c ls X hsz hH hl
  subst hsz
  generalize va_A (wX50 ci ad d f_phrases f_axioms f_axiomCount f_triples f_tripleCount f_rules f_instances f_counts f_premises f_rows f_stated f_marks f_broken f_text f_size f_sizes f_places) s.heap.size = A at hH ⊢
  have hx := X.1.1
  have hb := X.1.2.1
  have hl : lv_has ls 6 [(0, .ref (ad 0)), (1, .int x1), (2, .int x2), (3, .int x3), (4, .int x4), (5, .int x5)] := hl
  unfold wpX50_state at hw
  refine lv_aload_n hx hb dX50_state_0 rfl (lv_at hl 0 rfl) ?_
  refine k_get X hH in_X50 0 rfl hc 10 (by decide) q6294 rfl dX50_state_1 ?_
  refine lv_iconst (v := 4) hx hb dX50_state_4 (by decide) ?_
  refine lv_iload_n hx hb dX50_state_5 rfl (lv_at hl 1 rfl) ?_
  refine lv_imul hx hb dX50_state_6 ?_
  have e_1 := z_mul (z_m (rfl : (4 : Int32).toInt = 4)) (z_m (rfl : x1.toInt = _))
  refine lv_iload_n hx hb dX50_state_7 rfl (lv_at hl 2 rfl) ?_
  have hq_3 := hw.1
  have hw := hw.2
  have e_4 := z_xi e_1 hq_3 (by decide)
  obtain ⟨f_stated_2, ef_stated_2⟩ : ∃ y : Nat → Int32, y = upd f_stated (4 * x1).toNatClampNeg x2 := ⟨_, rfl⟩
  refine k_iast X hH 8 7 rfl rfl (z_in e_4 hq_3) dX50_state_8 ef_stated_2 (ws1 := (wX50 ci ad d f_phrases f_axioms f_axiomCount f_triples f_tripleCount f_rules f_instances f_counts f_premises f_rows f_stated_2 f_marks f_broken f_text f_size f_sizes f_places)) rfl (fun H locs hH => ?_)
  have hw := hw (zF f_stated_2) (by rw [ef_stated_2]; exact z_st (f := f_stated) e_4 hq_3.1 (rfl : x2.toInt = _))
  refine lv_aload_n hx hb dX50_state_9 rfl (lv_at hl 0 rfl) ?_
  refine k_get X hH in_X50 0 rfl hc 10 (by decide) q6294 rfl dX50_state_10 ?_
  refine lv_iconst (v := 4) hx hb dX50_state_13 (by decide) ?_
  refine lv_iload_n hx hb dX50_state_14 rfl (lv_at hl 1 rfl) ?_
  refine lv_imul hx hb dX50_state_15 ?_
  have e_5 := z_mul (z_m (rfl : (4 : Int32).toInt = 4)) (z_m (rfl : x1.toInt = _))
  refine lv_iconst (v := 1) hx hb dX50_state_16 (by decide) ?_
  refine lv_iadd hx hb dX50_state_17 ?_
  have e_6 := z_add e_5 (z_m (rfl : (1 : Int32).toInt = 1))
  refine lv_iload_n hx hb dX50_state_18 rfl (lv_at hl 3 rfl) ?_
  have hq_8 := hw.1
  have hw := hw.2
  have e_9 := z_xi e_6 hq_8 (by decide)
  obtain ⟨f_stated_7, ef_stated_7⟩ : ∃ y : Nat → Int32, y = upd f_stated_2 ((4 * x1) + 1).toNatClampNeg x3 := ⟨_, rfl⟩
  refine k_iast X hH 8 7 rfl rfl (z_in e_9 hq_8) dX50_state_19 ef_stated_7 (ws1 := (wX50 ci ad d f_phrases f_axioms f_axiomCount f_triples f_tripleCount f_rules f_instances f_counts f_premises f_rows f_stated_7 f_marks f_broken f_text f_size f_sizes f_places)) rfl (fun H locs hH => ?_)
  have hw := hw (zF f_stated_7) (by rw [ef_stated_7]; exact z_st (f := f_stated_2) e_9 hq_8.1 (rfl : x3.toInt = _))
  refine lv_aload_n hx hb dX50_state_20 rfl (lv_at hl 0 rfl) ?_
  refine k_get X hH in_X50 0 rfl hc 10 (by decide) q6294 rfl dX50_state_21 ?_
  refine lv_iconst (v := 4) hx hb dX50_state_24 (by decide) ?_
  refine lv_iload_n hx hb dX50_state_25 rfl (lv_at hl 1 rfl) ?_
  refine lv_imul hx hb dX50_state_26 ?_
  have e_10 := z_mul (z_m (rfl : (4 : Int32).toInt = 4)) (z_m (rfl : x1.toInt = _))
  refine lv_iconst (v := 2) hx hb dX50_state_27 (by decide) ?_
  refine lv_iadd hx hb dX50_state_28 ?_
  have e_11 := z_add e_10 (z_m (rfl : (2 : Int32).toInt = 2))
  refine lv_iload hx hb dX50_state_29 (lv_at hl 4 rfl) ?_
  have hq_13 := hw.1
  have hw := hw.2
  have e_14 := z_xi e_11 hq_13 (by decide)
  obtain ⟨f_stated_12, ef_stated_12⟩ : ∃ y : Nat → Int32, y = upd f_stated_7 ((4 * x1) + 2).toNatClampNeg x4 := ⟨_, rfl⟩
  refine k_iast X hH 8 7 rfl rfl (z_in e_14 hq_13) dX50_state_31 ef_stated_12 (ws1 := (wX50 ci ad d f_phrases f_axioms f_axiomCount f_triples f_tripleCount f_rules f_instances f_counts f_premises f_rows f_stated_12 f_marks f_broken f_text f_size f_sizes f_places)) rfl (fun H locs hH => ?_)
  have hw := hw (zF f_stated_12) (by rw [ef_stated_12]; exact z_st (f := f_stated_7) e_14 hq_13.1 (rfl : x4.toInt = _))
  refine lv_aload_n hx hb dX50_state_32 rfl (lv_at hl 0 rfl) ?_
  refine k_get X hH in_X50 0 rfl hc 10 (by decide) q6294 rfl dX50_state_33 ?_
  refine lv_iconst (v := 4) hx hb dX50_state_36 (by decide) ?_
  refine lv_iload_n hx hb dX50_state_37 rfl (lv_at hl 1 rfl) ?_
  refine lv_imul hx hb dX50_state_38 ?_
  have e_15 := z_mul (z_m (rfl : (4 : Int32).toInt = 4)) (z_m (rfl : x1.toInt = _))
  refine lv_iconst (v := 3) hx hb dX50_state_39 (by decide) ?_
  refine lv_iadd hx hb dX50_state_40 ?_
  have e_16 := z_add e_15 (z_m (rfl : (3 : Int32).toInt = 3))
  refine lv_iload hx hb dX50_state_41 (lv_at hl 5 rfl) ?_
  have hq_18 := hw.1
  have hw := hw.2
  have e_19 := z_xi e_16 hq_18 (by decide)
  obtain ⟨f_stated_17, ef_stated_17⟩ : ∃ y : Nat → Int32, y = upd f_stated_12 ((4 * x1) + 3).toNatClampNeg x5 := ⟨_, rfl⟩
  refine k_iast X hH 8 7 rfl rfl (z_in e_19 hq_18) dX50_state_43 ef_stated_17 (ws1 := (wX50 ci ad d f_phrases f_axioms f_axiomCount f_triples f_tripleCount f_rules f_instances f_counts f_premises f_rows f_stated_17 f_marks f_broken f_text f_size f_sizes f_places)) rfl (fun H locs hH => ?_)
  have hw := hw (zF f_stated_17) (by rw [ef_stated_17]; exact z_st (f := f_stated_12) e_19 hq_18.1 (rfl : x5.toInt = _))
  exact k_vret X hH (f_stated_17) hw rfl dX50_state_44
set_option maxHeartbeats 4000000 in
theorem walkX50_of {l : Launch} {dC : Nat → ClassId} {dI : Nat → Nat → Nat} {cl : List vw_C} {ci : Nat} (hc : cl[ci]? = some (RX50, TX50, 17)) {ad : Nat → Nat} {d : Nat → ClassId} {sz : Nat} {f_phrases : Nat → Int64} {f_axioms : Nat → Int32} {f_axiomCount : Int32} {f_triples : Nat → Int32} {f_tripleCount : Int32} {f_rules : Nat → Int32} {f_instances : Nat → Int32} {f_counts : Nat → Int32} {f_premises : Nat → Int32} {f_rows : Int32} {f_stated : Nat → Int32} {f_marks : Nat → Int32} {f_broken : Int32} {f_text : Nat → Int32} {f_size : Int32} {f_sizes : Nat → Int32} {f_places : Nat → Int32} {x1 : Int32} {x2 : Int32} {x3 : Int32} {post : Int → Prop} (hw : wpX50_of post (zF f_premises) (zF f_stated) x1.toInt x2.toInt x3.toInt) :
    Met l yX50_of (ws_ yX50_of cX50_of 4 (some .int)) ({ frames := 0, cells := 0, slots := 0, locals := 0 } : Room) (kPc (dC, dI) cl (tX50 d) [.ref (ad 0), .int x1, .int x2, .int x3] sz (wX50 ci ad d f_phrases f_axioms f_axiomCount f_triples f_tripleCount f_rules f_instances f_counts f_premises f_rows f_stated f_marks f_broken f_text f_size f_sizes f_places)) (va_Qi (fun (r : Int32) (_ : Unit) => post r.toInt) (kB (dC, dI) cl (tX50 d) (va_A (wX50 ci ad d f_phrases f_axioms f_axiomCount f_triples f_tripleCount f_rules f_instances f_counts f_premises f_rows f_stated f_marks f_broken f_text f_size f_sizes f_places) sz) (fun _ : Unit => (wX50 ci ad d f_phrases f_axioms f_axiomCount f_triples f_tripleCount f_rules f_instances f_counts f_premises f_rows f_stated f_marks f_broken f_text f_size f_sizes f_places))) (va_A (wX50 ci ad d f_phrases f_axioms f_axiomCount f_triples f_tripleCount f_rules f_instances f_counts f_premises f_rows f_stated f_marks f_broken f_text f_size f_sizes f_places) sz)) 0 0 (va_A (wX50 ci ad d f_phrases f_axioms f_axiomCount f_triples f_tripleCount f_rules f_instances f_counts f_premises f_rows f_stated f_marks f_broken f_text f_size f_sizes f_places) sz) := by
  refine k_enter (by decide) (Nat.le_of_ble_eq_true rfl) ?_
  intro p e s m below meth c ls X hsz hH hl
  subst hsz
  generalize va_A (wX50 ci ad d f_phrases f_axioms f_axiomCount f_triples f_tripleCount f_rules f_instances f_counts f_premises f_rows f_stated f_marks f_broken f_text f_size f_sizes f_places) s.heap.size = A at hH ⊢
  have hx := X.1.1
  have hb := X.1.2.1
  have hl : lv_has ls 4 [(0, .ref (ad 0)), (1, .int x1), (2, .int x2), (3, .int x3)] := hl
  unfold wpX50_of at hw
  refine lv_aload_n hx hb dX50_of_0 rfl (lv_at hl 0 rfl) ?_
  refine k_get X hH in_X50 0 rfl hc 10 (by decide) q6294 rfl dX50_of_1 ?_
  refine lv_iconst (v := 4) hx hb dX50_of_4 (by decide) ?_
  refine lv_aload_n hx hb dX50_of_5 rfl (lv_at hl 0 rfl) ?_
  refine k_get X hH in_X50 0 rfl hc 8 (by decide) q6292 rfl dX50_of_6 ?_
  refine lv_iconst (v := 3) hx hb dX50_of_9 (by decide) ?_
  refine lv_iload_n hx hb dX50_of_10 rfl (lv_at hl 1 rfl) ?_
  refine lv_imul hx hb dX50_of_11 ?_
  have e_1 := z_mul (z_m (rfl : (3 : Int32).toInt = 3)) (z_m (rfl : x1.toInt = _))
  refine lv_iload_n hx hb dX50_of_12 rfl (lv_at hl 2 rfl) ?_
  refine lv_iadd hx hb dX50_of_13 ?_
  have e_2 := z_add e_1 (z_m (rfl : x2.toInt = _))
  have hq_3 := hw.1
  have hw := hw.2
  have e_4 := z_xi e_2 hq_3 (by decide)
  refine k_iald X hH 7 6 rfl rfl (z_in e_4 hq_3) dX50_of_14 ?_
  have e_5 := z_ld (f := f_premises) e_4 hq_3.1
  refine lv_imul hx hb dX50_of_15 ?_
  have e_6 := z_mul (z_m (rfl : (4 : Int32).toInt = 4)) (z_m e_5)
  refine lv_iload_n hx hb dX50_of_16 rfl (lv_at hl 3 rfl) ?_
  refine lv_iadd hx hb dX50_of_17 ?_
  have e_7 := z_add e_6 (z_m (rfl : x3.toInt = _))
  have hq_8 := hw.1
  have hw := hw.2
  have e_9 := z_xi e_7 hq_8 (by decide)
  refine k_iald X hH 8 7 rfl rfl (z_in e_9 hq_8) dX50_of_18 ?_
  have e_10 := z_ld (f := f_stated) e_9 hq_8.1
  exact k_iret (v := f_stated ((4 * (f_premises ((3 * x1) + x2).toNatClampNeg)) + x3).toNatClampNeg) X hH () (by rw [show (f_stated ((4 * (f_premises ((3 * x1) + x2).toNatClampNeg)) + x3).toNatClampNeg : Int32).toInt = _ from e_10]; exact hw) rfl rfl dX50_of_19
set_option maxHeartbeats 4000000 in
theorem walkX50_copy_axioms {l : Launch} {dC : Nat → ClassId} {dI : Nat → Nat → Nat} {cl : List vw_C} {ci : Nat} (hc : cl[ci]? = some (RX50, TX50, 17)) {ad : Nat → Nat} {d : Nat → ClassId} {sz : Nat} {f_phrases : Nat → Int64} {f_axioms : Nat → Int32} {f_axiomCount : Int32} {f_triples : Nat → Int32} {f_tripleCount : Int32} {f_rules : Nat → Int32} {f_instances : Nat → Int32} {f_counts : Nat → Int32} {f_premises : Nat → Int32} {f_rows : Int32} {f_stated : Nat → Int32} {f_marks : Nat → Int32} {f_broken : Int32} {f_text : Nat → Int32} {f_size : Int32} {f_sizes : Nat → Int32} {f_places : Nat → Int32} {x2 : Int32} {x3 : Int32} {post : (Int → Int) → Prop} (hw : wpX50_copy_axioms post (zF f_axioms) (zF f_stated) x2.toInt x3.toInt) :
    Met l yX50_copy (ws_ yX50_copy cX50_copy 4 none) ({ frames := 1, cells := 0, slots := 0, locals := 25 } : Room) (kPc (dC, dI) cl (tX50 d) [.ref (ad 0), .ref (ad 2), .int x2, .int x3] sz (wX50 ci ad d f_phrases f_axioms f_axiomCount f_triples f_tripleCount f_rules f_instances f_counts f_premises f_rows f_stated f_marks f_broken f_text f_size f_sizes f_places)) (va_Qv (fun (u : (Nat → Int32)) => post (zF (u))) (kB (dC, dI) cl (tX50 d) (va_A (wX50 ci ad d f_phrases f_axioms f_axiomCount f_triples f_tripleCount f_rules f_instances f_counts f_premises f_rows f_stated f_marks f_broken f_text f_size f_sizes f_places) sz) (fun u : (Nat → Int32) => (wX50 ci ad d f_phrases f_axioms f_axiomCount f_triples f_tripleCount f_rules f_instances f_counts f_premises f_rows (u) f_marks f_broken f_text f_size f_sizes f_places))) (va_A (wX50 ci ad d f_phrases f_axioms f_axiomCount f_triples f_tripleCount f_rules f_instances f_counts f_premises f_rows f_stated f_marks f_broken f_text f_size f_sizes f_places) sz)) 0 0 (va_A (wX50 ci ad d f_phrases f_axioms f_axiomCount f_triples f_tripleCount f_rules f_instances f_counts f_premises f_rows f_stated f_marks f_broken f_text f_size f_sizes f_places) sz) := by
  refine k_enter (by decide) (Nat.le_of_ble_eq_true rfl) ?_
  intro p e s m below meth c ls X hsz hH hl
  subst hsz
  generalize va_A (wX50 ci ad d f_phrases f_axioms f_axiomCount f_triples f_tripleCount f_rules f_instances f_counts f_premises f_rows f_stated f_marks f_broken f_text f_size f_sizes f_places) s.heap.size = A at hH ⊢
  have hx := X.1.1
  have hb := X.1.2.1
  have hl : lv_has ls 4 [(0, .ref (ad 0)), (1, .ref (ad 2)), (2, .int x2), (3, .int x3)] := hl
  unfold wpX50_copy_axioms at hw
  refine lv_aload_n hx hb dX50_copy_0 rfl (lv_at hl 0 rfl) ?_
  refine lv_iload_n hx hb dX50_copy_1 rfl (lv_at hl 3 rfl) ?_
  refine lv_aload_n hx hb dX50_copy_2 rfl (lv_at hl 1 rfl) ?_
  refine lv_iconst (v := 4) hx hb dX50_copy_3 (by decide) ?_
  refine lv_iload_n hx hb dX50_copy_4 rfl (lv_at hl 2 rfl) ?_
  refine lv_imul hx hb dX50_copy_5 ?_
  have e_1 := z_mul (z_m (rfl : (4 : Int32).toInt = 4)) (z_m (rfl : x2.toInt = _))
  have hq_2 := hw.1
  have hw := hw.2
  have e_3 := z_xi e_1 hq_2 (by decide)
  refine k_iald X hH 2 1 rfl rfl (z_in e_3 hq_2) dX50_copy_6 ?_
  have e_4 := z_ld (f := f_axioms) e_3 hq_2.1
  refine lv_aload_n hx hb dX50_copy_7 rfl (lv_at hl 1 rfl) ?_
  refine lv_iconst (v := 4) hx hb dX50_copy_8 (by decide) ?_
  refine lv_iload_n hx hb dX50_copy_9 rfl (lv_at hl 2 rfl) ?_
  refine lv_imul hx hb dX50_copy_10 ?_
  have e_5 := z_mul (z_m (rfl : (4 : Int32).toInt = 4)) (z_m (rfl : x2.toInt = _))
  refine lv_iconst (v := 1) hx hb dX50_copy_11 (by decide) ?_
  refine lv_iadd hx hb dX50_copy_12 ?_
  have e_6 := z_add e_5 (z_m (rfl : (1 : Int32).toInt = 1))
  have hq_7 := hw.1
  have hw := hw.2
  have e_8 := z_xi e_6 hq_7 (by decide)
  refine k_iald X hH 2 1 rfl rfl (z_in e_8 hq_7) dX50_copy_13 ?_
  have e_9 := z_ld (f := f_axioms) e_8 hq_7.1
  refine lv_aload_n hx hb dX50_copy_14 rfl (lv_at hl 1 rfl) ?_
  refine lv_iconst (v := 4) hx hb dX50_copy_15 (by decide) ?_
  refine lv_iload_n hx hb dX50_copy_16 rfl (lv_at hl 2 rfl) ?_
  refine lv_imul hx hb dX50_copy_17 ?_
  have e_10 := z_mul (z_m (rfl : (4 : Int32).toInt = 4)) (z_m (rfl : x2.toInt = _))
  refine lv_iconst (v := 2) hx hb dX50_copy_18 (by decide) ?_
  refine lv_iadd hx hb dX50_copy_19 ?_
  have e_11 := z_add e_10 (z_m (rfl : (2 : Int32).toInt = 2))
  have hq_12 := hw.1
  have hw := hw.2
  have e_13 := z_xi e_11 hq_12 (by decide)
  refine k_iald X hH 2 1 rfl rfl (z_in e_13 hq_12) dX50_copy_20 ?_
  have e_14 := z_ld (f := f_axioms) e_13 hq_12.1
  refine lv_aload_n hx hb dX50_copy_21 rfl (lv_at hl 1 rfl) ?_
  refine lv_iconst (v := 4) hx hb dX50_copy_22 (by decide) ?_
  refine lv_iload_n hx hb dX50_copy_23 rfl (lv_at hl 2 rfl) ?_
  refine lv_imul hx hb dX50_copy_24 ?_
  have e_15 := z_mul (z_m (rfl : (4 : Int32).toInt = 4)) (z_m (rfl : x2.toInt = _))
  refine lv_iconst (v := 3) hx hb dX50_copy_25 (by decide) ?_
  refine lv_iadd hx hb dX50_copy_26 ?_
  have e_16 := z_add e_15 (z_m (rfl : (3 : Int32).toInt = 3))
  have hq_17 := hw.1
  have hw := hw.2
  have e_18 := z_xi e_16 hq_17 (by decide)
  refine k_iald X hH 2 1 rfl rfl (z_in e_18 hq_17) dX50_copy_27 ?_
  have e_19 := z_ld (f := f_axioms) e_18 hq_17.1
  refine k_v0 hH (k_runV (As := [.int x3, .int (f_axioms (4 * x2).toNatClampNeg), .int (f_axioms ((4 * x2) + 1).toNatClampNeg), .int (f_axioms ((4 * x2) + 2).toNatClampNeg), .int (f_axioms ((4 * x2) + 3).toNatClampNeg)]) (rest := []) X hH.1 hH.2.1 X.2.2.2 (walkX50_state hc (x1 := x3) (x2 := (f_axioms (4 * x2).toNatClampNeg)) (x3 := (f_axioms ((4 * x2) + 1).toNatClampNeg)) (x4 := (f_axioms ((4 * x2) + 2).toNatClampNeg)) (x5 := (f_axioms ((4 * x2) + 3).toNatClampNeg)) (f_phrases := f_phrases) (f_axioms := f_axioms) (f_axiomCount := f_axiomCount) (f_triples := f_triples) (f_tripleCount := f_tripleCount) (f_rules := f_rules) (f_instances := f_instances) (f_counts := f_counts) (f_premises := f_premises) (f_rows := f_rows) (f_stated := f_stated) (f_marks := f_marks) (f_broken := f_broken) (f_text := f_text) (f_size := f_size) (f_sizes := f_sizes) (f_places := f_places) (by rw [show (f_axioms (4 * x2).toNatClampNeg : Int32).toInt = _ from e_4, show (f_axioms ((4 * x2) + 1).toNatClampNeg : Int32).toInt = _ from e_9, show (f_axioms ((4 * x2) + 2).toNatClampNeg : Int32).toInt = _ from e_14, show (f_axioms ((4 * x2) + 3).toNatClampNeg : Int32).toInt = _ from e_19]; exact hw)) (cwV 5 X.1.2.2.2.2 gX50_189 rfl rfl rfl hX50_state ⟨Nat.le_of_ble_eq_true rfl, Nat.le_of_ble_eq_true rfl⟩) hc (q0 := 0) rfl rfl hl.1 rfl (Nat.le_of_ble_eq_true rfl) dX50_copy_28 ⟨Nat.le_refl 0, Nat.le_refl 0⟩) (fun u H locs hw hH => ?_)
  obtain ⟨f_stated_20, eu⟩ : ∃ z, z = u := ⟨_, rfl⟩
  subst eu
  have hH : kH (dC, dI) cl A s.heap H locs (wX50 ci ad d f_phrases f_axioms f_axiomCount f_triples f_tripleCount f_rules f_instances f_counts f_premises f_rows f_stated_20 f_marks f_broken f_text f_size f_sizes f_places) := hH
  exact k_vret X hH (f_stated_20) hw rfl dX50_copy_31
set_option maxHeartbeats 4000000 in
theorem walkX50_copy_triples {l : Launch} {dC : Nat → ClassId} {dI : Nat → Nat → Nat} {cl : List vw_C} {ci : Nat} (hc : cl[ci]? = some (RX50, TX50, 17)) {ad : Nat → Nat} {d : Nat → ClassId} {sz : Nat} {f_phrases : Nat → Int64} {f_axioms : Nat → Int32} {f_axiomCount : Int32} {f_triples : Nat → Int32} {f_tripleCount : Int32} {f_rules : Nat → Int32} {f_instances : Nat → Int32} {f_counts : Nat → Int32} {f_premises : Nat → Int32} {f_rows : Int32} {f_stated : Nat → Int32} {f_marks : Nat → Int32} {f_broken : Int32} {f_text : Nat → Int32} {f_size : Int32} {f_sizes : Nat → Int32} {f_places : Nat → Int32} {x2 : Int32} {x3 : Int32} {post : (Int → Int) → Prop} (hw : wpX50_copy_triples post (zF f_triples) (zF f_stated) x2.toInt x3.toInt) :
    Met l yX50_copy (ws_ yX50_copy cX50_copy 4 none) ({ frames := 1, cells := 0, slots := 0, locals := 25 } : Room) (kPc (dC, dI) cl (tX50 d) [.ref (ad 0), .ref (ad 3), .int x2, .int x3] sz (wX50 ci ad d f_phrases f_axioms f_axiomCount f_triples f_tripleCount f_rules f_instances f_counts f_premises f_rows f_stated f_marks f_broken f_text f_size f_sizes f_places)) (va_Qv (fun (u : (Nat → Int32)) => post (zF (u))) (kB (dC, dI) cl (tX50 d) (va_A (wX50 ci ad d f_phrases f_axioms f_axiomCount f_triples f_tripleCount f_rules f_instances f_counts f_premises f_rows f_stated f_marks f_broken f_text f_size f_sizes f_places) sz) (fun u : (Nat → Int32) => (wX50 ci ad d f_phrases f_axioms f_axiomCount f_triples f_tripleCount f_rules f_instances f_counts f_premises f_rows (u) f_marks f_broken f_text f_size f_sizes f_places))) (va_A (wX50 ci ad d f_phrases f_axioms f_axiomCount f_triples f_tripleCount f_rules f_instances f_counts f_premises f_rows f_stated f_marks f_broken f_text f_size f_sizes f_places) sz)) 0 0 (va_A (wX50 ci ad d f_phrases f_axioms f_axiomCount f_triples f_tripleCount f_rules f_instances f_counts f_premises f_rows f_stated f_marks f_broken f_text f_size f_sizes f_places) sz) := by
  refine k_enter (by decide) (Nat.le_of_ble_eq_true rfl) ?_
  intro p e s m below meth c ls X hsz hH hl
  subst hsz
  generalize va_A (wX50 ci ad d f_phrases f_axioms f_axiomCount f_triples f_tripleCount f_rules f_instances f_counts f_premises f_rows f_stated f_marks f_broken f_text f_size f_sizes f_places) s.heap.size = A at hH ⊢
  have hx := X.1.1
  have hb := X.1.2.1
  have hl : lv_has ls 4 [(0, .ref (ad 0)), (1, .ref (ad 3)), (2, .int x2), (3, .int x3)] := hl
  unfold wpX50_copy_triples at hw
  refine lv_aload_n hx hb dX50_copy_0 rfl (lv_at hl 0 rfl) ?_
  refine lv_iload_n hx hb dX50_copy_1 rfl (lv_at hl 3 rfl) ?_
  refine lv_aload_n hx hb dX50_copy_2 rfl (lv_at hl 1 rfl) ?_
  refine lv_iconst (v := 4) hx hb dX50_copy_3 (by decide) ?_
  refine lv_iload_n hx hb dX50_copy_4 rfl (lv_at hl 2 rfl) ?_
  refine lv_imul hx hb dX50_copy_5 ?_
  have e_1 := z_mul (z_m (rfl : (4 : Int32).toInt = 4)) (z_m (rfl : x2.toInt = _))
  have hq_2 := hw.1
  have hw := hw.2
  have e_3 := z_xi e_1 hq_2 (by decide)
  refine k_iald X hH 3 2 rfl rfl (z_in e_3 hq_2) dX50_copy_6 ?_
  have e_4 := z_ld (f := f_triples) e_3 hq_2.1
  refine lv_aload_n hx hb dX50_copy_7 rfl (lv_at hl 1 rfl) ?_
  refine lv_iconst (v := 4) hx hb dX50_copy_8 (by decide) ?_
  refine lv_iload_n hx hb dX50_copy_9 rfl (lv_at hl 2 rfl) ?_
  refine lv_imul hx hb dX50_copy_10 ?_
  have e_5 := z_mul (z_m (rfl : (4 : Int32).toInt = 4)) (z_m (rfl : x2.toInt = _))
  refine lv_iconst (v := 1) hx hb dX50_copy_11 (by decide) ?_
  refine lv_iadd hx hb dX50_copy_12 ?_
  have e_6 := z_add e_5 (z_m (rfl : (1 : Int32).toInt = 1))
  have hq_7 := hw.1
  have hw := hw.2
  have e_8 := z_xi e_6 hq_7 (by decide)
  refine k_iald X hH 3 2 rfl rfl (z_in e_8 hq_7) dX50_copy_13 ?_
  have e_9 := z_ld (f := f_triples) e_8 hq_7.1
  refine lv_aload_n hx hb dX50_copy_14 rfl (lv_at hl 1 rfl) ?_
  refine lv_iconst (v := 4) hx hb dX50_copy_15 (by decide) ?_
  refine lv_iload_n hx hb dX50_copy_16 rfl (lv_at hl 2 rfl) ?_
  refine lv_imul hx hb dX50_copy_17 ?_
  have e_10 := z_mul (z_m (rfl : (4 : Int32).toInt = 4)) (z_m (rfl : x2.toInt = _))
  refine lv_iconst (v := 2) hx hb dX50_copy_18 (by decide) ?_
  refine lv_iadd hx hb dX50_copy_19 ?_
  have e_11 := z_add e_10 (z_m (rfl : (2 : Int32).toInt = 2))
  have hq_12 := hw.1
  have hw := hw.2
  have e_13 := z_xi e_11 hq_12 (by decide)
  refine k_iald X hH 3 2 rfl rfl (z_in e_13 hq_12) dX50_copy_20 ?_
  have e_14 := z_ld (f := f_triples) e_13 hq_12.1
  refine lv_aload_n hx hb dX50_copy_21 rfl (lv_at hl 1 rfl) ?_
  refine lv_iconst (v := 4) hx hb dX50_copy_22 (by decide) ?_
  refine lv_iload_n hx hb dX50_copy_23 rfl (lv_at hl 2 rfl) ?_
  refine lv_imul hx hb dX50_copy_24 ?_
  have e_15 := z_mul (z_m (rfl : (4 : Int32).toInt = 4)) (z_m (rfl : x2.toInt = _))
  refine lv_iconst (v := 3) hx hb dX50_copy_25 (by decide) ?_
  refine lv_iadd hx hb dX50_copy_26 ?_
  have e_16 := z_add e_15 (z_m (rfl : (3 : Int32).toInt = 3))
  have hq_17 := hw.1
  have hw := hw.2
  have e_18 := z_xi e_16 hq_17 (by decide)
  refine k_iald X hH 3 2 rfl rfl (z_in e_18 hq_17) dX50_copy_27 ?_
  have e_19 := z_ld (f := f_triples) e_18 hq_17.1
  refine k_v0 hH (k_runV (As := [.int x3, .int (f_triples (4 * x2).toNatClampNeg), .int (f_triples ((4 * x2) + 1).toNatClampNeg), .int (f_triples ((4 * x2) + 2).toNatClampNeg), .int (f_triples ((4 * x2) + 3).toNatClampNeg)]) (rest := []) X hH.1 hH.2.1 X.2.2.2 (walkX50_state hc (x1 := x3) (x2 := (f_triples (4 * x2).toNatClampNeg)) (x3 := (f_triples ((4 * x2) + 1).toNatClampNeg)) (x4 := (f_triples ((4 * x2) + 2).toNatClampNeg)) (x5 := (f_triples ((4 * x2) + 3).toNatClampNeg)) (f_phrases := f_phrases) (f_axioms := f_axioms) (f_axiomCount := f_axiomCount) (f_triples := f_triples) (f_tripleCount := f_tripleCount) (f_rules := f_rules) (f_instances := f_instances) (f_counts := f_counts) (f_premises := f_premises) (f_rows := f_rows) (f_stated := f_stated) (f_marks := f_marks) (f_broken := f_broken) (f_text := f_text) (f_size := f_size) (f_sizes := f_sizes) (f_places := f_places) (by rw [show (f_triples (4 * x2).toNatClampNeg : Int32).toInt = _ from e_4, show (f_triples ((4 * x2) + 1).toNatClampNeg : Int32).toInt = _ from e_9, show (f_triples ((4 * x2) + 2).toNatClampNeg : Int32).toInt = _ from e_14, show (f_triples ((4 * x2) + 3).toNatClampNeg : Int32).toInt = _ from e_19]; exact hw)) (cwV 5 X.1.2.2.2.2 gX50_189 rfl rfl rfl hX50_state ⟨Nat.le_of_ble_eq_true rfl, Nat.le_of_ble_eq_true rfl⟩) hc (q0 := 0) rfl rfl hl.1 rfl (Nat.le_of_ble_eq_true rfl) dX50_copy_28 ⟨Nat.le_refl 0, Nat.le_refl 0⟩) (fun u H locs hw hH => ?_)
  obtain ⟨f_stated_20, eu⟩ : ∃ z, z = u := ⟨_, rfl⟩
  subst eu
  have hH : kH (dC, dI) cl A s.heap H locs (wX50 ci ad d f_phrases f_axioms f_axiomCount f_triples f_tripleCount f_rules f_instances f_counts f_premises f_rows f_stated_20 f_marks f_broken f_text f_size f_sizes f_places) := hH
  exact k_vret X hH (f_stated_20) hw rfl dX50_copy_31
set_option maxHeartbeats 4000000 in
theorem walkX50_is {l : Launch} {dC : Nat → ClassId} {dI : Nat → Nat → Nat} {cl : List vw_C} {ci : Nat} (hc : cl[ci]? = some (RX50, TX50, 17)) {ad : Nat → Nat} {d : Nat → ClassId} {sz : Nat} {f_phrases : Nat → Int64} {f_axioms : Nat → Int32} {f_axiomCount : Int32} {f_triples : Nat → Int32} {f_tripleCount : Int32} {f_rules : Nat → Int32} {f_instances : Nat → Int32} {f_counts : Nat → Int32} {f_premises : Nat → Int32} {f_rows : Int32} {f_stated : Nat → Int32} {f_marks : Nat → Int32} {f_broken : Int32} {f_text : Nat → Int32} {f_size : Int32} {f_sizes : Nat → Int32} {f_places : Nat → Int32} {x1 : Int32} {x2 : Int32} {x3 : Int32} {post : Int → Prop} (hw : wpX50_is post (zF f_premises) (zF f_stated) x1.toInt x2.toInt x3.toInt) :
    Met l yX50_is (ws_ yX50_is cX50_is 4 (some .boolean)) ({ frames := 1, cells := 0, slots := 0, locals := 23 } : Room) (kPc (dC, dI) cl (tX50 d) [.ref (ad 0), .int x1, .int x2, .int x3] sz (wX50 ci ad d f_phrases f_axioms f_axiomCount f_triples f_tripleCount f_rules f_instances f_counts f_premises f_rows f_stated f_marks f_broken f_text f_size f_sizes f_places)) (va_Qi (fun (r : Int32) (_ : Unit) => post r.toInt) (kB (dC, dI) cl (tX50 d) (va_A (wX50 ci ad d f_phrases f_axioms f_axiomCount f_triples f_tripleCount f_rules f_instances f_counts f_premises f_rows f_stated f_marks f_broken f_text f_size f_sizes f_places) sz) (fun _ : Unit => (wX50 ci ad d f_phrases f_axioms f_axiomCount f_triples f_tripleCount f_rules f_instances f_counts f_premises f_rows f_stated f_marks f_broken f_text f_size f_sizes f_places))) (va_A (wX50 ci ad d f_phrases f_axioms f_axiomCount f_triples f_tripleCount f_rules f_instances f_counts f_premises f_rows f_stated f_marks f_broken f_text f_size f_sizes f_places) sz)) 0 0 (va_A (wX50 ci ad d f_phrases f_axioms f_axiomCount f_triples f_tripleCount f_rules f_instances f_counts f_premises f_rows f_stated f_marks f_broken f_text f_size f_sizes f_places) sz) := by
  refine k_enter (by decide) (Nat.le_of_ble_eq_true rfl) ?_
  intro p e s m below meth c ls X hsz hH hl
  subst hsz
  generalize va_A (wX50 ci ad d f_phrases f_axioms f_axiomCount f_triples f_tripleCount f_rules f_instances f_counts f_premises f_rows f_stated f_marks f_broken f_text f_size f_sizes f_places) s.heap.size = A at hH ⊢
  have hx := X.1.1
  have hb := X.1.2.1
  have hl : lv_has ls 4 [(0, .ref (ad 0)), (1, .int x1), (2, .int x2), (3, .int x3)] := hl
  unfold wpX50_is at hw
  refine lv_aload_n hx hb dX50_is_0 rfl (lv_at hl 0 rfl) ?_
  refine lv_iload_n hx hb dX50_is_1 rfl (lv_at hl 1 rfl) ?_
  refine lv_iload_n hx hb dX50_is_2 rfl (lv_at hl 2 rfl) ?_
  refine lv_iconst (v := 0) hx hb dX50_is_3 (by decide) ?_
  refine k_i0 hH (k_runV (As := [.int x1, .int x2, .int 0]) (rest := []) X hH.1 hH.2.1 X.2.2.2 (walkX50_of hc (x1 := x1) (x2 := x2) (x3 := 0) (f_phrases := f_phrases) (f_axioms := f_axioms) (f_axiomCount := f_axiomCount) (f_triples := f_triples) (f_tripleCount := f_tripleCount) (f_rules := f_rules) (f_instances := f_instances) (f_counts := f_counts) (f_premises := f_premises) (f_rows := f_rows) (f_stated := f_stated) (f_marks := f_marks) (f_broken := f_broken) (f_text := f_text) (f_size := f_size) (f_sizes := f_sizes) (f_places := f_places) hw) (cwV 3 X.1.2.2.2.2 gX50_185 rfl rfl rfl hX50_of ⟨Nat.le_of_ble_eq_true rfl, Nat.le_of_ble_eq_true rfl⟩) hc (q0 := 0) rfl rfl hl.1 rfl (Nat.le_of_ble_eq_true rfl) dX50_is_4 ⟨Nat.le_refl 0, Nat.le_refl 0⟩) (fun r_1 _ H locs hw hH => ?_)
  have hH : kH (dC, dI) cl A s.heap H locs (wX50 ci ad d f_phrases f_axioms f_axiomCount f_triples f_tripleCount f_rules f_instances f_counts f_premises f_rows f_stated f_marks f_broken f_text f_size f_sizes f_places) := hH
  refine lv_iload_n hx hb dX50_is_7 rfl (lv_at hl 3 rfl) ?_
  refine lv_icmp_ne (tgt := 15) hx hb dX50_is_8 (by decide) (fun c_2 => ?_) (fun c_2 => ?_)
  · have hw := hw.2 (z_ne (rfl : r_1.toInt = _) (rfl : x3.toInt = _) c_2)
    refine lv_iconst (v := 0) hx hb dX50_is_15 (by decide) ?_
    exact k_iret (v := 0) X hH () hw rfl rfl dX50_is_16
  · have hw := hw.1 (z_eq (rfl : r_1.toInt = _) (rfl : x3.toInt = _) c_2)
    refine lv_iconst (v := 1) hx hb dX50_is_11 (by decide) ?_
    refine lv_goto (tgt := 16) hx hb dX50_is_12 (by decide) ?_
    exact k_iret (v := 1) X hH () hw rfl rfl dX50_is_16
set_option maxHeartbeats 4000000 in
theorem atX50_three_142 {p : Program} {l : Launch} {e : Env} {s : State} {m : MethodId} {args : Array Value} {below : List Frame} {meth : Method} {c : Code} {dC : Nat → ClassId} {dI : Nat → Nat → Nat} {cl : List vw_C} {ci : Nat} (hc : cl[ci]? = some (RX50, TX50, 17)) {ad : Nat → Nat} {d : Nat → ClassId} {A : Nat → Prop} {post : (Int → Int) → Prop} {f_phrases : Nat → Int64} {f_axioms : Nat → Int32} {f_axiomCount : Int32} {f_triples : Nat → Int32} {f_tripleCount : Int32} {f_rules : Nat → Int32} {f_instances : Nat → Int32} {f_counts : Nat → Int32} {f_premises : Nat → Int32} {f_rows : Int32} {f_marks : Nat → Int32} {f_broken : Int32} {f_text : Nat → Int32} {f_size : Int32} {f_sizes : Nat → Int32} {f_places : Nat → Int32} (X : kX p s m args meth c cX50_three 9 RX50 none (dC, dI) cl (tX50 d))     :
    ∀ (x1 : Int32) (x2 : Int32) (x3 : Int32) (x4 : Int32) (x5 : Int32) (x6 : Int32) (x7 : Int32) (x8 : Int32) (f_stated : Nat → Int32), wX50_three_142 post x1.toInt x2.toInt x3.toInt x4.toInt x5.toInt x6.toInt x7.toInt x8.toInt (zF f_rules) (zF f_premises) (zF f_stated) → ∀ (H : Heap) (locs : List Loc) (ls : Array Slot), kH (dC, dI) cl A s.heap H locs (wX50 ci ad d f_phrases f_axioms f_axiomCount f_triples f_tripleCount f_rules f_instances f_counts f_premises f_rows f_stated f_marks f_broken f_text f_size f_sizes f_places) → lv_has ls 9 [(0, .ref (ad 0)), (1, .int x1), (2, .int x2), (3, .int x3), (4, .int x4), (5, .int x5), (6, .int x6), (7, .int x7), (8, .int x8)] → W p l e ({ frames := 2, cells := 0, slots := 0, locals := 46 } : Room) s m args below meth c H locs 0 0 (MQ below (va_Qv (fun (u : (Nat → Int32)) => post (zF (u))) (kB (dC, dI) cl (tX50 d) A (fun u : (Nat → Int32) => (wX50 ci ad d f_phrases f_axioms f_axiomCount f_triples f_tripleCount f_rules f_instances f_counts f_premises f_rows (u) f_marks f_broken f_text f_size f_sizes f_places))) A) args s 0 0 A) (F0 m 142 ls []) := by
  have hx := X.1.1
  have hb := X.1.2.1
  intro x1 x2 x3 x4 x5 x6 x7 x8 f_stated hw H locs ls hH hl
  unfold wX50_three_142 at hw
  refine lv_aload_n hx hb dX50_three_142 rfl (lv_at hl 0 rfl) ?_
  refine k_get X hH in_X50 0 rfl hc 5 (by decide) q6289 rfl dX50_three_143 ?_
  refine lv_iload_n hx hb dX50_three_146 rfl (lv_at hl 1 rfl) ?_
  have hq_11 := hw.1
  have hw := hw.2
  refine k_iald X hH 4 3 rfl rfl (z_in (rfl : x1.toInt = _) hq_11) dX50_three_147 ?_
  have e_12 := z_ld (f := f_rules) (rfl : x1.toInt = _) hq_11.1
  refine lv_bipush (v := 15) hx hb dX50_three_148 (by decide) ?_
  refine lv_icmp_ne (tgt := 207) hx hb dX50_three_150 (by decide) (fun c_13 => ?_) (fun c_13 => ?_)
  · have hw := hw.2 (z_ne e_12 (rfl : (15 : Int32).toInt = 15) c_13)
    exact k_vret X hH (f_stated) hw rfl dX50_three_207
  · have hw := hw.1 (z_eq e_12 (rfl : (15 : Int32).toInt = 15) c_13)
    refine lv_aload_n hx hb dX50_three_153 rfl (lv_at hl 0 rfl) ?_
    refine lv_iload_n hx hb dX50_three_154 rfl (lv_at hl 1 rfl) ?_
    refine lv_iconst (v := 0) hx hb dX50_three_155 (by decide) ?_
    refine lv_iconst (v := 5) hx hb dX50_three_156 (by decide) ?_
    refine k_i0 hH (k_runV (As := [.int x1, .int 0, .int 5]) (rest := []) X hH.1 hH.2.1 X.2.2.2 (walkX50_is hc (x1 := x1) (x2 := 0) (x3 := 5) (f_phrases := f_phrases) (f_axioms := f_axioms) (f_axiomCount := f_axiomCount) (f_triples := f_triples) (f_tripleCount := f_tripleCount) (f_rules := f_rules) (f_instances := f_instances) (f_counts := f_counts) (f_premises := f_premises) (f_rows := f_rows) (f_stated := f_stated) (f_marks := f_marks) (f_broken := f_broken) (f_text := f_text) (f_size := f_size) (f_sizes := f_sizes) (f_places := f_places) hw) (cwV 3 X.1.2.2.2.2 gX50_204 rfl rfl rfl hX50_is ⟨Nat.le_of_ble_eq_true rfl, Nat.le_of_ble_eq_true rfl⟩) hc (q0 := 0) rfl rfl hl.1 rfl (Nat.le_of_ble_eq_true rfl) dX50_three_157 ⟨Nat.le_refl 0, Nat.le_refl 0⟩) (fun r_14 _ H locs hw hH => ?_)
    have hH : kH (dC, dI) cl A s.heap H locs (wX50 ci ad d f_phrases f_axioms f_axiomCount f_triples f_tripleCount f_rules f_instances f_counts f_premises f_rows f_stated f_marks f_broken f_text f_size f_sizes f_places) := hH
    refine lv_if_eq (tgt := 207) hx hb dX50_three_160 (by decide) (fun c_15 => ?_) (fun c_15 => ?_)
    · have hw := hw.1 (z_eq (rfl : r_14.toInt = _) (rfl : (0 : Int32).toInt = 0) c_15)
      exact k_vret X hH (f_stated) hw rfl dX50_three_207
    · have hw := hw.2 (z_neq (rfl : r_14.toInt = _) (rfl : (0 : Int32).toInt = 0) c_15)
      refine lv_iload_n hx hb dX50_three_163 rfl (lv_at hl 3 rfl) ?_
      refine lv_if_ne (tgt := 207) hx hb dX50_three_164 (by decide) (fun c_16 => ?_) (fun c_16 => ?_)
      · have hw := hw.2 (z_ne (rfl : x3.toInt = _) (rfl : (0 : Int32).toInt = 0) c_16)
        exact k_vret X hH (f_stated) hw rfl dX50_three_207
      · have hw := hw.1 (z_eq (rfl : x3.toInt = _) (rfl : (0 : Int32).toInt = 0) c_16)
        refine lv_iload hx hb dX50_three_167 (lv_at hl 7 rfl) ?_
        refine lv_if_ne (tgt := 207) hx hb dX50_three_169 (by decide) (fun c_17 => ?_) (fun c_17 => ?_)
        · have hw := hw.2 (z_ne (rfl : x7.toInt = _) (rfl : (0 : Int32).toInt = 0) c_17)
          exact k_vret X hH (f_stated) hw rfl dX50_three_207
        · have hw := hw.1 (z_eq (rfl : x7.toInt = _) (rfl : (0 : Int32).toInt = 0) c_17)
          refine lv_iload hx hb dX50_three_172 (lv_at hl 4 rfl) ?_
          refine lv_iload hx hb dX50_three_174 (lv_at hl 5 rfl) ?_
          refine lv_icmp_ne (tgt := 207) hx hb dX50_three_176 (by decide) (fun c_18 => ?_) (fun c_18 => ?_)
          · have hw := hw.2 (z_ne (rfl : x4.toInt = _) (rfl : x5.toInt = _) c_18)
            exact k_vret X hH (f_stated) hw rfl dX50_three_207
          · have hw := hw.1 (z_eq (rfl : x4.toInt = _) (rfl : x5.toInt = _) c_18)
            refine lv_iload hx hb dX50_three_179 (lv_at hl 8 rfl) ?_
            refine lv_aload_n hx hb dX50_three_181 rfl (lv_at hl 0 rfl) ?_
            refine lv_iload_n hx hb dX50_three_182 rfl (lv_at hl 1 rfl) ?_
            refine lv_iconst (v := 0) hx hb dX50_three_183 (by decide) ?_
            refine lv_iconst (v := 2) hx hb dX50_three_184 (by decide) ?_
            refine k_i0 hH (k_runV (As := [.int x1, .int 0, .int 2]) (rest := [.int x8]) X hH.1 hH.2.1 X.2.2.2 (walkX50_of hc (x1 := x1) (x2 := 0) (x3 := 2) (f_phrases := f_phrases) (f_axioms := f_axioms) (f_axiomCount := f_axiomCount) (f_triples := f_triples) (f_tripleCount := f_tripleCount) (f_rules := f_rules) (f_instances := f_instances) (f_counts := f_counts) (f_premises := f_premises) (f_rows := f_rows) (f_stated := f_stated) (f_marks := f_marks) (f_broken := f_broken) (f_text := f_text) (f_size := f_size) (f_sizes := f_sizes) (f_places := f_places) hw) (cwV 3 X.1.2.2.2.2 gX50_185 rfl rfl rfl hX50_of ⟨Nat.le_of_ble_eq_true rfl, Nat.le_of_ble_eq_true rfl⟩) hc (q0 := 0) rfl rfl hl.1 rfl (Nat.le_of_ble_eq_true rfl) dX50_three_185 ⟨Nat.le_refl 0, Nat.le_refl 0⟩) (fun r_19 _ H locs hw hH => ?_)
            have hH : kH (dC, dI) cl A s.heap H locs (wX50 ci ad d f_phrases f_axioms f_axiomCount f_triples f_tripleCount f_rules f_instances f_counts f_premises f_rows f_stated f_marks f_broken f_text f_size f_sizes f_places) := hH
            refine lv_icmp_ne (tgt := 207) hx hb dX50_three_188 (by decide) (fun c_20 => ?_) (fun c_20 => ?_)
            · have hw := hw.2 (z_ne (rfl : x8.toInt = _) (rfl : r_19.toInt = _) c_20)
              exact k_vret X hH (f_stated) hw rfl dX50_three_207
            · have hw := hw.1 (z_eq (rfl : x8.toInt = _) (rfl : r_19.toInt = _) c_20)
              refine lv_iload_n hx hb dX50_three_191 rfl (lv_at hl 2 rfl) ?_
              refine lv_iload hx hb dX50_three_192 (lv_at hl 6 rfl) ?_
              refine lv_icmp_ne (tgt := 207) hx hb dX50_three_194 (by decide) (fun c_21 => ?_) (fun c_21 => ?_)
              · have hw := hw.2 (z_ne (rfl : x2.toInt = _) (rfl : x6.toInt = _) c_21)
                exact k_vret X hH (f_stated) hw rfl dX50_three_207
              · have hw := hw.1 (z_eq (rfl : x2.toInt = _) (rfl : x6.toInt = _) c_21)
                refine lv_aload_n hx hb dX50_three_197 rfl (lv_at hl 0 rfl) ?_
                refine lv_iload_n hx hb dX50_three_198 rfl (lv_at hl 1 rfl) ?_
                refine lv_bipush (v := 12) hx hb dX50_three_199 (by decide) ?_
                refine lv_iconst (v := 0) hx hb dX50_three_201 (by decide) ?_
                refine lv_iconst (v := 0) hx hb dX50_three_202 (by decide) ?_
                refine lv_iconst (v := 0) hx hb dX50_three_203 (by decide) ?_
                refine k_v0 hH (k_runV (As := [.int x1, .int 12, .int 0, .int 0, .int 0]) (rest := []) X hH.1 hH.2.1 X.2.2.2 (walkX50_state hc (x1 := x1) (x2 := 12) (x3 := 0) (x4 := 0) (x5 := 0) (f_phrases := f_phrases) (f_axioms := f_axioms) (f_axiomCount := f_axiomCount) (f_triples := f_triples) (f_tripleCount := f_tripleCount) (f_rules := f_rules) (f_instances := f_instances) (f_counts := f_counts) (f_premises := f_premises) (f_rows := f_rows) (f_stated := f_stated) (f_marks := f_marks) (f_broken := f_broken) (f_text := f_text) (f_size := f_size) (f_sizes := f_sizes) (f_places := f_places) hw) (cwV 5 X.1.2.2.2.2 gX50_189 rfl rfl rfl hX50_state ⟨Nat.le_of_ble_eq_true rfl, Nat.le_of_ble_eq_true rfl⟩) hc (q0 := 0) rfl rfl hl.1 rfl (Nat.le_of_ble_eq_true rfl) dX50_three_204 ⟨Nat.le_refl 0, Nat.le_refl 0⟩) (fun u H locs hw hH => ?_)
                obtain ⟨f_stated_22, eu⟩ : ∃ z, z = u := ⟨_, rfl⟩
                subst eu
                have hH : kH (dC, dI) cl A s.heap H locs (wX50 ci ad d f_phrases f_axioms f_axiomCount f_triples f_tripleCount f_rules f_instances f_counts f_premises f_rows f_stated_22 f_marks f_broken f_text f_size f_sizes f_places) := hH
                exact k_vret X hH (f_stated_22) hw rfl dX50_three_207
set_option maxHeartbeats 4000000 in
theorem atX50_three_89 {p : Program} {l : Launch} {e : Env} {s : State} {m : MethodId} {args : Array Value} {below : List Frame} {meth : Method} {c : Code} {dC : Nat → ClassId} {dI : Nat → Nat → Nat} {cl : List vw_C} {ci : Nat} (hc : cl[ci]? = some (RX50, TX50, 17)) {ad : Nat → Nat} {d : Nat → ClassId} {A : Nat → Prop} {post : (Int → Int) → Prop} {f_phrases : Nat → Int64} {f_axioms : Nat → Int32} {f_axiomCount : Int32} {f_triples : Nat → Int32} {f_tripleCount : Int32} {f_rules : Nat → Int32} {f_instances : Nat → Int32} {f_counts : Nat → Int32} {f_premises : Nat → Int32} {f_rows : Int32} {f_marks : Nat → Int32} {f_broken : Int32} {f_text : Nat → Int32} {f_size : Int32} {f_sizes : Nat → Int32} {f_places : Nat → Int32} (X : kX p s m args meth c cX50_three 9 RX50 none (dC, dI) cl (tX50 d))     :
    ∀ (x1 : Int32) (x2 : Int32) (x3 : Int32) (x4 : Int32) (x5 : Int32) (x6 : Int32) (x7 : Int32) (x8 : Int32) (f_stated : Nat → Int32), wX50_three_89 post x1.toInt x2.toInt x3.toInt x4.toInt x5.toInt x6.toInt x7.toInt x8.toInt (zF f_rules) (zF f_premises) (zF f_stated) → ∀ (H : Heap) (locs : List Loc) (ls : Array Slot), kH (dC, dI) cl A s.heap H locs (wX50 ci ad d f_phrases f_axioms f_axiomCount f_triples f_tripleCount f_rules f_instances f_counts f_premises f_rows f_stated f_marks f_broken f_text f_size f_sizes f_places) → lv_has ls 9 [(0, .ref (ad 0)), (1, .int x1), (2, .int x2), (3, .int x3), (4, .int x4), (5, .int x5), (6, .int x6), (7, .int x7), (8, .int x8)] → W p l e ({ frames := 2, cells := 0, slots := 0, locals := 46 } : Room) s m args below meth c H locs 0 0 (MQ below (va_Qv (fun (u : (Nat → Int32)) => post (zF (u))) (kB (dC, dI) cl (tX50 d) A (fun u : (Nat → Int32) => (wX50 ci ad d f_phrases f_axioms f_axiomCount f_triples f_tripleCount f_rules f_instances f_counts f_premises f_rows (u) f_marks f_broken f_text f_size f_sizes f_places))) A) args s 0 0 A) (F0 m 89 ls []) := by
  have hx := X.1.1
  have hb := X.1.2.1
  intro x1 x2 x3 x4 x5 x6 x7 x8 f_stated hw H locs ls hH hl
  unfold wX50_three_89 at hw
  refine lv_aload_n hx hb dX50_three_89 rfl (lv_at hl 0 rfl) ?_
  refine k_get X hH in_X50 0 rfl hc 5 (by decide) q6289 rfl dX50_three_90 ?_
  refine lv_iload_n hx hb dX50_three_93 rfl (lv_at hl 1 rfl) ?_
  have hq_8 := hw.1
  have hw := hw.2
  refine k_iald X hH 4 3 rfl rfl (z_in (rfl : x1.toInt = _) hq_8) dX50_three_94 ?_
  have e_9 := z_ld (f := f_rules) (rfl : x1.toInt = _) hq_8.1
  refine lv_bipush (v := 14) hx hb dX50_three_95 (by decide) ?_
  refine lv_icmp_ne (tgt := 142) hx hb dX50_three_97 (by decide) (fun c_10 => ?_) (fun c_10 => ?_)
  · have hw := hw.2 (z_ne e_9 (rfl : (14 : Int32).toInt = 14) c_10)
    exact atX50_three_142 hc X x1 x2 x3 x4 x5 x6 x7 x8 f_stated hw _ _ ls hH (lv_sub hl [0, 1, 2, 3, 4, 5, 6, 7, 8] rfl)
  · have hw := hw.1 (z_eq e_9 (rfl : (14 : Int32).toInt = 14) c_10)
    refine lv_aload_n hx hb dX50_three_100 rfl (lv_at hl 0 rfl) ?_
    refine lv_iload_n hx hb dX50_three_101 rfl (lv_at hl 1 rfl) ?_
    refine lv_iconst (v := 0) hx hb dX50_three_102 (by decide) ?_
    refine lv_bipush (v := 9) hx hb dX50_three_103 (by decide) ?_
    refine k_i0 hH (k_runV (As := [.int x1, .int 0, .int 9]) (rest := []) X hH.1 hH.2.1 X.2.2.2 (walkX50_is hc (x1 := x1) (x2 := 0) (x3 := 9) (f_phrases := f_phrases) (f_axioms := f_axioms) (f_axiomCount := f_axiomCount) (f_triples := f_triples) (f_tripleCount := f_tripleCount) (f_rules := f_rules) (f_instances := f_instances) (f_counts := f_counts) (f_premises := f_premises) (f_rows := f_rows) (f_stated := f_stated) (f_marks := f_marks) (f_broken := f_broken) (f_text := f_text) (f_size := f_size) (f_sizes := f_sizes) (f_places := f_places) hw) (cwV 3 X.1.2.2.2.2 gX50_204 rfl rfl rfl hX50_is ⟨Nat.le_of_ble_eq_true rfl, Nat.le_of_ble_eq_true rfl⟩) hc (q0 := 0) rfl rfl hl.1 rfl (Nat.le_of_ble_eq_true rfl) dX50_three_105 ⟨Nat.le_refl 0, Nat.le_refl 0⟩) (fun r_23 _ H locs hw hH => ?_)
    have hH : kH (dC, dI) cl A s.heap H locs (wX50 ci ad d f_phrases f_axioms f_axiomCount f_triples f_tripleCount f_rules f_instances f_counts f_premises f_rows f_stated f_marks f_broken f_text f_size f_sizes f_places) := hH
    refine lv_if_eq (tgt := 142) hx hb dX50_three_108 (by decide) (fun c_24 => ?_) (fun c_24 => ?_)
    · have hw := hw.1 (z_eq (rfl : r_23.toInt = _) (rfl : (0 : Int32).toInt = 0) c_24)
      exact atX50_three_142 hc X x1 x2 x3 x4 x5 x6 x7 x8 f_stated hw _ _ ls hH (lv_sub hl [0, 1, 2, 3, 4, 5, 6, 7, 8] rfl)
    · have hw := hw.2 (z_neq (rfl : r_23.toInt = _) (rfl : (0 : Int32).toInt = 0) c_24)
      refine lv_iload_n hx hb dX50_three_111 rfl (lv_at hl 3 rfl) ?_
      refine lv_iload hx hb dX50_three_112 (lv_at hl 5 rfl) ?_
      refine lv_icmp_ne (tgt := 142) hx hb dX50_three_114 (by decide) (fun c_25 => ?_) (fun c_25 => ?_)
      · have hw := hw.2 (z_ne (rfl : x3.toInt = _) (rfl : x5.toInt = _) c_25)
        exact atX50_three_142 hc X x1 x2 x3 x4 x5 x6 x7 x8 f_stated hw _ _ ls hH (lv_sub hl [0, 1, 2, 3, 4, 5, 6, 7, 8] rfl)
      · have hw := hw.1 (z_eq (rfl : x3.toInt = _) (rfl : x5.toInt = _) c_25)
        refine lv_iload hx hb dX50_three_117 (lv_at hl 7 rfl) ?_
        refine lv_iload hx hb dX50_three_119 (lv_at hl 5 rfl) ?_
        refine lv_icmp_ne (tgt := 142) hx hb dX50_three_121 (by decide) (fun c_26 => ?_) (fun c_26 => ?_)
        · have hw := hw.2 (z_ne (rfl : x7.toInt = _) (rfl : x5.toInt = _) c_26)
          exact atX50_three_142 hc X x1 x2 x3 x4 x5 x6 x7 x8 f_stated hw _ _ ls hH (lv_sub hl [0, 1, 2, 3, 4, 5, 6, 7, 8] rfl)
        · have hw := hw.1 (z_eq (rfl : x7.toInt = _) (rfl : x5.toInt = _) c_26)
          refine lv_iload_n hx hb dX50_three_124 rfl (lv_at hl 2 rfl) ?_
          refine lv_iload hx hb dX50_three_125 (lv_at hl 6 rfl) ?_
          refine lv_icmp_ne (tgt := 142) hx hb dX50_three_127 (by decide) (fun c_27 => ?_) (fun c_27 => ?_)
          · have hw := hw.2 (z_ne (rfl : x2.toInt = _) (rfl : x6.toInt = _) c_27)
            exact atX50_three_142 hc X x1 x2 x3 x4 x5 x6 x7 x8 f_stated hw _ _ ls hH (lv_sub hl [0, 1, 2, 3, 4, 5, 6, 7, 8] rfl)
          · have hw := hw.1 (z_eq (rfl : x2.toInt = _) (rfl : x6.toInt = _) c_27)
            refine lv_aload_n hx hb dX50_three_130 rfl (lv_at hl 0 rfl) ?_
            refine lv_iload_n hx hb dX50_three_131 rfl (lv_at hl 1 rfl) ?_
            refine lv_bipush (v := 11) hx hb dX50_three_132 (by decide) ?_
            refine lv_iload hx hb dX50_three_134 (lv_at hl 4 rfl) ?_
            refine lv_iconst (v := 1) hx hb dX50_three_136 (by decide) ?_
            refine lv_iload hx hb dX50_three_137 (lv_at hl 8 rfl) ?_
            refine k_v0 hH (k_runV (As := [.int x1, .int 11, .int x4, .int 1, .int x8]) (rest := []) X hH.1 hH.2.1 X.2.2.2 (walkX50_state hc (x1 := x1) (x2 := 11) (x3 := x4) (x4 := 1) (x5 := x8) (f_phrases := f_phrases) (f_axioms := f_axioms) (f_axiomCount := f_axiomCount) (f_triples := f_triples) (f_tripleCount := f_tripleCount) (f_rules := f_rules) (f_instances := f_instances) (f_counts := f_counts) (f_premises := f_premises) (f_rows := f_rows) (f_stated := f_stated) (f_marks := f_marks) (f_broken := f_broken) (f_text := f_text) (f_size := f_size) (f_sizes := f_sizes) (f_places := f_places) hw) (cwV 5 X.1.2.2.2.2 gX50_189 rfl rfl rfl hX50_state ⟨Nat.le_of_ble_eq_true rfl, Nat.le_of_ble_eq_true rfl⟩) hc (q0 := 0) rfl rfl hl.1 rfl (Nat.le_of_ble_eq_true rfl) dX50_three_139 ⟨Nat.le_refl 0, Nat.le_refl 0⟩) (fun u H locs hw hH => ?_)
            obtain ⟨f_stated_28, eu⟩ : ∃ z, z = u := ⟨_, rfl⟩
            subst eu
            have hH : kH (dC, dI) cl A s.heap H locs (wX50 ci ad d f_phrases f_axioms f_axiomCount f_triples f_tripleCount f_rules f_instances f_counts f_premises f_rows f_stated_28 f_marks f_broken f_text f_size f_sizes f_places) := hH
            exact atX50_three_142 hc X x1 x2 x3 x4 x5 x6 x7 x8 f_stated_28 hw _ _ ls hH (lv_sub hl [0, 1, 2, 3, 4, 5, 6, 7, 8] rfl)
set_option maxHeartbeats 4000000 in
theorem walkX50_three {l : Launch} {dC : Nat → ClassId} {dI : Nat → Nat → Nat} {cl : List vw_C} {ci : Nat} (hc : cl[ci]? = some (RX50, TX50, 17)) {ad : Nat → Nat} {d : Nat → ClassId} {sz : Nat} {f_phrases : Nat → Int64} {f_axioms : Nat → Int32} {f_axiomCount : Int32} {f_triples : Nat → Int32} {f_tripleCount : Int32} {f_rules : Nat → Int32} {f_instances : Nat → Int32} {f_counts : Nat → Int32} {f_premises : Nat → Int32} {f_rows : Int32} {f_stated : Nat → Int32} {f_marks : Nat → Int32} {f_broken : Int32} {f_text : Nat → Int32} {f_size : Int32} {f_sizes : Nat → Int32} {f_places : Nat → Int32} {x1 : Int32} {x2 : Int32} {x3 : Int32} {x4 : Int32} {post : (Int → Int) → Prop} (hw : wpX50_three post (zF f_rules) (zF f_premises) (zF f_stated) x1.toInt x2.toInt x3.toInt x4.toInt) :
    Met l yX50_three (ws_ yX50_three cX50_three 9 none) ({ frames := 2, cells := 0, slots := 0, locals := 46 } : Room) (kPc (dC, dI) cl (tX50 d) [.ref (ad 0), .int x1, .int x2, .int x3, .int x4] sz (wX50 ci ad d f_phrases f_axioms f_axiomCount f_triples f_tripleCount f_rules f_instances f_counts f_premises f_rows f_stated f_marks f_broken f_text f_size f_sizes f_places)) (va_Qv (fun (u : (Nat → Int32)) => post (zF (u))) (kB (dC, dI) cl (tX50 d) (va_A (wX50 ci ad d f_phrases f_axioms f_axiomCount f_triples f_tripleCount f_rules f_instances f_counts f_premises f_rows f_stated f_marks f_broken f_text f_size f_sizes f_places) sz) (fun u : (Nat → Int32) => (wX50 ci ad d f_phrases f_axioms f_axiomCount f_triples f_tripleCount f_rules f_instances f_counts f_premises f_rows (u) f_marks f_broken f_text f_size f_sizes f_places))) (va_A (wX50 ci ad d f_phrases f_axioms f_axiomCount f_triples f_tripleCount f_rules f_instances f_counts f_premises f_rows f_stated f_marks f_broken f_text f_size f_sizes f_places) sz)) 0 0 (va_A (wX50 ci ad d f_phrases f_axioms f_axiomCount f_triples f_tripleCount f_rules f_instances f_counts f_premises f_rows f_stated f_marks f_broken f_text f_size f_sizes f_places) sz) := by
  refine k_enter (by decide) (Nat.le_of_ble_eq_true rfl) ?_
  intro p e s m below meth c ls X hsz hH hl
  subst hsz
  generalize va_A (wX50 ci ad d f_phrases f_axioms f_axiomCount f_triples f_tripleCount f_rules f_instances f_counts f_premises f_rows f_stated f_marks f_broken f_text f_size f_sizes f_places) s.heap.size = A at hH ⊢
  have hx := X.1.1
  have hb := X.1.2.1
  have hl : lv_has ls 9 [(0, .ref (ad 0)), (1, .int x1), (2, .int x2), (3, .int x3), (4, .int x4)] := hl
  unfold wpX50_three at hw
  refine lv_aload_n hx hb dX50_three_0 rfl (lv_at hl 0 rfl) ?_
  refine lv_iload_n hx hb dX50_three_1 rfl (lv_at hl 1 rfl) ?_
  refine lv_iconst (v := 0) hx hb dX50_three_2 (by decide) ?_
  refine lv_iconst (v := 1) hx hb dX50_three_3 (by decide) ?_
  refine k_i0 hH (k_runV (As := [.int x1, .int 0, .int 1]) (rest := []) X hH.1 hH.2.1 X.2.2.2 (walkX50_of hc (x1 := x1) (x2 := 0) (x3 := 1) (f_phrases := f_phrases) (f_axioms := f_axioms) (f_axiomCount := f_axiomCount) (f_triples := f_triples) (f_tripleCount := f_tripleCount) (f_rules := f_rules) (f_instances := f_instances) (f_counts := f_counts) (f_premises := f_premises) (f_rows := f_rows) (f_stated := f_stated) (f_marks := f_marks) (f_broken := f_broken) (f_text := f_text) (f_size := f_size) (f_sizes := f_sizes) (f_places := f_places) hw) (cwV 3 X.1.2.2.2.2 gX50_185 rfl rfl rfl hX50_of ⟨Nat.le_of_ble_eq_true rfl, Nat.le_of_ble_eq_true rfl⟩) hc (q0 := 0) rfl rfl hl.1 rfl (Nat.le_of_ble_eq_true rfl) dX50_three_4 ⟨Nat.le_refl 0, Nat.le_refl 0⟩) (fun r_1 _ H locs hw hH => ?_)
  have hH : kH (dC, dI) cl A s.heap H locs (wX50 ci ad d f_phrases f_axioms f_axiomCount f_triples f_tripleCount f_rules f_instances f_counts f_premises f_rows f_stated f_marks f_broken f_text f_size f_sizes f_places) := hH
  refine lv_istore (lv' := [(5, .int r_1), (0, .ref (ad 0)), (1, .int x1), (2, .int x2), (3, .int x3), (4, .int x4)]) hx hb dX50_three_7 hl (by decide) rfl (fun ls hl => ?_)
  refine lv_aload_n hx hb dX50_three_9 rfl (lv_at hl 1 rfl) ?_
  refine lv_iload_n hx hb dX50_three_10 rfl (lv_at hl 2 rfl) ?_
  refine lv_iconst (v := 2) hx hb dX50_three_11 (by decide) ?_
  refine lv_iconst (v := 1) hx hb dX50_three_12 (by decide) ?_
  refine k_i0 hH (k_runV (As := [.int x1, .int 2, .int 1]) (rest := []) X hH.1 hH.2.1 X.2.2.2 (walkX50_of hc (x1 := x1) (x2 := 2) (x3 := 1) (f_phrases := f_phrases) (f_axioms := f_axioms) (f_axiomCount := f_axiomCount) (f_triples := f_triples) (f_tripleCount := f_tripleCount) (f_rules := f_rules) (f_instances := f_instances) (f_counts := f_counts) (f_premises := f_premises) (f_rows := f_rows) (f_stated := f_stated) (f_marks := f_marks) (f_broken := f_broken) (f_text := f_text) (f_size := f_size) (f_sizes := f_sizes) (f_places := f_places) hw) (cwV 3 X.1.2.2.2.2 gX50_185 rfl rfl rfl hX50_of ⟨Nat.le_of_ble_eq_true rfl, Nat.le_of_ble_eq_true rfl⟩) hc (q0 := 0) rfl rfl hl.1 rfl (Nat.le_of_ble_eq_true rfl) dX50_three_13 ⟨Nat.le_refl 0, Nat.le_refl 0⟩) (fun r_2 _ H locs hw hH => ?_)
  have hH : kH (dC, dI) cl A s.heap H locs (wX50 ci ad d f_phrases f_axioms f_axiomCount f_triples f_tripleCount f_rules f_instances f_counts f_premises f_rows f_stated f_marks f_broken f_text f_size f_sizes f_places) := hH
  refine lv_istore (lv' := [(6, .int r_2), (5, .int r_1), (0, .ref (ad 0)), (1, .int x1), (2, .int x2), (3, .int x3), (4, .int x4)]) hx hb dX50_three_16 hl (by decide) rfl (fun ls hl => ?_)
  refine lv_aload_n hx hb dX50_three_18 rfl (lv_at hl 2 rfl) ?_
  refine lv_iload_n hx hb dX50_three_19 rfl (lv_at hl 3 rfl) ?_
  refine lv_iconst (v := 2) hx hb dX50_three_20 (by decide) ?_
  refine lv_iconst (v := 2) hx hb dX50_three_21 (by decide) ?_
  refine k_i0 hH (k_runV (As := [.int x1, .int 2, .int 2]) (rest := []) X hH.1 hH.2.1 X.2.2.2 (walkX50_of hc (x1 := x1) (x2 := 2) (x3 := 2) (f_phrases := f_phrases) (f_axioms := f_axioms) (f_axiomCount := f_axiomCount) (f_triples := f_triples) (f_tripleCount := f_tripleCount) (f_rules := f_rules) (f_instances := f_instances) (f_counts := f_counts) (f_premises := f_premises) (f_rows := f_rows) (f_stated := f_stated) (f_marks := f_marks) (f_broken := f_broken) (f_text := f_text) (f_size := f_size) (f_sizes := f_sizes) (f_places := f_places) hw) (cwV 3 X.1.2.2.2.2 gX50_185 rfl rfl rfl hX50_of ⟨Nat.le_of_ble_eq_true rfl, Nat.le_of_ble_eq_true rfl⟩) hc (q0 := 0) rfl rfl hl.1 rfl (Nat.le_of_ble_eq_true rfl) dX50_three_22 ⟨Nat.le_refl 0, Nat.le_refl 0⟩) (fun r_3 _ H locs hw hH => ?_)
  have hH : kH (dC, dI) cl A s.heap H locs (wX50 ci ad d f_phrases f_axioms f_axiomCount f_triples f_tripleCount f_rules f_instances f_counts f_premises f_rows f_stated f_marks f_broken f_text f_size f_sizes f_places) := hH
  refine lv_istore (lv' := [(7, .int r_3), (6, .int r_2), (5, .int r_1), (0, .ref (ad 0)), (1, .int x1), (2, .int x2), (3, .int x3), (4, .int x4)]) hx hb dX50_three_25 hl (by decide) rfl (fun ls hl => ?_)
  refine lv_aload_n hx hb dX50_three_27 rfl (lv_at hl 3 rfl) ?_
  refine lv_iload_n hx hb dX50_three_28 rfl (lv_at hl 4 rfl) ?_
  refine lv_iconst (v := 2) hx hb dX50_three_29 (by decide) ?_
  refine lv_iconst (v := 3) hx hb dX50_three_30 (by decide) ?_
  refine k_i0 hH (k_runV (As := [.int x1, .int 2, .int 3]) (rest := []) X hH.1 hH.2.1 X.2.2.2 (walkX50_of hc (x1 := x1) (x2 := 2) (x3 := 3) (f_phrases := f_phrases) (f_axioms := f_axioms) (f_axiomCount := f_axiomCount) (f_triples := f_triples) (f_tripleCount := f_tripleCount) (f_rules := f_rules) (f_instances := f_instances) (f_counts := f_counts) (f_premises := f_premises) (f_rows := f_rows) (f_stated := f_stated) (f_marks := f_marks) (f_broken := f_broken) (f_text := f_text) (f_size := f_size) (f_sizes := f_sizes) (f_places := f_places) hw) (cwV 3 X.1.2.2.2.2 gX50_185 rfl rfl rfl hX50_of ⟨Nat.le_of_ble_eq_true rfl, Nat.le_of_ble_eq_true rfl⟩) hc (q0 := 0) rfl rfl hl.1 rfl (Nat.le_of_ble_eq_true rfl) dX50_three_31 ⟨Nat.le_refl 0, Nat.le_refl 0⟩) (fun r_4 _ H locs hw hH => ?_)
  have hH : kH (dC, dI) cl A s.heap H locs (wX50 ci ad d f_phrases f_axioms f_axiomCount f_triples f_tripleCount f_rules f_instances f_counts f_premises f_rows f_stated f_marks f_broken f_text f_size f_sizes f_places) := hH
  refine lv_istore (lv' := [(8, .int r_4), (7, .int r_3), (6, .int r_2), (5, .int r_1), (0, .ref (ad 0)), (1, .int x1), (2, .int x2), (3, .int x3), (4, .int x4)]) hx hb dX50_three_34 hl (by decide) rfl (fun ls hl => ?_)
  refine lv_aload_n hx hb dX50_three_36 rfl (lv_at hl 4 rfl) ?_
  refine k_get X hH in_X50 0 rfl hc 5 (by decide) q6289 rfl dX50_three_37 ?_
  refine lv_iload_n hx hb dX50_three_40 rfl (lv_at hl 5 rfl) ?_
  have hq_5 := hw.1
  have hw := hw.2
  refine k_iald X hH 4 3 rfl rfl (z_in (rfl : x1.toInt = _) hq_5) dX50_three_41 ?_
  have e_6 := z_ld (f := f_rules) (rfl : x1.toInt = _) hq_5.1
  refine lv_bipush (v := 10) hx hb dX50_three_42 (by decide) ?_
  refine lv_icmp_ne (tgt := 89) hx hb dX50_three_44 (by decide) (fun c_7 => ?_) (fun c_7 => ?_)
  · have hw := hw.2 (z_ne e_6 (rfl : (10 : Int32).toInt = 10) c_7)
    exact atX50_three_89 hc X x1 x2 x3 x4 r_1 r_2 r_3 r_4 f_stated hw _ _ ls hH (lv_sub hl [4, 5, 6, 7, 8, 3, 2, 1, 0] rfl)
  · have hw := hw.1 (z_eq e_6 (rfl : (10 : Int32).toInt = 10) c_7)
    refine lv_aload_n hx hb dX50_three_47 rfl (lv_at hl 4 rfl) ?_
    refine lv_iload_n hx hb dX50_three_48 rfl (lv_at hl 5 rfl) ?_
    refine lv_iconst (v := 0) hx hb dX50_three_49 (by decide) ?_
    refine lv_bipush (v := 6) hx hb dX50_three_50 (by decide) ?_
    refine k_i0 hH (k_runV (As := [.int x1, .int 0, .int 6]) (rest := []) X hH.1 hH.2.1 X.2.2.2 (walkX50_is hc (x1 := x1) (x2 := 0) (x3 := 6) (f_phrases := f_phrases) (f_axioms := f_axioms) (f_axiomCount := f_axiomCount) (f_triples := f_triples) (f_tripleCount := f_tripleCount) (f_rules := f_rules) (f_instances := f_instances) (f_counts := f_counts) (f_premises := f_premises) (f_rows := f_rows) (f_stated := f_stated) (f_marks := f_marks) (f_broken := f_broken) (f_text := f_text) (f_size := f_size) (f_sizes := f_sizes) (f_places := f_places) hw) (cwV 3 X.1.2.2.2.2 gX50_204 rfl rfl rfl hX50_is ⟨Nat.le_of_ble_eq_true rfl, Nat.le_of_ble_eq_true rfl⟩) hc (q0 := 0) rfl rfl hl.1 rfl (Nat.le_of_ble_eq_true rfl) dX50_three_52 ⟨Nat.le_refl 0, Nat.le_refl 0⟩) (fun r_29 _ H locs hw hH => ?_)
    have hH : kH (dC, dI) cl A s.heap H locs (wX50 ci ad d f_phrases f_axioms f_axiomCount f_triples f_tripleCount f_rules f_instances f_counts f_premises f_rows f_stated f_marks f_broken f_text f_size f_sizes f_places) := hH
    refine lv_if_eq (tgt := 89) hx hb dX50_three_55 (by decide) (fun c_30 => ?_) (fun c_30 => ?_)
    · have hw := hw.1 (z_eq (rfl : r_29.toInt = _) (rfl : (0 : Int32).toInt = 0) c_30)
      exact atX50_three_89 hc X x1 x2 x3 x4 r_1 r_2 r_3 r_4 f_stated hw _ _ ls hH (lv_sub hl [4, 5, 6, 7, 8, 3, 2, 1, 0] rfl)
    · have hw := hw.2 (z_neq (rfl : r_29.toInt = _) (rfl : (0 : Int32).toInt = 0) c_30)
      refine lv_iload_n hx hb dX50_three_58 rfl (lv_at hl 7 rfl) ?_
      refine lv_iload hx hb dX50_three_59 (lv_at hl 3 rfl) ?_
      refine lv_icmp_ne (tgt := 89) hx hb dX50_three_61 (by decide) (fun c_31 => ?_) (fun c_31 => ?_)
      · have hw := hw.2 (z_ne (rfl : x3.toInt = _) (rfl : r_1.toInt = _) c_31)
        exact atX50_three_89 hc X x1 x2 x3 x4 r_1 r_2 r_3 r_4 f_stated hw _ _ ls hH (lv_sub hl [4, 5, 6, 7, 8, 3, 2, 1, 0] rfl)
      · have hw := hw.1 (z_eq (rfl : x3.toInt = _) (rfl : r_1.toInt = _) c_31)
        refine lv_iload hx hb dX50_three_64 (lv_at hl 1 rfl) ?_
        refine lv_iload hx hb dX50_three_66 (lv_at hl 3 rfl) ?_
        refine lv_icmp_ne (tgt := 89) hx hb dX50_three_68 (by decide) (fun c_32 => ?_) (fun c_32 => ?_)
        · have hw := hw.2 (z_ne (rfl : r_3.toInt = _) (rfl : r_1.toInt = _) c_32)
          exact atX50_three_89 hc X x1 x2 x3 x4 r_1 r_2 r_3 r_4 f_stated hw _ _ ls hH (lv_sub hl [4, 5, 6, 7, 8, 3, 2, 1, 0] rfl)
        · have hw := hw.1 (z_eq (rfl : r_3.toInt = _) (rfl : r_1.toInt = _) c_32)
          refine lv_iload hx hb dX50_three_71 (lv_at hl 8 rfl) ?_
          refine lv_iload hx hb dX50_three_73 (lv_at hl 2 rfl) ?_
          refine lv_icmp_ne (tgt := 89) hx hb dX50_three_75 (by decide) (fun c_33 => ?_) (fun c_33 => ?_)
          · have hw := hw.2 (z_ne (rfl : x4.toInt = _) (rfl : r_2.toInt = _) c_33)
            exact atX50_three_89 hc X x1 x2 x3 x4 r_1 r_2 r_3 r_4 f_stated hw _ _ ls hH (lv_sub hl [4, 5, 6, 7, 8, 3, 2, 1, 0] rfl)
          · have hw := hw.1 (z_eq (rfl : x4.toInt = _) (rfl : r_2.toInt = _) c_33)
            refine lv_aload_n hx hb dX50_three_78 rfl (lv_at hl 4 rfl) ?_
            refine lv_iload_n hx hb dX50_three_79 rfl (lv_at hl 5 rfl) ?_
            refine lv_bipush (v := 11) hx hb dX50_three_80 (by decide) ?_
            refine lv_iload_n hx hb dX50_three_82 rfl (lv_at hl 6 rfl) ?_
            refine lv_iload_n hx hb dX50_three_83 rfl (lv_at hl 7 rfl) ?_
            refine lv_iload hx hb dX50_three_84 (lv_at hl 0 rfl) ?_
            refine k_v0 hH (k_runV (As := [.int x1, .int 11, .int x2, .int x3, .int r_4]) (rest := []) X hH.1 hH.2.1 X.2.2.2 (walkX50_state hc (x1 := x1) (x2 := 11) (x3 := x2) (x4 := x3) (x5 := r_4) (f_phrases := f_phrases) (f_axioms := f_axioms) (f_axiomCount := f_axiomCount) (f_triples := f_triples) (f_tripleCount := f_tripleCount) (f_rules := f_rules) (f_instances := f_instances) (f_counts := f_counts) (f_premises := f_premises) (f_rows := f_rows) (f_stated := f_stated) (f_marks := f_marks) (f_broken := f_broken) (f_text := f_text) (f_size := f_size) (f_sizes := f_sizes) (f_places := f_places) hw) (cwV 5 X.1.2.2.2.2 gX50_189 rfl rfl rfl hX50_state ⟨Nat.le_of_ble_eq_true rfl, Nat.le_of_ble_eq_true rfl⟩) hc (q0 := 0) rfl rfl hl.1 rfl (Nat.le_of_ble_eq_true rfl) dX50_three_86 ⟨Nat.le_refl 0, Nat.le_refl 0⟩) (fun u H locs hw hH => ?_)
            obtain ⟨f_stated_34, eu⟩ : ∃ z, z = u := ⟨_, rfl⟩
            subst eu
            have hH : kH (dC, dI) cl A s.heap H locs (wX50 ci ad d f_phrases f_axioms f_axiomCount f_triples f_tripleCount f_rules f_instances f_counts f_premises f_rows f_stated_34 f_marks f_broken f_text f_size f_sizes f_places) := hH
            exact atX50_three_89 hc X x1 x2 x3 x4 r_1 r_2 r_3 r_4 f_stated_34 hw _ _ ls hH (lv_sub hl [4, 5, 6, 7, 8, 3, 2, 1, 0] rfl)
set_option maxHeartbeats 4000000 in
theorem atX50_chain_192 {p : Program} {l : Launch} {e : Env} {s : State} {m : MethodId} {args : Array Value} {below : List Frame} {meth : Method} {c : Code} {dC : Nat → ClassId} {dI : Nat → Nat → Nat} {cl : List vw_C} {ci : Nat} (hc : cl[ci]? = some (RX50, TX50, 17)) {ad : Nat → Nat} {d : Nat → ClassId} {A : Nat → Prop} {post : (Int → Int) → Prop} {f_phrases : Nat → Int64} {f_axioms : Nat → Int32} {f_axiomCount : Int32} {f_triples : Nat → Int32} {f_tripleCount : Int32} {f_rules : Nat → Int32} {f_instances : Nat → Int32} {f_counts : Nat → Int32} {f_premises : Nat → Int32} {f_rows : Int32} {f_marks : Nat → Int32} {f_broken : Int32} {f_text : Nat → Int32} {f_size : Int32} {f_sizes : Nat → Int32} {f_places : Nat → Int32} (X : kX p s m args meth c cX50_chain 9 RX50 none (dC, dI) cl (tX50 d))     :
    ∀ (x1 : Int32) (x3 : Int32) (x4 : Int32) (x6 : Int32) (x7 : Int32) (f_stated : Nat → Int32), wX50_chain_192 post x1.toInt x3.toInt x4.toInt x6.toInt x7.toInt (zF f_rules) (zF f_premises) (zF f_stated) → ∀ (H : Heap) (locs : List Loc) (ls : Array Slot), kH (dC, dI) cl A s.heap H locs (wX50 ci ad d f_phrases f_axioms f_axiomCount f_triples f_tripleCount f_rules f_instances f_counts f_premises f_rows f_stated f_marks f_broken f_text f_size f_sizes f_places) → lv_has ls 9 [(0, .ref (ad 0)), (1, .int x1), (3, .int x3), (4, .int x4), (6, .int x6), (7, .int x7)] → W p l e ({ frames := 3, cells := 0, slots := 0, locals := 74 } : Room) s m args below meth c H locs 0 0 (MQ below (va_Qv (fun (u : (Nat → Int32)) => post (zF (u))) (kB (dC, dI) cl (tX50 d) A (fun u : (Nat → Int32) => (wX50 ci ad d f_phrases f_axioms f_axiomCount f_triples f_tripleCount f_rules f_instances f_counts f_premises f_rows (u) f_marks f_broken f_text f_size f_sizes f_places))) A) args s 0 0 A) (F0 m 192 ls []) := by
  have hx := X.1.1
  have hb := X.1.2.1
  intro x1 x3 x4 x6 x7 f_stated hw H locs ls hH hl
  unfold wX50_chain_192 at hw
  refine lv_aload_n hx hb dX50_chain_192 rfl (lv_at hl 0 rfl) ?_
  refine k_get X hH in_X50 0 rfl hc 5 (by decide) q6289 rfl dX50_chain_193 ?_
  refine lv_iload_n hx hb dX50_chain_196 rfl (lv_at hl 1 rfl) ?_
  have hq_19 := hw.1
  have hw := hw.2
  refine k_iald X hH 4 3 rfl rfl (z_in (rfl : x1.toInt = _) hq_19) dX50_chain_197 ?_
  have e_20 := z_ld (f := f_rules) (rfl : x1.toInt = _) hq_19.1
  refine lv_iconst (v := 2) hx hb dX50_chain_198 (by decide) ?_
  refine lv_isub hx hb dX50_chain_199 ?_
  have e_21 := z_sub (z_m e_20) (z_m (rfl : (2 : Int32).toInt = 2))
  have hq_22 := hw.1
  have hw := hw.2
  have e_23 := z_x e_21 hq_22
  refine lv_topi (fun x8_24 ex8_24 => ?_)
  have hw := hw x8_24.toInt (by rw [ex8_24]; exact e_23)
  refine lv_istore (lv' := [(8, .int x8_24), (0, .ref (ad 0)), (1, .int x1), (3, .int x3), (4, .int x4), (6, .int x6), (7, .int x7)]) hx hb dX50_chain_200 hl (by decide) rfl (fun ls hl => ?_)
  refine lv_aload_n hx hb dX50_chain_202 rfl (lv_at hl 1 rfl) ?_
  refine lv_iload_n hx hb dX50_chain_203 rfl (lv_at hl 2 rfl) ?_
  refine lv_iconst (v := 0) hx hb dX50_chain_204 (by decide) ?_
  refine lv_iload hx hb dX50_chain_205 (lv_at hl 0 rfl) ?_
  refine k_i0 hH (k_runV (As := [.int x1, .int 0, .int x8_24]) (rest := []) X hH.1 hH.2.1 X.2.2.2 (walkX50_is hc (x1 := x1) (x2 := 0) (x3 := x8_24) (f_phrases := f_phrases) (f_axioms := f_axioms) (f_axiomCount := f_axiomCount) (f_triples := f_triples) (f_tripleCount := f_tripleCount) (f_rules := f_rules) (f_instances := f_instances) (f_counts := f_counts) (f_premises := f_premises) (f_rows := f_rows) (f_stated := f_stated) (f_marks := f_marks) (f_broken := f_broken) (f_text := f_text) (f_size := f_size) (f_sizes := f_sizes) (f_places := f_places) hw) (cwV 3 X.1.2.2.2.2 gX50_204 rfl rfl rfl hX50_is ⟨Nat.le_of_ble_eq_true rfl, Nat.le_of_ble_eq_true rfl⟩) hc (q0 := 0) rfl rfl hl.1 rfl (Nat.le_of_ble_eq_true rfl) dX50_chain_207 ⟨Nat.le_refl 0, Nat.le_refl 0⟩) (fun r_25 _ H locs hw hH => ?_)
  have hH : kH (dC, dI) cl A s.heap H locs (wX50 ci ad d f_phrases f_axioms f_axiomCount f_triples f_tripleCount f_rules f_instances f_counts f_premises f_rows f_stated f_marks f_broken f_text f_size f_sizes f_places) := hH
  refine lv_if_eq (tgt := 652) hx hb dX50_chain_210 (by decide) (fun c_26 => ?_) (fun c_26 => ?_)
  · have hw := hw.1 (z_eq (rfl : r_25.toInt = _) (rfl : (0 : Int32).toInt = 0) c_26)
    exact k_vret X hH (f_stated) hw rfl dX50_chain_652
  · have hw := hw.2 (z_neq (rfl : r_25.toInt = _) (rfl : (0 : Int32).toInt = 0) c_26)
    refine lv_aload_n hx hb dX50_chain_213 rfl (lv_at hl 1 rfl) ?_
    refine lv_iload_n hx hb dX50_chain_214 rfl (lv_at hl 2 rfl) ?_
    refine lv_iconst (v := 1) hx hb dX50_chain_215 (by decide) ?_
    refine lv_iload hx hb dX50_chain_216 (lv_at hl 0 rfl) ?_
    refine k_i0 hH (k_runV (As := [.int x1, .int 1, .int x8_24]) (rest := []) X hH.1 hH.2.1 X.2.2.2 (walkX50_is hc (x1 := x1) (x2 := 1) (x3 := x8_24) (f_phrases := f_phrases) (f_axioms := f_axioms) (f_axiomCount := f_axiomCount) (f_triples := f_triples) (f_tripleCount := f_tripleCount) (f_rules := f_rules) (f_instances := f_instances) (f_counts := f_counts) (f_premises := f_premises) (f_rows := f_rows) (f_stated := f_stated) (f_marks := f_marks) (f_broken := f_broken) (f_text := f_text) (f_size := f_size) (f_sizes := f_sizes) (f_places := f_places) hw) (cwV 3 X.1.2.2.2.2 gX50_204 rfl rfl rfl hX50_is ⟨Nat.le_of_ble_eq_true rfl, Nat.le_of_ble_eq_true rfl⟩) hc (q0 := 0) rfl rfl hl.1 rfl (Nat.le_of_ble_eq_true rfl) dX50_chain_218 ⟨Nat.le_refl 0, Nat.le_refl 0⟩) (fun r_27 _ H locs hw hH => ?_)
    have hH : kH (dC, dI) cl A s.heap H locs (wX50 ci ad d f_phrases f_axioms f_axiomCount f_triples f_tripleCount f_rules f_instances f_counts f_premises f_rows f_stated f_marks f_broken f_text f_size f_sizes f_places) := hH
    refine lv_if_eq (tgt := 652) hx hb dX50_chain_221 (by decide) (fun c_28 => ?_) (fun c_28 => ?_)
    · have hw := hw.1 (z_eq (rfl : r_27.toInt = _) (rfl : (0 : Int32).toInt = 0) c_28)
      exact k_vret X hH (f_stated) hw rfl dX50_chain_652
    · have hw := hw.2 (z_neq (rfl : r_27.toInt = _) (rfl : (0 : Int32).toInt = 0) c_28)
      refine lv_iload hx hb dX50_chain_224 (lv_at hl 6 rfl) ?_
      refine lv_iload_n hx hb dX50_chain_226 rfl (lv_at hl 3 rfl) ?_
      refine lv_icmp_ne (tgt := 652) hx hb dX50_chain_227 (by decide) (fun c_29 => ?_) (fun c_29 => ?_)
      · have hw := hw.2 (z_ne (rfl : x7.toInt = _) (rfl : x3.toInt = _) c_29)
        exact k_vret X hH (f_stated) hw rfl dX50_chain_652
      · have hw := hw.1 (z_eq (rfl : x7.toInt = _) (rfl : x3.toInt = _) c_29)
        refine lv_aload_n hx hb dX50_chain_230 rfl (lv_at hl 1 rfl) ?_
        refine lv_iload_n hx hb dX50_chain_231 rfl (lv_at hl 2 rfl) ?_
        refine lv_iload hx hb dX50_chain_232 (lv_at hl 0 rfl) ?_
        refine lv_iload hx hb dX50_chain_234 (lv_at hl 5 rfl) ?_
        refine lv_iload hx hb dX50_chain_236 (lv_at hl 4 rfl) ?_
        refine lv_iconst (v := 0) hx hb dX50_chain_238 (by decide) ?_
        refine k_v0 hH (k_runV (As := [.int x1, .int x8_24, .int x6, .int x4, .int 0]) (rest := []) X hH.1 hH.2.1 X.2.2.2 (walkX50_state hc (x1 := x1) (x2 := x8_24) (x3 := x6) (x4 := x4) (x5 := 0) (f_phrases := f_phrases) (f_axioms := f_axioms) (f_axiomCount := f_axiomCount) (f_triples := f_triples) (f_tripleCount := f_tripleCount) (f_rules := f_rules) (f_instances := f_instances) (f_counts := f_counts) (f_premises := f_premises) (f_rows := f_rows) (f_stated := f_stated) (f_marks := f_marks) (f_broken := f_broken) (f_text := f_text) (f_size := f_size) (f_sizes := f_sizes) (f_places := f_places) hw) (cwV 5 X.1.2.2.2.2 gX50_189 rfl rfl rfl hX50_state ⟨Nat.le_of_ble_eq_true rfl, Nat.le_of_ble_eq_true rfl⟩) hc (q0 := 0) rfl rfl hl.1 rfl (Nat.le_of_ble_eq_true rfl) dX50_chain_239 ⟨Nat.le_refl 0, Nat.le_refl 0⟩) (fun u H locs hw hH => ?_)
        obtain ⟨f_stated_30, eu⟩ : ∃ z, z = u := ⟨_, rfl⟩
        subst eu
        have hH : kH (dC, dI) cl A s.heap H locs (wX50 ci ad d f_phrases f_axioms f_axiomCount f_triples f_tripleCount f_rules f_instances f_counts f_premises f_rows f_stated_30 f_marks f_broken f_text f_size f_sizes f_places) := hH
        refine lv_goto (tgt := 652) hx hb dX50_chain_242 (by decide) ?_
        exact k_vret X hH (f_stated_30) hw rfl dX50_chain_652
set_option maxHeartbeats 4000000 in
theorem atX50_chain_627 {p : Program} {l : Launch} {e : Env} {s : State} {m : MethodId} {args : Array Value} {below : List Frame} {meth : Method} {c : Code} {dC : Nat → ClassId} {dI : Nat → Nat → Nat} {cl : List vw_C} {ci : Nat} (hc : cl[ci]? = some (RX50, TX50, 17)) {ad : Nat → Nat} {d : Nat → ClassId} {A : Nat → Prop} {post : (Int → Int) → Prop} {f_phrases : Nat → Int64} {f_axioms : Nat → Int32} {f_axiomCount : Int32} {f_triples : Nat → Int32} {f_tripleCount : Int32} {f_rules : Nat → Int32} {f_instances : Nat → Int32} {f_counts : Nat → Int32} {f_premises : Nat → Int32} {f_rows : Int32} {f_marks : Nat → Int32} {f_broken : Int32} {f_text : Nat → Int32} {f_size : Int32} {f_sizes : Nat → Int32} {f_places : Nat → Int32} (X : kX p s m args meth c cX50_chain 9 RX50 none (dC, dI) cl (tX50 d))     :
    ∀ (x1 : Int32) (x2 : Int32) (x3 : Int32) (x4 : Int32) (x5 : Int32) (f_stated : Nat → Int32), wX50_chain_627 post x1.toInt x2.toInt x3.toInt x4.toInt x5.toInt (zF f_rules) (zF f_premises) (zF f_stated) → ∀ (H : Heap) (locs : List Loc) (ls : Array Slot), kH (dC, dI) cl A s.heap H locs (wX50 ci ad d f_phrases f_axioms f_axiomCount f_triples f_tripleCount f_rules f_instances f_counts f_premises f_rows f_stated f_marks f_broken f_text f_size f_sizes f_places) → lv_has ls 9 [(0, .ref (ad 0)), (1, .int x1), (2, .int x2), (3, .int x3), (4, .int x4), (5, .int x5)] → W p l e ({ frames := 3, cells := 0, slots := 0, locals := 74 } : Room) s m args below meth c H locs 0 0 (MQ below (va_Qv (fun (u : (Nat → Int32)) => post (zF (u))) (kB (dC, dI) cl (tX50 d) A (fun u : (Nat → Int32) => (wX50 ci ad d f_phrases f_axioms f_axiomCount f_triples f_tripleCount f_rules f_instances f_counts f_premises f_rows (u) f_marks f_broken f_text f_size f_sizes f_places))) A) args s 0 0 A) (F0 m 627 ls []) := by
  have hx := X.1.1
  have hb := X.1.2.1
  intro x1 x2 x3 x4 x5 f_stated hw H locs ls hH hl
  unfold wX50_chain_627 at hw
  refine lv_iload_n hx hb dX50_chain_627 rfl (lv_at hl 2 rfl) ?_
  refine lv_if_eq (tgt := 652) hx hb dX50_chain_628 (by decide) (fun c_64 => ?_) (fun c_64 => ?_)
  · have hw := hw.1 (z_eq (rfl : x2.toInt = _) (rfl : (0 : Int32).toInt = 0) c_64)
    exact k_vret X hH (f_stated) hw rfl dX50_chain_652
  · have hw := hw.2 (z_neq (rfl : x2.toInt = _) (rfl : (0 : Int32).toInt = 0) c_64)
    refine lv_aload_n hx hb dX50_chain_631 rfl (lv_at hl 0 rfl) ?_
    refine lv_iload_n hx hb dX50_chain_632 rfl (lv_at hl 1 rfl) ?_
    refine lv_iconst (v := 2) hx hb dX50_chain_633 (by decide) ?_
    refine lv_bipush (v := 11) hx hb dX50_chain_634 (by decide) ?_
    refine k_i0 hH (k_runV (As := [.int x1, .int 2, .int 11]) (rest := []) X hH.1 hH.2.1 X.2.2.2 (walkX50_is hc (x1 := x1) (x2 := 2) (x3 := 11) (f_phrases := f_phrases) (f_axioms := f_axioms) (f_axiomCount := f_axiomCount) (f_triples := f_triples) (f_tripleCount := f_tripleCount) (f_rules := f_rules) (f_instances := f_instances) (f_counts := f_counts) (f_premises := f_premises) (f_rows := f_rows) (f_stated := f_stated) (f_marks := f_marks) (f_broken := f_broken) (f_text := f_text) (f_size := f_size) (f_sizes := f_sizes) (f_places := f_places) hw) (cwV 3 X.1.2.2.2.2 gX50_204 rfl rfl rfl hX50_is ⟨Nat.le_of_ble_eq_true rfl, Nat.le_of_ble_eq_true rfl⟩) hc (q0 := 0) rfl rfl hl.1 rfl (Nat.le_of_ble_eq_true rfl) dX50_chain_636 ⟨Nat.le_refl 0, Nat.le_refl 0⟩) (fun r_65 _ H locs hw hH => ?_)
    have hH : kH (dC, dI) cl A s.heap H locs (wX50 ci ad d f_phrases f_axioms f_axiomCount f_triples f_tripleCount f_rules f_instances f_counts f_premises f_rows f_stated f_marks f_broken f_text f_size f_sizes f_places) := hH
    refine lv_if_eq (tgt := 652) hx hb dX50_chain_639 (by decide) (fun c_66 => ?_) (fun c_66 => ?_)
    · have hw := hw.1 (z_eq (rfl : r_65.toInt = _) (rfl : (0 : Int32).toInt = 0) c_66)
      exact k_vret X hH (f_stated) hw rfl dX50_chain_652
    · have hw := hw.2 (z_neq (rfl : r_65.toInt = _) (rfl : (0 : Int32).toInt = 0) c_66)
      refine lv_aload_n hx hb dX50_chain_642 rfl (lv_at hl 0 rfl) ?_
      refine lv_iload_n hx hb dX50_chain_643 rfl (lv_at hl 1 rfl) ?_
      refine lv_iload_n hx hb dX50_chain_644 rfl (lv_at hl 3 rfl) ?_
      refine lv_iload hx hb dX50_chain_645 (lv_at hl 4 rfl) ?_
      refine lv_iload hx hb dX50_chain_647 (lv_at hl 5 rfl) ?_
      refine k_v0 hH (k_runV (As := [.int x1, .int x3, .int x4, .int x5]) (rest := []) X hH.1 hH.2.1 X.2.2.2 (walkX50_three hc (x1 := x1) (x2 := x3) (x3 := x4) (x4 := x5) (f_phrases := f_phrases) (f_axioms := f_axioms) (f_axiomCount := f_axiomCount) (f_triples := f_triples) (f_tripleCount := f_tripleCount) (f_rules := f_rules) (f_instances := f_instances) (f_counts := f_counts) (f_premises := f_premises) (f_rows := f_rows) (f_stated := f_stated) (f_marks := f_marks) (f_broken := f_broken) (f_text := f_text) (f_size := f_size) (f_sizes := f_sizes) (f_places := f_places) hw) (cwV 4 X.1.2.2.2.2 gX50_208 rfl rfl rfl hX50_three ⟨Nat.le_of_ble_eq_true rfl, Nat.le_of_ble_eq_true rfl⟩) hc (q0 := 0) rfl rfl hl.1 rfl (Nat.le_of_ble_eq_true rfl) dX50_chain_649 ⟨Nat.le_refl 0, Nat.le_refl 0⟩) (fun u H locs hw hH => ?_)
      obtain ⟨f_stated_67, eu⟩ : ∃ z, z = u := ⟨_, rfl⟩
      subst eu
      have hH : kH (dC, dI) cl A s.heap H locs (wX50 ci ad d f_phrases f_axioms f_axiomCount f_triples f_tripleCount f_rules f_instances f_counts f_premises f_rows f_stated_67 f_marks f_broken f_text f_size f_sizes f_places) := hH
      exact k_vret X hH (f_stated_67) hw rfl dX50_chain_652
set_option maxHeartbeats 4000000 in
theorem atX50_chain_93 {p : Program} {l : Launch} {e : Env} {s : State} {m : MethodId} {args : Array Value} {below : List Frame} {meth : Method} {c : Code} {dC : Nat → ClassId} {dI : Nat → Nat → Nat} {cl : List vw_C} {ci : Nat} (hc : cl[ci]? = some (RX50, TX50, 17)) {ad : Nat → Nat} {d : Nat → ClassId} {A : Nat → Prop} {post : (Int → Int) → Prop} {f_phrases : Nat → Int64} {f_axioms : Nat → Int32} {f_axiomCount : Int32} {f_triples : Nat → Int32} {f_tripleCount : Int32} {f_rules : Nat → Int32} {f_instances : Nat → Int32} {f_counts : Nat → Int32} {f_premises : Nat → Int32} {f_rows : Int32} {f_marks : Nat → Int32} {f_broken : Int32} {f_text : Nat → Int32} {f_size : Int32} {f_sizes : Nat → Int32} {f_places : Nat → Int32} (X : kX p s m args meth c cX50_chain 9 RX50 none (dC, dI) cl (tX50 d))     :
    ∀ (x1 : Int32) (x2 : Int32) (x3 : Int32) (x4 : Int32) (y0 : Int32) (f_stated : Nat → Int32), wX50_chain_93 post x1.toInt x2.toInt x3.toInt x4.toInt y0.toInt (zF f_triples) (zF f_rules) (zF f_instances) (zF f_premises) (zF f_stated) → ∀ (H : Heap) (locs : List Loc) (ls : Array Slot), kH (dC, dI) cl A s.heap H locs (wX50 ci ad d f_phrases f_axioms f_axiomCount f_triples f_tripleCount f_rules f_instances f_counts f_premises f_rows f_stated f_marks f_broken f_text f_size f_sizes f_places) → lv_has ls 9 [(0, .ref (ad 0)), (1, .int x1), (2, .int x2), (3, .int x3), (4, .int x4)] → W p l e ({ frames := 3, cells := 0, slots := 0, locals := 74 } : Room) s m args below meth c H locs 0 0 (MQ below (va_Qv (fun (u : (Nat → Int32)) => post (zF (u))) (kB (dC, dI) cl (tX50 d) A (fun u : (Nat → Int32) => (wX50 ci ad d f_phrases f_axioms f_axiomCount f_triples f_tripleCount f_rules f_instances f_counts f_premises f_rows (u) f_marks f_broken f_text f_size f_sizes f_places))) A) args s 0 0 A) (F0 m 93 ls [.int y0]) := by
  have hx := X.1.1
  have hb := X.1.2.1
  intro x1 x2 x3 x4 y0 f_stated hw H locs ls hH hl
  unfold wX50_chain_93 at hw
  refine lv_istore (lv' := [(5, .int y0), (0, .ref (ad 0)), (1, .int x1), (2, .int x2), (3, .int x3), (4, .int x4)]) hx hb dX50_chain_93 hl (by decide) rfl (fun ls hl => ?_)
  refine lv_aload_n hx hb dX50_chain_95 rfl (lv_at hl 1 rfl) ?_
  refine lv_iload_n hx hb dX50_chain_96 rfl (lv_at hl 2 rfl) ?_
  refine lv_iconst (v := 0) hx hb dX50_chain_97 (by decide) ?_
  refine lv_iconst (v := 1) hx hb dX50_chain_98 (by decide) ?_
  refine k_i0 hH (k_runV (As := [.int x1, .int 0, .int 1]) (rest := []) X hH.1 hH.2.1 X.2.2.2 (walkX50_of hc (x1 := x1) (x2 := 0) (x3 := 1) (f_phrases := f_phrases) (f_axioms := f_axioms) (f_axiomCount := f_axiomCount) (f_triples := f_triples) (f_tripleCount := f_tripleCount) (f_rules := f_rules) (f_instances := f_instances) (f_counts := f_counts) (f_premises := f_premises) (f_rows := f_rows) (f_stated := f_stated) (f_marks := f_marks) (f_broken := f_broken) (f_text := f_text) (f_size := f_size) (f_sizes := f_sizes) (f_places := f_places) hw) (cwV 3 X.1.2.2.2.2 gX50_185 rfl rfl rfl hX50_of ⟨Nat.le_of_ble_eq_true rfl, Nat.le_of_ble_eq_true rfl⟩) hc (q0 := 0) rfl rfl hl.1 rfl (Nat.le_of_ble_eq_true rfl) dX50_chain_99 ⟨Nat.le_refl 0, Nat.le_refl 0⟩) (fun r_13 _ H locs hw hH => ?_)
  have hH : kH (dC, dI) cl A s.heap H locs (wX50 ci ad d f_phrases f_axioms f_axiomCount f_triples f_tripleCount f_rules f_instances f_counts f_premises f_rows f_stated f_marks f_broken f_text f_size f_sizes f_places) := hH
  refine lv_istore (lv' := [(6, .int r_13), (5, .int y0), (0, .ref (ad 0)), (1, .int x1), (2, .int x2), (3, .int x3), (4, .int x4)]) hx hb dX50_chain_102 hl (by decide) rfl (fun ls hl => ?_)
  refine lv_aload_n hx hb dX50_chain_104 rfl (lv_at hl 2 rfl) ?_
  refine lv_iload_n hx hb dX50_chain_105 rfl (lv_at hl 3 rfl) ?_
  refine lv_iconst (v := 0) hx hb dX50_chain_106 (by decide) ?_
  refine lv_iconst (v := 2) hx hb dX50_chain_107 (by decide) ?_
  refine k_i0 hH (k_runV (As := [.int x1, .int 0, .int 2]) (rest := []) X hH.1 hH.2.1 X.2.2.2 (walkX50_of hc (x1 := x1) (x2 := 0) (x3 := 2) (f_phrases := f_phrases) (f_axioms := f_axioms) (f_axiomCount := f_axiomCount) (f_triples := f_triples) (f_tripleCount := f_tripleCount) (f_rules := f_rules) (f_instances := f_instances) (f_counts := f_counts) (f_premises := f_premises) (f_rows := f_rows) (f_stated := f_stated) (f_marks := f_marks) (f_broken := f_broken) (f_text := f_text) (f_size := f_size) (f_sizes := f_sizes) (f_places := f_places) hw) (cwV 3 X.1.2.2.2.2 gX50_185 rfl rfl rfl hX50_of ⟨Nat.le_of_ble_eq_true rfl, Nat.le_of_ble_eq_true rfl⟩) hc (q0 := 0) rfl rfl hl.1 rfl (Nat.le_of_ble_eq_true rfl) dX50_chain_108 ⟨Nat.le_refl 0, Nat.le_refl 0⟩) (fun r_14 _ H locs hw hH => ?_)
  have hH : kH (dC, dI) cl A s.heap H locs (wX50 ci ad d f_phrases f_axioms f_axiomCount f_triples f_tripleCount f_rules f_instances f_counts f_premises f_rows f_stated f_marks f_broken f_text f_size f_sizes f_places) := hH
  refine lv_istore (lv' := [(7, .int r_14), (6, .int r_13), (5, .int y0), (0, .ref (ad 0)), (1, .int x1), (2, .int x2), (3, .int x3), (4, .int x4)]) hx hb dX50_chain_111 hl (by decide) rfl (fun ls hl => ?_)
  refine lv_aload_n hx hb dX50_chain_113 rfl (lv_at hl 3 rfl) ?_
  refine k_get X hH in_X50 0 rfl hc 5 (by decide) q6289 rfl dX50_chain_114 ?_
  refine lv_iload_n hx hb dX50_chain_117 rfl (lv_at hl 4 rfl) ?_
  have hq_15 := hw.1
  have hw := hw.2
  refine k_iald X hH 4 3 rfl rfl (z_in (rfl : x1.toInt = _) hq_15) dX50_chain_118 ?_
  have e_16 := z_ld (f := f_rules) (rfl : x1.toInt = _) hq_15.1
  refine lv_topi (fun z_17 ez_17 => ?_)
  have hw := hw z_17.toInt (by rw [ez_17]; exact e_16)
  by_cases c_18 : z_17 = 3
  · have hw := hw.1 (z_eq (rfl : z_17.toInt = _) (rfl : (3 : Int32).toInt = 3) c_18)
    refine lv_tableIn (off := 73) (tgt := 192) hx hb dX50_chain_119 (by rw [c_18]; decide) (by rw [c_18]; decide) (by rw [c_18]; rfl) (by decide) ?_
    exact atX50_chain_192 hc X x1 x3 x4 r_13 r_14 f_stated hw _ _ ls hH (lv_sub hl [3, 4, 6, 7, 1, 0] rfl)
  · have hw := hw.2 (z_ne (rfl : z_17.toInt = _) (rfl : (3 : Int32).toInt = 3) c_18)
    by_cases c_31 : z_17 = 4
    · have hw := hw.1 (z_eq (rfl : z_17.toInt = _) (rfl : (4 : Int32).toInt = 4) c_31)
      refine lv_tableIn (off := 73) (tgt := 192) hx hb dX50_chain_119 (by rw [c_31]; decide) (by rw [c_31]; decide) (by rw [c_31]; rfl) (by decide) ?_
      exact atX50_chain_192 hc X x1 x3 x4 r_13 r_14 f_stated hw _ _ ls hH (lv_sub hl [3, 4, 6, 7, 1, 0] rfl)
    · have hw := hw.2 (z_ne (rfl : z_17.toInt = _) (rfl : (4 : Int32).toInt = 4) c_31)
      by_cases c_32 : z_17 = 5
      · have hw := hw.1 (z_eq (rfl : z_17.toInt = _) (rfl : (5 : Int32).toInt = 5) c_32)
        refine lv_tableIn (off := 126) (tgt := 245) hx hb dX50_chain_119 (by rw [c_32]; decide) (by rw [c_32]; decide) (by rw [c_32]; rfl) (by decide) ?_
        refine lv_aload_n hx hb dX50_chain_245 rfl (lv_at hl 3 rfl) ?_
        refine lv_iload_n hx hb dX50_chain_246 rfl (lv_at hl 4 rfl) ?_
        refine lv_iconst (v := 0) hx hb dX50_chain_247 (by decide) ?_
        refine lv_iconst (v := 1) hx hb dX50_chain_248 (by decide) ?_
        refine k_i0 hH (k_runV (As := [.int x1, .int 0, .int 1]) (rest := []) X hH.1 hH.2.1 X.2.2.2 (walkX50_is hc (x1 := x1) (x2 := 0) (x3 := 1) (f_phrases := f_phrases) (f_axioms := f_axioms) (f_axiomCount := f_axiomCount) (f_triples := f_triples) (f_tripleCount := f_tripleCount) (f_rules := f_rules) (f_instances := f_instances) (f_counts := f_counts) (f_premises := f_premises) (f_rows := f_rows) (f_stated := f_stated) (f_marks := f_marks) (f_broken := f_broken) (f_text := f_text) (f_size := f_size) (f_sizes := f_sizes) (f_places := f_places) hw) (cwV 3 X.1.2.2.2.2 gX50_204 rfl rfl rfl hX50_is ⟨Nat.le_of_ble_eq_true rfl, Nat.le_of_ble_eq_true rfl⟩) hc (q0 := 0) rfl rfl hl.1 rfl (Nat.le_of_ble_eq_true rfl) dX50_chain_249 ⟨Nat.le_refl 0, Nat.le_refl 0⟩) (fun r_33 _ H locs hw hH => ?_)
        have hH : kH (dC, dI) cl A s.heap H locs (wX50 ci ad d f_phrases f_axioms f_axiomCount f_triples f_tripleCount f_rules f_instances f_counts f_premises f_rows f_stated f_marks f_broken f_text f_size f_sizes f_places) := hH
        refine lv_if_eq (tgt := 652) hx hb dX50_chain_252 (by decide) (fun c_34 => ?_) (fun c_34 => ?_)
        · have hw := hw.1 (z_eq (rfl : r_33.toInt = _) (rfl : (0 : Int32).toInt = 0) c_34)
          exact k_vret X hH (f_stated) hw rfl dX50_chain_652
        · have hw := hw.2 (z_neq (rfl : r_33.toInt = _) (rfl : (0 : Int32).toInt = 0) c_34)
          refine lv_iload_n hx hb dX50_chain_255 rfl (lv_at hl 5 rfl) ?_
          refine lv_if_eq (tgt := 652) hx hb dX50_chain_256 (by decide) (fun c_35 => ?_) (fun c_35 => ?_)
          · have hw := hw.1 (z_eq (rfl : x2.toInt = _) (rfl : (0 : Int32).toInt = 0) c_35)
            exact k_vret X hH (f_stated) hw rfl dX50_chain_652
          · have hw := hw.2 (z_neq (rfl : x2.toInt = _) (rfl : (0 : Int32).toInt = 0) c_35)
            refine lv_iload hx hb dX50_chain_259 (lv_at hl 7 rfl) ?_
            refine lv_if_ne (tgt := 652) hx hb dX50_chain_261 (by decide) (fun c_36 => ?_) (fun c_36 => ?_)
            · have hw := hw.2 (z_ne (rfl : x4.toInt = _) (rfl : (0 : Int32).toInt = 0) c_36)
              exact k_vret X hH (f_stated) hw rfl dX50_chain_652
            · have hw := hw.1 (z_eq (rfl : x4.toInt = _) (rfl : (0 : Int32).toInt = 0) c_36)
              refine lv_iload hx hb dX50_chain_264 (lv_at hl 2 rfl) ?_
              refine lv_iload hx hb dX50_chain_266 (lv_at hl 1 rfl) ?_
              refine lv_icmp_ne (tgt := 652) hx hb dX50_chain_268 (by decide) (fun c_37 => ?_) (fun c_37 => ?_)
              · have hw := hw.2 (z_ne (rfl : y0.toInt = _) (rfl : r_13.toInt = _) c_37)
                exact k_vret X hH (f_stated) hw rfl dX50_chain_652
              · have hw := hw.1 (z_eq (rfl : y0.toInt = _) (rfl : r_13.toInt = _) c_37)
                refine lv_aload_n hx hb dX50_chain_271 rfl (lv_at hl 3 rfl) ?_
                refine lv_iload_n hx hb dX50_chain_272 rfl (lv_at hl 4 rfl) ?_
                refine lv_bipush (v := 11) hx hb dX50_chain_273 (by decide) ?_
                refine lv_iload_n hx hb dX50_chain_275 rfl (lv_at hl 6 rfl) ?_
                refine lv_iconst (v := 0) hx hb dX50_chain_276 (by decide) ?_
                refine lv_iload hx hb dX50_chain_277 (lv_at hl 0 rfl) ?_
                refine k_v0 hH (k_runV (As := [.int x1, .int 11, .int x3, .int 0, .int r_14]) (rest := []) X hH.1 hH.2.1 X.2.2.2 (walkX50_state hc (x1 := x1) (x2 := 11) (x3 := x3) (x4 := 0) (x5 := r_14) (f_phrases := f_phrases) (f_axioms := f_axioms) (f_axiomCount := f_axiomCount) (f_triples := f_triples) (f_tripleCount := f_tripleCount) (f_rules := f_rules) (f_instances := f_instances) (f_counts := f_counts) (f_premises := f_premises) (f_rows := f_rows) (f_stated := f_stated) (f_marks := f_marks) (f_broken := f_broken) (f_text := f_text) (f_size := f_size) (f_sizes := f_sizes) (f_places := f_places) hw) (cwV 5 X.1.2.2.2.2 gX50_189 rfl rfl rfl hX50_state ⟨Nat.le_of_ble_eq_true rfl, Nat.le_of_ble_eq_true rfl⟩) hc (q0 := 0) rfl rfl hl.1 rfl (Nat.le_of_ble_eq_true rfl) dX50_chain_279 ⟨Nat.le_refl 0, Nat.le_refl 0⟩) (fun u H locs hw hH => ?_)
                obtain ⟨f_stated_38, eu⟩ : ∃ z, z = u := ⟨_, rfl⟩
                subst eu
                have hH : kH (dC, dI) cl A s.heap H locs (wX50 ci ad d f_phrases f_axioms f_axiomCount f_triples f_tripleCount f_rules f_instances f_counts f_premises f_rows f_stated_38 f_marks f_broken f_text f_size f_sizes f_places) := hH
                refine lv_goto (tgt := 652) hx hb dX50_chain_282 (by decide) ?_
                exact k_vret X hH (f_stated_38) hw rfl dX50_chain_652
      · have hw := hw.2 (z_ne (rfl : z_17.toInt = _) (rfl : (5 : Int32).toInt = 5) c_32)
        by_cases c_39 : z_17 = 6
        · have hw := hw.1 (z_eq (rfl : z_17.toInt = _) (rfl : (6 : Int32).toInt = 6) c_39)
          refine lv_tableIn (off := 166) (tgt := 285) hx hb dX50_chain_119 (by rw [c_39]; decide) (by rw [c_39]; decide) (by rw [c_39]; rfl) (by decide) ?_
          refine lv_aload_n hx hb dX50_chain_285 rfl (lv_at hl 3 rfl) ?_
          refine lv_iload_n hx hb dX50_chain_286 rfl (lv_at hl 4 rfl) ?_
          refine lv_iconst (v := 0) hx hb dX50_chain_287 (by decide) ?_
          refine lv_iconst (v := 2) hx hb dX50_chain_288 (by decide) ?_
          refine k_i0 hH (k_runV (As := [.int x1, .int 0, .int 2]) (rest := []) X hH.1 hH.2.1 X.2.2.2 (walkX50_is hc (x1 := x1) (x2 := 0) (x3 := 2) (f_phrases := f_phrases) (f_axioms := f_axioms) (f_axiomCount := f_axiomCount) (f_triples := f_triples) (f_tripleCount := f_tripleCount) (f_rules := f_rules) (f_instances := f_instances) (f_counts := f_counts) (f_premises := f_premises) (f_rows := f_rows) (f_stated := f_stated) (f_marks := f_marks) (f_broken := f_broken) (f_text := f_text) (f_size := f_size) (f_sizes := f_sizes) (f_places := f_places) hw) (cwV 3 X.1.2.2.2.2 gX50_204 rfl rfl rfl hX50_is ⟨Nat.le_of_ble_eq_true rfl, Nat.le_of_ble_eq_true rfl⟩) hc (q0 := 0) rfl rfl hl.1 rfl (Nat.le_of_ble_eq_true rfl) dX50_chain_289 ⟨Nat.le_refl 0, Nat.le_refl 0⟩) (fun r_40 _ H locs hw hH => ?_)
          have hH : kH (dC, dI) cl A s.heap H locs (wX50 ci ad d f_phrases f_axioms f_axiomCount f_triples f_tripleCount f_rules f_instances f_counts f_premises f_rows f_stated f_marks f_broken f_text f_size f_sizes f_places) := hH
          refine lv_if_eq (tgt := 652) hx hb dX50_chain_292 (by decide) (fun c_41 => ?_) (fun c_41 => ?_)
          · have hw := hw.1 (z_eq (rfl : r_40.toInt = _) (rfl : (0 : Int32).toInt = 0) c_41)
            exact k_vret X hH (f_stated) hw rfl dX50_chain_652
          · have hw := hw.2 (z_neq (rfl : r_40.toInt = _) (rfl : (0 : Int32).toInt = 0) c_41)
            refine lv_iload_n hx hb dX50_chain_295 rfl (lv_at hl 5 rfl) ?_
            refine lv_if_eq (tgt := 652) hx hb dX50_chain_296 (by decide) (fun c_42 => ?_) (fun c_42 => ?_)
            · have hw := hw.1 (z_eq (rfl : x2.toInt = _) (rfl : (0 : Int32).toInt = 0) c_42)
              exact k_vret X hH (f_stated) hw rfl dX50_chain_652
            · have hw := hw.2 (z_neq (rfl : x2.toInt = _) (rfl : (0 : Int32).toInt = 0) c_42)
              refine lv_iload hx hb dX50_chain_299 (lv_at hl 7 rfl) ?_
              refine lv_iload hx hb dX50_chain_301 (lv_at hl 1 rfl) ?_
              refine lv_icmp_ne (tgt := 652) hx hb dX50_chain_303 (by decide) (fun c_43 => ?_) (fun c_43 => ?_)
              · have hw := hw.2 (z_ne (rfl : x4.toInt = _) (rfl : r_13.toInt = _) c_43)
                exact k_vret X hH (f_stated) hw rfl dX50_chain_652
              · have hw := hw.1 (z_eq (rfl : x4.toInt = _) (rfl : r_13.toInt = _) c_43)
                refine lv_aload_n hx hb dX50_chain_306 rfl (lv_at hl 3 rfl) ?_
                refine lv_iload_n hx hb dX50_chain_307 rfl (lv_at hl 4 rfl) ?_
                refine lv_bipush (v := 11) hx hb dX50_chain_308 (by decide) ?_
                refine lv_iload_n hx hb dX50_chain_310 rfl (lv_at hl 6 rfl) ?_
                refine lv_iload hx hb dX50_chain_311 (lv_at hl 0 rfl) ?_
                refine lv_iload hx hb dX50_chain_313 (lv_at hl 2 rfl) ?_
                refine k_v0 hH (k_runV (As := [.int x1, .int 11, .int x3, .int r_14, .int y0]) (rest := []) X hH.1 hH.2.1 X.2.2.2 (walkX50_state hc (x1 := x1) (x2 := 11) (x3 := x3) (x4 := r_14) (x5 := y0) (f_phrases := f_phrases) (f_axioms := f_axioms) (f_axiomCount := f_axiomCount) (f_triples := f_triples) (f_tripleCount := f_tripleCount) (f_rules := f_rules) (f_instances := f_instances) (f_counts := f_counts) (f_premises := f_premises) (f_rows := f_rows) (f_stated := f_stated) (f_marks := f_marks) (f_broken := f_broken) (f_text := f_text) (f_size := f_size) (f_sizes := f_sizes) (f_places := f_places) hw) (cwV 5 X.1.2.2.2.2 gX50_189 rfl rfl rfl hX50_state ⟨Nat.le_of_ble_eq_true rfl, Nat.le_of_ble_eq_true rfl⟩) hc (q0 := 0) rfl rfl hl.1 rfl (Nat.le_of_ble_eq_true rfl) dX50_chain_315 ⟨Nat.le_refl 0, Nat.le_refl 0⟩) (fun u H locs hw hH => ?_)
                obtain ⟨f_stated_44, eu⟩ : ∃ z, z = u := ⟨_, rfl⟩
                subst eu
                have hH : kH (dC, dI) cl A s.heap H locs (wX50 ci ad d f_phrases f_axioms f_axiomCount f_triples f_tripleCount f_rules f_instances f_counts f_premises f_rows f_stated_44 f_marks f_broken f_text f_size f_sizes f_places) := hH
                refine lv_goto (tgt := 652) hx hb dX50_chain_318 (by decide) ?_
                exact k_vret X hH (f_stated_44) hw rfl dX50_chain_652
        · have hw := hw.2 (z_ne (rfl : z_17.toInt = _) (rfl : (6 : Int32).toInt = 6) c_39)
          by_cases c_45 : z_17 = 7
          · have hw := hw.1 (z_eq (rfl : z_17.toInt = _) (rfl : (7 : Int32).toInt = 7) c_45)
            refine lv_tableIn (off := 202) (tgt := 321) hx hb dX50_chain_119 (by rw [c_45]; decide) (by rw [c_45]; decide) (by rw [c_45]; rfl) (by decide) ?_
            refine lv_aload_n hx hb dX50_chain_321 rfl (lv_at hl 3 rfl) ?_
            refine lv_iload_n hx hb dX50_chain_322 rfl (lv_at hl 4 rfl) ?_
            refine lv_iconst (v := 0) hx hb dX50_chain_323 (by decide) ?_
            refine lv_iconst (v := 3) hx hb dX50_chain_324 (by decide) ?_
            refine k_i0 hH (k_runV (As := [.int x1, .int 0, .int 3]) (rest := []) X hH.1 hH.2.1 X.2.2.2 (walkX50_is hc (x1 := x1) (x2 := 0) (x3 := 3) (f_phrases := f_phrases) (f_axioms := f_axioms) (f_axiomCount := f_axiomCount) (f_triples := f_triples) (f_tripleCount := f_tripleCount) (f_rules := f_rules) (f_instances := f_instances) (f_counts := f_counts) (f_premises := f_premises) (f_rows := f_rows) (f_stated := f_stated) (f_marks := f_marks) (f_broken := f_broken) (f_text := f_text) (f_size := f_size) (f_sizes := f_sizes) (f_places := f_places) hw) (cwV 3 X.1.2.2.2.2 gX50_204 rfl rfl rfl hX50_is ⟨Nat.le_of_ble_eq_true rfl, Nat.le_of_ble_eq_true rfl⟩) hc (q0 := 0) rfl rfl hl.1 rfl (Nat.le_of_ble_eq_true rfl) dX50_chain_325 ⟨Nat.le_refl 0, Nat.le_refl 0⟩) (fun r_46 _ H locs hw hH => ?_)
            have hH : kH (dC, dI) cl A s.heap H locs (wX50 ci ad d f_phrases f_axioms f_axiomCount f_triples f_tripleCount f_rules f_instances f_counts f_premises f_rows f_stated f_marks f_broken f_text f_size f_sizes f_places) := hH
            refine lv_if_eq (tgt := 652) hx hb dX50_chain_328 (by decide) (fun c_47 => ?_) (fun c_47 => ?_)
            · have hw := hw.1 (z_eq (rfl : r_46.toInt = _) (rfl : (0 : Int32).toInt = 0) c_47)
              exact k_vret X hH (f_stated) hw rfl dX50_chain_652
            · have hw := hw.2 (z_neq (rfl : r_46.toInt = _) (rfl : (0 : Int32).toInt = 0) c_47)
              refine lv_iload_n hx hb dX50_chain_331 rfl (lv_at hl 5 rfl) ?_
              refine lv_if_eq (tgt := 652) hx hb dX50_chain_332 (by decide) (fun c_48 => ?_) (fun c_48 => ?_)
              · have hw := hw.1 (z_eq (rfl : x2.toInt = _) (rfl : (0 : Int32).toInt = 0) c_48)
                exact k_vret X hH (f_stated) hw rfl dX50_chain_652
              · have hw := hw.2 (z_neq (rfl : x2.toInt = _) (rfl : (0 : Int32).toInt = 0) c_48)
                refine lv_iload hx hb dX50_chain_335 (lv_at hl 7 rfl) ?_
                refine lv_iload hx hb dX50_chain_337 (lv_at hl 1 rfl) ?_
                refine lv_icmp_ne (tgt := 652) hx hb dX50_chain_339 (by decide) (fun c_49 => ?_) (fun c_49 => ?_)
                · have hw := hw.2 (z_ne (rfl : x4.toInt = _) (rfl : r_13.toInt = _) c_49)
                  exact k_vret X hH (f_stated) hw rfl dX50_chain_652
                · have hw := hw.1 (z_eq (rfl : x4.toInt = _) (rfl : r_13.toInt = _) c_49)
                  refine lv_aload_n hx hb dX50_chain_342 rfl (lv_at hl 3 rfl) ?_
                  refine lv_iload_n hx hb dX50_chain_343 rfl (lv_at hl 4 rfl) ?_
                  refine lv_bipush (v := 11) hx hb dX50_chain_344 (by decide) ?_
                  refine lv_iload_n hx hb dX50_chain_346 rfl (lv_at hl 6 rfl) ?_
                  refine lv_iconst (v := 0) hx hb dX50_chain_347 (by decide) ?_
                  refine lv_iload hx hb dX50_chain_348 (lv_at hl 0 rfl) ?_
                  refine k_v0 hH (k_runV (As := [.int x1, .int 11, .int x3, .int 0, .int r_14]) (rest := []) X hH.1 hH.2.1 X.2.2.2 (walkX50_state hc (x1 := x1) (x2 := 11) (x3 := x3) (x4 := 0) (x5 := r_14) (f_phrases := f_phrases) (f_axioms := f_axioms) (f_axiomCount := f_axiomCount) (f_triples := f_triples) (f_tripleCount := f_tripleCount) (f_rules := f_rules) (f_instances := f_instances) (f_counts := f_counts) (f_premises := f_premises) (f_rows := f_rows) (f_stated := f_stated) (f_marks := f_marks) (f_broken := f_broken) (f_text := f_text) (f_size := f_size) (f_sizes := f_sizes) (f_places := f_places) hw) (cwV 5 X.1.2.2.2.2 gX50_189 rfl rfl rfl hX50_state ⟨Nat.le_of_ble_eq_true rfl, Nat.le_of_ble_eq_true rfl⟩) hc (q0 := 0) rfl rfl hl.1 rfl (Nat.le_of_ble_eq_true rfl) dX50_chain_350 ⟨Nat.le_refl 0, Nat.le_refl 0⟩) (fun u H locs hw hH => ?_)
                  obtain ⟨f_stated_50, eu⟩ : ∃ z, z = u := ⟨_, rfl⟩
                  subst eu
                  have hH : kH (dC, dI) cl A s.heap H locs (wX50 ci ad d f_phrases f_axioms f_axiomCount f_triples f_tripleCount f_rules f_instances f_counts f_premises f_rows f_stated_50 f_marks f_broken f_text f_size f_sizes f_places) := hH
                  refine lv_goto (tgt := 652) hx hb dX50_chain_353 (by decide) ?_
                  exact k_vret X hH (f_stated_50) hw rfl dX50_chain_652
          · have hw := hw.2 (z_ne (rfl : z_17.toInt = _) (rfl : (7 : Int32).toInt = 7) c_45)
            by_cases c_51 : z_17 = 8
            · have hw := hw.1 (z_eq (rfl : z_17.toInt = _) (rfl : (8 : Int32).toInt = 8) c_51)
              refine lv_tableIn (off := 237) (tgt := 356) hx hb dX50_chain_119 (by rw [c_51]; decide) (by rw [c_51]; decide) (by rw [c_51]; rfl) (by decide) ?_
              refine lv_aload_n hx hb dX50_chain_356 rfl (lv_at hl 3 rfl) ?_
              refine lv_iload_n hx hb dX50_chain_357 rfl (lv_at hl 4 rfl) ?_
              refine lv_iconst (v := 0) hx hb dX50_chain_358 (by decide) ?_
              refine lv_iconst (v := 4) hx hb dX50_chain_359 (by decide) ?_
              refine k_i0 hH (k_runV (As := [.int x1, .int 0, .int 4]) (rest := []) X hH.1 hH.2.1 X.2.2.2 (walkX50_is hc (x1 := x1) (x2 := 0) (x3 := 4) (f_phrases := f_phrases) (f_axioms := f_axioms) (f_axiomCount := f_axiomCount) (f_triples := f_triples) (f_tripleCount := f_tripleCount) (f_rules := f_rules) (f_instances := f_instances) (f_counts := f_counts) (f_premises := f_premises) (f_rows := f_rows) (f_stated := f_stated) (f_marks := f_marks) (f_broken := f_broken) (f_text := f_text) (f_size := f_size) (f_sizes := f_sizes) (f_places := f_places) hw) (cwV 3 X.1.2.2.2.2 gX50_204 rfl rfl rfl hX50_is ⟨Nat.le_of_ble_eq_true rfl, Nat.le_of_ble_eq_true rfl⟩) hc (q0 := 0) rfl rfl hl.1 rfl (Nat.le_of_ble_eq_true rfl) dX50_chain_360 ⟨Nat.le_refl 0, Nat.le_refl 0⟩) (fun r_52 _ H locs hw hH => ?_)
              have hH : kH (dC, dI) cl A s.heap H locs (wX50 ci ad d f_phrases f_axioms f_axiomCount f_triples f_tripleCount f_rules f_instances f_counts f_premises f_rows f_stated f_marks f_broken f_text f_size f_sizes f_places) := hH
              refine lv_if_eq (tgt := 652) hx hb dX50_chain_363 (by decide) (fun c_53 => ?_) (fun c_53 => ?_)
              · have hw := hw.1 (z_eq (rfl : r_52.toInt = _) (rfl : (0 : Int32).toInt = 0) c_53)
                exact k_vret X hH (f_stated) hw rfl dX50_chain_652
              · have hw := hw.2 (z_neq (rfl : r_52.toInt = _) (rfl : (0 : Int32).toInt = 0) c_53)
                refine lv_iload_n hx hb dX50_chain_366 rfl (lv_at hl 5 rfl) ?_
                refine lv_if_eq (tgt := 652) hx hb dX50_chain_367 (by decide) (fun c_54 => ?_) (fun c_54 => ?_)
                · have hw := hw.1 (z_eq (rfl : x2.toInt = _) (rfl : (0 : Int32).toInt = 0) c_54)
                  exact k_vret X hH (f_stated) hw rfl dX50_chain_652
                · have hw := hw.2 (z_neq (rfl : x2.toInt = _) (rfl : (0 : Int32).toInt = 0) c_54)
                  refine lv_iload hx hb dX50_chain_370 (lv_at hl 7 rfl) ?_
                  refine lv_iload hx hb dX50_chain_372 (lv_at hl 1 rfl) ?_
                  refine lv_icmp_ne (tgt := 652) hx hb dX50_chain_374 (by decide) (fun c_55 => ?_) (fun c_55 => ?_)
                  · have hw := hw.2 (z_ne (rfl : x4.toInt = _) (rfl : r_13.toInt = _) c_55)
                    exact k_vret X hH (f_stated) hw rfl dX50_chain_652
                  · have hw := hw.1 (z_eq (rfl : x4.toInt = _) (rfl : r_13.toInt = _) c_55)
                    refine lv_aload_n hx hb dX50_chain_377 rfl (lv_at hl 3 rfl) ?_
                    refine lv_iload_n hx hb dX50_chain_378 rfl (lv_at hl 4 rfl) ?_
                    refine lv_bipush (v := 11) hx hb dX50_chain_379 (by decide) ?_
                    refine lv_iload hx hb dX50_chain_381 (lv_at hl 2 rfl) ?_
                    refine lv_iconst (v := 0) hx hb dX50_chain_383 (by decide) ?_
                    refine lv_iload hx hb dX50_chain_384 (lv_at hl 0 rfl) ?_
                    refine k_v0 hH (k_runV (As := [.int x1, .int 11, .int y0, .int 0, .int r_14]) (rest := []) X hH.1 hH.2.1 X.2.2.2 (walkX50_state hc (x1 := x1) (x2 := 11) (x3 := y0) (x4 := 0) (x5 := r_14) (f_phrases := f_phrases) (f_axioms := f_axioms) (f_axiomCount := f_axiomCount) (f_triples := f_triples) (f_tripleCount := f_tripleCount) (f_rules := f_rules) (f_instances := f_instances) (f_counts := f_counts) (f_premises := f_premises) (f_rows := f_rows) (f_stated := f_stated) (f_marks := f_marks) (f_broken := f_broken) (f_text := f_text) (f_size := f_size) (f_sizes := f_sizes) (f_places := f_places) hw) (cwV 5 X.1.2.2.2.2 gX50_189 rfl rfl rfl hX50_state ⟨Nat.le_of_ble_eq_true rfl, Nat.le_of_ble_eq_true rfl⟩) hc (q0 := 0) rfl rfl hl.1 rfl (Nat.le_of_ble_eq_true rfl) dX50_chain_386 ⟨Nat.le_refl 0, Nat.le_refl 0⟩) (fun u H locs hw hH => ?_)
                    obtain ⟨f_stated_56, eu⟩ : ∃ z, z = u := ⟨_, rfl⟩
                    subst eu
                    have hH : kH (dC, dI) cl A s.heap H locs (wX50 ci ad d f_phrases f_axioms f_axiomCount f_triples f_tripleCount f_rules f_instances f_counts f_premises f_rows f_stated_56 f_marks f_broken f_text f_size f_sizes f_places) := hH
                    refine lv_goto (tgt := 652) hx hb dX50_chain_389 (by decide) ?_
                    exact k_vret X hH (f_stated_56) hw rfl dX50_chain_652
            · have hw := hw.2 (z_ne (rfl : z_17.toInt = _) (rfl : (8 : Int32).toInt = 8) c_51)
              by_cases c_57 : z_17 = 9
              · have hw := hw.1 (z_eq (rfl : z_17.toInt = _) (rfl : (9 : Int32).toInt = 9) c_57)
                refine lv_tableIn (off := 273) (tgt := 392) hx hb dX50_chain_119 (by rw [c_57]; decide) (by rw [c_57]; decide) (by rw [c_57]; rfl) (by decide) ?_
                refine lv_aload_n hx hb dX50_chain_392 rfl (lv_at hl 3 rfl) ?_
                refine lv_iload_n hx hb dX50_chain_393 rfl (lv_at hl 4 rfl) ?_
                refine lv_iconst (v := 0) hx hb dX50_chain_394 (by decide) ?_
                refine lv_bipush (v := 7) hx hb dX50_chain_395 (by decide) ?_
                refine k_i0 hH (k_runV (As := [.int x1, .int 0, .int 7]) (rest := []) X hH.1 hH.2.1 X.2.2.2 (walkX50_is hc (x1 := x1) (x2 := 0) (x3 := 7) (f_phrases := f_phrases) (f_axioms := f_axioms) (f_axiomCount := f_axiomCount) (f_triples := f_triples) (f_tripleCount := f_tripleCount) (f_rules := f_rules) (f_instances := f_instances) (f_counts := f_counts) (f_premises := f_premises) (f_rows := f_rows) (f_stated := f_stated) (f_marks := f_marks) (f_broken := f_broken) (f_text := f_text) (f_size := f_size) (f_sizes := f_sizes) (f_places := f_places) hw) (cwV 3 X.1.2.2.2.2 gX50_204 rfl rfl rfl hX50_is ⟨Nat.le_of_ble_eq_true rfl, Nat.le_of_ble_eq_true rfl⟩) hc (q0 := 0) rfl rfl hl.1 rfl (Nat.le_of_ble_eq_true rfl) dX50_chain_397 ⟨Nat.le_refl 0, Nat.le_refl 0⟩) (fun r_58 _ H locs hw hH => ?_)
                have hH : kH (dC, dI) cl A s.heap H locs (wX50 ci ad d f_phrases f_axioms f_axiomCount f_triples f_tripleCount f_rules f_instances f_counts f_premises f_rows f_stated f_marks f_broken f_text f_size f_sizes f_places) := hH
                refine lv_if_eq (tgt := 652) hx hb dX50_chain_400 (by decide) (fun c_59 => ?_) (fun c_59 => ?_)
                · have hw := hw.1 (z_eq (rfl : r_58.toInt = _) (rfl : (0 : Int32).toInt = 0) c_59)
                  exact k_vret X hH (f_stated) hw rfl dX50_chain_652
                · have hw := hw.2 (z_neq (rfl : r_58.toInt = _) (rfl : (0 : Int32).toInt = 0) c_59)
                  refine lv_iload_n hx hb dX50_chain_403 rfl (lv_at hl 5 rfl) ?_
                  refine lv_if_eq (tgt := 652) hx hb dX50_chain_404 (by decide) (fun c_60 => ?_) (fun c_60 => ?_)
                  · have hw := hw.1 (z_eq (rfl : x2.toInt = _) (rfl : (0 : Int32).toInt = 0) c_60)
                    exact k_vret X hH (f_stated) hw rfl dX50_chain_652
                  · have hw := hw.2 (z_neq (rfl : x2.toInt = _) (rfl : (0 : Int32).toInt = 0) c_60)
                    refine lv_iload hx hb dX50_chain_407 (lv_at hl 7 rfl) ?_
                    refine lv_iload hx hb dX50_chain_409 (lv_at hl 1 rfl) ?_
                    refine lv_icmp_ne (tgt := 652) hx hb dX50_chain_411 (by decide) (fun c_61 => ?_) (fun c_61 => ?_)
                    · have hw := hw.2 (z_ne (rfl : x4.toInt = _) (rfl : r_13.toInt = _) c_61)
                      exact k_vret X hH (f_stated) hw rfl dX50_chain_652
                    · have hw := hw.1 (z_eq (rfl : x4.toInt = _) (rfl : r_13.toInt = _) c_61)
                      refine lv_aload_n hx hb dX50_chain_414 rfl (lv_at hl 3 rfl) ?_
                      refine lv_iload_n hx hb dX50_chain_415 rfl (lv_at hl 4 rfl) ?_
                      refine lv_bipush (v := 11) hx hb dX50_chain_416 (by decide) ?_
                      refine lv_iload hx hb dX50_chain_418 (lv_at hl 2 rfl) ?_
                      refine lv_iload hx hb dX50_chain_420 (lv_at hl 7 rfl) ?_
                      refine lv_iload_n hx hb dX50_chain_422 rfl (lv_at hl 6 rfl) ?_
                      refine k_v0 hH (k_runV (As := [.int x1, .int 11, .int y0, .int x4, .int x3]) (rest := []) X hH.1 hH.2.1 X.2.2.2 (walkX50_state hc (x1 := x1) (x2 := 11) (x3 := y0) (x4 := x4) (x5 := x3) (f_phrases := f_phrases) (f_axioms := f_axioms) (f_axiomCount := f_axiomCount) (f_triples := f_triples) (f_tripleCount := f_tripleCount) (f_rules := f_rules) (f_instances := f_instances) (f_counts := f_counts) (f_premises := f_premises) (f_rows := f_rows) (f_stated := f_stated) (f_marks := f_marks) (f_broken := f_broken) (f_text := f_text) (f_size := f_size) (f_sizes := f_sizes) (f_places := f_places) hw) (cwV 5 X.1.2.2.2.2 gX50_189 rfl rfl rfl hX50_state ⟨Nat.le_of_ble_eq_true rfl, Nat.le_of_ble_eq_true rfl⟩) hc (q0 := 0) rfl rfl hl.1 rfl (Nat.le_of_ble_eq_true rfl) dX50_chain_423 ⟨Nat.le_refl 0, Nat.le_refl 0⟩) (fun u H locs hw hH => ?_)
                      obtain ⟨f_stated_62, eu⟩ : ∃ z, z = u := ⟨_, rfl⟩
                      subst eu
                      have hH : kH (dC, dI) cl A s.heap H locs (wX50 ci ad d f_phrases f_axioms f_axiomCount f_triples f_tripleCount f_rules f_instances f_counts f_premises f_rows f_stated_62 f_marks f_broken f_text f_size f_sizes f_places) := hH
                      refine lv_goto (tgt := 652) hx hb dX50_chain_426 (by decide) ?_
                      exact k_vret X hH (f_stated_62) hw rfl dX50_chain_652
              · have hw := hw.2 (z_ne (rfl : z_17.toInt = _) (rfl : (9 : Int32).toInt = 9) c_57)
                by_cases c_63 : z_17 = 10
                · have hw := hw.1 (z_eq (rfl : z_17.toInt = _) (rfl : (10 : Int32).toInt = 10) c_63)
                  refine lv_tableIn (off := 508) (tgt := 627) hx hb dX50_chain_119 (by rw [c_63]; decide) (by rw [c_63]; decide) (by rw [c_63]; rfl) (by decide) ?_
                  exact atX50_chain_627 hc X x1 x2 x3 x4 y0 f_stated hw _ _ ls hH (lv_sub hl [3, 4, 5, 6, 7, 2] rfl)
                · have hw := hw.2 (z_ne (rfl : z_17.toInt = _) (rfl : (10 : Int32).toInt = 10) c_63)
                  by_cases c_68 : z_17 = 11
                  · have hw := hw.1 (z_eq (rfl : z_17.toInt = _) (rfl : (11 : Int32).toInt = 11) c_68)
                    refine lv_tableIn (off := 310) (tgt := 429) hx hb dX50_chain_119 (by rw [c_68]; decide) (by rw [c_68]; decide) (by rw [c_68]; rfl) (by decide) ?_
                    refine lv_aload_n hx hb dX50_chain_429 rfl (lv_at hl 3 rfl) ?_
                    refine lv_iload_n hx hb dX50_chain_430 rfl (lv_at hl 4 rfl) ?_
                    refine lv_iconst (v := 0) hx hb dX50_chain_431 (by decide) ?_
                    refine lv_bipush (v := 8) hx hb dX50_chain_432 (by decide) ?_
                    refine k_i0 hH (k_runV (As := [.int x1, .int 0, .int 8]) (rest := []) X hH.1 hH.2.1 X.2.2.2 (walkX50_is hc (x1 := x1) (x2 := 0) (x3 := 8) (f_phrases := f_phrases) (f_axioms := f_axioms) (f_axiomCount := f_axiomCount) (f_triples := f_triples) (f_tripleCount := f_tripleCount) (f_rules := f_rules) (f_instances := f_instances) (f_counts := f_counts) (f_premises := f_premises) (f_rows := f_rows) (f_stated := f_stated) (f_marks := f_marks) (f_broken := f_broken) (f_text := f_text) (f_size := f_size) (f_sizes := f_sizes) (f_places := f_places) hw) (cwV 3 X.1.2.2.2.2 gX50_204 rfl rfl rfl hX50_is ⟨Nat.le_of_ble_eq_true rfl, Nat.le_of_ble_eq_true rfl⟩) hc (q0 := 0) rfl rfl hl.1 rfl (Nat.le_of_ble_eq_true rfl) dX50_chain_434 ⟨Nat.le_refl 0, Nat.le_refl 0⟩) (fun r_69 _ H locs hw hH => ?_)
                    have hH : kH (dC, dI) cl A s.heap H locs (wX50 ci ad d f_phrases f_axioms f_axiomCount f_triples f_tripleCount f_rules f_instances f_counts f_premises f_rows f_stated f_marks f_broken f_text f_size f_sizes f_places) := hH
                    refine lv_if_eq (tgt := 652) hx hb dX50_chain_437 (by decide) (fun c_70 => ?_) (fun c_70 => ?_)
                    · have hw := hw.1 (z_eq (rfl : r_69.toInt = _) (rfl : (0 : Int32).toInt = 0) c_70)
                      exact k_vret X hH (f_stated) hw rfl dX50_chain_652
                    · have hw := hw.2 (z_neq (rfl : r_69.toInt = _) (rfl : (0 : Int32).toInt = 0) c_70)
                      refine lv_iload_n hx hb dX50_chain_440 rfl (lv_at hl 5 rfl) ?_
                      refine lv_if_eq (tgt := 652) hx hb dX50_chain_441 (by decide) (fun c_71 => ?_) (fun c_71 => ?_)
                      · have hw := hw.1 (z_eq (rfl : x2.toInt = _) (rfl : (0 : Int32).toInt = 0) c_71)
                        exact k_vret X hH (f_stated) hw rfl dX50_chain_652
                      · have hw := hw.2 (z_neq (rfl : x2.toInt = _) (rfl : (0 : Int32).toInt = 0) c_71)
                        refine lv_iload hx hb dX50_chain_444 (lv_at hl 7 rfl) ?_
                        refine lv_iload hx hb dX50_chain_446 (lv_at hl 1 rfl) ?_
                        refine lv_icmp_ne (tgt := 652) hx hb dX50_chain_448 (by decide) (fun c_72 => ?_) (fun c_72 => ?_)
                        · have hw := hw.2 (z_ne (rfl : x4.toInt = _) (rfl : r_13.toInt = _) c_72)
                          exact k_vret X hH (f_stated) hw rfl dX50_chain_652
                        · have hw := hw.1 (z_eq (rfl : x4.toInt = _) (rfl : r_13.toInt = _) c_72)
                          refine lv_aload_n hx hb dX50_chain_451 rfl (lv_at hl 3 rfl) ?_
                          refine lv_iload_n hx hb dX50_chain_452 rfl (lv_at hl 4 rfl) ?_
                          refine lv_bipush (v := 11) hx hb dX50_chain_453 (by decide) ?_
                          refine lv_iload hx hb dX50_chain_455 (lv_at hl 2 rfl) ?_
                          refine lv_iload hx hb dX50_chain_457 (lv_at hl 0 rfl) ?_
                          refine lv_iload_n hx hb dX50_chain_459 rfl (lv_at hl 6 rfl) ?_
                          refine k_v0 hH (k_runV (As := [.int x1, .int 11, .int y0, .int r_14, .int x3]) (rest := []) X hH.1 hH.2.1 X.2.2.2 (walkX50_state hc (x1 := x1) (x2 := 11) (x3 := y0) (x4 := r_14) (x5 := x3) (f_phrases := f_phrases) (f_axioms := f_axioms) (f_axiomCount := f_axiomCount) (f_triples := f_triples) (f_tripleCount := f_tripleCount) (f_rules := f_rules) (f_instances := f_instances) (f_counts := f_counts) (f_premises := f_premises) (f_rows := f_rows) (f_stated := f_stated) (f_marks := f_marks) (f_broken := f_broken) (f_text := f_text) (f_size := f_size) (f_sizes := f_sizes) (f_places := f_places) hw) (cwV 5 X.1.2.2.2.2 gX50_189 rfl rfl rfl hX50_state ⟨Nat.le_of_ble_eq_true rfl, Nat.le_of_ble_eq_true rfl⟩) hc (q0 := 0) rfl rfl hl.1 rfl (Nat.le_of_ble_eq_true rfl) dX50_chain_460 ⟨Nat.le_refl 0, Nat.le_refl 0⟩) (fun u H locs hw hH => ?_)
                          obtain ⟨f_stated_73, eu⟩ : ∃ z, z = u := ⟨_, rfl⟩
                          subst eu
                          have hH : kH (dC, dI) cl A s.heap H locs (wX50 ci ad d f_phrases f_axioms f_axiomCount f_triples f_tripleCount f_rules f_instances f_counts f_premises f_rows f_stated_73 f_marks f_broken f_text f_size f_sizes f_places) := hH
                          refine lv_goto (tgt := 652) hx hb dX50_chain_463 (by decide) ?_
                          exact k_vret X hH (f_stated_73) hw rfl dX50_chain_652
                  · have hw := hw.2 (z_ne (rfl : z_17.toInt = _) (rfl : (11 : Int32).toInt = 11) c_68)
                    by_cases c_74 : z_17 = 12
                    · have hw := hw.1 (z_eq (rfl : z_17.toInt = _) (rfl : (12 : Int32).toInt = 12) c_74)
                      refine lv_tableIn (off := 442) (tgt := 561) hx hb dX50_chain_119 (by rw [c_74]; decide) (by rw [c_74]; decide) (by rw [c_74]; rfl) (by decide) ?_
                      refine lv_aload_n hx hb dX50_chain_561 rfl (lv_at hl 3 rfl) ?_
                      refine lv_iload_n hx hb dX50_chain_562 rfl (lv_at hl 4 rfl) ?_
                      refine lv_iconst (v := 0) hx hb dX50_chain_563 (by decide) ?_
                      refine lv_bipush (v := 11) hx hb dX50_chain_564 (by decide) ?_
                      refine k_i0 hH (k_runV (As := [.int x1, .int 0, .int 11]) (rest := []) X hH.1 hH.2.1 X.2.2.2 (walkX50_is hc (x1 := x1) (x2 := 0) (x3 := 11) (f_phrases := f_phrases) (f_axioms := f_axioms) (f_axiomCount := f_axiomCount) (f_triples := f_triples) (f_tripleCount := f_tripleCount) (f_rules := f_rules) (f_instances := f_instances) (f_counts := f_counts) (f_premises := f_premises) (f_rows := f_rows) (f_stated := f_stated) (f_marks := f_marks) (f_broken := f_broken) (f_text := f_text) (f_size := f_size) (f_sizes := f_sizes) (f_places := f_places) hw) (cwV 3 X.1.2.2.2.2 gX50_204 rfl rfl rfl hX50_is ⟨Nat.le_of_ble_eq_true rfl, Nat.le_of_ble_eq_true rfl⟩) hc (q0 := 0) rfl rfl hl.1 rfl (Nat.le_of_ble_eq_true rfl) dX50_chain_566 ⟨Nat.le_refl 0, Nat.le_refl 0⟩) (fun r_75 _ H locs hw hH => ?_)
                      have hH : kH (dC, dI) cl A s.heap H locs (wX50 ci ad d f_phrases f_axioms f_axiomCount f_triples f_tripleCount f_rules f_instances f_counts f_premises f_rows f_stated f_marks f_broken f_text f_size f_sizes f_places) := hH
                      refine lv_if_eq (tgt := 652) hx hb dX50_chain_569 (by decide) (fun c_76 => ?_) (fun c_76 => ?_)
                      · have hw := hw.1 (z_eq (rfl : r_75.toInt = _) (rfl : (0 : Int32).toInt = 0) c_76)
                        exact k_vret X hH (f_stated) hw rfl dX50_chain_652
                      · have hw := hw.2 (z_neq (rfl : r_75.toInt = _) (rfl : (0 : Int32).toInt = 0) c_76)
                        refine lv_iload hx hb dX50_chain_572 (lv_at hl 0 rfl) ?_
                        refine lv_iconst (v := 1) hx hb dX50_chain_574 (by decide) ?_
                        refine lv_icmp_ne (tgt := 652) hx hb dX50_chain_575 (by decide) (fun c_77 => ?_) (fun c_77 => ?_)
                        · have hw := hw.2 (z_ne (rfl : r_14.toInt = _) (rfl : (1 : Int32).toInt = 1) c_77)
                          exact k_vret X hH (f_stated) hw rfl dX50_chain_652
                        · have hw := hw.1 (z_eq (rfl : r_14.toInt = _) (rfl : (1 : Int32).toInt = 1) c_77)
                          refine lv_aload_n hx hb dX50_chain_578 rfl (lv_at hl 3 rfl) ?_
                          refine lv_iload_n hx hb dX50_chain_579 rfl (lv_at hl 4 rfl) ?_
                          refine lv_bipush (v := 11) hx hb dX50_chain_580 (by decide) ?_
                          refine lv_aload_n hx hb dX50_chain_582 rfl (lv_at hl 3 rfl) ?_
                          refine lv_iload_n hx hb dX50_chain_583 rfl (lv_at hl 4 rfl) ?_
                          refine lv_iconst (v := 0) hx hb dX50_chain_584 (by decide) ?_
                          refine lv_iconst (v := 3) hx hb dX50_chain_585 (by decide) ?_
                          refine k_i0 hH (k_runV (As := [.int x1, .int 0, .int 3]) (rest := [.int 11, .int x1, .ref (ad 0)]) X hH.1 hH.2.1 X.2.2.2 (walkX50_of hc (x1 := x1) (x2 := 0) (x3 := 3) (f_phrases := f_phrases) (f_axioms := f_axioms) (f_axiomCount := f_axiomCount) (f_triples := f_triples) (f_tripleCount := f_tripleCount) (f_rules := f_rules) (f_instances := f_instances) (f_counts := f_counts) (f_premises := f_premises) (f_rows := f_rows) (f_stated := f_stated) (f_marks := f_marks) (f_broken := f_broken) (f_text := f_text) (f_size := f_size) (f_sizes := f_sizes) (f_places := f_places) hw) (cwV 3 X.1.2.2.2.2 gX50_185 rfl rfl rfl hX50_of ⟨Nat.le_of_ble_eq_true rfl, Nat.le_of_ble_eq_true rfl⟩) hc (q0 := 0) rfl rfl hl.1 rfl (Nat.le_of_ble_eq_true rfl) dX50_chain_586 ⟨Nat.le_refl 0, Nat.le_refl 0⟩) (fun r_78 _ H locs hw hH => ?_)
                          have hH : kH (dC, dI) cl A s.heap H locs (wX50 ci ad d f_phrases f_axioms f_axiomCount f_triples f_tripleCount f_rules f_instances f_counts f_premises f_rows f_stated f_marks f_broken f_text f_size f_sizes f_places) := hH
                          refine lv_iconst (v := 1) hx hb dX50_chain_589 (by decide) ?_
                          refine lv_iload hx hb dX50_chain_590 (lv_at hl 1 rfl) ?_
                          refine k_v0 hH (k_runV (As := [.int x1, .int 11, .int r_78, .int 1, .int r_13]) (rest := []) X hH.1 hH.2.1 X.2.2.2 (walkX50_state hc (x1 := x1) (x2 := 11) (x3 := r_78) (x4 := 1) (x5 := r_13) (f_phrases := f_phrases) (f_axioms := f_axioms) (f_axiomCount := f_axiomCount) (f_triples := f_triples) (f_tripleCount := f_tripleCount) (f_rules := f_rules) (f_instances := f_instances) (f_counts := f_counts) (f_premises := f_premises) (f_rows := f_rows) (f_stated := f_stated) (f_marks := f_marks) (f_broken := f_broken) (f_text := f_text) (f_size := f_size) (f_sizes := f_sizes) (f_places := f_places) hw) (cwV 5 X.1.2.2.2.2 gX50_189 rfl rfl rfl hX50_state ⟨Nat.le_of_ble_eq_true rfl, Nat.le_of_ble_eq_true rfl⟩) hc (q0 := 0) rfl rfl hl.1 rfl (Nat.le_of_ble_eq_true rfl) dX50_chain_592 ⟨Nat.le_refl 0, Nat.le_refl 0⟩) (fun u H locs hw hH => ?_)
                          obtain ⟨f_stated_79, eu⟩ : ∃ z, z = u := ⟨_, rfl⟩
                          subst eu
                          have hH : kH (dC, dI) cl A s.heap H locs (wX50 ci ad d f_phrases f_axioms f_axiomCount f_triples f_tripleCount f_rules f_instances f_counts f_premises f_rows f_stated_79 f_marks f_broken f_text f_size f_sizes f_places) := hH
                          refine lv_goto (tgt := 652) hx hb dX50_chain_595 (by decide) ?_
                          exact k_vret X hH (f_stated_79) hw rfl dX50_chain_652
                    · have hw := hw.2 (z_ne (rfl : z_17.toInt = _) (rfl : (12 : Int32).toInt = 12) c_74)
                      by_cases c_80 : z_17 = 13
                      · have hw := hw.1 (z_eq (rfl : z_17.toInt = _) (rfl : (13 : Int32).toInt = 13) c_80)
                        refine lv_tableIn (off := 347) (tgt := 466) hx hb dX50_chain_119 (by rw [c_80]; decide) (by rw [c_80]; decide) (by rw [c_80]; rfl) (by decide) ?_
                        refine lv_aload_n hx hb dX50_chain_466 rfl (lv_at hl 3 rfl) ?_
                        refine lv_iload_n hx hb dX50_chain_467 rfl (lv_at hl 4 rfl) ?_
                        refine lv_iconst (v := 0) hx hb dX50_chain_468 (by decide) ?_
                        refine lv_bipush (v := 11) hx hb dX50_chain_469 (by decide) ?_
                        refine k_i0 hH (k_runV (As := [.int x1, .int 0, .int 11]) (rest := []) X hH.1 hH.2.1 X.2.2.2 (walkX50_is hc (x1 := x1) (x2 := 0) (x3 := 11) (f_phrases := f_phrases) (f_axioms := f_axioms) (f_axiomCount := f_axiomCount) (f_triples := f_triples) (f_tripleCount := f_tripleCount) (f_rules := f_rules) (f_instances := f_instances) (f_counts := f_counts) (f_premises := f_premises) (f_rows := f_rows) (f_stated := f_stated) (f_marks := f_marks) (f_broken := f_broken) (f_text := f_text) (f_size := f_size) (f_sizes := f_sizes) (f_places := f_places) hw) (cwV 3 X.1.2.2.2.2 gX50_204 rfl rfl rfl hX50_is ⟨Nat.le_of_ble_eq_true rfl, Nat.le_of_ble_eq_true rfl⟩) hc (q0 := 0) rfl rfl hl.1 rfl (Nat.le_of_ble_eq_true rfl) dX50_chain_471 ⟨Nat.le_refl 0, Nat.le_refl 0⟩) (fun r_81 _ H locs hw hH => ?_)
                        have hH : kH (dC, dI) cl A s.heap H locs (wX50 ci ad d f_phrases f_axioms f_axiomCount f_triples f_tripleCount f_rules f_instances f_counts f_premises f_rows f_stated f_marks f_broken f_text f_size f_sizes f_places) := hH
                        refine lv_if_eq (tgt := 652) hx hb dX50_chain_474 (by decide) (fun c_82 => ?_) (fun c_82 => ?_)
                        · have hw := hw.1 (z_eq (rfl : r_81.toInt = _) (rfl : (0 : Int32).toInt = 0) c_82)
                          exact k_vret X hH (f_stated) hw rfl dX50_chain_652
                        · have hw := hw.2 (z_neq (rfl : r_81.toInt = _) (rfl : (0 : Int32).toInt = 0) c_82)
                          refine lv_iload hx hb dX50_chain_477 (lv_at hl 0 rfl) ?_
                          refine lv_iconst (v := 1) hx hb dX50_chain_479 (by decide) ?_
                          refine lv_icmp_ne (tgt := 652) hx hb dX50_chain_480 (by decide) (fun c_83 => ?_) (fun c_83 => ?_)
                          · have hw := hw.2 (z_ne (rfl : r_14.toInt = _) (rfl : (1 : Int32).toInt = 1) c_83)
                            exact k_vret X hH (f_stated) hw rfl dX50_chain_652
                          · have hw := hw.1 (z_eq (rfl : r_14.toInt = _) (rfl : (1 : Int32).toInt = 1) c_83)
                            refine lv_iload_n hx hb dX50_chain_483 rfl (lv_at hl 5 rfl) ?_
                            refine lv_if_eq (tgt := 652) hx hb dX50_chain_484 (by decide) (fun c_84 => ?_) (fun c_84 => ?_)
                            · have hw := hw.1 (z_eq (rfl : x2.toInt = _) (rfl : (0 : Int32).toInt = 0) c_84)
                              exact k_vret X hH (f_stated) hw rfl dX50_chain_652
                            · have hw := hw.2 (z_neq (rfl : x2.toInt = _) (rfl : (0 : Int32).toInt = 0) c_84)
                              refine lv_iload_n hx hb dX50_chain_487 rfl (lv_at hl 6 rfl) ?_
                              refine lv_iload hx hb dX50_chain_488 (lv_at hl 1 rfl) ?_
                              refine lv_icmp_ne (tgt := 652) hx hb dX50_chain_490 (by decide) (fun c_85 => ?_) (fun c_85 => ?_)
                              · have hw := hw.2 (z_ne (rfl : x3.toInt = _) (rfl : r_13.toInt = _) c_85)
                                exact k_vret X hH (f_stated) hw rfl dX50_chain_652
                              · have hw := hw.1 (z_eq (rfl : x3.toInt = _) (rfl : r_13.toInt = _) c_85)
                                refine lv_aload_n hx hb dX50_chain_493 rfl (lv_at hl 3 rfl) ?_
                                refine lv_iload_n hx hb dX50_chain_494 rfl (lv_at hl 4 rfl) ?_
                                refine lv_bipush (v := 11) hx hb dX50_chain_495 (by decide) ?_
                                refine lv_aload_n hx hb dX50_chain_497 rfl (lv_at hl 3 rfl) ?_
                                refine lv_iload_n hx hb dX50_chain_498 rfl (lv_at hl 4 rfl) ?_
                                refine lv_iconst (v := 0) hx hb dX50_chain_499 (by decide) ?_
                                refine lv_iconst (v := 3) hx hb dX50_chain_500 (by decide) ?_
                                refine k_i0 hH (k_runV (As := [.int x1, .int 0, .int 3]) (rest := [.int 11, .int x1, .ref (ad 0)]) X hH.1 hH.2.1 X.2.2.2 (walkX50_of hc (x1 := x1) (x2 := 0) (x3 := 3) (f_phrases := f_phrases) (f_axioms := f_axioms) (f_axiomCount := f_axiomCount) (f_triples := f_triples) (f_tripleCount := f_tripleCount) (f_rules := f_rules) (f_instances := f_instances) (f_counts := f_counts) (f_premises := f_premises) (f_rows := f_rows) (f_stated := f_stated) (f_marks := f_marks) (f_broken := f_broken) (f_text := f_text) (f_size := f_size) (f_sizes := f_sizes) (f_places := f_places) hw) (cwV 3 X.1.2.2.2.2 gX50_185 rfl rfl rfl hX50_of ⟨Nat.le_of_ble_eq_true rfl, Nat.le_of_ble_eq_true rfl⟩) hc (q0 := 0) rfl rfl hl.1 rfl (Nat.le_of_ble_eq_true rfl) dX50_chain_501 ⟨Nat.le_refl 0, Nat.le_refl 0⟩) (fun r_86 _ H locs hw hH => ?_)
                                have hH : kH (dC, dI) cl A s.heap H locs (wX50 ci ad d f_phrases f_axioms f_axiomCount f_triples f_tripleCount f_rules f_instances f_counts f_premises f_rows f_stated f_marks f_broken f_text f_size f_sizes f_places) := hH
                                refine lv_iload hx hb dX50_chain_504 (lv_at hl 7 rfl) ?_
                                refine lv_iload hx hb dX50_chain_506 (lv_at hl 2 rfl) ?_
                                refine k_v0 hH (k_runV (As := [.int x1, .int 11, .int r_86, .int x4, .int y0]) (rest := []) X hH.1 hH.2.1 X.2.2.2 (walkX50_state hc (x1 := x1) (x2 := 11) (x3 := r_86) (x4 := x4) (x5 := y0) (f_phrases := f_phrases) (f_axioms := f_axioms) (f_axiomCount := f_axiomCount) (f_triples := f_triples) (f_tripleCount := f_tripleCount) (f_rules := f_rules) (f_instances := f_instances) (f_counts := f_counts) (f_premises := f_premises) (f_rows := f_rows) (f_stated := f_stated) (f_marks := f_marks) (f_broken := f_broken) (f_text := f_text) (f_size := f_size) (f_sizes := f_sizes) (f_places := f_places) hw) (cwV 5 X.1.2.2.2.2 gX50_189 rfl rfl rfl hX50_state ⟨Nat.le_of_ble_eq_true rfl, Nat.le_of_ble_eq_true rfl⟩) hc (q0 := 0) rfl rfl hl.1 rfl (Nat.le_of_ble_eq_true rfl) dX50_chain_508 ⟨Nat.le_refl 0, Nat.le_refl 0⟩) (fun u H locs hw hH => ?_)
                                obtain ⟨f_stated_87, eu⟩ : ∃ z, z = u := ⟨_, rfl⟩
                                subst eu
                                have hH : kH (dC, dI) cl A s.heap H locs (wX50 ci ad d f_phrases f_axioms f_axiomCount f_triples f_tripleCount f_rules f_instances f_counts f_premises f_rows f_stated_87 f_marks f_broken f_text f_size f_sizes f_places) := hH
                                refine lv_goto (tgt := 652) hx hb dX50_chain_511 (by decide) ?_
                                exact k_vret X hH (f_stated_87) hw rfl dX50_chain_652
                      · have hw := hw.2 (z_ne (rfl : z_17.toInt = _) (rfl : (13 : Int32).toInt = 13) c_80)
                        by_cases c_88 : z_17 = 14
                        · have hw := hw.1 (z_eq (rfl : z_17.toInt = _) (rfl : (14 : Int32).toInt = 14) c_88)
                          refine lv_tableIn (off := 508) (tgt := 627) hx hb dX50_chain_119 (by rw [c_88]; decide) (by rw [c_88]; decide) (by rw [c_88]; rfl) (by decide) ?_
                          exact atX50_chain_627 hc X x1 x2 x3 x4 y0 f_stated hw _ _ ls hH (lv_sub hl [3, 4, 5, 6, 7, 2] rfl)
                        · have hw := hw.2 (z_ne (rfl : z_17.toInt = _) (rfl : (14 : Int32).toInt = 14) c_88)
                          by_cases c_89 : z_17 = 15
                          · have hw := hw.1 (z_eq (rfl : z_17.toInt = _) (rfl : (15 : Int32).toInt = 15) c_89)
                            refine lv_tableIn (off := 508) (tgt := 627) hx hb dX50_chain_119 (by rw [c_89]; decide) (by rw [c_89]; decide) (by rw [c_89]; rfl) (by decide) ?_
                            exact atX50_chain_627 hc X x1 x2 x3 x4 y0 f_stated hw _ _ ls hH (lv_sub hl [3, 4, 5, 6, 7, 2] rfl)
                          · have hw := hw.2 (z_ne (rfl : z_17.toInt = _) (rfl : (15 : Int32).toInt = 15) c_89)
                            by_cases c_90 : z_17 = 16
                            · have hw := hw.1 (z_eq (rfl : z_17.toInt = _) (rfl : (16 : Int32).toInt = 16) c_90)
                              refine lv_tableIn (off := 395) (tgt := 514) hx hb dX50_chain_119 (by rw [c_90]; decide) (by rw [c_90]; decide) (by rw [c_90]; rfl) (by decide) ?_
                              refine lv_aload_n hx hb dX50_chain_514 rfl (lv_at hl 3 rfl) ?_
                              refine lv_iload_n hx hb dX50_chain_515 rfl (lv_at hl 4 rfl) ?_
                              refine lv_iconst (v := 0) hx hb dX50_chain_516 (by decide) ?_
                              refine lv_bipush (v := 10) hx hb dX50_chain_517 (by decide) ?_
                              refine k_i0 hH (k_runV (As := [.int x1, .int 0, .int 10]) (rest := []) X hH.1 hH.2.1 X.2.2.2 (walkX50_is hc (x1 := x1) (x2 := 0) (x3 := 10) (f_phrases := f_phrases) (f_axioms := f_axioms) (f_axiomCount := f_axiomCount) (f_triples := f_triples) (f_tripleCount := f_tripleCount) (f_rules := f_rules) (f_instances := f_instances) (f_counts := f_counts) (f_premises := f_premises) (f_rows := f_rows) (f_stated := f_stated) (f_marks := f_marks) (f_broken := f_broken) (f_text := f_text) (f_size := f_size) (f_sizes := f_sizes) (f_places := f_places) hw) (cwV 3 X.1.2.2.2.2 gX50_204 rfl rfl rfl hX50_is ⟨Nat.le_of_ble_eq_true rfl, Nat.le_of_ble_eq_true rfl⟩) hc (q0 := 0) rfl rfl hl.1 rfl (Nat.le_of_ble_eq_true rfl) dX50_chain_519 ⟨Nat.le_refl 0, Nat.le_refl 0⟩) (fun r_91 _ H locs hw hH => ?_)
                              have hH : kH (dC, dI) cl A s.heap H locs (wX50 ci ad d f_phrases f_axioms f_axiomCount f_triples f_tripleCount f_rules f_instances f_counts f_premises f_rows f_stated f_marks f_broken f_text f_size f_sizes f_places) := hH
                              refine lv_if_eq (tgt := 652) hx hb dX50_chain_522 (by decide) (fun c_92 => ?_) (fun c_92 => ?_)
                              · have hw := hw.1 (z_eq (rfl : r_91.toInt = _) (rfl : (0 : Int32).toInt = 0) c_92)
                                exact k_vret X hH (f_stated) hw rfl dX50_chain_652
                              · have hw := hw.2 (z_neq (rfl : r_91.toInt = _) (rfl : (0 : Int32).toInt = 0) c_92)
                                refine lv_iload_n hx hb dX50_chain_525 rfl (lv_at hl 5 rfl) ?_
                                refine lv_if_eq (tgt := 652) hx hb dX50_chain_526 (by decide) (fun c_93 => ?_) (fun c_93 => ?_)
                                · have hw := hw.1 (z_eq (rfl : x2.toInt = _) (rfl : (0 : Int32).toInt = 0) c_93)
                                  exact k_vret X hH (f_stated) hw rfl dX50_chain_652
                                · have hw := hw.2 (z_neq (rfl : x2.toInt = _) (rfl : (0 : Int32).toInt = 0) c_93)
                                  refine lv_iload hx hb dX50_chain_529 (lv_at hl 7 rfl) ?_
                                  refine lv_iconst (v := 1) hx hb dX50_chain_531 (by decide) ?_
                                  refine lv_icmp_ne (tgt := 652) hx hb dX50_chain_532 (by decide) (fun c_94 => ?_) (fun c_94 => ?_)
                                  · have hw := hw.2 (z_ne (rfl : x4.toInt = _) (rfl : (1 : Int32).toInt = 1) c_94)
                                    exact k_vret X hH (f_stated) hw rfl dX50_chain_652
                                  · have hw := hw.1 (z_eq (rfl : x4.toInt = _) (rfl : (1 : Int32).toInt = 1) c_94)
                                    refine lv_iload_n hx hb dX50_chain_535 rfl (lv_at hl 6 rfl) ?_
                                    refine lv_iload hx hb dX50_chain_536 (lv_at hl 1 rfl) ?_
                                    refine lv_icmp_ne (tgt := 652) hx hb dX50_chain_538 (by decide) (fun c_95 => ?_) (fun c_95 => ?_)
                                    · have hw := hw.2 (z_ne (rfl : x3.toInt = _) (rfl : r_13.toInt = _) c_95)
                                      exact k_vret X hH (f_stated) hw rfl dX50_chain_652
                                    · have hw := hw.1 (z_eq (rfl : x3.toInt = _) (rfl : r_13.toInt = _) c_95)
                                      refine lv_iload hx hb dX50_chain_541 (lv_at hl 2 rfl) ?_
                                      refine lv_iload hx hb dX50_chain_543 (lv_at hl 0 rfl) ?_
                                      refine lv_icmp_ne (tgt := 652) hx hb dX50_chain_545 (by decide) (fun c_96 => ?_) (fun c_96 => ?_)
                                      · have hw := hw.2 (z_ne (rfl : y0.toInt = _) (rfl : r_14.toInt = _) c_96)
                                        exact k_vret X hH (f_stated) hw rfl dX50_chain_652
                                      · have hw := hw.1 (z_eq (rfl : y0.toInt = _) (rfl : r_14.toInt = _) c_96)
                                        refine lv_aload_n hx hb dX50_chain_548 rfl (lv_at hl 3 rfl) ?_
                                        refine lv_iload_n hx hb dX50_chain_549 rfl (lv_at hl 4 rfl) ?_
                                        refine lv_bipush (v := 12) hx hb dX50_chain_550 (by decide) ?_
                                        refine lv_iconst (v := 0) hx hb dX50_chain_552 (by decide) ?_
                                        refine lv_iconst (v := 0) hx hb dX50_chain_553 (by decide) ?_
                                        refine lv_iconst (v := 0) hx hb dX50_chain_554 (by decide) ?_
                                        refine k_v0 hH (k_runV (As := [.int x1, .int 12, .int 0, .int 0, .int 0]) (rest := []) X hH.1 hH.2.1 X.2.2.2 (walkX50_state hc (x1 := x1) (x2 := 12) (x3 := 0) (x4 := 0) (x5 := 0) (f_phrases := f_phrases) (f_axioms := f_axioms) (f_axiomCount := f_axiomCount) (f_triples := f_triples) (f_tripleCount := f_tripleCount) (f_rules := f_rules) (f_instances := f_instances) (f_counts := f_counts) (f_premises := f_premises) (f_rows := f_rows) (f_stated := f_stated) (f_marks := f_marks) (f_broken := f_broken) (f_text := f_text) (f_size := f_size) (f_sizes := f_sizes) (f_places := f_places) hw) (cwV 5 X.1.2.2.2.2 gX50_189 rfl rfl rfl hX50_state ⟨Nat.le_of_ble_eq_true rfl, Nat.le_of_ble_eq_true rfl⟩) hc (q0 := 0) rfl rfl hl.1 rfl (Nat.le_of_ble_eq_true rfl) dX50_chain_555 ⟨Nat.le_refl 0, Nat.le_refl 0⟩) (fun u H locs hw hH => ?_)
                                        obtain ⟨f_stated_97, eu⟩ : ∃ z, z = u := ⟨_, rfl⟩
                                        subst eu
                                        have hH : kH (dC, dI) cl A s.heap H locs (wX50 ci ad d f_phrases f_axioms f_axiomCount f_triples f_tripleCount f_rules f_instances f_counts f_premises f_rows f_stated_97 f_marks f_broken f_text f_size f_sizes f_places) := hH
                                        refine lv_goto (tgt := 652) hx hb dX50_chain_558 (by decide) ?_
                                        exact k_vret X hH (f_stated_97) hw rfl dX50_chain_652
                            · have hw := hw.2 (z_ne (rfl : z_17.toInt = _) (rfl : (16 : Int32).toInt = 16) c_90)
                              by_cases c_98 : z_17 = 17
                              · have hw := hw.1 (z_eq (rfl : z_17.toInt = _) (rfl : (17 : Int32).toInt = 17) c_98)
                                refine lv_tableIn (off := 479) (tgt := 598) hx hb dX50_chain_119 (by rw [c_98]; decide) (by rw [c_98]; decide) (by rw [c_98]; rfl) (by decide) ?_
                                refine lv_aload_n hx hb dX50_chain_598 rfl (lv_at hl 3 rfl) ?_
                                refine lv_iload_n hx hb dX50_chain_599 rfl (lv_at hl 4 rfl) ?_
                                refine lv_iconst (v := 0) hx hb dX50_chain_600 (by decide) ?_
                                refine lv_bipush (v := 12) hx hb dX50_chain_601 (by decide) ?_
                                refine k_i0 hH (k_runV (As := [.int x1, .int 0, .int 12]) (rest := []) X hH.1 hH.2.1 X.2.2.2 (walkX50_is hc (x1 := x1) (x2 := 0) (x3 := 12) (f_phrases := f_phrases) (f_axioms := f_axioms) (f_axiomCount := f_axiomCount) (f_triples := f_triples) (f_tripleCount := f_tripleCount) (f_rules := f_rules) (f_instances := f_instances) (f_counts := f_counts) (f_premises := f_premises) (f_rows := f_rows) (f_stated := f_stated) (f_marks := f_marks) (f_broken := f_broken) (f_text := f_text) (f_size := f_size) (f_sizes := f_sizes) (f_places := f_places) hw) (cwV 3 X.1.2.2.2.2 gX50_204 rfl rfl rfl hX50_is ⟨Nat.le_of_ble_eq_true rfl, Nat.le_of_ble_eq_true rfl⟩) hc (q0 := 0) rfl rfl hl.1 rfl (Nat.le_of_ble_eq_true rfl) dX50_chain_603 ⟨Nat.le_refl 0, Nat.le_refl 0⟩) (fun r_99 _ H locs hw hH => ?_)
                                have hH : kH (dC, dI) cl A s.heap H locs (wX50 ci ad d f_phrases f_axioms f_axiomCount f_triples f_tripleCount f_rules f_instances f_counts f_premises f_rows f_stated f_marks f_broken f_text f_size f_sizes f_places) := hH
                                refine lv_if_eq (tgt := 652) hx hb dX50_chain_606 (by decide) (fun c_100 => ?_) (fun c_100 => ?_)
                                · have hw := hw.1 (z_eq (rfl : r_99.toInt = _) (rfl : (0 : Int32).toInt = 0) c_100)
                                  exact k_vret X hH (f_stated) hw rfl dX50_chain_652
                                · have hw := hw.2 (z_neq (rfl : r_99.toInt = _) (rfl : (0 : Int32).toInt = 0) c_100)
                                  refine lv_aload_n hx hb dX50_chain_609 rfl (lv_at hl 3 rfl) ?_
                                  refine lv_aload_n hx hb dX50_chain_610 rfl (lv_at hl 3 rfl) ?_
                                  refine k_get X hH in_X50 0 rfl hc 3 (by decide) q6287 rfl dX50_chain_611 ?_
                                  refine lv_aload_n hx hb dX50_chain_614 rfl (lv_at hl 3 rfl) ?_
                                  refine k_get X hH in_X50 0 rfl hc 6 (by decide) q6290 rfl dX50_chain_615 ?_
                                  refine lv_iload_n hx hb dX50_chain_618 rfl (lv_at hl 4 rfl) ?_
                                  refine k_iald X hH 5 4 rfl rfl (z_in (rfl : x1.toInt = _) hq_15) dX50_chain_619 ?_
                                  have e_101 := z_ld (f := f_instances) (rfl : x1.toInt = _) hq_15.1
                                  refine lv_iload_n hx hb dX50_chain_620 rfl (lv_at hl 4 rfl) ?_
                                  refine k_v0 hH (k_runV (As := [.ref (ad 3), .int (f_instances x1.toNatClampNeg), .int x1]) (rest := []) X hH.1 hH.2.1 X.2.2.2 (walkX50_copy_triples hc (x2 := (f_instances x1.toNatClampNeg)) (x3 := x1) (f_phrases := f_phrases) (f_axioms := f_axioms) (f_axiomCount := f_axiomCount) (f_triples := f_triples) (f_tripleCount := f_tripleCount) (f_rules := f_rules) (f_instances := f_instances) (f_counts := f_counts) (f_premises := f_premises) (f_rows := f_rows) (f_stated := f_stated) (f_marks := f_marks) (f_broken := f_broken) (f_text := f_text) (f_size := f_size) (f_sizes := f_sizes) (f_places := f_places) (by rw [show (f_instances x1.toNatClampNeg : Int32).toInt = _ from e_101]; exact hw)) (cwV 3 X.1.2.2.2.2 gX50_197 rfl rfl rfl hX50_copy ⟨Nat.le_of_ble_eq_true rfl, Nat.le_of_ble_eq_true rfl⟩) hc (q0 := 0) rfl rfl hl.1 rfl (Nat.le_of_ble_eq_true rfl) dX50_chain_621 ⟨Nat.le_refl 0, Nat.le_refl 0⟩) (fun u H locs hw hH => ?_)
                                  obtain ⟨f_stated_102, eu⟩ : ∃ z, z = u := ⟨_, rfl⟩
                                  subst eu
                                  have hH : kH (dC, dI) cl A s.heap H locs (wX50 ci ad d f_phrases f_axioms f_axiomCount f_triples f_tripleCount f_rules f_instances f_counts f_premises f_rows f_stated_102 f_marks f_broken f_text f_size f_sizes f_places) := hH
                                  refine lv_goto (tgt := 652) hx hb dX50_chain_624 (by decide) ?_
                                  exact k_vret X hH (f_stated_102) hw rfl dX50_chain_652
                              · have hw := hw.2 (z_ne (rfl : z_17.toInt = _) (rfl : (17 : Int32).toInt = 17) c_98)
                                refine lv_tableOut (tgt := 627) hx hb dX50_chain_119 (by have qc_18 := k_ne c_18 (k := 3) rfl; have qc_31 := k_ne c_31 (k := 4) rfl; have qc_32 := k_ne c_32 (k := 5) rfl; have qc_39 := k_ne c_39 (k := 6) rfl; have qc_45 := k_ne c_45 (k := 7) rfl; have qc_51 := k_ne c_51 (k := 8) rfl; have qc_57 := k_ne c_57 (k := 9) rfl; have qc_63 := k_ne c_63 (k := 10) rfl; have qc_68 := k_ne c_68 (k := 11) rfl; have qc_74 := k_ne c_74 (k := 12) rfl; have qc_80 := k_ne c_80 (k := 13) rfl; have qc_88 := k_ne c_88 (k := 14) rfl; have qc_89 := k_ne c_89 (k := 15) rfl; have qc_90 := k_ne c_90 (k := 16) rfl; have qc_98 := k_ne c_98 (k := 17) rfl; omega) (by decide) ?_
                                exact atX50_chain_627 hc X x1 x2 x3 x4 y0 f_stated hw _ _ ls hH (lv_sub hl [3, 4, 5, 6, 7, 2] rfl)
set_option maxHeartbeats 4000000 in
theorem atX50_chain_70 {p : Program} {l : Launch} {e : Env} {s : State} {m : MethodId} {args : Array Value} {below : List Frame} {meth : Method} {c : Code} {dC : Nat → ClassId} {dI : Nat → Nat → Nat} {cl : List vw_C} {ci : Nat} (hc : cl[ci]? = some (RX50, TX50, 17)) {ad : Nat → Nat} {d : Nat → ClassId} {A : Nat → Prop} {post : (Int → Int) → Prop} {f_phrases : Nat → Int64} {f_axioms : Nat → Int32} {f_axiomCount : Int32} {f_triples : Nat → Int32} {f_tripleCount : Int32} {f_rules : Nat → Int32} {f_instances : Nat → Int32} {f_counts : Nat → Int32} {f_premises : Nat → Int32} {f_rows : Int32} {f_marks : Nat → Int32} {f_broken : Int32} {f_text : Nat → Int32} {f_size : Int32} {f_sizes : Nat → Int32} {f_places : Nat → Int32} (X : kX p s m args meth c cX50_chain 9 RX50 none (dC, dI) cl (tX50 d))     :
    ∀ (x1 : Int32) (x2 : Int32) (x3 : Int32) (y0 : Int32) (f_stated : Nat → Int32), wX50_chain_70 post x1.toInt x2.toInt x3.toInt y0.toInt (zF f_triples) (zF f_rules) (zF f_instances) (zF f_counts) (zF f_premises) (zF f_stated) → ∀ (H : Heap) (locs : List Loc) (ls : Array Slot), kH (dC, dI) cl A s.heap H locs (wX50 ci ad d f_phrases f_axioms f_axiomCount f_triples f_tripleCount f_rules f_instances f_counts f_premises f_rows f_stated f_marks f_broken f_text f_size f_sizes f_places) → lv_has ls 9 [(0, .ref (ad 0)), (1, .int x1), (2, .int x2), (3, .int x3)] → W p l e ({ frames := 3, cells := 0, slots := 0, locals := 74 } : Room) s m args below meth c H locs 0 0 (MQ below (va_Qv (fun (u : (Nat → Int32)) => post (zF (u))) (kB (dC, dI) cl (tX50 d) A (fun u : (Nat → Int32) => (wX50 ci ad d f_phrases f_axioms f_axiomCount f_triples f_tripleCount f_rules f_instances f_counts f_premises f_rows (u) f_marks f_broken f_text f_size f_sizes f_places))) A) args s 0 0 A) (F0 m 70 ls [.int y0]) := by
  have hx := X.1.1
  have hb := X.1.2.1
  intro x1 x2 x3 y0 f_stated hw H locs ls hH hl
  unfold wX50_chain_70 at hw
  refine lv_istore (lv' := [(4, .int y0), (0, .ref (ad 0)), (1, .int x1), (2, .int x2), (3, .int x3)]) hx hb dX50_chain_70 hl (by decide) rfl (fun ls hl => ?_)
  refine lv_aload_n hx hb dX50_chain_72 rfl (lv_at hl 1 rfl) ?_
  refine k_get X hH in_X50 0 rfl hc 7 (by decide) q6291 rfl dX50_chain_73 ?_
  refine lv_iload_n hx hb dX50_chain_76 rfl (lv_at hl 2 rfl) ?_
  have hq_10 := hw.1
  have hw := hw.2
  refine k_iald X hH 6 5 rfl rfl (z_in (rfl : x1.toInt = _) hq_10) dX50_chain_77 ?_
  have e_11 := z_ld (f := f_counts) (rfl : x1.toInt = _) hq_10.1
  refine lv_iconst (v := 1) hx hb dX50_chain_78 (by decide) ?_
  refine lv_icmp_le (tgt := 92) hx hb dX50_chain_79 (by decide) (fun c_12 => ?_) (fun c_12 => ?_)
  · have hw := hw.1 (z_le e_11 (rfl : (1 : Int32).toInt = 1) c_12)
    refine lv_iconst (v := 0) hx hb dX50_chain_92 (by decide) ?_
    exact atX50_chain_93 hc X x1 x2 x3 y0 0 f_stated hw _ _ ls hH (lv_sub hl [1, 2, 3, 4, 0] rfl)
  · have hw := hw.2 (z_nle e_11 (rfl : (1 : Int32).toInt = 1) c_12)
    refine lv_aload_n hx hb dX50_chain_82 rfl (lv_at hl 1 rfl) ?_
    refine lv_iload_n hx hb dX50_chain_83 rfl (lv_at hl 2 rfl) ?_
    refine lv_iconst (v := 1) hx hb dX50_chain_84 (by decide) ?_
    refine lv_iconst (v := 3) hx hb dX50_chain_85 (by decide) ?_
    refine k_i0 hH (k_runV (As := [.int x1, .int 1, .int 3]) (rest := []) X hH.1 hH.2.1 X.2.2.2 (walkX50_of hc (x1 := x1) (x2 := 1) (x3 := 3) (f_phrases := f_phrases) (f_axioms := f_axioms) (f_axiomCount := f_axiomCount) (f_triples := f_triples) (f_tripleCount := f_tripleCount) (f_rules := f_rules) (f_instances := f_instances) (f_counts := f_counts) (f_premises := f_premises) (f_rows := f_rows) (f_stated := f_stated) (f_marks := f_marks) (f_broken := f_broken) (f_text := f_text) (f_size := f_size) (f_sizes := f_sizes) (f_places := f_places) hw) (cwV 3 X.1.2.2.2.2 gX50_185 rfl rfl rfl hX50_of ⟨Nat.le_of_ble_eq_true rfl, Nat.le_of_ble_eq_true rfl⟩) hc (q0 := 0) rfl rfl hl.1 rfl (Nat.le_of_ble_eq_true rfl) dX50_chain_86 ⟨Nat.le_refl 0, Nat.le_refl 0⟩) (fun r_103 _ H locs hw hH => ?_)
    have hH : kH (dC, dI) cl A s.heap H locs (wX50 ci ad d f_phrases f_axioms f_axiomCount f_triples f_tripleCount f_rules f_instances f_counts f_premises f_rows f_stated f_marks f_broken f_text f_size f_sizes f_places) := hH
    refine lv_goto (tgt := 93) hx hb dX50_chain_89 (by decide) ?_
    exact atX50_chain_93 hc X x1 x2 x3 y0 r_103 f_stated hw _ _ ls hH (lv_sub hl [1, 2, 3, 4, 0] rfl)
set_option maxHeartbeats 4000000 in
theorem atX50_chain_48 {p : Program} {l : Launch} {e : Env} {s : State} {m : MethodId} {args : Array Value} {below : List Frame} {meth : Method} {c : Code} {dC : Nat → ClassId} {dI : Nat → Nat → Nat} {cl : List vw_C} {ci : Nat} (hc : cl[ci]? = some (RX50, TX50, 17)) {ad : Nat → Nat} {d : Nat → ClassId} {A : Nat → Prop} {post : (Int → Int) → Prop} {f_phrases : Nat → Int64} {f_axioms : Nat → Int32} {f_axiomCount : Int32} {f_triples : Nat → Int32} {f_tripleCount : Int32} {f_rules : Nat → Int32} {f_instances : Nat → Int32} {f_counts : Nat → Int32} {f_premises : Nat → Int32} {f_rows : Int32} {f_marks : Nat → Int32} {f_broken : Int32} {f_text : Nat → Int32} {f_size : Int32} {f_sizes : Nat → Int32} {f_places : Nat → Int32} (X : kX p s m args meth c cX50_chain 9 RX50 none (dC, dI) cl (tX50 d))     :
    ∀ (x1 : Int32) (x2 : Int32) (y0 : Int32) (f_stated : Nat → Int32), wX50_chain_48 post x1.toInt x2.toInt y0.toInt (zF f_triples) (zF f_rules) (zF f_instances) (zF f_counts) (zF f_premises) (zF f_stated) → ∀ (H : Heap) (locs : List Loc) (ls : Array Slot), kH (dC, dI) cl A s.heap H locs (wX50 ci ad d f_phrases f_axioms f_axiomCount f_triples f_tripleCount f_rules f_instances f_counts f_premises f_rows f_stated f_marks f_broken f_text f_size f_sizes f_places) → lv_has ls 9 [(0, .ref (ad 0)), (1, .int x1), (2, .int x2)] → W p l e ({ frames := 3, cells := 0, slots := 0, locals := 74 } : Room) s m args below meth c H locs 0 0 (MQ below (va_Qv (fun (u : (Nat → Int32)) => post (zF (u))) (kB (dC, dI) cl (tX50 d) A (fun u : (Nat → Int32) => (wX50 ci ad d f_phrases f_axioms f_axiomCount f_triples f_tripleCount f_rules f_instances f_counts f_premises f_rows (u) f_marks f_broken f_text f_size f_sizes f_places))) A) args s 0 0 A) (F0 m 48 ls [.int y0]) := by
  have hx := X.1.1
  have hb := X.1.2.1
  intro x1 x2 y0 f_stated hw H locs ls hH hl
  unfold wX50_chain_48 at hw
  refine lv_istore_n (lv' := [(3, .int y0), (0, .ref (ad 0)), (1, .int x1), (2, .int x2)]) hx hb dX50_chain_48 rfl hl (by decide) rfl (fun ls hl => ?_)
  refine lv_aload_n hx hb dX50_chain_49 rfl (lv_at hl 1 rfl) ?_
  refine k_get X hH in_X50 0 rfl hc 7 (by decide) q6291 rfl dX50_chain_50 ?_
  refine lv_iload_n hx hb dX50_chain_53 rfl (lv_at hl 2 rfl) ?_
  have hq_7 := hw.1
  have hw := hw.2
  refine k_iald X hH 6 5 rfl rfl (z_in (rfl : x1.toInt = _) hq_7) dX50_chain_54 ?_
  have e_8 := z_ld (f := f_counts) (rfl : x1.toInt = _) hq_7.1
  refine lv_iconst (v := 1) hx hb dX50_chain_55 (by decide) ?_
  refine lv_icmp_le (tgt := 69) hx hb dX50_chain_56 (by decide) (fun c_9 => ?_) (fun c_9 => ?_)
  · have hw := hw.1 (z_le e_8 (rfl : (1 : Int32).toInt = 1) c_9)
    refine lv_iconst (v := 0) hx hb dX50_chain_69 (by decide) ?_
    exact atX50_chain_70 hc X x1 x2 y0 0 f_stated hw _ _ ls hH (lv_sub hl [1, 2, 3, 0] rfl)
  · have hw := hw.2 (z_nle e_8 (rfl : (1 : Int32).toInt = 1) c_9)
    refine lv_aload_n hx hb dX50_chain_59 rfl (lv_at hl 1 rfl) ?_
    refine lv_iload_n hx hb dX50_chain_60 rfl (lv_at hl 2 rfl) ?_
    refine lv_iconst (v := 1) hx hb dX50_chain_61 (by decide) ?_
    refine lv_iconst (v := 2) hx hb dX50_chain_62 (by decide) ?_
    refine k_i0 hH (k_runV (As := [.int x1, .int 1, .int 2]) (rest := []) X hH.1 hH.2.1 X.2.2.2 (walkX50_of hc (x1 := x1) (x2 := 1) (x3 := 2) (f_phrases := f_phrases) (f_axioms := f_axioms) (f_axiomCount := f_axiomCount) (f_triples := f_triples) (f_tripleCount := f_tripleCount) (f_rules := f_rules) (f_instances := f_instances) (f_counts := f_counts) (f_premises := f_premises) (f_rows := f_rows) (f_stated := f_stated) (f_marks := f_marks) (f_broken := f_broken) (f_text := f_text) (f_size := f_size) (f_sizes := f_sizes) (f_places := f_places) hw) (cwV 3 X.1.2.2.2.2 gX50_185 rfl rfl rfl hX50_of ⟨Nat.le_of_ble_eq_true rfl, Nat.le_of_ble_eq_true rfl⟩) hc (q0 := 0) rfl rfl hl.1 rfl (Nat.le_of_ble_eq_true rfl) dX50_chain_63 ⟨Nat.le_refl 0, Nat.le_refl 0⟩) (fun r_104 _ H locs hw hH => ?_)
    have hH : kH (dC, dI) cl A s.heap H locs (wX50 ci ad d f_phrases f_axioms f_axiomCount f_triples f_tripleCount f_rules f_instances f_counts f_premises f_rows f_stated f_marks f_broken f_text f_size f_sizes f_places) := hH
    refine lv_goto (tgt := 70) hx hb dX50_chain_66 (by decide) ?_
    exact atX50_chain_70 hc X x1 x2 y0 r_104 f_stated hw _ _ ls hH (lv_sub hl [1, 2, 3, 0] rfl)
set_option maxHeartbeats 4000000 in
theorem atX50_chain_26 {p : Program} {l : Launch} {e : Env} {s : State} {m : MethodId} {args : Array Value} {below : List Frame} {meth : Method} {c : Code} {dC : Nat → ClassId} {dI : Nat → Nat → Nat} {cl : List vw_C} {ci : Nat} (hc : cl[ci]? = some (RX50, TX50, 17)) {ad : Nat → Nat} {d : Nat → ClassId} {A : Nat → Prop} {post : (Int → Int) → Prop} {f_phrases : Nat → Int64} {f_axioms : Nat → Int32} {f_axiomCount : Int32} {f_triples : Nat → Int32} {f_tripleCount : Int32} {f_rules : Nat → Int32} {f_instances : Nat → Int32} {f_counts : Nat → Int32} {f_premises : Nat → Int32} {f_rows : Int32} {f_marks : Nat → Int32} {f_broken : Int32} {f_text : Nat → Int32} {f_size : Int32} {f_sizes : Nat → Int32} {f_places : Nat → Int32} (X : kX p s m args meth c cX50_chain 9 RX50 none (dC, dI) cl (tX50 d))     :
    ∀ (x1 : Int32) (y0 : Int32) (f_stated : Nat → Int32), wX50_chain_26 post x1.toInt y0.toInt (zF f_triples) (zF f_rules) (zF f_instances) (zF f_counts) (zF f_premises) (zF f_stated) → ∀ (H : Heap) (locs : List Loc) (ls : Array Slot), kH (dC, dI) cl A s.heap H locs (wX50 ci ad d f_phrases f_axioms f_axiomCount f_triples f_tripleCount f_rules f_instances f_counts f_premises f_rows f_stated f_marks f_broken f_text f_size f_sizes f_places) → lv_has ls 9 [(0, .ref (ad 0)), (1, .int x1)] → W p l e ({ frames := 3, cells := 0, slots := 0, locals := 74 } : Room) s m args below meth c H locs 0 0 (MQ below (va_Qv (fun (u : (Nat → Int32)) => post (zF (u))) (kB (dC, dI) cl (tX50 d) A (fun u : (Nat → Int32) => (wX50 ci ad d f_phrases f_axioms f_axiomCount f_triples f_tripleCount f_rules f_instances f_counts f_premises f_rows (u) f_marks f_broken f_text f_size f_sizes f_places))) A) args s 0 0 A) (F0 m 26 ls [.int y0]) := by
  have hx := X.1.1
  have hb := X.1.2.1
  intro x1 y0 f_stated hw H locs ls hH hl
  unfold wX50_chain_26 at hw
  refine lv_istore_n (lv' := [(2, .int y0), (0, .ref (ad 0)), (1, .int x1)]) hx hb dX50_chain_26 rfl hl (by decide) rfl (fun ls hl => ?_)
  refine lv_aload_n hx hb dX50_chain_27 rfl (lv_at hl 1 rfl) ?_
  refine k_get X hH in_X50 0 rfl hc 7 (by decide) q6291 rfl dX50_chain_28 ?_
  refine lv_iload_n hx hb dX50_chain_31 rfl (lv_at hl 2 rfl) ?_
  have hq_4 := hw.1
  have hw := hw.2
  refine k_iald X hH 6 5 rfl rfl (z_in (rfl : x1.toInt = _) hq_4) dX50_chain_32 ?_
  have e_5 := z_ld (f := f_counts) (rfl : x1.toInt = _) hq_4.1
  refine lv_iconst (v := 1) hx hb dX50_chain_33 (by decide) ?_
  refine lv_icmp_le (tgt := 47) hx hb dX50_chain_34 (by decide) (fun c_6 => ?_) (fun c_6 => ?_)
  · have hw := hw.1 (z_le e_5 (rfl : (1 : Int32).toInt = 1) c_6)
    refine lv_iconst (v := 0) hx hb dX50_chain_47 (by decide) ?_
    exact atX50_chain_48 hc X x1 y0 0 f_stated hw _ _ ls hH (lv_sub hl [1, 2, 0] rfl)
  · have hw := hw.2 (z_nle e_5 (rfl : (1 : Int32).toInt = 1) c_6)
    refine lv_aload_n hx hb dX50_chain_37 rfl (lv_at hl 1 rfl) ?_
    refine lv_iload_n hx hb dX50_chain_38 rfl (lv_at hl 2 rfl) ?_
    refine lv_iconst (v := 1) hx hb dX50_chain_39 (by decide) ?_
    refine lv_iconst (v := 1) hx hb dX50_chain_40 (by decide) ?_
    refine k_i0 hH (k_runV (As := [.int x1, .int 1, .int 1]) (rest := []) X hH.1 hH.2.1 X.2.2.2 (walkX50_of hc (x1 := x1) (x2 := 1) (x3 := 1) (f_phrases := f_phrases) (f_axioms := f_axioms) (f_axiomCount := f_axiomCount) (f_triples := f_triples) (f_tripleCount := f_tripleCount) (f_rules := f_rules) (f_instances := f_instances) (f_counts := f_counts) (f_premises := f_premises) (f_rows := f_rows) (f_stated := f_stated) (f_marks := f_marks) (f_broken := f_broken) (f_text := f_text) (f_size := f_size) (f_sizes := f_sizes) (f_places := f_places) hw) (cwV 3 X.1.2.2.2.2 gX50_185 rfl rfl rfl hX50_of ⟨Nat.le_of_ble_eq_true rfl, Nat.le_of_ble_eq_true rfl⟩) hc (q0 := 0) rfl rfl hl.1 rfl (Nat.le_of_ble_eq_true rfl) dX50_chain_41 ⟨Nat.le_refl 0, Nat.le_refl 0⟩) (fun r_105 _ H locs hw hH => ?_)
    have hH : kH (dC, dI) cl A s.heap H locs (wX50 ci ad d f_phrases f_axioms f_axiomCount f_triples f_tripleCount f_rules f_instances f_counts f_premises f_rows f_stated f_marks f_broken f_text f_size f_sizes f_places) := hH
    refine lv_goto (tgt := 48) hx hb dX50_chain_44 (by decide) ?_
    exact atX50_chain_48 hc X x1 y0 r_105 f_stated hw _ _ ls hH (lv_sub hl [1, 2, 0] rfl)
set_option maxHeartbeats 4000000 in
theorem walkX50_chain {l : Launch} {dC : Nat → ClassId} {dI : Nat → Nat → Nat} {cl : List vw_C} {ci : Nat} (hc : cl[ci]? = some (RX50, TX50, 17)) {ad : Nat → Nat} {d : Nat → ClassId} {sz : Nat} {f_phrases : Nat → Int64} {f_axioms : Nat → Int32} {f_axiomCount : Int32} {f_triples : Nat → Int32} {f_tripleCount : Int32} {f_rules : Nat → Int32} {f_instances : Nat → Int32} {f_counts : Nat → Int32} {f_premises : Nat → Int32} {f_rows : Int32} {f_stated : Nat → Int32} {f_marks : Nat → Int32} {f_broken : Int32} {f_text : Nat → Int32} {f_size : Int32} {f_sizes : Nat → Int32} {f_places : Nat → Int32} {x1 : Int32} {post : (Int → Int) → Prop} (hw : wpX50_chain post (zF f_triples) (zF f_rules) (zF f_instances) (zF f_counts) (zF f_premises) (zF f_stated) x1.toInt) :
    Met l yX50_chain (ws_ yX50_chain cX50_chain 9 none) ({ frames := 3, cells := 0, slots := 0, locals := 74 } : Room) (kPc (dC, dI) cl (tX50 d) [.ref (ad 0), .int x1] sz (wX50 ci ad d f_phrases f_axioms f_axiomCount f_triples f_tripleCount f_rules f_instances f_counts f_premises f_rows f_stated f_marks f_broken f_text f_size f_sizes f_places)) (va_Qv (fun (u : (Nat → Int32)) => post (zF (u))) (kB (dC, dI) cl (tX50 d) (va_A (wX50 ci ad d f_phrases f_axioms f_axiomCount f_triples f_tripleCount f_rules f_instances f_counts f_premises f_rows f_stated f_marks f_broken f_text f_size f_sizes f_places) sz) (fun u : (Nat → Int32) => (wX50 ci ad d f_phrases f_axioms f_axiomCount f_triples f_tripleCount f_rules f_instances f_counts f_premises f_rows (u) f_marks f_broken f_text f_size f_sizes f_places))) (va_A (wX50 ci ad d f_phrases f_axioms f_axiomCount f_triples f_tripleCount f_rules f_instances f_counts f_premises f_rows f_stated f_marks f_broken f_text f_size f_sizes f_places) sz)) 0 0 (va_A (wX50 ci ad d f_phrases f_axioms f_axiomCount f_triples f_tripleCount f_rules f_instances f_counts f_premises f_rows f_stated f_marks f_broken f_text f_size f_sizes f_places) sz) := by
  refine k_enter (by decide) (Nat.le_of_ble_eq_true rfl) ?_
  intro p e s m below meth c ls X hsz hH hl
  subst hsz
  generalize va_A (wX50 ci ad d f_phrases f_axioms f_axiomCount f_triples f_tripleCount f_rules f_instances f_counts f_premises f_rows f_stated f_marks f_broken f_text f_size f_sizes f_places) s.heap.size = A at hH ⊢
  have hx := X.1.1
  have hb := X.1.2.1
  have hl : lv_has ls 9 [(0, .ref (ad 0)), (1, .int x1)] := hl
  unfold wpX50_chain at hw
  refine lv_aload_n hx hb dX50_chain_0 rfl (lv_at hl 0 rfl) ?_
  refine k_get X hH in_X50 0 rfl hc 7 (by decide) q6291 rfl dX50_chain_1 ?_
  refine lv_iload_n hx hb dX50_chain_4 rfl (lv_at hl 1 rfl) ?_
  have hq_1 := hw.1
  have hw := hw.2
  refine k_iald X hH 6 5 rfl rfl (z_in (rfl : x1.toInt = _) hq_1) dX50_chain_5 ?_
  have e_2 := z_ld (f := f_counts) (rfl : x1.toInt = _) hq_1.1
  refine lv_iconst (v := 1) hx hb dX50_chain_6 (by decide) ?_
  refine lv_icmp_le (tgt := 25) hx hb dX50_chain_7 (by decide) (fun c_3 => ?_) (fun c_3 => ?_)
  · have hw := hw.1 (z_le e_2 (rfl : (1 : Int32).toInt = 1) c_3)
    refine lv_iconst (v := 0) hx hb dX50_chain_25 (by decide) ?_
    exact atX50_chain_26 hc X x1 0 f_stated hw _ _ ls hH (lv_sub hl [0, 1] rfl)
  · have hw := hw.2 (z_nle e_2 (rfl : (1 : Int32).toInt = 1) c_3)
    refine lv_aload_n hx hb dX50_chain_10 rfl (lv_at hl 0 rfl) ?_
    refine lv_iload_n hx hb dX50_chain_11 rfl (lv_at hl 1 rfl) ?_
    refine lv_iconst (v := 1) hx hb dX50_chain_12 (by decide) ?_
    refine lv_bipush (v := 11) hx hb dX50_chain_13 (by decide) ?_
    refine k_i0 hH (k_runV (As := [.int x1, .int 1, .int 11]) (rest := []) X hH.1 hH.2.1 X.2.2.2 (walkX50_is hc (x1 := x1) (x2 := 1) (x3 := 11) (f_phrases := f_phrases) (f_axioms := f_axioms) (f_axiomCount := f_axiomCount) (f_triples := f_triples) (f_tripleCount := f_tripleCount) (f_rules := f_rules) (f_instances := f_instances) (f_counts := f_counts) (f_premises := f_premises) (f_rows := f_rows) (f_stated := f_stated) (f_marks := f_marks) (f_broken := f_broken) (f_text := f_text) (f_size := f_size) (f_sizes := f_sizes) (f_places := f_places) hw) (cwV 3 X.1.2.2.2.2 gX50_204 rfl rfl rfl hX50_is ⟨Nat.le_of_ble_eq_true rfl, Nat.le_of_ble_eq_true rfl⟩) hc (q0 := 0) rfl rfl hl.1 rfl (Nat.le_of_ble_eq_true rfl) dX50_chain_15 ⟨Nat.le_refl 0, Nat.le_refl 0⟩) (fun r_106 _ H locs hw hH => ?_)
    have hH : kH (dC, dI) cl A s.heap H locs (wX50 ci ad d f_phrases f_axioms f_axiomCount f_triples f_tripleCount f_rules f_instances f_counts f_premises f_rows f_stated f_marks f_broken f_text f_size f_sizes f_places) := hH
    refine lv_if_eq (tgt := 25) hx hb dX50_chain_18 (by decide) (fun c_107 => ?_) (fun c_107 => ?_)
    · have hw := hw.1 (z_eq (rfl : r_106.toInt = _) (rfl : (0 : Int32).toInt = 0) c_107)
      refine lv_iconst (v := 0) hx hb dX50_chain_25 (by decide) ?_
      exact atX50_chain_26 hc X x1 0 f_stated hw _ _ ls hH (lv_sub hl [0, 1] rfl)
    · have hw := hw.2 (z_neq (rfl : r_106.toInt = _) (rfl : (0 : Int32).toInt = 0) c_107)
      refine lv_iconst (v := 1) hx hb dX50_chain_21 (by decide) ?_
      refine lv_goto (tgt := 26) hx hb dX50_chain_22 (by decide) ?_
      exact atX50_chain_26 hc X x1 1 f_stated hw _ _ ls hH (lv_sub hl [0, 1] rfl)
set_option maxHeartbeats 4000000 in
theorem walkX50_single {l : Launch} {dC : Nat → ClassId} {dI : Nat → Nat → Nat} {cl : List vw_C} {ci : Nat} (hc : cl[ci]? = some (RX50, TX50, 17)) {ad : Nat → Nat} {d : Nat → ClassId} {sz : Nat} {f_phrases : Nat → Int64} {f_axioms : Nat → Int32} {f_axiomCount : Int32} {f_triples : Nat → Int32} {f_tripleCount : Int32} {f_rules : Nat → Int32} {f_instances : Nat → Int32} {f_counts : Nat → Int32} {f_premises : Nat → Int32} {f_rows : Int32} {f_stated : Nat → Int32} {f_marks : Nat → Int32} {f_broken : Int32} {f_text : Nat → Int32} {f_size : Int32} {f_sizes : Nat → Int32} {f_places : Nat → Int32} {x1 : Int32} {post : (Int → Int) → Prop} (hw : wpX50_single post (zF f_axioms) (zF f_triples) (zF f_rules) (zF f_instances) (zF f_counts) (zF f_premises) (zF f_stated) x1.toInt) :
    Met l yX50_single (ws_ yX50_single cX50_single 3 none) ({ frames := 4, cells := 0, slots := 0, locals := 102 } : Room) (kPc (dC, dI) cl (tX50 d) [.ref (ad 0), .int x1] sz (wX50 ci ad d f_phrases f_axioms f_axiomCount f_triples f_tripleCount f_rules f_instances f_counts f_premises f_rows f_stated f_marks f_broken f_text f_size f_sizes f_places)) (va_Qv (fun (u : (Nat → Int32)) => post (zF (u))) (kB (dC, dI) cl (tX50 d) (va_A (wX50 ci ad d f_phrases f_axioms f_axiomCount f_triples f_tripleCount f_rules f_instances f_counts f_premises f_rows f_stated f_marks f_broken f_text f_size f_sizes f_places) sz) (fun u : (Nat → Int32) => (wX50 ci ad d f_phrases f_axioms f_axiomCount f_triples f_tripleCount f_rules f_instances f_counts f_premises f_rows (u) f_marks f_broken f_text f_size f_sizes f_places))) (va_A (wX50 ci ad d f_phrases f_axioms f_axiomCount f_triples f_tripleCount f_rules f_instances f_counts f_premises f_rows f_stated f_marks f_broken f_text f_size f_sizes f_places) sz)) 0 0 (va_A (wX50 ci ad d f_phrases f_axioms f_axiomCount f_triples f_tripleCount f_rules f_instances f_counts f_premises f_rows f_stated f_marks f_broken f_text f_size f_sizes f_places) sz) := by
  refine k_enter (by decide) (Nat.le_of_ble_eq_true rfl) ?_
  intro p e s m below meth c ls X hsz hH hl
  subst hsz
  generalize va_A (wX50 ci ad d f_phrases f_axioms f_axiomCount f_triples f_tripleCount f_rules f_instances f_counts f_premises f_rows f_stated f_marks f_broken f_text f_size f_sizes f_places) s.heap.size = A at hH ⊢
  have hx := X.1.1
  have hb := X.1.2.1
  have hl : lv_has ls 3 [(0, .ref (ad 0)), (1, .int x1)] := hl
  unfold wpX50_single at hw
  refine lv_aload_n hx hb dX50_single_0 rfl (lv_at hl 0 rfl) ?_
  refine k_get X hH in_X50 0 rfl hc 6 (by decide) q6290 rfl dX50_single_1 ?_
  refine lv_iload_n hx hb dX50_single_4 rfl (lv_at hl 1 rfl) ?_
  have hq_1 := hw.1
  have hw := hw.2
  refine k_iald X hH 5 4 rfl rfl (z_in (rfl : x1.toInt = _) hq_1) dX50_single_5 ?_
  have e_2 := z_ld (f := f_instances) (rfl : x1.toInt = _) hq_1.1
  refine lv_topi (fun x2_3 ex2_3 => ?_)
  have hw := hw x2_3.toInt (by rw [ex2_3]; exact e_2)
  refine lv_istore_n (lv' := [(2, .int x2_3), (0, .ref (ad 0)), (1, .int x1)]) hx hb dX50_single_6 rfl hl (by decide) rfl (fun ls hl => ?_)
  refine lv_aload_n hx hb dX50_single_7 rfl (lv_at hl 1 rfl) ?_
  refine k_get X hH in_X50 0 rfl hc 5 (by decide) q6289 rfl dX50_single_8 ?_
  refine lv_iload_n hx hb dX50_single_11 rfl (lv_at hl 2 rfl) ?_
  refine k_iald X hH 4 3 rfl rfl (z_in (rfl : x1.toInt = _) hq_1) dX50_single_12 ?_
  have e_4 := z_ld (f := f_rules) (rfl : x1.toInt = _) hq_1.1
  refine lv_topi (fun z_5 ez_5 => ?_)
  have hw := hw z_5.toInt (by rw [ez_5]; exact e_4)
  by_cases c_6 : z_5 = 0
  · have hw := hw.1 (z_eq (rfl : z_5.toInt = _) (rfl : (0 : Int32).toInt = 0) c_6)
    refine lv_tableIn (off := 27) (tgt := 40) hx hb dX50_single_13 (by rw [c_6]; decide) (by rw [c_6]; decide) (by rw [c_6]; rfl) (by decide) ?_
    refine lv_aload_n hx hb dX50_single_40 rfl (lv_at hl 1 rfl) ?_
    refine lv_aload_n hx hb dX50_single_41 rfl (lv_at hl 1 rfl) ?_
    refine k_get X hH in_X50 0 rfl hc 1 (by decide) q6285 rfl dX50_single_42 ?_
    refine lv_iload_n hx hb dX50_single_45 rfl (lv_at hl 0 rfl) ?_
    refine lv_iload_n hx hb dX50_single_46 rfl (lv_at hl 2 rfl) ?_
    refine k_v0 hH (k_runV (As := [.ref (ad 2), .int x2_3, .int x1]) (rest := []) X hH.1 hH.2.1 X.2.2.2 (walkX50_copy_axioms hc (x2 := x2_3) (x3 := x1) (f_phrases := f_phrases) (f_axioms := f_axioms) (f_axiomCount := f_axiomCount) (f_triples := f_triples) (f_tripleCount := f_tripleCount) (f_rules := f_rules) (f_instances := f_instances) (f_counts := f_counts) (f_premises := f_premises) (f_rows := f_rows) (f_stated := f_stated) (f_marks := f_marks) (f_broken := f_broken) (f_text := f_text) (f_size := f_size) (f_sizes := f_sizes) (f_places := f_places) hw) (cwV 3 X.1.2.2.2.2 gX50_197 rfl rfl rfl hX50_copy ⟨Nat.le_of_ble_eq_true rfl, Nat.le_of_ble_eq_true rfl⟩) hc (q0 := 0) rfl rfl hl.1 rfl (Nat.le_of_ble_eq_true rfl) dX50_single_47 ⟨Nat.le_refl 0, Nat.le_refl 0⟩) (fun u H locs hw hH => ?_)
    obtain ⟨f_stated_7, eu⟩ : ∃ z, z = u := ⟨_, rfl⟩
    subst eu
    have hH : kH (dC, dI) cl A s.heap H locs (wX50 ci ad d f_phrases f_axioms f_axiomCount f_triples f_tripleCount f_rules f_instances f_counts f_premises f_rows f_stated_7 f_marks f_broken f_text f_size f_sizes f_places) := hH
    exact k_vret X hH (f_stated_7) hw rfl dX50_single_50
  · have hw := hw.2 (z_ne (rfl : z_5.toInt = _) (rfl : (0 : Int32).toInt = 0) c_6)
    by_cases c_8 : z_5 = 1
    · have hw := hw.1 (z_eq (rfl : z_5.toInt = _) (rfl : (1 : Int32).toInt = 1) c_8)
      refine lv_tableIn (off := 38) (tgt := 51) hx hb dX50_single_13 (by rw [c_8]; decide) (by rw [c_8]; decide) (by rw [c_8]; rfl) (by decide) ?_
      refine lv_aload_n hx hb dX50_single_51 rfl (lv_at hl 1 rfl) ?_
      refine lv_aload_n hx hb dX50_single_52 rfl (lv_at hl 1 rfl) ?_
      refine k_get X hH in_X50 0 rfl hc 3 (by decide) q6287 rfl dX50_single_53 ?_
      refine lv_iload_n hx hb dX50_single_56 rfl (lv_at hl 0 rfl) ?_
      refine lv_iload_n hx hb dX50_single_57 rfl (lv_at hl 2 rfl) ?_
      refine k_v0 hH (k_runV (As := [.ref (ad 3), .int x2_3, .int x1]) (rest := []) X hH.1 hH.2.1 X.2.2.2 (walkX50_copy_triples hc (x2 := x2_3) (x3 := x1) (f_phrases := f_phrases) (f_axioms := f_axioms) (f_axiomCount := f_axiomCount) (f_triples := f_triples) (f_tripleCount := f_tripleCount) (f_rules := f_rules) (f_instances := f_instances) (f_counts := f_counts) (f_premises := f_premises) (f_rows := f_rows) (f_stated := f_stated) (f_marks := f_marks) (f_broken := f_broken) (f_text := f_text) (f_size := f_size) (f_sizes := f_sizes) (f_places := f_places) hw) (cwV 3 X.1.2.2.2.2 gX50_197 rfl rfl rfl hX50_copy ⟨Nat.le_of_ble_eq_true rfl, Nat.le_of_ble_eq_true rfl⟩) hc (q0 := 0) rfl rfl hl.1 rfl (Nat.le_of_ble_eq_true rfl) dX50_single_58 ⟨Nat.le_refl 0, Nat.le_refl 0⟩) (fun u H locs hw hH => ?_)
      obtain ⟨f_stated_9, eu⟩ : ∃ z, z = u := ⟨_, rfl⟩
      subst eu
      have hH : kH (dC, dI) cl A s.heap H locs (wX50 ci ad d f_phrases f_axioms f_axiomCount f_triples f_tripleCount f_rules f_instances f_counts f_premises f_rows f_stated_9 f_marks f_broken f_text f_size f_sizes f_places) := hH
      exact k_vret X hH (f_stated_9) hw rfl dX50_single_61
    · have hw := hw.2 (z_ne (rfl : z_5.toInt = _) (rfl : (1 : Int32).toInt = 1) c_8)
      by_cases c_10 : z_5 = 2
      · have hw := hw.1 (z_eq (rfl : z_5.toInt = _) (rfl : (2 : Int32).toInt = 2) c_10)
        refine lv_tableIn (off := 49) (tgt := 62) hx hb dX50_single_13 (by rw [c_10]; decide) (by rw [c_10]; decide) (by rw [c_10]; rfl) (by decide) ?_
        refine lv_aload_n hx hb dX50_single_62 rfl (lv_at hl 1 rfl) ?_
        refine lv_iload_n hx hb dX50_single_63 rfl (lv_at hl 2 rfl) ?_
        refine lv_iconst (v := 1) hx hb dX50_single_64 (by decide) ?_
        refine lv_iload_n hx hb dX50_single_65 rfl (lv_at hl 0 rfl) ?_
        refine lv_iload_n hx hb dX50_single_66 rfl (lv_at hl 0 rfl) ?_
        refine lv_iconst (v := 0) hx hb dX50_single_67 (by decide) ?_
        refine k_v0 hH (k_runV (As := [.int x1, .int 1, .int x2_3, .int x2_3, .int 0]) (rest := []) X hH.1 hH.2.1 X.2.2.2 (walkX50_state hc (x1 := x1) (x2 := 1) (x3 := x2_3) (x4 := x2_3) (x5 := 0) (f_phrases := f_phrases) (f_axioms := f_axioms) (f_axiomCount := f_axiomCount) (f_triples := f_triples) (f_tripleCount := f_tripleCount) (f_rules := f_rules) (f_instances := f_instances) (f_counts := f_counts) (f_premises := f_premises) (f_rows := f_rows) (f_stated := f_stated) (f_marks := f_marks) (f_broken := f_broken) (f_text := f_text) (f_size := f_size) (f_sizes := f_sizes) (f_places := f_places) hw) (cwV 5 X.1.2.2.2.2 gX50_189 rfl rfl rfl hX50_state ⟨Nat.le_of_ble_eq_true rfl, Nat.le_of_ble_eq_true rfl⟩) hc (q0 := 0) rfl rfl hl.1 rfl (Nat.le_of_ble_eq_true rfl) dX50_single_68 ⟨Nat.le_refl 0, Nat.le_refl 0⟩) (fun u H locs hw hH => ?_)
        obtain ⟨f_stated_11, eu⟩ : ∃ z, z = u := ⟨_, rfl⟩
        subst eu
        have hH : kH (dC, dI) cl A s.heap H locs (wX50 ci ad d f_phrases f_axioms f_axiomCount f_triples f_tripleCount f_rules f_instances f_counts f_premises f_rows f_stated_11 f_marks f_broken f_text f_size f_sizes f_places) := hH
        exact k_vret X hH (f_stated_11) hw rfl dX50_single_71
      · have hw := hw.2 (z_ne (rfl : z_5.toInt = _) (rfl : (2 : Int32).toInt = 2) c_10)
        refine lv_tableOut (tgt := 72) hx hb dX50_single_13 (by have qc_6 := k_ne c_6 (k := 0) rfl; have qc_8 := k_ne c_8 (k := 1) rfl; have qc_10 := k_ne c_10 (k := 2) rfl; omega) (by decide) ?_
        refine lv_aload_n hx hb dX50_single_72 rfl (lv_at hl 1 rfl) ?_
        refine lv_iload_n hx hb dX50_single_73 rfl (lv_at hl 2 rfl) ?_
        refine k_v0 hH (k_runV (As := [.int x1]) (rest := []) X hH.1 hH.2.1 X.2.2.2 (walkX50_chain hc (x1 := x1) (f_phrases := f_phrases) (f_axioms := f_axioms) (f_axiomCount := f_axiomCount) (f_triples := f_triples) (f_tripleCount := f_tripleCount) (f_rules := f_rules) (f_instances := f_instances) (f_counts := f_counts) (f_premises := f_premises) (f_rows := f_rows) (f_stated := f_stated) (f_marks := f_marks) (f_broken := f_broken) (f_text := f_text) (f_size := f_size) (f_sizes := f_sizes) (f_places := f_places) hw) (cwV 1 X.1.2.2.2.2 gX50_201 rfl rfl rfl hX50_chain ⟨Nat.le_of_ble_eq_true rfl, Nat.le_of_ble_eq_true rfl⟩) hc (q0 := 0) rfl rfl hl.1 rfl (Nat.le_of_ble_eq_true rfl) dX50_single_74 ⟨Nat.le_refl 0, Nat.le_refl 0⟩) (fun u H locs hw hH => ?_)
        obtain ⟨f_stated_12, eu⟩ : ∃ z, z = u := ⟨_, rfl⟩
        subst eu
        have hH : kH (dC, dI) cl A s.heap H locs (wX50 ci ad d f_phrases f_axioms f_axiomCount f_triples f_tripleCount f_rules f_instances f_counts f_premises f_rows f_stated_12 f_marks f_broken f_text f_size f_sizes f_places) := hH
        exact k_vret X hH (f_stated_12) hw rfl dX50_single_77
set_option maxHeartbeats 4000000 in
theorem atX50_work_43 {p : Program} {l : Launch} {e : Env} {s : State} {m : MethodId} {args : Array Value} {below : List Frame} {meth : Method} {c : Code} {dC : Nat → ClassId} {dI : Nat → Nat → Nat} {cl : List vw_C} {ci : Nat} (hc : cl[ci]? = some (RX50, TX50, 17)) {ad : Nat → Nat} {d : Nat → ClassId} {A : Nat → Prop} {post : (Int → Int) → Prop} {f_phrases : Nat → Int64} {f_axioms : Nat → Int32} {f_axiomCount : Int32} {f_triples : Nat → Int32} {f_tripleCount : Int32} {f_rules : Nat → Int32} {f_instances : Nat → Int32} {f_counts : Nat → Int32} {f_premises : Nat → Int32} {f_rows : Int32} {f_marks : Nat → Int32} {f_broken : Int32} {f_text : Nat → Int32} {f_size : Int32} {f_sizes : Nat → Int32} {f_places : Nat → Int32} (X : kX p s m args meth c cX50_work 5 RX50 none (dC, dI) cl (tX50 d)) {K81 : Int → Prop} {x1 : Int32} {x2 : Int32} {f_stated : Nat → Int32} (hk81 : ∀ (x3 : Int32), K81 x3.toInt → ∀ (H : Heap) (locs : List Loc) (ls : Array Slot), kH (dC, dI) cl A s.heap H locs (wX50 ci ad d f_phrases f_axioms f_axiomCount f_triples f_tripleCount f_rules f_instances f_counts f_premises f_rows f_stated f_marks f_broken f_text f_size f_sizes f_places) → lv_has ls 5 [(0, .ref (ad 0)), (1, .int x1), (2, .int x2), (3, .int x3)] → W p l e ({ frames := 5, cells := 0, slots := 0, locals := 124 } : Room) s m args below meth c H locs 0 0 (MQ below (va_Qv (fun (u : (Nat → Int32)) => post (zF (u))) (kB (dC, dI) cl (tX50 d) A (fun u : (Nat → Int32) => (wX50 ci ad d f_phrases f_axioms f_axiomCount f_triples f_tripleCount f_rules f_instances f_counts f_premises f_rows (u) f_marks f_broken f_text f_size f_sizes f_places))) A) args s 0 0 A) (F0 m 81 ls [])) :
    ∀ (nn : Nat) (x3 : Int32) (x4 : Int32), wX50_work_43 K81 x2.toInt (zF f_counts) (zF f_premises) (zF f_stated) nn x3.toInt x4.toInt → ∀ (H : Heap) (locs : List Loc) (ls : Array Slot), kH (dC, dI) cl A s.heap H locs (wX50 ci ad d f_phrases f_axioms f_axiomCount f_triples f_tripleCount f_rules f_instances f_counts f_premises f_rows f_stated f_marks f_broken f_text f_size f_sizes f_places) → lv_has ls 5 [(0, .ref (ad 0)), (1, .int x1), (2, .int x2), (3, .int x3), (4, .int x4)] → W p l e ({ frames := 5, cells := 0, slots := 0, locals := 124 } : Room) s m args below meth c H locs 0 0 (MQ below (va_Qv (fun (u : (Nat → Int32)) => post (zF (u))) (kB (dC, dI) cl (tX50 d) A (fun u : (Nat → Int32) => (wX50 ci ad d f_phrases f_axioms f_axiomCount f_triples f_tripleCount f_rules f_instances f_counts f_premises f_rows (u) f_marks f_broken f_text f_size f_sizes f_places))) A) args s 0 0 A) (F0 m 43 ls []) := by
  have hx := X.1.1
  have hb := X.1.2.1
  intro nn
  induction nn with
  | zero =>
    intro x3 x4 hw
    exact False.elim hw
  | succ n ih =>
    intro x3 x4 hw H locs ls hH hl
    rw [wX50_work_43] at hw
    refine lv_iload hx hb dX50_work_43 (lv_at hl 4 rfl) ?_
    refine lv_aload_n hx hb dX50_work_45 rfl (lv_at hl 0 rfl) ?_
    refine k_get X hH in_X50 0 rfl hc 7 (by decide) q6291 rfl dX50_work_46 ?_
    refine lv_iload_n hx hb dX50_work_49 rfl (lv_at hl 2 rfl) ?_
    have hq_8 := hw.1
    have hw := hw.2
    refine k_iald X hH 6 5 rfl rfl (z_in (rfl : x2.toInt = _) hq_8) dX50_work_50 ?_
    have e_9 := z_ld (f := f_counts) (rfl : x2.toInt = _) hq_8.1
    refine lv_icmp_ge (tgt := 81) hx hb dX50_work_51 (by decide) (fun c_10 => ?_) (fun c_10 => ?_)
    · have hw := hw.1 (z_le e_9 (rfl : x4.toInt = _) c_10)
      exact hk81 x3 hw _ _ ls hH (lv_sub hl [0, 1, 2, 3] rfl)
    · have hw := hw.2 (z_nle e_9 (rfl : x4.toInt = _) c_10)
      refine lv_iload_n hx hb dX50_work_54 rfl (lv_at hl 3 rfl) ?_
      refine lv_if_eq (tgt := 73) hx hb dX50_work_55 (by decide) (fun c_11 => ?_) (fun c_11 => ?_)
      · have hw := hw.1 (z_eq (rfl : x3.toInt = _) (rfl : (0 : Int32).toInt = 0) c_11)
        refine lv_iconst (v := 0) hx hb dX50_work_73 (by decide) ?_
        refine lv_istore_n (lv' := [(3, .int 0), (0, .ref (ad 0)), (1, .int x1), (2, .int x2), (4, .int x4)]) hx hb dX50_work_74 rfl hl (by decide) rfl (fun ls hl => ?_)
        have hq_13 := hw.1
        have hw := hw.2
        obtain ⟨x4_12, ex4_12⟩ : ∃ y : Int32, y = x4 + 1 := ⟨_, rfl⟩
        have hw := hw x4_12.toInt (by rw [ex4_12]; exact (z_x (z_add (z_m (rfl : x4.toInt = _)) (z_m (rfl : (1 : Int32).toInt = 1))) hq_13))
        refine lv_iinc (v := x4_12) (lv' := [(4, .int x4_12), (3, .int 0), (0, .ref (ad 0)), (1, .int x1), (2, .int x2)]) hx hb dX50_work_75 hl (k := 4) rfl (by rw [ex4_12]; rfl) (by decide) rfl (fun ls hl => ?_)
        refine lv_goto (tgt := 43) hx hb dX50_work_78 (by decide) ?_
        exact ih 0 x4_12 hw _ _ ls hH (lv_sub hl [2, 3, 4, 1, 0] rfl)
      · have hw := hw.2 (z_neq (rfl : x3.toInt = _) (rfl : (0 : Int32).toInt = 0) c_11)
        refine lv_aload_n hx hb dX50_work_58 rfl (lv_at hl 0 rfl) ?_
        refine lv_iload_n hx hb dX50_work_59 rfl (lv_at hl 2 rfl) ?_
        refine lv_iload hx hb dX50_work_60 (lv_at hl 4 rfl) ?_
        refine lv_iconst (v := 0) hx hb dX50_work_62 (by decide) ?_
        refine k_i0 hH (k_runV (As := [.int x2, .int x4, .int 0]) (rest := []) X hH.1 hH.2.1 X.2.2.2 (walkX50_of hc (x1 := x2) (x2 := x4) (x3 := 0) (f_phrases := f_phrases) (f_axioms := f_axioms) (f_axiomCount := f_axiomCount) (f_triples := f_triples) (f_tripleCount := f_tripleCount) (f_rules := f_rules) (f_instances := f_instances) (f_counts := f_counts) (f_premises := f_premises) (f_rows := f_rows) (f_stated := f_stated) (f_marks := f_marks) (f_broken := f_broken) (f_text := f_text) (f_size := f_size) (f_sizes := f_sizes) (f_places := f_places) hw) (cwV 3 X.1.2.2.2.2 gX50_185 rfl rfl rfl hX50_of ⟨Nat.le_of_ble_eq_true rfl, Nat.le_of_ble_eq_true rfl⟩) hc (q0 := 0) rfl rfl hl.1 rfl (Nat.le_of_ble_eq_true rfl) dX50_work_63 ⟨Nat.le_refl 0, Nat.le_refl 0⟩) (fun r_14 _ H locs hw hH => ?_)
        have hH : kH (dC, dI) cl A s.heap H locs (wX50 ci ad d f_phrases f_axioms f_axiomCount f_triples f_tripleCount f_rules f_instances f_counts f_premises f_rows f_stated f_marks f_broken f_text f_size f_sizes f_places) := hH
        refine lv_if_eq (tgt := 73) hx hb dX50_work_66 (by decide) (fun c_15 => ?_) (fun c_15 => ?_)
        · have hw := hw.1 (z_eq (rfl : r_14.toInt = _) (rfl : (0 : Int32).toInt = 0) c_15)
          refine lv_iconst (v := 0) hx hb dX50_work_73 (by decide) ?_
          refine lv_istore_n (lv' := [(3, .int 0), (0, .ref (ad 0)), (1, .int x1), (2, .int x2), (4, .int x4)]) hx hb dX50_work_74 rfl hl (by decide) rfl (fun ls hl => ?_)
          have hq_17 := hw.1
          have hw := hw.2
          obtain ⟨x4_16, ex4_16⟩ : ∃ y : Int32, y = x4 + 1 := ⟨_, rfl⟩
          have hw := hw x4_16.toInt (by rw [ex4_16]; exact (z_x (z_add (z_m (rfl : x4.toInt = _)) (z_m (rfl : (1 : Int32).toInt = 1))) hq_17))
          refine lv_iinc (v := x4_16) (lv' := [(4, .int x4_16), (3, .int 0), (0, .ref (ad 0)), (1, .int x1), (2, .int x2)]) hx hb dX50_work_75 hl (k := 4) rfl (by rw [ex4_16]; rfl) (by decide) rfl (fun ls hl => ?_)
          refine lv_goto (tgt := 43) hx hb dX50_work_78 (by decide) ?_
          exact ih 0 x4_16 hw _ _ ls hH (lv_sub hl [2, 3, 4, 1, 0] rfl)
        · have hw := hw.2 (z_neq (rfl : r_14.toInt = _) (rfl : (0 : Int32).toInt = 0) c_15)
          refine lv_iconst (v := 1) hx hb dX50_work_69 (by decide) ?_
          refine lv_goto (tgt := 74) hx hb dX50_work_70 (by decide) ?_
          refine lv_istore_n (lv' := [(3, .int 1), (0, .ref (ad 0)), (1, .int x1), (2, .int x2), (4, .int x4)]) hx hb dX50_work_74 rfl hl (by decide) rfl (fun ls hl => ?_)
          have hq_19 := hw.1
          have hw := hw.2
          obtain ⟨x4_18, ex4_18⟩ : ∃ y : Int32, y = x4 + 1 := ⟨_, rfl⟩
          have hw := hw x4_18.toInt (by rw [ex4_18]; exact (z_x (z_add (z_m (rfl : x4.toInt = _)) (z_m (rfl : (1 : Int32).toInt = 1))) hq_19))
          refine lv_iinc (v := x4_18) (lv' := [(4, .int x4_18), (3, .int 1), (0, .ref (ad 0)), (1, .int x1), (2, .int x2)]) hx hb dX50_work_75 hl (k := 4) rfl (by rw [ex4_18]; rfl) (by decide) rfl (fun ls hl => ?_)
          refine lv_goto (tgt := 43) hx hb dX50_work_78 (by decide) ?_
          exact ih 1 x4_18 hw _ _ ls hH (lv_sub hl [2, 3, 4, 1, 0] rfl)
set_option maxHeartbeats 4000000 in
theorem atX50_work_2 {p : Program} {l : Launch} {e : Env} {s : State} {m : MethodId} {args : Array Value} {below : List Frame} {meth : Method} {c : Code} {dC : Nat → ClassId} {dI : Nat → Nat → Nat} {cl : List vw_C} {ci : Nat} (hc : cl[ci]? = some (RX50, TX50, 17)) {ad : Nat → Nat} {d : Nat → ClassId} {A : Nat → Prop} {post : (Int → Int) → Prop} {f_phrases : Nat → Int64} {f_axioms : Nat → Int32} {f_axiomCount : Int32} {f_triples : Nat → Int32} {f_tripleCount : Int32} {f_rules : Nat → Int32} {f_instances : Nat → Int32} {f_counts : Nat → Int32} {f_premises : Nat → Int32} {f_rows : Int32} {f_marks : Nat → Int32} {f_broken : Int32} {f_text : Nat → Int32} {f_size : Int32} {f_sizes : Nat → Int32} {f_places : Nat → Int32} (X : kX p s m args meth c cX50_work 5 RX50 none (dC, dI) cl (tX50 d)) {K96 : (Int → Int) → Prop} {x1 : Int32}  (hk96 : ∀ (f_stated : Nat → Int32), K96 (zF f_stated) → ∀ (H : Heap) (locs : List Loc) (ls : Array Slot), kH (dC, dI) cl A s.heap H locs (wX50 ci ad d f_phrases f_axioms f_axiomCount f_triples f_tripleCount f_rules f_instances f_counts f_premises f_rows f_stated f_marks f_broken f_text f_size f_sizes f_places) → lv_has ls 5 [] → W p l e ({ frames := 5, cells := 0, slots := 0, locals := 124 } : Room) s m args below meth c H locs 0 0 (MQ below (va_Qv (fun (u : (Nat → Int32)) => post (zF (u))) (kB (dC, dI) cl (tX50 d) A (fun u : (Nat → Int32) => (wX50 ci ad d f_phrases f_axioms f_axiomCount f_triples f_tripleCount f_rules f_instances f_counts f_premises f_rows (u) f_marks f_broken f_text f_size f_sizes f_places))) A) args s 0 0 A) (F0 m 96 ls [])) :
    ∀ (nn : Nat) (x2 : Int32) (f_stated : Nat → Int32), wX50_work_2 K96 x1.toInt (zF f_axioms) (zF f_triples) (zF f_rules) (zF f_instances) (zF f_counts) (zF f_premises) nn x2.toInt (zF f_stated) → ∀ (H : Heap) (locs : List Loc) (ls : Array Slot), kH (dC, dI) cl A s.heap H locs (wX50 ci ad d f_phrases f_axioms f_axiomCount f_triples f_tripleCount f_rules f_instances f_counts f_premises f_rows f_stated f_marks f_broken f_text f_size f_sizes f_places) → lv_has ls 5 [(0, .ref (ad 0)), (1, .int x1), (2, .int x2)] → W p l e ({ frames := 5, cells := 0, slots := 0, locals := 124 } : Room) s m args below meth c H locs 0 0 (MQ below (va_Qv (fun (u : (Nat → Int32)) => post (zF (u))) (kB (dC, dI) cl (tX50 d) A (fun u : (Nat → Int32) => (wX50 ci ad d f_phrases f_axioms f_axiomCount f_triples f_tripleCount f_rules f_instances f_counts f_premises f_rows (u) f_marks f_broken f_text f_size f_sizes f_places))) A) args s 0 0 A) (F0 m 2 ls []) := by
  have hx := X.1.1
  have hb := X.1.2.1
  intro nn
  induction nn with
  | zero =>
    intro x2 f_stated hw
    exact False.elim hw
  | succ n ih =>
    intro x2 f_stated hw H locs ls hH hl
    rw [wX50_work_2] at hw
    refine lv_iload_n hx hb dX50_work_2 rfl (lv_at hl 2 rfl) ?_
    refine lv_iload_n hx hb dX50_work_3 rfl (lv_at hl 1 rfl) ?_
    refine lv_icmp_gt (tgt := 96) hx hb dX50_work_4 (by decide) (fun c_1 => ?_) (fun c_1 => ?_)
    · have hw := hw.1 (z_lt (rfl : x1.toInt = _) (rfl : x2.toInt = _) c_1)
      exact hk96 f_stated hw _ _ ls hH (lv_sub hl [] rfl)
    · have hw := hw.2 (z_nlt (rfl : x1.toInt = _) (rfl : x2.toInt = _) c_1)
      refine lv_aload_n hx hb dX50_work_7 rfl (lv_at hl 0 rfl) ?_
      refine lv_iload_n hx hb dX50_work_8 rfl (lv_at hl 2 rfl) ?_
      refine lv_iconst (v := 0) hx hb dX50_work_9 (by decide) ?_
      refine lv_iconst (v := 0) hx hb dX50_work_10 (by decide) ?_
      refine lv_iconst (v := 0) hx hb dX50_work_11 (by decide) ?_
      refine lv_iconst (v := 0) hx hb dX50_work_12 (by decide) ?_
      refine k_v0 hH (k_runV (As := [.int x2, .int 0, .int 0, .int 0, .int 0]) (rest := []) X hH.1 hH.2.1 X.2.2.2 (walkX50_state hc (x1 := x2) (x2 := 0) (x3 := 0) (x4 := 0) (x5 := 0) (f_phrases := f_phrases) (f_axioms := f_axioms) (f_axiomCount := f_axiomCount) (f_triples := f_triples) (f_tripleCount := f_tripleCount) (f_rules := f_rules) (f_instances := f_instances) (f_counts := f_counts) (f_premises := f_premises) (f_rows := f_rows) (f_stated := f_stated) (f_marks := f_marks) (f_broken := f_broken) (f_text := f_text) (f_size := f_size) (f_sizes := f_sizes) (f_places := f_places) hw) (cwV 5 X.1.2.2.2.2 gX50_189 rfl rfl rfl hX50_state ⟨Nat.le_of_ble_eq_true rfl, Nat.le_of_ble_eq_true rfl⟩) hc (q0 := 0) rfl rfl hl.1 rfl (Nat.le_of_ble_eq_true rfl) dX50_work_13 ⟨Nat.le_refl 0, Nat.le_refl 0⟩) (fun u H locs hw hH => ?_)
      obtain ⟨f_stated_2, eu⟩ : ∃ z, z = u := ⟨_, rfl⟩
      subst eu
      have hH : kH (dC, dI) cl A s.heap H locs (wX50 ci ad d f_phrases f_axioms f_axiomCount f_triples f_tripleCount f_rules f_instances f_counts f_premises f_rows f_stated_2 f_marks f_broken f_text f_size f_sizes f_places) := hH
      refine lv_aload_n hx hb dX50_work_16 rfl (lv_at hl 0 rfl) ?_
      refine k_get X hH in_X50 0 rfl hc 7 (by decide) q6291 rfl dX50_work_17 ?_
      refine lv_iload_n hx hb dX50_work_20 rfl (lv_at hl 2 rfl) ?_
      have hq_3 := hw.1
      have hw := hw.2
      refine k_iald X hH 6 5 rfl rfl (z_in (rfl : x2.toInt = _) hq_3) dX50_work_21 ?_
      have e_4 := z_ld (f := f_counts) (rfl : x2.toInt = _) hq_3.1
      refine lv_aload_n hx hb dX50_work_22 rfl (lv_at hl 0 rfl) ?_
      refine k_get X hH in_X50 0 rfl hc 5 (by decide) q6289 rfl dX50_work_23 ?_
      refine lv_iload_n hx hb dX50_work_26 rfl (lv_at hl 2 rfl) ?_
      refine k_iald X hH 4 3 rfl rfl (z_in (rfl : x2.toInt = _) hq_3) dX50_work_27 ?_
      have e_5 := z_ld (f := f_rules) (rfl : x2.toInt = _) hq_3.1
      refine k_i0 hH (k_runS (As := [.int (f_rules x2.toNatClampNeg)]) (rest := [.int (f_counts x2.toNatClampNeg)]) X hH.1 hH.2.1 X.2.2.2 (walkX50_takes hc (x0 := (f_rules x2.toNatClampNeg)) (f_phrases := f_phrases) (f_axioms := f_axioms) (f_axiomCount := f_axiomCount) (f_triples := f_triples) (f_tripleCount := f_tripleCount) (f_rules := f_rules) (f_instances := f_instances) (f_counts := f_counts) (f_premises := f_premises) (f_rows := f_rows) (f_stated := f_stated_2) (f_marks := f_marks) (f_broken := f_broken) (f_text := f_text) (f_size := f_size) (f_sizes := f_sizes) (f_places := f_places) (by rw [show (f_rules x2.toNatClampNeg : Int32).toInt = _ from e_5]; exact hw)) (va_cwS 1 X.1.2.2.2.2 gX50_177 rfl rfl rfl hX50_takes ⟨Nat.le_of_ble_eq_true rfl, Nat.le_of_ble_eq_true rfl⟩) rfl hl.1 rfl (Nat.le_of_ble_eq_true rfl) dX50_work_28 ⟨Nat.le_refl 0, Nat.le_refl 0⟩) (fun r_6 _ H locs hw hH => ?_)
      have hH : kH (dC, dI) cl A s.heap H locs (wX50 ci ad d f_phrases f_axioms f_axiomCount f_triples f_tripleCount f_rules f_instances f_counts f_premises f_rows f_stated_2 f_marks f_broken f_text f_size f_sizes f_places) := hH
      refine lv_icmp_ne (tgt := 38) hx hb dX50_work_31 (by decide) (fun c_7 => ?_) (fun c_7 => ?_)
      · have hw := hw.2 (z_ne e_4 (rfl : r_6.toInt = _) c_7)
        refine lv_iconst (v := 0) hx hb dX50_work_38 (by decide) ?_
        refine lv_istore_n (lv' := [(3, .int 0), (0, .ref (ad 0)), (1, .int x1), (2, .int x2)]) hx hb dX50_work_39 rfl hl (by decide) rfl (fun ls hl => ?_)
        refine lv_iconst (v := 0) hx hb dX50_work_40 (by decide) ?_
        refine lv_istore (lv' := [(4, .int 0), (3, .int 0), (0, .ref (ad 0)), (1, .int x1), (2, .int x2)]) hx hb dX50_work_41 hl (by decide) rfl (fun ls hl => ?_)
        obtain ⟨fu, hw⟩ := hw
        refine atX50_work_43 hc X ?_ fu 0 0 hw _ _ ls hH (lv_sub hl [2, 3, 4, 1, 0] rfl)
        · intro x3_20 hw H locs ls hH hl
          refine lv_iload_n hx hb dX50_work_81 rfl (lv_at hl 3 rfl) ?_
          refine lv_if_eq (tgt := 90) hx hb dX50_work_82 (by decide) (fun c_21 => ?_) (fun c_21 => ?_)
          · have hw := hw.1 (z_eq (rfl : x3_20.toInt = _) (rfl : (0 : Int32).toInt = 0) c_21)
            have hq_23 := hw.1
            have hw := hw.2
            obtain ⟨x2_22, ex2_22⟩ : ∃ y : Int32, y = x2 + 1 := ⟨_, rfl⟩
            have hw := hw x2_22.toInt (by rw [ex2_22]; exact (z_x (z_add (z_m (rfl : x2.toInt = _)) (z_m (rfl : (1 : Int32).toInt = 1))) hq_23))
            refine lv_iinc (v := x2_22) (lv' := [(2, .int x2_22), (0, .ref (ad 0)), (1, .int x1), (3, .int x3_20)]) hx hb dX50_work_90 hl (k := 2) rfl (by rw [ex2_22]; rfl) (by decide) rfl (fun ls hl => ?_)
            refine lv_goto (tgt := 2) hx hb dX50_work_93 (by decide) ?_
            exact ih x2_22 f_stated_2 hw _ _ ls hH (lv_sub hl [1, 2, 0] rfl)
          · have hw := hw.2 (z_neq (rfl : x3_20.toInt = _) (rfl : (0 : Int32).toInt = 0) c_21)
            refine lv_aload_n hx hb dX50_work_85 rfl (lv_at hl 0 rfl) ?_
            refine lv_iload_n hx hb dX50_work_86 rfl (lv_at hl 2 rfl) ?_
            refine k_v0 hH (k_runV (As := [.int x2]) (rest := []) X hH.1 hH.2.1 X.2.2.2 (walkX50_single hc (x1 := x2) (f_phrases := f_phrases) (f_axioms := f_axioms) (f_axiomCount := f_axiomCount) (f_triples := f_triples) (f_tripleCount := f_tripleCount) (f_rules := f_rules) (f_instances := f_instances) (f_counts := f_counts) (f_premises := f_premises) (f_rows := f_rows) (f_stated := f_stated_2) (f_marks := f_marks) (f_broken := f_broken) (f_text := f_text) (f_size := f_size) (f_sizes := f_sizes) (f_places := f_places) hw) (cwV 1 X.1.2.2.2.2 gX50_193 rfl rfl rfl hX50_single ⟨Nat.le_of_ble_eq_true rfl, Nat.le_of_ble_eq_true rfl⟩) hc (q0 := 0) rfl rfl hl.1 rfl (Nat.le_of_ble_eq_true rfl) dX50_work_87 ⟨Nat.le_refl 0, Nat.le_refl 0⟩) (fun u H locs hw hH => ?_)
            obtain ⟨f_stated_24, eu⟩ : ∃ z, z = u := ⟨_, rfl⟩
            subst eu
            have hH : kH (dC, dI) cl A s.heap H locs (wX50 ci ad d f_phrases f_axioms f_axiomCount f_triples f_tripleCount f_rules f_instances f_counts f_premises f_rows f_stated_24 f_marks f_broken f_text f_size f_sizes f_places) := hH
            have hq_26 := hw.1
            have hw := hw.2
            obtain ⟨x2_25, ex2_25⟩ : ∃ y : Int32, y = x2 + 1 := ⟨_, rfl⟩
            have hw := hw x2_25.toInt (by rw [ex2_25]; exact (z_x (z_add (z_m (rfl : x2.toInt = _)) (z_m (rfl : (1 : Int32).toInt = 1))) hq_26))
            refine lv_iinc (v := x2_25) (lv' := [(2, .int x2_25), (0, .ref (ad 0)), (1, .int x1), (3, .int x3_20)]) hx hb dX50_work_90 hl (k := 2) rfl (by rw [ex2_25]; rfl) (by decide) rfl (fun ls hl => ?_)
            refine lv_goto (tgt := 2) hx hb dX50_work_93 (by decide) ?_
            exact ih x2_25 f_stated_24 hw _ _ ls hH (lv_sub hl [1, 2, 0] rfl)
      · have hw := hw.1 (z_eq e_4 (rfl : r_6.toInt = _) c_7)
        refine lv_iconst (v := 1) hx hb dX50_work_34 (by decide) ?_
        refine lv_goto (tgt := 39) hx hb dX50_work_35 (by decide) ?_
        refine lv_istore_n (lv' := [(3, .int 1), (0, .ref (ad 0)), (1, .int x1), (2, .int x2)]) hx hb dX50_work_39 rfl hl (by decide) rfl (fun ls hl => ?_)
        refine lv_iconst (v := 0) hx hb dX50_work_40 (by decide) ?_
        refine lv_istore (lv' := [(4, .int 0), (3, .int 1), (0, .ref (ad 0)), (1, .int x1), (2, .int x2)]) hx hb dX50_work_41 hl (by decide) rfl (fun ls hl => ?_)
        obtain ⟨fu, hw⟩ := hw
        refine atX50_work_43 hc X ?_ fu 1 0 hw _ _ ls hH (lv_sub hl [2, 3, 4, 1, 0] rfl)
        · intro x3_27 hw H locs ls hH hl
          refine lv_iload_n hx hb dX50_work_81 rfl (lv_at hl 3 rfl) ?_
          refine lv_if_eq (tgt := 90) hx hb dX50_work_82 (by decide) (fun c_28 => ?_) (fun c_28 => ?_)
          · have hw := hw.1 (z_eq (rfl : x3_27.toInt = _) (rfl : (0 : Int32).toInt = 0) c_28)
            have hq_30 := hw.1
            have hw := hw.2
            obtain ⟨x2_29, ex2_29⟩ : ∃ y : Int32, y = x2 + 1 := ⟨_, rfl⟩
            have hw := hw x2_29.toInt (by rw [ex2_29]; exact (z_x (z_add (z_m (rfl : x2.toInt = _)) (z_m (rfl : (1 : Int32).toInt = 1))) hq_30))
            refine lv_iinc (v := x2_29) (lv' := [(2, .int x2_29), (0, .ref (ad 0)), (1, .int x1), (3, .int x3_27)]) hx hb dX50_work_90 hl (k := 2) rfl (by rw [ex2_29]; rfl) (by decide) rfl (fun ls hl => ?_)
            refine lv_goto (tgt := 2) hx hb dX50_work_93 (by decide) ?_
            exact ih x2_29 f_stated_2 hw _ _ ls hH (lv_sub hl [1, 2, 0] rfl)
          · have hw := hw.2 (z_neq (rfl : x3_27.toInt = _) (rfl : (0 : Int32).toInt = 0) c_28)
            refine lv_aload_n hx hb dX50_work_85 rfl (lv_at hl 0 rfl) ?_
            refine lv_iload_n hx hb dX50_work_86 rfl (lv_at hl 2 rfl) ?_
            refine k_v0 hH (k_runV (As := [.int x2]) (rest := []) X hH.1 hH.2.1 X.2.2.2 (walkX50_single hc (x1 := x2) (f_phrases := f_phrases) (f_axioms := f_axioms) (f_axiomCount := f_axiomCount) (f_triples := f_triples) (f_tripleCount := f_tripleCount) (f_rules := f_rules) (f_instances := f_instances) (f_counts := f_counts) (f_premises := f_premises) (f_rows := f_rows) (f_stated := f_stated_2) (f_marks := f_marks) (f_broken := f_broken) (f_text := f_text) (f_size := f_size) (f_sizes := f_sizes) (f_places := f_places) hw) (cwV 1 X.1.2.2.2.2 gX50_193 rfl rfl rfl hX50_single ⟨Nat.le_of_ble_eq_true rfl, Nat.le_of_ble_eq_true rfl⟩) hc (q0 := 0) rfl rfl hl.1 rfl (Nat.le_of_ble_eq_true rfl) dX50_work_87 ⟨Nat.le_refl 0, Nat.le_refl 0⟩) (fun u H locs hw hH => ?_)
            obtain ⟨f_stated_31, eu⟩ : ∃ z, z = u := ⟨_, rfl⟩
            subst eu
            have hH : kH (dC, dI) cl A s.heap H locs (wX50 ci ad d f_phrases f_axioms f_axiomCount f_triples f_tripleCount f_rules f_instances f_counts f_premises f_rows f_stated_31 f_marks f_broken f_text f_size f_sizes f_places) := hH
            have hq_33 := hw.1
            have hw := hw.2
            obtain ⟨x2_32, ex2_32⟩ : ∃ y : Int32, y = x2 + 1 := ⟨_, rfl⟩
            have hw := hw x2_32.toInt (by rw [ex2_32]; exact (z_x (z_add (z_m (rfl : x2.toInt = _)) (z_m (rfl : (1 : Int32).toInt = 1))) hq_33))
            refine lv_iinc (v := x2_32) (lv' := [(2, .int x2_32), (0, .ref (ad 0)), (1, .int x1), (3, .int x3_27)]) hx hb dX50_work_90 hl (k := 2) rfl (by rw [ex2_32]; rfl) (by decide) rfl (fun ls hl => ?_)
            refine lv_goto (tgt := 2) hx hb dX50_work_93 (by decide) ?_
            exact ih x2_32 f_stated_31 hw _ _ ls hH (lv_sub hl [1, 2, 0] rfl)
set_option maxHeartbeats 4000000 in
theorem walkX50_work {l : Launch} {dC : Nat → ClassId} {dI : Nat → Nat → Nat} {cl : List vw_C} {ci : Nat} (hc : cl[ci]? = some (RX50, TX50, 17)) {ad : Nat → Nat} {d : Nat → ClassId} {sz : Nat} {f_phrases : Nat → Int64} {f_axioms : Nat → Int32} {f_axiomCount : Int32} {f_triples : Nat → Int32} {f_tripleCount : Int32} {f_rules : Nat → Int32} {f_instances : Nat → Int32} {f_counts : Nat → Int32} {f_premises : Nat → Int32} {f_rows : Int32} {f_stated : Nat → Int32} {f_marks : Nat → Int32} {f_broken : Int32} {f_text : Nat → Int32} {f_size : Int32} {f_sizes : Nat → Int32} {f_places : Nat → Int32} {x1 : Int32} {post : (Int → Int) → Prop} (hw : wpX50_work post (zF f_axioms) (zF f_triples) (zF f_rules) (zF f_instances) (zF f_counts) (zF f_premises) (zF f_stated) x1.toInt) :
    Met l yX50_work (ws_ yX50_work cX50_work 5 none) ({ frames := 5, cells := 0, slots := 0, locals := 124 } : Room) (kPc (dC, dI) cl (tX50 d) [.ref (ad 0), .int x1] sz (wX50 ci ad d f_phrases f_axioms f_axiomCount f_triples f_tripleCount f_rules f_instances f_counts f_premises f_rows f_stated f_marks f_broken f_text f_size f_sizes f_places)) (va_Qv (fun (u : (Nat → Int32)) => post (zF (u))) (kB (dC, dI) cl (tX50 d) (va_A (wX50 ci ad d f_phrases f_axioms f_axiomCount f_triples f_tripleCount f_rules f_instances f_counts f_premises f_rows f_stated f_marks f_broken f_text f_size f_sizes f_places) sz) (fun u : (Nat → Int32) => (wX50 ci ad d f_phrases f_axioms f_axiomCount f_triples f_tripleCount f_rules f_instances f_counts f_premises f_rows (u) f_marks f_broken f_text f_size f_sizes f_places))) (va_A (wX50 ci ad d f_phrases f_axioms f_axiomCount f_triples f_tripleCount f_rules f_instances f_counts f_premises f_rows f_stated f_marks f_broken f_text f_size f_sizes f_places) sz)) 0 0 (va_A (wX50 ci ad d f_phrases f_axioms f_axiomCount f_triples f_tripleCount f_rules f_instances f_counts f_premises f_rows f_stated f_marks f_broken f_text f_size f_sizes f_places) sz) := by
  refine k_enter (by decide) (Nat.le_of_ble_eq_true rfl) ?_
  intro p e s m below meth c ls X hsz hH hl
  subst hsz
  generalize va_A (wX50 ci ad d f_phrases f_axioms f_axiomCount f_triples f_tripleCount f_rules f_instances f_counts f_premises f_rows f_stated f_marks f_broken f_text f_size f_sizes f_places) s.heap.size = A at hH ⊢
  have hx := X.1.1
  have hb := X.1.2.1
  have hl : lv_has ls 5 [(0, .ref (ad 0)), (1, .int x1)] := hl
  unfold wpX50_work at hw
  refine lv_iconst (v := 1) hx hb dX50_work_0 (by decide) ?_
  refine lv_istore_n (lv' := [(2, .int 1), (0, .ref (ad 0)), (1, .int x1)]) hx hb dX50_work_1 rfl hl (by decide) rfl (fun ls hl => ?_)
  obtain ⟨fu, hw⟩ := hw
  refine atX50_work_2 hc X ?_ fu 1 f_stated hw _ _ ls hH (lv_sub hl [1, 2, 0] rfl)
  · intro f_stated_34 hw H locs ls hH hl
    exact k_vret X hH (f_stated_34) hw rfl dX50_work_96
set_option maxHeartbeats 4000000 in
theorem walkX50_kindOf {l : Launch} {dC : Nat → ClassId} {dI : Nat → Nat → Nat} {cl : List vw_C} {ci : Nat} (hc : cl[ci]? = some (RX50, TX50, 17)) {ad : Nat → Nat} {d : Nat → ClassId} {sz : Nat} {f_phrases : Nat → Int64} {f_axioms : Nat → Int32} {f_axiomCount : Int32} {f_triples : Nat → Int32} {f_tripleCount : Int32} {f_rules : Nat → Int32} {f_instances : Nat → Int32} {f_counts : Nat → Int32} {f_premises : Nat → Int32} {f_rows : Int32} {f_stated : Nat → Int32} {f_marks : Nat → Int32} {f_broken : Int32} {f_text : Nat → Int32} {f_size : Int32} {f_sizes : Nat → Int32} {f_places : Nat → Int32} {x1 : Int32} {post : Int → Prop} (hw : wpX50_kindOf post (zF f_stated) x1.toInt) :
    Met l yX50_kindOf (ws_ yX50_kindOf cX50_kindOf 2 (some .int)) ({ frames := 0, cells := 0, slots := 0, locals := 0 } : Room) (kPc (dC, dI) cl (tX50 d) [.ref (ad 0), .int x1] sz (wX50 ci ad d f_phrases f_axioms f_axiomCount f_triples f_tripleCount f_rules f_instances f_counts f_premises f_rows f_stated f_marks f_broken f_text f_size f_sizes f_places)) (va_Qi (fun (r : Int32) (_ : Unit) => post r.toInt) (kB (dC, dI) cl (tX50 d) (va_A (wX50 ci ad d f_phrases f_axioms f_axiomCount f_triples f_tripleCount f_rules f_instances f_counts f_premises f_rows f_stated f_marks f_broken f_text f_size f_sizes f_places) sz) (fun _ : Unit => (wX50 ci ad d f_phrases f_axioms f_axiomCount f_triples f_tripleCount f_rules f_instances f_counts f_premises f_rows f_stated f_marks f_broken f_text f_size f_sizes f_places))) (va_A (wX50 ci ad d f_phrases f_axioms f_axiomCount f_triples f_tripleCount f_rules f_instances f_counts f_premises f_rows f_stated f_marks f_broken f_text f_size f_sizes f_places) sz)) 0 0 (va_A (wX50 ci ad d f_phrases f_axioms f_axiomCount f_triples f_tripleCount f_rules f_instances f_counts f_premises f_rows f_stated f_marks f_broken f_text f_size f_sizes f_places) sz) := by
  refine k_enter (by decide) (Nat.le_of_ble_eq_true rfl) ?_
  intro p e s m below meth c ls X hsz hH hl
  subst hsz
  generalize va_A (wX50 ci ad d f_phrases f_axioms f_axiomCount f_triples f_tripleCount f_rules f_instances f_counts f_premises f_rows f_stated f_marks f_broken f_text f_size f_sizes f_places) s.heap.size = A at hH ⊢
  have hx := X.1.1
  have hb := X.1.2.1
  have hl : lv_has ls 2 [(0, .ref (ad 0)), (1, .int x1)] := hl
  unfold wpX50_kindOf at hw
  refine lv_aload_n hx hb dX50_kindOf_0 rfl (lv_at hl 0 rfl) ?_
  refine k_get X hH in_X50 0 rfl hc 10 (by decide) q6294 rfl dX50_kindOf_1 ?_
  refine lv_iconst (v := 4) hx hb dX50_kindOf_4 (by decide) ?_
  refine lv_iload_n hx hb dX50_kindOf_5 rfl (lv_at hl 1 rfl) ?_
  refine lv_imul hx hb dX50_kindOf_6 ?_
  have e_1 := z_mul (z_m (rfl : (4 : Int32).toInt = 4)) (z_m (rfl : x1.toInt = _))
  have hq_2 := hw.1
  have hw := hw.2
  have e_3 := z_xi e_1 hq_2 (by decide)
  refine k_iald X hH 8 7 rfl rfl (z_in e_3 hq_2) dX50_kindOf_7 ?_
  have e_4 := z_ld (f := f_stated) e_3 hq_2.1
  exact k_iret (v := f_stated (4 * x1).toNatClampNeg) X hH () (by rw [show (f_stated (4 * x1).toNatClampNeg : Int32).toInt = _ from e_4]; exact hw) rfl rfl dX50_kindOf_8
set_option maxHeartbeats 4000000 in
theorem atX50_check_58 {p : Program} {l : Launch} {e : Env} {s : State} {m : MethodId} {args : Array Value} {below : List Frame} {meth : Method} {c : Code} {dC : Nat → ClassId} {dI : Nat → Nat → Nat} {cl : List vw_C} {ci : Nat} (hc : cl[ci]? = some (RX50, TX50, 17)) {ad : Nat → Nat} {d : Nat → ClassId} {A : Nat → Prop} {post : Int → (Int → Int) → (Int → Int) → Int → Prop} {f_phrases : Nat → Int64} {f_axioms : Nat → Int32} {f_axiomCount : Int32} {f_triples : Nat → Int32} {f_tripleCount : Int32} {f_rules : Nat → Int32} {f_instances : Nat → Int32} {f_counts : Nat → Int32} {f_premises : Nat → Int32} {f_rows : Int32} {f_text : Nat → Int32} {f_size : Int32} {f_sizes : Nat → Int32} {f_places : Nat → Int32} (X : kX p s m args meth c cX50_check 5 RX50 (some .int) (dC, dI) cl (tX50 d)) {K96 : Int → Prop} {x1 : Int32} {x2 : Int32} {f_stated : Nat → Int32} {f_marks : Nat → Int32} {f_broken : Int32} (hk96 : ∀ (x3 : Int32), K96 x3.toInt → ∀ (H : Heap) (locs : List Loc) (ls : Array Slot), kH (dC, dI) cl A s.heap H locs (wX50 ci ad d f_phrases f_axioms f_axiomCount f_triples f_tripleCount f_rules f_instances f_counts f_premises f_rows f_stated f_marks f_broken f_text f_size f_sizes f_places) → lv_has ls 5 [(0, .ref (ad 0)), (1, .int x1), (2, .int x2), (3, .int x3)] → W p l e ({ frames := 6, cells := 0, slots := 0, locals := 148 } : Room) s m args below meth c H locs 0 0 (MQ below (va_Qi (fun (r : Int32) (u : (Nat → Int32) × (Nat → Int32) × Int32) => post r.toInt (zF (u.1)) (zF (u.2.1)) (u.2.2).toInt) (kB (dC, dI) cl (tX50 d) A (fun u : (Nat → Int32) × (Nat → Int32) × Int32 => (wX50 ci ad d f_phrases f_axioms f_axiomCount f_triples f_tripleCount f_rules f_instances f_counts f_premises f_rows (u.1) (u.2.1) (u.2.2) f_text f_size f_sizes f_places))) A) args s 0 0 A) (F0 m 96 ls [])) :
    ∀ (nn : Nat) (x3 : Int32) (x4 : Int32), wX50_check_58 K96 x2.toInt (zF f_counts) (zF f_premises) (zF f_stated) nn x3.toInt x4.toInt → ∀ (H : Heap) (locs : List Loc) (ls : Array Slot), kH (dC, dI) cl A s.heap H locs (wX50 ci ad d f_phrases f_axioms f_axiomCount f_triples f_tripleCount f_rules f_instances f_counts f_premises f_rows f_stated f_marks f_broken f_text f_size f_sizes f_places) → lv_has ls 5 [(0, .ref (ad 0)), (1, .int x1), (2, .int x2), (3, .int x3), (4, .int x4)] → W p l e ({ frames := 6, cells := 0, slots := 0, locals := 148 } : Room) s m args below meth c H locs 0 0 (MQ below (va_Qi (fun (r : Int32) (u : (Nat → Int32) × (Nat → Int32) × Int32) => post r.toInt (zF (u.1)) (zF (u.2.1)) (u.2.2).toInt) (kB (dC, dI) cl (tX50 d) A (fun u : (Nat → Int32) × (Nat → Int32) × Int32 => (wX50 ci ad d f_phrases f_axioms f_axiomCount f_triples f_tripleCount f_rules f_instances f_counts f_premises f_rows (u.1) (u.2.1) (u.2.2) f_text f_size f_sizes f_places))) A) args s 0 0 A) (F0 m 58 ls []) := by
  have hx := X.1.1
  have hb := X.1.2.1
  intro nn
  induction nn with
  | zero =>
    intro x3 x4 hw
    exact False.elim hw
  | succ n ih =>
    intro x3 x4 hw H locs ls hH hl
    rw [wX50_check_58] at hw
    refine lv_iload hx hb dX50_check_58 (lv_at hl 4 rfl) ?_
    refine lv_aload_n hx hb dX50_check_60 rfl (lv_at hl 0 rfl) ?_
    refine k_get X hH in_X50 0 rfl hc 7 (by decide) q6291 rfl dX50_check_61 ?_
    refine lv_iload_n hx hb dX50_check_64 rfl (lv_at hl 2 rfl) ?_
    have hq_10 := hw.1
    have hw := hw.2
    refine k_iald X hH 6 5 rfl rfl (z_in (rfl : x2.toInt = _) hq_10) dX50_check_65 ?_
    have e_11 := z_ld (f := f_counts) (rfl : x2.toInt = _) hq_10.1
    refine lv_icmp_ge (tgt := 96) hx hb dX50_check_66 (by decide) (fun c_12 => ?_) (fun c_12 => ?_)
    · have hw := hw.1 (z_le e_11 (rfl : x4.toInt = _) c_12)
      exact hk96 x3 hw _ _ ls hH (lv_sub hl [0, 1, 2, 3] rfl)
    · have hw := hw.2 (z_nle e_11 (rfl : x4.toInt = _) c_12)
      refine lv_iload_n hx hb dX50_check_69 rfl (lv_at hl 3 rfl) ?_
      refine lv_if_eq (tgt := 88) hx hb dX50_check_70 (by decide) (fun c_13 => ?_) (fun c_13 => ?_)
      · have hw := hw.1 (z_eq (rfl : x3.toInt = _) (rfl : (0 : Int32).toInt = 0) c_13)
        refine lv_iconst (v := 0) hx hb dX50_check_88 (by decide) ?_
        refine lv_istore_n (lv' := [(3, .int 0), (0, .ref (ad 0)), (1, .int x1), (2, .int x2), (4, .int x4)]) hx hb dX50_check_89 rfl hl (by decide) rfl (fun ls hl => ?_)
        have hq_15 := hw.1
        have hw := hw.2
        obtain ⟨x4_14, ex4_14⟩ : ∃ y : Int32, y = x4 + 1 := ⟨_, rfl⟩
        have hw := hw x4_14.toInt (by rw [ex4_14]; exact (z_x (z_add (z_m (rfl : x4.toInt = _)) (z_m (rfl : (1 : Int32).toInt = 1))) hq_15))
        refine lv_iinc (v := x4_14) (lv' := [(4, .int x4_14), (3, .int 0), (0, .ref (ad 0)), (1, .int x1), (2, .int x2)]) hx hb dX50_check_90 hl (k := 4) rfl (by rw [ex4_14]; rfl) (by decide) rfl (fun ls hl => ?_)
        refine lv_goto (tgt := 58) hx hb dX50_check_93 (by decide) ?_
        exact ih 0 x4_14 hw _ _ ls hH (lv_sub hl [2, 3, 4, 1, 0] rfl)
      · have hw := hw.2 (z_neq (rfl : x3.toInt = _) (rfl : (0 : Int32).toInt = 0) c_13)
        refine lv_aload_n hx hb dX50_check_73 rfl (lv_at hl 0 rfl) ?_
        refine lv_iload_n hx hb dX50_check_74 rfl (lv_at hl 2 rfl) ?_
        refine lv_iload hx hb dX50_check_75 (lv_at hl 4 rfl) ?_
        refine lv_iconst (v := 0) hx hb dX50_check_77 (by decide) ?_
        refine k_i0 hH (k_runV (As := [.int x2, .int x4, .int 0]) (rest := []) X hH.1 hH.2.1 X.2.2.2 (walkX50_of hc (x1 := x2) (x2 := x4) (x3 := 0) (f_phrases := f_phrases) (f_axioms := f_axioms) (f_axiomCount := f_axiomCount) (f_triples := f_triples) (f_tripleCount := f_tripleCount) (f_rules := f_rules) (f_instances := f_instances) (f_counts := f_counts) (f_premises := f_premises) (f_rows := f_rows) (f_stated := f_stated) (f_marks := f_marks) (f_broken := f_broken) (f_text := f_text) (f_size := f_size) (f_sizes := f_sizes) (f_places := f_places) hw) (cwV 3 X.1.2.2.2.2 gX50_185 rfl rfl rfl hX50_of ⟨Nat.le_of_ble_eq_true rfl, Nat.le_of_ble_eq_true rfl⟩) hc (q0 := 0) rfl rfl hl.1 rfl (Nat.le_of_ble_eq_true rfl) dX50_check_78 ⟨Nat.le_refl 0, Nat.le_refl 0⟩) (fun r_16 _ H locs hw hH => ?_)
        have hH : kH (dC, dI) cl A s.heap H locs (wX50 ci ad d f_phrases f_axioms f_axiomCount f_triples f_tripleCount f_rules f_instances f_counts f_premises f_rows f_stated f_marks f_broken f_text f_size f_sizes f_places) := hH
        refine lv_if_eq (tgt := 88) hx hb dX50_check_81 (by decide) (fun c_17 => ?_) (fun c_17 => ?_)
        · have hw := hw.1 (z_eq (rfl : r_16.toInt = _) (rfl : (0 : Int32).toInt = 0) c_17)
          refine lv_iconst (v := 0) hx hb dX50_check_88 (by decide) ?_
          refine lv_istore_n (lv' := [(3, .int 0), (0, .ref (ad 0)), (1, .int x1), (2, .int x2), (4, .int x4)]) hx hb dX50_check_89 rfl hl (by decide) rfl (fun ls hl => ?_)
          have hq_19 := hw.1
          have hw := hw.2
          obtain ⟨x4_18, ex4_18⟩ : ∃ y : Int32, y = x4 + 1 := ⟨_, rfl⟩
          have hw := hw x4_18.toInt (by rw [ex4_18]; exact (z_x (z_add (z_m (rfl : x4.toInt = _)) (z_m (rfl : (1 : Int32).toInt = 1))) hq_19))
          refine lv_iinc (v := x4_18) (lv' := [(4, .int x4_18), (3, .int 0), (0, .ref (ad 0)), (1, .int x1), (2, .int x2)]) hx hb dX50_check_90 hl (k := 4) rfl (by rw [ex4_18]; rfl) (by decide) rfl (fun ls hl => ?_)
          refine lv_goto (tgt := 58) hx hb dX50_check_93 (by decide) ?_
          exact ih 0 x4_18 hw _ _ ls hH (lv_sub hl [2, 3, 4, 1, 0] rfl)
        · have hw := hw.2 (z_neq (rfl : r_16.toInt = _) (rfl : (0 : Int32).toInt = 0) c_17)
          refine lv_iconst (v := 1) hx hb dX50_check_84 (by decide) ?_
          refine lv_goto (tgt := 89) hx hb dX50_check_85 (by decide) ?_
          refine lv_istore_n (lv' := [(3, .int 1), (0, .ref (ad 0)), (1, .int x1), (2, .int x2), (4, .int x4)]) hx hb dX50_check_89 rfl hl (by decide) rfl (fun ls hl => ?_)
          have hq_21 := hw.1
          have hw := hw.2
          obtain ⟨x4_20, ex4_20⟩ : ∃ y : Int32, y = x4 + 1 := ⟨_, rfl⟩
          have hw := hw x4_20.toInt (by rw [ex4_20]; exact (z_x (z_add (z_m (rfl : x4.toInt = _)) (z_m (rfl : (1 : Int32).toInt = 1))) hq_21))
          refine lv_iinc (v := x4_20) (lv' := [(4, .int x4_20), (3, .int 1), (0, .ref (ad 0)), (1, .int x1), (2, .int x2)]) hx hb dX50_check_90 hl (k := 4) rfl (by rw [ex4_20]; rfl) (by decide) rfl (fun ls hl => ?_)
          refine lv_goto (tgt := 58) hx hb dX50_check_93 (by decide) ?_
          exact ih 1 x4_20 hw _ _ ls hH (lv_sub hl [2, 3, 4, 1, 0] rfl)
set_option maxHeartbeats 4000000 in
theorem atX50_check_28 {p : Program} {l : Launch} {e : Env} {s : State} {m : MethodId} {args : Array Value} {below : List Frame} {meth : Method} {c : Code} {dC : Nat → ClassId} {dI : Nat → Nat → Nat} {cl : List vw_C} {ci : Nat} (hc : cl[ci]? = some (RX50, TX50, 17)) {ad : Nat → Nat} {d : Nat → ClassId} {A : Nat → Prop} {post : Int → (Int → Int) → (Int → Int) → Int → Prop} {f_phrases : Nat → Int64} {f_axioms : Nat → Int32} {f_axiomCount : Int32} {f_triples : Nat → Int32} {f_tripleCount : Int32} {f_rules : Nat → Int32} {f_instances : Nat → Int32} {f_counts : Nat → Int32} {f_premises : Nat → Int32} {f_rows : Int32} {f_text : Nat → Int32} {f_size : Int32} {f_sizes : Nat → Int32} {f_places : Nat → Int32} (X : kX p s m args meth c cX50_check 5 RX50 (some .int) (dC, dI) cl (tX50 d)) {K111 : Int → Prop} {x1 : Int32} {f_stated : Nat → Int32} {f_marks : Nat → Int32} (hk111 : ∀ (f_broken : Int32), K111 f_broken.toInt → ∀ (H : Heap) (locs : List Loc) (ls : Array Slot), kH (dC, dI) cl A s.heap H locs (wX50 ci ad d f_phrases f_axioms f_axiomCount f_triples f_tripleCount f_rules f_instances f_counts f_premises f_rows f_stated f_marks f_broken f_text f_size f_sizes f_places) → lv_has ls 5 [(0, .ref (ad 0)), (1, .int x1)] → W p l e ({ frames := 6, cells := 0, slots := 0, locals := 148 } : Room) s m args below meth c H locs 0 0 (MQ below (va_Qi (fun (r : Int32) (u : (Nat → Int32) × (Nat → Int32) × Int32) => post r.toInt (zF (u.1)) (zF (u.2.1)) (u.2.2).toInt) (kB (dC, dI) cl (tX50 d) A (fun u : (Nat → Int32) × (Nat → Int32) × Int32 => (wX50 ci ad d f_phrases f_axioms f_axiomCount f_triples f_tripleCount f_rules f_instances f_counts f_premises f_rows (u.1) (u.2.1) (u.2.2) f_text f_size f_sizes f_places))) A) args s 0 0 A) (F0 m 111 ls [])) :
    ∀ (nn : Nat) (x2 : Int32) (f_broken : Int32), wX50_check_28 K111 (zF f_counts) (zF f_premises) (zF f_stated) (zF f_marks) nn x2.toInt f_broken.toInt → ∀ (H : Heap) (locs : List Loc) (ls : Array Slot), kH (dC, dI) cl A s.heap H locs (wX50 ci ad d f_phrases f_axioms f_axiomCount f_triples f_tripleCount f_rules f_instances f_counts f_premises f_rows f_stated f_marks f_broken f_text f_size f_sizes f_places) → lv_has ls 5 [(0, .ref (ad 0)), (1, .int x1), (2, .int x2)] → W p l e ({ frames := 6, cells := 0, slots := 0, locals := 148 } : Room) s m args below meth c H locs 0 0 (MQ below (va_Qi (fun (r : Int32) (u : (Nat → Int32) × (Nat → Int32) × Int32) => post r.toInt (zF (u.1)) (zF (u.2.1)) (u.2.2).toInt) (kB (dC, dI) cl (tX50 d) A (fun u : (Nat → Int32) × (Nat → Int32) × Int32 => (wX50 ci ad d f_phrases f_axioms f_axiomCount f_triples f_tripleCount f_rules f_instances f_counts f_premises f_rows (u.1) (u.2.1) (u.2.2) f_text f_size f_sizes f_places))) A) args s 0 0 A) (F0 m 28 ls []) := by
  have hx := X.1.1
  have hb := X.1.2.1
  intro nn
  induction nn with
  | zero =>
    intro x2 f_broken hw
    exact False.elim hw
  | succ n ih =>
    intro x2 f_broken hw H locs ls hH hl
    rw [wX50_check_28] at hw
    refine lv_iload_n hx hb dX50_check_28 rfl (lv_at hl 2 rfl) ?_
    refine lv_if_le (tgt := 111) hx hb dX50_check_29 (by decide) (fun c_6 => ?_) (fun c_6 => ?_)
    · have hw := hw.1 (z_le (rfl : x2.toInt = _) (rfl : (0 : Int32).toInt = 0) c_6)
      exact hk111 f_broken hw _ _ ls hH (lv_sub hl [0, 1] rfl)
    · have hw := hw.2 (z_nle (rfl : x2.toInt = _) (rfl : (0 : Int32).toInt = 0) c_6)
      refine lv_aload_n hx hb dX50_check_32 rfl (lv_at hl 0 rfl) ?_
      refine k_get X hH in_X50 0 rfl hc 11 (by decide) q6295 rfl dX50_check_33 ?_
      refine lv_iload_n hx hb dX50_check_36 rfl (lv_at hl 2 rfl) ?_
      have hq_7 := hw.1
      have hw := hw.2
      refine k_zald X hH 9 8 rfl rfl (z_in (rfl : x2.toInt = _) hq_7) dX50_check_37 ?_
      have e_8 := z_ld (f := f_marks) (rfl : x2.toInt = _) hq_7.1
      refine lv_if_eq (tgt := 53) hx hb dX50_check_38 (by decide) (fun c_9 => ?_) (fun c_9 => ?_)
      · have hw := hw.1 (z_eq e_8 (rfl : (0 : Int32).toInt = 0) c_9)
        refine lv_iconst (v := 0) hx hb dX50_check_53 (by decide) ?_
        refine lv_istore_n (lv' := [(3, .int 0), (0, .ref (ad 0)), (1, .int x1), (2, .int x2)]) hx hb dX50_check_54 rfl hl (by decide) rfl (fun ls hl => ?_)
        refine lv_iconst (v := 0) hx hb dX50_check_55 (by decide) ?_
        refine lv_istore (lv' := [(4, .int 0), (3, .int 0), (0, .ref (ad 0)), (1, .int x1), (2, .int x2)]) hx hb dX50_check_56 hl (by decide) rfl (fun ls hl => ?_)
        obtain ⟨fu, hw⟩ := hw
        refine atX50_check_58 hc X ?_ fu 0 0 hw _ _ ls hH (lv_sub hl [2, 3, 4, 1, 0] rfl)
        · intro x3_22 hw H locs ls hH hl
          refine lv_iload_n hx hb dX50_check_96 rfl (lv_at hl 3 rfl) ?_
          refine lv_if_eq (tgt := 105) hx hb dX50_check_97 (by decide) (fun c_23 => ?_) (fun c_23 => ?_)
          · have hw := hw.1 (z_eq (rfl : x3_22.toInt = _) (rfl : (0 : Int32).toInt = 0) c_23)
            have hq_25 := hw.1
            have hw := hw.2
            obtain ⟨x2_24, ex2_24⟩ : ∃ y : Int32, y = x2 + (-1) := ⟨_, rfl⟩
            have hw := hw x2_24.toInt (by rw [ex2_24]; exact (z_x (z_add (z_m (rfl : x2.toInt = _)) (z_m (rfl : ((-1) : Int32).toInt = (-1)))) hq_25))
            refine lv_iinc (v := x2_24) (lv' := [(2, .int x2_24), (0, .ref (ad 0)), (1, .int x1), (3, .int x3_22)]) hx hb dX50_check_105 hl (k := 2) rfl (by rw [ex2_24]; rfl) (by decide) rfl (fun ls hl => ?_)
            refine lv_goto (tgt := 28) hx hb dX50_check_108 (by decide) ?_
            exact ih x2_24 f_broken hw _ _ ls hH (lv_sub hl [1, 2, 0] rfl)
          · have hw := hw.2 (z_neq (rfl : x3_22.toInt = _) (rfl : (0 : Int32).toInt = 0) c_23)
            refine lv_aload_n hx hb dX50_check_100 rfl (lv_at hl 0 rfl) ?_
            refine lv_iload_n hx hb dX50_check_101 rfl (lv_at hl 2 rfl) ?_
            refine k_put X hH in_X50 tyX50_ok nmX50 0 rfl hc 12 (by decide) q6296 rfl (ty := .int) rfl rfl rfl (Nat.le_of_ble_eq_true rfl) dX50_check_102 (ws1 := (wX50 ci ad d f_phrases f_axioms f_axiomCount f_triples f_tripleCount f_rules f_instances f_counts f_premises f_rows f_stated f_marks x2 f_text f_size f_sizes f_places)) rfl (fun H locs hH => ?_)
            have hq_27 := hw.1
            have hw := hw.2
            obtain ⟨x2_26, ex2_26⟩ : ∃ y : Int32, y = x2 + (-1) := ⟨_, rfl⟩
            have hw := hw x2_26.toInt (by rw [ex2_26]; exact (z_x (z_add (z_m (rfl : x2.toInt = _)) (z_m (rfl : ((-1) : Int32).toInt = (-1)))) hq_27))
            refine lv_iinc (v := x2_26) (lv' := [(2, .int x2_26), (0, .ref (ad 0)), (1, .int x1), (3, .int x3_22)]) hx hb dX50_check_105 hl (k := 2) rfl (by rw [ex2_26]; rfl) (by decide) rfl (fun ls hl => ?_)
            refine lv_goto (tgt := 28) hx hb dX50_check_108 (by decide) ?_
            exact ih x2_26 x2 hw _ _ ls hH (lv_sub hl [1, 2, 0] rfl)
      · have hw := hw.2 (z_neq e_8 (rfl : (0 : Int32).toInt = 0) c_9)
        refine lv_aload_n hx hb dX50_check_41 rfl (lv_at hl 0 rfl) ?_
        refine lv_iload_n hx hb dX50_check_42 rfl (lv_at hl 2 rfl) ?_
        refine k_i0 hH (k_runV (As := [.int x2]) (rest := []) X hH.1 hH.2.1 X.2.2.2 (walkX50_kindOf hc (x1 := x2) (f_phrases := f_phrases) (f_axioms := f_axioms) (f_axiomCount := f_axiomCount) (f_triples := f_triples) (f_tripleCount := f_tripleCount) (f_rules := f_rules) (f_instances := f_instances) (f_counts := f_counts) (f_premises := f_premises) (f_rows := f_rows) (f_stated := f_stated) (f_marks := f_marks) (f_broken := f_broken) (f_text := f_text) (f_size := f_size) (f_sizes := f_sizes) (f_places := f_places) hw) (cwV 1 X.1.2.2.2.2 gX50_221 rfl rfl rfl hX50_kindOf ⟨Nat.le_of_ble_eq_true rfl, Nat.le_of_ble_eq_true rfl⟩) hc (q0 := 0) rfl rfl hl.1 rfl (Nat.le_of_ble_eq_true rfl) dX50_check_43 ⟨Nat.le_refl 0, Nat.le_refl 0⟩) (fun r_28 _ H locs hw hH => ?_)
        have hH : kH (dC, dI) cl A s.heap H locs (wX50 ci ad d f_phrases f_axioms f_axiomCount f_triples f_tripleCount f_rules f_instances f_counts f_premises f_rows f_stated f_marks f_broken f_text f_size f_sizes f_places) := hH
        refine lv_if_ne (tgt := 53) hx hb dX50_check_46 (by decide) (fun c_29 => ?_) (fun c_29 => ?_)
        · have hw := hw.2 (z_ne (rfl : r_28.toInt = _) (rfl : (0 : Int32).toInt = 0) c_29)
          refine lv_iconst (v := 0) hx hb dX50_check_53 (by decide) ?_
          refine lv_istore_n (lv' := [(3, .int 0), (0, .ref (ad 0)), (1, .int x1), (2, .int x2)]) hx hb dX50_check_54 rfl hl (by decide) rfl (fun ls hl => ?_)
          refine lv_iconst (v := 0) hx hb dX50_check_55 (by decide) ?_
          refine lv_istore (lv' := [(4, .int 0), (3, .int 0), (0, .ref (ad 0)), (1, .int x1), (2, .int x2)]) hx hb dX50_check_56 hl (by decide) rfl (fun ls hl => ?_)
          obtain ⟨fu, hw⟩ := hw
          refine atX50_check_58 hc X ?_ fu 0 0 hw _ _ ls hH (lv_sub hl [2, 3, 4, 1, 0] rfl)
          · intro x3_30 hw H locs ls hH hl
            refine lv_iload_n hx hb dX50_check_96 rfl (lv_at hl 3 rfl) ?_
            refine lv_if_eq (tgt := 105) hx hb dX50_check_97 (by decide) (fun c_31 => ?_) (fun c_31 => ?_)
            · have hw := hw.1 (z_eq (rfl : x3_30.toInt = _) (rfl : (0 : Int32).toInt = 0) c_31)
              have hq_33 := hw.1
              have hw := hw.2
              obtain ⟨x2_32, ex2_32⟩ : ∃ y : Int32, y = x2 + (-1) := ⟨_, rfl⟩
              have hw := hw x2_32.toInt (by rw [ex2_32]; exact (z_x (z_add (z_m (rfl : x2.toInt = _)) (z_m (rfl : ((-1) : Int32).toInt = (-1)))) hq_33))
              refine lv_iinc (v := x2_32) (lv' := [(2, .int x2_32), (0, .ref (ad 0)), (1, .int x1), (3, .int x3_30)]) hx hb dX50_check_105 hl (k := 2) rfl (by rw [ex2_32]; rfl) (by decide) rfl (fun ls hl => ?_)
              refine lv_goto (tgt := 28) hx hb dX50_check_108 (by decide) ?_
              exact ih x2_32 f_broken hw _ _ ls hH (lv_sub hl [1, 2, 0] rfl)
            · have hw := hw.2 (z_neq (rfl : x3_30.toInt = _) (rfl : (0 : Int32).toInt = 0) c_31)
              refine lv_aload_n hx hb dX50_check_100 rfl (lv_at hl 0 rfl) ?_
              refine lv_iload_n hx hb dX50_check_101 rfl (lv_at hl 2 rfl) ?_
              refine k_put X hH in_X50 tyX50_ok nmX50 0 rfl hc 12 (by decide) q6296 rfl (ty := .int) rfl rfl rfl (Nat.le_of_ble_eq_true rfl) dX50_check_102 (ws1 := (wX50 ci ad d f_phrases f_axioms f_axiomCount f_triples f_tripleCount f_rules f_instances f_counts f_premises f_rows f_stated f_marks x2 f_text f_size f_sizes f_places)) rfl (fun H locs hH => ?_)
              have hq_35 := hw.1
              have hw := hw.2
              obtain ⟨x2_34, ex2_34⟩ : ∃ y : Int32, y = x2 + (-1) := ⟨_, rfl⟩
              have hw := hw x2_34.toInt (by rw [ex2_34]; exact (z_x (z_add (z_m (rfl : x2.toInt = _)) (z_m (rfl : ((-1) : Int32).toInt = (-1)))) hq_35))
              refine lv_iinc (v := x2_34) (lv' := [(2, .int x2_34), (0, .ref (ad 0)), (1, .int x1), (3, .int x3_30)]) hx hb dX50_check_105 hl (k := 2) rfl (by rw [ex2_34]; rfl) (by decide) rfl (fun ls hl => ?_)
              refine lv_goto (tgt := 28) hx hb dX50_check_108 (by decide) ?_
              exact ih x2_34 x2 hw _ _ ls hH (lv_sub hl [1, 2, 0] rfl)
        · have hw := hw.1 (z_eq (rfl : r_28.toInt = _) (rfl : (0 : Int32).toInt = 0) c_29)
          refine lv_iconst (v := 1) hx hb dX50_check_49 (by decide) ?_
          refine lv_goto (tgt := 54) hx hb dX50_check_50 (by decide) ?_
          refine lv_istore_n (lv' := [(3, .int 1), (0, .ref (ad 0)), (1, .int x1), (2, .int x2)]) hx hb dX50_check_54 rfl hl (by decide) rfl (fun ls hl => ?_)
          refine lv_iconst (v := 0) hx hb dX50_check_55 (by decide) ?_
          refine lv_istore (lv' := [(4, .int 0), (3, .int 1), (0, .ref (ad 0)), (1, .int x1), (2, .int x2)]) hx hb dX50_check_56 hl (by decide) rfl (fun ls hl => ?_)
          obtain ⟨fu, hw⟩ := hw
          refine atX50_check_58 hc X ?_ fu 1 0 hw _ _ ls hH (lv_sub hl [2, 3, 4, 1, 0] rfl)
          · intro x3_36 hw H locs ls hH hl
            refine lv_iload_n hx hb dX50_check_96 rfl (lv_at hl 3 rfl) ?_
            refine lv_if_eq (tgt := 105) hx hb dX50_check_97 (by decide) (fun c_37 => ?_) (fun c_37 => ?_)
            · have hw := hw.1 (z_eq (rfl : x3_36.toInt = _) (rfl : (0 : Int32).toInt = 0) c_37)
              have hq_39 := hw.1
              have hw := hw.2
              obtain ⟨x2_38, ex2_38⟩ : ∃ y : Int32, y = x2 + (-1) := ⟨_, rfl⟩
              have hw := hw x2_38.toInt (by rw [ex2_38]; exact (z_x (z_add (z_m (rfl : x2.toInt = _)) (z_m (rfl : ((-1) : Int32).toInt = (-1)))) hq_39))
              refine lv_iinc (v := x2_38) (lv' := [(2, .int x2_38), (0, .ref (ad 0)), (1, .int x1), (3, .int x3_36)]) hx hb dX50_check_105 hl (k := 2) rfl (by rw [ex2_38]; rfl) (by decide) rfl (fun ls hl => ?_)
              refine lv_goto (tgt := 28) hx hb dX50_check_108 (by decide) ?_
              exact ih x2_38 f_broken hw _ _ ls hH (lv_sub hl [1, 2, 0] rfl)
            · have hw := hw.2 (z_neq (rfl : x3_36.toInt = _) (rfl : (0 : Int32).toInt = 0) c_37)
              refine lv_aload_n hx hb dX50_check_100 rfl (lv_at hl 0 rfl) ?_
              refine lv_iload_n hx hb dX50_check_101 rfl (lv_at hl 2 rfl) ?_
              refine k_put X hH in_X50 tyX50_ok nmX50 0 rfl hc 12 (by decide) q6296 rfl (ty := .int) rfl rfl rfl (Nat.le_of_ble_eq_true rfl) dX50_check_102 (ws1 := (wX50 ci ad d f_phrases f_axioms f_axiomCount f_triples f_tripleCount f_rules f_instances f_counts f_premises f_rows f_stated f_marks x2 f_text f_size f_sizes f_places)) rfl (fun H locs hH => ?_)
              have hq_41 := hw.1
              have hw := hw.2
              obtain ⟨x2_40, ex2_40⟩ : ∃ y : Int32, y = x2 + (-1) := ⟨_, rfl⟩
              have hw := hw x2_40.toInt (by rw [ex2_40]; exact (z_x (z_add (z_m (rfl : x2.toInt = _)) (z_m (rfl : ((-1) : Int32).toInt = (-1)))) hq_41))
              refine lv_iinc (v := x2_40) (lv' := [(2, .int x2_40), (0, .ref (ad 0)), (1, .int x1), (3, .int x3_36)]) hx hb dX50_check_105 hl (k := 2) rfl (by rw [ex2_40]; rfl) (by decide) rfl (fun ls hl => ?_)
              refine lv_goto (tgt := 28) hx hb dX50_check_108 (by decide) ?_
              exact ih x2_40 x2 hw _ _ ls hH (lv_sub hl [1, 2, 0] rfl)
set_option maxHeartbeats 4000000 in
theorem walkX50_check {l : Launch} {dC : Nat → ClassId} {dI : Nat → Nat → Nat} {cl : List vw_C} {ci : Nat} (hc : cl[ci]? = some (RX50, TX50, 17)) {ad : Nat → Nat} {d : Nat → ClassId} {sz : Nat} {f_phrases : Nat → Int64} {f_axioms : Nat → Int32} {f_axiomCount : Int32} {f_triples : Nat → Int32} {f_tripleCount : Int32} {f_rules : Nat → Int32} {f_instances : Nat → Int32} {f_counts : Nat → Int32} {f_premises : Nat → Int32} {f_rows : Int32} {f_stated : Nat → Int32} {f_marks : Nat → Int32} {f_broken : Int32} {f_text : Nat → Int32} {f_size : Int32} {f_sizes : Nat → Int32} {f_places : Nat → Int32} {x1 : Int32} {post : Int → (Int → Int) → (Int → Int) → Int → Prop} (hw : wpX50_check post (zF f_axioms) (zF f_triples) (zF f_rules) (zF f_instances) (zF f_counts) (zF f_premises) f_rows.toInt (zF f_stated) (zF f_marks) f_broken.toInt x1.toInt) :
    Met l yX50_check (ws_ yX50_check cX50_check 5 (some .int)) ({ frames := 6, cells := 0, slots := 0, locals := 148 } : Room) (kPc (dC, dI) cl (tX50 d) [.ref (ad 0), .int x1] sz (wX50 ci ad d f_phrases f_axioms f_axiomCount f_triples f_tripleCount f_rules f_instances f_counts f_premises f_rows f_stated f_marks f_broken f_text f_size f_sizes f_places)) (va_Qi (fun (r : Int32) (u : (Nat → Int32) × (Nat → Int32) × Int32) => post r.toInt (zF (u.1)) (zF (u.2.1)) (u.2.2).toInt) (kB (dC, dI) cl (tX50 d) (va_A (wX50 ci ad d f_phrases f_axioms f_axiomCount f_triples f_tripleCount f_rules f_instances f_counts f_premises f_rows f_stated f_marks f_broken f_text f_size f_sizes f_places) sz) (fun u : (Nat → Int32) × (Nat → Int32) × Int32 => (wX50 ci ad d f_phrases f_axioms f_axiomCount f_triples f_tripleCount f_rules f_instances f_counts f_premises f_rows (u.1) (u.2.1) (u.2.2) f_text f_size f_sizes f_places))) (va_A (wX50 ci ad d f_phrases f_axioms f_axiomCount f_triples f_tripleCount f_rules f_instances f_counts f_premises f_rows f_stated f_marks f_broken f_text f_size f_sizes f_places) sz)) 0 0 (va_A (wX50 ci ad d f_phrases f_axioms f_axiomCount f_triples f_tripleCount f_rules f_instances f_counts f_premises f_rows f_stated f_marks f_broken f_text f_size f_sizes f_places) sz) := by
  refine k_enter (by decide) (Nat.le_of_ble_eq_true rfl) ?_
  intro p e s m below meth c ls X hsz hH hl
  subst hsz
  generalize va_A (wX50 ci ad d f_phrases f_axioms f_axiomCount f_triples f_tripleCount f_rules f_instances f_counts f_premises f_rows f_stated f_marks f_broken f_text f_size f_sizes f_places) s.heap.size = A at hH ⊢
  have hx := X.1.1
  have hb := X.1.2.1
  have hl : lv_has ls 5 [(0, .ref (ad 0)), (1, .int x1)] := hl
  unfold wpX50_check at hw
  refine lv_aload_n hx hb dX50_check_0 rfl (lv_at hl 0 rfl) ?_
  refine lv_iload_n hx hb dX50_check_1 rfl (lv_at hl 1 rfl) ?_
  refine k_i0 hH (k_runV (As := [.int x1]) (rest := []) X hH.1 hH.2.1 X.2.2.2 (walkX50_isRow hc (x1 := x1) (f_phrases := f_phrases) (f_axioms := f_axioms) (f_axiomCount := f_axiomCount) (f_triples := f_triples) (f_tripleCount := f_tripleCount) (f_rules := f_rules) (f_instances := f_instances) (f_counts := f_counts) (f_premises := f_premises) (f_rows := f_rows) (f_stated := f_stated) (f_marks := f_marks) (f_broken := f_broken) (f_text := f_text) (f_size := f_size) (f_sizes := f_sizes) (f_places := f_places) hw) (cwV 1 X.1.2.2.2.2 gX50_174 rfl rfl rfl hX50_isRow ⟨Nat.le_of_ble_eq_true rfl, Nat.le_of_ble_eq_true rfl⟩) hc (q0 := 0) rfl rfl hl.1 rfl (Nat.le_of_ble_eq_true rfl) dX50_check_2 ⟨Nat.le_refl 0, Nat.le_refl 0⟩) (fun r_1 _ H locs hw hH => ?_)
  have hH : kH (dC, dI) cl A s.heap H locs (wX50 ci ad d f_phrases f_axioms f_axiomCount f_triples f_tripleCount f_rules f_instances f_counts f_premises f_rows f_stated f_marks f_broken f_text f_size f_sizes f_places) := hH
  refine lv_if_ne (tgt := 10) hx hb dX50_check_5 (by decide) (fun c_2 => ?_) (fun c_2 => ?_)
  · have hw := hw.2 (z_ne (rfl : r_1.toInt = _) (rfl : (0 : Int32).toInt = 0) c_2)
    refine lv_aload_n hx hb dX50_check_10 rfl (lv_at hl 0 rfl) ?_
    refine lv_iload_n hx hb dX50_check_11 rfl (lv_at hl 1 rfl) ?_
    refine k_i0 hH (k_runV (As := [.int x1]) (rest := []) X hH.1 hH.2.1 X.2.2.2 (walkX50_mark hc (x1 := x1) (f_phrases := f_phrases) (f_axioms := f_axioms) (f_axiomCount := f_axiomCount) (f_triples := f_triples) (f_tripleCount := f_tripleCount) (f_rules := f_rules) (f_instances := f_instances) (f_counts := f_counts) (f_premises := f_premises) (f_rows := f_rows) (f_stated := f_stated) (f_marks := f_marks) (f_broken := f_broken) (f_text := f_text) (f_size := f_size) (f_sizes := f_sizes) (f_places := f_places) hw) (cwV 1 X.1.2.2.2.2 gX50_212 rfl rfl rfl hX50_mark ⟨Nat.le_of_ble_eq_true rfl, Nat.le_of_ble_eq_true rfl⟩) hc (q0 := 0) rfl rfl hl.1 rfl (Nat.le_of_ble_eq_true rfl) dX50_check_12 ⟨Nat.le_refl 0, Nat.le_refl 0⟩) (fun r_3 u H locs hw hH => ?_)
    obtain ⟨f_marks_4, eu⟩ : ∃ z, z = u := ⟨_, rfl⟩
    subst eu
    have hH : kH (dC, dI) cl A s.heap H locs (wX50 ci ad d f_phrases f_axioms f_axiomCount f_triples f_tripleCount f_rules f_instances f_counts f_premises f_rows f_stated f_marks_4 f_broken f_text f_size f_sizes f_places) := hH
    refine lv_pop hx hb dX50_check_15 rfl ?_
    refine lv_aload_n hx hb dX50_check_16 rfl (lv_at hl 0 rfl) ?_
    refine lv_iload_n hx hb dX50_check_17 rfl (lv_at hl 1 rfl) ?_
    refine k_v0 hH (k_runV (As := [.int x1]) (rest := []) X hH.1 hH.2.1 X.2.2.2 (walkX50_work hc (x1 := x1) (f_phrases := f_phrases) (f_axioms := f_axioms) (f_axiomCount := f_axiomCount) (f_triples := f_triples) (f_tripleCount := f_tripleCount) (f_rules := f_rules) (f_instances := f_instances) (f_counts := f_counts) (f_premises := f_premises) (f_rows := f_rows) (f_stated := f_stated) (f_marks := f_marks_4) (f_broken := f_broken) (f_text := f_text) (f_size := f_size) (f_sizes := f_sizes) (f_places := f_places) hw) (cwV 1 X.1.2.2.2.2 gX50_215 rfl rfl rfl hX50_work ⟨Nat.le_of_ble_eq_true rfl, Nat.le_of_ble_eq_true rfl⟩) hc (q0 := 0) rfl rfl hl.1 rfl (Nat.le_of_ble_eq_true rfl) dX50_check_18 ⟨Nat.le_refl 0, Nat.le_refl 0⟩) (fun u H locs hw hH => ?_)
    obtain ⟨f_stated_5, eu⟩ : ∃ z, z = u := ⟨_, rfl⟩
    subst eu
    have hH : kH (dC, dI) cl A s.heap H locs (wX50 ci ad d f_phrases f_axioms f_axiomCount f_triples f_tripleCount f_rules f_instances f_counts f_premises f_rows f_stated_5 f_marks_4 f_broken f_text f_size f_sizes f_places) := hH
    refine lv_aload_n hx hb dX50_check_21 rfl (lv_at hl 0 rfl) ?_
    refine lv_iconst (v := 0) hx hb dX50_check_22 (by decide) ?_
    refine k_put X hH in_X50 tyX50_ok nmX50 0 rfl hc 12 (by decide) q6296 rfl (ty := .int) rfl rfl rfl (Nat.le_of_ble_eq_true rfl) dX50_check_23 (ws1 := (wX50 ci ad d f_phrases f_axioms f_axiomCount f_triples f_tripleCount f_rules f_instances f_counts f_premises f_rows f_stated_5 f_marks_4 0 f_text f_size f_sizes f_places)) rfl (fun H locs hH => ?_)
    refine lv_iload_n hx hb dX50_check_26 rfl (lv_at hl 1 rfl) ?_
    refine lv_istore_n (lv' := [(2, .int x1), (0, .ref (ad 0)), (1, .int x1)]) hx hb dX50_check_27 rfl hl (by decide) rfl (fun ls hl => ?_)
    obtain ⟨fu, hw⟩ := hw
    refine atX50_check_28 hc X ?_ fu x1 0 hw _ _ ls hH (lv_sub hl [1, 2, 0] rfl)
    · intro f_broken_42 hw H locs ls hH hl
      refine lv_aload_n hx hb dX50_check_111 rfl (lv_at hl 0 rfl) ?_
      refine lv_iload_n hx hb dX50_check_112 rfl (lv_at hl 1 rfl) ?_
      refine k_i0 hH (k_runV (As := [.int x1]) (rest := []) X hH.1 hH.2.1 X.2.2.2 (walkX50_kindOf hc (x1 := x1) (f_phrases := f_phrases) (f_axioms := f_axioms) (f_axiomCount := f_axiomCount) (f_triples := f_triples) (f_tripleCount := f_tripleCount) (f_rules := f_rules) (f_instances := f_instances) (f_counts := f_counts) (f_premises := f_premises) (f_rows := f_rows) (f_stated := f_stated_5) (f_marks := f_marks_4) (f_broken := f_broken_42) (f_text := f_text) (f_size := f_size) (f_sizes := f_sizes) (f_places := f_places) hw) (cwV 1 X.1.2.2.2.2 gX50_221 rfl rfl rfl hX50_kindOf ⟨Nat.le_of_ble_eq_true rfl, Nat.le_of_ble_eq_true rfl⟩) hc (q0 := 0) rfl rfl hl.1 rfl (Nat.le_of_ble_eq_true rfl) dX50_check_113 ⟨Nat.le_refl 0, Nat.le_refl 0⟩) (fun r_43 _ H locs hw hH => ?_)
      have hH : kH (dC, dI) cl A s.heap H locs (wX50 ci ad d f_phrases f_axioms f_axiomCount f_triples f_tripleCount f_rules f_instances f_counts f_premises f_rows f_stated_5 f_marks_4 f_broken_42 f_text f_size f_sizes f_places) := hH
      refine lv_if_eq (tgt := 123) hx hb dX50_check_116 (by decide) (fun c_44 => ?_) (fun c_44 => ?_)
      · have hw := hw.1 (z_eq (rfl : r_43.toInt = _) (rfl : (0 : Int32).toInt = 0) c_44)
        refine lv_iconst (v := 0) hx hb dX50_check_123 (by decide) ?_
        exact k_iret (v := 0) X hH (f_stated_5, f_marks_4, f_broken_42) hw rfl rfl dX50_check_124
      · have hw := hw.2 (z_neq (rfl : r_43.toInt = _) (rfl : (0 : Int32).toInt = 0) c_44)
        refine lv_iconst (v := 1) hx hb dX50_check_119 (by decide) ?_
        refine lv_goto (tgt := 124) hx hb dX50_check_120 (by decide) ?_
        exact k_iret (v := 1) X hH (f_stated_5, f_marks_4, f_broken_42) hw rfl rfl dX50_check_124
  · have hw := hw.1 (z_eq (rfl : r_1.toInt = _) (rfl : (0 : Int32).toInt = 0) c_2)
    refine lv_iconst (v := (-1)) hx hb dX50_check_8 (by decide) ?_
    exact k_iret (v := (-1)) X hH (f_stated, f_marks, f_broken) hw rfl rfl dX50_check_9
set_option maxHeartbeats 4000000 in
theorem walkX50_broken {l : Launch} {dC : Nat → ClassId} {dI : Nat → Nat → Nat} {cl : List vw_C} {ci : Nat} (hc : cl[ci]? = some (RX50, TX50, 17)) {ad : Nat → Nat} {d : Nat → ClassId} {sz : Nat} {f_phrases : Nat → Int64} {f_axioms : Nat → Int32} {f_axiomCount : Int32} {f_triples : Nat → Int32} {f_tripleCount : Int32} {f_rules : Nat → Int32} {f_instances : Nat → Int32} {f_counts : Nat → Int32} {f_premises : Nat → Int32} {f_rows : Int32} {f_stated : Nat → Int32} {f_marks : Nat → Int32} {f_broken : Int32} {f_text : Nat → Int32} {f_size : Int32} {f_sizes : Nat → Int32} {f_places : Nat → Int32}  {post : Int → Prop} (hw : wpX50_broken post f_broken.toInt ) :
    Met l yX50_broken (ws_ yX50_broken cX50_broken 1 (some .int)) ({ frames := 0, cells := 0, slots := 0, locals := 0 } : Room) (kPc (dC, dI) cl (tX50 d) [.ref (ad 0)] sz (wX50 ci ad d f_phrases f_axioms f_axiomCount f_triples f_tripleCount f_rules f_instances f_counts f_premises f_rows f_stated f_marks f_broken f_text f_size f_sizes f_places)) (va_Qi (fun (r : Int32) (_ : Unit) => post r.toInt) (kB (dC, dI) cl (tX50 d) (va_A (wX50 ci ad d f_phrases f_axioms f_axiomCount f_triples f_tripleCount f_rules f_instances f_counts f_premises f_rows f_stated f_marks f_broken f_text f_size f_sizes f_places) sz) (fun _ : Unit => (wX50 ci ad d f_phrases f_axioms f_axiomCount f_triples f_tripleCount f_rules f_instances f_counts f_premises f_rows f_stated f_marks f_broken f_text f_size f_sizes f_places))) (va_A (wX50 ci ad d f_phrases f_axioms f_axiomCount f_triples f_tripleCount f_rules f_instances f_counts f_premises f_rows f_stated f_marks f_broken f_text f_size f_sizes f_places) sz)) 0 0 (va_A (wX50 ci ad d f_phrases f_axioms f_axiomCount f_triples f_tripleCount f_rules f_instances f_counts f_premises f_rows f_stated f_marks f_broken f_text f_size f_sizes f_places) sz) := by
  refine k_enter (by decide) (Nat.le_of_ble_eq_true rfl) ?_
  intro p e s m below meth c ls X hsz hH hl
  subst hsz
  generalize va_A (wX50 ci ad d f_phrases f_axioms f_axiomCount f_triples f_tripleCount f_rules f_instances f_counts f_premises f_rows f_stated f_marks f_broken f_text f_size f_sizes f_places) s.heap.size = A at hH ⊢
  have hx := X.1.1
  have hb := X.1.2.1
  have hl : lv_has ls 1 [(0, .ref (ad 0))] := hl
  unfold wpX50_broken at hw
  refine lv_aload_n hx hb dX50_broken_0 rfl (lv_at hl 0 rfl) ?_
  refine k_get X hH in_X50 0 rfl hc 12 (by decide) q6296 rfl dX50_broken_1 ?_
  exact k_iret (v := f_broken) X hH () hw rfl rfl dX50_broken_4
set_option maxHeartbeats 4000000 in
theorem walkX50_rows {l : Launch} {dC : Nat → ClassId} {dI : Nat → Nat → Nat} {cl : List vw_C} {ci : Nat} (hc : cl[ci]? = some (RX50, TX50, 17)) {ad : Nat → Nat} {d : Nat → ClassId} {sz : Nat} {f_phrases : Nat → Int64} {f_axioms : Nat → Int32} {f_axiomCount : Int32} {f_triples : Nat → Int32} {f_tripleCount : Int32} {f_rules : Nat → Int32} {f_instances : Nat → Int32} {f_counts : Nat → Int32} {f_premises : Nat → Int32} {f_rows : Int32} {f_stated : Nat → Int32} {f_marks : Nat → Int32} {f_broken : Int32} {f_text : Nat → Int32} {f_size : Int32} {f_sizes : Nat → Int32} {f_places : Nat → Int32} {x1 : Int32} {post : Int → (Int → Int) → Prop} (hw : wpX50_rows post (zF f_counts) (zF f_premises) f_rows.toInt (zF f_marks) x1.toInt) :
    Met l yX50_rows (ws_ yX50_rows cX50_rows 2 (some .int)) ({ frames := 1, cells := 0, slots := 0, locals := 24 } : Room) (kPc (dC, dI) cl (tX50 d) [.ref (ad 0), .int x1] sz (wX50 ci ad d f_phrases f_axioms f_axiomCount f_triples f_tripleCount f_rules f_instances f_counts f_premises f_rows f_stated f_marks f_broken f_text f_size f_sizes f_places)) (va_Qi (fun (r : Int32) (u : (Nat → Int32)) => post r.toInt (zF (u))) (kB (dC, dI) cl (tX50 d) (va_A (wX50 ci ad d f_phrases f_axioms f_axiomCount f_triples f_tripleCount f_rules f_instances f_counts f_premises f_rows f_stated f_marks f_broken f_text f_size f_sizes f_places) sz) (fun u : (Nat → Int32) => (wX50 ci ad d f_phrases f_axioms f_axiomCount f_triples f_tripleCount f_rules f_instances f_counts f_premises f_rows f_stated (u) f_broken f_text f_size f_sizes f_places))) (va_A (wX50 ci ad d f_phrases f_axioms f_axiomCount f_triples f_tripleCount f_rules f_instances f_counts f_premises f_rows f_stated f_marks f_broken f_text f_size f_sizes f_places) sz)) 0 0 (va_A (wX50 ci ad d f_phrases f_axioms f_axiomCount f_triples f_tripleCount f_rules f_instances f_counts f_premises f_rows f_stated f_marks f_broken f_text f_size f_sizes f_places) sz) := by
  refine k_enter (by decide) (Nat.le_of_ble_eq_true rfl) ?_
  intro p e s m below meth c ls X hsz hH hl
  subst hsz
  generalize va_A (wX50 ci ad d f_phrases f_axioms f_axiomCount f_triples f_tripleCount f_rules f_instances f_counts f_premises f_rows f_stated f_marks f_broken f_text f_size f_sizes f_places) s.heap.size = A at hH ⊢
  have hx := X.1.1
  have hb := X.1.2.1
  have hl : lv_has ls 2 [(0, .ref (ad 0)), (1, .int x1)] := hl
  unfold wpX50_rows at hw
  refine lv_aload_n hx hb dX50_rows_0 rfl (lv_at hl 0 rfl) ?_
  refine lv_iload_n hx hb dX50_rows_1 rfl (lv_at hl 1 rfl) ?_
  refine k_i0 hH (k_runV (As := [.int x1]) (rest := []) X hH.1 hH.2.1 X.2.2.2 (walkX50_isRow hc (x1 := x1) (f_phrases := f_phrases) (f_axioms := f_axioms) (f_axiomCount := f_axiomCount) (f_triples := f_triples) (f_tripleCount := f_tripleCount) (f_rules := f_rules) (f_instances := f_instances) (f_counts := f_counts) (f_premises := f_premises) (f_rows := f_rows) (f_stated := f_stated) (f_marks := f_marks) (f_broken := f_broken) (f_text := f_text) (f_size := f_size) (f_sizes := f_sizes) (f_places := f_places) hw) (cwV 1 X.1.2.2.2.2 gX50_174 rfl rfl rfl hX50_isRow ⟨Nat.le_of_ble_eq_true rfl, Nat.le_of_ble_eq_true rfl⟩) hc (q0 := 0) rfl rfl hl.1 rfl (Nat.le_of_ble_eq_true rfl) dX50_rows_2 ⟨Nat.le_refl 0, Nat.le_refl 0⟩) (fun r_1 _ H locs hw hH => ?_)
  have hH : kH (dC, dI) cl A s.heap H locs (wX50 ci ad d f_phrases f_axioms f_axiomCount f_triples f_tripleCount f_rules f_instances f_counts f_premises f_rows f_stated f_marks f_broken f_text f_size f_sizes f_places) := hH
  refine lv_if_eq (tgt := 16) hx hb dX50_rows_5 (by decide) (fun c_2 => ?_) (fun c_2 => ?_)
  · have hw := hw.1 (z_eq (rfl : r_1.toInt = _) (rfl : (0 : Int32).toInt = 0) c_2)
    refine lv_iconst (v := (-1)) hx hb dX50_rows_16 (by decide) ?_
    exact k_iret (v := (-1)) X hH (f_marks) hw rfl rfl dX50_rows_17
  · have hw := hw.2 (z_neq (rfl : r_1.toInt = _) (rfl : (0 : Int32).toInt = 0) c_2)
    refine lv_aload_n hx hb dX50_rows_8 rfl (lv_at hl 0 rfl) ?_
    refine lv_iload_n hx hb dX50_rows_9 rfl (lv_at hl 1 rfl) ?_
    refine k_i0 hH (k_runV (As := [.int x1]) (rest := []) X hH.1 hH.2.1 X.2.2.2 (walkX50_mark hc (x1 := x1) (f_phrases := f_phrases) (f_axioms := f_axioms) (f_axiomCount := f_axiomCount) (f_triples := f_triples) (f_tripleCount := f_tripleCount) (f_rules := f_rules) (f_instances := f_instances) (f_counts := f_counts) (f_premises := f_premises) (f_rows := f_rows) (f_stated := f_stated) (f_marks := f_marks) (f_broken := f_broken) (f_text := f_text) (f_size := f_size) (f_sizes := f_sizes) (f_places := f_places) hw) (cwV 1 X.1.2.2.2.2 gX50_212 rfl rfl rfl hX50_mark ⟨Nat.le_of_ble_eq_true rfl, Nat.le_of_ble_eq_true rfl⟩) hc (q0 := 0) rfl rfl hl.1 rfl (Nat.le_of_ble_eq_true rfl) dX50_rows_10 ⟨Nat.le_refl 0, Nat.le_refl 0⟩) (fun r_3 u H locs hw hH => ?_)
    obtain ⟨f_marks_4, eu⟩ : ∃ z, z = u := ⟨_, rfl⟩
    subst eu
    have hH : kH (dC, dI) cl A s.heap H locs (wX50 ci ad d f_phrases f_axioms f_axiomCount f_triples f_tripleCount f_rules f_instances f_counts f_premises f_rows f_stated f_marks_4 f_broken f_text f_size f_sizes f_places) := hH
    refine lv_goto (tgt := 17) hx hb dX50_rows_13 (by decide) ?_
    exact k_iret (v := r_3) X hH (f_marks_4) hw rfl rfl dX50_rows_17
set_option maxHeartbeats 4000000 in
theorem atX50_size_22 {p : Program} {l : Launch} {e : Env} {s : State} {m : MethodId} {args : Array Value} {below : List Frame} {meth : Method} {c : Code} {dC : Nat → ClassId} {dI : Nat → Nat → Nat} {cl : List vw_C} {ci : Nat} (hc : cl[ci]? = some (RX50, TX50, 17)) {ad : Nat → Nat} {d : Nat → ClassId} {A : Nat → Prop} {post : Int → (Int → Int) → Prop} {f_phrases : Nat → Int64} {f_axioms : Nat → Int32} {f_axiomCount : Int32} {f_triples : Nat → Int32} {f_tripleCount : Int32} {f_rules : Nat → Int32} {f_instances : Nat → Int32} {f_counts : Nat → Int32} {f_premises : Nat → Int32} {f_rows : Int32} {f_stated : Nat → Int32} {f_marks : Nat → Int32} {f_broken : Int32} {f_text : Nat → Int32} {f_size : Int32} {f_places : Nat → Int32} (X : kX p s m args meth c cX50_size 6 RX50 (some .int) (dC, dI) cl (tX50 d)) {K59 : Int → Prop} {x1 : Int32} {x2 : Int32} {f_sizes : Nat → Int32} (hk59 : ∀ (x3 : Int64), K59 x3.toInt → ∀ (H : Heap) (locs : List Loc) (ls : Array Slot), kH (dC, dI) cl A s.heap H locs (wX50 ci ad d f_phrases f_axioms f_axiomCount f_triples f_tripleCount f_rules f_instances f_counts f_premises f_rows f_stated f_marks f_broken f_text f_size f_sizes f_places) → lv_has ls 6 [(0, .ref (ad 0)), (1, .int x1), (2, .int x2), (3, .long x3)] → W p l e ({ frames := 1, cells := 0, slots := 0, locals := 21 } : Room) s m args below meth c H locs 0 0 (MQ below (va_Qi (fun (r : Int32) (u : (Nat → Int32)) => post r.toInt (zF (u))) (kB (dC, dI) cl (tX50 d) A (fun u : (Nat → Int32) => (wX50 ci ad d f_phrases f_axioms f_axiomCount f_triples f_tripleCount f_rules f_instances f_counts f_premises f_rows f_stated f_marks f_broken f_text f_size (u) f_places))) A) args s 0 0 A) (F0 m 59 ls [])) :
    ∀ (nn : Nat) (x3 : Int64) (x5 : Int32), wX50_size_22 K59 x2.toInt (zF f_counts) (zF f_premises) (zF f_sizes) nn x3.toInt x5.toInt → ∀ (H : Heap) (locs : List Loc) (ls : Array Slot), kH (dC, dI) cl A s.heap H locs (wX50 ci ad d f_phrases f_axioms f_axiomCount f_triples f_tripleCount f_rules f_instances f_counts f_premises f_rows f_stated f_marks f_broken f_text f_size f_sizes f_places) → lv_has ls 6 [(0, .ref (ad 0)), (1, .int x1), (2, .int x2), (3, .long x3), (5, .int x5)] → W p l e ({ frames := 1, cells := 0, slots := 0, locals := 21 } : Room) s m args below meth c H locs 0 0 (MQ below (va_Qi (fun (r : Int32) (u : (Nat → Int32)) => post r.toInt (zF (u))) (kB (dC, dI) cl (tX50 d) A (fun u : (Nat → Int32) => (wX50 ci ad d f_phrases f_axioms f_axiomCount f_triples f_tripleCount f_rules f_instances f_counts f_premises f_rows f_stated f_marks f_broken f_text f_size (u) f_places))) A) args s 0 0 A) (F0 m 22 ls []) := by
  have hx := X.1.1
  have hb := X.1.2.1
  intro nn
  induction nn with
  | zero =>
    intro x3 x5 hw
    exact False.elim hw
  | succ n ih =>
    intro x3 x5 hw H locs ls hH hl
    rw [wX50_size_22] at hw
    refine lv_iload hx hb dX50_size_22 (lv_at hl 4 rfl) ?_
    refine lv_aload_n hx hb dX50_size_24 rfl (lv_at hl 0 rfl) ?_
    refine k_get X hH in_X50 0 rfl hc 7 (by decide) q6291 rfl dX50_size_25 ?_
    refine lv_iload_n hx hb dX50_size_28 rfl (lv_at hl 2 rfl) ?_
    have hq_4 := hw.1
    have hw := hw.2
    refine k_iald X hH 6 5 rfl rfl (z_in (rfl : x2.toInt = _) hq_4) dX50_size_29 ?_
    have e_5 := z_ld (f := f_counts) (rfl : x2.toInt = _) hq_4.1
    refine lv_icmp_ge (tgt := 59) hx hb dX50_size_30 (by decide) (fun c_6 => ?_) (fun c_6 => ?_)
    · have hw := hw.1 (z_le e_5 (rfl : x5.toInt = _) c_6)
      exact hk59 x3 hw _ _ ls hH (lv_sub hl [0, 1, 2, 3] rfl)
    · have hw := hw.2 (z_nle e_5 (rfl : x5.toInt = _) c_6)
      refine lv_lload_n hx hb dX50_size_33 rfl (lv_at hl 3 rfl) ?_
      refine lv_aload_n hx hb dX50_size_34 rfl (lv_at hl 0 rfl) ?_
      refine k_get X hH in_X50 0 rfl hc 15 (by decide) q6299 rfl dX50_size_35 ?_
      refine lv_aload_n hx hb dX50_size_38 rfl (lv_at hl 0 rfl) ?_
      refine k_get X hH in_X50 0 rfl hc 8 (by decide) q6292 rfl dX50_size_39 ?_
      refine lv_iconst (v := 3) hx hb dX50_size_42 (by decide) ?_
      refine lv_iload_n hx hb dX50_size_43 rfl (lv_at hl 2 rfl) ?_
      refine lv_imul hx hb dX50_size_44 ?_
      have e_7 := z_mul (z_m (rfl : (3 : Int32).toInt = 3)) (z_m (rfl : x2.toInt = _))
      refine lv_iload hx hb dX50_size_45 (lv_at hl 4 rfl) ?_
      refine lv_iadd hx hb dX50_size_47 ?_
      have e_8 := z_add e_7 (z_m (rfl : x5.toInt = _))
      have hq_9 := hw.1
      have hw := hw.2
      have e_10 := z_xi e_8 hq_9 (by decide)
      refine k_iald X hH 7 6 rfl rfl (z_in e_10 hq_9) dX50_size_48 ?_
      have e_11 := z_ld (f := f_premises) e_10 hq_9.1
      have hq_12 := hw.1
      have hw := hw.2
      refine k_iald X hH 11 10 rfl rfl (z_in e_11 hq_12) dX50_size_49 ?_
      have e_13 := z_ld (f := f_sizes) e_11 hq_12.1
      refine lv_i2l (v := (f_sizes (f_premises ((3 * x2) + x5).toNatClampNeg).toNatClampNeg).toInt64) hx hb dX50_size_50 rfl ?_
      have e_14 := z_i2l e_13
      refine lv_ladd hx hb dX50_size_51 ?_
      have e_15 := zL_add (zL_m (rfl : x3.toInt = _)) (zL_m e_14)
      have hq_16 := hw.1
      have hw := hw.2
      have e_17 := zL_x e_15 hq_16
      refine lv_topl (fun x3_18 ex3_18 => ?_)
      have hw := hw x3_18.toInt (by rw [ex3_18]; exact e_17)
      refine lv_lstore_n (lv' := [(3, .long x3_18), (0, .ref (ad 0)), (1, .int x1), (2, .int x2), (5, .int x5)]) hx hb dX50_size_52 rfl hl (by decide) rfl (fun ls hl => ?_)
      have hq_20 := hw.1
      have hw := hw.2
      obtain ⟨x5_19, ex5_19⟩ : ∃ y : Int32, y = x5 + 1 := ⟨_, rfl⟩
      have hw := hw x5_19.toInt (by rw [ex5_19]; exact (z_x (z_add (z_m (rfl : x5.toInt = _)) (z_m (rfl : (1 : Int32).toInt = 1))) hq_20))
      refine lv_iinc (v := x5_19) (lv' := [(5, .int x5_19), (3, .long x3_18), (0, .ref (ad 0)), (1, .int x1), (2, .int x2)]) hx hb dX50_size_53 hl (k := 4) rfl (by rw [ex5_19]; rfl) (by decide) rfl (fun ls hl => ?_)
      refine lv_goto (tgt := 22) hx hb dX50_size_56 (by decide) ?_
      exact ih x3_18 x5_19 hw _ _ ls hH (lv_sub hl [2, 3, 4, 1, 0] rfl)
set_option maxHeartbeats 4000000 in
theorem atX50_size_12 {p : Program} {l : Launch} {e : Env} {s : State} {m : MethodId} {args : Array Value} {below : List Frame} {meth : Method} {c : Code} {dC : Nat → ClassId} {dI : Nat → Nat → Nat} {cl : List vw_C} {ci : Nat} (hc : cl[ci]? = some (RX50, TX50, 17)) {ad : Nat → Nat} {d : Nat → ClassId} {A : Nat → Prop} {post : Int → (Int → Int) → Prop} {f_phrases : Nat → Int64} {f_axioms : Nat → Int32} {f_axiomCount : Int32} {f_triples : Nat → Int32} {f_tripleCount : Int32} {f_rules : Nat → Int32} {f_instances : Nat → Int32} {f_counts : Nat → Int32} {f_premises : Nat → Int32} {f_rows : Int32} {f_stated : Nat → Int32} {f_marks : Nat → Int32} {f_broken : Int32} {f_text : Nat → Int32} {f_size : Int32} {f_places : Nat → Int32} (X : kX p s m args meth c cX50_size 6 RX50 (some .int) (dC, dI) cl (tX50 d)) {K86 : (Int → Int) → Prop} {x1 : Int32}  (hk86 : ∀ (f_sizes : Nat → Int32), K86 (zF f_sizes) → ∀ (H : Heap) (locs : List Loc) (ls : Array Slot), kH (dC, dI) cl A s.heap H locs (wX50 ci ad d f_phrases f_axioms f_axiomCount f_triples f_tripleCount f_rules f_instances f_counts f_premises f_rows f_stated f_marks f_broken f_text f_size f_sizes f_places) → lv_has ls 6 [(0, .ref (ad 0)), (1, .int x1)] → W p l e ({ frames := 1, cells := 0, slots := 0, locals := 21 } : Room) s m args below meth c H locs 0 0 (MQ below (va_Qi (fun (r : Int32) (u : (Nat → Int32)) => post r.toInt (zF (u))) (kB (dC, dI) cl (tX50 d) A (fun u : (Nat → Int32) => (wX50 ci ad d f_phrases f_axioms f_axiomCount f_triples f_tripleCount f_rules f_instances f_counts f_premises f_rows f_stated f_marks f_broken f_text f_size (u) f_places))) A) args s 0 0 A) (F0 m 86 ls [])) :
    ∀ (nn : Nat) (x2 : Int32) (f_sizes : Nat → Int32), wX50_size_12 K86 x1.toInt (zF f_counts) (zF f_premises) nn x2.toInt (zF f_sizes) → ∀ (H : Heap) (locs : List Loc) (ls : Array Slot), kH (dC, dI) cl A s.heap H locs (wX50 ci ad d f_phrases f_axioms f_axiomCount f_triples f_tripleCount f_rules f_instances f_counts f_premises f_rows f_stated f_marks f_broken f_text f_size f_sizes f_places) → lv_has ls 6 [(0, .ref (ad 0)), (1, .int x1), (2, .int x2)] → W p l e ({ frames := 1, cells := 0, slots := 0, locals := 21 } : Room) s m args below meth c H locs 0 0 (MQ below (va_Qi (fun (r : Int32) (u : (Nat → Int32)) => post r.toInt (zF (u))) (kB (dC, dI) cl (tX50 d) A (fun u : (Nat → Int32) => (wX50 ci ad d f_phrases f_axioms f_axiomCount f_triples f_tripleCount f_rules f_instances f_counts f_premises f_rows f_stated f_marks f_broken f_text f_size (u) f_places))) A) args s 0 0 A) (F0 m 12 ls []) := by
  have hx := X.1.1
  have hb := X.1.2.1
  intro nn
  induction nn with
  | zero =>
    intro x2 f_sizes hw
    exact False.elim hw
  | succ n ih =>
    intro x2 f_sizes hw H locs ls hH hl
    rw [wX50_size_12] at hw
    refine lv_iload_n hx hb dX50_size_12 rfl (lv_at hl 2 rfl) ?_
    refine lv_iload_n hx hb dX50_size_13 rfl (lv_at hl 1 rfl) ?_
    refine lv_icmp_gt (tgt := 86) hx hb dX50_size_14 (by decide) (fun c_3 => ?_) (fun c_3 => ?_)
    · have hw := hw.1 (z_lt (rfl : x1.toInt = _) (rfl : x2.toInt = _) c_3)
      exact hk86 f_sizes hw _ _ ls hH (lv_sub hl [0, 1] rfl)
    · have hw := hw.2 (z_nlt (rfl : x1.toInt = _) (rfl : x2.toInt = _) c_3)
      refine lv_lconst (v := 1) hx hb dX50_size_17 (by decide) ?_
      refine lv_lstore_n (lv' := [(3, .long 1), (0, .ref (ad 0)), (1, .int x1), (2, .int x2)]) hx hb dX50_size_18 rfl hl (by decide) rfl (fun ls hl => ?_)
      refine lv_iconst (v := 0) hx hb dX50_size_19 (by decide) ?_
      refine lv_istore (lv' := [(5, .int 0), (3, .long 1), (0, .ref (ad 0)), (1, .int x1), (2, .int x2)]) hx hb dX50_size_20 hl (by decide) rfl (fun ls hl => ?_)
      obtain ⟨fu, hw⟩ := hw
      refine atX50_size_22 hc X ?_ fu 1 0 hw _ _ ls hH (lv_sub hl [2, 3, 4, 1, 0] rfl)
      · intro x3_21 hw H locs ls hH hl
        refine lv_aload_n hx hb dX50_size_59 rfl (lv_at hl 0 rfl) ?_
        refine k_get X hH in_X50 0 rfl hc 15 (by decide) q6299 rfl dX50_size_60 ?_
        refine lv_iload_n hx hb dX50_size_63 rfl (lv_at hl 2 rfl) ?_
        refine lv_lload_n hx hb dX50_size_64 rfl (lv_at hl 3 rfl) ?_
        refine lv_ldc2 (v := 1000000000) hx hb X.1.2.2.2.1 (X.1.2.2.2.2 _ q8415) dX50_size_65 ?_
        refine W.lcmp hx hb dX50_size_68 ?_
        refine lv_if_le (tgt := 77) hx hb dX50_size_69 (by decide) (fun c_22 => ?_) (fun c_22 => ?_)
        · have hw := hw.1 (zL_le (rfl : x3_21.toInt = _) (rfl : (1000000000 : Int64).toInt = 1000000000) (k_lc_le.mp c_22))
          refine lv_lload_n hx hb dX50_size_77 rfl (lv_at hl 3 rfl) ?_
          refine lv_l2i (v := x3_21.toInt32) hx hb dX50_size_78 rfl ?_
          have e_23 := z_l2iM (zL_m (rfl : x3_21.toInt = _))
          have hq_24 := hw.1
          have hw := hw.2
          have e_25 := z_x e_23 hq_24
          refine lv_topi (fun v_26 ev_26 => ?_)
          have hw := hw v_26.toInt (by rw [ev_26]; exact e_25)
          have hq_28 := hw.1
          have hw := hw.2
          obtain ⟨f_sizes_27, ef_sizes_27⟩ : ∃ y : Nat → Int32, y = upd f_sizes x2.toNatClampNeg v_26 := ⟨_, rfl⟩
          refine k_iast X hH 11 10 rfl rfl (z_in (rfl : x2.toInt = _) hq_28) dX50_size_79 ef_sizes_27 (ws1 := (wX50 ci ad d f_phrases f_axioms f_axiomCount f_triples f_tripleCount f_rules f_instances f_counts f_premises f_rows f_stated f_marks f_broken f_text f_size f_sizes_27 f_places)) rfl (fun H locs hH => ?_)
          have hw := hw (zF f_sizes_27) (by rw [ef_sizes_27]; exact z_st (f := f_sizes) (rfl : x2.toInt = _) hq_28.1 (rfl : v_26.toInt = _))
          have hq_30 := hw.1
          have hw := hw.2
          obtain ⟨x2_29, ex2_29⟩ : ∃ y : Int32, y = x2 + 1 := ⟨_, rfl⟩
          have hw := hw x2_29.toInt (by rw [ex2_29]; exact (z_x (z_add (z_m (rfl : x2.toInt = _)) (z_m (rfl : (1 : Int32).toInt = 1))) hq_30))
          refine lv_iinc (v := x2_29) (lv' := [(2, .int x2_29), (0, .ref (ad 0)), (1, .int x1), (3, .long x3_21)]) hx hb dX50_size_80 hl (k := 2) rfl (by rw [ex2_29]; rfl) (by decide) rfl (fun ls hl => ?_)
          refine lv_goto (tgt := 12) hx hb dX50_size_83 (by decide) ?_
          exact ih x2_29 f_sizes_27 hw _ _ ls hH (lv_sub hl [1, 2, 0] rfl)
        · have hw := hw.2 (zL_nle (rfl : x3_21.toInt = _) (rfl : (1000000000 : Int64).toInt = 1000000000) (fun z => c_22 (k_lc_le.mpr z)))
          refine lv_ldc (v := 1000000000) hx hb X.1.2.2.2.1 (X.1.2.2.2.2 _ q8416) dX50_size_72 ?_
          refine lv_goto (tgt := 79) hx hb dX50_size_74 (by decide) ?_
          have hq_32 := hw.1
          have hw := hw.2
          obtain ⟨f_sizes_31, ef_sizes_31⟩ : ∃ y : Nat → Int32, y = upd f_sizes x2.toNatClampNeg 1000000000 := ⟨_, rfl⟩
          refine k_iast X hH 11 10 rfl rfl (z_in (rfl : x2.toInt = _) hq_32) dX50_size_79 ef_sizes_31 (ws1 := (wX50 ci ad d f_phrases f_axioms f_axiomCount f_triples f_tripleCount f_rules f_instances f_counts f_premises f_rows f_stated f_marks f_broken f_text f_size f_sizes_31 f_places)) rfl (fun H locs hH => ?_)
          have hw := hw (zF f_sizes_31) (by rw [ef_sizes_31]; exact z_st (f := f_sizes) (rfl : x2.toInt = _) hq_32.1 (rfl : (1000000000 : Int32).toInt = 1000000000))
          have hq_34 := hw.1
          have hw := hw.2
          obtain ⟨x2_33, ex2_33⟩ : ∃ y : Int32, y = x2 + 1 := ⟨_, rfl⟩
          have hw := hw x2_33.toInt (by rw [ex2_33]; exact (z_x (z_add (z_m (rfl : x2.toInt = _)) (z_m (rfl : (1 : Int32).toInt = 1))) hq_34))
          refine lv_iinc (v := x2_33) (lv' := [(2, .int x2_33), (0, .ref (ad 0)), (1, .int x1), (3, .long x3_21)]) hx hb dX50_size_80 hl (k := 2) rfl (by rw [ex2_33]; rfl) (by decide) rfl (fun ls hl => ?_)
          refine lv_goto (tgt := 12) hx hb dX50_size_83 (by decide) ?_
          exact ih x2_33 f_sizes_31 hw _ _ ls hH (lv_sub hl [1, 2, 0] rfl)
set_option maxHeartbeats 4000000 in
theorem walkX50_size {l : Launch} {dC : Nat → ClassId} {dI : Nat → Nat → Nat} {cl : List vw_C} {ci : Nat} (hc : cl[ci]? = some (RX50, TX50, 17)) {ad : Nat → Nat} {d : Nat → ClassId} {sz : Nat} {f_phrases : Nat → Int64} {f_axioms : Nat → Int32} {f_axiomCount : Int32} {f_triples : Nat → Int32} {f_tripleCount : Int32} {f_rules : Nat → Int32} {f_instances : Nat → Int32} {f_counts : Nat → Int32} {f_premises : Nat → Int32} {f_rows : Int32} {f_stated : Nat → Int32} {f_marks : Nat → Int32} {f_broken : Int32} {f_text : Nat → Int32} {f_size : Int32} {f_sizes : Nat → Int32} {f_places : Nat → Int32} {x1 : Int32} {post : Int → (Int → Int) → Prop} (hw : wpX50_size post (zF f_counts) (zF f_premises) f_rows.toInt (zF f_sizes) x1.toInt) :
    Met l yX50_size (ws_ yX50_size cX50_size 6 (some .int)) ({ frames := 1, cells := 0, slots := 0, locals := 21 } : Room) (kPc (dC, dI) cl (tX50 d) [.ref (ad 0), .int x1] sz (wX50 ci ad d f_phrases f_axioms f_axiomCount f_triples f_tripleCount f_rules f_instances f_counts f_premises f_rows f_stated f_marks f_broken f_text f_size f_sizes f_places)) (va_Qi (fun (r : Int32) (u : (Nat → Int32)) => post r.toInt (zF (u))) (kB (dC, dI) cl (tX50 d) (va_A (wX50 ci ad d f_phrases f_axioms f_axiomCount f_triples f_tripleCount f_rules f_instances f_counts f_premises f_rows f_stated f_marks f_broken f_text f_size f_sizes f_places) sz) (fun u : (Nat → Int32) => (wX50 ci ad d f_phrases f_axioms f_axiomCount f_triples f_tripleCount f_rules f_instances f_counts f_premises f_rows f_stated f_marks f_broken f_text f_size (u) f_places))) (va_A (wX50 ci ad d f_phrases f_axioms f_axiomCount f_triples f_tripleCount f_rules f_instances f_counts f_premises f_rows f_stated f_marks f_broken f_text f_size f_sizes f_places) sz)) 0 0 (va_A (wX50 ci ad d f_phrases f_axioms f_axiomCount f_triples f_tripleCount f_rules f_instances f_counts f_premises f_rows f_stated f_marks f_broken f_text f_size f_sizes f_places) sz) := by
  refine k_enter (by decide) (Nat.le_of_ble_eq_true rfl) ?_
  intro p e s m below meth c ls X hsz hH hl
  subst hsz
  generalize va_A (wX50 ci ad d f_phrases f_axioms f_axiomCount f_triples f_tripleCount f_rules f_instances f_counts f_premises f_rows f_stated f_marks f_broken f_text f_size f_sizes f_places) s.heap.size = A at hH ⊢
  have hx := X.1.1
  have hb := X.1.2.1
  have hl : lv_has ls 6 [(0, .ref (ad 0)), (1, .int x1)] := hl
  unfold wpX50_size at hw
  refine lv_aload_n hx hb dX50_size_0 rfl (lv_at hl 0 rfl) ?_
  refine lv_iload_n hx hb dX50_size_1 rfl (lv_at hl 1 rfl) ?_
  refine k_i0 hH (k_runV (As := [.int x1]) (rest := []) X hH.1 hH.2.1 X.2.2.2 (walkX50_isRow hc (x1 := x1) (f_phrases := f_phrases) (f_axioms := f_axioms) (f_axiomCount := f_axiomCount) (f_triples := f_triples) (f_tripleCount := f_tripleCount) (f_rules := f_rules) (f_instances := f_instances) (f_counts := f_counts) (f_premises := f_premises) (f_rows := f_rows) (f_stated := f_stated) (f_marks := f_marks) (f_broken := f_broken) (f_text := f_text) (f_size := f_size) (f_sizes := f_sizes) (f_places := f_places) hw) (cwV 1 X.1.2.2.2.2 gX50_174 rfl rfl rfl hX50_isRow ⟨Nat.le_of_ble_eq_true rfl, Nat.le_of_ble_eq_true rfl⟩) hc (q0 := 0) rfl rfl hl.1 rfl (Nat.le_of_ble_eq_true rfl) dX50_size_2 ⟨Nat.le_refl 0, Nat.le_refl 0⟩) (fun r_1 _ H locs hw hH => ?_)
  have hH : kH (dC, dI) cl A s.heap H locs (wX50 ci ad d f_phrases f_axioms f_axiomCount f_triples f_tripleCount f_rules f_instances f_counts f_premises f_rows f_stated f_marks f_broken f_text f_size f_sizes f_places) := hH
  refine lv_if_ne (tgt := 10) hx hb dX50_size_5 (by decide) (fun c_2 => ?_) (fun c_2 => ?_)
  · have hw := hw.2 (z_ne (rfl : r_1.toInt = _) (rfl : (0 : Int32).toInt = 0) c_2)
    refine lv_iconst (v := 1) hx hb dX50_size_10 (by decide) ?_
    refine lv_istore_n (lv' := [(2, .int 1), (0, .ref (ad 0)), (1, .int x1)]) hx hb dX50_size_11 rfl hl (by decide) rfl (fun ls hl => ?_)
    obtain ⟨fu, hw⟩ := hw
    refine atX50_size_12 hc X ?_ fu 1 f_sizes hw _ _ ls hH (lv_sub hl [1, 2, 0] rfl)
    · intro f_sizes_35 hw H locs ls hH hl
      refine lv_aload_n hx hb dX50_size_86 rfl (lv_at hl 0 rfl) ?_
      refine k_get X hH in_X50 0 rfl hc 15 (by decide) q6299 rfl dX50_size_87 ?_
      refine lv_iload_n hx hb dX50_size_90 rfl (lv_at hl 1 rfl) ?_
      have hq_36 := hw.1
      have hw := hw.2
      refine k_iald X hH 11 10 rfl rfl (z_in (rfl : x1.toInt = _) hq_36) dX50_size_91 ?_
      have e_37 := z_ld (f := f_sizes_35) (rfl : x1.toInt = _) hq_36.1
      exact k_iret (v := f_sizes_35 x1.toNatClampNeg) X hH (f_sizes_35) (by rw [show (f_sizes_35 x1.toNatClampNeg : Int32).toInt = _ from e_37]; exact hw) rfl rfl dX50_size_92
  · have hw := hw.1 (z_eq (rfl : r_1.toInt = _) (rfl : (0 : Int32).toInt = 0) c_2)
    refine lv_iconst (v := (-1)) hx hb dX50_size_8 (by decide) ?_
    exact k_iret (v := (-1)) X hH (f_sizes) hw rfl rfl dX50_size_9
set_option maxHeartbeats 4000000 in
theorem atX50_drop_85 {p : Program} {l : Launch} {e : Env} {s : State} {m : MethodId} {args : Array Value} {below : List Frame} {meth : Method} {c : Code} {dC : Nat → ClassId} {dI : Nat → Nat → Nat} {cl : List vw_C} {ci : Nat} (hc : cl[ci]? = some (RX50, TX50, 17)) {ad : Nat → Nat} {d : Nat → ClassId} {A : Nat → Prop} {post : Int → (Int → Int) → (Int → Int) → (Int → Int) → (Int → Int) → Int → (Int → Int) → Int → (Int → Int) → Prop} {f_phrases : Nat → Int64} {f_axioms : Nat → Int32} {f_axiomCount : Int32} {f_triples : Nat → Int32} {f_tripleCount : Int32} {f_stated : Nat → Int32} {f_text : Nat → Int32} {f_size : Int32} {f_sizes : Nat → Int32} (X : kX p s m args meth c cX50_drop 6 RX50 (some .int) (dC, dI) cl (tX50 d)) {K125 : (Int → Int) → Prop} {x2 : Int32} {x3 : Int32} {x4 : Int32} {f_rules : Nat → Int32} {f_instances : Nat → Int32} {f_counts : Nat → Int32} {f_rows : Int32} {f_marks : Nat → Int32} {f_broken : Int32} {f_places : Nat → Int32} (hk125 : ∀ (f_premises : Nat → Int32), K125 (zF f_premises) → ∀ (H : Heap) (locs : List Loc) (ls : Array Slot), kH (dC, dI) cl A s.heap H locs (wX50 ci ad d f_phrases f_axioms f_axiomCount f_triples f_tripleCount f_rules f_instances f_counts f_premises f_rows f_stated f_marks f_broken f_text f_size f_sizes f_places) → lv_has ls 6 [(0, .ref (ad 0)), (2, .int x2), (3, .int x3), (4, .int x4)] → W p l e ({ frames := 1, cells := 0, slots := 0, locals := 24 } : Room) s m args below meth c H locs 0 0 (MQ below (va_Qi (fun (r : Int32) (u : (Nat → Int32) × (Nat → Int32) × (Nat → Int32) × (Nat → Int32) × Int32 × (Nat → Int32) × Int32 × (Nat → Int32)) => post r.toInt (zF (u.1)) (zF (u.2.1)) (zF (u.2.2.1)) (zF (u.2.2.2.1)) (u.2.2.2.2.1).toInt (zF (u.2.2.2.2.2.1)) (u.2.2.2.2.2.2.1).toInt (zF (u.2.2.2.2.2.2.2))) (kB (dC, dI) cl (tX50 d) A (fun u : (Nat → Int32) × (Nat → Int32) × (Nat → Int32) × (Nat → Int32) × Int32 × (Nat → Int32) × Int32 × (Nat → Int32) => (wX50 ci ad d f_phrases f_axioms f_axiomCount f_triples f_tripleCount (u.1) (u.2.1) (u.2.2.1) (u.2.2.2.1) (u.2.2.2.2.1) f_stated (u.2.2.2.2.2.1) (u.2.2.2.2.2.2.1) f_text f_size f_sizes (u.2.2.2.2.2.2.2)))) A) args s 0 0 A) (F0 m 125 ls [])) :
    ∀ (nn : Nat) (x5 : Int32) (f_premises : Nat → Int32), wX50_drop_85 K125 x2.toInt x3.toInt x4.toInt (zF f_places) nn x5.toInt (zF f_premises) → ∀ (H : Heap) (locs : List Loc) (ls : Array Slot), kH (dC, dI) cl A s.heap H locs (wX50 ci ad d f_phrases f_axioms f_axiomCount f_triples f_tripleCount f_rules f_instances f_counts f_premises f_rows f_stated f_marks f_broken f_text f_size f_sizes f_places) → lv_has ls 6 [(0, .ref (ad 0)), (2, .int x2), (3, .int x3), (4, .int x4), (5, .int x5)] → W p l e ({ frames := 1, cells := 0, slots := 0, locals := 24 } : Room) s m args below meth c H locs 0 0 (MQ below (va_Qi (fun (r : Int32) (u : (Nat → Int32) × (Nat → Int32) × (Nat → Int32) × (Nat → Int32) × Int32 × (Nat → Int32) × Int32 × (Nat → Int32)) => post r.toInt (zF (u.1)) (zF (u.2.1)) (zF (u.2.2.1)) (zF (u.2.2.2.1)) (u.2.2.2.2.1).toInt (zF (u.2.2.2.2.2.1)) (u.2.2.2.2.2.2.1).toInt (zF (u.2.2.2.2.2.2.2))) (kB (dC, dI) cl (tX50 d) A (fun u : (Nat → Int32) × (Nat → Int32) × (Nat → Int32) × (Nat → Int32) × Int32 × (Nat → Int32) × Int32 × (Nat → Int32) => (wX50 ci ad d f_phrases f_axioms f_axiomCount f_triples f_tripleCount (u.1) (u.2.1) (u.2.2.1) (u.2.2.2.1) (u.2.2.2.2.1) f_stated (u.2.2.2.2.2.1) (u.2.2.2.2.2.2.1) f_text f_size f_sizes (u.2.2.2.2.2.2.2)))) A) args s 0 0 A) (F0 m 85 ls []) := by
  have hx := X.1.1
  have hb := X.1.2.1
  intro nn
  induction nn with
  | zero =>
    intro x5 f_premises hw
    exact False.elim hw
  | succ n ih =>
    intro x5 f_premises hw H locs ls hH hl
    rw [wX50_drop_85] at hw
    refine lv_iload hx hb dX50_drop_85 (lv_at hl 4 rfl) ?_
    refine lv_iload hx hb dX50_drop_87 (lv_at hl 3 rfl) ?_
    refine lv_icmp_ge (tgt := 125) hx hb dX50_drop_89 (by decide) (fun c_21 => ?_) (fun c_21 => ?_)
    · have hw := hw.1 (z_le (rfl : x4.toInt = _) (rfl : x5.toInt = _) c_21)
      exact hk125 f_premises hw _ _ ls hH (lv_sub hl [0, 1, 2, 3] rfl)
    · have hw := hw.2 (z_nle (rfl : x4.toInt = _) (rfl : x5.toInt = _) c_21)
      refine lv_aload_n hx hb dX50_drop_92 rfl (lv_at hl 0 rfl) ?_
      refine k_get X hH in_X50 0 rfl hc 8 (by decide) q6292 rfl dX50_drop_93 ?_
      refine lv_iconst (v := 3) hx hb dX50_drop_96 (by decide) ?_
      refine lv_iload_n hx hb dX50_drop_97 rfl (lv_at hl 1 rfl) ?_
      refine lv_imul hx hb dX50_drop_98 ?_
      have e_22 := z_mul (z_m (rfl : (3 : Int32).toInt = 3)) (z_m (rfl : x2.toInt = _))
      refine lv_iload hx hb dX50_drop_99 (lv_at hl 4 rfl) ?_
      refine lv_iadd hx hb dX50_drop_101 ?_
      have e_23 := z_add e_22 (z_m (rfl : x5.toInt = _))
      refine lv_aload_n hx hb dX50_drop_102 rfl (lv_at hl 0 rfl) ?_
      refine k_get X hH in_X50 0 rfl hc 16 (by decide) q6300 rfl dX50_drop_103 ?_
      refine lv_aload_n hx hb dX50_drop_106 rfl (lv_at hl 0 rfl) ?_
      refine k_get X hH in_X50 0 rfl hc 8 (by decide) q6292 rfl dX50_drop_107 ?_
      refine lv_iconst (v := 3) hx hb dX50_drop_110 (by decide) ?_
      refine lv_iload_n hx hb dX50_drop_111 rfl (lv_at hl 2 rfl) ?_
      refine lv_imul hx hb dX50_drop_112 ?_
      have e_24 := z_mul (z_m (rfl : (3 : Int32).toInt = 3)) (z_m (rfl : x3.toInt = _))
      refine lv_iload hx hb dX50_drop_113 (lv_at hl 4 rfl) ?_
      refine lv_iadd hx hb dX50_drop_115 ?_
      have e_25 := z_add e_24 (z_m (rfl : x5.toInt = _))
      have hq_26 := hw.1
      have hw := hw.2
      have e_27 := z_xi e_25 hq_26 (by decide)
      refine k_iald X hH 7 6 rfl rfl (z_in e_27 hq_26) dX50_drop_116 ?_
      have e_28 := z_ld (f := f_premises) e_27 hq_26.1
      have hq_29 := hw.1
      have hw := hw.2
      refine k_iald X hH 12 11 rfl rfl (z_in e_28 hq_29) dX50_drop_117 ?_
      have e_30 := z_ld (f := f_places) e_28 hq_29.1
      refine lv_topi (fun v_31 ev_31 => ?_)
      have hw := hw v_31.toInt (by rw [ev_31]; exact e_30)
      have hq_33 := hw.1
      have hw := hw.2
      have e_34 := z_xi e_23 hq_33 (by decide)
      obtain ⟨f_premises_32, ef_premises_32⟩ : ∃ y : Nat → Int32, y = upd f_premises ((3 * x2) + x5).toNatClampNeg v_31 := ⟨_, rfl⟩
      refine k_iast X hH 7 6 rfl rfl (z_in e_34 hq_33) dX50_drop_118 ef_premises_32 (ws1 := (wX50 ci ad d f_phrases f_axioms f_axiomCount f_triples f_tripleCount f_rules f_instances f_counts f_premises_32 f_rows f_stated f_marks f_broken f_text f_size f_sizes f_places)) rfl (fun H locs hH => ?_)
      have hw := hw (zF f_premises_32) (by rw [ef_premises_32]; exact z_st (f := f_premises) e_34 hq_33.1 (rfl : v_31.toInt = _))
      have hq_36 := hw.1
      have hw := hw.2
      obtain ⟨x5_35, ex5_35⟩ : ∃ y : Int32, y = x5 + 1 := ⟨_, rfl⟩
      have hw := hw x5_35.toInt (by rw [ex5_35]; exact (z_x (z_add (z_m (rfl : x5.toInt = _)) (z_m (rfl : (1 : Int32).toInt = 1))) hq_36))
      refine lv_iinc (v := x5_35) (lv' := [(5, .int x5_35), (0, .ref (ad 0)), (2, .int x2), (3, .int x3), (4, .int x4)]) hx hb dX50_drop_119 hl (k := 4) rfl (by rw [ex5_35]; rfl) (by decide) rfl (fun ls hl => ?_)
      refine lv_goto (tgt := 85) hx hb dX50_drop_122 (by decide) ?_
      exact ih x5_35 f_premises_32 hw _ _ ls hH (lv_sub hl [1, 2, 3, 4, 0] rfl)
set_option maxHeartbeats 4000000 in
theorem atX50_drop_20 {p : Program} {l : Launch} {e : Env} {s : State} {m : MethodId} {args : Array Value} {below : List Frame} {meth : Method} {c : Code} {dC : Nat → ClassId} {dI : Nat → Nat → Nat} {cl : List vw_C} {ci : Nat} (hc : cl[ci]? = some (RX50, TX50, 17)) {ad : Nat → Nat} {d : Nat → ClassId} {A : Nat → Prop} {post : Int → (Int → Int) → (Int → Int) → (Int → Int) → (Int → Int) → Int → (Int → Int) → Int → (Int → Int) → Prop} {f_phrases : Nat → Int64} {f_axioms : Nat → Int32} {f_axiomCount : Int32} {f_triples : Nat → Int32} {f_tripleCount : Int32} {f_stated : Nat → Int32} {f_text : Nat → Int32} {f_size : Int32} {f_sizes : Nat → Int32} (X : kX p s m args meth c cX50_drop 6 RX50 (some .int) (dC, dI) cl (tX50 d)) {K139 : Int → (Int → Int) → (Int → Int) → (Int → Int) → (Int → Int) → (Int → Int) → Prop}  {f_rows : Int32} {f_marks : Nat → Int32} {f_broken : Int32} (hk139 : ∀ (x2 : Int32) (f_rules : Nat → Int32) (f_instances : Nat → Int32) (f_counts : Nat → Int32) (f_premises : Nat → Int32) (f_places : Nat → Int32), K139 x2.toInt (zF f_rules) (zF f_instances) (zF f_counts) (zF f_premises) (zF f_places) → ∀ (H : Heap) (locs : List Loc) (ls : Array Slot), kH (dC, dI) cl A s.heap H locs (wX50 ci ad d f_phrases f_axioms f_axiomCount f_triples f_tripleCount f_rules f_instances f_counts f_premises f_rows f_stated f_marks f_broken f_text f_size f_sizes f_places) → lv_has ls 6 [(0, .ref (ad 0)), (2, .int x2)] → W p l e ({ frames := 1, cells := 0, slots := 0, locals := 24 } : Room) s m args below meth c H locs 0 0 (MQ below (va_Qi (fun (r : Int32) (u : (Nat → Int32) × (Nat → Int32) × (Nat → Int32) × (Nat → Int32) × Int32 × (Nat → Int32) × Int32 × (Nat → Int32)) => post r.toInt (zF (u.1)) (zF (u.2.1)) (zF (u.2.2.1)) (zF (u.2.2.2.1)) (u.2.2.2.2.1).toInt (zF (u.2.2.2.2.2.1)) (u.2.2.2.2.2.2.1).toInt (zF (u.2.2.2.2.2.2.2))) (kB (dC, dI) cl (tX50 d) A (fun u : (Nat → Int32) × (Nat → Int32) × (Nat → Int32) × (Nat → Int32) × Int32 × (Nat → Int32) × Int32 × (Nat → Int32) => (wX50 ci ad d f_phrases f_axioms f_axiomCount f_triples f_tripleCount (u.1) (u.2.1) (u.2.2.1) (u.2.2.2.1) (u.2.2.2.2.1) f_stated (u.2.2.2.2.2.1) (u.2.2.2.2.2.2.1) f_text f_size f_sizes (u.2.2.2.2.2.2.2)))) A) args s 0 0 A) (F0 m 139 ls [])) :
    ∀ (nn : Nat) (x2 : Int32) (x3 : Int32) (f_rules : Nat → Int32) (f_instances : Nat → Int32) (f_counts : Nat → Int32) (f_premises : Nat → Int32) (f_places : Nat → Int32), wX50_drop_20 K139 f_rows.toInt (zF f_marks) nn x2.toInt x3.toInt (zF f_rules) (zF f_instances) (zF f_counts) (zF f_premises) (zF f_places) → ∀ (H : Heap) (locs : List Loc) (ls : Array Slot), kH (dC, dI) cl A s.heap H locs (wX50 ci ad d f_phrases f_axioms f_axiomCount f_triples f_tripleCount f_rules f_instances f_counts f_premises f_rows f_stated f_marks f_broken f_text f_size f_sizes f_places) → lv_has ls 6 [(0, .ref (ad 0)), (2, .int x2), (3, .int x3)] → W p l e ({ frames := 1, cells := 0, slots := 0, locals := 24 } : Room) s m args below meth c H locs 0 0 (MQ below (va_Qi (fun (r : Int32) (u : (Nat → Int32) × (Nat → Int32) × (Nat → Int32) × (Nat → Int32) × Int32 × (Nat → Int32) × Int32 × (Nat → Int32)) => post r.toInt (zF (u.1)) (zF (u.2.1)) (zF (u.2.2.1)) (zF (u.2.2.2.1)) (u.2.2.2.2.1).toInt (zF (u.2.2.2.2.2.1)) (u.2.2.2.2.2.2.1).toInt (zF (u.2.2.2.2.2.2.2))) (kB (dC, dI) cl (tX50 d) A (fun u : (Nat → Int32) × (Nat → Int32) × (Nat → Int32) × (Nat → Int32) × Int32 × (Nat → Int32) × Int32 × (Nat → Int32) => (wX50 ci ad d f_phrases f_axioms f_axiomCount f_triples f_tripleCount (u.1) (u.2.1) (u.2.2.1) (u.2.2.2.1) (u.2.2.2.2.1) f_stated (u.2.2.2.2.2.1) (u.2.2.2.2.2.2.1) f_text f_size f_sizes (u.2.2.2.2.2.2.2)))) A) args s 0 0 A) (F0 m 20 ls []) := by
  have hx := X.1.1
  have hb := X.1.2.1
  intro nn
  induction nn with
  | zero =>
    intro x2 x3 f_rules f_instances f_counts f_premises f_places hw
    exact False.elim hw
  | succ n ih =>
    intro x2 x3 f_rules f_instances f_counts f_premises f_places hw H locs ls hH hl
    rw [wX50_drop_20] at hw
    refine lv_iload_n hx hb dX50_drop_20 rfl (lv_at hl 2 rfl) ?_
    refine lv_aload_n hx hb dX50_drop_21 rfl (lv_at hl 0 rfl) ?_
    refine k_get X hH in_X50 0 rfl hc 9 (by decide) q6293 rfl dX50_drop_22 ?_
    refine lv_icmp_gt (tgt := 139) hx hb dX50_drop_25 (by decide) (fun c_5 => ?_) (fun c_5 => ?_)
    · have hw := hw.1 (z_lt (rfl : f_rows.toInt = _) (rfl : x3.toInt = _) c_5)
      exact hk139 x2 f_rules f_instances f_counts f_premises f_places hw _ _ ls hH (lv_sub hl [0, 1] rfl)
    · have hw := hw.2 (z_nlt (rfl : f_rows.toInt = _) (rfl : x3.toInt = _) c_5)
      refine lv_aload_n hx hb dX50_drop_28 rfl (lv_at hl 0 rfl) ?_
      refine k_get X hH in_X50 0 rfl hc 11 (by decide) q6295 rfl dX50_drop_29 ?_
      refine lv_iload_n hx hb dX50_drop_32 rfl (lv_at hl 2 rfl) ?_
      have hq_6 := hw.1
      have hw := hw.2
      refine k_zald X hH 9 8 rfl rfl (z_in (rfl : x3.toInt = _) hq_6) dX50_drop_33 ?_
      have e_7 := z_ld (f := f_marks) (rfl : x3.toInt = _) hq_6.1
      refine lv_if_ne (tgt := 40) hx hb dX50_drop_34 (by decide) (fun c_8 => ?_) (fun c_8 => ?_)
      · have hw := hw.2 (z_ne e_7 (rfl : (0 : Int32).toInt = 0) c_8)
        have hq_10 := hw.1
        have hw := hw.2
        obtain ⟨x2_9, ex2_9⟩ : ∃ y : Int32, y = x2 + 1 := ⟨_, rfl⟩
        have hw := hw x2_9.toInt (by rw [ex2_9]; exact (z_x (z_add (z_m (rfl : x2.toInt = _)) (z_m (rfl : (1 : Int32).toInt = 1))) hq_10))
        refine lv_iinc (v := x2_9) (lv' := [(2, .int x2_9), (0, .ref (ad 0)), (3, .int x3)]) hx hb dX50_drop_40 hl (k := 1) rfl (by rw [ex2_9]; rfl) (by decide) rfl (fun ls hl => ?_)
        refine lv_aload_n hx hb dX50_drop_43 rfl (lv_at hl 1 rfl) ?_
        refine k_get X hH in_X50 0 rfl hc 16 (by decide) q6300 rfl dX50_drop_44 ?_
        refine lv_iload_n hx hb dX50_drop_47 rfl (lv_at hl 2 rfl) ?_
        refine lv_iload_n hx hb dX50_drop_48 rfl (lv_at hl 0 rfl) ?_
        obtain ⟨f_places_11, ef_places_11⟩ : ∃ y : Nat → Int32, y = upd f_places x3.toNatClampNeg x2_9 := ⟨_, rfl⟩
        refine k_iast X hH 12 11 rfl rfl (z_in (rfl : x3.toInt = _) hq_6) dX50_drop_49 ef_places_11 (ws1 := (wX50 ci ad d f_phrases f_axioms f_axiomCount f_triples f_tripleCount f_rules f_instances f_counts f_premises f_rows f_stated f_marks f_broken f_text f_size f_sizes f_places_11)) rfl (fun H locs hH => ?_)
        have hw := hw (zF f_places_11) (by rw [ef_places_11]; exact z_st (f := f_places) (rfl : x3.toInt = _) hq_6.1 (rfl : x2_9.toInt = _))
        refine lv_aload_n hx hb dX50_drop_50 rfl (lv_at hl 1 rfl) ?_
        refine k_get X hH in_X50 0 rfl hc 5 (by decide) q6289 rfl dX50_drop_51 ?_
        refine lv_iload_n hx hb dX50_drop_54 rfl (lv_at hl 0 rfl) ?_
        refine lv_aload_n hx hb dX50_drop_55 rfl (lv_at hl 1 rfl) ?_
        refine k_get X hH in_X50 0 rfl hc 5 (by decide) q6289 rfl dX50_drop_56 ?_
        refine lv_iload_n hx hb dX50_drop_59 rfl (lv_at hl 2 rfl) ?_
        refine k_iald X hH 4 3 rfl rfl (z_in (rfl : x3.toInt = _) hq_6) dX50_drop_60 ?_
        have e_12 := z_ld (f := f_rules) (rfl : x3.toInt = _) hq_6.1
        refine lv_topi (fun v_13 ev_13 => ?_)
        have hw := hw v_13.toInt (by rw [ev_13]; exact e_12)
        have hq_15 := hw.1
        have hw := hw.2
        obtain ⟨f_rules_14, ef_rules_14⟩ : ∃ y : Nat → Int32, y = upd f_rules x2_9.toNatClampNeg v_13 := ⟨_, rfl⟩
        refine k_iast X hH 4 3 rfl rfl (z_in (rfl : x2_9.toInt = _) hq_15) dX50_drop_61 ef_rules_14 (ws1 := (wX50 ci ad d f_phrases f_axioms f_axiomCount f_triples f_tripleCount f_rules_14 f_instances f_counts f_premises f_rows f_stated f_marks f_broken f_text f_size f_sizes f_places_11)) rfl (fun H locs hH => ?_)
        have hw := hw (zF f_rules_14) (by rw [ef_rules_14]; exact z_st (f := f_rules) (rfl : x2_9.toInt = _) hq_15.1 (rfl : v_13.toInt = _))
        refine lv_aload_n hx hb dX50_drop_62 rfl (lv_at hl 1 rfl) ?_
        refine k_get X hH in_X50 0 rfl hc 6 (by decide) q6290 rfl dX50_drop_63 ?_
        refine lv_iload_n hx hb dX50_drop_66 rfl (lv_at hl 0 rfl) ?_
        refine lv_aload_n hx hb dX50_drop_67 rfl (lv_at hl 1 rfl) ?_
        refine k_get X hH in_X50 0 rfl hc 6 (by decide) q6290 rfl dX50_drop_68 ?_
        refine lv_iload_n hx hb dX50_drop_71 rfl (lv_at hl 2 rfl) ?_
        refine k_iald X hH 5 4 rfl rfl (z_in (rfl : x3.toInt = _) hq_6) dX50_drop_72 ?_
        have e_16 := z_ld (f := f_instances) (rfl : x3.toInt = _) hq_6.1
        refine lv_topi (fun v_17 ev_17 => ?_)
        have hw := hw v_17.toInt (by rw [ev_17]; exact e_16)
        obtain ⟨f_instances_18, ef_instances_18⟩ : ∃ y : Nat → Int32, y = upd f_instances x2_9.toNatClampNeg v_17 := ⟨_, rfl⟩
        refine k_iast X hH 5 4 rfl rfl (z_in (rfl : x2_9.toInt = _) hq_15) dX50_drop_73 ef_instances_18 (ws1 := (wX50 ci ad d f_phrases f_axioms f_axiomCount f_triples f_tripleCount f_rules_14 f_instances_18 f_counts f_premises f_rows f_stated f_marks f_broken f_text f_size f_sizes f_places_11)) rfl (fun H locs hH => ?_)
        have hw := hw (zF f_instances_18) (by rw [ef_instances_18]; exact z_st (f := f_instances) (rfl : x2_9.toInt = _) hq_15.1 (rfl : v_17.toInt = _))
        refine lv_aload_n hx hb dX50_drop_74 rfl (lv_at hl 1 rfl) ?_
        refine k_get X hH in_X50 0 rfl hc 7 (by decide) q6291 rfl dX50_drop_75 ?_
        refine lv_iload_n hx hb dX50_drop_78 rfl (lv_at hl 2 rfl) ?_
        refine k_iald X hH 6 5 rfl rfl (z_in (rfl : x3.toInt = _) hq_6) dX50_drop_79 ?_
        have e_19 := z_ld (f := f_counts) (rfl : x3.toInt = _) hq_6.1
        refine lv_topi (fun x4_20 ex4_20 => ?_)
        have hw := hw x4_20.toInt (by rw [ex4_20]; exact e_19)
        refine lv_istore (lv' := [(4, .int x4_20), (2, .int x2_9), (0, .ref (ad 0)), (3, .int x3)]) hx hb dX50_drop_80 hl (by decide) rfl (fun ls hl => ?_)
        refine lv_iconst (v := 0) hx hb dX50_drop_82 (by decide) ?_
        refine lv_istore (lv' := [(5, .int 0), (4, .int x4_20), (2, .int x2_9), (0, .ref (ad 0)), (3, .int x3)]) hx hb dX50_drop_83 hl (by decide) rfl (fun ls hl => ?_)
        obtain ⟨fu, hw⟩ := hw
        refine atX50_drop_85 hc X ?_ fu 0 f_premises hw _ _ ls hH (lv_sub hl [3, 2, 4, 1, 0] rfl)
        · intro f_premises_37 hw H locs ls hH hl
          refine lv_aload_n hx hb dX50_drop_125 rfl (lv_at hl 0 rfl) ?_
          refine k_get X hH in_X50 0 rfl hc 7 (by decide) q6291 rfl dX50_drop_126 ?_
          refine lv_iload_n hx hb dX50_drop_129 rfl (lv_at hl 1 rfl) ?_
          refine lv_iload hx hb dX50_drop_130 (lv_at hl 3 rfl) ?_
          obtain ⟨f_counts_38, ef_counts_38⟩ : ∃ y : Nat → Int32, y = upd f_counts x2_9.toNatClampNeg x4_20 := ⟨_, rfl⟩
          refine k_iast X hH 6 5 rfl rfl (z_in (rfl : x2_9.toInt = _) hq_15) dX50_drop_132 ef_counts_38 (ws1 := (wX50 ci ad d f_phrases f_axioms f_axiomCount f_triples f_tripleCount f_rules_14 f_instances_18 f_counts_38 f_premises_37 f_rows f_stated f_marks f_broken f_text f_size f_sizes f_places_11)) rfl (fun H locs hH => ?_)
          have hw := hw (zF f_counts_38) (by rw [ef_counts_38]; exact z_st (f := f_counts) (rfl : x2_9.toInt = _) hq_15.1 (rfl : x4_20.toInt = _))
          have hq_40 := hw.1
          have hw := hw.2
          obtain ⟨x3_39, ex3_39⟩ : ∃ y : Int32, y = x3 + 1 := ⟨_, rfl⟩
          have hw := hw x3_39.toInt (by rw [ex3_39]; exact (z_x (z_add (z_m (rfl : x3.toInt = _)) (z_m (rfl : (1 : Int32).toInt = 1))) hq_40))
          refine lv_iinc (v := x3_39) (lv' := [(3, .int x3_39), (0, .ref (ad 0)), (2, .int x2_9), (4, .int x4_20)]) hx hb dX50_drop_133 hl (k := 2) rfl (by rw [ex3_39]; rfl) (by decide) rfl (fun ls hl => ?_)
          refine lv_goto (tgt := 20) hx hb dX50_drop_136 (by decide) ?_
          exact ih x2_9 x3_39 f_rules_14 f_instances_18 f_counts_38 f_premises_37 f_places_11 hw _ _ ls hH (lv_sub hl [1, 2, 0] rfl)
      · have hw := hw.1 (z_eq e_7 (rfl : (0 : Int32).toInt = 0) c_8)
        refine lv_goto (tgt := 133) hx hb dX50_drop_37 (by decide) ?_
        have hq_42 := hw.1
        have hw := hw.2
        obtain ⟨x3_41, ex3_41⟩ : ∃ y : Int32, y = x3 + 1 := ⟨_, rfl⟩
        have hw := hw x3_41.toInt (by rw [ex3_41]; exact (z_x (z_add (z_m (rfl : x3.toInt = _)) (z_m (rfl : (1 : Int32).toInt = 1))) hq_42))
        refine lv_iinc (v := x3_41) (lv' := [(3, .int x3_41), (0, .ref (ad 0)), (2, .int x2)]) hx hb dX50_drop_133 hl (k := 2) rfl (by rw [ex3_41]; rfl) (by decide) rfl (fun ls hl => ?_)
        refine lv_goto (tgt := 20) hx hb dX50_drop_136 (by decide) ?_
        exact ih x2 x3_41 f_rules f_instances f_counts f_premises f_places hw _ _ ls hH (lv_sub hl [1, 2, 0] rfl)
set_option maxHeartbeats 4000000 in
theorem walkX50_drop {l : Launch} {dC : Nat → ClassId} {dI : Nat → Nat → Nat} {cl : List vw_C} {ci : Nat} (hc : cl[ci]? = some (RX50, TX50, 17)) {ad : Nat → Nat} {d : Nat → ClassId} {sz : Nat} {f_phrases : Nat → Int64} {f_axioms : Nat → Int32} {f_axiomCount : Int32} {f_triples : Nat → Int32} {f_tripleCount : Int32} {f_rules : Nat → Int32} {f_instances : Nat → Int32} {f_counts : Nat → Int32} {f_premises : Nat → Int32} {f_rows : Int32} {f_stated : Nat → Int32} {f_marks : Nat → Int32} {f_broken : Int32} {f_text : Nat → Int32} {f_size : Int32} {f_sizes : Nat → Int32} {f_places : Nat → Int32} {x1 : Int32} {post : Int → (Int → Int) → (Int → Int) → (Int → Int) → (Int → Int) → Int → (Int → Int) → Int → (Int → Int) → Prop} (hw : wpX50_drop post (zF f_rules) (zF f_instances) (zF f_counts) (zF f_premises) f_rows.toInt (zF f_marks) f_broken.toInt (zF f_places) x1.toInt) :
    Met l yX50_drop (ws_ yX50_drop cX50_drop 6 (some .int)) ({ frames := 1, cells := 0, slots := 0, locals := 24 } : Room) (kPc (dC, dI) cl (tX50 d) [.ref (ad 0), .int x1] sz (wX50 ci ad d f_phrases f_axioms f_axiomCount f_triples f_tripleCount f_rules f_instances f_counts f_premises f_rows f_stated f_marks f_broken f_text f_size f_sizes f_places)) (va_Qi (fun (r : Int32) (u : (Nat → Int32) × (Nat → Int32) × (Nat → Int32) × (Nat → Int32) × Int32 × (Nat → Int32) × Int32 × (Nat → Int32)) => post r.toInt (zF (u.1)) (zF (u.2.1)) (zF (u.2.2.1)) (zF (u.2.2.2.1)) (u.2.2.2.2.1).toInt (zF (u.2.2.2.2.2.1)) (u.2.2.2.2.2.2.1).toInt (zF (u.2.2.2.2.2.2.2))) (kB (dC, dI) cl (tX50 d) (va_A (wX50 ci ad d f_phrases f_axioms f_axiomCount f_triples f_tripleCount f_rules f_instances f_counts f_premises f_rows f_stated f_marks f_broken f_text f_size f_sizes f_places) sz) (fun u : (Nat → Int32) × (Nat → Int32) × (Nat → Int32) × (Nat → Int32) × Int32 × (Nat → Int32) × Int32 × (Nat → Int32) => (wX50 ci ad d f_phrases f_axioms f_axiomCount f_triples f_tripleCount (u.1) (u.2.1) (u.2.2.1) (u.2.2.2.1) (u.2.2.2.2.1) f_stated (u.2.2.2.2.2.1) (u.2.2.2.2.2.2.1) f_text f_size f_sizes (u.2.2.2.2.2.2.2)))) (va_A (wX50 ci ad d f_phrases f_axioms f_axiomCount f_triples f_tripleCount f_rules f_instances f_counts f_premises f_rows f_stated f_marks f_broken f_text f_size f_sizes f_places) sz)) 0 0 (va_A (wX50 ci ad d f_phrases f_axioms f_axiomCount f_triples f_tripleCount f_rules f_instances f_counts f_premises f_rows f_stated f_marks f_broken f_text f_size f_sizes f_places) sz) := by
  refine k_enter (by decide) (Nat.le_of_ble_eq_true rfl) ?_
  intro p e s m below meth c ls X hsz hH hl
  subst hsz
  generalize va_A (wX50 ci ad d f_phrases f_axioms f_axiomCount f_triples f_tripleCount f_rules f_instances f_counts f_premises f_rows f_stated f_marks f_broken f_text f_size f_sizes f_places) s.heap.size = A at hH ⊢
  have hx := X.1.1
  have hb := X.1.2.1
  have hl : lv_has ls 6 [(0, .ref (ad 0)), (1, .int x1)] := hl
  unfold wpX50_drop at hw
  refine lv_aload_n hx hb dX50_drop_0 rfl (lv_at hl 0 rfl) ?_
  refine lv_iload_n hx hb dX50_drop_1 rfl (lv_at hl 1 rfl) ?_
  refine k_i0 hH (k_runV (As := [.int x1]) (rest := []) X hH.1 hH.2.1 X.2.2.2 (walkX50_isRow hc (x1 := x1) (f_phrases := f_phrases) (f_axioms := f_axioms) (f_axiomCount := f_axiomCount) (f_triples := f_triples) (f_tripleCount := f_tripleCount) (f_rules := f_rules) (f_instances := f_instances) (f_counts := f_counts) (f_premises := f_premises) (f_rows := f_rows) (f_stated := f_stated) (f_marks := f_marks) (f_broken := f_broken) (f_text := f_text) (f_size := f_size) (f_sizes := f_sizes) (f_places := f_places) hw) (cwV 1 X.1.2.2.2.2 gX50_174 rfl rfl rfl hX50_isRow ⟨Nat.le_of_ble_eq_true rfl, Nat.le_of_ble_eq_true rfl⟩) hc (q0 := 0) rfl rfl hl.1 rfl (Nat.le_of_ble_eq_true rfl) dX50_drop_2 ⟨Nat.le_refl 0, Nat.le_refl 0⟩) (fun r_1 _ H locs hw hH => ?_)
  have hH : kH (dC, dI) cl A s.heap H locs (wX50 ci ad d f_phrases f_axioms f_axiomCount f_triples f_tripleCount f_rules f_instances f_counts f_premises f_rows f_stated f_marks f_broken f_text f_size f_sizes f_places) := hH
  refine lv_if_ne (tgt := 10) hx hb dX50_drop_5 (by decide) (fun c_2 => ?_) (fun c_2 => ?_)
  · have hw := hw.2 (z_ne (rfl : r_1.toInt = _) (rfl : (0 : Int32).toInt = 0) c_2)
    refine lv_aload_n hx hb dX50_drop_10 rfl (lv_at hl 0 rfl) ?_
    refine lv_iload_n hx hb dX50_drop_11 rfl (lv_at hl 1 rfl) ?_
    refine k_i0 hH (k_runV (As := [.int x1]) (rest := []) X hH.1 hH.2.1 X.2.2.2 (walkX50_mark hc (x1 := x1) (f_phrases := f_phrases) (f_axioms := f_axioms) (f_axiomCount := f_axiomCount) (f_triples := f_triples) (f_tripleCount := f_tripleCount) (f_rules := f_rules) (f_instances := f_instances) (f_counts := f_counts) (f_premises := f_premises) (f_rows := f_rows) (f_stated := f_stated) (f_marks := f_marks) (f_broken := f_broken) (f_text := f_text) (f_size := f_size) (f_sizes := f_sizes) (f_places := f_places) hw) (cwV 1 X.1.2.2.2.2 gX50_212 rfl rfl rfl hX50_mark ⟨Nat.le_of_ble_eq_true rfl, Nat.le_of_ble_eq_true rfl⟩) hc (q0 := 0) rfl rfl hl.1 rfl (Nat.le_of_ble_eq_true rfl) dX50_drop_12 ⟨Nat.le_refl 0, Nat.le_refl 0⟩) (fun r_3 u H locs hw hH => ?_)
    obtain ⟨f_marks_4, eu⟩ : ∃ z, z = u := ⟨_, rfl⟩
    subst eu
    have hH : kH (dC, dI) cl A s.heap H locs (wX50 ci ad d f_phrases f_axioms f_axiomCount f_triples f_tripleCount f_rules f_instances f_counts f_premises f_rows f_stated f_marks_4 f_broken f_text f_size f_sizes f_places) := hH
    refine lv_pop hx hb dX50_drop_15 rfl ?_
    refine lv_iconst (v := 0) hx hb dX50_drop_16 (by decide) ?_
    refine lv_istore_n (lv' := [(2, .int 0), (0, .ref (ad 0)), (1, .int x1)]) hx hb dX50_drop_17 rfl hl (by decide) rfl (fun ls hl => ?_)
    refine lv_iconst (v := 1) hx hb dX50_drop_18 (by decide) ?_
    refine lv_istore_n (lv' := [(3, .int 1), (2, .int 0), (0, .ref (ad 0)), (1, .int x1)]) hx hb dX50_drop_19 rfl hl (by decide) rfl (fun ls hl => ?_)
    obtain ⟨fu, hw⟩ := hw
    refine atX50_drop_20 hc X ?_ fu 0 1 f_rules f_instances f_counts f_premises f_places hw _ _ ls hH (lv_sub hl [2, 1, 0] rfl)
    · intro x2_43 f_rules_44 f_instances_45 f_counts_46 f_premises_47 f_places_48 hw H locs ls hH hl
      refine lv_aload_n hx hb dX50_drop_139 rfl (lv_at hl 0 rfl) ?_
      refine lv_iload_n hx hb dX50_drop_140 rfl (lv_at hl 1 rfl) ?_
      refine k_put X hH in_X50 tyX50_ok nmX50 0 rfl hc 9 (by decide) q6293 rfl (ty := .int) rfl rfl rfl (Nat.le_of_ble_eq_true rfl) dX50_drop_141 (ws1 := (wX50 ci ad d f_phrases f_axioms f_axiomCount f_triples f_tripleCount f_rules_44 f_instances_45 f_counts_46 f_premises_47 x2_43 f_stated f_marks_4 f_broken f_text f_size f_sizes f_places_48)) rfl (fun H locs hH => ?_)
      refine lv_aload_n hx hb dX50_drop_144 rfl (lv_at hl 0 rfl) ?_
      refine lv_iconst (v := 0) hx hb dX50_drop_145 (by decide) ?_
      refine k_put X hH in_X50 tyX50_ok nmX50 0 rfl hc 12 (by decide) q6296 rfl (ty := .int) rfl rfl rfl (Nat.le_of_ble_eq_true rfl) dX50_drop_146 (ws1 := (wX50 ci ad d f_phrases f_axioms f_axiomCount f_triples f_tripleCount f_rules_44 f_instances_45 f_counts_46 f_premises_47 x2_43 f_stated f_marks_4 0 f_text f_size f_sizes f_places_48)) rfl (fun H locs hH => ?_)
      refine lv_iload_n hx hb dX50_drop_149 rfl (lv_at hl 1 rfl) ?_
      exact k_iret (v := x2_43) X hH (f_rules_44, f_instances_45, f_counts_46, f_premises_47, x2_43, f_marks_4, 0, f_places_48) hw rfl rfl dX50_drop_150
  · have hw := hw.1 (z_eq (rfl : r_1.toInt = _) (rfl : (0 : Int32).toInt = 0) c_2)
    refine lv_iconst (v := (-1)) hx hb dX50_drop_8 (by decide) ?_
    exact k_iret (v := (-1)) X hH (f_rules, f_instances, f_counts, f_premises, f_rows, f_marks, f_broken, f_places) hw rfl rfl dX50_drop_9
set_option maxHeartbeats 4000000 in
theorem walkX50_name {l : Launch} {dC : Nat → ClassId} {dI : Nat → Nat → Nat} {cl : List vw_C} {ci : Nat} (hc : cl[ci]? = some (RX50, TX50, 17)) {ad : Nat → Nat} {d : Nat → ClassId} {sz : Nat} {f_phrases : Nat → Int64} {f_axioms : Nat → Int32} {f_axiomCount : Int32} {f_triples : Nat → Int32} {f_tripleCount : Int32} {f_rules : Nat → Int32} {f_instances : Nat → Int32} {f_counts : Nat → Int32} {f_premises : Nat → Int32} {f_rows : Int32} {f_stated : Nat → Int32} {f_marks : Nat → Int32} {f_broken : Int32} {f_text : Nat → Int32} {f_size : Int32} {f_sizes : Nat → Int32} {f_places : Nat → Int32} {x1 : Int32} {post : Int → Prop} (hw : wpX50_name post (zF f_rules) f_rows.toInt x1.toInt) :
    Met l yX50_name (ws_ yX50_name cX50_name 2 (some .int)) ({ frames := 1, cells := 0, slots := 0, locals := 21 } : Room) (kPc (dC, dI) cl (tX50 d) [.ref (ad 0), .int x1] sz (wX50 ci ad d f_phrases f_axioms f_axiomCount f_triples f_tripleCount f_rules f_instances f_counts f_premises f_rows f_stated f_marks f_broken f_text f_size f_sizes f_places)) (va_Qi (fun (r : Int32) (_ : Unit) => post r.toInt) (kB (dC, dI) cl (tX50 d) (va_A (wX50 ci ad d f_phrases f_axioms f_axiomCount f_triples f_tripleCount f_rules f_instances f_counts f_premises f_rows f_stated f_marks f_broken f_text f_size f_sizes f_places) sz) (fun _ : Unit => (wX50 ci ad d f_phrases f_axioms f_axiomCount f_triples f_tripleCount f_rules f_instances f_counts f_premises f_rows f_stated f_marks f_broken f_text f_size f_sizes f_places))) (va_A (wX50 ci ad d f_phrases f_axioms f_axiomCount f_triples f_tripleCount f_rules f_instances f_counts f_premises f_rows f_stated f_marks f_broken f_text f_size f_sizes f_places) sz)) 0 0 (va_A (wX50 ci ad d f_phrases f_axioms f_axiomCount f_triples f_tripleCount f_rules f_instances f_counts f_premises f_rows f_stated f_marks f_broken f_text f_size f_sizes f_places) sz) := by
  refine k_enter (by decide) (Nat.le_of_ble_eq_true rfl) ?_
  intro p e s m below meth c ls X hsz hH hl
  subst hsz
  generalize va_A (wX50 ci ad d f_phrases f_axioms f_axiomCount f_triples f_tripleCount f_rules f_instances f_counts f_premises f_rows f_stated f_marks f_broken f_text f_size f_sizes f_places) s.heap.size = A at hH ⊢
  have hx := X.1.1
  have hb := X.1.2.1
  have hl : lv_has ls 2 [(0, .ref (ad 0)), (1, .int x1)] := hl
  unfold wpX50_name at hw
  refine lv_aload_n hx hb dX50_name_0 rfl (lv_at hl 0 rfl) ?_
  refine lv_iload_n hx hb dX50_name_1 rfl (lv_at hl 1 rfl) ?_
  refine k_i0 hH (k_runV (As := [.int x1]) (rest := []) X hH.1 hH.2.1 X.2.2.2 (walkX50_isRow hc (x1 := x1) (f_phrases := f_phrases) (f_axioms := f_axioms) (f_axiomCount := f_axiomCount) (f_triples := f_triples) (f_tripleCount := f_tripleCount) (f_rules := f_rules) (f_instances := f_instances) (f_counts := f_counts) (f_premises := f_premises) (f_rows := f_rows) (f_stated := f_stated) (f_marks := f_marks) (f_broken := f_broken) (f_text := f_text) (f_size := f_size) (f_sizes := f_sizes) (f_places := f_places) hw) (cwV 1 X.1.2.2.2.2 gX50_174 rfl rfl rfl hX50_isRow ⟨Nat.le_of_ble_eq_true rfl, Nat.le_of_ble_eq_true rfl⟩) hc (q0 := 0) rfl rfl hl.1 rfl (Nat.le_of_ble_eq_true rfl) dX50_name_2 ⟨Nat.le_refl 0, Nat.le_refl 0⟩) (fun r_1 _ H locs hw hH => ?_)
  have hH : kH (dC, dI) cl A s.heap H locs (wX50 ci ad d f_phrases f_axioms f_axiomCount f_triples f_tripleCount f_rules f_instances f_counts f_premises f_rows f_stated f_marks f_broken f_text f_size f_sizes f_places) := hH
  refine lv_if_eq (tgt := 17) hx hb dX50_name_5 (by decide) (fun c_2 => ?_) (fun c_2 => ?_)
  · have hw := hw.1 (z_eq (rfl : r_1.toInt = _) (rfl : (0 : Int32).toInt = 0) c_2)
    refine lv_iconst (v := (-1)) hx hb dX50_name_17 (by decide) ?_
    exact k_iret (v := (-1)) X hH () hw rfl rfl dX50_name_18
  · have hw := hw.2 (z_neq (rfl : r_1.toInt = _) (rfl : (0 : Int32).toInt = 0) c_2)
    refine lv_aload_n hx hb dX50_name_8 rfl (lv_at hl 0 rfl) ?_
    refine k_get X hH in_X50 0 rfl hc 5 (by decide) q6289 rfl dX50_name_9 ?_
    refine lv_iload_n hx hb dX50_name_12 rfl (lv_at hl 1 rfl) ?_
    have hq_3 := hw.1
    have hw := hw.2
    refine k_iald X hH 4 3 rfl rfl (z_in (rfl : x1.toInt = _) hq_3) dX50_name_13 ?_
    have e_4 := z_ld (f := f_rules) (rfl : x1.toInt = _) hq_3.1
    refine lv_goto (tgt := 18) hx hb dX50_name_14 (by decide) ?_
    exact k_iret (v := f_rules x1.toNatClampNeg) X hH () (by rw [show (f_rules x1.toNatClampNeg : Int32).toInt = _ from e_4]; exact hw) rfl rfl dX50_name_18
set_option maxHeartbeats 4000000 in
theorem walkX50_states {l : Launch} {dC : Nat → ClassId} {dI : Nat → Nat → Nat} {cl : List vw_C} {ci : Nat} (hc : cl[ci]? = some (RX50, TX50, 17)) {ad : Nat → Nat} {d : Nat → ClassId} {sz : Nat} {f_phrases : Nat → Int64} {f_axioms : Nat → Int32} {f_axiomCount : Int32} {f_triples : Nat → Int32} {f_tripleCount : Int32} {f_rules : Nat → Int32} {f_instances : Nat → Int32} {f_counts : Nat → Int32} {f_premises : Nat → Int32} {f_rows : Int32} {f_stated : Nat → Int32} {f_marks : Nat → Int32} {f_broken : Int32} {f_text : Nat → Int32} {f_size : Int32} {f_sizes : Nat → Int32} {f_places : Nat → Int32} {x1 : Int32} {x2 : Int32} {post : Int → (Int → Int) → Prop} (hw : wpX50_states post (zF f_axioms) (zF f_triples) (zF f_rules) (zF f_instances) (zF f_counts) (zF f_premises) f_rows.toInt (zF f_stated) x1.toInt x2.toInt) :
    Met l yX50_states (ws_ yX50_states cX50_states 3 (some .int)) ({ frames := 6, cells := 0, slots := 0, locals := 148 } : Room) (kPc (dC, dI) cl (tX50 d) [.ref (ad 0), .int x1, .int x2] sz (wX50 ci ad d f_phrases f_axioms f_axiomCount f_triples f_tripleCount f_rules f_instances f_counts f_premises f_rows f_stated f_marks f_broken f_text f_size f_sizes f_places)) (va_Qi (fun (r : Int32) (u : (Nat → Int32)) => post r.toInt (zF (u))) (kB (dC, dI) cl (tX50 d) (va_A (wX50 ci ad d f_phrases f_axioms f_axiomCount f_triples f_tripleCount f_rules f_instances f_counts f_premises f_rows f_stated f_marks f_broken f_text f_size f_sizes f_places) sz) (fun u : (Nat → Int32) => (wX50 ci ad d f_phrases f_axioms f_axiomCount f_triples f_tripleCount f_rules f_instances f_counts f_premises f_rows (u) f_marks f_broken f_text f_size f_sizes f_places))) (va_A (wX50 ci ad d f_phrases f_axioms f_axiomCount f_triples f_tripleCount f_rules f_instances f_counts f_premises f_rows f_stated f_marks f_broken f_text f_size f_sizes f_places) sz)) 0 0 (va_A (wX50 ci ad d f_phrases f_axioms f_axiomCount f_triples f_tripleCount f_rules f_instances f_counts f_premises f_rows f_stated f_marks f_broken f_text f_size f_sizes f_places) sz) := by
  refine k_enter (by decide) (Nat.le_of_ble_eq_true rfl) ?_
  intro p e s m below meth c ls X hsz hH hl
  subst hsz
  generalize va_A (wX50 ci ad d f_phrases f_axioms f_axiomCount f_triples f_tripleCount f_rules f_instances f_counts f_premises f_rows f_stated f_marks f_broken f_text f_size f_sizes f_places) s.heap.size = A at hH ⊢
  have hx := X.1.1
  have hb := X.1.2.1
  have hl : lv_has ls 3 [(0, .ref (ad 0)), (1, .int x1), (2, .int x2)] := hl
  unfold wpX50_states at hw
  refine lv_aload_n hx hb dX50_states_0 rfl (lv_at hl 0 rfl) ?_
  refine lv_iload_n hx hb dX50_states_1 rfl (lv_at hl 1 rfl) ?_
  refine k_i0 hH (k_runV (As := [.int x1]) (rest := []) X hH.1 hH.2.1 X.2.2.2 (walkX50_isRow hc (x1 := x1) (f_phrases := f_phrases) (f_axioms := f_axioms) (f_axiomCount := f_axiomCount) (f_triples := f_triples) (f_tripleCount := f_tripleCount) (f_rules := f_rules) (f_instances := f_instances) (f_counts := f_counts) (f_premises := f_premises) (f_rows := f_rows) (f_stated := f_stated) (f_marks := f_marks) (f_broken := f_broken) (f_text := f_text) (f_size := f_size) (f_sizes := f_sizes) (f_places := f_places) hw) (cwV 1 X.1.2.2.2.2 gX50_174 rfl rfl rfl hX50_isRow ⟨Nat.le_of_ble_eq_true rfl, Nat.le_of_ble_eq_true rfl⟩) hc (q0 := 0) rfl rfl hl.1 rfl (Nat.le_of_ble_eq_true rfl) dX50_states_2 ⟨Nat.le_refl 0, Nat.le_refl 0⟩) (fun r_1 _ H locs hw hH => ?_)
  have hH : kH (dC, dI) cl A s.heap H locs (wX50 ci ad d f_phrases f_axioms f_axiomCount f_triples f_tripleCount f_rules f_instances f_counts f_premises f_rows f_stated f_marks f_broken f_text f_size f_sizes f_places) := hH
  refine lv_if_ne (tgt := 10) hx hb dX50_states_5 (by decide) (fun c_2 => ?_) (fun c_2 => ?_)
  · have hw := hw.2 (z_ne (rfl : r_1.toInt = _) (rfl : (0 : Int32).toInt = 0) c_2)
    refine lv_iload_n hx hb dX50_states_10 rfl (lv_at hl 2 rfl) ?_
    refine lv_if_lt (tgt := 19) hx hb dX50_states_11 (by decide) (fun c_3 => ?_) (fun c_3 => ?_)
    · have hw := hw.1 (z_lt (rfl : x2.toInt = _) (rfl : (0 : Int32).toInt = 0) c_3)
      refine lv_bipush (v := (-2)) hx hb dX50_states_19 (by decide) ?_
      exact k_iret (v := (-2)) X hH (f_stated) hw rfl rfl dX50_states_21
    · have hw := hw.2 (z_nlt (rfl : x2.toInt = _) (rfl : (0 : Int32).toInt = 0) c_3)
      refine lv_iload_n hx hb dX50_states_14 rfl (lv_at hl 2 rfl) ?_
      refine lv_iconst (v := 3) hx hb dX50_states_15 (by decide) ?_
      refine lv_icmp_le (tgt := 22) hx hb dX50_states_16 (by decide) (fun c_4 => ?_) (fun c_4 => ?_)
      · have hw := hw.1 (z_le (rfl : x2.toInt = _) (rfl : (3 : Int32).toInt = 3) c_4)
        refine lv_aload_n hx hb dX50_states_22 rfl (lv_at hl 0 rfl) ?_
        refine lv_iload_n hx hb dX50_states_23 rfl (lv_at hl 1 rfl) ?_
        refine k_v0 hH (k_runV (As := [.int x1]) (rest := []) X hH.1 hH.2.1 X.2.2.2 (walkX50_work hc (x1 := x1) (f_phrases := f_phrases) (f_axioms := f_axioms) (f_axiomCount := f_axiomCount) (f_triples := f_triples) (f_tripleCount := f_tripleCount) (f_rules := f_rules) (f_instances := f_instances) (f_counts := f_counts) (f_premises := f_premises) (f_rows := f_rows) (f_stated := f_stated) (f_marks := f_marks) (f_broken := f_broken) (f_text := f_text) (f_size := f_size) (f_sizes := f_sizes) (f_places := f_places) hw) (cwV 1 X.1.2.2.2.2 gX50_215 rfl rfl rfl hX50_work ⟨Nat.le_of_ble_eq_true rfl, Nat.le_of_ble_eq_true rfl⟩) hc (q0 := 0) rfl rfl hl.1 rfl (Nat.le_of_ble_eq_true rfl) dX50_states_24 ⟨Nat.le_refl 0, Nat.le_refl 0⟩) (fun u H locs hw hH => ?_)
        obtain ⟨f_stated_5, eu⟩ : ∃ z, z = u := ⟨_, rfl⟩
        subst eu
        have hH : kH (dC, dI) cl A s.heap H locs (wX50 ci ad d f_phrases f_axioms f_axiomCount f_triples f_tripleCount f_rules f_instances f_counts f_premises f_rows f_stated_5 f_marks f_broken f_text f_size f_sizes f_places) := hH
        refine lv_aload_n hx hb dX50_states_27 rfl (lv_at hl 0 rfl) ?_
        refine k_get X hH in_X50 0 rfl hc 10 (by decide) q6294 rfl dX50_states_28 ?_
        refine lv_iconst (v := 4) hx hb dX50_states_31 (by decide) ?_
        refine lv_iload_n hx hb dX50_states_32 rfl (lv_at hl 1 rfl) ?_
        refine lv_imul hx hb dX50_states_33 ?_
        have e_6 := z_mul (z_m (rfl : (4 : Int32).toInt = 4)) (z_m (rfl : x1.toInt = _))
        refine lv_iload_n hx hb dX50_states_34 rfl (lv_at hl 2 rfl) ?_
        refine lv_iadd hx hb dX50_states_35 ?_
        have e_7 := z_add e_6 (z_m (rfl : x2.toInt = _))
        have hq_8 := hw.1
        have hw := hw.2
        have e_9 := z_xi e_7 hq_8 (by decide)
        refine k_iald X hH 8 7 rfl rfl (z_in e_9 hq_8) dX50_states_36 ?_
        have e_10 := z_ld (f := f_stated_5) e_9 hq_8.1
        exact k_iret (v := f_stated_5 ((4 * x1) + x2).toNatClampNeg) X hH (f_stated_5) (by rw [show (f_stated_5 ((4 * x1) + x2).toNatClampNeg : Int32).toInt = _ from e_10]; exact hw) rfl rfl dX50_states_37
      · have hw := hw.2 (z_nle (rfl : x2.toInt = _) (rfl : (3 : Int32).toInt = 3) c_4)
        refine lv_bipush (v := (-2)) hx hb dX50_states_19 (by decide) ?_
        exact k_iret (v := (-2)) X hH (f_stated) hw rfl rfl dX50_states_21
  · have hw := hw.1 (z_eq (rfl : r_1.toInt = _) (rfl : (0 : Int32).toInt = 0) c_2)
    refine lv_iconst (v := (-1)) hx hb dX50_states_8 (by decide) ?_
    exact k_iret (v := (-1)) X hH (f_stated) hw rfl rfl dX50_states_9
set_option maxHeartbeats 4000000 in
theorem atX50_number_2 {p : Program} {l : Launch} {e : Env} {s : State} {m : MethodId} {args : Array Value} {below : List Frame} {meth : Method} {c : Code} {dC : Nat → ClassId} {dI : Nat → Nat → Nat} {cl : List vw_C} {ci : Nat} (hc : cl[ci]? = some (RX50, TX50, 17)) {ad : Nat → Nat} {d : Nat → ClassId} {A : Nat → Prop} {post : (Int → Int) → Int → Prop} {f_phrases : Nat → Int64} {f_axioms : Nat → Int32} {f_axiomCount : Int32} {f_triples : Nat → Int32} {f_tripleCount : Int32} {f_rules : Nat → Int32} {f_instances : Nat → Int32} {f_counts : Nat → Int32} {f_premises : Nat → Int32} {f_rows : Int32} {f_stated : Nat → Int32} {f_marks : Nat → Int32} {f_broken : Int32} {f_sizes : Nat → Int32} {f_places : Nat → Int32} (X : kX p s m args meth c cX50_number 4 RX50 none (dC, dI) cl (tX50 d)) {K18 : Int → Prop} {x1 : Int32} {f_text : Nat → Int32} {f_size : Int32} (hk18 : ∀ (x2 : Int32), K18 x2.toInt → ∀ (H : Heap) (locs : List Loc) (ls : Array Slot), kH (dC, dI) cl A s.heap H locs (wX50 ci ad d f_phrases f_axioms f_axiomCount f_triples f_tripleCount f_rules f_instances f_counts f_premises f_rows f_stated f_marks f_broken f_text f_size f_sizes f_places) → lv_has ls 4 [(0, .ref (ad 0)), (1, .int x1), (2, .int x2)] → W p l e ({ frames := 0, cells := 0, slots := 0, locals := 0 } : Room) s m args below meth c H locs 0 0 (MQ below (va_Qv (fun (u : (Nat → Int32) × Int32) => post (zF (u.1)) (u.2).toInt) (kB (dC, dI) cl (tX50 d) A (fun u : (Nat → Int32) × Int32 => (wX50 ci ad d f_phrases f_axioms f_axiomCount f_triples f_tripleCount f_rules f_instances f_counts f_premises f_rows f_stated f_marks f_broken (u.1) (u.2) f_sizes f_places))) A) args s 0 0 A) (F0 m 18 ls [])) :
    ∀ (nn : Nat) (x2 : Int32), wX50_number_2 K18 x1.toInt nn x2.toInt → ∀ (H : Heap) (locs : List Loc) (ls : Array Slot), kH (dC, dI) cl A s.heap H locs (wX50 ci ad d f_phrases f_axioms f_axiomCount f_triples f_tripleCount f_rules f_instances f_counts f_premises f_rows f_stated f_marks f_broken f_text f_size f_sizes f_places) → lv_has ls 4 [(0, .ref (ad 0)), (1, .int x1), (2, .int x2)] → W p l e ({ frames := 0, cells := 0, slots := 0, locals := 0 } : Room) s m args below meth c H locs 0 0 (MQ below (va_Qv (fun (u : (Nat → Int32) × Int32) => post (zF (u.1)) (u.2).toInt) (kB (dC, dI) cl (tX50 d) A (fun u : (Nat → Int32) × Int32 => (wX50 ci ad d f_phrases f_axioms f_axiomCount f_triples f_tripleCount f_rules f_instances f_counts f_premises f_rows f_stated f_marks f_broken (u.1) (u.2) f_sizes f_places))) A) args s 0 0 A) (F0 m 2 ls []) := by
  have hx := X.1.1
  have hb := X.1.2.1
  intro nn
  induction nn with
  | zero =>
    intro x2 hw
    exact False.elim hw
  | succ n ih =>
    intro x2 hw H locs ls hH hl
    rw [wX50_number_2] at hw
    refine lv_iload_n hx hb dX50_number_2 rfl (lv_at hl 1 rfl) ?_
    refine lv_iload_n hx hb dX50_number_3 rfl (lv_at hl 2 rfl) ?_
    have hq_1 := hw.1
    have hw := hw.2
    refine lv_idiv hx hb dX50_number_4 (z_ne0 (rfl : x2.toInt = _) hq_1) ?_
    have hq_2 := hw.1
    have hw := hw.2
    have e_3 := z_tdiv (rfl : x1.toInt = _) (rfl : x2.toInt = _) hq_2
    refine lv_bipush (v := 9) hx hb dX50_number_5 (by decide) ?_
    refine lv_icmp_le (tgt := 18) hx hb dX50_number_7 (by decide) (fun c_4 => ?_) (fun c_4 => ?_)
    · have hw := hw.1 (z_le e_3 (rfl : (9 : Int32).toInt = 9) c_4)
      exact hk18 x2 hw _ _ ls hH (lv_sub hl [0, 1, 2] rfl)
    · have hw := hw.2 (z_nle e_3 (rfl : (9 : Int32).toInt = 9) c_4)
      refine lv_iload_n hx hb dX50_number_10 rfl (lv_at hl 2 rfl) ?_
      refine lv_bipush (v := 10) hx hb dX50_number_11 (by decide) ?_
      refine lv_imul hx hb dX50_number_13 ?_
      have e_5 := z_mul (z_m (rfl : x2.toInt = _)) (z_m (rfl : (10 : Int32).toInt = 10))
      have hq_6 := hw.1
      have hw := hw.2
      have e_7 := z_x e_5 hq_6
      refine lv_topi (fun x2_8 ex2_8 => ?_)
      have hw := hw x2_8.toInt (by rw [ex2_8]; exact e_7)
      refine lv_istore_n (lv' := [(2, .int x2_8), (0, .ref (ad 0)), (1, .int x1)]) hx hb dX50_number_14 rfl hl (by decide) rfl (fun ls hl => ?_)
      refine lv_goto (tgt := 2) hx hb dX50_number_15 (by decide) ?_
      exact ih x2_8 hw _ _ ls hH (lv_sub hl [1, 2, 0] rfl)
set_option maxHeartbeats 4000000 in
theorem atX50_number_20 {p : Program} {l : Launch} {e : Env} {s : State} {m : MethodId} {args : Array Value} {below : List Frame} {meth : Method} {c : Code} {dC : Nat → ClassId} {dI : Nat → Nat → Nat} {cl : List vw_C} {ci : Nat} (hc : cl[ci]? = some (RX50, TX50, 17)) {ad : Nat → Nat} {d : Nat → ClassId} {A : Nat → Prop} {post : (Int → Int) → Int → Prop} {f_phrases : Nat → Int64} {f_axioms : Nat → Int32} {f_axiomCount : Int32} {f_triples : Nat → Int32} {f_tripleCount : Int32} {f_rules : Nat → Int32} {f_instances : Nat → Int32} {f_counts : Nat → Int32} {f_premises : Nat → Int32} {f_rows : Int32} {f_stated : Nat → Int32} {f_marks : Nat → Int32} {f_broken : Int32} {f_sizes : Nat → Int32} {f_places : Nat → Int32} (X : kX p s m args meth c cX50_number 4 RX50 none (dC, dI) cl (tX50 d)) {K60 : (Int → Int) → Int → Prop} {x1 : Int32}  (hk60 : ∀ (f_text : Nat → Int32) (f_size : Int32), K60 (zF f_text) f_size.toInt → ∀ (H : Heap) (locs : List Loc) (ls : Array Slot), kH (dC, dI) cl A s.heap H locs (wX50 ci ad d f_phrases f_axioms f_axiomCount f_triples f_tripleCount f_rules f_instances f_counts f_premises f_rows f_stated f_marks f_broken f_text f_size f_sizes f_places) → lv_has ls 4 [] → W p l e ({ frames := 0, cells := 0, slots := 0, locals := 0 } : Room) s m args below meth c H locs 0 0 (MQ below (va_Qv (fun (u : (Nat → Int32) × Int32) => post (zF (u.1)) (u.2).toInt) (kB (dC, dI) cl (tX50 d) A (fun u : (Nat → Int32) × Int32 => (wX50 ci ad d f_phrases f_axioms f_axiomCount f_triples f_tripleCount f_rules f_instances f_counts f_premises f_rows f_stated f_marks f_broken (u.1) (u.2) f_sizes f_places))) A) args s 0 0 A) (F0 m 60 ls [])) :
    ∀ (nn : Nat) (x3 : Int32) (f_text : Nat → Int32) (f_size : Int32), wX50_number_20 K60 x1.toInt nn x3.toInt (zF f_text) f_size.toInt → ∀ (H : Heap) (locs : List Loc) (ls : Array Slot), kH (dC, dI) cl A s.heap H locs (wX50 ci ad d f_phrases f_axioms f_axiomCount f_triples f_tripleCount f_rules f_instances f_counts f_premises f_rows f_stated f_marks f_broken f_text f_size f_sizes f_places) → lv_has ls 4 [(0, .ref (ad 0)), (1, .int x1), (3, .int x3)] → W p l e ({ frames := 0, cells := 0, slots := 0, locals := 0 } : Room) s m args below meth c H locs 0 0 (MQ below (va_Qv (fun (u : (Nat → Int32) × Int32) => post (zF (u.1)) (u.2).toInt) (kB (dC, dI) cl (tX50 d) A (fun u : (Nat → Int32) × Int32 => (wX50 ci ad d f_phrases f_axioms f_axiomCount f_triples f_tripleCount f_rules f_instances f_counts f_premises f_rows f_stated f_marks f_broken (u.1) (u.2) f_sizes f_places))) A) args s 0 0 A) (F0 m 20 ls []) := by
  have hx := X.1.1
  have hb := X.1.2.1
  intro nn
  induction nn with
  | zero =>
    intro x3 f_text f_size hw
    exact False.elim hw
  | succ n ih =>
    intro x3 f_text f_size hw H locs ls hH hl
    rw [wX50_number_20] at hw
    refine lv_iload_n hx hb dX50_number_20 rfl (lv_at hl 2 rfl) ?_
    refine lv_if_le (tgt := 60) hx hb dX50_number_21 (by decide) (fun c_10 => ?_) (fun c_10 => ?_)
    · have hw := hw.1 (z_le (rfl : x3.toInt = _) (rfl : (0 : Int32).toInt = 0) c_10)
      exact hk60 f_text f_size hw _ _ ls hH (lv_sub hl [] rfl)
    · have hw := hw.2 (z_nle (rfl : x3.toInt = _) (rfl : (0 : Int32).toInt = 0) c_10)
      refine lv_aload_n hx hb dX50_number_24 rfl (lv_at hl 0 rfl) ?_
      refine k_get X hH in_X50 0 rfl hc 13 (by decide) q6297 rfl dX50_number_25 ?_
      refine lv_aload_n hx hb dX50_number_28 rfl (lv_at hl 0 rfl) ?_
      refine k_get X hH in_X50 0 rfl hc 14 (by decide) q6298 rfl dX50_number_29 ?_
      refine lv_bipush (v := 48) hx hb dX50_number_32 (by decide) ?_
      refine lv_iload_n hx hb dX50_number_34 rfl (lv_at hl 1 rfl) ?_
      refine lv_iload_n hx hb dX50_number_35 rfl (lv_at hl 2 rfl) ?_
      have hq_11 := hw.1
      have hw := hw.2
      refine lv_idiv hx hb dX50_number_36 (z_ne0 (rfl : x3.toInt = _) hq_11) ?_
      have hq_12 := hw.1
      have hw := hw.2
      have e_13 := z_tdiv (rfl : x1.toInt = _) (rfl : x3.toInt = _) hq_12
      refine lv_bipush (v := 10) hx hb dX50_number_37 (by decide) ?_
      have hq_14 := hw.1
      have hw := hw.2
      refine lv_irem hx hb dX50_number_39 (by decide) ?_
      have e_15 := z_rem e_13 (rfl : (10 : Int32).toInt = 10) hq_14 (by decide)
      refine lv_iadd hx hb dX50_number_40 ?_
      have e_16 := z_add (z_m (rfl : (48 : Int32).toInt = 48)) (z_m e_15)
      have hq_17 := hw.1
      have hw := hw.2
      have e_18 := z_x e_16 hq_17
      refine lv_topi (fun v_19 ev_19 => ?_)
      have hw := hw v_19.toInt (by rw [ev_19]; exact e_18)
      have hq_21 := hw.1
      have hw := hw.2
      obtain ⟨f_text_20, ef_text_20⟩ : ∃ y : Nat → Int32, y = upd f_text f_size.toNatClampNeg v_19 := ⟨_, rfl⟩
      refine k_iast X hH 10 9 rfl rfl (z_in (rfl : f_size.toInt = _) hq_21) dX50_number_41 ef_text_20 (ws1 := (wX50 ci ad d f_phrases f_axioms f_axiomCount f_triples f_tripleCount f_rules f_instances f_counts f_premises f_rows f_stated f_marks f_broken f_text_20 f_size f_sizes f_places)) rfl (fun H locs hH => ?_)
      have hw := hw (zF f_text_20) (by rw [ef_text_20]; exact z_st (f := f_text) (rfl : f_size.toInt = _) hq_21.1 (rfl : v_19.toInt = _))
      refine lv_aload_n hx hb dX50_number_42 rfl (lv_at hl 0 rfl) ?_
      refine lv_dup hx hb dX50_number_43 rfl ?_
      refine k_get X hH in_X50 0 rfl hc 14 (by decide) q6298 rfl dX50_number_44 ?_
      refine lv_iconst (v := 1) hx hb dX50_number_47 (by decide) ?_
      refine lv_iadd hx hb dX50_number_48 ?_
      have e_22 := z_add (z_m (rfl : f_size.toInt = _)) (z_m (rfl : (1 : Int32).toInt = 1))
      have hq_23 := hw.1
      have hw := hw.2
      have e_24 := z_x e_22 hq_23
      refine lv_topi (fun f_size_25 ef_size_25 => ?_)
      have hw := hw f_size_25.toInt (by rw [ef_size_25]; exact e_24)
      refine k_put X hH in_X50 tyX50_ok nmX50 0 rfl hc 14 (by decide) q6298 rfl (ty := .int) rfl rfl rfl (Nat.le_of_ble_eq_true rfl) dX50_number_49 (ws1 := (wX50 ci ad d f_phrases f_axioms f_axiomCount f_triples f_tripleCount f_rules f_instances f_counts f_premises f_rows f_stated f_marks f_broken f_text_20 f_size_25 f_sizes f_places)) rfl (fun H locs hH => ?_)
      refine lv_iload_n hx hb dX50_number_52 rfl (lv_at hl 2 rfl) ?_
      refine lv_bipush (v := 10) hx hb dX50_number_53 (by decide) ?_
      have hq_26 := hw.1
      have hw := hw.2
      refine lv_idiv hx hb dX50_number_55 (by decide) ?_
      have e_27 := z_div (rfl : x3.toInt = _) (rfl : (10 : Int32).toInt = 10) hq_26 (by decide)
      refine lv_topi (fun x3_28 ex3_28 => ?_)
      have hw := hw x3_28.toInt (by rw [ex3_28]; exact e_27)
      refine lv_istore_n (lv' := [(3, .int x3_28), (0, .ref (ad 0)), (1, .int x1)]) hx hb dX50_number_56 rfl hl (by decide) rfl (fun ls hl => ?_)
      refine lv_goto (tgt := 20) hx hb dX50_number_57 (by decide) ?_
      exact ih x3_28 f_text_20 f_size_25 hw _ _ ls hH (lv_sub hl [1, 2, 0] rfl)
set_option maxHeartbeats 4000000 in
theorem walkX50_number {l : Launch} {dC : Nat → ClassId} {dI : Nat → Nat → Nat} {cl : List vw_C} {ci : Nat} (hc : cl[ci]? = some (RX50, TX50, 17)) {ad : Nat → Nat} {d : Nat → ClassId} {sz : Nat} {f_phrases : Nat → Int64} {f_axioms : Nat → Int32} {f_axiomCount : Int32} {f_triples : Nat → Int32} {f_tripleCount : Int32} {f_rules : Nat → Int32} {f_instances : Nat → Int32} {f_counts : Nat → Int32} {f_premises : Nat → Int32} {f_rows : Int32} {f_stated : Nat → Int32} {f_marks : Nat → Int32} {f_broken : Int32} {f_text : Nat → Int32} {f_size : Int32} {f_sizes : Nat → Int32} {f_places : Nat → Int32} {x1 : Int32} {post : (Int → Int) → Int → Prop} (hw : wpX50_number post (zF f_text) f_size.toInt x1.toInt) :
    Met l yX50_number (ws_ yX50_number cX50_number 4 none) ({ frames := 0, cells := 0, slots := 0, locals := 0 } : Room) (kPc (dC, dI) cl (tX50 d) [.ref (ad 0), .int x1] sz (wX50 ci ad d f_phrases f_axioms f_axiomCount f_triples f_tripleCount f_rules f_instances f_counts f_premises f_rows f_stated f_marks f_broken f_text f_size f_sizes f_places)) (va_Qv (fun (u : (Nat → Int32) × Int32) => post (zF (u.1)) (u.2).toInt) (kB (dC, dI) cl (tX50 d) (va_A (wX50 ci ad d f_phrases f_axioms f_axiomCount f_triples f_tripleCount f_rules f_instances f_counts f_premises f_rows f_stated f_marks f_broken f_text f_size f_sizes f_places) sz) (fun u : (Nat → Int32) × Int32 => (wX50 ci ad d f_phrases f_axioms f_axiomCount f_triples f_tripleCount f_rules f_instances f_counts f_premises f_rows f_stated f_marks f_broken (u.1) (u.2) f_sizes f_places))) (va_A (wX50 ci ad d f_phrases f_axioms f_axiomCount f_triples f_tripleCount f_rules f_instances f_counts f_premises f_rows f_stated f_marks f_broken f_text f_size f_sizes f_places) sz)) 0 0 (va_A (wX50 ci ad d f_phrases f_axioms f_axiomCount f_triples f_tripleCount f_rules f_instances f_counts f_premises f_rows f_stated f_marks f_broken f_text f_size f_sizes f_places) sz) := by
  refine k_enter (by decide) (Nat.le_of_ble_eq_true rfl) ?_
  intro p e s m below meth c ls X hsz hH hl
  subst hsz
  generalize va_A (wX50 ci ad d f_phrases f_axioms f_axiomCount f_triples f_tripleCount f_rules f_instances f_counts f_premises f_rows f_stated f_marks f_broken f_text f_size f_sizes f_places) s.heap.size = A at hH ⊢
  have hx := X.1.1
  have hb := X.1.2.1
  have hl : lv_has ls 4 [(0, .ref (ad 0)), (1, .int x1)] := hl
  unfold wpX50_number at hw
  refine lv_iconst (v := 1) hx hb dX50_number_0 (by decide) ?_
  refine lv_istore_n (lv' := [(2, .int 1), (0, .ref (ad 0)), (1, .int x1)]) hx hb dX50_number_1 rfl hl (by decide) rfl (fun ls hl => ?_)
  obtain ⟨fu, hw⟩ := hw
  refine atX50_number_2 hc X ?_ fu 1 hw _ _ ls hH (lv_sub hl [1, 2, 0] rfl)
  · intro x2_9 hw H locs ls hH hl
    refine lv_iload_n hx hb dX50_number_18 rfl (lv_at hl 2 rfl) ?_
    refine lv_istore_n (lv' := [(3, .int x2_9), (0, .ref (ad 0)), (1, .int x1), (2, .int x2_9)]) hx hb dX50_number_19 rfl hl (by decide) rfl (fun ls hl => ?_)
    obtain ⟨fu, hw⟩ := hw
    refine atX50_number_20 hc X ?_ fu x2_9 f_text f_size hw _ _ ls hH (lv_sub hl [1, 2, 0] rfl)
    · intro f_text_29 f_size_30 hw H locs ls hH hl
      exact k_vret X hH (f_text_29, f_size_30) hw rfl dX50_number_60
set_option maxHeartbeats 4000000 in
theorem atX50_put_9 {p : Program} {l : Launch} {e : Env} {s : State} {m : MethodId} {args : Array Value} {below : List Frame} {meth : Method} {c : Code} {dC : Nat → ClassId} {dI : Nat → Nat → Nat} {cl : List vw_C} {ci : Nat} (hc : cl[ci]? = some (RX50, TX50, 17)) {ad : Nat → Nat} {d : Nat → ClassId} {A : Nat → Prop} {post : (Int → Int) → Int → Prop} {f_phrases : Nat → Int64} {f_axioms : Nat → Int32} {f_axiomCount : Int32} {f_triples : Nat → Int32} {f_tripleCount : Int32} {f_rules : Nat → Int32} {f_instances : Nat → Int32} {f_counts : Nat → Int32} {f_premises : Nat → Int32} {f_rows : Int32} {f_stated : Nat → Int32} {f_marks : Nat → Int32} {f_broken : Int32} {f_sizes : Nat → Int32} {f_places : Nat → Int32} (X : kX p s m args meth c cX50_put 5 RX50 none (dC, dI) cl (tX50 d)) {K26 : Int → Prop} {x1 : Int32} {x3 : Int32} {f_text : Nat → Int32} {f_size : Int32} (hk26 : ∀ (x2 : Int32), K26 x2.toInt → ∀ (H : Heap) (locs : List Loc) (ls : Array Slot), kH (dC, dI) cl A s.heap H locs (wX50 ci ad d f_phrases f_axioms f_axiomCount f_triples f_tripleCount f_rules f_instances f_counts f_premises f_rows f_stated f_marks f_broken f_text f_size f_sizes f_places) → lv_has ls 5 [(0, .ref (ad 0)), (1, .int x1), (2, .int x2), (3, .int x3)] → W p l e ({ frames := 0, cells := 0, slots := 0, locals := 0 } : Room) s m args below meth c H locs 0 0 (MQ below (va_Qv (fun (u : (Nat → Int32) × Int32) => post (zF (u.1)) (u.2).toInt) (kB (dC, dI) cl (tX50 d) A (fun u : (Nat → Int32) × Int32 => (wX50 ci ad d f_phrases f_axioms f_axiomCount f_triples f_tripleCount f_rules f_instances f_counts f_premises f_rows f_stated f_marks f_broken (u.1) (u.2) f_sizes f_places))) A) args s 0 0 A) (F0 m 26 ls [])) :
    ∀ (nn : Nat) (x2 : Int32), wX50_put_9 K26 (zG f_phrases) nn x2.toInt → ∀ (H : Heap) (locs : List Loc) (ls : Array Slot), kH (dC, dI) cl A s.heap H locs (wX50 ci ad d f_phrases f_axioms f_axiomCount f_triples f_tripleCount f_rules f_instances f_counts f_premises f_rows f_stated f_marks f_broken f_text f_size f_sizes f_places) → lv_has ls 5 [(0, .ref (ad 0)), (1, .int x1), (2, .int x2), (3, .int x3)] → W p l e ({ frames := 0, cells := 0, slots := 0, locals := 0 } : Room) s m args below meth c H locs 0 0 (MQ below (va_Qv (fun (u : (Nat → Int32) × Int32) => post (zF (u.1)) (u.2).toInt) (kB (dC, dI) cl (tX50 d) A (fun u : (Nat → Int32) × Int32 => (wX50 ci ad d f_phrases f_axioms f_axiomCount f_triples f_tripleCount f_rules f_instances f_counts f_premises f_rows f_stated f_marks f_broken (u.1) (u.2) f_sizes f_places))) A) args s 0 0 A) (F0 m 9 ls []) := by
  have hx := X.1.1
  have hb := X.1.2.1
  intro nn
  induction nn with
  | zero =>
    intro x2 hw
    exact False.elim hw
  | succ n ih =>
    intro x2 hw H locs ls hH hl
    rw [wX50_put_9] at hw
    refine lv_aload_n hx hb dX50_put_9 rfl (lv_at hl 0 rfl) ?_
    refine k_get X hH in_X50 0 rfl hc 0 (by decide) q6284 rfl dX50_put_10 ?_
    refine lv_iload_n hx hb dX50_put_13 rfl (lv_at hl 2 rfl) ?_
    have hq_2 := hw.1
    have hw := hw.2
    refine k_lald X hH 1 0 rfl rfl (z_in (rfl : x2.toInt = _) hq_2) dX50_put_14 ?_
    have e_3 := z_ldL (f := f_phrases) (rfl : x2.toInt = _) hq_2.1
    refine lv_lconst (v := 0) hx hb dX50_put_15 (by decide) ?_
    refine W.lcmp hx hb dX50_put_16 ?_
    refine lv_if_eq (tgt := 26) hx hb dX50_put_17 (by decide) (fun c_4 => ?_) (fun c_4 => ?_)
    · have hw := hw.1 (zL_eq e_3 (rfl : (0 : Int64).toInt = 0) (k_lc_eq.mp c_4))
      exact hk26 x2 hw _ _ ls hH (lv_sub hl [0, 1, 2, 3] rfl)
    · have hw := hw.2 (zL_neq e_3 (rfl : (0 : Int64).toInt = 0) (fun z => c_4 (k_lc_eq.mpr z)))
      have hq_6 := hw.1
      have hw := hw.2
      obtain ⟨x2_5, ex2_5⟩ : ∃ y : Int32, y = x2 + 1 := ⟨_, rfl⟩
      have hw := hw x2_5.toInt (by rw [ex2_5]; exact (z_x (z_add (z_m (rfl : x2.toInt = _)) (z_m (rfl : (1 : Int32).toInt = 1))) hq_6))
      refine lv_iinc (v := x2_5) (lv' := [(2, .int x2_5), (0, .ref (ad 0)), (1, .int x1), (3, .int x3)]) hx hb dX50_put_20 hl (k := 2) rfl (by rw [ex2_5]; rfl) (by decide) rfl (fun ls hl => ?_)
      refine lv_goto (tgt := 9) hx hb dX50_put_23 (by decide) ?_
      exact ih x2_5 hw _ _ ls hH (lv_sub hl [1, 2, 0, 3] rfl)
set_option maxHeartbeats 4000000 in
theorem atX50_put_4 {p : Program} {l : Launch} {e : Env} {s : State} {m : MethodId} {args : Array Value} {below : List Frame} {meth : Method} {c : Code} {dC : Nat → ClassId} {dI : Nat → Nat → Nat} {cl : List vw_C} {ci : Nat} (hc : cl[ci]? = some (RX50, TX50, 17)) {ad : Nat → Nat} {d : Nat → ClassId} {A : Nat → Prop} {post : (Int → Int) → Int → Prop} {f_phrases : Nat → Int64} {f_axioms : Nat → Int32} {f_axiomCount : Int32} {f_triples : Nat → Int32} {f_tripleCount : Int32} {f_rules : Nat → Int32} {f_instances : Nat → Int32} {f_counts : Nat → Int32} {f_premises : Nat → Int32} {f_rows : Int32} {f_stated : Nat → Int32} {f_marks : Nat → Int32} {f_broken : Int32} {f_sizes : Nat → Int32} {f_places : Nat → Int32} (X : kX p s m args meth c cX50_put 5 RX50 none (dC, dI) cl (tX50 d)) {K35 : Int → Prop} {x1 : Int32} {f_text : Nat → Int32} {f_size : Int32} (hk35 : ∀ (x2 : Int32), K35 x2.toInt → ∀ (H : Heap) (locs : List Loc) (ls : Array Slot), kH (dC, dI) cl A s.heap H locs (wX50 ci ad d f_phrases f_axioms f_axiomCount f_triples f_tripleCount f_rules f_instances f_counts f_premises f_rows f_stated f_marks f_broken f_text f_size f_sizes f_places) → lv_has ls 5 [(0, .ref (ad 0)), (2, .int x2)] → W p l e ({ frames := 0, cells := 0, slots := 0, locals := 0 } : Room) s m args below meth c H locs 0 0 (MQ below (va_Qv (fun (u : (Nat → Int32) × Int32) => post (zF (u.1)) (u.2).toInt) (kB (dC, dI) cl (tX50 d) A (fun u : (Nat → Int32) × Int32 => (wX50 ci ad d f_phrases f_axioms f_axiomCount f_triples f_tripleCount f_rules f_instances f_counts f_premises f_rows f_stated f_marks f_broken (u.1) (u.2) f_sizes f_places))) A) args s 0 0 A) (F0 m 35 ls [])) :
    ∀ (nn : Nat) (x2 : Int32) (x3 : Int32), wX50_put_4 K35 x1.toInt (zG f_phrases) nn x2.toInt x3.toInt → ∀ (H : Heap) (locs : List Loc) (ls : Array Slot), kH (dC, dI) cl A s.heap H locs (wX50 ci ad d f_phrases f_axioms f_axiomCount f_triples f_tripleCount f_rules f_instances f_counts f_premises f_rows f_stated f_marks f_broken f_text f_size f_sizes f_places) → lv_has ls 5 [(0, .ref (ad 0)), (1, .int x1), (2, .int x2), (3, .int x3)] → W p l e ({ frames := 0, cells := 0, slots := 0, locals := 0 } : Room) s m args below meth c H locs 0 0 (MQ below (va_Qv (fun (u : (Nat → Int32) × Int32) => post (zF (u.1)) (u.2).toInt) (kB (dC, dI) cl (tX50 d) A (fun u : (Nat → Int32) × Int32 => (wX50 ci ad d f_phrases f_axioms f_axiomCount f_triples f_tripleCount f_rules f_instances f_counts f_premises f_rows f_stated f_marks f_broken (u.1) (u.2) f_sizes f_places))) A) args s 0 0 A) (F0 m 4 ls []) := by
  have hx := X.1.1
  have hb := X.1.2.1
  intro nn
  induction nn with
  | zero =>
    intro x2 x3 hw
    exact False.elim hw
  | succ n ih =>
    intro x2 x3 hw H locs ls hH hl
    rw [wX50_put_4] at hw
    refine lv_iload_n hx hb dX50_put_4 rfl (lv_at hl 3 rfl) ?_
    refine lv_iload_n hx hb dX50_put_5 rfl (lv_at hl 1 rfl) ?_
    refine lv_icmp_ge (tgt := 35) hx hb dX50_put_6 (by decide) (fun c_1 => ?_) (fun c_1 => ?_)
    · have hw := hw.1 (z_le (rfl : x1.toInt = _) (rfl : x3.toInt = _) c_1)
      exact hk35 x2 hw _ _ ls hH (lv_sub hl [0, 2] rfl)
    · have hw := hw.2 (z_nle (rfl : x1.toInt = _) (rfl : x3.toInt = _) c_1)
      obtain ⟨fu, hw⟩ := hw
      refine atX50_put_9 hc X ?_ fu x2 hw _ _ ls hH (lv_sub hl [0, 1, 2, 3] rfl)
      · intro x2_7 hw H locs ls hH hl
        have hq_9 := hw.1
        have hw := hw.2
        obtain ⟨x2_8, ex2_8⟩ : ∃ y : Int32, y = x2_7 + 1 := ⟨_, rfl⟩
        have hw := hw x2_8.toInt (by rw [ex2_8]; exact (z_x (z_add (z_m (rfl : x2_7.toInt = _)) (z_m (rfl : (1 : Int32).toInt = 1))) hq_9))
        refine lv_iinc (v := x2_8) (lv' := [(2, .int x2_8), (0, .ref (ad 0)), (1, .int x1), (3, .int x3)]) hx hb dX50_put_26 hl (k := 2) rfl (by rw [ex2_8]; rfl) (by decide) rfl (fun ls hl => ?_)
        have hq_11 := hw.1
        have hw := hw.2
        obtain ⟨x3_10, ex3_10⟩ : ∃ y : Int32, y = x3 + 1 := ⟨_, rfl⟩
        have hw := hw x3_10.toInt (by rw [ex3_10]; exact (z_x (z_add (z_m (rfl : x3.toInt = _)) (z_m (rfl : (1 : Int32).toInt = 1))) hq_11))
        refine lv_iinc (v := x3_10) (lv' := [(3, .int x3_10), (2, .int x2_8), (0, .ref (ad 0)), (1, .int x1)]) hx hb dX50_put_29 hl (k := 3) rfl (by rw [ex3_10]; rfl) (by decide) rfl (fun ls hl => ?_)
        refine lv_goto (tgt := 4) hx hb dX50_put_32 (by decide) ?_
        exact ih x2_8 x3_10 hw _ _ ls hH (lv_sub hl [2, 3, 1, 0] rfl)
set_option maxHeartbeats 4000000 in
theorem atX50_put_49 {p : Program} {l : Launch} {e : Env} {s : State} {m : MethodId} {args : Array Value} {below : List Frame} {meth : Method} {c : Code} {dC : Nat → ClassId} {dI : Nat → Nat → Nat} {cl : List vw_C} {ci : Nat} (hc : cl[ci]? = some (RX50, TX50, 17)) {ad : Nat → Nat} {d : Nat → ClassId} {A : Nat → Prop} {post : (Int → Int) → Int → Prop} {f_phrases : Nat → Int64} {f_axioms : Nat → Int32} {f_axiomCount : Int32} {f_triples : Nat → Int32} {f_tripleCount : Int32} {f_rules : Nat → Int32} {f_instances : Nat → Int32} {f_counts : Nat → Int32} {f_premises : Nat → Int32} {f_rows : Int32} {f_stated : Nat → Int32} {f_marks : Nat → Int32} {f_broken : Int32} {f_sizes : Nat → Int32} {f_places : Nat → Int32} (X : kX p s m args meth c cX50_put 5 RX50 none (dC, dI) cl (tX50 d)) {K103 : (Int → Int) → Int → Prop} {x2 : Int32}  (hk103 : ∀ (f_text : Nat → Int32) (f_size : Int32), K103 (zF f_text) f_size.toInt → ∀ (H : Heap) (locs : List Loc) (ls : Array Slot), kH (dC, dI) cl A s.heap H locs (wX50 ci ad d f_phrases f_axioms f_axiomCount f_triples f_tripleCount f_rules f_instances f_counts f_premises f_rows f_stated f_marks f_broken f_text f_size f_sizes f_places) → lv_has ls 5 [(0, .ref (ad 0)), (2, .int x2)] → W p l e ({ frames := 0, cells := 0, slots := 0, locals := 0 } : Room) s m args below meth c H locs 0 0 (MQ below (va_Qv (fun (u : (Nat → Int32) × Int32) => post (zF (u.1)) (u.2).toInt) (kB (dC, dI) cl (tX50 d) A (fun u : (Nat → Int32) × Int32 => (wX50 ci ad d f_phrases f_axioms f_axiomCount f_triples f_tripleCount f_rules f_instances f_counts f_premises f_rows f_stated f_marks f_broken (u.1) (u.2) f_sizes f_places))) A) args s 0 0 A) (F0 m 103 ls [])) :
    ∀ (nn : Nat) (x3 : Int32) (f_text : Nat → Int32) (f_size : Int32), wX50_put_49 K103 x2.toInt (zG f_phrases) nn x3.toInt (zF f_text) f_size.toInt → ∀ (H : Heap) (locs : List Loc) (ls : Array Slot), kH (dC, dI) cl A s.heap H locs (wX50 ci ad d f_phrases f_axioms f_axiomCount f_triples f_tripleCount f_rules f_instances f_counts f_premises f_rows f_stated f_marks f_broken f_text f_size f_sizes f_places) → lv_has ls 5 [(0, .ref (ad 0)), (2, .int x2), (3, .int x3)] → W p l e ({ frames := 0, cells := 0, slots := 0, locals := 0 } : Room) s m args below meth c H locs 0 0 (MQ below (va_Qv (fun (u : (Nat → Int32) × Int32) => post (zF (u.1)) (u.2).toInt) (kB (dC, dI) cl (tX50 d) A (fun u : (Nat → Int32) × Int32 => (wX50 ci ad d f_phrases f_axioms f_axiomCount f_triples f_tripleCount f_rules f_instances f_counts f_premises f_rows f_stated f_marks f_broken (u.1) (u.2) f_sizes f_places))) A) args s 0 0 A) (F0 m 49 ls []) := by
  have hx := X.1.1
  have hb := X.1.2.1
  intro nn
  induction nn with
  | zero =>
    intro x3 f_text f_size hw
    exact False.elim hw
  | succ n ih =>
    intro x3 f_text f_size hw H locs ls hH hl
    rw [wX50_put_49] at hw
    refine lv_iload_n hx hb dX50_put_49 rfl (lv_at hl 2 rfl) ?_
    refine lv_if_lt (tgt := 103) hx hb dX50_put_50 (by decide) (fun c_16 => ?_) (fun c_16 => ?_)
    · have hw := hw.1 (z_lt (rfl : x3.toInt = _) (rfl : (0 : Int32).toInt = 0) c_16)
      exact hk103 f_text f_size hw _ _ ls hH (lv_sub hl [0, 1] rfl)
    · have hw := hw.2 (z_nlt (rfl : x3.toInt = _) (rfl : (0 : Int32).toInt = 0) c_16)
      refine lv_aload_n hx hb dX50_put_53 rfl (lv_at hl 0 rfl) ?_
      refine k_get X hH in_X50 0 rfl hc 0 (by decide) q6284 rfl dX50_put_54 ?_
      refine lv_iload_n hx hb dX50_put_57 rfl (lv_at hl 1 rfl) ?_
      have hq_17 := hw.1
      have hw := hw.2
      refine k_lald X hH 1 0 rfl rfl (z_in (rfl : x2.toInt = _) hq_17) dX50_put_58 ?_
      have e_18 := z_ldL (f := f_phrases) (rfl : x2.toInt = _) hq_17.1
      refine lv_iload_n hx hb dX50_put_59 rfl (lv_at hl 2 rfl) ?_
      refine lv_lshr (v := (f_phrases x2.toNatClampNeg) >>> (x3.toInt64 &&& 63)) hx hb dX50_put_60 rfl ?_
      have hq_19 := hw.1
      have hw := hw.2
      have e_20 := zL_shrV e_18 (rfl : x3.toInt = _) hq_19
      refine lv_ldc2 (v := 255) hx hb X.1.2.2.2.1 (X.1.2.2.2.2 _ q8441) dX50_put_61 ?_
      refine lv_land hx hb dX50_put_64 ?_
      have e_21 := zL_mask (zL_m e_20) (k := 8) (mm := 255) (c := 256) (by decide)
      refine lv_l2i (v := (((f_phrases x2.toNatClampNeg) >>> (x3.toInt64 &&& 63)) &&& 255).toInt32) hx hb dX50_put_65 rfl ?_
      have e_22 := z_l2iM (zL_m e_21)
      have hq_23 := hw.1
      have hw := hw.2
      have e_24 := z_x e_22 hq_23
      refine lv_topi (fun x4_25 ex4_25 => ?_)
      have hw := hw x4_25.toInt (by rw [ex4_25]; exact e_24)
      refine lv_istore (lv' := [(4, .int x4_25), (0, .ref (ad 0)), (2, .int x2), (3, .int x3)]) hx hb dX50_put_66 hl (by decide) rfl (fun ls hl => ?_)
      refine lv_iload hx hb dX50_put_68 (lv_at hl 0 rfl) ?_
      refine lv_if_ne (tgt := 76) hx hb dX50_put_70 (by decide) (fun c_26 => ?_) (fun c_26 => ?_)
      · have hw := hw.2 (z_ne (rfl : x4_25.toInt = _) (rfl : (0 : Int32).toInt = 0) c_26)
        refine lv_aload_n hx hb dX50_put_76 rfl (lv_at hl 1 rfl) ?_
        refine k_get X hH in_X50 0 rfl hc 13 (by decide) q6297 rfl dX50_put_77 ?_
        refine lv_aload_n hx hb dX50_put_80 rfl (lv_at hl 1 rfl) ?_
        refine k_get X hH in_X50 0 rfl hc 14 (by decide) q6298 rfl dX50_put_81 ?_
        refine lv_iload hx hb dX50_put_84 (lv_at hl 0 rfl) ?_
        have hq_28 := hw.1
        have hw := hw.2
        obtain ⟨f_text_27, ef_text_27⟩ : ∃ y : Nat → Int32, y = upd f_text f_size.toNatClampNeg x4_25 := ⟨_, rfl⟩
        refine k_iast X hH 10 9 rfl rfl (z_in (rfl : f_size.toInt = _) hq_28) dX50_put_86 ef_text_27 (ws1 := (wX50 ci ad d f_phrases f_axioms f_axiomCount f_triples f_tripleCount f_rules f_instances f_counts f_premises f_rows f_stated f_marks f_broken f_text_27 f_size f_sizes f_places)) rfl (fun H locs hH => ?_)
        have hw := hw (zF f_text_27) (by rw [ef_text_27]; exact z_st (f := f_text) (rfl : f_size.toInt = _) hq_28.1 (rfl : x4_25.toInt = _))
        refine lv_aload_n hx hb dX50_put_87 rfl (lv_at hl 1 rfl) ?_
        refine lv_dup hx hb dX50_put_88 rfl ?_
        refine k_get X hH in_X50 0 rfl hc 14 (by decide) q6298 rfl dX50_put_89 ?_
        refine lv_iconst (v := 1) hx hb dX50_put_92 (by decide) ?_
        refine lv_iadd hx hb dX50_put_93 ?_
        have e_29 := z_add (z_m (rfl : f_size.toInt = _)) (z_m (rfl : (1 : Int32).toInt = 1))
        have hq_30 := hw.1
        have hw := hw.2
        have e_31 := z_x e_29 hq_30
        refine lv_topi (fun f_size_32 ef_size_32 => ?_)
        have hw := hw f_size_32.toInt (by rw [ef_size_32]; exact e_31)
        refine k_put X hH in_X50 tyX50_ok nmX50 0 rfl hc 14 (by decide) q6298 rfl (ty := .int) rfl rfl rfl (Nat.le_of_ble_eq_true rfl) dX50_put_94 (ws1 := (wX50 ci ad d f_phrases f_axioms f_axiomCount f_triples f_tripleCount f_rules f_instances f_counts f_premises f_rows f_stated f_marks f_broken f_text_27 f_size_32 f_sizes f_places)) rfl (fun H locs hH => ?_)
        have hq_34 := hw.1
        have hw := hw.2
        obtain ⟨x3_33, ex3_33⟩ : ∃ y : Int32, y = x3 + (-8) := ⟨_, rfl⟩
        have hw := hw x3_33.toInt (by rw [ex3_33]; exact (z_x (z_add (z_m (rfl : x3.toInt = _)) (z_m (rfl : ((-8) : Int32).toInt = (-8)))) hq_34))
        refine lv_iinc (v := x3_33) (lv' := [(3, .int x3_33), (4, .int x4_25), (0, .ref (ad 0)), (2, .int x2)]) hx hb dX50_put_97 hl (k := 3) rfl (by rw [ex3_33]; rfl) (by decide) rfl (fun ls hl => ?_)
        refine lv_goto (tgt := 49) hx hb dX50_put_100 (by decide) ?_
        exact ih x3_33 f_text_27 f_size_32 hw _ _ ls hH (lv_sub hl [2, 3, 0] rfl)
      · have hw := hw.1 (z_eq (rfl : x4_25.toInt = _) (rfl : (0 : Int32).toInt = 0) c_26)
        refine lv_goto (tgt := 97) hx hb dX50_put_73 (by decide) ?_
        have hq_36 := hw.1
        have hw := hw.2
        obtain ⟨x3_35, ex3_35⟩ : ∃ y : Int32, y = x3 + (-8) := ⟨_, rfl⟩
        have hw := hw x3_35.toInt (by rw [ex3_35]; exact (z_x (z_add (z_m (rfl : x3.toInt = _)) (z_m (rfl : ((-8) : Int32).toInt = (-8)))) hq_36))
        refine lv_iinc (v := x3_35) (lv' := [(3, .int x3_35), (4, .int x4_25), (0, .ref (ad 0)), (2, .int x2)]) hx hb dX50_put_97 hl (k := 3) rfl (by rw [ex3_35]; rfl) (by decide) rfl (fun ls hl => ?_)
        refine lv_goto (tgt := 49) hx hb dX50_put_100 (by decide) ?_
        exact ih x3_35 f_text f_size hw _ _ ls hH (lv_sub hl [2, 3, 0] rfl)
set_option maxHeartbeats 4000000 in
theorem atX50_put_35 {p : Program} {l : Launch} {e : Env} {s : State} {m : MethodId} {args : Array Value} {below : List Frame} {meth : Method} {c : Code} {dC : Nat → ClassId} {dI : Nat → Nat → Nat} {cl : List vw_C} {ci : Nat} (hc : cl[ci]? = some (RX50, TX50, 17)) {ad : Nat → Nat} {d : Nat → ClassId} {A : Nat → Prop} {post : (Int → Int) → Int → Prop} {f_phrases : Nat → Int64} {f_axioms : Nat → Int32} {f_axiomCount : Int32} {f_triples : Nat → Int32} {f_tripleCount : Int32} {f_rules : Nat → Int32} {f_instances : Nat → Int32} {f_counts : Nat → Int32} {f_premises : Nat → Int32} {f_rows : Int32} {f_stated : Nat → Int32} {f_marks : Nat → Int32} {f_broken : Int32} {f_sizes : Nat → Int32} {f_places : Nat → Int32} (X : kX p s m args meth c cX50_put 5 RX50 none (dC, dI) cl (tX50 d)) {K109 : (Int → Int) → Int → Prop}   (hk109 : ∀ (f_text : Nat → Int32) (f_size : Int32), K109 (zF f_text) f_size.toInt → ∀ (H : Heap) (locs : List Loc) (ls : Array Slot), kH (dC, dI) cl A s.heap H locs (wX50 ci ad d f_phrases f_axioms f_axiomCount f_triples f_tripleCount f_rules f_instances f_counts f_premises f_rows f_stated f_marks f_broken f_text f_size f_sizes f_places) → lv_has ls 5 [] → W p l e ({ frames := 0, cells := 0, slots := 0, locals := 0 } : Room) s m args below meth c H locs 0 0 (MQ below (va_Qv (fun (u : (Nat → Int32) × Int32) => post (zF (u.1)) (u.2).toInt) (kB (dC, dI) cl (tX50 d) A (fun u : (Nat → Int32) × Int32 => (wX50 ci ad d f_phrases f_axioms f_axiomCount f_triples f_tripleCount f_rules f_instances f_counts f_premises f_rows f_stated f_marks f_broken (u.1) (u.2) f_sizes f_places))) A) args s 0 0 A) (F0 m 109 ls [])) :
    ∀ (nn : Nat) (x2 : Int32) (f_text : Nat → Int32) (f_size : Int32), wX50_put_35 K109 (zG f_phrases) nn x2.toInt (zF f_text) f_size.toInt → ∀ (H : Heap) (locs : List Loc) (ls : Array Slot), kH (dC, dI) cl A s.heap H locs (wX50 ci ad d f_phrases f_axioms f_axiomCount f_triples f_tripleCount f_rules f_instances f_counts f_premises f_rows f_stated f_marks f_broken f_text f_size f_sizes f_places) → lv_has ls 5 [(0, .ref (ad 0)), (2, .int x2)] → W p l e ({ frames := 0, cells := 0, slots := 0, locals := 0 } : Room) s m args below meth c H locs 0 0 (MQ below (va_Qv (fun (u : (Nat → Int32) × Int32) => post (zF (u.1)) (u.2).toInt) (kB (dC, dI) cl (tX50 d) A (fun u : (Nat → Int32) × Int32 => (wX50 ci ad d f_phrases f_axioms f_axiomCount f_triples f_tripleCount f_rules f_instances f_counts f_premises f_rows f_stated f_marks f_broken (u.1) (u.2) f_sizes f_places))) A) args s 0 0 A) (F0 m 35 ls []) := by
  have hx := X.1.1
  have hb := X.1.2.1
  intro nn
  induction nn with
  | zero =>
    intro x2 f_text f_size hw
    exact False.elim hw
  | succ n ih =>
    intro x2 f_text f_size hw H locs ls hH hl
    rw [wX50_put_35] at hw
    refine lv_aload_n hx hb dX50_put_35 rfl (lv_at hl 0 rfl) ?_
    refine k_get X hH in_X50 0 rfl hc 0 (by decide) q6284 rfl dX50_put_36 ?_
    refine lv_iload_n hx hb dX50_put_39 rfl (lv_at hl 1 rfl) ?_
    have hq_13 := hw.1
    have hw := hw.2
    refine k_lald X hH 1 0 rfl rfl (z_in (rfl : x2.toInt = _) hq_13) dX50_put_40 ?_
    have e_14 := z_ldL (f := f_phrases) (rfl : x2.toInt = _) hq_13.1
    refine lv_lconst (v := 0) hx hb dX50_put_41 (by decide) ?_
    refine W.lcmp hx hb dX50_put_42 ?_
    refine lv_if_eq (tgt := 109) hx hb dX50_put_43 (by decide) (fun c_15 => ?_) (fun c_15 => ?_)
    · have hw := hw.1 (zL_eq e_14 (rfl : (0 : Int64).toInt = 0) (k_lc_eq.mp c_15))
      exact hk109 f_text f_size hw _ _ ls hH (lv_sub hl [] rfl)
    · have hw := hw.2 (zL_neq e_14 (rfl : (0 : Int64).toInt = 0) (fun z => c_15 (k_lc_eq.mpr z)))
      refine lv_bipush (v := 56) hx hb dX50_put_46 (by decide) ?_
      refine lv_istore_n (lv' := [(3, .int 56), (0, .ref (ad 0)), (2, .int x2)]) hx hb dX50_put_48 rfl hl (by decide) rfl (fun ls hl => ?_)
      obtain ⟨fu, hw⟩ := hw
      refine atX50_put_49 hc X ?_ fu 56 f_text f_size hw _ _ ls hH (lv_sub hl [1, 2, 0] rfl)
      · intro f_text_37 f_size_38 hw H locs ls hH hl
        have hq_40 := hw.1
        have hw := hw.2
        obtain ⟨x2_39, ex2_39⟩ : ∃ y : Int32, y = x2 + 1 := ⟨_, rfl⟩
        have hw := hw x2_39.toInt (by rw [ex2_39]; exact (z_x (z_add (z_m (rfl : x2.toInt = _)) (z_m (rfl : (1 : Int32).toInt = 1))) hq_40))
        refine lv_iinc (v := x2_39) (lv' := [(2, .int x2_39), (0, .ref (ad 0))]) hx hb dX50_put_103 hl (k := 1) rfl (by rw [ex2_39]; rfl) (by decide) rfl (fun ls hl => ?_)
        refine lv_goto (tgt := 35) hx hb dX50_put_106 (by decide) ?_
        exact ih x2_39 f_text_37 f_size_38 hw _ _ ls hH (lv_sub hl [1, 0] rfl)
set_option maxHeartbeats 4000000 in
theorem walkX50_put {l : Launch} {dC : Nat → ClassId} {dI : Nat → Nat → Nat} {cl : List vw_C} {ci : Nat} (hc : cl[ci]? = some (RX50, TX50, 17)) {ad : Nat → Nat} {d : Nat → ClassId} {sz : Nat} {f_phrases : Nat → Int64} {f_axioms : Nat → Int32} {f_axiomCount : Int32} {f_triples : Nat → Int32} {f_tripleCount : Int32} {f_rules : Nat → Int32} {f_instances : Nat → Int32} {f_counts : Nat → Int32} {f_premises : Nat → Int32} {f_rows : Int32} {f_stated : Nat → Int32} {f_marks : Nat → Int32} {f_broken : Int32} {f_text : Nat → Int32} {f_size : Int32} {f_sizes : Nat → Int32} {f_places : Nat → Int32} {x1 : Int32} {post : (Int → Int) → Int → Prop} (hw : wpX50_put post (zG f_phrases) (zF f_text) f_size.toInt x1.toInt) :
    Met l yX50_put (ws_ yX50_put cX50_put 5 none) ({ frames := 0, cells := 0, slots := 0, locals := 0 } : Room) (kPc (dC, dI) cl (tX50 d) [.ref (ad 0), .int x1] sz (wX50 ci ad d f_phrases f_axioms f_axiomCount f_triples f_tripleCount f_rules f_instances f_counts f_premises f_rows f_stated f_marks f_broken f_text f_size f_sizes f_places)) (va_Qv (fun (u : (Nat → Int32) × Int32) => post (zF (u.1)) (u.2).toInt) (kB (dC, dI) cl (tX50 d) (va_A (wX50 ci ad d f_phrases f_axioms f_axiomCount f_triples f_tripleCount f_rules f_instances f_counts f_premises f_rows f_stated f_marks f_broken f_text f_size f_sizes f_places) sz) (fun u : (Nat → Int32) × Int32 => (wX50 ci ad d f_phrases f_axioms f_axiomCount f_triples f_tripleCount f_rules f_instances f_counts f_premises f_rows f_stated f_marks f_broken (u.1) (u.2) f_sizes f_places))) (va_A (wX50 ci ad d f_phrases f_axioms f_axiomCount f_triples f_tripleCount f_rules f_instances f_counts f_premises f_rows f_stated f_marks f_broken f_text f_size f_sizes f_places) sz)) 0 0 (va_A (wX50 ci ad d f_phrases f_axioms f_axiomCount f_triples f_tripleCount f_rules f_instances f_counts f_premises f_rows f_stated f_marks f_broken f_text f_size f_sizes f_places) sz) := by
  refine k_enter (by decide) (Nat.le_of_ble_eq_true rfl) ?_
  intro p e s m below meth c ls X hsz hH hl
  subst hsz
  generalize va_A (wX50 ci ad d f_phrases f_axioms f_axiomCount f_triples f_tripleCount f_rules f_instances f_counts f_premises f_rows f_stated f_marks f_broken f_text f_size f_sizes f_places) s.heap.size = A at hH ⊢
  have hx := X.1.1
  have hb := X.1.2.1
  have hl : lv_has ls 5 [(0, .ref (ad 0)), (1, .int x1)] := hl
  unfold wpX50_put at hw
  refine lv_iconst (v := 0) hx hb dX50_put_0 (by decide) ?_
  refine lv_istore_n (lv' := [(2, .int 0), (0, .ref (ad 0)), (1, .int x1)]) hx hb dX50_put_1 rfl hl (by decide) rfl (fun ls hl => ?_)
  refine lv_iconst (v := 0) hx hb dX50_put_2 (by decide) ?_
  refine lv_istore_n (lv' := [(3, .int 0), (2, .int 0), (0, .ref (ad 0)), (1, .int x1)]) hx hb dX50_put_3 rfl hl (by decide) rfl (fun ls hl => ?_)
  obtain ⟨fu, hw⟩ := hw
  refine atX50_put_4 hc X ?_ fu 0 0 hw _ _ ls hH (lv_sub hl [2, 3, 1, 0] rfl)
  · intro x2_12 hw H locs ls hH hl
    obtain ⟨fu, hw⟩ := hw
    refine atX50_put_35 hc X ?_ fu x2_12 f_text f_size hw _ _ ls hH (lv_sub hl [0, 1] rfl)
    · intro f_text_41 f_size_42 hw H locs ls hH hl
      exact k_vret X hH (f_text_41, f_size_42) hw rfl dX50_put_109
set_option maxHeartbeats 4000000 in
theorem atX50_statement_283 {p : Program} {l : Launch} {e : Env} {s : State} {m : MethodId} {args : Array Value} {below : List Frame} {meth : Method} {c : Code} {dC : Nat → ClassId} {dI : Nat → Nat → Nat} {cl : List vw_C} {ci : Nat} (hc : cl[ci]? = some (RX50, TX50, 17)) {ad : Nat → Nat} {d : Nat → ClassId} {A : Nat → Prop} {post : (Int → Int) → Int → Prop} {f_phrases : Nat → Int64} {f_axioms : Nat → Int32} {f_axiomCount : Int32} {f_triples : Nat → Int32} {f_tripleCount : Int32} {f_rules : Nat → Int32} {f_instances : Nat → Int32} {f_counts : Nat → Int32} {f_premises : Nat → Int32} {f_rows : Int32} {f_stated : Nat → Int32} {f_marks : Nat → Int32} {f_broken : Int32} {f_sizes : Nat → Int32} {f_places : Nat → Int32} (X : kX p s m args meth c cX50_statement 5 RX50 none (dC, dI) cl (tX50 d))     :
    ∀ (x1 : Int32) (y1 : Int32) (f_text : Nat → Int32) (f_size : Int32), wX50_statement_283 post x1.toInt y1.toInt (zG f_phrases) (zF f_text) f_size.toInt → ∀ (H : Heap) (locs : List Loc) (ls : Array Slot), kH (dC, dI) cl A s.heap H locs (wX50 ci ad d f_phrases f_axioms f_axiomCount f_triples f_tripleCount f_rules f_instances f_counts f_premises f_rows f_stated f_marks f_broken f_text f_size f_sizes f_places) → lv_has ls 5 [(0, .ref (ad 0)), (1, .int x1)] → W p l e ({ frames := 1, cells := 0, slots := 0, locals := 24 } : Room) s m args below meth c H locs 0 0 (MQ below (va_Qv (fun (u : (Nat → Int32) × Int32) => post (zF (u.1)) (u.2).toInt) (kB (dC, dI) cl (tX50 d) A (fun u : (Nat → Int32) × Int32 => (wX50 ci ad d f_phrases f_axioms f_axiomCount f_triples f_tripleCount f_rules f_instances f_counts f_premises f_rows f_stated f_marks f_broken (u.1) (u.2) f_sizes f_places))) A) args s 0 0 A) (F0 m 283 ls [.int y1, .ref (ad 0)]) := by
  have hx := X.1.1
  have hb := X.1.2.1
  intro x1 y1 f_text f_size hw H locs ls hH hl
  unfold wX50_statement_283 at hw
  refine k_v0 hH (k_runV (As := [.int y1]) (rest := []) X hH.1 hH.2.1 X.2.2.2 (walkX50_number hc (x1 := y1) (f_phrases := f_phrases) (f_axioms := f_axioms) (f_axiomCount := f_axiomCount) (f_triples := f_triples) (f_tripleCount := f_tripleCount) (f_rules := f_rules) (f_instances := f_instances) (f_counts := f_counts) (f_premises := f_premises) (f_rows := f_rows) (f_stated := f_stated) (f_marks := f_marks) (f_broken := f_broken) (f_text := f_text) (f_size := f_size) (f_sizes := f_sizes) (f_places := f_places) hw) (cwV 1 X.1.2.2.2.2 gX50_235 rfl rfl rfl hX50_number ⟨Nat.le_of_ble_eq_true rfl, Nat.le_of_ble_eq_true rfl⟩) hc (q0 := 0) rfl rfl hl.1 rfl (Nat.le_of_ble_eq_true rfl) dX50_statement_283 ⟨Nat.le_refl 0, Nat.le_refl 0⟩) (fun u H locs hw hH => ?_)
  obtain ⟨f_text_23, f_size_24⟩ := u
  have hH : kH (dC, dI) cl A s.heap H locs (wX50 ci ad d f_phrases f_axioms f_axiomCount f_triples f_tripleCount f_rules f_instances f_counts f_premises f_rows f_stated f_marks f_broken f_text_23 f_size_24 f_sizes f_places) := hH
  refine lv_iload_n hx hb dX50_statement_286 rfl (lv_at hl 1 rfl) ?_
  refine lv_iconst (v := 5) hx hb dX50_statement_287 (by decide) ?_
  refine lv_icmp_ne (tgt := 297) hx hb dX50_statement_288 (by decide) (fun c_25 => ?_) (fun c_25 => ?_)
  · have hw := hw.2 (z_ne (rfl : x1.toInt = _) (rfl : (5 : Int32).toInt = 5) c_25)
    refine lv_iload_n hx hb dX50_statement_297 rfl (lv_at hl 1 rfl) ?_
    refine lv_bipush (v := 8) hx hb dX50_statement_298 (by decide) ?_
    refine lv_icmp_ne (tgt := 309) hx hb dX50_statement_300 (by decide) (fun c_26 => ?_) (fun c_26 => ?_)
    · have hw := hw.2 (z_ne (rfl : x1.toInt = _) (rfl : (8 : Int32).toInt = 8) c_26)
      exact k_vret X hH (f_text_23, f_size_24) hw rfl dX50_statement_309
    · have hw := hw.1 (z_eq (rfl : x1.toInt = _) (rfl : (8 : Int32).toInt = 8) c_26)
      refine lv_aload_n hx hb dX50_statement_303 rfl (lv_at hl 0 rfl) ?_
      refine lv_bipush (v := 35) hx hb dX50_statement_304 (by decide) ?_
      refine k_v0 hH (k_runV (As := [.int 35]) (rest := []) X hH.1 hH.2.1 X.2.2.2 (walkX50_put hc (x1 := 35) (f_phrases := f_phrases) (f_axioms := f_axioms) (f_axiomCount := f_axiomCount) (f_triples := f_triples) (f_tripleCount := f_tripleCount) (f_rules := f_rules) (f_instances := f_instances) (f_counts := f_counts) (f_premises := f_premises) (f_rows := f_rows) (f_stated := f_stated) (f_marks := f_marks) (f_broken := f_broken) (f_text := f_text_23) (f_size := f_size_24) (f_sizes := f_sizes) (f_places := f_places) hw) (cwV 1 X.1.2.2.2.2 gX50_232 rfl rfl rfl hX50_put ⟨Nat.le_of_ble_eq_true rfl, Nat.le_of_ble_eq_true rfl⟩) hc (q0 := 0) rfl rfl hl.1 rfl (Nat.le_of_ble_eq_true rfl) dX50_statement_306 ⟨Nat.le_refl 0, Nat.le_refl 0⟩) (fun u H locs hw hH => ?_)
      obtain ⟨f_text_27, f_size_28⟩ := u
      have hH : kH (dC, dI) cl A s.heap H locs (wX50 ci ad d f_phrases f_axioms f_axiomCount f_triples f_tripleCount f_rules f_instances f_counts f_premises f_rows f_stated f_marks f_broken f_text_27 f_size_28 f_sizes f_places) := hH
      exact k_vret X hH (f_text_27, f_size_28) hw rfl dX50_statement_309
  · have hw := hw.1 (z_eq (rfl : x1.toInt = _) (rfl : (5 : Int32).toInt = 5) c_25)
    refine lv_aload_n hx hb dX50_statement_291 rfl (lv_at hl 0 rfl) ?_
    refine lv_bipush (v := 34) hx hb dX50_statement_292 (by decide) ?_
    refine k_v0 hH (k_runV (As := [.int 34]) (rest := []) X hH.1 hH.2.1 X.2.2.2 (walkX50_put hc (x1 := 34) (f_phrases := f_phrases) (f_axioms := f_axioms) (f_axiomCount := f_axiomCount) (f_triples := f_triples) (f_tripleCount := f_tripleCount) (f_rules := f_rules) (f_instances := f_instances) (f_counts := f_counts) (f_premises := f_premises) (f_rows := f_rows) (f_stated := f_stated) (f_marks := f_marks) (f_broken := f_broken) (f_text := f_text_23) (f_size := f_size_24) (f_sizes := f_sizes) (f_places := f_places) hw) (cwV 1 X.1.2.2.2.2 gX50_232 rfl rfl rfl hX50_put ⟨Nat.le_of_ble_eq_true rfl, Nat.le_of_ble_eq_true rfl⟩) hc (q0 := 0) rfl rfl hl.1 rfl (Nat.le_of_ble_eq_true rfl) dX50_statement_294 ⟨Nat.le_refl 0, Nat.le_refl 0⟩) (fun u H locs hw hH => ?_)
    obtain ⟨f_text_29, f_size_30⟩ := u
    have hH : kH (dC, dI) cl A s.heap H locs (wX50 ci ad d f_phrases f_axioms f_axiomCount f_triples f_tripleCount f_rules f_instances f_counts f_premises f_rows f_stated f_marks f_broken f_text_29 f_size_30 f_sizes f_places) := hH
    refine lv_iload_n hx hb dX50_statement_297 rfl (lv_at hl 1 rfl) ?_
    refine lv_bipush (v := 8) hx hb dX50_statement_298 (by decide) ?_
    refine lv_icmp_ne (tgt := 309) hx hb dX50_statement_300 (by decide) (fun c_31 => ?_) (fun c_31 => ?_)
    · have hw := hw.2 (z_ne (rfl : x1.toInt = _) (rfl : (8 : Int32).toInt = 8) c_31)
      exact k_vret X hH (f_text_29, f_size_30) hw rfl dX50_statement_309
    · have hw := hw.1 (z_eq (rfl : x1.toInt = _) (rfl : (8 : Int32).toInt = 8) c_31)
      refine lv_aload_n hx hb dX50_statement_303 rfl (lv_at hl 0 rfl) ?_
      refine lv_bipush (v := 35) hx hb dX50_statement_304 (by decide) ?_
      refine k_v0 hH (k_runV (As := [.int 35]) (rest := []) X hH.1 hH.2.1 X.2.2.2 (walkX50_put hc (x1 := 35) (f_phrases := f_phrases) (f_axioms := f_axioms) (f_axiomCount := f_axiomCount) (f_triples := f_triples) (f_tripleCount := f_tripleCount) (f_rules := f_rules) (f_instances := f_instances) (f_counts := f_counts) (f_premises := f_premises) (f_rows := f_rows) (f_stated := f_stated) (f_marks := f_marks) (f_broken := f_broken) (f_text := f_text_29) (f_size := f_size_30) (f_sizes := f_sizes) (f_places := f_places) hw) (cwV 1 X.1.2.2.2.2 gX50_232 rfl rfl rfl hX50_put ⟨Nat.le_of_ble_eq_true rfl, Nat.le_of_ble_eq_true rfl⟩) hc (q0 := 0) rfl rfl hl.1 rfl (Nat.le_of_ble_eq_true rfl) dX50_statement_306 ⟨Nat.le_refl 0, Nat.le_refl 0⟩) (fun u H locs hw hH => ?_)
      obtain ⟨f_text_32, f_size_33⟩ := u
      have hH : kH (dC, dI) cl A s.heap H locs (wX50 ci ad d f_phrases f_axioms f_axiomCount f_triples f_tripleCount f_rules f_instances f_counts f_premises f_rows f_stated f_marks f_broken f_text_32 f_size_33 f_sizes f_places) := hH
      exact k_vret X hH (f_text_32, f_size_33) hw rfl dX50_statement_309
set_option maxHeartbeats 4000000 in
theorem atX50_statement_251 {p : Program} {l : Launch} {e : Env} {s : State} {m : MethodId} {args : Array Value} {below : List Frame} {meth : Method} {c : Code} {dC : Nat → ClassId} {dI : Nat → Nat → Nat} {cl : List vw_C} {ci : Nat} (hc : cl[ci]? = some (RX50, TX50, 17)) {ad : Nat → Nat} {d : Nat → ClassId} {A : Nat → Prop} {post : (Int → Int) → Int → Prop} {f_phrases : Nat → Int64} {f_axioms : Nat → Int32} {f_axiomCount : Int32} {f_triples : Nat → Int32} {f_tripleCount : Int32} {f_rules : Nat → Int32} {f_instances : Nat → Int32} {f_counts : Nat → Int32} {f_premises : Nat → Int32} {f_rows : Int32} {f_stated : Nat → Int32} {f_marks : Nat → Int32} {f_broken : Int32} {f_sizes : Nat → Int32} {f_places : Nat → Int32} (X : kX p s m args meth c cX50_statement 5 RX50 none (dC, dI) cl (tX50 d))     :
    ∀ (x1 : Int32) (x3 : Int32) (x4 : Int32) (f_text : Nat → Int32) (f_size : Int32), wX50_statement_251 post x1.toInt x3.toInt x4.toInt (zG f_phrases) (zF f_text) f_size.toInt → ∀ (H : Heap) (locs : List Loc) (ls : Array Slot), kH (dC, dI) cl A s.heap H locs (wX50 ci ad d f_phrases f_axioms f_axiomCount f_triples f_tripleCount f_rules f_instances f_counts f_premises f_rows f_stated f_marks f_broken f_text f_size f_sizes f_places) → lv_has ls 5 [(0, .ref (ad 0)), (1, .int x1), (3, .int x3), (4, .int x4)] → W p l e ({ frames := 1, cells := 0, slots := 0, locals := 24 } : Room) s m args below meth c H locs 0 0 (MQ below (va_Qv (fun (u : (Nat → Int32) × Int32) => post (zF (u.1)) (u.2).toInt) (kB (dC, dI) cl (tX50 d) A (fun u : (Nat → Int32) × Int32 => (wX50 ci ad d f_phrases f_axioms f_axiomCount f_triples f_tripleCount f_rules f_instances f_counts f_premises f_rows f_stated f_marks f_broken (u.1) (u.2) f_sizes f_places))) A) args s 0 0 A) (F0 m 251 ls []) := by
  have hx := X.1.1
  have hb := X.1.2.1
  intro x1 x3 x4 f_text f_size hw H locs ls hH hl
  unfold wX50_statement_251 at hw
  refine lv_iload_n hx hb dX50_statement_251 rfl (lv_at hl 1 rfl) ?_
  refine lv_bipush (v := 6) hx hb dX50_statement_252 (by decide) ?_
  refine lv_icmp_eq (tgt := 269) hx hb dX50_statement_254 (by decide) (fun c_19 => ?_) (fun c_19 => ?_)
  · have hw := hw.1 (z_eq (rfl : x1.toInt = _) (rfl : (6 : Int32).toInt = 6) c_19)
    exact k_vret X hH (f_text, f_size) hw rfl dX50_statement_269
  · have hw := hw.2 (z_neq (rfl : x1.toInt = _) (rfl : (6 : Int32).toInt = 6) c_19)
    refine lv_iload_n hx hb dX50_statement_257 rfl (lv_at hl 1 rfl) ?_
    refine lv_bipush (v := 7) hx hb dX50_statement_258 (by decide) ?_
    refine lv_icmp_eq (tgt := 269) hx hb dX50_statement_260 (by decide) (fun c_20 => ?_) (fun c_20 => ?_)
    · have hw := hw.1 (z_eq (rfl : x1.toInt = _) (rfl : (7 : Int32).toInt = 7) c_20)
      exact k_vret X hH (f_text, f_size) hw rfl dX50_statement_269
    · have hw := hw.2 (z_neq (rfl : x1.toInt = _) (rfl : (7 : Int32).toInt = 7) c_20)
      refine lv_iload_n hx hb dX50_statement_263 rfl (lv_at hl 1 rfl) ?_
      refine lv_bipush (v := 9) hx hb dX50_statement_264 (by decide) ?_
      refine lv_icmp_ne (tgt := 270) hx hb dX50_statement_266 (by decide) (fun c_21 => ?_) (fun c_21 => ?_)
      · have hw := hw.2 (z_ne (rfl : x1.toInt = _) (rfl : (9 : Int32).toInt = 9) c_21)
        refine lv_aload_n hx hb dX50_statement_270 rfl (lv_at hl 0 rfl) ?_
        refine lv_iload_n hx hb dX50_statement_271 rfl (lv_at hl 1 rfl) ?_
        refine lv_bipush (v := 11) hx hb dX50_statement_272 (by decide) ?_
        refine lv_icmp_ne (tgt := 282) hx hb dX50_statement_274 (by decide) (fun c_22 => ?_) (fun c_22 => ?_)
        · have hw := hw.2 (z_ne (rfl : x1.toInt = _) (rfl : (11 : Int32).toInt = 11) c_22)
          refine lv_iload_n hx hb dX50_statement_282 rfl (lv_at hl 2 rfl) ?_
          exact atX50_statement_283 hc X x1 x3 f_text f_size hw _ _ ls hH (lv_sub hl [0, 1] rfl)
        · have hw := hw.1 (z_eq (rfl : x1.toInt = _) (rfl : (11 : Int32).toInt = 11) c_22)
          refine lv_iload hx hb dX50_statement_277 (lv_at hl 3 rfl) ?_
          refine lv_goto (tgt := 283) hx hb dX50_statement_279 (by decide) ?_
          exact atX50_statement_283 hc X x1 x4 f_text f_size hw _ _ ls hH (lv_sub hl [0, 1] rfl)
      · have hw := hw.1 (z_eq (rfl : x1.toInt = _) (rfl : (9 : Int32).toInt = 9) c_21)
        exact k_vret X hH (f_text, f_size) hw rfl dX50_statement_269
set_option maxHeartbeats 4000000 in
theorem atX50_statement_58 {p : Program} {l : Launch} {e : Env} {s : State} {m : MethodId} {args : Array Value} {below : List Frame} {meth : Method} {c : Code} {dC : Nat → ClassId} {dI : Nat → Nat → Nat} {cl : List vw_C} {ci : Nat} (hc : cl[ci]? = some (RX50, TX50, 17)) {ad : Nat → Nat} {d : Nat → ClassId} {A : Nat → Prop} {post : (Int → Int) → Int → Prop} {f_phrases : Nat → Int64} {f_axioms : Nat → Int32} {f_axiomCount : Int32} {f_triples : Nat → Int32} {f_tripleCount : Int32} {f_rules : Nat → Int32} {f_instances : Nat → Int32} {f_counts : Nat → Int32} {f_premises : Nat → Int32} {f_rows : Int32} {f_stated : Nat → Int32} {f_marks : Nat → Int32} {f_broken : Int32} {f_sizes : Nat → Int32} {f_places : Nat → Int32} (X : kX p s m args meth c cX50_statement 5 RX50 none (dC, dI) cl (tX50 d))     :
    ∀ (x1 : Int32) (x2 : Int32) (x3 : Int32) (x4 : Int32) (f_text : Nat → Int32) (f_size : Int32), wX50_statement_58 post x1.toInt x2.toInt x3.toInt x4.toInt (zG f_phrases) (zF f_text) f_size.toInt → ∀ (H : Heap) (locs : List Loc) (ls : Array Slot), kH (dC, dI) cl A s.heap H locs (wX50 ci ad d f_phrases f_axioms f_axiomCount f_triples f_tripleCount f_rules f_instances f_counts f_premises f_rows f_stated f_marks f_broken f_text f_size f_sizes f_places) → lv_has ls 5 [(0, .ref (ad 0)), (1, .int x1), (2, .int x2), (3, .int x3), (4, .int x4)] → W p l e ({ frames := 1, cells := 0, slots := 0, locals := 24 } : Room) s m args below meth c H locs 0 0 (MQ below (va_Qv (fun (u : (Nat → Int32) × Int32) => post (zF (u.1)) (u.2).toInt) (kB (dC, dI) cl (tX50 d) A (fun u : (Nat → Int32) × Int32 => (wX50 ci ad d f_phrases f_axioms f_axiomCount f_triples f_tripleCount f_rules f_instances f_counts f_premises f_rows f_stated f_marks f_broken (u.1) (u.2) f_sizes f_places))) A) args s 0 0 A) (F0 m 58 ls []) := by
  have hx := X.1.1
  have hb := X.1.2.1
  intro x1 x2 x3 x4 f_text f_size hw H locs ls hH hl
  unfold wX50_statement_58 at hw
  refine lv_aload_n hx hb dX50_statement_58 rfl (lv_at hl 0 rfl) ?_
  refine lv_iload_n hx hb dX50_statement_59 rfl (lv_at hl 2 rfl) ?_
  refine k_v0 hH (k_runV (As := [.int x2]) (rest := []) X hH.1 hH.2.1 X.2.2.2 (walkX50_number hc (x1 := x2) (f_phrases := f_phrases) (f_axioms := f_axioms) (f_axiomCount := f_axiomCount) (f_triples := f_triples) (f_tripleCount := f_tripleCount) (f_rules := f_rules) (f_instances := f_instances) (f_counts := f_counts) (f_premises := f_premises) (f_rows := f_rows) (f_stated := f_stated) (f_marks := f_marks) (f_broken := f_broken) (f_text := f_text) (f_size := f_size) (f_sizes := f_sizes) (f_places := f_places) hw) (cwV 1 X.1.2.2.2.2 gX50_235 rfl rfl rfl hX50_number ⟨Nat.le_of_ble_eq_true rfl, Nat.le_of_ble_eq_true rfl⟩) hc (q0 := 0) rfl rfl hl.1 rfl (Nat.le_of_ble_eq_true rfl) dX50_statement_60 ⟨Nat.le_refl 0, Nat.le_refl 0⟩) (fun u H locs hw hH => ?_)
  obtain ⟨f_text_14, f_size_15⟩ := u
  have hH : kH (dC, dI) cl A s.heap H locs (wX50 ci ad d f_phrases f_axioms f_axiomCount f_triples f_tripleCount f_rules f_instances f_counts f_premises f_rows f_stated f_marks f_broken f_text_14 f_size_15 f_sizes f_places) := hH
  refine lv_iload_n hx hb dX50_statement_63 rfl (lv_at hl 1 rfl) ?_
  by_cases c_16 : x1 = 1
  · have hw := hw.1 (z_eq (rfl : x1.toInt = _) (rfl : (1 : Int32).toInt = 1) c_16)
    refine lv_tableIn (off := 56) (tgt := 120) hx hb dX50_statement_64 (by rw [c_16]; decide) (by rw [c_16]; decide) (by rw [c_16]; rfl) (by decide) ?_
    refine lv_aload_n hx hb dX50_statement_120 rfl (lv_at hl 0 rfl) ?_
    refine lv_bipush (v := 22) hx hb dX50_statement_121 (by decide) ?_
    refine k_v0 hH (k_runV (As := [.int 22]) (rest := []) X hH.1 hH.2.1 X.2.2.2 (walkX50_put hc (x1 := 22) (f_phrases := f_phrases) (f_axioms := f_axioms) (f_axiomCount := f_axiomCount) (f_triples := f_triples) (f_tripleCount := f_tripleCount) (f_rules := f_rules) (f_instances := f_instances) (f_counts := f_counts) (f_premises := f_premises) (f_rows := f_rows) (f_stated := f_stated) (f_marks := f_marks) (f_broken := f_broken) (f_text := f_text_14) (f_size := f_size_15) (f_sizes := f_sizes) (f_places := f_places) hw) (cwV 1 X.1.2.2.2.2 gX50_232 rfl rfl rfl hX50_put ⟨Nat.le_of_ble_eq_true rfl, Nat.le_of_ble_eq_true rfl⟩) hc (q0 := 0) rfl rfl hl.1 rfl (Nat.le_of_ble_eq_true rfl) dX50_statement_123 ⟨Nat.le_refl 0, Nat.le_refl 0⟩) (fun u H locs hw hH => ?_)
    obtain ⟨f_text_17, f_size_18⟩ := u
    have hH : kH (dC, dI) cl A s.heap H locs (wX50 ci ad d f_phrases f_axioms f_axiomCount f_triples f_tripleCount f_rules f_instances f_counts f_premises f_rows f_stated f_marks f_broken f_text_17 f_size_18 f_sizes f_places) := hH
    refine lv_goto (tgt := 251) hx hb dX50_statement_126 (by decide) ?_
    exact atX50_statement_251 hc X x1 x3 x4 f_text_17 f_size_18 hw _ _ ls hH (lv_sub hl [0, 1, 3, 4] rfl)
  · have hw := hw.2 (z_ne (rfl : x1.toInt = _) (rfl : (1 : Int32).toInt = 1) c_16)
    by_cases c_34 : x1 = 2
    · have hw := hw.1 (z_eq (rfl : x1.toInt = _) (rfl : (2 : Int32).toInt = 2) c_34)
      refine lv_tableIn (off := 65) (tgt := 129) hx hb dX50_statement_64 (by rw [c_34]; decide) (by rw [c_34]; decide) (by rw [c_34]; rfl) (by decide) ?_
      refine lv_aload_n hx hb dX50_statement_129 rfl (lv_at hl 0 rfl) ?_
      refine lv_bipush (v := 23) hx hb dX50_statement_130 (by decide) ?_
      refine k_v0 hH (k_runV (As := [.int 23]) (rest := []) X hH.1 hH.2.1 X.2.2.2 (walkX50_put hc (x1 := 23) (f_phrases := f_phrases) (f_axioms := f_axioms) (f_axiomCount := f_axiomCount) (f_triples := f_triples) (f_tripleCount := f_tripleCount) (f_rules := f_rules) (f_instances := f_instances) (f_counts := f_counts) (f_premises := f_premises) (f_rows := f_rows) (f_stated := f_stated) (f_marks := f_marks) (f_broken := f_broken) (f_text := f_text_14) (f_size := f_size_15) (f_sizes := f_sizes) (f_places := f_places) hw) (cwV 1 X.1.2.2.2.2 gX50_232 rfl rfl rfl hX50_put ⟨Nat.le_of_ble_eq_true rfl, Nat.le_of_ble_eq_true rfl⟩) hc (q0 := 0) rfl rfl hl.1 rfl (Nat.le_of_ble_eq_true rfl) dX50_statement_132 ⟨Nat.le_refl 0, Nat.le_refl 0⟩) (fun u H locs hw hH => ?_)
      obtain ⟨f_text_35, f_size_36⟩ := u
      have hH : kH (dC, dI) cl A s.heap H locs (wX50 ci ad d f_phrases f_axioms f_axiomCount f_triples f_tripleCount f_rules f_instances f_counts f_premises f_rows f_stated f_marks f_broken f_text_35 f_size_36 f_sizes f_places) := hH
      refine lv_goto (tgt := 251) hx hb dX50_statement_135 (by decide) ?_
      exact atX50_statement_251 hc X x1 x3 x4 f_text_35 f_size_36 hw _ _ ls hH (lv_sub hl [0, 1, 3, 4] rfl)
    · have hw := hw.2 (z_ne (rfl : x1.toInt = _) (rfl : (2 : Int32).toInt = 2) c_34)
      by_cases c_37 : x1 = 3
      · have hw := hw.1 (z_eq (rfl : x1.toInt = _) (rfl : (3 : Int32).toInt = 3) c_37)
        refine lv_tableIn (off := 74) (tgt := 138) hx hb dX50_statement_64 (by rw [c_37]; decide) (by rw [c_37]; decide) (by rw [c_37]; rfl) (by decide) ?_
        refine lv_aload_n hx hb dX50_statement_138 rfl (lv_at hl 0 rfl) ?_
        refine lv_bipush (v := 24) hx hb dX50_statement_139 (by decide) ?_
        refine k_v0 hH (k_runV (As := [.int 24]) (rest := []) X hH.1 hH.2.1 X.2.2.2 (walkX50_put hc (x1 := 24) (f_phrases := f_phrases) (f_axioms := f_axioms) (f_axiomCount := f_axiomCount) (f_triples := f_triples) (f_tripleCount := f_tripleCount) (f_rules := f_rules) (f_instances := f_instances) (f_counts := f_counts) (f_premises := f_premises) (f_rows := f_rows) (f_stated := f_stated) (f_marks := f_marks) (f_broken := f_broken) (f_text := f_text_14) (f_size := f_size_15) (f_sizes := f_sizes) (f_places := f_places) hw) (cwV 1 X.1.2.2.2.2 gX50_232 rfl rfl rfl hX50_put ⟨Nat.le_of_ble_eq_true rfl, Nat.le_of_ble_eq_true rfl⟩) hc (q0 := 0) rfl rfl hl.1 rfl (Nat.le_of_ble_eq_true rfl) dX50_statement_141 ⟨Nat.le_refl 0, Nat.le_refl 0⟩) (fun u H locs hw hH => ?_)
        obtain ⟨f_text_38, f_size_39⟩ := u
        have hH : kH (dC, dI) cl A s.heap H locs (wX50 ci ad d f_phrases f_axioms f_axiomCount f_triples f_tripleCount f_rules f_instances f_counts f_premises f_rows f_stated f_marks f_broken f_text_38 f_size_39 f_sizes f_places) := hH
        refine lv_goto (tgt := 251) hx hb dX50_statement_144 (by decide) ?_
        exact atX50_statement_251 hc X x1 x3 x4 f_text_38 f_size_39 hw _ _ ls hH (lv_sub hl [0, 1, 3, 4] rfl)
      · have hw := hw.2 (z_ne (rfl : x1.toInt = _) (rfl : (3 : Int32).toInt = 3) c_37)
        by_cases c_40 : x1 = 4
        · have hw := hw.1 (z_eq (rfl : x1.toInt = _) (rfl : (4 : Int32).toInt = 4) c_40)
          refine lv_tableIn (off := 83) (tgt := 147) hx hb dX50_statement_64 (by rw [c_40]; decide) (by rw [c_40]; decide) (by rw [c_40]; rfl) (by decide) ?_
          refine lv_aload_n hx hb dX50_statement_147 rfl (lv_at hl 0 rfl) ?_
          refine lv_bipush (v := 25) hx hb dX50_statement_148 (by decide) ?_
          refine k_v0 hH (k_runV (As := [.int 25]) (rest := []) X hH.1 hH.2.1 X.2.2.2 (walkX50_put hc (x1 := 25) (f_phrases := f_phrases) (f_axioms := f_axioms) (f_axiomCount := f_axiomCount) (f_triples := f_triples) (f_tripleCount := f_tripleCount) (f_rules := f_rules) (f_instances := f_instances) (f_counts := f_counts) (f_premises := f_premises) (f_rows := f_rows) (f_stated := f_stated) (f_marks := f_marks) (f_broken := f_broken) (f_text := f_text_14) (f_size := f_size_15) (f_sizes := f_sizes) (f_places := f_places) hw) (cwV 1 X.1.2.2.2.2 gX50_232 rfl rfl rfl hX50_put ⟨Nat.le_of_ble_eq_true rfl, Nat.le_of_ble_eq_true rfl⟩) hc (q0 := 0) rfl rfl hl.1 rfl (Nat.le_of_ble_eq_true rfl) dX50_statement_150 ⟨Nat.le_refl 0, Nat.le_refl 0⟩) (fun u H locs hw hH => ?_)
          obtain ⟨f_text_41, f_size_42⟩ := u
          have hH : kH (dC, dI) cl A s.heap H locs (wX50 ci ad d f_phrases f_axioms f_axiomCount f_triples f_tripleCount f_rules f_instances f_counts f_premises f_rows f_stated f_marks f_broken f_text_41 f_size_42 f_sizes f_places) := hH
          refine lv_goto (tgt := 251) hx hb dX50_statement_153 (by decide) ?_
          exact atX50_statement_251 hc X x1 x3 x4 f_text_41 f_size_42 hw _ _ ls hH (lv_sub hl [0, 1, 3, 4] rfl)
        · have hw := hw.2 (z_ne (rfl : x1.toInt = _) (rfl : (4 : Int32).toInt = 4) c_40)
          by_cases c_43 : x1 = 5
          · have hw := hw.1 (z_eq (rfl : x1.toInt = _) (rfl : (5 : Int32).toInt = 5) c_43)
            refine lv_tableIn (off := 92) (tgt := 156) hx hb dX50_statement_64 (by rw [c_43]; decide) (by rw [c_43]; decide) (by rw [c_43]; rfl) (by decide) ?_
            refine lv_aload_n hx hb dX50_statement_156 rfl (lv_at hl 0 rfl) ?_
            refine lv_bipush (v := 26) hx hb dX50_statement_157 (by decide) ?_
            refine k_v0 hH (k_runV (As := [.int 26]) (rest := []) X hH.1 hH.2.1 X.2.2.2 (walkX50_put hc (x1 := 26) (f_phrases := f_phrases) (f_axioms := f_axioms) (f_axiomCount := f_axiomCount) (f_triples := f_triples) (f_tripleCount := f_tripleCount) (f_rules := f_rules) (f_instances := f_instances) (f_counts := f_counts) (f_premises := f_premises) (f_rows := f_rows) (f_stated := f_stated) (f_marks := f_marks) (f_broken := f_broken) (f_text := f_text_14) (f_size := f_size_15) (f_sizes := f_sizes) (f_places := f_places) hw) (cwV 1 X.1.2.2.2.2 gX50_232 rfl rfl rfl hX50_put ⟨Nat.le_of_ble_eq_true rfl, Nat.le_of_ble_eq_true rfl⟩) hc (q0 := 0) rfl rfl hl.1 rfl (Nat.le_of_ble_eq_true rfl) dX50_statement_159 ⟨Nat.le_refl 0, Nat.le_refl 0⟩) (fun u H locs hw hH => ?_)
            obtain ⟨f_text_44, f_size_45⟩ := u
            have hH : kH (dC, dI) cl A s.heap H locs (wX50 ci ad d f_phrases f_axioms f_axiomCount f_triples f_tripleCount f_rules f_instances f_counts f_premises f_rows f_stated f_marks f_broken f_text_44 f_size_45 f_sizes f_places) := hH
            refine lv_goto (tgt := 251) hx hb dX50_statement_162 (by decide) ?_
            exact atX50_statement_251 hc X x1 x3 x4 f_text_44 f_size_45 hw _ _ ls hH (lv_sub hl [0, 1, 3, 4] rfl)
          · have hw := hw.2 (z_ne (rfl : x1.toInt = _) (rfl : (5 : Int32).toInt = 5) c_43)
            by_cases c_46 : x1 = 6
            · have hw := hw.1 (z_eq (rfl : x1.toInt = _) (rfl : (6 : Int32).toInt = 6) c_46)
              refine lv_tableIn (off := 101) (tgt := 165) hx hb dX50_statement_64 (by rw [c_46]; decide) (by rw [c_46]; decide) (by rw [c_46]; rfl) (by decide) ?_
              refine lv_aload_n hx hb dX50_statement_165 rfl (lv_at hl 0 rfl) ?_
              refine lv_bipush (v := 27) hx hb dX50_statement_166 (by decide) ?_
              refine k_v0 hH (k_runV (As := [.int 27]) (rest := []) X hH.1 hH.2.1 X.2.2.2 (walkX50_put hc (x1 := 27) (f_phrases := f_phrases) (f_axioms := f_axioms) (f_axiomCount := f_axiomCount) (f_triples := f_triples) (f_tripleCount := f_tripleCount) (f_rules := f_rules) (f_instances := f_instances) (f_counts := f_counts) (f_premises := f_premises) (f_rows := f_rows) (f_stated := f_stated) (f_marks := f_marks) (f_broken := f_broken) (f_text := f_text_14) (f_size := f_size_15) (f_sizes := f_sizes) (f_places := f_places) hw) (cwV 1 X.1.2.2.2.2 gX50_232 rfl rfl rfl hX50_put ⟨Nat.le_of_ble_eq_true rfl, Nat.le_of_ble_eq_true rfl⟩) hc (q0 := 0) rfl rfl hl.1 rfl (Nat.le_of_ble_eq_true rfl) dX50_statement_168 ⟨Nat.le_refl 0, Nat.le_refl 0⟩) (fun u H locs hw hH => ?_)
              obtain ⟨f_text_47, f_size_48⟩ := u
              have hH : kH (dC, dI) cl A s.heap H locs (wX50 ci ad d f_phrases f_axioms f_axiomCount f_triples f_tripleCount f_rules f_instances f_counts f_premises f_rows f_stated f_marks f_broken f_text_47 f_size_48 f_sizes f_places) := hH
              refine lv_goto (tgt := 251) hx hb dX50_statement_171 (by decide) ?_
              exact atX50_statement_251 hc X x1 x3 x4 f_text_47 f_size_48 hw _ _ ls hH (lv_sub hl [0, 1, 3, 4] rfl)
            · have hw := hw.2 (z_ne (rfl : x1.toInt = _) (rfl : (6 : Int32).toInt = 6) c_46)
              by_cases c_49 : x1 = 7
              · have hw := hw.1 (z_eq (rfl : x1.toInt = _) (rfl : (7 : Int32).toInt = 7) c_49)
                refine lv_tableIn (off := 110) (tgt := 174) hx hb dX50_statement_64 (by rw [c_49]; decide) (by rw [c_49]; decide) (by rw [c_49]; rfl) (by decide) ?_
                refine lv_aload_n hx hb dX50_statement_174 rfl (lv_at hl 0 rfl) ?_
                refine lv_bipush (v := 28) hx hb dX50_statement_175 (by decide) ?_
                refine k_v0 hH (k_runV (As := [.int 28]) (rest := []) X hH.1 hH.2.1 X.2.2.2 (walkX50_put hc (x1 := 28) (f_phrases := f_phrases) (f_axioms := f_axioms) (f_axiomCount := f_axiomCount) (f_triples := f_triples) (f_tripleCount := f_tripleCount) (f_rules := f_rules) (f_instances := f_instances) (f_counts := f_counts) (f_premises := f_premises) (f_rows := f_rows) (f_stated := f_stated) (f_marks := f_marks) (f_broken := f_broken) (f_text := f_text_14) (f_size := f_size_15) (f_sizes := f_sizes) (f_places := f_places) hw) (cwV 1 X.1.2.2.2.2 gX50_232 rfl rfl rfl hX50_put ⟨Nat.le_of_ble_eq_true rfl, Nat.le_of_ble_eq_true rfl⟩) hc (q0 := 0) rfl rfl hl.1 rfl (Nat.le_of_ble_eq_true rfl) dX50_statement_177 ⟨Nat.le_refl 0, Nat.le_refl 0⟩) (fun u H locs hw hH => ?_)
                obtain ⟨f_text_50, f_size_51⟩ := u
                have hH : kH (dC, dI) cl A s.heap H locs (wX50 ci ad d f_phrases f_axioms f_axiomCount f_triples f_tripleCount f_rules f_instances f_counts f_premises f_rows f_stated f_marks f_broken f_text_50 f_size_51 f_sizes f_places) := hH
                refine lv_goto (tgt := 251) hx hb dX50_statement_180 (by decide) ?_
                exact atX50_statement_251 hc X x1 x3 x4 f_text_50 f_size_51 hw _ _ ls hH (lv_sub hl [0, 1, 3, 4] rfl)
              · have hw := hw.2 (z_ne (rfl : x1.toInt = _) (rfl : (7 : Int32).toInt = 7) c_49)
                by_cases c_52 : x1 = 8
                · have hw := hw.1 (z_eq (rfl : x1.toInt = _) (rfl : (8 : Int32).toInt = 8) c_52)
                  refine lv_tableIn (off := 119) (tgt := 183) hx hb dX50_statement_64 (by rw [c_52]; decide) (by rw [c_52]; decide) (by rw [c_52]; rfl) (by decide) ?_
                  refine lv_aload_n hx hb dX50_statement_183 rfl (lv_at hl 0 rfl) ?_
                  refine lv_bipush (v := 29) hx hb dX50_statement_184 (by decide) ?_
                  refine k_v0 hH (k_runV (As := [.int 29]) (rest := []) X hH.1 hH.2.1 X.2.2.2 (walkX50_put hc (x1 := 29) (f_phrases := f_phrases) (f_axioms := f_axioms) (f_axiomCount := f_axiomCount) (f_triples := f_triples) (f_tripleCount := f_tripleCount) (f_rules := f_rules) (f_instances := f_instances) (f_counts := f_counts) (f_premises := f_premises) (f_rows := f_rows) (f_stated := f_stated) (f_marks := f_marks) (f_broken := f_broken) (f_text := f_text_14) (f_size := f_size_15) (f_sizes := f_sizes) (f_places := f_places) hw) (cwV 1 X.1.2.2.2.2 gX50_232 rfl rfl rfl hX50_put ⟨Nat.le_of_ble_eq_true rfl, Nat.le_of_ble_eq_true rfl⟩) hc (q0 := 0) rfl rfl hl.1 rfl (Nat.le_of_ble_eq_true rfl) dX50_statement_186 ⟨Nat.le_refl 0, Nat.le_refl 0⟩) (fun u H locs hw hH => ?_)
                  obtain ⟨f_text_53, f_size_54⟩ := u
                  have hH : kH (dC, dI) cl A s.heap H locs (wX50 ci ad d f_phrases f_axioms f_axiomCount f_triples f_tripleCount f_rules f_instances f_counts f_premises f_rows f_stated f_marks f_broken f_text_53 f_size_54 f_sizes f_places) := hH
                  refine lv_goto (tgt := 251) hx hb dX50_statement_189 (by decide) ?_
                  exact atX50_statement_251 hc X x1 x3 x4 f_text_53 f_size_54 hw _ _ ls hH (lv_sub hl [0, 1, 3, 4] rfl)
                · have hw := hw.2 (z_ne (rfl : x1.toInt = _) (rfl : (8 : Int32).toInt = 8) c_52)
                  by_cases c_55 : x1 = 9
                  · have hw := hw.1 (z_eq (rfl : x1.toInt = _) (rfl : (9 : Int32).toInt = 9) c_55)
                    refine lv_tableIn (off := 128) (tgt := 192) hx hb dX50_statement_64 (by rw [c_55]; decide) (by rw [c_55]; decide) (by rw [c_55]; rfl) (by decide) ?_
                    refine lv_aload_n hx hb dX50_statement_192 rfl (lv_at hl 0 rfl) ?_
                    refine lv_bipush (v := 30) hx hb dX50_statement_193 (by decide) ?_
                    refine k_v0 hH (k_runV (As := [.int 30]) (rest := []) X hH.1 hH.2.1 X.2.2.2 (walkX50_put hc (x1 := 30) (f_phrases := f_phrases) (f_axioms := f_axioms) (f_axiomCount := f_axiomCount) (f_triples := f_triples) (f_tripleCount := f_tripleCount) (f_rules := f_rules) (f_instances := f_instances) (f_counts := f_counts) (f_premises := f_premises) (f_rows := f_rows) (f_stated := f_stated) (f_marks := f_marks) (f_broken := f_broken) (f_text := f_text_14) (f_size := f_size_15) (f_sizes := f_sizes) (f_places := f_places) hw) (cwV 1 X.1.2.2.2.2 gX50_232 rfl rfl rfl hX50_put ⟨Nat.le_of_ble_eq_true rfl, Nat.le_of_ble_eq_true rfl⟩) hc (q0 := 0) rfl rfl hl.1 rfl (Nat.le_of_ble_eq_true rfl) dX50_statement_195 ⟨Nat.le_refl 0, Nat.le_refl 0⟩) (fun u H locs hw hH => ?_)
                    obtain ⟨f_text_56, f_size_57⟩ := u
                    have hH : kH (dC, dI) cl A s.heap H locs (wX50 ci ad d f_phrases f_axioms f_axiomCount f_triples f_tripleCount f_rules f_instances f_counts f_premises f_rows f_stated f_marks f_broken f_text_56 f_size_57 f_sizes f_places) := hH
                    refine lv_goto (tgt := 251) hx hb dX50_statement_198 (by decide) ?_
                    exact atX50_statement_251 hc X x1 x3 x4 f_text_56 f_size_57 hw _ _ ls hH (lv_sub hl [0, 1, 3, 4] rfl)
                  · have hw := hw.2 (z_ne (rfl : x1.toInt = _) (rfl : (9 : Int32).toInt = 9) c_55)
                    by_cases c_58 : x1 = 10
                    · have hw := hw.1 (z_eq (rfl : x1.toInt = _) (rfl : (10 : Int32).toInt = 10) c_58)
                      refine lv_tableIn (off := 137) (tgt := 201) hx hb dX50_statement_64 (by rw [c_58]; decide) (by rw [c_58]; decide) (by rw [c_58]; rfl) (by decide) ?_
                      refine lv_aload_n hx hb dX50_statement_201 rfl (lv_at hl 0 rfl) ?_
                      refine lv_bipush (v := 31) hx hb dX50_statement_202 (by decide) ?_
                      refine k_v0 hH (k_runV (As := [.int 31]) (rest := []) X hH.1 hH.2.1 X.2.2.2 (walkX50_put hc (x1 := 31) (f_phrases := f_phrases) (f_axioms := f_axioms) (f_axiomCount := f_axiomCount) (f_triples := f_triples) (f_tripleCount := f_tripleCount) (f_rules := f_rules) (f_instances := f_instances) (f_counts := f_counts) (f_premises := f_premises) (f_rows := f_rows) (f_stated := f_stated) (f_marks := f_marks) (f_broken := f_broken) (f_text := f_text_14) (f_size := f_size_15) (f_sizes := f_sizes) (f_places := f_places) hw) (cwV 1 X.1.2.2.2.2 gX50_232 rfl rfl rfl hX50_put ⟨Nat.le_of_ble_eq_true rfl, Nat.le_of_ble_eq_true rfl⟩) hc (q0 := 0) rfl rfl hl.1 rfl (Nat.le_of_ble_eq_true rfl) dX50_statement_204 ⟨Nat.le_refl 0, Nat.le_refl 0⟩) (fun u H locs hw hH => ?_)
                      obtain ⟨f_text_59, f_size_60⟩ := u
                      have hH : kH (dC, dI) cl A s.heap H locs (wX50 ci ad d f_phrases f_axioms f_axiomCount f_triples f_tripleCount f_rules f_instances f_counts f_premises f_rows f_stated f_marks f_broken f_text_59 f_size_60 f_sizes f_places) := hH
                      refine lv_goto (tgt := 251) hx hb dX50_statement_207 (by decide) ?_
                      exact atX50_statement_251 hc X x1 x3 x4 f_text_59 f_size_60 hw _ _ ls hH (lv_sub hl [0, 1, 3, 4] rfl)
                    · have hw := hw.2 (z_ne (rfl : x1.toInt = _) (rfl : (10 : Int32).toInt = 10) c_58)
                      refine lv_tableOut (tgt := 210) hx hb dX50_statement_64 (by have qc_16 := k_ne c_16 (k := 1) rfl; have qc_34 := k_ne c_34 (k := 2) rfl; have qc_37 := k_ne c_37 (k := 3) rfl; have qc_40 := k_ne c_40 (k := 4) rfl; have qc_43 := k_ne c_43 (k := 5) rfl; have qc_46 := k_ne c_46 (k := 6) rfl; have qc_49 := k_ne c_49 (k := 7) rfl; have qc_52 := k_ne c_52 (k := 8) rfl; have qc_55 := k_ne c_55 (k := 9) rfl; have qc_58 := k_ne c_58 (k := 10) rfl; omega) (by decide) ?_
                      refine lv_aload_n hx hb dX50_statement_210 rfl (lv_at hl 0 rfl) ?_
                      refine lv_iload_n hx hb dX50_statement_211 rfl (lv_at hl 3 rfl) ?_
                      refine lv_if_ne (tgt := 220) hx hb dX50_statement_212 (by decide) (fun c_61 => ?_) (fun c_61 => ?_)
                      · have hw := hw.2 (z_ne (rfl : x3.toInt = _) (rfl : (0 : Int32).toInt = 0) c_61)
                        refine lv_iload_n hx hb dX50_statement_220 rfl (lv_at hl 3 rfl) ?_
                        refine lv_iconst (v := 1) hx hb dX50_statement_221 (by decide) ?_
                        refine lv_icmp_ne (tgt := 230) hx hb dX50_statement_222 (by decide) (fun c_62 => ?_) (fun c_62 => ?_)
                        · have hw := hw.2 (z_ne (rfl : x3.toInt = _) (rfl : (1 : Int32).toInt = 1) c_62)
                          refine lv_bipush (v := 33) hx hb dX50_statement_230 (by decide) ?_
                          refine k_v0 hH (k_runV (As := [.int 33]) (rest := []) X hH.1 hH.2.1 X.2.2.2 (walkX50_put hc (x1 := 33) (f_phrases := f_phrases) (f_axioms := f_axioms) (f_axiomCount := f_axiomCount) (f_triples := f_triples) (f_tripleCount := f_tripleCount) (f_rules := f_rules) (f_instances := f_instances) (f_counts := f_counts) (f_premises := f_premises) (f_rows := f_rows) (f_stated := f_stated) (f_marks := f_marks) (f_broken := f_broken) (f_text := f_text_14) (f_size := f_size_15) (f_sizes := f_sizes) (f_places := f_places) hw) (cwV 1 X.1.2.2.2.2 gX50_232 rfl rfl rfl hX50_put ⟨Nat.le_of_ble_eq_true rfl, Nat.le_of_ble_eq_true rfl⟩) hc (q0 := 0) rfl rfl hl.1 rfl (Nat.le_of_ble_eq_true rfl) dX50_statement_232 ⟨Nat.le_refl 0, Nat.le_refl 0⟩) (fun u H locs hw hH => ?_)
                          obtain ⟨f_text_63, f_size_64⟩ := u
                          have hH : kH (dC, dI) cl A s.heap H locs (wX50 ci ad d f_phrases f_axioms f_axiomCount f_triples f_tripleCount f_rules f_instances f_counts f_premises f_rows f_stated f_marks f_broken f_text_63 f_size_64 f_sizes f_places) := hH
                          refine lv_iload_n hx hb dX50_statement_235 rfl (lv_at hl 3 rfl) ?_
                          refine lv_iconst (v := 1) hx hb dX50_statement_236 (by decide) ?_
                          refine lv_icmp_le (tgt := 251) hx hb dX50_statement_237 (by decide) (fun c_65 => ?_) (fun c_65 => ?_)
                          · have hw := hw.1 (z_le (rfl : x3.toInt = _) (rfl : (1 : Int32).toInt = 1) c_65)
                            exact atX50_statement_251 hc X x1 x3 x4 f_text_63 f_size_64 hw _ _ ls hH (lv_sub hl [0, 1, 3, 4] rfl)
                          · have hw := hw.2 (z_nle (rfl : x3.toInt = _) (rfl : (1 : Int32).toInt = 1) c_65)
                            refine lv_aload_n hx hb dX50_statement_240 rfl (lv_at hl 0 rfl) ?_
                            refine lv_iload_n hx hb dX50_statement_241 rfl (lv_at hl 3 rfl) ?_
                            refine k_v0 hH (k_runV (As := [.int x3]) (rest := []) X hH.1 hH.2.1 X.2.2.2 (walkX50_number hc (x1 := x3) (f_phrases := f_phrases) (f_axioms := f_axioms) (f_axiomCount := f_axiomCount) (f_triples := f_triples) (f_tripleCount := f_tripleCount) (f_rules := f_rules) (f_instances := f_instances) (f_counts := f_counts) (f_premises := f_premises) (f_rows := f_rows) (f_stated := f_stated) (f_marks := f_marks) (f_broken := f_broken) (f_text := f_text_63) (f_size := f_size_64) (f_sizes := f_sizes) (f_places := f_places) hw) (cwV 1 X.1.2.2.2.2 gX50_235 rfl rfl rfl hX50_number ⟨Nat.le_of_ble_eq_true rfl, Nat.le_of_ble_eq_true rfl⟩) hc (q0 := 0) rfl rfl hl.1 rfl (Nat.le_of_ble_eq_true rfl) dX50_statement_242 ⟨Nat.le_refl 0, Nat.le_refl 0⟩) (fun u H locs hw hH => ?_)
                            obtain ⟨f_text_66, f_size_67⟩ := u
                            have hH : kH (dC, dI) cl A s.heap H locs (wX50 ci ad d f_phrases f_axioms f_axiomCount f_triples f_tripleCount f_rules f_instances f_counts f_premises f_rows f_stated f_marks f_broken f_text_66 f_size_67 f_sizes f_places) := hH
                            refine lv_aload_n hx hb dX50_statement_245 rfl (lv_at hl 0 rfl) ?_
                            refine lv_bipush (v := 33) hx hb dX50_statement_246 (by decide) ?_
                            refine k_v0 hH (k_runV (As := [.int 33]) (rest := []) X hH.1 hH.2.1 X.2.2.2 (walkX50_put hc (x1 := 33) (f_phrases := f_phrases) (f_axioms := f_axioms) (f_axiomCount := f_axiomCount) (f_triples := f_triples) (f_tripleCount := f_tripleCount) (f_rules := f_rules) (f_instances := f_instances) (f_counts := f_counts) (f_premises := f_premises) (f_rows := f_rows) (f_stated := f_stated) (f_marks := f_marks) (f_broken := f_broken) (f_text := f_text_66) (f_size := f_size_67) (f_sizes := f_sizes) (f_places := f_places) hw) (cwV 1 X.1.2.2.2.2 gX50_232 rfl rfl rfl hX50_put ⟨Nat.le_of_ble_eq_true rfl, Nat.le_of_ble_eq_true rfl⟩) hc (q0 := 0) rfl rfl hl.1 rfl (Nat.le_of_ble_eq_true rfl) dX50_statement_248 ⟨Nat.le_refl 0, Nat.le_refl 0⟩) (fun u H locs hw hH => ?_)
                            obtain ⟨f_text_68, f_size_69⟩ := u
                            have hH : kH (dC, dI) cl A s.heap H locs (wX50 ci ad d f_phrases f_axioms f_axiomCount f_triples f_tripleCount f_rules f_instances f_counts f_premises f_rows f_stated f_marks f_broken f_text_68 f_size_69 f_sizes f_places) := hH
                            exact atX50_statement_251 hc X x1 x3 x4 f_text_68 f_size_69 hw _ _ ls hH (lv_sub hl [0, 1, 3, 4] rfl)
                        · have hw := hw.1 (z_eq (rfl : x3.toInt = _) (rfl : (1 : Int32).toInt = 1) c_62)
                          refine lv_bipush (v := 29) hx hb dX50_statement_225 (by decide) ?_
                          refine lv_goto (tgt := 232) hx hb dX50_statement_227 (by decide) ?_
                          refine k_v0 hH (k_runV (As := [.int 29]) (rest := []) X hH.1 hH.2.1 X.2.2.2 (walkX50_put hc (x1 := 29) (f_phrases := f_phrases) (f_axioms := f_axioms) (f_axiomCount := f_axiomCount) (f_triples := f_triples) (f_tripleCount := f_tripleCount) (f_rules := f_rules) (f_instances := f_instances) (f_counts := f_counts) (f_premises := f_premises) (f_rows := f_rows) (f_stated := f_stated) (f_marks := f_marks) (f_broken := f_broken) (f_text := f_text_14) (f_size := f_size_15) (f_sizes := f_sizes) (f_places := f_places) hw) (cwV 1 X.1.2.2.2.2 gX50_232 rfl rfl rfl hX50_put ⟨Nat.le_of_ble_eq_true rfl, Nat.le_of_ble_eq_true rfl⟩) hc (q0 := 0) rfl rfl hl.1 rfl (Nat.le_of_ble_eq_true rfl) dX50_statement_232 ⟨Nat.le_refl 0, Nat.le_refl 0⟩) (fun u H locs hw hH => ?_)
                          obtain ⟨f_text_70, f_size_71⟩ := u
                          have hH : kH (dC, dI) cl A s.heap H locs (wX50 ci ad d f_phrases f_axioms f_axiomCount f_triples f_tripleCount f_rules f_instances f_counts f_premises f_rows f_stated f_marks f_broken f_text_70 f_size_71 f_sizes f_places) := hH
                          refine lv_iload_n hx hb dX50_statement_235 rfl (lv_at hl 3 rfl) ?_
                          refine lv_iconst (v := 1) hx hb dX50_statement_236 (by decide) ?_
                          refine lv_icmp_le (tgt := 251) hx hb dX50_statement_237 (by decide) (fun c_72 => ?_) (fun c_72 => ?_)
                          · have hw := hw.1 (z_le (rfl : x3.toInt = _) (rfl : (1 : Int32).toInt = 1) c_72)
                            exact atX50_statement_251 hc X x1 x3 x4 f_text_70 f_size_71 hw _ _ ls hH (lv_sub hl [0, 1, 3, 4] rfl)
                          · have hw := hw.2 (z_nle (rfl : x3.toInt = _) (rfl : (1 : Int32).toInt = 1) c_72)
                            refine lv_aload_n hx hb dX50_statement_240 rfl (lv_at hl 0 rfl) ?_
                            refine lv_iload_n hx hb dX50_statement_241 rfl (lv_at hl 3 rfl) ?_
                            refine k_v0 hH (k_runV (As := [.int x3]) (rest := []) X hH.1 hH.2.1 X.2.2.2 (walkX50_number hc (x1 := x3) (f_phrases := f_phrases) (f_axioms := f_axioms) (f_axiomCount := f_axiomCount) (f_triples := f_triples) (f_tripleCount := f_tripleCount) (f_rules := f_rules) (f_instances := f_instances) (f_counts := f_counts) (f_premises := f_premises) (f_rows := f_rows) (f_stated := f_stated) (f_marks := f_marks) (f_broken := f_broken) (f_text := f_text_70) (f_size := f_size_71) (f_sizes := f_sizes) (f_places := f_places) hw) (cwV 1 X.1.2.2.2.2 gX50_235 rfl rfl rfl hX50_number ⟨Nat.le_of_ble_eq_true rfl, Nat.le_of_ble_eq_true rfl⟩) hc (q0 := 0) rfl rfl hl.1 rfl (Nat.le_of_ble_eq_true rfl) dX50_statement_242 ⟨Nat.le_refl 0, Nat.le_refl 0⟩) (fun u H locs hw hH => ?_)
                            obtain ⟨f_text_73, f_size_74⟩ := u
                            have hH : kH (dC, dI) cl A s.heap H locs (wX50 ci ad d f_phrases f_axioms f_axiomCount f_triples f_tripleCount f_rules f_instances f_counts f_premises f_rows f_stated f_marks f_broken f_text_73 f_size_74 f_sizes f_places) := hH
                            refine lv_aload_n hx hb dX50_statement_245 rfl (lv_at hl 0 rfl) ?_
                            refine lv_bipush (v := 33) hx hb dX50_statement_246 (by decide) ?_
                            refine k_v0 hH (k_runV (As := [.int 33]) (rest := []) X hH.1 hH.2.1 X.2.2.2 (walkX50_put hc (x1 := 33) (f_phrases := f_phrases) (f_axioms := f_axioms) (f_axiomCount := f_axiomCount) (f_triples := f_triples) (f_tripleCount := f_tripleCount) (f_rules := f_rules) (f_instances := f_instances) (f_counts := f_counts) (f_premises := f_premises) (f_rows := f_rows) (f_stated := f_stated) (f_marks := f_marks) (f_broken := f_broken) (f_text := f_text_73) (f_size := f_size_74) (f_sizes := f_sizes) (f_places := f_places) hw) (cwV 1 X.1.2.2.2.2 gX50_232 rfl rfl rfl hX50_put ⟨Nat.le_of_ble_eq_true rfl, Nat.le_of_ble_eq_true rfl⟩) hc (q0 := 0) rfl rfl hl.1 rfl (Nat.le_of_ble_eq_true rfl) dX50_statement_248 ⟨Nat.le_refl 0, Nat.le_refl 0⟩) (fun u H locs hw hH => ?_)
                            obtain ⟨f_text_75, f_size_76⟩ := u
                            have hH : kH (dC, dI) cl A s.heap H locs (wX50 ci ad d f_phrases f_axioms f_axiomCount f_triples f_tripleCount f_rules f_instances f_counts f_premises f_rows f_stated f_marks f_broken f_text_75 f_size_76 f_sizes f_places) := hH
                            exact atX50_statement_251 hc X x1 x3 x4 f_text_75 f_size_76 hw _ _ ls hH (lv_sub hl [0, 1, 3, 4] rfl)
                      · have hw := hw.1 (z_eq (rfl : x3.toInt = _) (rfl : (0 : Int32).toInt = 0) c_61)
                        refine lv_bipush (v := 32) hx hb dX50_statement_215 (by decide) ?_
                        refine lv_goto (tgt := 232) hx hb dX50_statement_217 (by decide) ?_
                        refine k_v0 hH (k_runV (As := [.int 32]) (rest := []) X hH.1 hH.2.1 X.2.2.2 (walkX50_put hc (x1 := 32) (f_phrases := f_phrases) (f_axioms := f_axioms) (f_axiomCount := f_axiomCount) (f_triples := f_triples) (f_tripleCount := f_tripleCount) (f_rules := f_rules) (f_instances := f_instances) (f_counts := f_counts) (f_premises := f_premises) (f_rows := f_rows) (f_stated := f_stated) (f_marks := f_marks) (f_broken := f_broken) (f_text := f_text_14) (f_size := f_size_15) (f_sizes := f_sizes) (f_places := f_places) hw) (cwV 1 X.1.2.2.2.2 gX50_232 rfl rfl rfl hX50_put ⟨Nat.le_of_ble_eq_true rfl, Nat.le_of_ble_eq_true rfl⟩) hc (q0 := 0) rfl rfl hl.1 rfl (Nat.le_of_ble_eq_true rfl) dX50_statement_232 ⟨Nat.le_refl 0, Nat.le_refl 0⟩) (fun u H locs hw hH => ?_)
                        obtain ⟨f_text_77, f_size_78⟩ := u
                        have hH : kH (dC, dI) cl A s.heap H locs (wX50 ci ad d f_phrases f_axioms f_axiomCount f_triples f_tripleCount f_rules f_instances f_counts f_premises f_rows f_stated f_marks f_broken f_text_77 f_size_78 f_sizes f_places) := hH
                        refine lv_iload_n hx hb dX50_statement_235 rfl (lv_at hl 3 rfl) ?_
                        refine lv_iconst (v := 1) hx hb dX50_statement_236 (by decide) ?_
                        refine lv_icmp_le (tgt := 251) hx hb dX50_statement_237 (by decide) (fun c_79 => ?_) (fun c_79 => ?_)
                        · have hw := hw.1 (z_le (rfl : x3.toInt = _) (rfl : (1 : Int32).toInt = 1) c_79)
                          exact atX50_statement_251 hc X x1 x3 x4 f_text_77 f_size_78 hw _ _ ls hH (lv_sub hl [0, 1, 3, 4] rfl)
                        · have hw := hw.2 (z_nle (rfl : x3.toInt = _) (rfl : (1 : Int32).toInt = 1) c_79)
                          refine lv_aload_n hx hb dX50_statement_240 rfl (lv_at hl 0 rfl) ?_
                          refine lv_iload_n hx hb dX50_statement_241 rfl (lv_at hl 3 rfl) ?_
                          refine k_v0 hH (k_runV (As := [.int x3]) (rest := []) X hH.1 hH.2.1 X.2.2.2 (walkX50_number hc (x1 := x3) (f_phrases := f_phrases) (f_axioms := f_axioms) (f_axiomCount := f_axiomCount) (f_triples := f_triples) (f_tripleCount := f_tripleCount) (f_rules := f_rules) (f_instances := f_instances) (f_counts := f_counts) (f_premises := f_premises) (f_rows := f_rows) (f_stated := f_stated) (f_marks := f_marks) (f_broken := f_broken) (f_text := f_text_77) (f_size := f_size_78) (f_sizes := f_sizes) (f_places := f_places) hw) (cwV 1 X.1.2.2.2.2 gX50_235 rfl rfl rfl hX50_number ⟨Nat.le_of_ble_eq_true rfl, Nat.le_of_ble_eq_true rfl⟩) hc (q0 := 0) rfl rfl hl.1 rfl (Nat.le_of_ble_eq_true rfl) dX50_statement_242 ⟨Nat.le_refl 0, Nat.le_refl 0⟩) (fun u H locs hw hH => ?_)
                          obtain ⟨f_text_80, f_size_81⟩ := u
                          have hH : kH (dC, dI) cl A s.heap H locs (wX50 ci ad d f_phrases f_axioms f_axiomCount f_triples f_tripleCount f_rules f_instances f_counts f_premises f_rows f_stated f_marks f_broken f_text_80 f_size_81 f_sizes f_places) := hH
                          refine lv_aload_n hx hb dX50_statement_245 rfl (lv_at hl 0 rfl) ?_
                          refine lv_bipush (v := 33) hx hb dX50_statement_246 (by decide) ?_
                          refine k_v0 hH (k_runV (As := [.int 33]) (rest := []) X hH.1 hH.2.1 X.2.2.2 (walkX50_put hc (x1 := 33) (f_phrases := f_phrases) (f_axioms := f_axioms) (f_axiomCount := f_axiomCount) (f_triples := f_triples) (f_tripleCount := f_tripleCount) (f_rules := f_rules) (f_instances := f_instances) (f_counts := f_counts) (f_premises := f_premises) (f_rows := f_rows) (f_stated := f_stated) (f_marks := f_marks) (f_broken := f_broken) (f_text := f_text_80) (f_size := f_size_81) (f_sizes := f_sizes) (f_places := f_places) hw) (cwV 1 X.1.2.2.2.2 gX50_232 rfl rfl rfl hX50_put ⟨Nat.le_of_ble_eq_true rfl, Nat.le_of_ble_eq_true rfl⟩) hc (q0 := 0) rfl rfl hl.1 rfl (Nat.le_of_ble_eq_true rfl) dX50_statement_248 ⟨Nat.le_refl 0, Nat.le_refl 0⟩) (fun u H locs hw hH => ?_)
                          obtain ⟨f_text_82, f_size_83⟩ := u
                          have hH : kH (dC, dI) cl A s.heap H locs (wX50 ci ad d f_phrases f_axioms f_axiomCount f_triples f_tripleCount f_rules f_instances f_counts f_premises f_rows f_stated f_marks f_broken f_text_82 f_size_83 f_sizes f_places) := hH
                          exact atX50_statement_251 hc X x1 x3 x4 f_text_82 f_size_83 hw _ _ ls hH (lv_sub hl [0, 1, 3, 4] rfl)
set_option maxHeartbeats 4000000 in
theorem atX50_statement_42 {p : Program} {l : Launch} {e : Env} {s : State} {m : MethodId} {args : Array Value} {below : List Frame} {meth : Method} {c : Code} {dC : Nat → ClassId} {dI : Nat → Nat → Nat} {cl : List vw_C} {ci : Nat} (hc : cl[ci]? = some (RX50, TX50, 17)) {ad : Nat → Nat} {d : Nat → ClassId} {A : Nat → Prop} {post : (Int → Int) → Int → Prop} {f_phrases : Nat → Int64} {f_axioms : Nat → Int32} {f_axiomCount : Int32} {f_triples : Nat → Int32} {f_tripleCount : Int32} {f_rules : Nat → Int32} {f_instances : Nat → Int32} {f_counts : Nat → Int32} {f_premises : Nat → Int32} {f_rows : Int32} {f_stated : Nat → Int32} {f_marks : Nat → Int32} {f_broken : Int32} {f_sizes : Nat → Int32} {f_places : Nat → Int32} (X : kX p s m args meth c cX50_statement 5 RX50 none (dC, dI) cl (tX50 d))     :
    ∀ (x1 : Int32) (x2 : Int32) (x3 : Int32) (x4 : Int32) (f_text : Nat → Int32) (f_size : Int32), wX50_statement_42 post x1.toInt x2.toInt x3.toInt x4.toInt (zG f_phrases) (zF f_text) f_size.toInt → ∀ (H : Heap) (locs : List Loc) (ls : Array Slot), kH (dC, dI) cl A s.heap H locs (wX50 ci ad d f_phrases f_axioms f_axiomCount f_triples f_tripleCount f_rules f_instances f_counts f_premises f_rows f_stated f_marks f_broken f_text f_size f_sizes f_places) → lv_has ls 5 [(0, .ref (ad 0)), (1, .int x1), (2, .int x2), (3, .int x3), (4, .int x4)] → W p l e ({ frames := 1, cells := 0, slots := 0, locals := 24 } : Room) s m args below meth c H locs 0 0 (MQ below (va_Qv (fun (u : (Nat → Int32) × Int32) => post (zF (u.1)) (u.2).toInt) (kB (dC, dI) cl (tX50 d) A (fun u : (Nat → Int32) × Int32 => (wX50 ci ad d f_phrases f_axioms f_axiomCount f_triples f_tripleCount f_rules f_instances f_counts f_premises f_rows f_stated f_marks f_broken (u.1) (u.2) f_sizes f_places))) A) args s 0 0 A) (F0 m 42 ls []) := by
  have hx := X.1.1
  have hb := X.1.2.1
  intro x1 x2 x3 x4 f_text f_size hw H locs ls hH hl
  unfold wX50_statement_42 at hw
  refine lv_iload_n hx hb dX50_statement_42 rfl (lv_at hl 1 rfl) ?_
  refine lv_iconst (v := 3) hx hb dX50_statement_43 (by decide) ?_
  refine lv_icmp_eq (tgt := 52) hx hb dX50_statement_44 (by decide) (fun c_11 => ?_) (fun c_11 => ?_)
  · have hw := hw.1 (z_eq (rfl : x1.toInt = _) (rfl : (3 : Int32).toInt = 3) c_11)
    refine lv_aload_n hx hb dX50_statement_52 rfl (lv_at hl 0 rfl) ?_
    refine lv_bipush (v := 21) hx hb dX50_statement_53 (by decide) ?_
    refine k_v0 hH (k_runV (As := [.int 21]) (rest := []) X hH.1 hH.2.1 X.2.2.2 (walkX50_put hc (x1 := 21) (f_phrases := f_phrases) (f_axioms := f_axioms) (f_axiomCount := f_axiomCount) (f_triples := f_triples) (f_tripleCount := f_tripleCount) (f_rules := f_rules) (f_instances := f_instances) (f_counts := f_counts) (f_premises := f_premises) (f_rows := f_rows) (f_stated := f_stated) (f_marks := f_marks) (f_broken := f_broken) (f_text := f_text) (f_size := f_size) (f_sizes := f_sizes) (f_places := f_places) hw) (cwV 1 X.1.2.2.2.2 gX50_232 rfl rfl rfl hX50_put ⟨Nat.le_of_ble_eq_true rfl, Nat.le_of_ble_eq_true rfl⟩) hc (q0 := 0) rfl rfl hl.1 rfl (Nat.le_of_ble_eq_true rfl) dX50_statement_55 ⟨Nat.le_refl 0, Nat.le_refl 0⟩) (fun u H locs hw hH => ?_)
    obtain ⟨f_text_12, f_size_13⟩ := u
    have hH : kH (dC, dI) cl A s.heap H locs (wX50 ci ad d f_phrases f_axioms f_axiomCount f_triples f_tripleCount f_rules f_instances f_counts f_premises f_rows f_stated f_marks f_broken f_text_12 f_size_13 f_sizes f_places) := hH
    exact atX50_statement_58 hc X x1 x2 x3 x4 f_text_12 f_size_13 hw _ _ ls hH (lv_sub hl [0, 1, 2, 3, 4] rfl)
  · have hw := hw.2 (z_neq (rfl : x1.toInt = _) (rfl : (3 : Int32).toInt = 3) c_11)
    refine lv_iload_n hx hb dX50_statement_47 rfl (lv_at hl 1 rfl) ?_
    refine lv_iconst (v := 4) hx hb dX50_statement_48 (by decide) ?_
    refine lv_icmp_ne (tgt := 58) hx hb dX50_statement_49 (by decide) (fun c_84 => ?_) (fun c_84 => ?_)
    · have hw := hw.2 (z_ne (rfl : x1.toInt = _) (rfl : (4 : Int32).toInt = 4) c_84)
      exact atX50_statement_58 hc X x1 x2 x3 x4 f_text f_size hw _ _ ls hH (lv_sub hl [0, 1, 2, 3, 4] rfl)
    · have hw := hw.1 (z_eq (rfl : x1.toInt = _) (rfl : (4 : Int32).toInt = 4) c_84)
      refine lv_aload_n hx hb dX50_statement_52 rfl (lv_at hl 0 rfl) ?_
      refine lv_bipush (v := 21) hx hb dX50_statement_53 (by decide) ?_
      refine k_v0 hH (k_runV (As := [.int 21]) (rest := []) X hH.1 hH.2.1 X.2.2.2 (walkX50_put hc (x1 := 21) (f_phrases := f_phrases) (f_axioms := f_axioms) (f_axiomCount := f_axiomCount) (f_triples := f_triples) (f_tripleCount := f_tripleCount) (f_rules := f_rules) (f_instances := f_instances) (f_counts := f_counts) (f_premises := f_premises) (f_rows := f_rows) (f_stated := f_stated) (f_marks := f_marks) (f_broken := f_broken) (f_text := f_text) (f_size := f_size) (f_sizes := f_sizes) (f_places := f_places) hw) (cwV 1 X.1.2.2.2.2 gX50_232 rfl rfl rfl hX50_put ⟨Nat.le_of_ble_eq_true rfl, Nat.le_of_ble_eq_true rfl⟩) hc (q0 := 0) rfl rfl hl.1 rfl (Nat.le_of_ble_eq_true rfl) dX50_statement_55 ⟨Nat.le_refl 0, Nat.le_refl 0⟩) (fun u H locs hw hH => ?_)
      obtain ⟨f_text_85, f_size_86⟩ := u
      have hH : kH (dC, dI) cl A s.heap H locs (wX50 ci ad d f_phrases f_axioms f_axiomCount f_triples f_tripleCount f_rules f_instances f_counts f_premises f_rows f_stated f_marks f_broken f_text_85 f_size_86 f_sizes f_places) := hH
      exact atX50_statement_58 hc X x1 x2 x3 x4 f_text_85 f_size_86 hw _ _ ls hH (lv_sub hl [0, 1, 2, 3, 4] rfl)
set_option maxHeartbeats 4000000 in
theorem walkX50_statement {l : Launch} {dC : Nat → ClassId} {dI : Nat → Nat → Nat} {cl : List vw_C} {ci : Nat} (hc : cl[ci]? = some (RX50, TX50, 17)) {ad : Nat → Nat} {d : Nat → ClassId} {sz : Nat} {f_phrases : Nat → Int64} {f_axioms : Nat → Int32} {f_axiomCount : Int32} {f_triples : Nat → Int32} {f_tripleCount : Int32} {f_rules : Nat → Int32} {f_instances : Nat → Int32} {f_counts : Nat → Int32} {f_premises : Nat → Int32} {f_rows : Int32} {f_stated : Nat → Int32} {f_marks : Nat → Int32} {f_broken : Int32} {f_text : Nat → Int32} {f_size : Int32} {f_sizes : Nat → Int32} {f_places : Nat → Int32} {x1 : Int32} {x2 : Int32} {x3 : Int32} {x4 : Int32} {post : (Int → Int) → Int → Prop} (hw : wpX50_statement post (zG f_phrases) (zF f_text) f_size.toInt x1.toInt x2.toInt x3.toInt x4.toInt) :
    Met l yX50_statement (ws_ yX50_statement cX50_statement 5 none) ({ frames := 1, cells := 0, slots := 0, locals := 24 } : Room) (kPc (dC, dI) cl (tX50 d) [.ref (ad 0), .int x1, .int x2, .int x3, .int x4] sz (wX50 ci ad d f_phrases f_axioms f_axiomCount f_triples f_tripleCount f_rules f_instances f_counts f_premises f_rows f_stated f_marks f_broken f_text f_size f_sizes f_places)) (va_Qv (fun (u : (Nat → Int32) × Int32) => post (zF (u.1)) (u.2).toInt) (kB (dC, dI) cl (tX50 d) (va_A (wX50 ci ad d f_phrases f_axioms f_axiomCount f_triples f_tripleCount f_rules f_instances f_counts f_premises f_rows f_stated f_marks f_broken f_text f_size f_sizes f_places) sz) (fun u : (Nat → Int32) × Int32 => (wX50 ci ad d f_phrases f_axioms f_axiomCount f_triples f_tripleCount f_rules f_instances f_counts f_premises f_rows f_stated f_marks f_broken (u.1) (u.2) f_sizes f_places))) (va_A (wX50 ci ad d f_phrases f_axioms f_axiomCount f_triples f_tripleCount f_rules f_instances f_counts f_premises f_rows f_stated f_marks f_broken f_text f_size f_sizes f_places) sz)) 0 0 (va_A (wX50 ci ad d f_phrases f_axioms f_axiomCount f_triples f_tripleCount f_rules f_instances f_counts f_premises f_rows f_stated f_marks f_broken f_text f_size f_sizes f_places) sz) := by
  refine k_enter (by decide) (Nat.le_of_ble_eq_true rfl) ?_
  intro p e s m below meth c ls X hsz hH hl
  subst hsz
  generalize va_A (wX50 ci ad d f_phrases f_axioms f_axiomCount f_triples f_tripleCount f_rules f_instances f_counts f_premises f_rows f_stated f_marks f_broken f_text f_size f_sizes f_places) s.heap.size = A at hH ⊢
  have hx := X.1.1
  have hb := X.1.2.1
  have hl : lv_has ls 5 [(0, .ref (ad 0)), (1, .int x1), (2, .int x2), (3, .int x3), (4, .int x4)] := hl
  unfold wpX50_statement at hw
  refine lv_iload_n hx hb dX50_statement_0 rfl (lv_at hl 1 rfl) ?_
  refine lv_bipush (v := 12) hx hb dX50_statement_1 (by decide) ?_
  refine lv_icmp_eq (tgt := 10) hx hb dX50_statement_3 (by decide) (fun c_1 => ?_) (fun c_1 => ?_)
  · have hw := hw.1 (z_eq (rfl : x1.toInt = _) (rfl : (12 : Int32).toInt = 12) c_1)
    refine lv_aload_n hx hb dX50_statement_10 rfl (lv_at hl 0 rfl) ?_
    refine lv_iload_n hx hb dX50_statement_11 rfl (lv_at hl 1 rfl) ?_
    refine lv_if_ne (tgt := 20) hx hb dX50_statement_12 (by decide) (fun c_2 => ?_) (fun c_2 => ?_)
    · have hw := hw.2 (z_ne (rfl : x1.toInt = _) (rfl : (0 : Int32).toInt = 0) c_2)
      refine lv_bipush (v := 19) hx hb dX50_statement_20 (by decide) ?_
      refine k_v0 hH (k_runV (As := [.int 19]) (rest := []) X hH.1 hH.2.1 X.2.2.2 (walkX50_put hc (x1 := 19) (f_phrases := f_phrases) (f_axioms := f_axioms) (f_axiomCount := f_axiomCount) (f_triples := f_triples) (f_tripleCount := f_tripleCount) (f_rules := f_rules) (f_instances := f_instances) (f_counts := f_counts) (f_premises := f_premises) (f_rows := f_rows) (f_stated := f_stated) (f_marks := f_marks) (f_broken := f_broken) (f_text := f_text) (f_size := f_size) (f_sizes := f_sizes) (f_places := f_places) hw) (cwV 1 X.1.2.2.2.2 gX50_232 rfl rfl rfl hX50_put ⟨Nat.le_of_ble_eq_true rfl, Nat.le_of_ble_eq_true rfl⟩) hc (q0 := 0) rfl rfl hl.1 rfl (Nat.le_of_ble_eq_true rfl) dX50_statement_22 ⟨Nat.le_refl 0, Nat.le_refl 0⟩) (fun u H locs hw hH => ?_)
      obtain ⟨f_text_3, f_size_4⟩ := u
      have hH : kH (dC, dI) cl A s.heap H locs (wX50 ci ad d f_phrases f_axioms f_axiomCount f_triples f_tripleCount f_rules f_instances f_counts f_premises f_rows f_stated f_marks f_broken f_text_3 f_size_4 f_sizes f_places) := hH
      exact k_vret X hH (f_text_3, f_size_4) hw rfl dX50_statement_25
    · have hw := hw.1 (z_eq (rfl : x1.toInt = _) (rfl : (0 : Int32).toInt = 0) c_2)
      refine lv_bipush (v := 18) hx hb dX50_statement_15 (by decide) ?_
      refine lv_goto (tgt := 22) hx hb dX50_statement_17 (by decide) ?_
      refine k_v0 hH (k_runV (As := [.int 18]) (rest := []) X hH.1 hH.2.1 X.2.2.2 (walkX50_put hc (x1 := 18) (f_phrases := f_phrases) (f_axioms := f_axioms) (f_axiomCount := f_axiomCount) (f_triples := f_triples) (f_tripleCount := f_tripleCount) (f_rules := f_rules) (f_instances := f_instances) (f_counts := f_counts) (f_premises := f_premises) (f_rows := f_rows) (f_stated := f_stated) (f_marks := f_marks) (f_broken := f_broken) (f_text := f_text) (f_size := f_size) (f_sizes := f_sizes) (f_places := f_places) hw) (cwV 1 X.1.2.2.2.2 gX50_232 rfl rfl rfl hX50_put ⟨Nat.le_of_ble_eq_true rfl, Nat.le_of_ble_eq_true rfl⟩) hc (q0 := 0) rfl rfl hl.1 rfl (Nat.le_of_ble_eq_true rfl) dX50_statement_22 ⟨Nat.le_refl 0, Nat.le_refl 0⟩) (fun u H locs hw hH => ?_)
      obtain ⟨f_text_5, f_size_6⟩ := u
      have hH : kH (dC, dI) cl A s.heap H locs (wX50 ci ad d f_phrases f_axioms f_axiomCount f_triples f_tripleCount f_rules f_instances f_counts f_premises f_rows f_stated f_marks f_broken f_text_5 f_size_6 f_sizes f_places) := hH
      exact k_vret X hH (f_text_5, f_size_6) hw rfl dX50_statement_25
  · have hw := hw.2 (z_neq (rfl : x1.toInt = _) (rfl : (12 : Int32).toInt = 12) c_1)
    refine lv_iload_n hx hb dX50_statement_6 rfl (lv_at hl 1 rfl) ?_
    refine lv_if_ne (tgt := 26) hx hb dX50_statement_7 (by decide) (fun c_7 => ?_) (fun c_7 => ?_)
    · have hw := hw.2 (z_ne (rfl : x1.toInt = _) (rfl : (0 : Int32).toInt = 0) c_7)
      refine lv_iload_n hx hb dX50_statement_26 rfl (lv_at hl 1 rfl) ?_
      refine lv_iconst (v := 1) hx hb dX50_statement_27 (by decide) ?_
      refine lv_icmp_eq (tgt := 36) hx hb dX50_statement_28 (by decide) (fun c_8 => ?_) (fun c_8 => ?_)
      · have hw := hw.1 (z_eq (rfl : x1.toInt = _) (rfl : (1 : Int32).toInt = 1) c_8)
        refine lv_aload_n hx hb dX50_statement_36 rfl (lv_at hl 0 rfl) ?_
        refine lv_bipush (v := 20) hx hb dX50_statement_37 (by decide) ?_
        refine k_v0 hH (k_runV (As := [.int 20]) (rest := []) X hH.1 hH.2.1 X.2.2.2 (walkX50_put hc (x1 := 20) (f_phrases := f_phrases) (f_axioms := f_axioms) (f_axiomCount := f_axiomCount) (f_triples := f_triples) (f_tripleCount := f_tripleCount) (f_rules := f_rules) (f_instances := f_instances) (f_counts := f_counts) (f_premises := f_premises) (f_rows := f_rows) (f_stated := f_stated) (f_marks := f_marks) (f_broken := f_broken) (f_text := f_text) (f_size := f_size) (f_sizes := f_sizes) (f_places := f_places) hw) (cwV 1 X.1.2.2.2.2 gX50_232 rfl rfl rfl hX50_put ⟨Nat.le_of_ble_eq_true rfl, Nat.le_of_ble_eq_true rfl⟩) hc (q0 := 0) rfl rfl hl.1 rfl (Nat.le_of_ble_eq_true rfl) dX50_statement_39 ⟨Nat.le_refl 0, Nat.le_refl 0⟩) (fun u H locs hw hH => ?_)
        obtain ⟨f_text_9, f_size_10⟩ := u
        have hH : kH (dC, dI) cl A s.heap H locs (wX50 ci ad d f_phrases f_axioms f_axiomCount f_triples f_tripleCount f_rules f_instances f_counts f_premises f_rows f_stated f_marks f_broken f_text_9 f_size_10 f_sizes f_places) := hH
        exact atX50_statement_42 hc X x1 x2 x3 x4 f_text_9 f_size_10 hw _ _ ls hH (lv_sub hl [0, 1, 2, 3, 4] rfl)
      · have hw := hw.2 (z_neq (rfl : x1.toInt = _) (rfl : (1 : Int32).toInt = 1) c_8)
        refine lv_iload_n hx hb dX50_statement_31 rfl (lv_at hl 1 rfl) ?_
        refine lv_iconst (v := 5) hx hb dX50_statement_32 (by decide) ?_
        refine lv_icmp_ne (tgt := 42) hx hb dX50_statement_33 (by decide) (fun c_87 => ?_) (fun c_87 => ?_)
        · have hw := hw.2 (z_ne (rfl : x1.toInt = _) (rfl : (5 : Int32).toInt = 5) c_87)
          exact atX50_statement_42 hc X x1 x2 x3 x4 f_text f_size hw _ _ ls hH (lv_sub hl [0, 1, 2, 3, 4] rfl)
        · have hw := hw.1 (z_eq (rfl : x1.toInt = _) (rfl : (5 : Int32).toInt = 5) c_87)
          refine lv_aload_n hx hb dX50_statement_36 rfl (lv_at hl 0 rfl) ?_
          refine lv_bipush (v := 20) hx hb dX50_statement_37 (by decide) ?_
          refine k_v0 hH (k_runV (As := [.int 20]) (rest := []) X hH.1 hH.2.1 X.2.2.2 (walkX50_put hc (x1 := 20) (f_phrases := f_phrases) (f_axioms := f_axioms) (f_axiomCount := f_axiomCount) (f_triples := f_triples) (f_tripleCount := f_tripleCount) (f_rules := f_rules) (f_instances := f_instances) (f_counts := f_counts) (f_premises := f_premises) (f_rows := f_rows) (f_stated := f_stated) (f_marks := f_marks) (f_broken := f_broken) (f_text := f_text) (f_size := f_size) (f_sizes := f_sizes) (f_places := f_places) hw) (cwV 1 X.1.2.2.2.2 gX50_232 rfl rfl rfl hX50_put ⟨Nat.le_of_ble_eq_true rfl, Nat.le_of_ble_eq_true rfl⟩) hc (q0 := 0) rfl rfl hl.1 rfl (Nat.le_of_ble_eq_true rfl) dX50_statement_39 ⟨Nat.le_refl 0, Nat.le_refl 0⟩) (fun u H locs hw hH => ?_)
          obtain ⟨f_text_88, f_size_89⟩ := u
          have hH : kH (dC, dI) cl A s.heap H locs (wX50 ci ad d f_phrases f_axioms f_axiomCount f_triples f_tripleCount f_rules f_instances f_counts f_premises f_rows f_stated f_marks f_broken f_text_88 f_size_89 f_sizes f_places) := hH
          exact atX50_statement_42 hc X x1 x2 x3 x4 f_text_88 f_size_89 hw _ _ ls hH (lv_sub hl [0, 1, 2, 3, 4] rfl)
    · have hw := hw.1 (z_eq (rfl : x1.toInt = _) (rfl : (0 : Int32).toInt = 0) c_7)
      refine lv_aload_n hx hb dX50_statement_10 rfl (lv_at hl 0 rfl) ?_
      refine lv_iload_n hx hb dX50_statement_11 rfl (lv_at hl 1 rfl) ?_
      refine lv_if_ne (tgt := 20) hx hb dX50_statement_12 (by decide) (fun c_90 => ?_) (fun c_90 => ?_)
      · have hw := hw.2 (z_ne (rfl : x1.toInt = _) (rfl : (0 : Int32).toInt = 0) c_90)
        refine lv_bipush (v := 19) hx hb dX50_statement_20 (by decide) ?_
        refine k_v0 hH (k_runV (As := [.int 19]) (rest := []) X hH.1 hH.2.1 X.2.2.2 (walkX50_put hc (x1 := 19) (f_phrases := f_phrases) (f_axioms := f_axioms) (f_axiomCount := f_axiomCount) (f_triples := f_triples) (f_tripleCount := f_tripleCount) (f_rules := f_rules) (f_instances := f_instances) (f_counts := f_counts) (f_premises := f_premises) (f_rows := f_rows) (f_stated := f_stated) (f_marks := f_marks) (f_broken := f_broken) (f_text := f_text) (f_size := f_size) (f_sizes := f_sizes) (f_places := f_places) hw) (cwV 1 X.1.2.2.2.2 gX50_232 rfl rfl rfl hX50_put ⟨Nat.le_of_ble_eq_true rfl, Nat.le_of_ble_eq_true rfl⟩) hc (q0 := 0) rfl rfl hl.1 rfl (Nat.le_of_ble_eq_true rfl) dX50_statement_22 ⟨Nat.le_refl 0, Nat.le_refl 0⟩) (fun u H locs hw hH => ?_)
        obtain ⟨f_text_91, f_size_92⟩ := u
        have hH : kH (dC, dI) cl A s.heap H locs (wX50 ci ad d f_phrases f_axioms f_axiomCount f_triples f_tripleCount f_rules f_instances f_counts f_premises f_rows f_stated f_marks f_broken f_text_91 f_size_92 f_sizes f_places) := hH
        exact k_vret X hH (f_text_91, f_size_92) hw rfl dX50_statement_25
      · have hw := hw.1 (z_eq (rfl : x1.toInt = _) (rfl : (0 : Int32).toInt = 0) c_90)
        refine lv_bipush (v := 18) hx hb dX50_statement_15 (by decide) ?_
        refine lv_goto (tgt := 22) hx hb dX50_statement_17 (by decide) ?_
        refine k_v0 hH (k_runV (As := [.int 18]) (rest := []) X hH.1 hH.2.1 X.2.2.2 (walkX50_put hc (x1 := 18) (f_phrases := f_phrases) (f_axioms := f_axioms) (f_axiomCount := f_axiomCount) (f_triples := f_triples) (f_tripleCount := f_tripleCount) (f_rules := f_rules) (f_instances := f_instances) (f_counts := f_counts) (f_premises := f_premises) (f_rows := f_rows) (f_stated := f_stated) (f_marks := f_marks) (f_broken := f_broken) (f_text := f_text) (f_size := f_size) (f_sizes := f_sizes) (f_places := f_places) hw) (cwV 1 X.1.2.2.2.2 gX50_232 rfl rfl rfl hX50_put ⟨Nat.le_of_ble_eq_true rfl, Nat.le_of_ble_eq_true rfl⟩) hc (q0 := 0) rfl rfl hl.1 rfl (Nat.le_of_ble_eq_true rfl) dX50_statement_22 ⟨Nat.le_refl 0, Nat.le_refl 0⟩) (fun u H locs hw hH => ?_)
        obtain ⟨f_text_93, f_size_94⟩ := u
        have hH : kH (dC, dI) cl A s.heap H locs (wX50 ci ad d f_phrases f_axioms f_axiomCount f_triples f_tripleCount f_rules f_instances f_counts f_premises f_rows f_stated f_marks f_broken f_text_93 f_size_94 f_sizes f_places) := hH
        exact k_vret X hH (f_text_93, f_size_94) hw rfl dX50_statement_25
set_option maxHeartbeats 4000000 in
theorem walkX50_wordOf {l : Launch} {dC : Nat → ClassId} {dI : Nat → Nat → Nat} {cl : List vw_C} {ci : Nat} (hc : cl[ci]? = some (RX50, TX50, 17)) {ad : Nat → Nat} {d : Nat → ClassId} {sz : Nat} {f_phrases : Nat → Int64} {f_axioms : Nat → Int32} {f_axiomCount : Int32} {f_triples : Nat → Int32} {f_tripleCount : Int32} {f_rules : Nat → Int32} {f_instances : Nat → Int32} {f_counts : Nat → Int32} {f_premises : Nat → Int32} {f_rows : Int32} {f_stated : Nat → Int32} {f_marks : Nat → Int32} {f_broken : Int32} {f_text : Nat → Int32} {f_size : Int32} {f_sizes : Nat → Int32} {f_places : Nat → Int32} {x0 : Int32} {post : Int → Prop} (hw : wpX50_wordOf post  x0.toInt) :
    Met l yX50_wordOf (ws_ yX50_wordOf cX50_wordOf 1 (some .int)) ({ frames := 0, cells := 0, slots := 0, locals := 0 } : Room) (kPc (dC, dI) cl (tX50 d) [.int x0] sz (wX50 ci ad d f_phrases f_axioms f_axiomCount f_triples f_tripleCount f_rules f_instances f_counts f_premises f_rows f_stated f_marks f_broken f_text f_size f_sizes f_places)) (va_Qi (fun (r : Int32) (_ : Unit) => post r.toInt) (kB (dC, dI) cl (tX50 d) (va_A (wX50 ci ad d f_phrases f_axioms f_axiomCount f_triples f_tripleCount f_rules f_instances f_counts f_premises f_rows f_stated f_marks f_broken f_text f_size f_sizes f_places) sz) (fun _ : Unit => (wX50 ci ad d f_phrases f_axioms f_axiomCount f_triples f_tripleCount f_rules f_instances f_counts f_premises f_rows f_stated f_marks f_broken f_text f_size f_sizes f_places))) (va_A (wX50 ci ad d f_phrases f_axioms f_axiomCount f_triples f_tripleCount f_rules f_instances f_counts f_premises f_rows f_stated f_marks f_broken f_text f_size f_sizes f_places) sz)) 0 0 (va_A (wX50 ci ad d f_phrases f_axioms f_axiomCount f_triples f_tripleCount f_rules f_instances f_counts f_premises f_rows f_stated f_marks f_broken f_text f_size f_sizes f_places) sz) := by
  refine k_enter (by decide) (Nat.le_of_ble_eq_true rfl) ?_
  intro p e s m below meth c ls X hsz hH hl
  subst hsz
  generalize va_A (wX50 ci ad d f_phrases f_axioms f_axiomCount f_triples f_tripleCount f_rules f_instances f_counts f_premises f_rows f_stated f_marks f_broken f_text f_size f_sizes f_places) s.heap.size = A at hH ⊢
  have hx := X.1.1
  have hb := X.1.2.1
  have hl : lv_has ls 1 [(0, .int x0)] := hl
  unfold wpX50_wordOf at hw
  refine lv_iload_n hx hb dX50_wordOf_0 rfl (lv_at hl 0 rfl) ?_
  by_cases c_1 : x0 = 0
  · have hw := hw.1 (z_eq (rfl : x0.toInt = _) (rfl : (0 : Int32).toInt = 0) c_1)
    refine lv_tableIn (off := 83) (tgt := 84) hx hb dX50_wordOf_1 (by rw [c_1]; decide) (by rw [c_1]; decide) (by rw [c_1]; rfl) (by decide) ?_
    refine lv_iconst (v := 0) hx hb dX50_wordOf_84 (by decide) ?_
    exact k_iret (v := 0) X hH () hw rfl rfl dX50_wordOf_85
  · have hw := hw.2 (z_ne (rfl : x0.toInt = _) (rfl : (0 : Int32).toInt = 0) c_1)
    by_cases c_2 : x0 = 1
    · have hw := hw.1 (z_eq (rfl : x0.toInt = _) (rfl : (1 : Int32).toInt = 1) c_2)
      refine lv_tableIn (off := 85) (tgt := 86) hx hb dX50_wordOf_1 (by rw [c_2]; decide) (by rw [c_2]; decide) (by rw [c_2]; rfl) (by decide) ?_
      refine lv_iconst (v := 1) hx hb dX50_wordOf_86 (by decide) ?_
      exact k_iret (v := 1) X hH () hw rfl rfl dX50_wordOf_87
    · have hw := hw.2 (z_ne (rfl : x0.toInt = _) (rfl : (1 : Int32).toInt = 1) c_2)
      by_cases c_3 : x0 = 2
      · have hw := hw.1 (z_eq (rfl : x0.toInt = _) (rfl : (2 : Int32).toInt = 2) c_3)
        refine lv_tableIn (off := 87) (tgt := 88) hx hb dX50_wordOf_1 (by rw [c_3]; decide) (by rw [c_3]; decide) (by rw [c_3]; rfl) (by decide) ?_
        refine lv_iconst (v := 2) hx hb dX50_wordOf_88 (by decide) ?_
        exact k_iret (v := 2) X hH () hw rfl rfl dX50_wordOf_89
      · have hw := hw.2 (z_ne (rfl : x0.toInt = _) (rfl : (2 : Int32).toInt = 2) c_3)
        by_cases c_4 : x0 = 3
        · have hw := hw.1 (z_eq (rfl : x0.toInt = _) (rfl : (3 : Int32).toInt = 3) c_4)
          refine lv_tableIn (off := 89) (tgt := 90) hx hb dX50_wordOf_1 (by rw [c_4]; decide) (by rw [c_4]; decide) (by rw [c_4]; rfl) (by decide) ?_
          refine lv_iconst (v := 3) hx hb dX50_wordOf_90 (by decide) ?_
          exact k_iret (v := 3) X hH () hw rfl rfl dX50_wordOf_91
        · have hw := hw.2 (z_ne (rfl : x0.toInt = _) (rfl : (3 : Int32).toInt = 3) c_4)
          by_cases c_5 : x0 = 4
          · have hw := hw.1 (z_eq (rfl : x0.toInt = _) (rfl : (4 : Int32).toInt = 4) c_5)
            refine lv_tableIn (off := 91) (tgt := 92) hx hb dX50_wordOf_1 (by rw [c_5]; decide) (by rw [c_5]; decide) (by rw [c_5]; rfl) (by decide) ?_
            refine lv_iconst (v := 4) hx hb dX50_wordOf_92 (by decide) ?_
            exact k_iret (v := 4) X hH () hw rfl rfl dX50_wordOf_93
          · have hw := hw.2 (z_ne (rfl : x0.toInt = _) (rfl : (4 : Int32).toInt = 4) c_5)
            by_cases c_6 : x0 = 5
            · have hw := hw.1 (z_eq (rfl : x0.toInt = _) (rfl : (5 : Int32).toInt = 5) c_6)
              refine lv_tableIn (off := 93) (tgt := 94) hx hb dX50_wordOf_1 (by rw [c_6]; decide) (by rw [c_6]; decide) (by rw [c_6]; rfl) (by decide) ?_
              refine lv_iconst (v := 5) hx hb dX50_wordOf_94 (by decide) ?_
              exact k_iret (v := 5) X hH () hw rfl rfl dX50_wordOf_95
            · have hw := hw.2 (z_ne (rfl : x0.toInt = _) (rfl : (5 : Int32).toInt = 5) c_6)
              by_cases c_7 : x0 = 6
              · have hw := hw.1 (z_eq (rfl : x0.toInt = _) (rfl : (6 : Int32).toInt = 6) c_7)
                refine lv_tableIn (off := 95) (tgt := 96) hx hb dX50_wordOf_1 (by rw [c_7]; decide) (by rw [c_7]; decide) (by rw [c_7]; rfl) (by decide) ?_
                refine lv_bipush (v := 6) hx hb dX50_wordOf_96 (by decide) ?_
                exact k_iret (v := 6) X hH () hw rfl rfl dX50_wordOf_98
              · have hw := hw.2 (z_ne (rfl : x0.toInt = _) (rfl : (6 : Int32).toInt = 6) c_7)
                by_cases c_8 : x0 = 7
                · have hw := hw.1 (z_eq (rfl : x0.toInt = _) (rfl : (7 : Int32).toInt = 7) c_8)
                  refine lv_tableIn (off := 98) (tgt := 99) hx hb dX50_wordOf_1 (by rw [c_8]; decide) (by rw [c_8]; decide) (by rw [c_8]; rfl) (by decide) ?_
                  refine lv_bipush (v := 7) hx hb dX50_wordOf_99 (by decide) ?_
                  exact k_iret (v := 7) X hH () hw rfl rfl dX50_wordOf_101
                · have hw := hw.2 (z_ne (rfl : x0.toInt = _) (rfl : (7 : Int32).toInt = 7) c_8)
                  by_cases c_9 : x0 = 8
                  · have hw := hw.1 (z_eq (rfl : x0.toInt = _) (rfl : (8 : Int32).toInt = 8) c_9)
                    refine lv_tableIn (off := 101) (tgt := 102) hx hb dX50_wordOf_1 (by rw [c_9]; decide) (by rw [c_9]; decide) (by rw [c_9]; rfl) (by decide) ?_
                    refine lv_bipush (v := 8) hx hb dX50_wordOf_102 (by decide) ?_
                    exact k_iret (v := 8) X hH () hw rfl rfl dX50_wordOf_104
                  · have hw := hw.2 (z_ne (rfl : x0.toInt = _) (rfl : (8 : Int32).toInt = 8) c_9)
                    by_cases c_10 : x0 = 9
                    · have hw := hw.1 (z_eq (rfl : x0.toInt = _) (rfl : (9 : Int32).toInt = 9) c_10)
                      refine lv_tableIn (off := 104) (tgt := 105) hx hb dX50_wordOf_1 (by rw [c_10]; decide) (by rw [c_10]; decide) (by rw [c_10]; rfl) (by decide) ?_
                      refine lv_bipush (v := 9) hx hb dX50_wordOf_105 (by decide) ?_
                      exact k_iret (v := 9) X hH () hw rfl rfl dX50_wordOf_107
                    · have hw := hw.2 (z_ne (rfl : x0.toInt = _) (rfl : (9 : Int32).toInt = 9) c_10)
                      by_cases c_11 : x0 = 10
                      · have hw := hw.1 (z_eq (rfl : x0.toInt = _) (rfl : (10 : Int32).toInt = 10) c_11)
                        refine lv_tableIn (off := 107) (tgt := 108) hx hb dX50_wordOf_1 (by rw [c_11]; decide) (by rw [c_11]; decide) (by rw [c_11]; rfl) (by decide) ?_
                        refine lv_bipush (v := 10) hx hb dX50_wordOf_108 (by decide) ?_
                        exact k_iret (v := 10) X hH () hw rfl rfl dX50_wordOf_110
                      · have hw := hw.2 (z_ne (rfl : x0.toInt = _) (rfl : (10 : Int32).toInt = 10) c_11)
                        by_cases c_12 : x0 = 11
                        · have hw := hw.1 (z_eq (rfl : x0.toInt = _) (rfl : (11 : Int32).toInt = 11) c_12)
                          refine lv_tableIn (off := 110) (tgt := 111) hx hb dX50_wordOf_1 (by rw [c_12]; decide) (by rw [c_12]; decide) (by rw [c_12]; rfl) (by decide) ?_
                          refine lv_bipush (v := 11) hx hb dX50_wordOf_111 (by decide) ?_
                          exact k_iret (v := 11) X hH () hw rfl rfl dX50_wordOf_113
                        · have hw := hw.2 (z_ne (rfl : x0.toInt = _) (rfl : (11 : Int32).toInt = 11) c_12)
                          by_cases c_13 : x0 = 12
                          · have hw := hw.1 (z_eq (rfl : x0.toInt = _) (rfl : (12 : Int32).toInt = 12) c_13)
                            refine lv_tableIn (off := 113) (tgt := 114) hx hb dX50_wordOf_1 (by rw [c_13]; decide) (by rw [c_13]; decide) (by rw [c_13]; rfl) (by decide) ?_
                            refine lv_bipush (v := 12) hx hb dX50_wordOf_114 (by decide) ?_
                            exact k_iret (v := 12) X hH () hw rfl rfl dX50_wordOf_116
                          · have hw := hw.2 (z_ne (rfl : x0.toInt = _) (rfl : (12 : Int32).toInt = 12) c_13)
                            by_cases c_14 : x0 = 13
                            · have hw := hw.1 (z_eq (rfl : x0.toInt = _) (rfl : (13 : Int32).toInt = 13) c_14)
                              refine lv_tableIn (off := 116) (tgt := 117) hx hb dX50_wordOf_1 (by rw [c_14]; decide) (by rw [c_14]; decide) (by rw [c_14]; rfl) (by decide) ?_
                              refine lv_bipush (v := 13) hx hb dX50_wordOf_117 (by decide) ?_
                              exact k_iret (v := 13) X hH () hw rfl rfl dX50_wordOf_119
                            · have hw := hw.2 (z_ne (rfl : x0.toInt = _) (rfl : (13 : Int32).toInt = 13) c_14)
                              by_cases c_15 : x0 = 14
                              · have hw := hw.1 (z_eq (rfl : x0.toInt = _) (rfl : (14 : Int32).toInt = 14) c_15)
                                refine lv_tableIn (off := 119) (tgt := 120) hx hb dX50_wordOf_1 (by rw [c_15]; decide) (by rw [c_15]; decide) (by rw [c_15]; rfl) (by decide) ?_
                                refine lv_bipush (v := 14) hx hb dX50_wordOf_120 (by decide) ?_
                                exact k_iret (v := 14) X hH () hw rfl rfl dX50_wordOf_122
                              · have hw := hw.2 (z_ne (rfl : x0.toInt = _) (rfl : (14 : Int32).toInt = 14) c_15)
                                by_cases c_16 : x0 = 15
                                · have hw := hw.1 (z_eq (rfl : x0.toInt = _) (rfl : (15 : Int32).toInt = 15) c_16)
                                  refine lv_tableIn (off := 122) (tgt := 123) hx hb dX50_wordOf_1 (by rw [c_16]; decide) (by rw [c_16]; decide) (by rw [c_16]; rfl) (by decide) ?_
                                  refine lv_bipush (v := 15) hx hb dX50_wordOf_123 (by decide) ?_
                                  exact k_iret (v := 15) X hH () hw rfl rfl dX50_wordOf_125
                                · have hw := hw.2 (z_ne (rfl : x0.toInt = _) (rfl : (15 : Int32).toInt = 15) c_16)
                                  by_cases c_17 : x0 = 16
                                  · have hw := hw.1 (z_eq (rfl : x0.toInt = _) (rfl : (16 : Int32).toInt = 16) c_17)
                                    refine lv_tableIn (off := 125) (tgt := 126) hx hb dX50_wordOf_1 (by rw [c_17]; decide) (by rw [c_17]; decide) (by rw [c_17]; rfl) (by decide) ?_
                                    refine lv_bipush (v := 16) hx hb dX50_wordOf_126 (by decide) ?_
                                    exact k_iret (v := 16) X hH () hw rfl rfl dX50_wordOf_128
                                  · have hw := hw.2 (z_ne (rfl : x0.toInt = _) (rfl : (16 : Int32).toInt = 16) c_17)
                                    refine lv_tableOut (tgt := 129) hx hb dX50_wordOf_1 (by have qc_1 := k_ne c_1 (k := 0) rfl; have qc_2 := k_ne c_2 (k := 1) rfl; have qc_3 := k_ne c_3 (k := 2) rfl; have qc_4 := k_ne c_4 (k := 3) rfl; have qc_5 := k_ne c_5 (k := 4) rfl; have qc_6 := k_ne c_6 (k := 5) rfl; have qc_7 := k_ne c_7 (k := 6) rfl; have qc_8 := k_ne c_8 (k := 7) rfl; have qc_9 := k_ne c_9 (k := 8) rfl; have qc_10 := k_ne c_10 (k := 9) rfl; have qc_11 := k_ne c_11 (k := 10) rfl; have qc_12 := k_ne c_12 (k := 11) rfl; have qc_13 := k_ne c_13 (k := 12) rfl; have qc_14 := k_ne c_14 (k := 13) rfl; have qc_15 := k_ne c_15 (k := 14) rfl; have qc_16 := k_ne c_16 (k := 15) rfl; have qc_17 := k_ne c_17 (k := 16) rfl; omega) (by decide) ?_
                                    refine lv_bipush (v := 17) hx hb dX50_wordOf_129 (by decide) ?_
                                    exact k_iret (v := 17) X hH () hw rfl rfl dX50_wordOf_131
set_option maxHeartbeats 4000000 in
theorem atX50_sentence_94 {p : Program} {l : Launch} {e : Env} {s : State} {m : MethodId} {args : Array Value} {below : List Frame} {meth : Method} {c : Code} {dC : Nat → ClassId} {dI : Nat → Nat → Nat} {cl : List vw_C} {ci : Nat} (hc : cl[ci]? = some (RX50, TX50, 17)) {ad : Nat → Nat} {d : Nat → ClassId} {A : Nat → Prop} {post : Int → (Int → Int) → (Int → Int) → Int → Prop} {f_phrases : Nat → Int64} {f_axioms : Nat → Int32} {f_axiomCount : Int32} {f_triples : Nat → Int32} {f_tripleCount : Int32} {f_rules : Nat → Int32} {f_instances : Nat → Int32} {f_counts : Nat → Int32} {f_premises : Nat → Int32} {f_rows : Int32} {f_marks : Nat → Int32} {f_broken : Int32} {f_sizes : Nat → Int32} {f_places : Nat → Int32} (X : kX p s m args meth c cX50_sentence 3 RX50 (some .int) (dC, dI) cl (tX50 d)) {K139 : (Int → Int) → Int → Prop} {x1 : Int32} {f_stated : Nat → Int32} (hk139 : ∀ (f_text : Nat → Int32) (f_size : Int32), K139 (zF f_text) f_size.toInt → ∀ (H : Heap) (locs : List Loc) (ls : Array Slot), kH (dC, dI) cl A s.heap H locs (wX50 ci ad d f_phrases f_axioms f_axiomCount f_triples f_tripleCount f_rules f_instances f_counts f_premises f_rows f_stated f_marks f_broken f_text f_size f_sizes f_places) → lv_has ls 3 [(0, .ref (ad 0))] → W p l e ({ frames := 6, cells := 0, slots := 0, locals := 148 } : Room) s m args below meth c H locs 0 0 (MQ below (va_Qi (fun (r : Int32) (u : (Nat → Int32) × (Nat → Int32) × Int32) => post r.toInt (zF (u.1)) (zF (u.2.1)) (u.2.2).toInt) (kB (dC, dI) cl (tX50 d) A (fun u : (Nat → Int32) × (Nat → Int32) × Int32 => (wX50 ci ad d f_phrases f_axioms f_axiomCount f_triples f_tripleCount f_rules f_instances f_counts f_premises f_rows (u.1) f_marks f_broken (u.2.1) (u.2.2) f_sizes f_places))) A) args s 0 0 A) (F0 m 139 ls [])) :
    ∀ (nn : Nat) (x2 : Int32) (f_text : Nat → Int32) (f_size : Int32), wX50_sentence_94 K139 x1.toInt (zG f_phrases) (zF f_counts) (zF f_premises) nn x2.toInt (zF f_text) f_size.toInt → ∀ (H : Heap) (locs : List Loc) (ls : Array Slot), kH (dC, dI) cl A s.heap H locs (wX50 ci ad d f_phrases f_axioms f_axiomCount f_triples f_tripleCount f_rules f_instances f_counts f_premises f_rows f_stated f_marks f_broken f_text f_size f_sizes f_places) → lv_has ls 3 [(0, .ref (ad 0)), (1, .int x1), (2, .int x2)] → W p l e ({ frames := 6, cells := 0, slots := 0, locals := 148 } : Room) s m args below meth c H locs 0 0 (MQ below (va_Qi (fun (r : Int32) (u : (Nat → Int32) × (Nat → Int32) × Int32) => post r.toInt (zF (u.1)) (zF (u.2.1)) (u.2.2).toInt) (kB (dC, dI) cl (tX50 d) A (fun u : (Nat → Int32) × (Nat → Int32) × Int32 => (wX50 ci ad d f_phrases f_axioms f_axiomCount f_triples f_tripleCount f_rules f_instances f_counts f_premises f_rows (u.1) f_marks f_broken (u.2.1) (u.2.2) f_sizes f_places))) A) args s 0 0 A) (F0 m 94 ls []) := by
  have hx := X.1.1
  have hb := X.1.2.1
  intro nn
  induction nn with
  | zero =>
    intro x2 f_text f_size hw
    exact False.elim hw
  | succ n ih =>
    intro x2 f_text f_size hw H locs ls hH hl
    rw [wX50_sentence_94] at hw
    refine lv_iload_n hx hb dX50_sentence_94 rfl (lv_at hl 2 rfl) ?_
    refine lv_aload_n hx hb dX50_sentence_95 rfl (lv_at hl 0 rfl) ?_
    refine k_get X hH in_X50 0 rfl hc 7 (by decide) q6291 rfl dX50_sentence_96 ?_
    refine lv_iload_n hx hb dX50_sentence_99 rfl (lv_at hl 1 rfl) ?_
    have hq_36 := hw.1
    have hw := hw.2
    refine k_iald X hH 6 5 rfl rfl (z_in (rfl : x1.toInt = _) hq_36) dX50_sentence_100 ?_
    have e_37 := z_ld (f := f_counts) (rfl : x1.toInt = _) hq_36.1
    refine lv_icmp_ge (tgt := 139) hx hb dX50_sentence_101 (by decide) (fun c_38 => ?_) (fun c_38 => ?_)
    · have hw := hw.1 (z_le e_37 (rfl : x2.toInt = _) c_38)
      exact hk139 f_text f_size hw _ _ ls hH (lv_sub hl [0] rfl)
    · have hw := hw.2 (z_nle e_37 (rfl : x2.toInt = _) c_38)
      refine lv_aload_n hx hb dX50_sentence_104 rfl (lv_at hl 0 rfl) ?_
      refine lv_iload_n hx hb dX50_sentence_105 rfl (lv_at hl 2 rfl) ?_
      refine lv_if_ne (tgt := 114) hx hb dX50_sentence_106 (by decide) (fun c_39 => ?_) (fun c_39 => ?_)
      · have hw := hw.2 (z_ne (rfl : x2.toInt = _) (rfl : (0 : Int32).toInt = 0) c_39)
        refine lv_bipush (v := 39) hx hb dX50_sentence_114 (by decide) ?_
        refine k_v0 hH (k_runV (As := [.int 39]) (rest := []) X hH.1 hH.2.1 X.2.2.2 (walkX50_put hc (x1 := 39) (f_phrases := f_phrases) (f_axioms := f_axioms) (f_axiomCount := f_axiomCount) (f_triples := f_triples) (f_tripleCount := f_tripleCount) (f_rules := f_rules) (f_instances := f_instances) (f_counts := f_counts) (f_premises := f_premises) (f_rows := f_rows) (f_stated := f_stated) (f_marks := f_marks) (f_broken := f_broken) (f_text := f_text) (f_size := f_size) (f_sizes := f_sizes) (f_places := f_places) hw) (cwV 1 X.1.2.2.2.2 gX50_232 rfl rfl rfl hX50_put ⟨Nat.le_of_ble_eq_true rfl, Nat.le_of_ble_eq_true rfl⟩) hc (q0 := 0) rfl rfl hl.1 rfl (Nat.le_of_ble_eq_true rfl) dX50_sentence_116 ⟨Nat.le_refl 0, Nat.le_refl 0⟩) (fun u H locs hw hH => ?_)
        obtain ⟨f_text_40, f_size_41⟩ := u
        have hH : kH (dC, dI) cl A s.heap H locs (wX50 ci ad d f_phrases f_axioms f_axiomCount f_triples f_tripleCount f_rules f_instances f_counts f_premises f_rows f_stated f_marks f_broken f_text_40 f_size_41 f_sizes f_places) := hH
        refine lv_aload_n hx hb dX50_sentence_119 rfl (lv_at hl 0 rfl) ?_
        refine lv_aload_n hx hb dX50_sentence_120 rfl (lv_at hl 0 rfl) ?_
        refine k_get X hH in_X50 0 rfl hc 8 (by decide) q6292 rfl dX50_sentence_121 ?_
        refine lv_iconst (v := 3) hx hb dX50_sentence_124 (by decide) ?_
        refine lv_iload_n hx hb dX50_sentence_125 rfl (lv_at hl 1 rfl) ?_
        refine lv_imul hx hb dX50_sentence_126 ?_
        have e_42 := z_mul (z_m (rfl : (3 : Int32).toInt = 3)) (z_m (rfl : x1.toInt = _))
        refine lv_iload_n hx hb dX50_sentence_127 rfl (lv_at hl 2 rfl) ?_
        refine lv_iadd hx hb dX50_sentence_128 ?_
        have e_43 := z_add e_42 (z_m (rfl : x2.toInt = _))
        have hq_44 := hw.1
        have hw := hw.2
        have e_45 := z_xi e_43 hq_44 (by decide)
        refine k_iald X hH 7 6 rfl rfl (z_in e_45 hq_44) dX50_sentence_129 ?_
        have e_46 := z_ld (f := f_premises) e_45 hq_44.1
        refine k_v0 hH (k_runV (As := [.int (f_premises ((3 * x1) + x2).toNatClampNeg)]) (rest := []) X hH.1 hH.2.1 X.2.2.2 (walkX50_number hc (x1 := (f_premises ((3 * x1) + x2).toNatClampNeg)) (f_phrases := f_phrases) (f_axioms := f_axioms) (f_axiomCount := f_axiomCount) (f_triples := f_triples) (f_tripleCount := f_tripleCount) (f_rules := f_rules) (f_instances := f_instances) (f_counts := f_counts) (f_premises := f_premises) (f_rows := f_rows) (f_stated := f_stated) (f_marks := f_marks) (f_broken := f_broken) (f_text := f_text_40) (f_size := f_size_41) (f_sizes := f_sizes) (f_places := f_places) (by rw [show (f_premises ((3 * x1) + x2).toNatClampNeg : Int32).toInt = _ from e_46]; exact hw)) (cwV 1 X.1.2.2.2.2 gX50_235 rfl rfl rfl hX50_number ⟨Nat.le_of_ble_eq_true rfl, Nat.le_of_ble_eq_true rfl⟩) hc (q0 := 0) rfl rfl hl.1 rfl (Nat.le_of_ble_eq_true rfl) dX50_sentence_130 ⟨Nat.le_refl 0, Nat.le_refl 0⟩) (fun u H locs hw hH => ?_)
        obtain ⟨f_text_47, f_size_48⟩ := u
        have hH : kH (dC, dI) cl A s.heap H locs (wX50 ci ad d f_phrases f_axioms f_axiomCount f_triples f_tripleCount f_rules f_instances f_counts f_premises f_rows f_stated f_marks f_broken f_text_47 f_size_48 f_sizes f_places) := hH
        have hq_50 := hw.1
        have hw := hw.2
        obtain ⟨x2_49, ex2_49⟩ : ∃ y : Int32, y = x2 + 1 := ⟨_, rfl⟩
        have hw := hw x2_49.toInt (by rw [ex2_49]; exact (z_x (z_add (z_m (rfl : x2.toInt = _)) (z_m (rfl : (1 : Int32).toInt = 1))) hq_50))
        refine lv_iinc (v := x2_49) (lv' := [(2, .int x2_49), (0, .ref (ad 0)), (1, .int x1)]) hx hb dX50_sentence_133 hl (k := 2) rfl (by rw [ex2_49]; rfl) (by decide) rfl (fun ls hl => ?_)
        refine lv_goto (tgt := 94) hx hb dX50_sentence_136 (by decide) ?_
        exact ih x2_49 f_text_47 f_size_48 hw _ _ ls hH (lv_sub hl [1, 2, 0] rfl)
      · have hw := hw.1 (z_eq (rfl : x2.toInt = _) (rfl : (0 : Int32).toInt = 0) c_39)
        refine lv_bipush (v := 38) hx hb dX50_sentence_109 (by decide) ?_
        refine lv_goto (tgt := 116) hx hb dX50_sentence_111 (by decide) ?_
        refine k_v0 hH (k_runV (As := [.int 38]) (rest := []) X hH.1 hH.2.1 X.2.2.2 (walkX50_put hc (x1 := 38) (f_phrases := f_phrases) (f_axioms := f_axioms) (f_axiomCount := f_axiomCount) (f_triples := f_triples) (f_tripleCount := f_tripleCount) (f_rules := f_rules) (f_instances := f_instances) (f_counts := f_counts) (f_premises := f_premises) (f_rows := f_rows) (f_stated := f_stated) (f_marks := f_marks) (f_broken := f_broken) (f_text := f_text) (f_size := f_size) (f_sizes := f_sizes) (f_places := f_places) hw) (cwV 1 X.1.2.2.2.2 gX50_232 rfl rfl rfl hX50_put ⟨Nat.le_of_ble_eq_true rfl, Nat.le_of_ble_eq_true rfl⟩) hc (q0 := 0) rfl rfl hl.1 rfl (Nat.le_of_ble_eq_true rfl) dX50_sentence_116 ⟨Nat.le_refl 0, Nat.le_refl 0⟩) (fun u H locs hw hH => ?_)
        obtain ⟨f_text_51, f_size_52⟩ := u
        have hH : kH (dC, dI) cl A s.heap H locs (wX50 ci ad d f_phrases f_axioms f_axiomCount f_triples f_tripleCount f_rules f_instances f_counts f_premises f_rows f_stated f_marks f_broken f_text_51 f_size_52 f_sizes f_places) := hH
        refine lv_aload_n hx hb dX50_sentence_119 rfl (lv_at hl 0 rfl) ?_
        refine lv_aload_n hx hb dX50_sentence_120 rfl (lv_at hl 0 rfl) ?_
        refine k_get X hH in_X50 0 rfl hc 8 (by decide) q6292 rfl dX50_sentence_121 ?_
        refine lv_iconst (v := 3) hx hb dX50_sentence_124 (by decide) ?_
        refine lv_iload_n hx hb dX50_sentence_125 rfl (lv_at hl 1 rfl) ?_
        refine lv_imul hx hb dX50_sentence_126 ?_
        have e_53 := z_mul (z_m (rfl : (3 : Int32).toInt = 3)) (z_m (rfl : x1.toInt = _))
        refine lv_iload_n hx hb dX50_sentence_127 rfl (lv_at hl 2 rfl) ?_
        refine lv_iadd hx hb dX50_sentence_128 ?_
        have e_54 := z_add e_53 (z_m (rfl : x2.toInt = _))
        have hq_55 := hw.1
        have hw := hw.2
        have e_56 := z_xi e_54 hq_55 (by decide)
        refine k_iald X hH 7 6 rfl rfl (z_in e_56 hq_55) dX50_sentence_129 ?_
        have e_57 := z_ld (f := f_premises) e_56 hq_55.1
        refine k_v0 hH (k_runV (As := [.int (f_premises ((3 * x1) + x2).toNatClampNeg)]) (rest := []) X hH.1 hH.2.1 X.2.2.2 (walkX50_number hc (x1 := (f_premises ((3 * x1) + x2).toNatClampNeg)) (f_phrases := f_phrases) (f_axioms := f_axioms) (f_axiomCount := f_axiomCount) (f_triples := f_triples) (f_tripleCount := f_tripleCount) (f_rules := f_rules) (f_instances := f_instances) (f_counts := f_counts) (f_premises := f_premises) (f_rows := f_rows) (f_stated := f_stated) (f_marks := f_marks) (f_broken := f_broken) (f_text := f_text_51) (f_size := f_size_52) (f_sizes := f_sizes) (f_places := f_places) (by rw [show (f_premises ((3 * x1) + x2).toNatClampNeg : Int32).toInt = _ from e_57]; exact hw)) (cwV 1 X.1.2.2.2.2 gX50_235 rfl rfl rfl hX50_number ⟨Nat.le_of_ble_eq_true rfl, Nat.le_of_ble_eq_true rfl⟩) hc (q0 := 0) rfl rfl hl.1 rfl (Nat.le_of_ble_eq_true rfl) dX50_sentence_130 ⟨Nat.le_refl 0, Nat.le_refl 0⟩) (fun u H locs hw hH => ?_)
        obtain ⟨f_text_58, f_size_59⟩ := u
        have hH : kH (dC, dI) cl A s.heap H locs (wX50 ci ad d f_phrases f_axioms f_axiomCount f_triples f_tripleCount f_rules f_instances f_counts f_premises f_rows f_stated f_marks f_broken f_text_58 f_size_59 f_sizes f_places) := hH
        have hq_61 := hw.1
        have hw := hw.2
        obtain ⟨x2_60, ex2_60⟩ : ∃ y : Int32, y = x2 + 1 := ⟨_, rfl⟩
        have hw := hw x2_60.toInt (by rw [ex2_60]; exact (z_x (z_add (z_m (rfl : x2.toInt = _)) (z_m (rfl : (1 : Int32).toInt = 1))) hq_61))
        refine lv_iinc (v := x2_60) (lv' := [(2, .int x2_60), (0, .ref (ad 0)), (1, .int x1)]) hx hb dX50_sentence_133 hl (k := 2) rfl (by rw [ex2_60]; rfl) (by decide) rfl (fun ls hl => ?_)
        refine lv_goto (tgt := 94) hx hb dX50_sentence_136 (by decide) ?_
        exact ih x2_60 f_text_58 f_size_59 hw _ _ ls hH (lv_sub hl [1, 2, 0] rfl)
set_option maxHeartbeats 4000000 in
theorem walkX50_sentence {l : Launch} {dC : Nat → ClassId} {dI : Nat → Nat → Nat} {cl : List vw_C} {ci : Nat} (hc : cl[ci]? = some (RX50, TX50, 17)) {ad : Nat → Nat} {d : Nat → ClassId} {sz : Nat} {f_phrases : Nat → Int64} {f_axioms : Nat → Int32} {f_axiomCount : Int32} {f_triples : Nat → Int32} {f_tripleCount : Int32} {f_rules : Nat → Int32} {f_instances : Nat → Int32} {f_counts : Nat → Int32} {f_premises : Nat → Int32} {f_rows : Int32} {f_stated : Nat → Int32} {f_marks : Nat → Int32} {f_broken : Int32} {f_text : Nat → Int32} {f_size : Int32} {f_sizes : Nat → Int32} {f_places : Nat → Int32} {x1 : Int32} {post : Int → (Int → Int) → (Int → Int) → Int → Prop} (hw : wpX50_sentence post (zG f_phrases) (zF f_axioms) (zF f_triples) (zF f_rules) (zF f_instances) (zF f_counts) (zF f_premises) f_rows.toInt (zF f_stated) (zF f_text) f_size.toInt x1.toInt) :
    Met l yX50_sentence (ws_ yX50_sentence cX50_sentence 3 (some .int)) ({ frames := 6, cells := 0, slots := 0, locals := 148 } : Room) (kPc (dC, dI) cl (tX50 d) [.ref (ad 0), .int x1] sz (wX50 ci ad d f_phrases f_axioms f_axiomCount f_triples f_tripleCount f_rules f_instances f_counts f_premises f_rows f_stated f_marks f_broken f_text f_size f_sizes f_places)) (va_Qi (fun (r : Int32) (u : (Nat → Int32) × (Nat → Int32) × Int32) => post r.toInt (zF (u.1)) (zF (u.2.1)) (u.2.2).toInt) (kB (dC, dI) cl (tX50 d) (va_A (wX50 ci ad d f_phrases f_axioms f_axiomCount f_triples f_tripleCount f_rules f_instances f_counts f_premises f_rows f_stated f_marks f_broken f_text f_size f_sizes f_places) sz) (fun u : (Nat → Int32) × (Nat → Int32) × Int32 => (wX50 ci ad d f_phrases f_axioms f_axiomCount f_triples f_tripleCount f_rules f_instances f_counts f_premises f_rows (u.1) f_marks f_broken (u.2.1) (u.2.2) f_sizes f_places))) (va_A (wX50 ci ad d f_phrases f_axioms f_axiomCount f_triples f_tripleCount f_rules f_instances f_counts f_premises f_rows f_stated f_marks f_broken f_text f_size f_sizes f_places) sz)) 0 0 (va_A (wX50 ci ad d f_phrases f_axioms f_axiomCount f_triples f_tripleCount f_rules f_instances f_counts f_premises f_rows f_stated f_marks f_broken f_text f_size f_sizes f_places) sz) := by
  refine k_enter (by decide) (Nat.le_of_ble_eq_true rfl) ?_
  intro p e s m below meth c ls X hsz hH hl
  subst hsz
  generalize va_A (wX50 ci ad d f_phrases f_axioms f_axiomCount f_triples f_tripleCount f_rules f_instances f_counts f_premises f_rows f_stated f_marks f_broken f_text f_size f_sizes f_places) s.heap.size = A at hH ⊢
  have hx := X.1.1
  have hb := X.1.2.1
  have hl : lv_has ls 3 [(0, .ref (ad 0)), (1, .int x1)] := hl
  unfold wpX50_sentence at hw
  refine lv_aload_n hx hb dX50_sentence_0 rfl (lv_at hl 0 rfl) ?_
  refine lv_iload_n hx hb dX50_sentence_1 rfl (lv_at hl 1 rfl) ?_
  refine k_i0 hH (k_runV (As := [.int x1]) (rest := []) X hH.1 hH.2.1 X.2.2.2 (walkX50_isRow hc (x1 := x1) (f_phrases := f_phrases) (f_axioms := f_axioms) (f_axiomCount := f_axiomCount) (f_triples := f_triples) (f_tripleCount := f_tripleCount) (f_rules := f_rules) (f_instances := f_instances) (f_counts := f_counts) (f_premises := f_premises) (f_rows := f_rows) (f_stated := f_stated) (f_marks := f_marks) (f_broken := f_broken) (f_text := f_text) (f_size := f_size) (f_sizes := f_sizes) (f_places := f_places) hw) (cwV 1 X.1.2.2.2.2 gX50_174 rfl rfl rfl hX50_isRow ⟨Nat.le_of_ble_eq_true rfl, Nat.le_of_ble_eq_true rfl⟩) hc (q0 := 0) rfl rfl hl.1 rfl (Nat.le_of_ble_eq_true rfl) dX50_sentence_2 ⟨Nat.le_refl 0, Nat.le_refl 0⟩) (fun r_1 _ H locs hw hH => ?_)
  have hH : kH (dC, dI) cl A s.heap H locs (wX50 ci ad d f_phrases f_axioms f_axiomCount f_triples f_tripleCount f_rules f_instances f_counts f_premises f_rows f_stated f_marks f_broken f_text f_size f_sizes f_places) := hH
  refine lv_if_ne (tgt := 10) hx hb dX50_sentence_5 (by decide) (fun c_2 => ?_) (fun c_2 => ?_)
  · have hw := hw.2 (z_ne (rfl : r_1.toInt = _) (rfl : (0 : Int32).toInt = 0) c_2)
    refine lv_aload_n hx hb dX50_sentence_10 rfl (lv_at hl 0 rfl) ?_
    refine lv_iload_n hx hb dX50_sentence_11 rfl (lv_at hl 1 rfl) ?_
    refine k_v0 hH (k_runV (As := [.int x1]) (rest := []) X hH.1 hH.2.1 X.2.2.2 (walkX50_work hc (x1 := x1) (f_phrases := f_phrases) (f_axioms := f_axioms) (f_axiomCount := f_axiomCount) (f_triples := f_triples) (f_tripleCount := f_tripleCount) (f_rules := f_rules) (f_instances := f_instances) (f_counts := f_counts) (f_premises := f_premises) (f_rows := f_rows) (f_stated := f_stated) (f_marks := f_marks) (f_broken := f_broken) (f_text := f_text) (f_size := f_size) (f_sizes := f_sizes) (f_places := f_places) hw) (cwV 1 X.1.2.2.2.2 gX50_215 rfl rfl rfl hX50_work ⟨Nat.le_of_ble_eq_true rfl, Nat.le_of_ble_eq_true rfl⟩) hc (q0 := 0) rfl rfl hl.1 rfl (Nat.le_of_ble_eq_true rfl) dX50_sentence_12 ⟨Nat.le_refl 0, Nat.le_refl 0⟩) (fun u H locs hw hH => ?_)
    obtain ⟨f_stated_3, eu⟩ : ∃ z, z = u := ⟨_, rfl⟩
    subst eu
    have hH : kH (dC, dI) cl A s.heap H locs (wX50 ci ad d f_phrases f_axioms f_axiomCount f_triples f_tripleCount f_rules f_instances f_counts f_premises f_rows f_stated_3 f_marks f_broken f_text f_size f_sizes f_places) := hH
    refine lv_aload_n hx hb dX50_sentence_15 rfl (lv_at hl 0 rfl) ?_
    refine lv_iconst (v := 0) hx hb dX50_sentence_16 (by decide) ?_
    refine k_put X hH in_X50 tyX50_ok nmX50 0 rfl hc 14 (by decide) q6298 rfl (ty := .int) rfl rfl rfl (Nat.le_of_ble_eq_true rfl) dX50_sentence_17 (ws1 := (wX50 ci ad d f_phrases f_axioms f_axiomCount f_triples f_tripleCount f_rules f_instances f_counts f_premises f_rows f_stated_3 f_marks f_broken f_text 0 f_sizes f_places)) rfl (fun H locs hH => ?_)
    refine lv_aload_n hx hb dX50_sentence_20 rfl (lv_at hl 0 rfl) ?_
    refine lv_iload_n hx hb dX50_sentence_21 rfl (lv_at hl 1 rfl) ?_
    refine k_v0 hH (k_runV (As := [.int x1]) (rest := []) X hH.1 hH.2.1 X.2.2.2 (walkX50_number hc (x1 := x1) (f_phrases := f_phrases) (f_axioms := f_axioms) (f_axiomCount := f_axiomCount) (f_triples := f_triples) (f_tripleCount := f_tripleCount) (f_rules := f_rules) (f_instances := f_instances) (f_counts := f_counts) (f_premises := f_premises) (f_rows := f_rows) (f_stated := f_stated_3) (f_marks := f_marks) (f_broken := f_broken) (f_text := f_text) (f_size := 0) (f_sizes := f_sizes) (f_places := f_places) hw) (cwV 1 X.1.2.2.2.2 gX50_235 rfl rfl rfl hX50_number ⟨Nat.le_of_ble_eq_true rfl, Nat.le_of_ble_eq_true rfl⟩) hc (q0 := 0) rfl rfl hl.1 rfl (Nat.le_of_ble_eq_true rfl) dX50_sentence_22 ⟨Nat.le_refl 0, Nat.le_refl 0⟩) (fun u H locs hw hH => ?_)
    obtain ⟨f_text_4, f_size_5⟩ := u
    have hH : kH (dC, dI) cl A s.heap H locs (wX50 ci ad d f_phrases f_axioms f_axiomCount f_triples f_tripleCount f_rules f_instances f_counts f_premises f_rows f_stated_3 f_marks f_broken f_text_4 f_size_5 f_sizes f_places) := hH
    refine lv_aload_n hx hb dX50_sentence_25 rfl (lv_at hl 0 rfl) ?_
    refine lv_bipush (v := 36) hx hb dX50_sentence_26 (by decide) ?_
    refine k_v0 hH (k_runV (As := [.int 36]) (rest := []) X hH.1 hH.2.1 X.2.2.2 (walkX50_put hc (x1 := 36) (f_phrases := f_phrases) (f_axioms := f_axioms) (f_axiomCount := f_axiomCount) (f_triples := f_triples) (f_tripleCount := f_tripleCount) (f_rules := f_rules) (f_instances := f_instances) (f_counts := f_counts) (f_premises := f_premises) (f_rows := f_rows) (f_stated := f_stated_3) (f_marks := f_marks) (f_broken := f_broken) (f_text := f_text_4) (f_size := f_size_5) (f_sizes := f_sizes) (f_places := f_places) hw) (cwV 1 X.1.2.2.2.2 gX50_232 rfl rfl rfl hX50_put ⟨Nat.le_of_ble_eq_true rfl, Nat.le_of_ble_eq_true rfl⟩) hc (q0 := 0) rfl rfl hl.1 rfl (Nat.le_of_ble_eq_true rfl) dX50_sentence_28 ⟨Nat.le_refl 0, Nat.le_refl 0⟩) (fun u H locs hw hH => ?_)
    obtain ⟨f_text_6, f_size_7⟩ := u
    have hH : kH (dC, dI) cl A s.heap H locs (wX50 ci ad d f_phrases f_axioms f_axiomCount f_triples f_tripleCount f_rules f_instances f_counts f_premises f_rows f_stated_3 f_marks f_broken f_text_6 f_size_7 f_sizes f_places) := hH
    refine lv_aload_n hx hb dX50_sentence_31 rfl (lv_at hl 0 rfl) ?_
    refine lv_aload_n hx hb dX50_sentence_32 rfl (lv_at hl 0 rfl) ?_
    refine k_get X hH in_X50 0 rfl hc 10 (by decide) q6294 rfl dX50_sentence_33 ?_
    refine lv_iconst (v := 4) hx hb dX50_sentence_36 (by decide) ?_
    refine lv_iload_n hx hb dX50_sentence_37 rfl (lv_at hl 1 rfl) ?_
    refine lv_imul hx hb dX50_sentence_38 ?_
    have e_8 := z_mul (z_m (rfl : (4 : Int32).toInt = 4)) (z_m (rfl : x1.toInt = _))
    have hq_9 := hw.1
    have hw := hw.2
    have e_10 := z_xi e_8 hq_9 (by decide)
    refine k_iald X hH 8 7 rfl rfl (z_in e_10 hq_9) dX50_sentence_39 ?_
    have e_11 := z_ld (f := f_stated_3) e_10 hq_9.1
    refine lv_aload_n hx hb dX50_sentence_40 rfl (lv_at hl 0 rfl) ?_
    refine k_get X hH in_X50 0 rfl hc 10 (by decide) q6294 rfl dX50_sentence_41 ?_
    refine lv_iconst (v := 4) hx hb dX50_sentence_44 (by decide) ?_
    refine lv_iload_n hx hb dX50_sentence_45 rfl (lv_at hl 1 rfl) ?_
    refine lv_imul hx hb dX50_sentence_46 ?_
    have e_12 := z_mul (z_m (rfl : (4 : Int32).toInt = 4)) (z_m (rfl : x1.toInt = _))
    refine lv_iconst (v := 1) hx hb dX50_sentence_47 (by decide) ?_
    refine lv_iadd hx hb dX50_sentence_48 ?_
    have e_13 := z_add e_12 (z_m (rfl : (1 : Int32).toInt = 1))
    have hq_14 := hw.1
    have hw := hw.2
    have e_15 := z_xi e_13 hq_14 (by decide)
    refine k_iald X hH 8 7 rfl rfl (z_in e_15 hq_14) dX50_sentence_49 ?_
    have e_16 := z_ld (f := f_stated_3) e_15 hq_14.1
    refine lv_aload_n hx hb dX50_sentence_50 rfl (lv_at hl 0 rfl) ?_
    refine k_get X hH in_X50 0 rfl hc 10 (by decide) q6294 rfl dX50_sentence_51 ?_
    refine lv_iconst (v := 4) hx hb dX50_sentence_54 (by decide) ?_
    refine lv_iload_n hx hb dX50_sentence_55 rfl (lv_at hl 1 rfl) ?_
    refine lv_imul hx hb dX50_sentence_56 ?_
    have e_17 := z_mul (z_m (rfl : (4 : Int32).toInt = 4)) (z_m (rfl : x1.toInt = _))
    refine lv_iconst (v := 2) hx hb dX50_sentence_57 (by decide) ?_
    refine lv_iadd hx hb dX50_sentence_58 ?_
    have e_18 := z_add e_17 (z_m (rfl : (2 : Int32).toInt = 2))
    have hq_19 := hw.1
    have hw := hw.2
    have e_20 := z_xi e_18 hq_19 (by decide)
    refine k_iald X hH 8 7 rfl rfl (z_in e_20 hq_19) dX50_sentence_59 ?_
    have e_21 := z_ld (f := f_stated_3) e_20 hq_19.1
    refine lv_aload_n hx hb dX50_sentence_60 rfl (lv_at hl 0 rfl) ?_
    refine k_get X hH in_X50 0 rfl hc 10 (by decide) q6294 rfl dX50_sentence_61 ?_
    refine lv_iconst (v := 4) hx hb dX50_sentence_64 (by decide) ?_
    refine lv_iload_n hx hb dX50_sentence_65 rfl (lv_at hl 1 rfl) ?_
    refine lv_imul hx hb dX50_sentence_66 ?_
    have e_22 := z_mul (z_m (rfl : (4 : Int32).toInt = 4)) (z_m (rfl : x1.toInt = _))
    refine lv_iconst (v := 3) hx hb dX50_sentence_67 (by decide) ?_
    refine lv_iadd hx hb dX50_sentence_68 ?_
    have e_23 := z_add e_22 (z_m (rfl : (3 : Int32).toInt = 3))
    have hq_24 := hw.1
    have hw := hw.2
    have e_25 := z_xi e_23 hq_24 (by decide)
    refine k_iald X hH 8 7 rfl rfl (z_in e_25 hq_24) dX50_sentence_69 ?_
    have e_26 := z_ld (f := f_stated_3) e_25 hq_24.1
    refine k_v0 hH (k_runV (As := [.int (f_stated_3 (4 * x1).toNatClampNeg), .int (f_stated_3 ((4 * x1) + 1).toNatClampNeg), .int (f_stated_3 ((4 * x1) + 2).toNatClampNeg), .int (f_stated_3 ((4 * x1) + 3).toNatClampNeg)]) (rest := []) X hH.1 hH.2.1 X.2.2.2 (walkX50_statement hc (x1 := (f_stated_3 (4 * x1).toNatClampNeg)) (x2 := (f_stated_3 ((4 * x1) + 1).toNatClampNeg)) (x3 := (f_stated_3 ((4 * x1) + 2).toNatClampNeg)) (x4 := (f_stated_3 ((4 * x1) + 3).toNatClampNeg)) (f_phrases := f_phrases) (f_axioms := f_axioms) (f_axiomCount := f_axiomCount) (f_triples := f_triples) (f_tripleCount := f_tripleCount) (f_rules := f_rules) (f_instances := f_instances) (f_counts := f_counts) (f_premises := f_premises) (f_rows := f_rows) (f_stated := f_stated_3) (f_marks := f_marks) (f_broken := f_broken) (f_text := f_text_6) (f_size := f_size_7) (f_sizes := f_sizes) (f_places := f_places) (by rw [show (f_stated_3 (4 * x1).toNatClampNeg : Int32).toInt = _ from e_11, show (f_stated_3 ((4 * x1) + 1).toNatClampNeg : Int32).toInt = _ from e_16, show (f_stated_3 ((4 * x1) + 2).toNatClampNeg : Int32).toInt = _ from e_21, show (f_stated_3 ((4 * x1) + 3).toNatClampNeg : Int32).toInt = _ from e_26]; exact hw)) (cwV 4 X.1.2.2.2.2 gX50_238 rfl rfl rfl hX50_statement ⟨Nat.le_of_ble_eq_true rfl, Nat.le_of_ble_eq_true rfl⟩) hc (q0 := 0) rfl rfl hl.1 rfl (Nat.le_of_ble_eq_true rfl) dX50_sentence_70 ⟨Nat.le_refl 0, Nat.le_refl 0⟩) (fun u H locs hw hH => ?_)
    obtain ⟨f_text_27, f_size_28⟩ := u
    have hH : kH (dC, dI) cl A s.heap H locs (wX50 ci ad d f_phrases f_axioms f_axiomCount f_triples f_tripleCount f_rules f_instances f_counts f_premises f_rows f_stated_3 f_marks f_broken f_text_27 f_size_28 f_sizes f_places) := hH
    refine lv_aload_n hx hb dX50_sentence_73 rfl (lv_at hl 0 rfl) ?_
    refine lv_bipush (v := 37) hx hb dX50_sentence_74 (by decide) ?_
    refine k_v0 hH (k_runV (As := [.int 37]) (rest := []) X hH.1 hH.2.1 X.2.2.2 (walkX50_put hc (x1 := 37) (f_phrases := f_phrases) (f_axioms := f_axioms) (f_axiomCount := f_axiomCount) (f_triples := f_triples) (f_tripleCount := f_tripleCount) (f_rules := f_rules) (f_instances := f_instances) (f_counts := f_counts) (f_premises := f_premises) (f_rows := f_rows) (f_stated := f_stated_3) (f_marks := f_marks) (f_broken := f_broken) (f_text := f_text_27) (f_size := f_size_28) (f_sizes := f_sizes) (f_places := f_places) hw) (cwV 1 X.1.2.2.2.2 gX50_232 rfl rfl rfl hX50_put ⟨Nat.le_of_ble_eq_true rfl, Nat.le_of_ble_eq_true rfl⟩) hc (q0 := 0) rfl rfl hl.1 rfl (Nat.le_of_ble_eq_true rfl) dX50_sentence_76 ⟨Nat.le_refl 0, Nat.le_refl 0⟩) (fun u H locs hw hH => ?_)
    obtain ⟨f_text_29, f_size_30⟩ := u
    have hH : kH (dC, dI) cl A s.heap H locs (wX50 ci ad d f_phrases f_axioms f_axiomCount f_triples f_tripleCount f_rules f_instances f_counts f_premises f_rows f_stated_3 f_marks f_broken f_text_29 f_size_30 f_sizes f_places) := hH
    refine lv_aload_n hx hb dX50_sentence_79 rfl (lv_at hl 0 rfl) ?_
    refine lv_aload_n hx hb dX50_sentence_80 rfl (lv_at hl 0 rfl) ?_
    refine k_get X hH in_X50 0 rfl hc 5 (by decide) q6289 rfl dX50_sentence_81 ?_
    refine lv_iload_n hx hb dX50_sentence_84 rfl (lv_at hl 1 rfl) ?_
    have hq_31 := hw.1
    have hw := hw.2
    refine k_iald X hH 4 3 rfl rfl (z_in (rfl : x1.toInt = _) hq_31) dX50_sentence_85 ?_
    have e_32 := z_ld (f := f_rules) (rfl : x1.toInt = _) hq_31.1
    refine k_i0 hH (k_runS (As := [.int (f_rules x1.toNatClampNeg)]) (rest := [.ref (ad 0)]) X hH.1 hH.2.1 X.2.2.2 (walkX50_wordOf hc (x0 := (f_rules x1.toNatClampNeg)) (f_phrases := f_phrases) (f_axioms := f_axioms) (f_axiomCount := f_axiomCount) (f_triples := f_triples) (f_tripleCount := f_tripleCount) (f_rules := f_rules) (f_instances := f_instances) (f_counts := f_counts) (f_premises := f_premises) (f_rows := f_rows) (f_stated := f_stated_3) (f_marks := f_marks) (f_broken := f_broken) (f_text := f_text_29) (f_size := f_size_30) (f_sizes := f_sizes) (f_places := f_places) (by rw [show (f_rules x1.toNatClampNeg : Int32).toInt = _ from e_32]; exact hw)) (va_cwS 1 X.1.2.2.2.2 gX50_241 rfl rfl rfl hX50_wordOf ⟨Nat.le_of_ble_eq_true rfl, Nat.le_of_ble_eq_true rfl⟩) rfl hl.1 rfl (Nat.le_of_ble_eq_true rfl) dX50_sentence_86 ⟨Nat.le_refl 0, Nat.le_refl 0⟩) (fun r_33 _ H locs hw hH => ?_)
    have hH : kH (dC, dI) cl A s.heap H locs (wX50 ci ad d f_phrases f_axioms f_axiomCount f_triples f_tripleCount f_rules f_instances f_counts f_premises f_rows f_stated_3 f_marks f_broken f_text_29 f_size_30 f_sizes f_places) := hH
    refine k_v0 hH (k_runV (As := [.int r_33]) (rest := []) X hH.1 hH.2.1 X.2.2.2 (walkX50_put hc (x1 := r_33) (f_phrases := f_phrases) (f_axioms := f_axioms) (f_axiomCount := f_axiomCount) (f_triples := f_triples) (f_tripleCount := f_tripleCount) (f_rules := f_rules) (f_instances := f_instances) (f_counts := f_counts) (f_premises := f_premises) (f_rows := f_rows) (f_stated := f_stated_3) (f_marks := f_marks) (f_broken := f_broken) (f_text := f_text_29) (f_size := f_size_30) (f_sizes := f_sizes) (f_places := f_places) hw) (cwV 1 X.1.2.2.2.2 gX50_232 rfl rfl rfl hX50_put ⟨Nat.le_of_ble_eq_true rfl, Nat.le_of_ble_eq_true rfl⟩) hc (q0 := 0) rfl rfl hl.1 rfl (Nat.le_of_ble_eq_true rfl) dX50_sentence_89 ⟨Nat.le_refl 0, Nat.le_refl 0⟩) (fun u H locs hw hH => ?_)
    obtain ⟨f_text_34, f_size_35⟩ := u
    have hH : kH (dC, dI) cl A s.heap H locs (wX50 ci ad d f_phrases f_axioms f_axiomCount f_triples f_tripleCount f_rules f_instances f_counts f_premises f_rows f_stated_3 f_marks f_broken f_text_34 f_size_35 f_sizes f_places) := hH
    refine lv_iconst (v := 0) hx hb dX50_sentence_92 (by decide) ?_
    refine lv_istore_n (lv' := [(2, .int 0), (0, .ref (ad 0)), (1, .int x1)]) hx hb dX50_sentence_93 rfl hl (by decide) rfl (fun ls hl => ?_)
    obtain ⟨fu, hw⟩ := hw
    refine atX50_sentence_94 hc X ?_ fu 0 f_text_34 f_size_35 hw _ _ ls hH (lv_sub hl [1, 2, 0] rfl)
    · intro f_text_62 f_size_63 hw H locs ls hH hl
      refine lv_aload_n hx hb dX50_sentence_139 rfl (lv_at hl 0 rfl) ?_
      refine lv_bipush (v := 40) hx hb dX50_sentence_140 (by decide) ?_
      refine k_v0 hH (k_runV (As := [.int 40]) (rest := []) X hH.1 hH.2.1 X.2.2.2 (walkX50_put hc (x1 := 40) (f_phrases := f_phrases) (f_axioms := f_axioms) (f_axiomCount := f_axiomCount) (f_triples := f_triples) (f_tripleCount := f_tripleCount) (f_rules := f_rules) (f_instances := f_instances) (f_counts := f_counts) (f_premises := f_premises) (f_rows := f_rows) (f_stated := f_stated_3) (f_marks := f_marks) (f_broken := f_broken) (f_text := f_text_62) (f_size := f_size_63) (f_sizes := f_sizes) (f_places := f_places) hw) (cwV 1 X.1.2.2.2.2 gX50_232 rfl rfl rfl hX50_put ⟨Nat.le_of_ble_eq_true rfl, Nat.le_of_ble_eq_true rfl⟩) hc (q0 := 0) rfl rfl hl.1 rfl (Nat.le_of_ble_eq_true rfl) dX50_sentence_142 ⟨Nat.le_refl 0, Nat.le_refl 0⟩) (fun u H locs hw hH => ?_)
      obtain ⟨f_text_64, f_size_65⟩ := u
      have hH : kH (dC, dI) cl A s.heap H locs (wX50 ci ad d f_phrases f_axioms f_axiomCount f_triples f_tripleCount f_rules f_instances f_counts f_premises f_rows f_stated_3 f_marks f_broken f_text_64 f_size_65 f_sizes f_places) := hH
      refine lv_aload_n hx hb dX50_sentence_145 rfl (lv_at hl 0 rfl) ?_
      refine k_get X hH in_X50 0 rfl hc 14 (by decide) q6298 rfl dX50_sentence_146 ?_
      exact k_iret (v := f_size_65) X hH (f_stated_3, f_text_64, f_size_65) hw rfl rfl dX50_sentence_149
  · have hw := hw.1 (z_eq (rfl : r_1.toInt = _) (rfl : (0 : Int32).toInt = 0) c_2)
    refine lv_iconst (v := (-1)) hx hb dX50_sentence_8 (by decide) ?_
    exact k_iret (v := (-1)) X hH (f_stated, f_text, f_size) hw rfl rfl dX50_sentence_9
set_option maxHeartbeats 4000000 in
theorem walkX50_at {l : Launch} {dC : Nat → ClassId} {dI : Nat → Nat → Nat} {cl : List vw_C} {ci : Nat} (hc : cl[ci]? = some (RX50, TX50, 17)) {ad : Nat → Nat} {d : Nat → ClassId} {sz : Nat} {f_phrases : Nat → Int64} {f_axioms : Nat → Int32} {f_axiomCount : Int32} {f_triples : Nat → Int32} {f_tripleCount : Int32} {f_rules : Nat → Int32} {f_instances : Nat → Int32} {f_counts : Nat → Int32} {f_premises : Nat → Int32} {f_rows : Int32} {f_stated : Nat → Int32} {f_marks : Nat → Int32} {f_broken : Int32} {f_text : Nat → Int32} {f_size : Int32} {f_sizes : Nat → Int32} {f_places : Nat → Int32} {x1 : Int32} {post : Int → Prop} (hw : wpX50_at post (zF f_text) f_size.toInt x1.toInt) :
    Met l yX50_at (ws_ yX50_at cX50_at 2 (some .int)) ({ frames := 0, cells := 0, slots := 0, locals := 0 } : Room) (kPc (dC, dI) cl (tX50 d) [.ref (ad 0), .int x1] sz (wX50 ci ad d f_phrases f_axioms f_axiomCount f_triples f_tripleCount f_rules f_instances f_counts f_premises f_rows f_stated f_marks f_broken f_text f_size f_sizes f_places)) (va_Qi (fun (r : Int32) (_ : Unit) => post r.toInt) (kB (dC, dI) cl (tX50 d) (va_A (wX50 ci ad d f_phrases f_axioms f_axiomCount f_triples f_tripleCount f_rules f_instances f_counts f_premises f_rows f_stated f_marks f_broken f_text f_size f_sizes f_places) sz) (fun _ : Unit => (wX50 ci ad d f_phrases f_axioms f_axiomCount f_triples f_tripleCount f_rules f_instances f_counts f_premises f_rows f_stated f_marks f_broken f_text f_size f_sizes f_places))) (va_A (wX50 ci ad d f_phrases f_axioms f_axiomCount f_triples f_tripleCount f_rules f_instances f_counts f_premises f_rows f_stated f_marks f_broken f_text f_size f_sizes f_places) sz)) 0 0 (va_A (wX50 ci ad d f_phrases f_axioms f_axiomCount f_triples f_tripleCount f_rules f_instances f_counts f_premises f_rows f_stated f_marks f_broken f_text f_size f_sizes f_places) sz) := by
  refine k_enter (by decide) (Nat.le_of_ble_eq_true rfl) ?_
  intro p e s m below meth c ls X hsz hH hl
  subst hsz
  generalize va_A (wX50 ci ad d f_phrases f_axioms f_axiomCount f_triples f_tripleCount f_rules f_instances f_counts f_premises f_rows f_stated f_marks f_broken f_text f_size f_sizes f_places) s.heap.size = A at hH ⊢
  have hx := X.1.1
  have hb := X.1.2.1
  have hl : lv_has ls 2 [(0, .ref (ad 0)), (1, .int x1)] := hl
  unfold wpX50_at at hw
  refine lv_iload_n hx hb dX50_at_0 rfl (lv_at hl 1 rfl) ?_
  refine lv_if_lt (tgt := 21) hx hb dX50_at_1 (by decide) (fun c_1 => ?_) (fun c_1 => ?_)
  · have hw := hw.1 (z_lt (rfl : x1.toInt = _) (rfl : (0 : Int32).toInt = 0) c_1)
    refine lv_bipush (v := (-2)) hx hb dX50_at_21 (by decide) ?_
    exact k_iret (v := (-2)) X hH () hw rfl rfl dX50_at_23
  · have hw := hw.2 (z_nlt (rfl : x1.toInt = _) (rfl : (0 : Int32).toInt = 0) c_1)
    refine lv_iload_n hx hb dX50_at_4 rfl (lv_at hl 1 rfl) ?_
    refine lv_aload_n hx hb dX50_at_5 rfl (lv_at hl 0 rfl) ?_
    refine k_get X hH in_X50 0 rfl hc 14 (by decide) q6298 rfl dX50_at_6 ?_
    refine lv_icmp_ge (tgt := 21) hx hb dX50_at_9 (by decide) (fun c_2 => ?_) (fun c_2 => ?_)
    · have hw := hw.1 (z_le (rfl : f_size.toInt = _) (rfl : x1.toInt = _) c_2)
      refine lv_bipush (v := (-2)) hx hb dX50_at_21 (by decide) ?_
      exact k_iret (v := (-2)) X hH () hw rfl rfl dX50_at_23
    · have hw := hw.2 (z_nle (rfl : f_size.toInt = _) (rfl : x1.toInt = _) c_2)
      refine lv_aload_n hx hb dX50_at_12 rfl (lv_at hl 0 rfl) ?_
      refine k_get X hH in_X50 0 rfl hc 13 (by decide) q6297 rfl dX50_at_13 ?_
      refine lv_iload_n hx hb dX50_at_16 rfl (lv_at hl 1 rfl) ?_
      have hq_3 := hw.1
      have hw := hw.2
      refine k_iald X hH 10 9 rfl rfl (z_in (rfl : x1.toInt = _) hq_3) dX50_at_17 ?_
      have e_4 := z_ld (f := f_text) (rfl : x1.toInt = _) hq_3.1
      refine lv_goto (tgt := 23) hx hb dX50_at_18 (by decide) ?_
      exact k_iret (v := f_text x1.toNatClampNeg) X hH () (by rw [show (f_text x1.toNatClampNeg : Int32).toInt = _ from e_4]; exact hw) rfl rfl dX50_at_23
set_option maxHeartbeats 4000000 in
theorem atX50_concludes_33 {p : Program} {l : Launch} {e : Env} {s : State} {m : MethodId} {args : Array Value} {below : List Frame} {meth : Method} {c : Code} {dC : Nat → ClassId} {dI : Nat → Nat → Nat} {cl : List vw_C} {ci : Nat} (hc : cl[ci]? = some (RX50, TX50, 17)) {ad : Nat → Nat} {d : Nat → ClassId} {A : Nat → Prop} {post : Int → (Int → Int) → Prop} {f_phrases : Nat → Int64} {f_axioms : Nat → Int32} {f_axiomCount : Int32} {f_triples : Nat → Int32} {f_tripleCount : Int32} {f_rules : Nat → Int32} {f_instances : Nat → Int32} {f_counts : Nat → Int32} {f_premises : Nat → Int32} {f_rows : Int32} {f_marks : Nat → Int32} {f_broken : Int32} {f_text : Nat → Int32} {f_size : Int32} {f_sizes : Nat → Int32} {f_places : Nat → Int32} (X : kX p s m args meth c cX50_concludes 5 RX50 (some .boolean) (dC, dI) cl (tX50 d)) {K80 : Int → Prop} {x1 : Int32} {x2 : Int32} {f_stated : Nat → Int32} (hk80 : ∀ (x3 : Int32), K80 x3.toInt → ∀ (H : Heap) (locs : List Loc) (ls : Array Slot), kH (dC, dI) cl A s.heap H locs (wX50 ci ad d f_phrases f_axioms f_axiomCount f_triples f_tripleCount f_rules f_instances f_counts f_premises f_rows f_stated f_marks f_broken f_text f_size f_sizes f_places) → lv_has ls 5 [(3, .int x3)] → W p l e ({ frames := 6, cells := 0, slots := 0, locals := 148 } : Room) s m args below meth c H locs 0 0 (MQ below (va_Qi (fun (r : Int32) (u : (Nat → Int32)) => post r.toInt (zF (u))) (kB (dC, dI) cl (tX50 d) A (fun u : (Nat → Int32) => (wX50 ci ad d f_phrases f_axioms f_axiomCount f_triples f_tripleCount f_rules f_instances f_counts f_premises f_rows (u) f_marks f_broken f_text f_size f_sizes f_places))) A) args s 0 0 A) (F0 m 80 ls [])) :
    ∀ (nn : Nat) (x3 : Int32) (x4 : Int32), wX50_concludes_33 K80 x1.toInt x2.toInt (zF f_triples) (zF f_stated) nn x3.toInt x4.toInt → ∀ (H : Heap) (locs : List Loc) (ls : Array Slot), kH (dC, dI) cl A s.heap H locs (wX50 ci ad d f_phrases f_axioms f_axiomCount f_triples f_tripleCount f_rules f_instances f_counts f_premises f_rows f_stated f_marks f_broken f_text f_size f_sizes f_places) → lv_has ls 5 [(0, .ref (ad 0)), (1, .int x1), (2, .int x2), (3, .int x3), (4, .int x4)] → W p l e ({ frames := 6, cells := 0, slots := 0, locals := 148 } : Room) s m args below meth c H locs 0 0 (MQ below (va_Qi (fun (r : Int32) (u : (Nat → Int32)) => post r.toInt (zF (u))) (kB (dC, dI) cl (tX50 d) A (fun u : (Nat → Int32) => (wX50 ci ad d f_phrases f_axioms f_axiomCount f_triples f_tripleCount f_rules f_instances f_counts f_premises f_rows (u) f_marks f_broken f_text f_size f_sizes f_places))) A) args s 0 0 A) (F0 m 33 ls []) := by
  have hx := X.1.1
  have hb := X.1.2.1
  intro nn
  induction nn with
  | zero =>
    intro x3 x4 hw
    exact False.elim hw
  | succ n ih =>
    intro x3 x4 hw H locs ls hH hl
    rw [wX50_concludes_33] at hw
    refine lv_iload hx hb dX50_concludes_33 (lv_at hl 4 rfl) ?_
    refine lv_iconst (v := 4) hx hb dX50_concludes_35 (by decide) ?_
    refine lv_icmp_ge (tgt := 80) hx hb dX50_concludes_36 (by decide) (fun c_6 => ?_) (fun c_6 => ?_)
    · have hw := hw.1 (z_le (rfl : (4 : Int32).toInt = 4) (rfl : x4.toInt = _) c_6)
      exact hk80 x3 hw _ _ ls hH (lv_sub hl [3] rfl)
    · have hw := hw.2 (z_nle (rfl : (4 : Int32).toInt = 4) (rfl : x4.toInt = _) c_6)
      refine lv_iload_n hx hb dX50_concludes_39 rfl (lv_at hl 3 rfl) ?_
      refine lv_if_eq (tgt := 72) hx hb dX50_concludes_40 (by decide) (fun c_7 => ?_) (fun c_7 => ?_)
      · have hw := hw.1 (z_eq (rfl : x3.toInt = _) (rfl : (0 : Int32).toInt = 0) c_7)
        refine lv_iconst (v := 0) hx hb dX50_concludes_72 (by decide) ?_
        refine lv_istore_n (lv' := [(3, .int 0), (0, .ref (ad 0)), (1, .int x1), (2, .int x2), (4, .int x4)]) hx hb dX50_concludes_73 rfl hl (by decide) rfl (fun ls hl => ?_)
        have hq_9 := hw.1
        have hw := hw.2
        obtain ⟨x4_8, ex4_8⟩ : ∃ y : Int32, y = x4 + 1 := ⟨_, rfl⟩
        have hw := hw x4_8.toInt (by rw [ex4_8]; exact (z_x (z_add (z_m (rfl : x4.toInt = _)) (z_m (rfl : (1 : Int32).toInt = 1))) hq_9))
        refine lv_iinc (v := x4_8) (lv' := [(4, .int x4_8), (3, .int 0), (0, .ref (ad 0)), (1, .int x1), (2, .int x2)]) hx hb dX50_concludes_74 hl (k := 4) rfl (by rw [ex4_8]; rfl) (by decide) rfl (fun ls hl => ?_)
        refine lv_goto (tgt := 33) hx hb dX50_concludes_77 (by decide) ?_
        exact ih 0 x4_8 hw _ _ ls hH (lv_sub hl [2, 3, 4, 1, 0] rfl)
      · have hw := hw.2 (z_neq (rfl : x3.toInt = _) (rfl : (0 : Int32).toInt = 0) c_7)
        refine lv_aload_n hx hb dX50_concludes_43 rfl (lv_at hl 0 rfl) ?_
        refine k_get X hH in_X50 0 rfl hc 10 (by decide) q6294 rfl dX50_concludes_44 ?_
        refine lv_iconst (v := 4) hx hb dX50_concludes_47 (by decide) ?_
        refine lv_iload_n hx hb dX50_concludes_48 rfl (lv_at hl 1 rfl) ?_
        refine lv_imul hx hb dX50_concludes_49 ?_
        have e_10 := z_mul (z_m (rfl : (4 : Int32).toInt = 4)) (z_m (rfl : x1.toInt = _))
        refine lv_iload hx hb dX50_concludes_50 (lv_at hl 4 rfl) ?_
        refine lv_iadd hx hb dX50_concludes_52 ?_
        have e_11 := z_add e_10 (z_m (rfl : x4.toInt = _))
        have hq_12 := hw.1
        have hw := hw.2
        have e_13 := z_xi e_11 hq_12 (by decide)
        refine k_iald X hH 8 7 rfl rfl (z_in e_13 hq_12) dX50_concludes_53 ?_
        have e_14 := z_ld (f := f_stated) e_13 hq_12.1
        refine lv_aload_n hx hb dX50_concludes_54 rfl (lv_at hl 0 rfl) ?_
        refine k_get X hH in_X50 0 rfl hc 3 (by decide) q6287 rfl dX50_concludes_55 ?_
        refine lv_iconst (v := 4) hx hb dX50_concludes_58 (by decide) ?_
        refine lv_iload_n hx hb dX50_concludes_59 rfl (lv_at hl 2 rfl) ?_
        refine lv_imul hx hb dX50_concludes_60 ?_
        have e_15 := z_mul (z_m (rfl : (4 : Int32).toInt = 4)) (z_m (rfl : x2.toInt = _))
        refine lv_iload hx hb dX50_concludes_61 (lv_at hl 4 rfl) ?_
        refine lv_iadd hx hb dX50_concludes_63 ?_
        have e_16 := z_add e_15 (z_m (rfl : x4.toInt = _))
        have hq_17 := hw.1
        have hw := hw.2
        have e_18 := z_xi e_16 hq_17 (by decide)
        refine k_iald X hH 3 2 rfl rfl (z_in e_18 hq_17) dX50_concludes_64 ?_
        have e_19 := z_ld (f := f_triples) e_18 hq_17.1
        refine lv_icmp_ne (tgt := 72) hx hb dX50_concludes_65 (by decide) (fun c_20 => ?_) (fun c_20 => ?_)
        · have hw := hw.2 (z_ne e_14 e_19 c_20)
          refine lv_iconst (v := 0) hx hb dX50_concludes_72 (by decide) ?_
          refine lv_istore_n (lv' := [(3, .int 0), (0, .ref (ad 0)), (1, .int x1), (2, .int x2), (4, .int x4)]) hx hb dX50_concludes_73 rfl hl (by decide) rfl (fun ls hl => ?_)
          have hq_22 := hw.1
          have hw := hw.2
          obtain ⟨x4_21, ex4_21⟩ : ∃ y : Int32, y = x4 + 1 := ⟨_, rfl⟩
          have hw := hw x4_21.toInt (by rw [ex4_21]; exact (z_x (z_add (z_m (rfl : x4.toInt = _)) (z_m (rfl : (1 : Int32).toInt = 1))) hq_22))
          refine lv_iinc (v := x4_21) (lv' := [(4, .int x4_21), (3, .int 0), (0, .ref (ad 0)), (1, .int x1), (2, .int x2)]) hx hb dX50_concludes_74 hl (k := 4) rfl (by rw [ex4_21]; rfl) (by decide) rfl (fun ls hl => ?_)
          refine lv_goto (tgt := 33) hx hb dX50_concludes_77 (by decide) ?_
          exact ih 0 x4_21 hw _ _ ls hH (lv_sub hl [2, 3, 4, 1, 0] rfl)
        · have hw := hw.1 (z_eq e_14 e_19 c_20)
          refine lv_iconst (v := 1) hx hb dX50_concludes_68 (by decide) ?_
          refine lv_goto (tgt := 73) hx hb dX50_concludes_69 (by decide) ?_
          refine lv_istore_n (lv' := [(3, .int 1), (0, .ref (ad 0)), (1, .int x1), (2, .int x2), (4, .int x4)]) hx hb dX50_concludes_73 rfl hl (by decide) rfl (fun ls hl => ?_)
          have hq_24 := hw.1
          have hw := hw.2
          obtain ⟨x4_23, ex4_23⟩ : ∃ y : Int32, y = x4 + 1 := ⟨_, rfl⟩
          have hw := hw x4_23.toInt (by rw [ex4_23]; exact (z_x (z_add (z_m (rfl : x4.toInt = _)) (z_m (rfl : (1 : Int32).toInt = 1))) hq_24))
          refine lv_iinc (v := x4_23) (lv' := [(4, .int x4_23), (3, .int 1), (0, .ref (ad 0)), (1, .int x1), (2, .int x2)]) hx hb dX50_concludes_74 hl (k := 4) rfl (by rw [ex4_23]; rfl) (by decide) rfl (fun ls hl => ?_)
          refine lv_goto (tgt := 33) hx hb dX50_concludes_77 (by decide) ?_
          exact ih 1 x4_23 hw _ _ ls hH (lv_sub hl [2, 3, 4, 1, 0] rfl)
set_option maxHeartbeats 4000000 in
theorem walkX50_concludes {l : Launch} {dC : Nat → ClassId} {dI : Nat → Nat → Nat} {cl : List vw_C} {ci : Nat} (hc : cl[ci]? = some (RX50, TX50, 17)) {ad : Nat → Nat} {d : Nat → ClassId} {sz : Nat} {f_phrases : Nat → Int64} {f_axioms : Nat → Int32} {f_axiomCount : Int32} {f_triples : Nat → Int32} {f_tripleCount : Int32} {f_rules : Nat → Int32} {f_instances : Nat → Int32} {f_counts : Nat → Int32} {f_premises : Nat → Int32} {f_rows : Int32} {f_stated : Nat → Int32} {f_marks : Nat → Int32} {f_broken : Int32} {f_text : Nat → Int32} {f_size : Int32} {f_sizes : Nat → Int32} {f_places : Nat → Int32} {x1 : Int32} {x2 : Int32} {post : Int → (Int → Int) → Prop} (hw : wpX50_concludes post (zF f_axioms) (zF f_triples) f_tripleCount.toInt (zF f_rules) (zF f_instances) (zF f_counts) (zF f_premises) f_rows.toInt (zF f_stated) x1.toInt x2.toInt) :
    Met l yX50_concludes (ws_ yX50_concludes cX50_concludes 5 (some .boolean)) ({ frames := 6, cells := 0, slots := 0, locals := 148 } : Room) (kPc (dC, dI) cl (tX50 d) [.ref (ad 0), .int x1, .int x2] sz (wX50 ci ad d f_phrases f_axioms f_axiomCount f_triples f_tripleCount f_rules f_instances f_counts f_premises f_rows f_stated f_marks f_broken f_text f_size f_sizes f_places)) (va_Qi (fun (r : Int32) (u : (Nat → Int32)) => post r.toInt (zF (u))) (kB (dC, dI) cl (tX50 d) (va_A (wX50 ci ad d f_phrases f_axioms f_axiomCount f_triples f_tripleCount f_rules f_instances f_counts f_premises f_rows f_stated f_marks f_broken f_text f_size f_sizes f_places) sz) (fun u : (Nat → Int32) => (wX50 ci ad d f_phrases f_axioms f_axiomCount f_triples f_tripleCount f_rules f_instances f_counts f_premises f_rows (u) f_marks f_broken f_text f_size f_sizes f_places))) (va_A (wX50 ci ad d f_phrases f_axioms f_axiomCount f_triples f_tripleCount f_rules f_instances f_counts f_premises f_rows f_stated f_marks f_broken f_text f_size f_sizes f_places) sz)) 0 0 (va_A (wX50 ci ad d f_phrases f_axioms f_axiomCount f_triples f_tripleCount f_rules f_instances f_counts f_premises f_rows f_stated f_marks f_broken f_text f_size f_sizes f_places) sz) := by
  refine k_enter (by decide) (Nat.le_of_ble_eq_true rfl) ?_
  intro p e s m below meth c ls X hsz hH hl
  subst hsz
  generalize va_A (wX50 ci ad d f_phrases f_axioms f_axiomCount f_triples f_tripleCount f_rules f_instances f_counts f_premises f_rows f_stated f_marks f_broken f_text f_size f_sizes f_places) s.heap.size = A at hH ⊢
  have hx := X.1.1
  have hb := X.1.2.1
  have hl : lv_has ls 5 [(0, .ref (ad 0)), (1, .int x1), (2, .int x2)] := hl
  unfold wpX50_concludes at hw
  refine lv_aload_n hx hb dX50_concludes_0 rfl (lv_at hl 0 rfl) ?_
  refine lv_iload_n hx hb dX50_concludes_1 rfl (lv_at hl 1 rfl) ?_
  refine k_i0 hH (k_runV (As := [.int x1]) (rest := []) X hH.1 hH.2.1 X.2.2.2 (walkX50_isRow hc (x1 := x1) (f_phrases := f_phrases) (f_axioms := f_axioms) (f_axiomCount := f_axiomCount) (f_triples := f_triples) (f_tripleCount := f_tripleCount) (f_rules := f_rules) (f_instances := f_instances) (f_counts := f_counts) (f_premises := f_premises) (f_rows := f_rows) (f_stated := f_stated) (f_marks := f_marks) (f_broken := f_broken) (f_text := f_text) (f_size := f_size) (f_sizes := f_sizes) (f_places := f_places) hw) (cwV 1 X.1.2.2.2.2 gX50_174 rfl rfl rfl hX50_isRow ⟨Nat.le_of_ble_eq_true rfl, Nat.le_of_ble_eq_true rfl⟩) hc (q0 := 0) rfl rfl hl.1 rfl (Nat.le_of_ble_eq_true rfl) dX50_concludes_2 ⟨Nat.le_refl 0, Nat.le_refl 0⟩) (fun r_1 _ H locs hw hH => ?_)
  have hH : kH (dC, dI) cl A s.heap H locs (wX50 ci ad d f_phrases f_axioms f_axiomCount f_triples f_tripleCount f_rules f_instances f_counts f_premises f_rows f_stated f_marks f_broken f_text f_size f_sizes f_places) := hH
  refine lv_if_eq (tgt := 21) hx hb dX50_concludes_5 (by decide) (fun c_2 => ?_) (fun c_2 => ?_)
  · have hw := hw.1 (z_eq (rfl : r_1.toInt = _) (rfl : (0 : Int32).toInt = 0) c_2)
    refine lv_iconst (v := 0) hx hb dX50_concludes_21 (by decide) ?_
    exact k_iret (v := 0) X hH (f_stated) hw rfl rfl dX50_concludes_22
  · have hw := hw.2 (z_neq (rfl : r_1.toInt = _) (rfl : (0 : Int32).toInt = 0) c_2)
    refine lv_iload_n hx hb dX50_concludes_8 rfl (lv_at hl 2 rfl) ?_
    refine lv_iconst (v := 1) hx hb dX50_concludes_9 (by decide) ?_
    refine lv_icmp_lt (tgt := 21) hx hb dX50_concludes_10 (by decide) (fun c_3 => ?_) (fun c_3 => ?_)
    · have hw := hw.1 (z_lt (rfl : x2.toInt = _) (rfl : (1 : Int32).toInt = 1) c_3)
      refine lv_iconst (v := 0) hx hb dX50_concludes_21 (by decide) ?_
      exact k_iret (v := 0) X hH (f_stated) hw rfl rfl dX50_concludes_22
    · have hw := hw.2 (z_nlt (rfl : x2.toInt = _) (rfl : (1 : Int32).toInt = 1) c_3)
      refine lv_iload_n hx hb dX50_concludes_13 rfl (lv_at hl 2 rfl) ?_
      refine lv_aload_n hx hb dX50_concludes_14 rfl (lv_at hl 0 rfl) ?_
      refine k_get X hH in_X50 0 rfl hc 4 (by decide) q6288 rfl dX50_concludes_15 ?_
      refine lv_icmp_le (tgt := 23) hx hb dX50_concludes_18 (by decide) (fun c_4 => ?_) (fun c_4 => ?_)
      · have hw := hw.1 (z_le (rfl : x2.toInt = _) (rfl : f_tripleCount.toInt = _) c_4)
        refine lv_aload_n hx hb dX50_concludes_23 rfl (lv_at hl 0 rfl) ?_
        refine lv_iload_n hx hb dX50_concludes_24 rfl (lv_at hl 1 rfl) ?_
        refine k_v0 hH (k_runV (As := [.int x1]) (rest := []) X hH.1 hH.2.1 X.2.2.2 (walkX50_work hc (x1 := x1) (f_phrases := f_phrases) (f_axioms := f_axioms) (f_axiomCount := f_axiomCount) (f_triples := f_triples) (f_tripleCount := f_tripleCount) (f_rules := f_rules) (f_instances := f_instances) (f_counts := f_counts) (f_premises := f_premises) (f_rows := f_rows) (f_stated := f_stated) (f_marks := f_marks) (f_broken := f_broken) (f_text := f_text) (f_size := f_size) (f_sizes := f_sizes) (f_places := f_places) hw) (cwV 1 X.1.2.2.2.2 gX50_215 rfl rfl rfl hX50_work ⟨Nat.le_of_ble_eq_true rfl, Nat.le_of_ble_eq_true rfl⟩) hc (q0 := 0) rfl rfl hl.1 rfl (Nat.le_of_ble_eq_true rfl) dX50_concludes_25 ⟨Nat.le_refl 0, Nat.le_refl 0⟩) (fun u H locs hw hH => ?_)
        obtain ⟨f_stated_5, eu⟩ : ∃ z, z = u := ⟨_, rfl⟩
        subst eu
        have hH : kH (dC, dI) cl A s.heap H locs (wX50 ci ad d f_phrases f_axioms f_axiomCount f_triples f_tripleCount f_rules f_instances f_counts f_premises f_rows f_stated_5 f_marks f_broken f_text f_size f_sizes f_places) := hH
        refine lv_iconst (v := 1) hx hb dX50_concludes_28 (by decide) ?_
        refine lv_istore_n (lv' := [(3, .int 1), (0, .ref (ad 0)), (1, .int x1), (2, .int x2)]) hx hb dX50_concludes_29 rfl hl (by decide) rfl (fun ls hl => ?_)
        refine lv_iconst (v := 0) hx hb dX50_concludes_30 (by decide) ?_
        refine lv_istore (lv' := [(4, .int 0), (3, .int 1), (0, .ref (ad 0)), (1, .int x1), (2, .int x2)]) hx hb dX50_concludes_31 hl (by decide) rfl (fun ls hl => ?_)
        obtain ⟨fu, hw⟩ := hw
        refine atX50_concludes_33 hc X ?_ fu 1 0 hw _ _ ls hH (lv_sub hl [2, 3, 4, 1, 0] rfl)
        · intro x3_25 hw H locs ls hH hl
          refine lv_iload_n hx hb dX50_concludes_80 rfl (lv_at hl 0 rfl) ?_
          have hq_26 := hw.1
          have hw := hw.2
          exact k_iret (v := x3_25) X hH (f_stated_5) hw rfl (k_zn (z_boolE (rfl : x3_25.toInt = _) hq_26)) dX50_concludes_81
      · have hw := hw.2 (z_nle (rfl : x2.toInt = _) (rfl : f_tripleCount.toInt = _) c_4)
        refine lv_iconst (v := 0) hx hb dX50_concludes_21 (by decide) ?_
        exact k_iret (v := 0) X hH (f_stated) hw rfl rfl dX50_concludes_22
