/-! KnowHouseModel$CanonNamesModel (printed by tools/zgen.py) -/
set_option maxRecDepth 100000
set_option maxHeartbeats 4000000 in
theorem walkX47_turned {l : Launch} {dC : Nat → ClassId} {dI : Nat → Nat → Nat} {cl : List vw_C} {ci : Nat} (hc : cl[ci]? = some (RX47, TX47, 27)) {ad : Nat → Nat} {d : Nat → ClassId} {sz : Nat} {f_constants : Nat → Int64} {f_blanks : Nat → Int32} {f_counts : Nat → Int32} {f_points : Nat → Int32} {f_kept : Int32} {f_hashes : Nat → Int64} {f_news : Nat → Int64} {f_rounds : Int32} {f_hashed : Int32} {f_groups : Nat → Int32} {f_groupOf : Nat → Int32} {f_groupCount : Int32} {f_trial : Nat → Int32} {f_row : Nat → Int32} {f_names : Nat → Int32} {f_namedBlanks : Int32} {f_form : Nat → Int32} {f_formCount : Int32} {f_octets : Nat → Int32} {f_descriptions : Nat → Int32} {f_described : Int32} {f_message : Nat → Int32} {f_size : Int32} {f_words : Nat → Int64} {f_schedule : Nat → Int64} {f_thrown : Int32} {f_said : Nat → Int32} {x0 : Int64} {x2 : Int32} {post : Int → Prop} (hw : wpX47_turned post  x0.toInt x2.toInt) :
    Met l yX47_turned (ws_ yX47_turned cX47_turned 3 (some .long)) ({ frames := 0, cells := 0, slots := 0, locals := 0 } : Room) (kPc (dC, dI) cl (tX47 d) [.long x0, .int x2] sz (wX47 ci ad d f_constants f_blanks f_counts f_points f_kept f_hashes f_news f_rounds f_hashed f_groups f_groupOf f_groupCount f_trial f_row f_names f_namedBlanks f_form f_formCount f_octets f_descriptions f_described f_message f_size f_words f_schedule f_thrown f_said)) (va_Ql (fun (r : Int64) (_ : Unit) => post r.toInt) (kB (dC, dI) cl (tX47 d) (va_A (wX47 ci ad d f_constants f_blanks f_counts f_points f_kept f_hashes f_news f_rounds f_hashed f_groups f_groupOf f_groupCount f_trial f_row f_names f_namedBlanks f_form f_formCount f_octets f_descriptions f_described f_message f_size f_words f_schedule f_thrown f_said) sz) (fun _ : Unit => (wX47 ci ad d f_constants f_blanks f_counts f_points f_kept f_hashes f_news f_rounds f_hashed f_groups f_groupOf f_groupCount f_trial f_row f_names f_namedBlanks f_form f_formCount f_octets f_descriptions f_described f_message f_size f_words f_schedule f_thrown f_said))) (va_A (wX47 ci ad d f_constants f_blanks f_counts f_points f_kept f_hashes f_news f_rounds f_hashed f_groups f_groupOf f_groupCount f_trial f_row f_names f_namedBlanks f_form f_formCount f_octets f_descriptions f_described f_message f_size f_words f_schedule f_thrown f_said) sz)) 0 0 (va_A (wX47 ci ad d f_constants f_blanks f_counts f_points f_kept f_hashes f_news f_rounds f_hashed f_groups f_groupOf f_groupCount f_trial f_row f_names f_namedBlanks f_form f_formCount f_octets f_descriptions f_described f_message f_size f_words f_schedule f_thrown f_said) sz) := by
  refine k_enter (by decide) (Nat.le_of_ble_eq_true rfl) ?_
  intro p e s m below meth c ls X hsz hH hl
  subst hsz
  generalize va_A (wX47 ci ad d f_constants f_blanks f_counts f_points f_kept f_hashes f_news f_rounds f_hashed f_groups f_groupOf f_groupCount f_trial f_row f_names f_namedBlanks f_form f_formCount f_octets f_descriptions f_described f_message f_size f_words f_schedule f_thrown f_said) s.heap.size = A at hH ⊢
  have hx := X.1.1
  have hb := X.1.2.1
  have hl : lv_has ls 3 [(0, .long x0), (2, .int x2)] := hl
  unfold wpX47_turned at hw
  refine lv_lload_n hx hb dX47_turned_0 rfl (lv_at hl 0 rfl) ?_
  refine lv_iload_n hx hb dX47_turned_1 rfl (lv_at hl 1 rfl) ?_
  refine lv_lshr (v := x0 >>> (x2.toInt64 &&& 63)) hx hb dX47_turned_2 rfl ?_
  have hq_1 := hw.1
  have hw := hw.2
  have e_2 := zL_shrV (rfl : x0.toInt = _) (rfl : x2.toInt = _) hq_1
  refine lv_lload_n hx hb dX47_turned_3 rfl (lv_at hl 0 rfl) ?_
  refine lv_bipush (v := 32) hx hb dX47_turned_4 (by decide) ?_
  refine lv_iload_n hx hb dX47_turned_6 rfl (lv_at hl 1 rfl) ?_
  refine lv_isub hx hb dX47_turned_7 ?_
  have e_3 := z_sub (z_m (rfl : (32 : Int32).toInt = 32)) (z_m (rfl : x2.toInt = _))
  have hq_4 := hw.1
  have hw := hw.2
  have e_5 := z_x e_3 hq_4
  refine lv_lshl (v := x0 <<< ((32 - x2).toInt64 &&& 63)) hx hb dX47_turned_8 rfl ?_
  have e_6 := zL_shlG (rfl : x0.toInt = _) e_5
  refine lv_lor hx hb dX47_turned_9 ?_
  have e_7 := zL_or (zL_m e_2) (zL_m e_6)
  refine lv_ldc2 (v := 4294967295) hx hb X.1.2.2.2.1 (X.1.2.2.2.2 _ q5979) dX47_turned_10 ?_
  refine lv_land hx hb dX47_turned_13 ?_
  have e_8 := zL_mask (zL_m e_7) (k := 32) (mm := 4294967295) (c := 4294967296) (by decide)
  exact k_lret (v := ((x0 >>> (x2.toInt64 &&& 63)) ||| (x0 <<< ((32 - x2).toInt64 &&& 63))) &&& 4294967295) X hH () (by rw [show (((x0 >>> (x2.toInt64 &&& 63)) ||| (x0 <<< ((32 - x2).toInt64 &&& 63))) &&& 4294967295 : Int64).toInt = _ from e_8]; exact hw) rfl dX47_turned_14
set_option maxHeartbeats 4000000 in
theorem atX47_block_13 {p : Program} {l : Launch} {e : Env} {s : State} {m : MethodId} {args : Array Value} {below : List Frame} {meth : Method} {c : Code} {dC : Nat → ClassId} {dI : Nat → Nat → Nat} {cl : List vw_C} {ci : Nat} (hc : cl[ci]? = some (RX47, TX47, 27)) {ad : Nat → Nat} {d : Nat → ClassId} {A : Nat → Prop} {post : (Int → Int) → (Int → Int) → Prop} {f_constants : Nat → Int64} {f_blanks : Nat → Int32} {f_counts : Nat → Int32} {f_points : Nat → Int32} {f_kept : Int32} {f_hashes : Nat → Int64} {f_news : Nat → Int64} {f_rounds : Int32} {f_hashed : Int32} {f_groups : Nat → Int32} {f_groupOf : Nat → Int32} {f_groupCount : Int32} {f_trial : Nat → Int32} {f_row : Nat → Int32} {f_names : Nat → Int32} {f_namedBlanks : Int32} {f_form : Nat → Int32} {f_formCount : Int32} {f_octets : Nat → Int32} {f_descriptions : Nat → Int32} {f_described : Int32} {f_message : Nat → Int32} {f_size : Int32} {f_thrown : Int32} {f_said : Nat → Int32} (X : kX p s m args meth c cX47_block 23 RX47 none (dC, dI) cl (tX47 d)) {K50 : Int → Prop} {x1 : Int32} {x2 : Int32} {f_words : Nat → Int64} {f_schedule : Nat → Int64} (hk50 : ∀ (x3 : Int64), K50 x3.toInt → ∀ (H : Heap) (locs : List Loc) (ls : Array Slot), kH (dC, dI) cl A s.heap H locs (wX47 ci ad d f_constants f_blanks f_counts f_points f_kept f_hashes f_news f_rounds f_hashed f_groups f_groupOf f_groupCount f_trial f_row f_names f_namedBlanks f_form f_formCount f_octets f_descriptions f_described f_message f_size f_words f_schedule f_thrown f_said) → lv_has ls 23 [(0, .ref (ad 0)), (1, .int x1), (2, .int x2), (3, .long x3)] → W p l e ({ frames := 1, cells := 0, slots := 0, locals := 22 } : Room) s m args below meth c H locs 0 0 (MQ below (va_Qv (fun (u : (Nat → Int64) × (Nat → Int64)) => post (zG (u.1)) (zG (u.2))) (kB (dC, dI) cl (tX47 d) A (fun u : (Nat → Int64) × (Nat → Int64) => (wX47 ci ad d f_constants f_blanks f_counts f_points f_kept f_hashes f_news f_rounds f_hashed f_groups f_groupOf f_groupCount f_trial f_row f_names f_namedBlanks f_form f_formCount f_octets f_descriptions f_described f_message f_size (u.1) (u.2) f_thrown f_said))) A) args s 0 0 A) (F0 m 50 ls [])) :
    ∀ (nn : Nat) (x3 : Int64) (x5 : Int32), wX47_block_13 K50 x1.toInt x2.toInt (zF f_message) nn x3.toInt x5.toInt → ∀ (H : Heap) (locs : List Loc) (ls : Array Slot), kH (dC, dI) cl A s.heap H locs (wX47 ci ad d f_constants f_blanks f_counts f_points f_kept f_hashes f_news f_rounds f_hashed f_groups f_groupOf f_groupCount f_trial f_row f_names f_namedBlanks f_form f_formCount f_octets f_descriptions f_described f_message f_size f_words f_schedule f_thrown f_said) → lv_has ls 23 [(0, .ref (ad 0)), (1, .int x1), (2, .int x2), (3, .long x3), (5, .int x5)] → W p l e ({ frames := 1, cells := 0, slots := 0, locals := 22 } : Room) s m args below meth c H locs 0 0 (MQ below (va_Qv (fun (u : (Nat → Int64) × (Nat → Int64)) => post (zG (u.1)) (zG (u.2))) (kB (dC, dI) cl (tX47 d) A (fun u : (Nat → Int64) × (Nat → Int64) => (wX47 ci ad d f_constants f_blanks f_counts f_points f_kept f_hashes f_news f_rounds f_hashed f_groups f_groupOf f_groupCount f_trial f_row f_names f_namedBlanks f_form f_formCount f_octets f_descriptions f_described f_message f_size (u.1) (u.2) f_thrown f_said))) A) args s 0 0 A) (F0 m 13 ls []) := by
  have hx := X.1.1
  have hb := X.1.2.1
  intro nn
  induction nn with
  | zero =>
    intro x3 x5 hw
    exact False.elim hw
  | succ n ih =>
    intro x3 x5 hw H locs ls hH hl
    rw [wX47_block_13] at hw
    refine lv_iload hx hb dX47_block_13 (lv_at hl 4 rfl) ?_
    refine lv_iconst (v := 4) hx hb dX47_block_15 (by decide) ?_
    refine lv_icmp_ge (tgt := 50) hx hb dX47_block_16 (by decide) (fun c_2 => ?_) (fun c_2 => ?_)
    · have hw := hw.1 (z_le (rfl : (4 : Int32).toInt = 4) (rfl : x5.toInt = _) c_2)
      exact hk50 x3 hw _ _ ls hH (lv_sub hl [0, 1, 2, 3] rfl)
    · have hw := hw.2 (z_nle (rfl : (4 : Int32).toInt = 4) (rfl : x5.toInt = _) c_2)
      refine lv_ldc2 (v := 256) hx hb X.1.2.2.2.1 (X.1.2.2.2.2 _ q5975) dX47_block_19 ?_
      refine lv_lload_n hx hb dX47_block_22 rfl (lv_at hl 3 rfl) ?_
      refine lv_lmul hx hb dX47_block_23 ?_
      have e_3 := zL_mul (zL_m (rfl : (256 : Int64).toInt = 256)) (zL_m (rfl : x3.toInt = _))
      refine lv_aload_n hx hb dX47_block_24 rfl (lv_at hl 0 rfl) ?_
      refine k_get X hH in_X47 0 rfl hc 21 (by decide) q6005 rfl dX47_block_25 ?_
      refine lv_iload_n hx hb dX47_block_28 rfl (lv_at hl 1 rfl) ?_
      refine lv_iconst (v := 4) hx hb dX47_block_29 (by decide) ?_
      refine lv_iload_n hx hb dX47_block_30 rfl (lv_at hl 2 rfl) ?_
      refine lv_imul hx hb dX47_block_31 ?_
      have e_4 := z_mul (z_m (rfl : (4 : Int32).toInt = 4)) (z_m (rfl : x2.toInt = _))
      refine lv_iadd hx hb dX47_block_32 ?_
      have e_5 := z_add (z_m (rfl : x1.toInt = _)) e_4
      refine lv_iload hx hb dX47_block_33 (lv_at hl 4 rfl) ?_
      refine lv_iadd hx hb dX47_block_35 ?_
      have e_6 := z_add e_5 (z_m (rfl : x5.toInt = _))
      have hq_7 := hw.1
      have hw := hw.2
      have e_8 := z_xi e_6 hq_7 (by decide)
      refine k_bald X hH 15 14 rfl rfl (z_in e_8 hq_7) dX47_block_36 ?_
      have e_9 := z_ld (f := f_message) e_8 hq_7.1
      refine lv_sipush (v := 255) hx hb dX47_block_37 (by decide) ?_
      refine lv_iand hx hb dX47_block_40 ?_
      have e_10 := z_mask (z_m e_9) (k := 8) (m := 255) (c := 256) (by decide)
      refine lv_i2l (v := ((f_message ((x1 + (4 * x2)) + x5).toNatClampNeg) &&& 255).toInt64) hx hb dX47_block_41 rfl ?_
      have e_11 := z_i2l e_10
      refine lv_ladd hx hb dX47_block_42 ?_
      have e_12 := zL_add e_3 (zL_m e_11)
      have hq_13 := hw.1
      have hw := hw.2
      have e_14 := zL_x e_12 hq_13
      refine lv_topl (fun x3_15 ex3_15 => ?_)
      have hw := hw x3_15.toInt (by rw [ex3_15]; exact e_14)
      refine lv_lstore_n (lv' := [(3, .long x3_15), (0, .ref (ad 0)), (1, .int x1), (2, .int x2), (5, .int x5)]) hx hb dX47_block_43 rfl hl (by decide) rfl (fun ls hl => ?_)
      have hq_17 := hw.1
      have hw := hw.2
      obtain ⟨x5_16, ex5_16⟩ : ∃ y : Int32, y = x5 + 1 := ⟨_, rfl⟩
      have hw := hw x5_16.toInt (by rw [ex5_16]; exact (z_x (z_add (z_m (rfl : x5.toInt = _)) (z_m (rfl : (1 : Int32).toInt = 1))) hq_17))
      refine lv_iinc (v := x5_16) (lv' := [(5, .int x5_16), (3, .long x3_15), (0, .ref (ad 0)), (1, .int x1), (2, .int x2)]) hx hb dX47_block_44 hl (k := 4) rfl (by rw [ex5_16]; rfl) (by decide) rfl (fun ls hl => ?_)
      refine lv_goto (tgt := 13) hx hb dX47_block_47 (by decide) ?_
      exact ih x3_15 x5_16 hw _ _ ls hH (lv_sub hl [2, 3, 4, 1, 0] rfl)
set_option maxHeartbeats 4000000 in
theorem atX47_block_2 {p : Program} {l : Launch} {e : Env} {s : State} {m : MethodId} {args : Array Value} {below : List Frame} {meth : Method} {c : Code} {dC : Nat → ClassId} {dI : Nat → Nat → Nat} {cl : List vw_C} {ci : Nat} (hc : cl[ci]? = some (RX47, TX47, 27)) {ad : Nat → Nat} {d : Nat → ClassId} {A : Nat → Prop} {post : (Int → Int) → (Int → Int) → Prop} {f_constants : Nat → Int64} {f_blanks : Nat → Int32} {f_counts : Nat → Int32} {f_points : Nat → Int32} {f_kept : Int32} {f_hashes : Nat → Int64} {f_news : Nat → Int64} {f_rounds : Int32} {f_hashed : Int32} {f_groups : Nat → Int32} {f_groupOf : Nat → Int32} {f_groupCount : Int32} {f_trial : Nat → Int32} {f_row : Nat → Int32} {f_names : Nat → Int32} {f_namedBlanks : Int32} {f_form : Nat → Int32} {f_formCount : Int32} {f_octets : Nat → Int32} {f_descriptions : Nat → Int32} {f_described : Int32} {f_message : Nat → Int32} {f_size : Int32} {f_thrown : Int32} {f_said : Nat → Int32} (X : kX p s m args meth c cX47_block 23 RX47 none (dC, dI) cl (tX47 d)) {K63 : (Int → Int) → Prop} {x1 : Int32} {f_words : Nat → Int64} (hk63 : ∀ (f_schedule : Nat → Int64), K63 (zG f_schedule) → ∀ (H : Heap) (locs : List Loc) (ls : Array Slot), kH (dC, dI) cl A s.heap H locs (wX47 ci ad d f_constants f_blanks f_counts f_points f_kept f_hashes f_news f_rounds f_hashed f_groups f_groupOf f_groupCount f_trial f_row f_names f_namedBlanks f_form f_formCount f_octets f_descriptions f_described f_message f_size f_words f_schedule f_thrown f_said) → lv_has ls 23 [(0, .ref (ad 0))] → W p l e ({ frames := 1, cells := 0, slots := 0, locals := 22 } : Room) s m args below meth c H locs 0 0 (MQ below (va_Qv (fun (u : (Nat → Int64) × (Nat → Int64)) => post (zG (u.1)) (zG (u.2))) (kB (dC, dI) cl (tX47 d) A (fun u : (Nat → Int64) × (Nat → Int64) => (wX47 ci ad d f_constants f_blanks f_counts f_points f_kept f_hashes f_news f_rounds f_hashed f_groups f_groupOf f_groupCount f_trial f_row f_names f_namedBlanks f_form f_formCount f_octets f_descriptions f_described f_message f_size (u.1) (u.2) f_thrown f_said))) A) args s 0 0 A) (F0 m 63 ls [])) :
    ∀ (nn : Nat) (x2 : Int32) (f_schedule : Nat → Int64), wX47_block_2 K63 x1.toInt (zF f_message) nn x2.toInt (zG f_schedule) → ∀ (H : Heap) (locs : List Loc) (ls : Array Slot), kH (dC, dI) cl A s.heap H locs (wX47 ci ad d f_constants f_blanks f_counts f_points f_kept f_hashes f_news f_rounds f_hashed f_groups f_groupOf f_groupCount f_trial f_row f_names f_namedBlanks f_form f_formCount f_octets f_descriptions f_described f_message f_size f_words f_schedule f_thrown f_said) → lv_has ls 23 [(0, .ref (ad 0)), (1, .int x1), (2, .int x2)] → W p l e ({ frames := 1, cells := 0, slots := 0, locals := 22 } : Room) s m args below meth c H locs 0 0 (MQ below (va_Qv (fun (u : (Nat → Int64) × (Nat → Int64)) => post (zG (u.1)) (zG (u.2))) (kB (dC, dI) cl (tX47 d) A (fun u : (Nat → Int64) × (Nat → Int64) => (wX47 ci ad d f_constants f_blanks f_counts f_points f_kept f_hashes f_news f_rounds f_hashed f_groups f_groupOf f_groupCount f_trial f_row f_names f_namedBlanks f_form f_formCount f_octets f_descriptions f_described f_message f_size (u.1) (u.2) f_thrown f_said))) A) args s 0 0 A) (F0 m 2 ls []) := by
  have hx := X.1.1
  have hb := X.1.2.1
  intro nn
  induction nn with
  | zero =>
    intro x2 f_schedule hw
    exact False.elim hw
  | succ n ih =>
    intro x2 f_schedule hw H locs ls hH hl
    rw [wX47_block_2] at hw
    refine lv_iload_n hx hb dX47_block_2 rfl (lv_at hl 2 rfl) ?_
    refine lv_bipush (v := 16) hx hb dX47_block_3 (by decide) ?_
    refine lv_icmp_ge (tgt := 63) hx hb dX47_block_5 (by decide) (fun c_1 => ?_) (fun c_1 => ?_)
    · have hw := hw.1 (z_le (rfl : (16 : Int32).toInt = 16) (rfl : x2.toInt = _) c_1)
      exact hk63 f_schedule hw _ _ ls hH (lv_sub hl [0] rfl)
    · have hw := hw.2 (z_nle (rfl : (16 : Int32).toInt = 16) (rfl : x2.toInt = _) c_1)
      refine lv_lconst (v := 0) hx hb dX47_block_8 (by decide) ?_
      refine lv_lstore_n (lv' := [(3, .long 0), (0, .ref (ad 0)), (1, .int x1), (2, .int x2)]) hx hb dX47_block_9 rfl hl (by decide) rfl (fun ls hl => ?_)
      refine lv_iconst (v := 0) hx hb dX47_block_10 (by decide) ?_
      refine lv_istore (lv' := [(5, .int 0), (3, .long 0), (0, .ref (ad 0)), (1, .int x1), (2, .int x2)]) hx hb dX47_block_11 hl (by decide) rfl (fun ls hl => ?_)
      obtain ⟨fu, hw⟩ := hw
      refine atX47_block_13 hc X ?_ fu 0 0 hw _ _ ls hH (lv_sub hl [2, 3, 4, 1, 0] rfl)
      · intro x3_18 hw H locs ls hH hl
        refine lv_aload_n hx hb dX47_block_50 rfl (lv_at hl 0 rfl) ?_
        refine k_get X hH in_X47 0 rfl hc 24 (by decide) q6008 rfl dX47_block_51 ?_
        refine lv_iload_n hx hb dX47_block_54 rfl (lv_at hl 2 rfl) ?_
        refine lv_lload_n hx hb dX47_block_55 rfl (lv_at hl 3 rfl) ?_
        have hq_20 := hw.1
        have hw := hw.2
        obtain ⟨f_schedule_19, ef_schedule_19⟩ : ∃ y : Nat → Int64, y = vp_updL f_schedule x2.toNatClampNeg x3_18 := ⟨_, rfl⟩
        refine k_last X hH 17 16 rfl rfl (z_in (rfl : x2.toInt = _) hq_20) dX47_block_56 ef_schedule_19 (ws1 := (wX47 ci ad d f_constants f_blanks f_counts f_points f_kept f_hashes f_news f_rounds f_hashed f_groups f_groupOf f_groupCount f_trial f_row f_names f_namedBlanks f_form f_formCount f_octets f_descriptions f_described f_message f_size f_words f_schedule_19 f_thrown f_said)) rfl (fun H locs hH => ?_)
        have hw := hw (zG f_schedule_19) (by rw [ef_schedule_19]; exact z_stL (f := f_schedule) (rfl : x2.toInt = _) hq_20.1 (rfl : x3_18.toInt = _))
        have hq_22 := hw.1
        have hw := hw.2
        obtain ⟨x2_21, ex2_21⟩ : ∃ y : Int32, y = x2 + 1 := ⟨_, rfl⟩
        have hw := hw x2_21.toInt (by rw [ex2_21]; exact (z_x (z_add (z_m (rfl : x2.toInt = _)) (z_m (rfl : (1 : Int32).toInt = 1))) hq_22))
        refine lv_iinc (v := x2_21) (lv' := [(2, .int x2_21), (0, .ref (ad 0)), (1, .int x1), (3, .long x3_18)]) hx hb dX47_block_57 hl (k := 2) rfl (by rw [ex2_21]; rfl) (by decide) rfl (fun ls hl => ?_)
        refine lv_goto (tgt := 2) hx hb dX47_block_60 (by decide) ?_
        exact ih x2_21 f_schedule_19 hw _ _ ls hH (lv_sub hl [1, 2, 0] rfl)
set_option maxHeartbeats 4000000 in
theorem atX47_block_66 {p : Program} {l : Launch} {e : Env} {s : State} {m : MethodId} {args : Array Value} {below : List Frame} {meth : Method} {c : Code} {dC : Nat → ClassId} {dI : Nat → Nat → Nat} {cl : List vw_C} {ci : Nat} (hc : cl[ci]? = some (RX47, TX47, 27)) {ad : Nat → Nat} {d : Nat → ClassId} {A : Nat → Prop} {post : (Int → Int) → (Int → Int) → Prop} {f_constants : Nat → Int64} {f_blanks : Nat → Int32} {f_counts : Nat → Int32} {f_points : Nat → Int32} {f_kept : Int32} {f_hashes : Nat → Int64} {f_news : Nat → Int64} {f_rounds : Int32} {f_hashed : Int32} {f_groups : Nat → Int32} {f_groupOf : Nat → Int32} {f_groupCount : Int32} {f_trial : Nat → Int32} {f_row : Nat → Int32} {f_names : Nat → Int32} {f_namedBlanks : Int32} {f_form : Nat → Int32} {f_formCount : Int32} {f_octets : Nat → Int32} {f_descriptions : Nat → Int32} {f_described : Int32} {f_message : Nat → Int32} {f_size : Int32} {f_thrown : Int32} {f_said : Nat → Int32} (X : kX p s m args meth c cX47_block 23 RX47 none (dC, dI) cl (tX47 d)) {K175 : (Int → Int) → Prop}  {f_words : Nat → Int64} (hk175 : ∀ (f_schedule : Nat → Int64), K175 (zG f_schedule) → ∀ (H : Heap) (locs : List Loc) (ls : Array Slot), kH (dC, dI) cl A s.heap H locs (wX47 ci ad d f_constants f_blanks f_counts f_points f_kept f_hashes f_news f_rounds f_hashed f_groups f_groupOf f_groupCount f_trial f_row f_names f_namedBlanks f_form f_formCount f_octets f_descriptions f_described f_message f_size f_words f_schedule f_thrown f_said) → lv_has ls 23 [(0, .ref (ad 0))] → W p l e ({ frames := 1, cells := 0, slots := 0, locals := 22 } : Room) s m args below meth c H locs 0 0 (MQ below (va_Qv (fun (u : (Nat → Int64) × (Nat → Int64)) => post (zG (u.1)) (zG (u.2))) (kB (dC, dI) cl (tX47 d) A (fun u : (Nat → Int64) × (Nat → Int64) => (wX47 ci ad d f_constants f_blanks f_counts f_points f_kept f_hashes f_news f_rounds f_hashed f_groups f_groupOf f_groupCount f_trial f_row f_names f_namedBlanks f_form f_formCount f_octets f_descriptions f_described f_message f_size (u.1) (u.2) f_thrown f_said))) A) args s 0 0 A) (F0 m 175 ls [])) :
    ∀ (nn : Nat) (x2 : Int32) (f_schedule : Nat → Int64), wX47_block_66 K175 nn x2.toInt (zG f_schedule) → ∀ (H : Heap) (locs : List Loc) (ls : Array Slot), kH (dC, dI) cl A s.heap H locs (wX47 ci ad d f_constants f_blanks f_counts f_points f_kept f_hashes f_news f_rounds f_hashed f_groups f_groupOf f_groupCount f_trial f_row f_names f_namedBlanks f_form f_formCount f_octets f_descriptions f_described f_message f_size f_words f_schedule f_thrown f_said) → lv_has ls 23 [(0, .ref (ad 0)), (2, .int x2)] → W p l e ({ frames := 1, cells := 0, slots := 0, locals := 22 } : Room) s m args below meth c H locs 0 0 (MQ below (va_Qv (fun (u : (Nat → Int64) × (Nat → Int64)) => post (zG (u.1)) (zG (u.2))) (kB (dC, dI) cl (tX47 d) A (fun u : (Nat → Int64) × (Nat → Int64) => (wX47 ci ad d f_constants f_blanks f_counts f_points f_kept f_hashes f_news f_rounds f_hashed f_groups f_groupOf f_groupCount f_trial f_row f_names f_namedBlanks f_form f_formCount f_octets f_descriptions f_described f_message f_size (u.1) (u.2) f_thrown f_said))) A) args s 0 0 A) (F0 m 66 ls []) := by
  have hx := X.1.1
  have hb := X.1.2.1
  intro nn
  induction nn with
  | zero =>
    intro x2 f_schedule hw
    exact False.elim hw
  | succ n ih =>
    intro x2 f_schedule hw H locs ls hH hl
    rw [wX47_block_66] at hw
    refine lv_iload_n hx hb dX47_block_66 rfl (lv_at hl 1 rfl) ?_
    refine lv_bipush (v := 64) hx hb dX47_block_67 (by decide) ?_
    refine lv_icmp_ge (tgt := 175) hx hb dX47_block_69 (by decide) (fun c_24 => ?_) (fun c_24 => ?_)
    · have hw := hw.1 (z_le (rfl : (64 : Int32).toInt = 64) (rfl : x2.toInt = _) c_24)
      exact hk175 f_schedule hw _ _ ls hH (lv_sub hl [0] rfl)
    · have hw := hw.2 (z_nle (rfl : (64 : Int32).toInt = 64) (rfl : x2.toInt = _) c_24)
      refine lv_aload_n hx hb dX47_block_72 rfl (lv_at hl 0 rfl) ?_
      refine k_get X hH in_X47 0 rfl hc 24 (by decide) q6008 rfl dX47_block_73 ?_
      refine lv_iload_n hx hb dX47_block_76 rfl (lv_at hl 1 rfl) ?_
      refine lv_bipush (v := 15) hx hb dX47_block_77 (by decide) ?_
      refine lv_isub hx hb dX47_block_79 ?_
      have e_25 := z_sub (z_m (rfl : x2.toInt = _)) (z_m (rfl : (15 : Int32).toInt = 15))
      have hq_26 := hw.1
      have hw := hw.2
      have e_27 := z_xi e_25 hq_26 (by decide)
      refine k_lald X hH 17 16 rfl rfl (z_in e_27 hq_26) dX47_block_80 ?_
      have e_28 := z_ldL (f := f_schedule) e_27 hq_26.1
      refine lv_topl (fun x3_29 ex3_29 => ?_)
      have hw := hw x3_29.toInt (by rw [ex3_29]; exact e_28)
      refine lv_lstore_n (lv' := [(3, .long x3_29), (0, .ref (ad 0)), (2, .int x2)]) hx hb dX47_block_81 rfl hl (by decide) rfl (fun ls hl => ?_)
      refine lv_aload_n hx hb dX47_block_82 rfl (lv_at hl 1 rfl) ?_
      refine k_get X hH in_X47 0 rfl hc 24 (by decide) q6008 rfl dX47_block_83 ?_
      refine lv_iload_n hx hb dX47_block_86 rfl (lv_at hl 2 rfl) ?_
      refine lv_iconst (v := 2) hx hb dX47_block_87 (by decide) ?_
      refine lv_isub hx hb dX47_block_88 ?_
      have e_30 := z_sub (z_m (rfl : x2.toInt = _)) (z_m (rfl : (2 : Int32).toInt = 2))
      have hq_31 := hw.1
      have hw := hw.2
      have e_32 := z_xi e_30 hq_31 (by decide)
      refine k_lald X hH 17 16 rfl rfl (z_in e_32 hq_31) dX47_block_89 ?_
      have e_33 := z_ldL (f := f_schedule) e_32 hq_31.1
      refine lv_topl (fun x5_34 ex5_34 => ?_)
      have hw := hw x5_34.toInt (by rw [ex5_34]; exact e_33)
      refine lv_lstore (lv' := [(5, .long x5_34), (3, .long x3_29), (0, .ref (ad 0)), (2, .int x2)]) hx hb dX47_block_90 hl (by decide) rfl (fun ls hl => ?_)
      refine lv_lload_n hx hb dX47_block_92 rfl (lv_at hl 1 rfl) ?_
      refine lv_bipush (v := 7) hx hb dX47_block_93 (by decide) ?_
      refine k_l0 hH (k_runS (As := [.long x3_29, .int 7]) (rest := []) X hH.1 hH.2.1 X.2.2.2 (walkX47_turned hc (x0 := x3_29) (x2 := 7) (f_constants := f_constants) (f_blanks := f_blanks) (f_counts := f_counts) (f_points := f_points) (f_kept := f_kept) (f_hashes := f_hashes) (f_news := f_news) (f_rounds := f_rounds) (f_hashed := f_hashed) (f_groups := f_groups) (f_groupOf := f_groupOf) (f_groupCount := f_groupCount) (f_trial := f_trial) (f_row := f_row) (f_names := f_names) (f_namedBlanks := f_namedBlanks) (f_form := f_form) (f_formCount := f_formCount) (f_octets := f_octets) (f_descriptions := f_descriptions) (f_described := f_described) (f_message := f_message) (f_size := f_size) (f_words := f_words) (f_schedule := f_schedule) (f_thrown := f_thrown) (f_said := f_said) hw) (va_cwS 2 X.1.2.2.2.2 gX47_231 rfl rfl rfl hX47_turned ⟨Nat.le_of_ble_eq_true rfl, Nat.le_of_ble_eq_true rfl⟩) rfl hl.1 rfl (Nat.le_of_ble_eq_true rfl) dX47_block_95 ⟨Nat.le_refl 0, Nat.le_refl 0⟩) (fun r_35 _ H locs hw hH => ?_)
      have hH : kH (dC, dI) cl A s.heap H locs (wX47 ci ad d f_constants f_blanks f_counts f_points f_kept f_hashes f_news f_rounds f_hashed f_groups f_groupOf f_groupCount f_trial f_row f_names f_namedBlanks f_form f_formCount f_octets f_descriptions f_described f_message f_size f_words f_schedule f_thrown f_said) := hH
      refine lv_lload_n hx hb dX47_block_98 rfl (lv_at hl 1 rfl) ?_
      refine lv_bipush (v := 18) hx hb dX47_block_99 (by decide) ?_
      refine k_l0 hH (k_runS (As := [.long x3_29, .int 18]) (rest := [.long r_35]) X hH.1 hH.2.1 X.2.2.2 (walkX47_turned hc (x0 := x3_29) (x2 := 18) (f_constants := f_constants) (f_blanks := f_blanks) (f_counts := f_counts) (f_points := f_points) (f_kept := f_kept) (f_hashes := f_hashes) (f_news := f_news) (f_rounds := f_rounds) (f_hashed := f_hashed) (f_groups := f_groups) (f_groupOf := f_groupOf) (f_groupCount := f_groupCount) (f_trial := f_trial) (f_row := f_row) (f_names := f_names) (f_namedBlanks := f_namedBlanks) (f_form := f_form) (f_formCount := f_formCount) (f_octets := f_octets) (f_descriptions := f_descriptions) (f_described := f_described) (f_message := f_message) (f_size := f_size) (f_words := f_words) (f_schedule := f_schedule) (f_thrown := f_thrown) (f_said := f_said) hw) (va_cwS 2 X.1.2.2.2.2 gX47_231 rfl rfl rfl hX47_turned ⟨Nat.le_of_ble_eq_true rfl, Nat.le_of_ble_eq_true rfl⟩) rfl hl.1 rfl (Nat.le_of_ble_eq_true rfl) dX47_block_101 ⟨Nat.le_refl 0, Nat.le_refl 0⟩) (fun r_36 _ H locs hw hH => ?_)
      have hH : kH (dC, dI) cl A s.heap H locs (wX47 ci ad d f_constants f_blanks f_counts f_points f_kept f_hashes f_news f_rounds f_hashed f_groups f_groupOf f_groupCount f_trial f_row f_names f_namedBlanks f_form f_formCount f_octets f_descriptions f_described f_message f_size f_words f_schedule f_thrown f_said) := hH
      refine lv_lxor hx hb dX47_block_104 ?_
      have e_37 := zL_xor (zL_m (rfl : r_35.toInt = _)) (zL_m (rfl : r_36.toInt = _))
      refine lv_lload_n hx hb dX47_block_105 rfl (lv_at hl 1 rfl) ?_
      refine lv_iconst (v := 3) hx hb dX47_block_106 (by decide) ?_
      refine lv_lshr (v := x3_29 >>> ((3 : Int32).toInt64 &&& 63)) hx hb dX47_block_107 rfl ?_
      have e_38 := zL_shr (rfl : x3_29.toInt = _) (k := 3) (m := 3) (c := 8) (by decide)
      refine lv_lxor hx hb dX47_block_108 ?_
      have e_39 := zL_xor (zL_m e_37) (zL_m e_38)
      refine lv_topl (fun x7_40 ex7_40 => ?_)
      have hw := hw x7_40.toInt (by rw [ex7_40]; exact e_39)
      refine lv_lstore (lv' := [(7, .long x7_40), (5, .long x5_34), (3, .long x3_29), (0, .ref (ad 0)), (2, .int x2)]) hx hb dX47_block_109 hl (by decide) rfl (fun ls hl => ?_)
      refine lv_lload hx hb dX47_block_111 (lv_at hl 1 rfl) ?_
      refine lv_bipush (v := 17) hx hb dX47_block_113 (by decide) ?_
      refine k_l0 hH (k_runS (As := [.long x5_34, .int 17]) (rest := []) X hH.1 hH.2.1 X.2.2.2 (walkX47_turned hc (x0 := x5_34) (x2 := 17) (f_constants := f_constants) (f_blanks := f_blanks) (f_counts := f_counts) (f_points := f_points) (f_kept := f_kept) (f_hashes := f_hashes) (f_news := f_news) (f_rounds := f_rounds) (f_hashed := f_hashed) (f_groups := f_groups) (f_groupOf := f_groupOf) (f_groupCount := f_groupCount) (f_trial := f_trial) (f_row := f_row) (f_names := f_names) (f_namedBlanks := f_namedBlanks) (f_form := f_form) (f_formCount := f_formCount) (f_octets := f_octets) (f_descriptions := f_descriptions) (f_described := f_described) (f_message := f_message) (f_size := f_size) (f_words := f_words) (f_schedule := f_schedule) (f_thrown := f_thrown) (f_said := f_said) hw) (va_cwS 2 X.1.2.2.2.2 gX47_231 rfl rfl rfl hX47_turned ⟨Nat.le_of_ble_eq_true rfl, Nat.le_of_ble_eq_true rfl⟩) rfl hl.1 rfl (Nat.le_of_ble_eq_true rfl) dX47_block_115 ⟨Nat.le_refl 0, Nat.le_refl 0⟩) (fun r_41 _ H locs hw hH => ?_)
      have hH : kH (dC, dI) cl A s.heap H locs (wX47 ci ad d f_constants f_blanks f_counts f_points f_kept f_hashes f_news f_rounds f_hashed f_groups f_groupOf f_groupCount f_trial f_row f_names f_namedBlanks f_form f_formCount f_octets f_descriptions f_described f_message f_size f_words f_schedule f_thrown f_said) := hH
      refine lv_lload hx hb dX47_block_118 (lv_at hl 1 rfl) ?_
      refine lv_bipush (v := 19) hx hb dX47_block_120 (by decide) ?_
      refine k_l0 hH (k_runS (As := [.long x5_34, .int 19]) (rest := [.long r_41]) X hH.1 hH.2.1 X.2.2.2 (walkX47_turned hc (x0 := x5_34) (x2 := 19) (f_constants := f_constants) (f_blanks := f_blanks) (f_counts := f_counts) (f_points := f_points) (f_kept := f_kept) (f_hashes := f_hashes) (f_news := f_news) (f_rounds := f_rounds) (f_hashed := f_hashed) (f_groups := f_groups) (f_groupOf := f_groupOf) (f_groupCount := f_groupCount) (f_trial := f_trial) (f_row := f_row) (f_names := f_names) (f_namedBlanks := f_namedBlanks) (f_form := f_form) (f_formCount := f_formCount) (f_octets := f_octets) (f_descriptions := f_descriptions) (f_described := f_described) (f_message := f_message) (f_size := f_size) (f_words := f_words) (f_schedule := f_schedule) (f_thrown := f_thrown) (f_said := f_said) hw) (va_cwS 2 X.1.2.2.2.2 gX47_231 rfl rfl rfl hX47_turned ⟨Nat.le_of_ble_eq_true rfl, Nat.le_of_ble_eq_true rfl⟩) rfl hl.1 rfl (Nat.le_of_ble_eq_true rfl) dX47_block_122 ⟨Nat.le_refl 0, Nat.le_refl 0⟩) (fun r_42 _ H locs hw hH => ?_)
      have hH : kH (dC, dI) cl A s.heap H locs (wX47 ci ad d f_constants f_blanks f_counts f_points f_kept f_hashes f_news f_rounds f_hashed f_groups f_groupOf f_groupCount f_trial f_row f_names f_namedBlanks f_form f_formCount f_octets f_descriptions f_described f_message f_size f_words f_schedule f_thrown f_said) := hH
      refine lv_lxor hx hb dX47_block_125 ?_
      have e_43 := zL_xor (zL_m (rfl : r_41.toInt = _)) (zL_m (rfl : r_42.toInt = _))
      refine lv_lload hx hb dX47_block_126 (lv_at hl 1 rfl) ?_
      refine lv_bipush (v := 10) hx hb dX47_block_128 (by decide) ?_
      refine lv_lshr (v := x5_34 >>> ((10 : Int32).toInt64 &&& 63)) hx hb dX47_block_130 rfl ?_
      have e_44 := zL_shr (rfl : x5_34.toInt = _) (k := 10) (m := 10) (c := 1024) (by decide)
      refine lv_lxor hx hb dX47_block_131 ?_
      have e_45 := zL_xor (zL_m e_43) (zL_m e_44)
      refine lv_topl (fun x9_46 ex9_46 => ?_)
      have hw := hw x9_46.toInt (by rw [ex9_46]; exact e_45)
      refine lv_lstore (lv' := [(9, .long x9_46), (7, .long x7_40), (5, .long x5_34), (3, .long x3_29), (0, .ref (ad 0)), (2, .int x2)]) hx hb dX47_block_132 hl (by decide) rfl (fun ls hl => ?_)
      refine lv_aload_n hx hb dX47_block_134 rfl (lv_at hl 4 rfl) ?_
      refine k_get X hH in_X47 0 rfl hc 24 (by decide) q6008 rfl dX47_block_135 ?_
      refine lv_iload_n hx hb dX47_block_138 rfl (lv_at hl 5 rfl) ?_
      refine lv_aload_n hx hb dX47_block_139 rfl (lv_at hl 4 rfl) ?_
      refine k_get X hH in_X47 0 rfl hc 24 (by decide) q6008 rfl dX47_block_140 ?_
      refine lv_iload_n hx hb dX47_block_143 rfl (lv_at hl 5 rfl) ?_
      refine lv_bipush (v := 16) hx hb dX47_block_144 (by decide) ?_
      refine lv_isub hx hb dX47_block_146 ?_
      have e_47 := z_sub (z_m (rfl : x2.toInt = _)) (z_m (rfl : (16 : Int32).toInt = 16))
      have hq_48 := hw.1
      have hw := hw.2
      have e_49 := z_xi e_47 hq_48 (by decide)
      refine k_lald X hH 17 16 rfl rfl (z_in e_49 hq_48) dX47_block_147 ?_
      have e_50 := z_ldL (f := f_schedule) e_49 hq_48.1
      refine lv_lload hx hb dX47_block_148 (lv_at hl 1 rfl) ?_
      refine lv_ladd hx hb dX47_block_150 ?_
      have e_51 := zL_add (zL_m e_50) (zL_m (rfl : x7_40.toInt = _))
      refine lv_aload_n hx hb dX47_block_151 rfl (lv_at hl 4 rfl) ?_
      refine k_get X hH in_X47 0 rfl hc 24 (by decide) q6008 rfl dX47_block_152 ?_
      refine lv_iload_n hx hb dX47_block_155 rfl (lv_at hl 5 rfl) ?_
      refine lv_bipush (v := 7) hx hb dX47_block_156 (by decide) ?_
      refine lv_isub hx hb dX47_block_158 ?_
      have e_52 := z_sub (z_m (rfl : x2.toInt = _)) (z_m (rfl : (7 : Int32).toInt = 7))
      have hq_53 := hw.1
      have hw := hw.2
      have e_54 := z_xi e_52 hq_53 (by decide)
      refine k_lald X hH 17 16 rfl rfl (z_in e_54 hq_53) dX47_block_159 ?_
      have e_55 := z_ldL (f := f_schedule) e_54 hq_53.1
      refine lv_ladd hx hb dX47_block_160 ?_
      have e_56 := zL_add e_51 (zL_m e_55)
      refine lv_lload hx hb dX47_block_161 (lv_at hl 0 rfl) ?_
      refine lv_ladd hx hb dX47_block_163 ?_
      have e_57 := zL_add e_56 (zL_m (rfl : x9_46.toInt = _))
      refine lv_ldc2 (v := 4294967295) hx hb X.1.2.2.2.1 (X.1.2.2.2.2 _ q5979) dX47_block_164 ?_
      refine lv_land hx hb dX47_block_167 ?_
      have e_58 := zL_mask e_57 (k := 32) (mm := 4294967295) (c := 4294967296) (by decide)
      refine lv_topl (fun v_59 ev_59 => ?_)
      have hw := hw v_59.toInt (by rw [ev_59]; exact e_58)
      have hq_61 := hw.1
      have hw := hw.2
      obtain ⟨f_schedule_60, ef_schedule_60⟩ : ∃ y : Nat → Int64, y = vp_updL f_schedule x2.toNatClampNeg v_59 := ⟨_, rfl⟩
      refine k_last X hH 17 16 rfl rfl (z_in (rfl : x2.toInt = _) hq_61) dX47_block_168 ef_schedule_60 (ws1 := (wX47 ci ad d f_constants f_blanks f_counts f_points f_kept f_hashes f_news f_rounds f_hashed f_groups f_groupOf f_groupCount f_trial f_row f_names f_namedBlanks f_form f_formCount f_octets f_descriptions f_described f_message f_size f_words f_schedule_60 f_thrown f_said)) rfl (fun H locs hH => ?_)
      have hw := hw (zG f_schedule_60) (by rw [ef_schedule_60]; exact z_stL (f := f_schedule) (rfl : x2.toInt = _) hq_61.1 (rfl : v_59.toInt = _))
      have hq_63 := hw.1
      have hw := hw.2
      obtain ⟨x2_62, ex2_62⟩ : ∃ y : Int32, y = x2 + 1 := ⟨_, rfl⟩
      have hw := hw x2_62.toInt (by rw [ex2_62]; exact (z_x (z_add (z_m (rfl : x2.toInt = _)) (z_m (rfl : (1 : Int32).toInt = 1))) hq_63))
      refine lv_iinc (v := x2_62) (lv' := [(2, .int x2_62), (9, .long x9_46), (7, .long x7_40), (5, .long x5_34), (3, .long x3_29), (0, .ref (ad 0))]) hx hb dX47_block_169 hl (k := 5) rfl (by rw [ex2_62]; rfl) (by decide) rfl (fun ls hl => ?_)
      refine lv_goto (tgt := 66) hx hb dX47_block_172 (by decide) ?_
      exact ih x2_62 f_schedule_60 hw _ _ ls hH (lv_sub hl [5, 0] rfl)
set_option maxHeartbeats 4000000 in
theorem atX47_block_243 {p : Program} {l : Launch} {e : Env} {s : State} {m : MethodId} {args : Array Value} {below : List Frame} {meth : Method} {c : Code} {dC : Nat → ClassId} {dI : Nat → Nat → Nat} {cl : List vw_C} {ci : Nat} (hc : cl[ci]? = some (RX47, TX47, 27)) {ad : Nat → Nat} {d : Nat → ClassId} {A : Nat → Prop} {post : (Int → Int) → (Int → Int) → Prop} {f_constants : Nat → Int64} {f_blanks : Nat → Int32} {f_counts : Nat → Int32} {f_points : Nat → Int32} {f_kept : Int32} {f_hashes : Nat → Int64} {f_news : Nat → Int64} {f_rounds : Int32} {f_hashed : Int32} {f_groups : Nat → Int32} {f_groupOf : Nat → Int32} {f_groupCount : Int32} {f_trial : Nat → Int32} {f_row : Nat → Int32} {f_names : Nat → Int32} {f_namedBlanks : Int32} {f_form : Nat → Int32} {f_formCount : Int32} {f_octets : Nat → Int32} {f_descriptions : Nat → Int32} {f_described : Int32} {f_message : Nat → Int32} {f_size : Int32} {f_thrown : Int32} {f_said : Nat → Int32} (X : kX p s m args meth c cX47_block 23 RX47 none (dC, dI) cl (tX47 d)) {K397 : Int → Int → Int → Int → Int → Int → Int → Int → Prop}  {f_words : Nat → Int64} {f_schedule : Nat → Int64} (hk397 : ∀ (x2 : Int64) (x4 : Int64) (x6 : Int64) (x8 : Int64) (x10 : Int64) (x12 : Int64) (x14 : Int64) (x16 : Int64), K397 x2.toInt x4.toInt x6.toInt x8.toInt x10.toInt x12.toInt x14.toInt x16.toInt → ∀ (H : Heap) (locs : List Loc) (ls : Array Slot), kH (dC, dI) cl A s.heap H locs (wX47 ci ad d f_constants f_blanks f_counts f_points f_kept f_hashes f_news f_rounds f_hashed f_groups f_groupOf f_groupCount f_trial f_row f_names f_namedBlanks f_form f_formCount f_octets f_descriptions f_described f_message f_size f_words f_schedule f_thrown f_said) → lv_has ls 23 [(0, .ref (ad 0)), (2, .long x2), (4, .long x4), (6, .long x6), (8, .long x8), (10, .long x10), (12, .long x12), (14, .long x14), (16, .long x16)] → W p l e ({ frames := 1, cells := 0, slots := 0, locals := 22 } : Room) s m args below meth c H locs 0 0 (MQ below (va_Qv (fun (u : (Nat → Int64) × (Nat → Int64)) => post (zG (u.1)) (zG (u.2))) (kB (dC, dI) cl (tX47 d) A (fun u : (Nat → Int64) × (Nat → Int64) => (wX47 ci ad d f_constants f_blanks f_counts f_points f_kept f_hashes f_news f_rounds f_hashed f_groups f_groupOf f_groupCount f_trial f_row f_names f_namedBlanks f_form f_formCount f_octets f_descriptions f_described f_message f_size (u.1) (u.2) f_thrown f_said))) A) args s 0 0 A) (F0 m 397 ls [])) :
    ∀ (nn : Nat) (x2 : Int64) (x4 : Int64) (x6 : Int64) (x8 : Int64) (x10 : Int64) (x12 : Int64) (x14 : Int64) (x16 : Int64) (x18 : Int32), wX47_block_243 K397 (zG f_constants) (zG f_schedule) nn x2.toInt x4.toInt x6.toInt x8.toInt x10.toInt x12.toInt x14.toInt x16.toInt x18.toInt → ∀ (H : Heap) (locs : List Loc) (ls : Array Slot), kH (dC, dI) cl A s.heap H locs (wX47 ci ad d f_constants f_blanks f_counts f_points f_kept f_hashes f_news f_rounds f_hashed f_groups f_groupOf f_groupCount f_trial f_row f_names f_namedBlanks f_form f_formCount f_octets f_descriptions f_described f_message f_size f_words f_schedule f_thrown f_said) → lv_has ls 23 [(0, .ref (ad 0)), (2, .long x2), (4, .long x4), (6, .long x6), (8, .long x8), (10, .long x10), (12, .long x12), (14, .long x14), (16, .long x16), (18, .int x18)] → W p l e ({ frames := 1, cells := 0, slots := 0, locals := 22 } : Room) s m args below meth c H locs 0 0 (MQ below (va_Qv (fun (u : (Nat → Int64) × (Nat → Int64)) => post (zG (u.1)) (zG (u.2))) (kB (dC, dI) cl (tX47 d) A (fun u : (Nat → Int64) × (Nat → Int64) => (wX47 ci ad d f_constants f_blanks f_counts f_points f_kept f_hashes f_news f_rounds f_hashed f_groups f_groupOf f_groupCount f_trial f_row f_names f_namedBlanks f_form f_formCount f_octets f_descriptions f_described f_message f_size (u.1) (u.2) f_thrown f_said))) A) args s 0 0 A) (F0 m 243 ls []) := by
  have hx := X.1.1
  have hb := X.1.2.1
  intro nn
  induction nn with
  | zero =>
    intro x2 x4 x6 x8 x10 x12 x14 x16 x18 hw
    exact False.elim hw
  | succ n ih =>
    intro x2 x4 x6 x8 x10 x12 x14 x16 x18 hw H locs ls hH hl
    rw [wX47_block_243] at hw
    refine lv_iload hx hb dX47_block_243 (lv_at hl 9 rfl) ?_
    refine lv_bipush (v := 64) hx hb dX47_block_245 (by decide) ?_
    refine lv_icmp_ge (tgt := 397) hx hb dX47_block_247 (by decide) (fun c_81 => ?_) (fun c_81 => ?_)
    · have hw := hw.1 (z_le (rfl : (64 : Int32).toInt = 64) (rfl : x18.toInt = _) c_81)
      exact hk397 x2 x4 x6 x8 x10 x12 x14 x16 hw _ _ ls hH (lv_sub hl [0, 1, 2, 3, 4, 5, 6, 7, 8] rfl)
    · have hw := hw.2 (z_nle (rfl : (64 : Int32).toInt = 64) (rfl : x18.toInt = _) c_81)
      refine lv_lload hx hb dX47_block_250 (lv_at hl 8 rfl) ?_
      refine lv_lload hx hb dX47_block_252 (lv_at hl 5 rfl) ?_
      refine lv_bipush (v := 6) hx hb dX47_block_254 (by decide) ?_
      refine k_l0 hH (k_runS (As := [.long x10, .int 6]) (rest := [.long x16]) X hH.1 hH.2.1 X.2.2.2 (walkX47_turned hc (x0 := x10) (x2 := 6) (f_constants := f_constants) (f_blanks := f_blanks) (f_counts := f_counts) (f_points := f_points) (f_kept := f_kept) (f_hashes := f_hashes) (f_news := f_news) (f_rounds := f_rounds) (f_hashed := f_hashed) (f_groups := f_groups) (f_groupOf := f_groupOf) (f_groupCount := f_groupCount) (f_trial := f_trial) (f_row := f_row) (f_names := f_names) (f_namedBlanks := f_namedBlanks) (f_form := f_form) (f_formCount := f_formCount) (f_octets := f_octets) (f_descriptions := f_descriptions) (f_described := f_described) (f_message := f_message) (f_size := f_size) (f_words := f_words) (f_schedule := f_schedule) (f_thrown := f_thrown) (f_said := f_said) hw) (va_cwS 2 X.1.2.2.2.2 gX47_231 rfl rfl rfl hX47_turned ⟨Nat.le_of_ble_eq_true rfl, Nat.le_of_ble_eq_true rfl⟩) rfl hl.1 rfl (Nat.le_of_ble_eq_true rfl) dX47_block_256 ⟨Nat.le_refl 0, Nat.le_refl 0⟩) (fun r_82 _ H locs hw hH => ?_)
      have hH : kH (dC, dI) cl A s.heap H locs (wX47 ci ad d f_constants f_blanks f_counts f_points f_kept f_hashes f_news f_rounds f_hashed f_groups f_groupOf f_groupCount f_trial f_row f_names f_namedBlanks f_form f_formCount f_octets f_descriptions f_described f_message f_size f_words f_schedule f_thrown f_said) := hH
      refine lv_lload hx hb dX47_block_259 (lv_at hl 5 rfl) ?_
      refine lv_bipush (v := 11) hx hb dX47_block_261 (by decide) ?_
      refine k_l0 hH (k_runS (As := [.long x10, .int 11]) (rest := [.long r_82, .long x16]) X hH.1 hH.2.1 X.2.2.2 (walkX47_turned hc (x0 := x10) (x2 := 11) (f_constants := f_constants) (f_blanks := f_blanks) (f_counts := f_counts) (f_points := f_points) (f_kept := f_kept) (f_hashes := f_hashes) (f_news := f_news) (f_rounds := f_rounds) (f_hashed := f_hashed) (f_groups := f_groups) (f_groupOf := f_groupOf) (f_groupCount := f_groupCount) (f_trial := f_trial) (f_row := f_row) (f_names := f_names) (f_namedBlanks := f_namedBlanks) (f_form := f_form) (f_formCount := f_formCount) (f_octets := f_octets) (f_descriptions := f_descriptions) (f_described := f_described) (f_message := f_message) (f_size := f_size) (f_words := f_words) (f_schedule := f_schedule) (f_thrown := f_thrown) (f_said := f_said) hw) (va_cwS 2 X.1.2.2.2.2 gX47_231 rfl rfl rfl hX47_turned ⟨Nat.le_of_ble_eq_true rfl, Nat.le_of_ble_eq_true rfl⟩) rfl hl.1 rfl (Nat.le_of_ble_eq_true rfl) dX47_block_263 ⟨Nat.le_refl 0, Nat.le_refl 0⟩) (fun r_83 _ H locs hw hH => ?_)
      have hH : kH (dC, dI) cl A s.heap H locs (wX47 ci ad d f_constants f_blanks f_counts f_points f_kept f_hashes f_news f_rounds f_hashed f_groups f_groupOf f_groupCount f_trial f_row f_names f_namedBlanks f_form f_formCount f_octets f_descriptions f_described f_message f_size f_words f_schedule f_thrown f_said) := hH
      refine lv_lxor hx hb dX47_block_266 ?_
      have e_84 := zL_xor (zL_m (rfl : r_82.toInt = _)) (zL_m (rfl : r_83.toInt = _))
      refine lv_lload hx hb dX47_block_267 (lv_at hl 5 rfl) ?_
      refine lv_bipush (v := 25) hx hb dX47_block_269 (by decide) ?_
      refine k_l0 hH (k_runS (As := [.long x10, .int 25]) (rest := [.long (r_82 ^^^ r_83), .long x16]) X hH.1 hH.2.1 X.2.2.2 (walkX47_turned hc (x0 := x10) (x2 := 25) (f_constants := f_constants) (f_blanks := f_blanks) (f_counts := f_counts) (f_points := f_points) (f_kept := f_kept) (f_hashes := f_hashes) (f_news := f_news) (f_rounds := f_rounds) (f_hashed := f_hashed) (f_groups := f_groups) (f_groupOf := f_groupOf) (f_groupCount := f_groupCount) (f_trial := f_trial) (f_row := f_row) (f_names := f_names) (f_namedBlanks := f_namedBlanks) (f_form := f_form) (f_formCount := f_formCount) (f_octets := f_octets) (f_descriptions := f_descriptions) (f_described := f_described) (f_message := f_message) (f_size := f_size) (f_words := f_words) (f_schedule := f_schedule) (f_thrown := f_thrown) (f_said := f_said) hw) (va_cwS 2 X.1.2.2.2.2 gX47_231 rfl rfl rfl hX47_turned ⟨Nat.le_of_ble_eq_true rfl, Nat.le_of_ble_eq_true rfl⟩) rfl hl.1 rfl (Nat.le_of_ble_eq_true rfl) dX47_block_271 ⟨Nat.le_refl 0, Nat.le_refl 0⟩) (fun r_85 _ H locs hw hH => ?_)
      have hH : kH (dC, dI) cl A s.heap H locs (wX47 ci ad d f_constants f_blanks f_counts f_points f_kept f_hashes f_news f_rounds f_hashed f_groups f_groupOf f_groupCount f_trial f_row f_names f_namedBlanks f_form f_formCount f_octets f_descriptions f_described f_message f_size f_words f_schedule f_thrown f_said) := hH
      refine lv_lxor hx hb dX47_block_274 ?_
      have e_86 := zL_xor (zL_m e_84) (zL_m (rfl : r_85.toInt = _))
      refine lv_ladd hx hb dX47_block_275 ?_
      have e_87 := zL_add (zL_m (rfl : x16.toInt = _)) (zL_m e_86)
      refine lv_lload hx hb dX47_block_276 (lv_at hl 5 rfl) ?_
      refine lv_lload hx hb dX47_block_278 (lv_at hl 6 rfl) ?_
      refine lv_land hx hb dX47_block_280 ?_
      have e_88 := zL_and (zL_m (rfl : x10.toInt = _)) (zL_m (rfl : x12.toInt = _))
      refine lv_ldc2 (v := 4294967295) hx hb X.1.2.2.2.1 (X.1.2.2.2.2 _ q5979) dX47_block_281 ?_
      refine lv_lload hx hb dX47_block_284 (lv_at hl 5 rfl) ?_
      refine lv_lsub hx hb dX47_block_286 ?_
      have e_89 := zL_sub (zL_m (rfl : (4294967295 : Int64).toInt = 4294967295)) (zL_m (rfl : x10.toInt = _))
      refine lv_lload hx hb dX47_block_287 (lv_at hl 7 rfl) ?_
      refine lv_land hx hb dX47_block_289 ?_
      have e_90 := zL_and e_89 (zL_m (rfl : x14.toInt = _))
      refine lv_lxor hx hb dX47_block_290 ?_
      have e_91 := zL_xor (zL_m e_88) (zL_m e_90)
      refine lv_ladd hx hb dX47_block_291 ?_
      have e_92 := zL_add e_87 (zL_m e_91)
      refine lv_aload_n hx hb dX47_block_292 rfl (lv_at hl 0 rfl) ?_
      refine k_get X hH in_X47 0 rfl hc 0 (by decide) q5984 rfl dX47_block_293 ?_
      refine lv_iload hx hb dX47_block_296 (lv_at hl 9 rfl) ?_
      have hq_93 := hw.1
      have hw := hw.2
      refine k_lald X hH 1 0 rfl rfl (z_in (rfl : x18.toInt = _) hq_93) dX47_block_298 ?_
      have e_94 := z_ldL (f := f_constants) (rfl : x18.toInt = _) hq_93.1
      refine lv_ladd hx hb dX47_block_299 ?_
      have e_95 := zL_add e_92 (zL_m e_94)
      refine lv_aload_n hx hb dX47_block_300 rfl (lv_at hl 0 rfl) ?_
      refine k_get X hH in_X47 0 rfl hc 24 (by decide) q6008 rfl dX47_block_301 ?_
      refine lv_iload hx hb dX47_block_304 (lv_at hl 9 rfl) ?_
      refine k_lald X hH 17 16 rfl rfl (z_in (rfl : x18.toInt = _) hq_93) dX47_block_306 ?_
      have e_96 := z_ldL (f := f_schedule) (rfl : x18.toInt = _) hq_93.1
      refine lv_ladd hx hb dX47_block_307 ?_
      have e_97 := zL_add e_95 (zL_m e_96)
      have hq_98 := hw.1
      have hw := hw.2
      have e_99 := zL_x e_97 hq_98
      refine lv_topl (fun x19_100 ex19_100 => ?_)
      have hw := hw x19_100.toInt (by rw [ex19_100]; exact e_99)
      refine lv_lstore (lv' := [(19, .long x19_100), (0, .ref (ad 0)), (2, .long x2), (4, .long x4), (6, .long x6), (8, .long x8), (10, .long x10), (12, .long x12), (14, .long x14), (16, .long x16), (18, .int x18)]) hx hb dX47_block_308 hl (by decide) rfl (fun ls hl => ?_)
      refine lv_lload_n hx hb dX47_block_310 rfl (lv_at hl 2 rfl) ?_
      refine lv_iconst (v := 2) hx hb dX47_block_311 (by decide) ?_
      refine k_l0 hH (k_runS (As := [.long x2, .int 2]) (rest := []) X hH.1 hH.2.1 X.2.2.2 (walkX47_turned hc (x0 := x2) (x2 := 2) (f_constants := f_constants) (f_blanks := f_blanks) (f_counts := f_counts) (f_points := f_points) (f_kept := f_kept) (f_hashes := f_hashes) (f_news := f_news) (f_rounds := f_rounds) (f_hashed := f_hashed) (f_groups := f_groups) (f_groupOf := f_groupOf) (f_groupCount := f_groupCount) (f_trial := f_trial) (f_row := f_row) (f_names := f_names) (f_namedBlanks := f_namedBlanks) (f_form := f_form) (f_formCount := f_formCount) (f_octets := f_octets) (f_descriptions := f_descriptions) (f_described := f_described) (f_message := f_message) (f_size := f_size) (f_words := f_words) (f_schedule := f_schedule) (f_thrown := f_thrown) (f_said := f_said) hw) (va_cwS 2 X.1.2.2.2.2 gX47_231 rfl rfl rfl hX47_turned ⟨Nat.le_of_ble_eq_true rfl, Nat.le_of_ble_eq_true rfl⟩) rfl hl.1 rfl (Nat.le_of_ble_eq_true rfl) dX47_block_312 ⟨Nat.le_refl 0, Nat.le_refl 0⟩) (fun r_101 _ H locs hw hH => ?_)
      have hH : kH (dC, dI) cl A s.heap H locs (wX47 ci ad d f_constants f_blanks f_counts f_points f_kept f_hashes f_news f_rounds f_hashed f_groups f_groupOf f_groupCount f_trial f_row f_names f_namedBlanks f_form f_formCount f_octets f_descriptions f_described f_message f_size f_words f_schedule f_thrown f_said) := hH
      refine lv_lload_n hx hb dX47_block_315 rfl (lv_at hl 2 rfl) ?_
      refine lv_bipush (v := 13) hx hb dX47_block_316 (by decide) ?_
      refine k_l0 hH (k_runS (As := [.long x2, .int 13]) (rest := [.long r_101]) X hH.1 hH.2.1 X.2.2.2 (walkX47_turned hc (x0 := x2) (x2 := 13) (f_constants := f_constants) (f_blanks := f_blanks) (f_counts := f_counts) (f_points := f_points) (f_kept := f_kept) (f_hashes := f_hashes) (f_news := f_news) (f_rounds := f_rounds) (f_hashed := f_hashed) (f_groups := f_groups) (f_groupOf := f_groupOf) (f_groupCount := f_groupCount) (f_trial := f_trial) (f_row := f_row) (f_names := f_names) (f_namedBlanks := f_namedBlanks) (f_form := f_form) (f_formCount := f_formCount) (f_octets := f_octets) (f_descriptions := f_descriptions) (f_described := f_described) (f_message := f_message) (f_size := f_size) (f_words := f_words) (f_schedule := f_schedule) (f_thrown := f_thrown) (f_said := f_said) hw) (va_cwS 2 X.1.2.2.2.2 gX47_231 rfl rfl rfl hX47_turned ⟨Nat.le_of_ble_eq_true rfl, Nat.le_of_ble_eq_true rfl⟩) rfl hl.1 rfl (Nat.le_of_ble_eq_true rfl) dX47_block_318 ⟨Nat.le_refl 0, Nat.le_refl 0⟩) (fun r_102 _ H locs hw hH => ?_)
      have hH : kH (dC, dI) cl A s.heap H locs (wX47 ci ad d f_constants f_blanks f_counts f_points f_kept f_hashes f_news f_rounds f_hashed f_groups f_groupOf f_groupCount f_trial f_row f_names f_namedBlanks f_form f_formCount f_octets f_descriptions f_described f_message f_size f_words f_schedule f_thrown f_said) := hH
      refine lv_lxor hx hb dX47_block_321 ?_
      have e_103 := zL_xor (zL_m (rfl : r_101.toInt = _)) (zL_m (rfl : r_102.toInt = _))
      refine lv_lload_n hx hb dX47_block_322 rfl (lv_at hl 2 rfl) ?_
      refine lv_bipush (v := 22) hx hb dX47_block_323 (by decide) ?_
      refine k_l0 hH (k_runS (As := [.long x2, .int 22]) (rest := [.long (r_101 ^^^ r_102)]) X hH.1 hH.2.1 X.2.2.2 (walkX47_turned hc (x0 := x2) (x2 := 22) (f_constants := f_constants) (f_blanks := f_blanks) (f_counts := f_counts) (f_points := f_points) (f_kept := f_kept) (f_hashes := f_hashes) (f_news := f_news) (f_rounds := f_rounds) (f_hashed := f_hashed) (f_groups := f_groups) (f_groupOf := f_groupOf) (f_groupCount := f_groupCount) (f_trial := f_trial) (f_row := f_row) (f_names := f_names) (f_namedBlanks := f_namedBlanks) (f_form := f_form) (f_formCount := f_formCount) (f_octets := f_octets) (f_descriptions := f_descriptions) (f_described := f_described) (f_message := f_message) (f_size := f_size) (f_words := f_words) (f_schedule := f_schedule) (f_thrown := f_thrown) (f_said := f_said) hw) (va_cwS 2 X.1.2.2.2.2 gX47_231 rfl rfl rfl hX47_turned ⟨Nat.le_of_ble_eq_true rfl, Nat.le_of_ble_eq_true rfl⟩) rfl hl.1 rfl (Nat.le_of_ble_eq_true rfl) dX47_block_325 ⟨Nat.le_refl 0, Nat.le_refl 0⟩) (fun r_104 _ H locs hw hH => ?_)
      have hH : kH (dC, dI) cl A s.heap H locs (wX47 ci ad d f_constants f_blanks f_counts f_points f_kept f_hashes f_news f_rounds f_hashed f_groups f_groupOf f_groupCount f_trial f_row f_names f_namedBlanks f_form f_formCount f_octets f_descriptions f_described f_message f_size f_words f_schedule f_thrown f_said) := hH
      refine lv_lxor hx hb dX47_block_328 ?_
      have e_105 := zL_xor (zL_m e_103) (zL_m (rfl : r_104.toInt = _))
      refine lv_lload_n hx hb dX47_block_329 rfl (lv_at hl 2 rfl) ?_
      refine lv_lload hx hb dX47_block_330 (lv_at hl 3 rfl) ?_
      refine lv_land hx hb dX47_block_332 ?_
      have e_106 := zL_and (zL_m (rfl : x2.toInt = _)) (zL_m (rfl : x4.toInt = _))
      refine lv_lload_n hx hb dX47_block_333 rfl (lv_at hl 2 rfl) ?_
      refine lv_lload hx hb dX47_block_334 (lv_at hl 4 rfl) ?_
      refine lv_land hx hb dX47_block_336 ?_
      have e_107 := zL_and (zL_m (rfl : x2.toInt = _)) (zL_m (rfl : x6.toInt = _))
      refine lv_lxor hx hb dX47_block_337 ?_
      have e_108 := zL_xor (zL_m e_106) (zL_m e_107)
      refine lv_lload hx hb dX47_block_338 (lv_at hl 3 rfl) ?_
      refine lv_lload hx hb dX47_block_340 (lv_at hl 4 rfl) ?_
      refine lv_land hx hb dX47_block_342 ?_
      have e_109 := zL_and (zL_m (rfl : x4.toInt = _)) (zL_m (rfl : x6.toInt = _))
      refine lv_lxor hx hb dX47_block_343 ?_
      have e_110 := zL_xor (zL_m e_108) (zL_m e_109)
      refine lv_ladd hx hb dX47_block_344 ?_
      have e_111 := zL_add (zL_m e_105) (zL_m e_110)
      have hq_112 := hw.1
      have hw := hw.2
      have e_113 := zL_x e_111 hq_112
      refine lv_topl (fun x21_114 ex21_114 => ?_)
      have hw := hw x21_114.toInt (by rw [ex21_114]; exact e_113)
      refine lv_lstore (lv' := [(21, .long x21_114), (19, .long x19_100), (0, .ref (ad 0)), (2, .long x2), (4, .long x4), (6, .long x6), (8, .long x8), (10, .long x10), (12, .long x12), (14, .long x14), (16, .long x16), (18, .int x18)]) hx hb dX47_block_345 hl (by decide) rfl (fun ls hl => ?_)
      refine lv_lload hx hb dX47_block_347 (lv_at hl 9 rfl) ?_
      refine lv_lstore (lv' := [(16, .long x14), (21, .long x21_114), (19, .long x19_100), (0, .ref (ad 0)), (2, .long x2), (4, .long x4), (6, .long x6), (8, .long x8), (10, .long x10), (12, .long x12), (14, .long x14), (18, .int x18)]) hx hb dX47_block_349 hl (by decide) rfl (fun ls hl => ?_)
      refine lv_lload hx hb dX47_block_351 (lv_at hl 9 rfl) ?_
      refine lv_lstore (lv' := [(14, .long x12), (16, .long x14), (21, .long x21_114), (19, .long x19_100), (0, .ref (ad 0)), (2, .long x2), (4, .long x4), (6, .long x6), (8, .long x8), (10, .long x10), (12, .long x12), (18, .int x18)]) hx hb dX47_block_353 hl (by decide) rfl (fun ls hl => ?_)
      refine lv_lload hx hb dX47_block_355 (lv_at hl 9 rfl) ?_
      refine lv_lstore (lv' := [(12, .long x10), (14, .long x12), (16, .long x14), (21, .long x21_114), (19, .long x19_100), (0, .ref (ad 0)), (2, .long x2), (4, .long x4), (6, .long x6), (8, .long x8), (10, .long x10), (18, .int x18)]) hx hb dX47_block_357 hl (by decide) rfl (fun ls hl => ?_)
      refine lv_lload hx hb dX47_block_359 (lv_at hl 9 rfl) ?_
      refine lv_lload hx hb dX47_block_361 (lv_at hl 4 rfl) ?_
      refine lv_ladd hx hb dX47_block_363 ?_
      have e_115 := zL_add (zL_m (rfl : x8.toInt = _)) (zL_m (rfl : x19_100.toInt = _))
      refine lv_ldc2 (v := 4294967295) hx hb X.1.2.2.2.1 (X.1.2.2.2.2 _ q5979) dX47_block_364 ?_
      refine lv_land hx hb dX47_block_367 ?_
      have e_116 := zL_mask e_115 (k := 32) (mm := 4294967295) (c := 4294967296) (by decide)
      refine lv_topl (fun x10_117 ex10_117 => ?_)
      have hw := hw x10_117.toInt (by rw [ex10_117]; exact e_116)
      refine lv_lstore (lv' := [(10, .long x10_117), (12, .long x10), (14, .long x12), (16, .long x14), (21, .long x21_114), (19, .long x19_100), (0, .ref (ad 0)), (2, .long x2), (4, .long x4), (6, .long x6), (8, .long x8), (18, .int x18)]) hx hb dX47_block_368 hl (by decide) rfl (fun ls hl => ?_)
      refine lv_lload hx hb dX47_block_370 (lv_at hl 9 rfl) ?_
      refine lv_lstore (lv' := [(8, .long x6), (10, .long x10_117), (12, .long x10), (14, .long x12), (16, .long x14), (21, .long x21_114), (19, .long x19_100), (0, .ref (ad 0)), (2, .long x2), (4, .long x4), (6, .long x6), (18, .int x18)]) hx hb dX47_block_372 hl (by decide) rfl (fun ls hl => ?_)
      refine lv_lload hx hb dX47_block_374 (lv_at hl 9 rfl) ?_
      refine lv_lstore (lv' := [(6, .long x4), (8, .long x6), (10, .long x10_117), (12, .long x10), (14, .long x12), (16, .long x14), (21, .long x21_114), (19, .long x19_100), (0, .ref (ad 0)), (2, .long x2), (4, .long x4), (18, .int x18)]) hx hb dX47_block_376 hl (by decide) rfl (fun ls hl => ?_)
      refine lv_lload_n hx hb dX47_block_378 rfl (lv_at hl 9 rfl) ?_
      refine lv_lstore (lv' := [(4, .long x2), (6, .long x4), (8, .long x6), (10, .long x10_117), (12, .long x10), (14, .long x12), (16, .long x14), (21, .long x21_114), (19, .long x19_100), (0, .ref (ad 0)), (2, .long x2), (18, .int x18)]) hx hb dX47_block_379 hl (by decide) rfl (fun ls hl => ?_)
      refine lv_lload hx hb dX47_block_381 (lv_at hl 8 rfl) ?_
      refine lv_lload hx hb dX47_block_383 (lv_at hl 7 rfl) ?_
      refine lv_ladd hx hb dX47_block_385 ?_
      have e_118 := zL_add (zL_m (rfl : x19_100.toInt = _)) (zL_m (rfl : x21_114.toInt = _))
      refine lv_ldc2 (v := 4294967295) hx hb X.1.2.2.2.1 (X.1.2.2.2.2 _ q5979) dX47_block_386 ?_
      refine lv_land hx hb dX47_block_389 ?_
      have e_119 := zL_mask e_118 (k := 32) (mm := 4294967295) (c := 4294967296) (by decide)
      refine lv_topl (fun x2_120 ex2_120 => ?_)
      have hw := hw x2_120.toInt (by rw [ex2_120]; exact e_119)
      refine lv_lstore_n (lv' := [(2, .long x2_120), (4, .long x2), (6, .long x4), (8, .long x6), (10, .long x10_117), (12, .long x10), (14, .long x12), (16, .long x14), (21, .long x21_114), (19, .long x19_100), (0, .ref (ad 0)), (18, .int x18)]) hx hb dX47_block_390 rfl hl (by decide) rfl (fun ls hl => ?_)
      have hq_122 := hw.1
      have hw := hw.2
      obtain ⟨x18_121, ex18_121⟩ : ∃ y : Int32, y = x18 + 1 := ⟨_, rfl⟩
      have hw := hw x18_121.toInt (by rw [ex18_121]; exact (z_x (z_add (z_m (rfl : x18.toInt = _)) (z_m (rfl : (1 : Int32).toInt = 1))) hq_122))
      refine lv_iinc (v := x18_121) (lv' := [(18, .int x18_121), (2, .long x2_120), (4, .long x2), (6, .long x4), (8, .long x6), (10, .long x10_117), (12, .long x10), (14, .long x12), (16, .long x14), (21, .long x21_114), (19, .long x19_100), (0, .ref (ad 0))]) hx hb dX47_block_391 hl (k := 11) rfl (by rw [ex18_121]; rfl) (by decide) rfl (fun ls hl => ?_)
      refine lv_goto (tgt := 243) hx hb dX47_block_394 (by decide) ?_
      exact ih x2_120 x2 x4 x6 x10_117 x10 x12 x14 x18_121 hw _ _ ls hH (lv_sub hl [11, 1, 2, 3, 4, 5, 6, 7, 8, 0] rfl)
set_option maxHeartbeats 4000000 in
theorem walkX47_block {l : Launch} {dC : Nat → ClassId} {dI : Nat → Nat → Nat} {cl : List vw_C} {ci : Nat} (hc : cl[ci]? = some (RX47, TX47, 27)) {ad : Nat → Nat} {d : Nat → ClassId} {sz : Nat} {f_constants : Nat → Int64} {f_blanks : Nat → Int32} {f_counts : Nat → Int32} {f_points : Nat → Int32} {f_kept : Int32} {f_hashes : Nat → Int64} {f_news : Nat → Int64} {f_rounds : Int32} {f_hashed : Int32} {f_groups : Nat → Int32} {f_groupOf : Nat → Int32} {f_groupCount : Int32} {f_trial : Nat → Int32} {f_row : Nat → Int32} {f_names : Nat → Int32} {f_namedBlanks : Int32} {f_form : Nat → Int32} {f_formCount : Int32} {f_octets : Nat → Int32} {f_descriptions : Nat → Int32} {f_described : Int32} {f_message : Nat → Int32} {f_size : Int32} {f_words : Nat → Int64} {f_schedule : Nat → Int64} {f_thrown : Int32} {f_said : Nat → Int32} {x1 : Int32} {post : (Int → Int) → (Int → Int) → Prop} (hw : wpX47_block post (zG f_constants) (zF f_message) (zG f_words) (zG f_schedule) x1.toInt) :
    Met l yX47_block (ws_ yX47_block cX47_block 23 none) ({ frames := 1, cells := 0, slots := 0, locals := 22 } : Room) (kPc (dC, dI) cl (tX47 d) [.ref (ad 0), .int x1] sz (wX47 ci ad d f_constants f_blanks f_counts f_points f_kept f_hashes f_news f_rounds f_hashed f_groups f_groupOf f_groupCount f_trial f_row f_names f_namedBlanks f_form f_formCount f_octets f_descriptions f_described f_message f_size f_words f_schedule f_thrown f_said)) (va_Qv (fun (u : (Nat → Int64) × (Nat → Int64)) => post (zG (u.1)) (zG (u.2))) (kB (dC, dI) cl (tX47 d) (va_A (wX47 ci ad d f_constants f_blanks f_counts f_points f_kept f_hashes f_news f_rounds f_hashed f_groups f_groupOf f_groupCount f_trial f_row f_names f_namedBlanks f_form f_formCount f_octets f_descriptions f_described f_message f_size f_words f_schedule f_thrown f_said) sz) (fun u : (Nat → Int64) × (Nat → Int64) => (wX47 ci ad d f_constants f_blanks f_counts f_points f_kept f_hashes f_news f_rounds f_hashed f_groups f_groupOf f_groupCount f_trial f_row f_names f_namedBlanks f_form f_formCount f_octets f_descriptions f_described f_message f_size (u.1) (u.2) f_thrown f_said))) (va_A (wX47 ci ad d f_constants f_blanks f_counts f_points f_kept f_hashes f_news f_rounds f_hashed f_groups f_groupOf f_groupCount f_trial f_row f_names f_namedBlanks f_form f_formCount f_octets f_descriptions f_described f_message f_size f_words f_schedule f_thrown f_said) sz)) 0 0 (va_A (wX47 ci ad d f_constants f_blanks f_counts f_points f_kept f_hashes f_news f_rounds f_hashed f_groups f_groupOf f_groupCount f_trial f_row f_names f_namedBlanks f_form f_formCount f_octets f_descriptions f_described f_message f_size f_words f_schedule f_thrown f_said) sz) := by
  refine k_enter (by decide) (Nat.le_of_ble_eq_true rfl) ?_
  intro p e s m below meth c ls X hsz hH hl
  subst hsz
  generalize va_A (wX47 ci ad d f_constants f_blanks f_counts f_points f_kept f_hashes f_news f_rounds f_hashed f_groups f_groupOf f_groupCount f_trial f_row f_names f_namedBlanks f_form f_formCount f_octets f_descriptions f_described f_message f_size f_words f_schedule f_thrown f_said) s.heap.size = A at hH ⊢
  have hx := X.1.1
  have hb := X.1.2.1
  have hl : lv_has ls 23 [(0, .ref (ad 0)), (1, .int x1)] := hl
  unfold wpX47_block at hw
  refine lv_iconst (v := 0) hx hb dX47_block_0 (by decide) ?_
  refine lv_istore_n (lv' := [(2, .int 0), (0, .ref (ad 0)), (1, .int x1)]) hx hb dX47_block_1 rfl hl (by decide) rfl (fun ls hl => ?_)
  obtain ⟨fu, hw⟩ := hw
  refine atX47_block_2 hc X ?_ fu 0 f_schedule hw _ _ ls hH (lv_sub hl [1, 2, 0] rfl)
  · intro f_schedule_23 hw H locs ls hH hl
    refine lv_bipush (v := 16) hx hb dX47_block_63 (by decide) ?_
    refine lv_istore_n (lv' := [(2, .int 16), (0, .ref (ad 0))]) hx hb dX47_block_65 rfl hl (by decide) rfl (fun ls hl => ?_)
    obtain ⟨fu, hw⟩ := hw
    refine atX47_block_66 hc X ?_ fu 16 f_schedule_23 hw _ _ ls hH (lv_sub hl [1, 0] rfl)
    · intro f_schedule_64 hw H locs ls hH hl
      refine lv_aload_n hx hb dX47_block_175 rfl (lv_at hl 0 rfl) ?_
      refine k_get X hH in_X47 0 rfl hc 23 (by decide) q6007 rfl dX47_block_176 ?_
      refine lv_iconst (v := 0) hx hb dX47_block_179 (by decide) ?_
      refine k_lald X hH 16 15 rfl rfl (by unfold vp_in; decide) dX47_block_180 ?_
      have e_65 := z_ldL (f := f_words) (rfl : (0 : Int32).toInt = 0) (by decide)
      refine lv_topl (fun x2_66 ex2_66 => ?_)
      have hw := hw x2_66.toInt (by rw [ex2_66]; exact e_65)
      refine lv_lstore_n (lv' := [(2, .long x2_66), (0, .ref (ad 0))]) hx hb dX47_block_181 rfl hl (by decide) rfl (fun ls hl => ?_)
      refine lv_aload_n hx hb dX47_block_182 rfl (lv_at hl 1 rfl) ?_
      refine k_get X hH in_X47 0 rfl hc 23 (by decide) q6007 rfl dX47_block_183 ?_
      refine lv_iconst (v := 1) hx hb dX47_block_186 (by decide) ?_
      refine k_lald X hH 16 15 rfl rfl (by unfold vp_in; decide) dX47_block_187 ?_
      have e_67 := z_ldL (f := f_words) (rfl : (1 : Int32).toInt = 1) (by decide)
      refine lv_topl (fun x4_68 ex4_68 => ?_)
      have hw := hw x4_68.toInt (by rw [ex4_68]; exact e_67)
      refine lv_lstore (lv' := [(4, .long x4_68), (2, .long x2_66), (0, .ref (ad 0))]) hx hb dX47_block_188 hl (by decide) rfl (fun ls hl => ?_)
      refine lv_aload_n hx hb dX47_block_190 rfl (lv_at hl 2 rfl) ?_
      refine k_get X hH in_X47 0 rfl hc 23 (by decide) q6007 rfl dX47_block_191 ?_
      refine lv_iconst (v := 2) hx hb dX47_block_194 (by decide) ?_
      refine k_lald X hH 16 15 rfl rfl (by unfold vp_in; decide) dX47_block_195 ?_
      have e_69 := z_ldL (f := f_words) (rfl : (2 : Int32).toInt = 2) (by decide)
      refine lv_topl (fun x6_70 ex6_70 => ?_)
      have hw := hw x6_70.toInt (by rw [ex6_70]; exact e_69)
      refine lv_lstore (lv' := [(6, .long x6_70), (4, .long x4_68), (2, .long x2_66), (0, .ref (ad 0))]) hx hb dX47_block_196 hl (by decide) rfl (fun ls hl => ?_)
      refine lv_aload_n hx hb dX47_block_198 rfl (lv_at hl 3 rfl) ?_
      refine k_get X hH in_X47 0 rfl hc 23 (by decide) q6007 rfl dX47_block_199 ?_
      refine lv_iconst (v := 3) hx hb dX47_block_202 (by decide) ?_
      refine k_lald X hH 16 15 rfl rfl (by unfold vp_in; decide) dX47_block_203 ?_
      have e_71 := z_ldL (f := f_words) (rfl : (3 : Int32).toInt = 3) (by decide)
      refine lv_topl (fun x8_72 ex8_72 => ?_)
      have hw := hw x8_72.toInt (by rw [ex8_72]; exact e_71)
      refine lv_lstore (lv' := [(8, .long x8_72), (6, .long x6_70), (4, .long x4_68), (2, .long x2_66), (0, .ref (ad 0))]) hx hb dX47_block_204 hl (by decide) rfl (fun ls hl => ?_)
      refine lv_aload_n hx hb dX47_block_206 rfl (lv_at hl 4 rfl) ?_
      refine k_get X hH in_X47 0 rfl hc 23 (by decide) q6007 rfl dX47_block_207 ?_
      refine lv_iconst (v := 4) hx hb dX47_block_210 (by decide) ?_
      refine k_lald X hH 16 15 rfl rfl (by unfold vp_in; decide) dX47_block_211 ?_
      have e_73 := z_ldL (f := f_words) (rfl : (4 : Int32).toInt = 4) (by decide)
      refine lv_topl (fun x10_74 ex10_74 => ?_)
      have hw := hw x10_74.toInt (by rw [ex10_74]; exact e_73)
      refine lv_lstore (lv' := [(10, .long x10_74), (8, .long x8_72), (6, .long x6_70), (4, .long x4_68), (2, .long x2_66), (0, .ref (ad 0))]) hx hb dX47_block_212 hl (by decide) rfl (fun ls hl => ?_)
      refine lv_aload_n hx hb dX47_block_214 rfl (lv_at hl 5 rfl) ?_
      refine k_get X hH in_X47 0 rfl hc 23 (by decide) q6007 rfl dX47_block_215 ?_
      refine lv_iconst (v := 5) hx hb dX47_block_218 (by decide) ?_
      refine k_lald X hH 16 15 rfl rfl (by unfold vp_in; decide) dX47_block_219 ?_
      have e_75 := z_ldL (f := f_words) (rfl : (5 : Int32).toInt = 5) (by decide)
      refine lv_topl (fun x12_76 ex12_76 => ?_)
      have hw := hw x12_76.toInt (by rw [ex12_76]; exact e_75)
      refine lv_lstore (lv' := [(12, .long x12_76), (10, .long x10_74), (8, .long x8_72), (6, .long x6_70), (4, .long x4_68), (2, .long x2_66), (0, .ref (ad 0))]) hx hb dX47_block_220 hl (by decide) rfl (fun ls hl => ?_)
      refine lv_aload_n hx hb dX47_block_222 rfl (lv_at hl 6 rfl) ?_
      refine k_get X hH in_X47 0 rfl hc 23 (by decide) q6007 rfl dX47_block_223 ?_
      refine lv_bipush (v := 6) hx hb dX47_block_226 (by decide) ?_
      refine k_lald X hH 16 15 rfl rfl (by unfold vp_in; decide) dX47_block_228 ?_
      have e_77 := z_ldL (f := f_words) (rfl : (6 : Int32).toInt = 6) (by decide)
      refine lv_topl (fun x14_78 ex14_78 => ?_)
      have hw := hw x14_78.toInt (by rw [ex14_78]; exact e_77)
      refine lv_lstore (lv' := [(14, .long x14_78), (12, .long x12_76), (10, .long x10_74), (8, .long x8_72), (6, .long x6_70), (4, .long x4_68), (2, .long x2_66), (0, .ref (ad 0))]) hx hb dX47_block_229 hl (by decide) rfl (fun ls hl => ?_)
      refine lv_aload_n hx hb dX47_block_231 rfl (lv_at hl 7 rfl) ?_
      refine k_get X hH in_X47 0 rfl hc 23 (by decide) q6007 rfl dX47_block_232 ?_
      refine lv_bipush (v := 7) hx hb dX47_block_235 (by decide) ?_
      refine k_lald X hH 16 15 rfl rfl (by unfold vp_in; decide) dX47_block_237 ?_
      have e_79 := z_ldL (f := f_words) (rfl : (7 : Int32).toInt = 7) (by decide)
      refine lv_topl (fun x16_80 ex16_80 => ?_)
      have hw := hw x16_80.toInt (by rw [ex16_80]; exact e_79)
      refine lv_lstore (lv' := [(16, .long x16_80), (14, .long x14_78), (12, .long x12_76), (10, .long x10_74), (8, .long x8_72), (6, .long x6_70), (4, .long x4_68), (2, .long x2_66), (0, .ref (ad 0))]) hx hb dX47_block_238 hl (by decide) rfl (fun ls hl => ?_)
      refine lv_iconst (v := 0) hx hb dX47_block_240 (by decide) ?_
      refine lv_istore (lv' := [(18, .int 0), (16, .long x16_80), (14, .long x14_78), (12, .long x12_76), (10, .long x10_74), (8, .long x8_72), (6, .long x6_70), (4, .long x4_68), (2, .long x2_66), (0, .ref (ad 0))]) hx hb dX47_block_241 hl (by decide) rfl (fun ls hl => ?_)
      obtain ⟨fu, hw⟩ := hw
      refine atX47_block_243 hc X ?_ fu x2_66 x4_68 x6_70 x8_72 x10_74 x12_76 x14_78 x16_80 0 hw _ _ ls hH (lv_sub hl [9, 8, 7, 6, 5, 4, 3, 2, 1, 0] rfl)
      · intro x2_123 x4_124 x6_125 x8_126 x10_127 x12_128 x14_129 x16_130 hw H locs ls hH hl
        refine lv_aload_n hx hb dX47_block_397 rfl (lv_at hl 0 rfl) ?_
        refine k_get X hH in_X47 0 rfl hc 23 (by decide) q6007 rfl dX47_block_398 ?_
        refine lv_iconst (v := 0) hx hb dX47_block_401 (by decide) ?_
        refine lv_aload_n hx hb dX47_block_402 rfl (lv_at hl 0 rfl) ?_
        refine k_get X hH in_X47 0 rfl hc 23 (by decide) q6007 rfl dX47_block_403 ?_
        refine lv_iconst (v := 0) hx hb dX47_block_406 (by decide) ?_
        refine k_lald X hH 16 15 rfl rfl (by unfold vp_in; decide) dX47_block_407 ?_
        have e_131 := z_ldL (f := f_words) (rfl : (0 : Int32).toInt = 0) (by decide)
        refine lv_lload_n hx hb dX47_block_408 rfl (lv_at hl 1 rfl) ?_
        refine lv_ladd hx hb dX47_block_409 ?_
        have e_132 := zL_add (zL_m e_131) (zL_m (rfl : x2_123.toInt = _))
        refine lv_ldc2 (v := 4294967295) hx hb X.1.2.2.2.1 (X.1.2.2.2.2 _ q5979) dX47_block_410 ?_
        refine lv_land hx hb dX47_block_413 ?_
        have e_133 := zL_mask e_132 (k := 32) (mm := 4294967295) (c := 4294967296) (by decide)
        refine lv_topl (fun v_134 ev_134 => ?_)
        have hw := hw v_134.toInt (by rw [ev_134]; exact e_133)
        obtain ⟨f_words_135, ef_words_135⟩ : ∃ y : Nat → Int64, y = vp_updL f_words (0 : Int32).toNatClampNeg v_134 := ⟨_, rfl⟩
        refine k_last X hH 16 15 rfl rfl (by unfold vp_in; decide) dX47_block_414 ef_words_135 (ws1 := (wX47 ci ad d f_constants f_blanks f_counts f_points f_kept f_hashes f_news f_rounds f_hashed f_groups f_groupOf f_groupCount f_trial f_row f_names f_namedBlanks f_form f_formCount f_octets f_descriptions f_described f_message f_size f_words_135 f_schedule_64 f_thrown f_said)) rfl (fun H locs hH => ?_)
        have hw := hw (zG f_words_135) (by rw [ef_words_135]; exact z_stL (f := f_words) (rfl : (0 : Int32).toInt = 0) (by decide) (rfl : v_134.toInt = _))
        refine lv_aload_n hx hb dX47_block_415 rfl (lv_at hl 0 rfl) ?_
        refine k_get X hH in_X47 0 rfl hc 23 (by decide) q6007 rfl dX47_block_416 ?_
        refine lv_iconst (v := 1) hx hb dX47_block_419 (by decide) ?_
        refine lv_aload_n hx hb dX47_block_420 rfl (lv_at hl 0 rfl) ?_
        refine k_get X hH in_X47 0 rfl hc 23 (by decide) q6007 rfl dX47_block_421 ?_
        refine lv_iconst (v := 1) hx hb dX47_block_424 (by decide) ?_
        refine k_lald X hH 16 15 rfl rfl (by unfold vp_in; decide) dX47_block_425 ?_
        have e_136 := z_ldL (f := f_words_135) (rfl : (1 : Int32).toInt = 1) (by decide)
        refine lv_lload hx hb dX47_block_426 (lv_at hl 2 rfl) ?_
        refine lv_ladd hx hb dX47_block_428 ?_
        have e_137 := zL_add (zL_m e_136) (zL_m (rfl : x4_124.toInt = _))
        refine lv_ldc2 (v := 4294967295) hx hb X.1.2.2.2.1 (X.1.2.2.2.2 _ q5979) dX47_block_429 ?_
        refine lv_land hx hb dX47_block_432 ?_
        have e_138 := zL_mask e_137 (k := 32) (mm := 4294967295) (c := 4294967296) (by decide)
        refine lv_topl (fun v_139 ev_139 => ?_)
        have hw := hw v_139.toInt (by rw [ev_139]; exact e_138)
        obtain ⟨f_words_140, ef_words_140⟩ : ∃ y : Nat → Int64, y = vp_updL f_words_135 (1 : Int32).toNatClampNeg v_139 := ⟨_, rfl⟩
        refine k_last X hH 16 15 rfl rfl (by unfold vp_in; decide) dX47_block_433 ef_words_140 (ws1 := (wX47 ci ad d f_constants f_blanks f_counts f_points f_kept f_hashes f_news f_rounds f_hashed f_groups f_groupOf f_groupCount f_trial f_row f_names f_namedBlanks f_form f_formCount f_octets f_descriptions f_described f_message f_size f_words_140 f_schedule_64 f_thrown f_said)) rfl (fun H locs hH => ?_)
        have hw := hw (zG f_words_140) (by rw [ef_words_140]; exact z_stL (f := f_words_135) (rfl : (1 : Int32).toInt = 1) (by decide) (rfl : v_139.toInt = _))
        refine lv_aload_n hx hb dX47_block_434 rfl (lv_at hl 0 rfl) ?_
        refine k_get X hH in_X47 0 rfl hc 23 (by decide) q6007 rfl dX47_block_435 ?_
        refine lv_iconst (v := 2) hx hb dX47_block_438 (by decide) ?_
        refine lv_aload_n hx hb dX47_block_439 rfl (lv_at hl 0 rfl) ?_
        refine k_get X hH in_X47 0 rfl hc 23 (by decide) q6007 rfl dX47_block_440 ?_
        refine lv_iconst (v := 2) hx hb dX47_block_443 (by decide) ?_
        refine k_lald X hH 16 15 rfl rfl (by unfold vp_in; decide) dX47_block_444 ?_
        have e_141 := z_ldL (f := f_words_140) (rfl : (2 : Int32).toInt = 2) (by decide)
        refine lv_lload hx hb dX47_block_445 (lv_at hl 3 rfl) ?_
        refine lv_ladd hx hb dX47_block_447 ?_
        have e_142 := zL_add (zL_m e_141) (zL_m (rfl : x6_125.toInt = _))
        refine lv_ldc2 (v := 4294967295) hx hb X.1.2.2.2.1 (X.1.2.2.2.2 _ q5979) dX47_block_448 ?_
        refine lv_land hx hb dX47_block_451 ?_
        have e_143 := zL_mask e_142 (k := 32) (mm := 4294967295) (c := 4294967296) (by decide)
        refine lv_topl (fun v_144 ev_144 => ?_)
        have hw := hw v_144.toInt (by rw [ev_144]; exact e_143)
        obtain ⟨f_words_145, ef_words_145⟩ : ∃ y : Nat → Int64, y = vp_updL f_words_140 (2 : Int32).toNatClampNeg v_144 := ⟨_, rfl⟩
        refine k_last X hH 16 15 rfl rfl (by unfold vp_in; decide) dX47_block_452 ef_words_145 (ws1 := (wX47 ci ad d f_constants f_blanks f_counts f_points f_kept f_hashes f_news f_rounds f_hashed f_groups f_groupOf f_groupCount f_trial f_row f_names f_namedBlanks f_form f_formCount f_octets f_descriptions f_described f_message f_size f_words_145 f_schedule_64 f_thrown f_said)) rfl (fun H locs hH => ?_)
        have hw := hw (zG f_words_145) (by rw [ef_words_145]; exact z_stL (f := f_words_140) (rfl : (2 : Int32).toInt = 2) (by decide) (rfl : v_144.toInt = _))
        refine lv_aload_n hx hb dX47_block_453 rfl (lv_at hl 0 rfl) ?_
        refine k_get X hH in_X47 0 rfl hc 23 (by decide) q6007 rfl dX47_block_454 ?_
        refine lv_iconst (v := 3) hx hb dX47_block_457 (by decide) ?_
        refine lv_aload_n hx hb dX47_block_458 rfl (lv_at hl 0 rfl) ?_
        refine k_get X hH in_X47 0 rfl hc 23 (by decide) q6007 rfl dX47_block_459 ?_
        refine lv_iconst (v := 3) hx hb dX47_block_462 (by decide) ?_
        refine k_lald X hH 16 15 rfl rfl (by unfold vp_in; decide) dX47_block_463 ?_
        have e_146 := z_ldL (f := f_words_145) (rfl : (3 : Int32).toInt = 3) (by decide)
        refine lv_lload hx hb dX47_block_464 (lv_at hl 4 rfl) ?_
        refine lv_ladd hx hb dX47_block_466 ?_
        have e_147 := zL_add (zL_m e_146) (zL_m (rfl : x8_126.toInt = _))
        refine lv_ldc2 (v := 4294967295) hx hb X.1.2.2.2.1 (X.1.2.2.2.2 _ q5979) dX47_block_467 ?_
        refine lv_land hx hb dX47_block_470 ?_
        have e_148 := zL_mask e_147 (k := 32) (mm := 4294967295) (c := 4294967296) (by decide)
        refine lv_topl (fun v_149 ev_149 => ?_)
        have hw := hw v_149.toInt (by rw [ev_149]; exact e_148)
        obtain ⟨f_words_150, ef_words_150⟩ : ∃ y : Nat → Int64, y = vp_updL f_words_145 (3 : Int32).toNatClampNeg v_149 := ⟨_, rfl⟩
        refine k_last X hH 16 15 rfl rfl (by unfold vp_in; decide) dX47_block_471 ef_words_150 (ws1 := (wX47 ci ad d f_constants f_blanks f_counts f_points f_kept f_hashes f_news f_rounds f_hashed f_groups f_groupOf f_groupCount f_trial f_row f_names f_namedBlanks f_form f_formCount f_octets f_descriptions f_described f_message f_size f_words_150 f_schedule_64 f_thrown f_said)) rfl (fun H locs hH => ?_)
        have hw := hw (zG f_words_150) (by rw [ef_words_150]; exact z_stL (f := f_words_145) (rfl : (3 : Int32).toInt = 3) (by decide) (rfl : v_149.toInt = _))
        refine lv_aload_n hx hb dX47_block_472 rfl (lv_at hl 0 rfl) ?_
        refine k_get X hH in_X47 0 rfl hc 23 (by decide) q6007 rfl dX47_block_473 ?_
        refine lv_iconst (v := 4) hx hb dX47_block_476 (by decide) ?_
        refine lv_aload_n hx hb dX47_block_477 rfl (lv_at hl 0 rfl) ?_
        refine k_get X hH in_X47 0 rfl hc 23 (by decide) q6007 rfl dX47_block_478 ?_
        refine lv_iconst (v := 4) hx hb dX47_block_481 (by decide) ?_
        refine k_lald X hH 16 15 rfl rfl (by unfold vp_in; decide) dX47_block_482 ?_
        have e_151 := z_ldL (f := f_words_150) (rfl : (4 : Int32).toInt = 4) (by decide)
        refine lv_lload hx hb dX47_block_483 (lv_at hl 5 rfl) ?_
        refine lv_ladd hx hb dX47_block_485 ?_
        have e_152 := zL_add (zL_m e_151) (zL_m (rfl : x10_127.toInt = _))
        refine lv_ldc2 (v := 4294967295) hx hb X.1.2.2.2.1 (X.1.2.2.2.2 _ q5979) dX47_block_486 ?_
        refine lv_land hx hb dX47_block_489 ?_
        have e_153 := zL_mask e_152 (k := 32) (mm := 4294967295) (c := 4294967296) (by decide)
        refine lv_topl (fun v_154 ev_154 => ?_)
        have hw := hw v_154.toInt (by rw [ev_154]; exact e_153)
        obtain ⟨f_words_155, ef_words_155⟩ : ∃ y : Nat → Int64, y = vp_updL f_words_150 (4 : Int32).toNatClampNeg v_154 := ⟨_, rfl⟩
        refine k_last X hH 16 15 rfl rfl (by unfold vp_in; decide) dX47_block_490 ef_words_155 (ws1 := (wX47 ci ad d f_constants f_blanks f_counts f_points f_kept f_hashes f_news f_rounds f_hashed f_groups f_groupOf f_groupCount f_trial f_row f_names f_namedBlanks f_form f_formCount f_octets f_descriptions f_described f_message f_size f_words_155 f_schedule_64 f_thrown f_said)) rfl (fun H locs hH => ?_)
        have hw := hw (zG f_words_155) (by rw [ef_words_155]; exact z_stL (f := f_words_150) (rfl : (4 : Int32).toInt = 4) (by decide) (rfl : v_154.toInt = _))
        refine lv_aload_n hx hb dX47_block_491 rfl (lv_at hl 0 rfl) ?_
        refine k_get X hH in_X47 0 rfl hc 23 (by decide) q6007 rfl dX47_block_492 ?_
        refine lv_iconst (v := 5) hx hb dX47_block_495 (by decide) ?_
        refine lv_aload_n hx hb dX47_block_496 rfl (lv_at hl 0 rfl) ?_
        refine k_get X hH in_X47 0 rfl hc 23 (by decide) q6007 rfl dX47_block_497 ?_
        refine lv_iconst (v := 5) hx hb dX47_block_500 (by decide) ?_
        refine k_lald X hH 16 15 rfl rfl (by unfold vp_in; decide) dX47_block_501 ?_
        have e_156 := z_ldL (f := f_words_155) (rfl : (5 : Int32).toInt = 5) (by decide)
        refine lv_lload hx hb dX47_block_502 (lv_at hl 6 rfl) ?_
        refine lv_ladd hx hb dX47_block_504 ?_
        have e_157 := zL_add (zL_m e_156) (zL_m (rfl : x12_128.toInt = _))
        refine lv_ldc2 (v := 4294967295) hx hb X.1.2.2.2.1 (X.1.2.2.2.2 _ q5979) dX47_block_505 ?_
        refine lv_land hx hb dX47_block_508 ?_
        have e_158 := zL_mask e_157 (k := 32) (mm := 4294967295) (c := 4294967296) (by decide)
        refine lv_topl (fun v_159 ev_159 => ?_)
        have hw := hw v_159.toInt (by rw [ev_159]; exact e_158)
        obtain ⟨f_words_160, ef_words_160⟩ : ∃ y : Nat → Int64, y = vp_updL f_words_155 (5 : Int32).toNatClampNeg v_159 := ⟨_, rfl⟩
        refine k_last X hH 16 15 rfl rfl (by unfold vp_in; decide) dX47_block_509 ef_words_160 (ws1 := (wX47 ci ad d f_constants f_blanks f_counts f_points f_kept f_hashes f_news f_rounds f_hashed f_groups f_groupOf f_groupCount f_trial f_row f_names f_namedBlanks f_form f_formCount f_octets f_descriptions f_described f_message f_size f_words_160 f_schedule_64 f_thrown f_said)) rfl (fun H locs hH => ?_)
        have hw := hw (zG f_words_160) (by rw [ef_words_160]; exact z_stL (f := f_words_155) (rfl : (5 : Int32).toInt = 5) (by decide) (rfl : v_159.toInt = _))
        refine lv_aload_n hx hb dX47_block_510 rfl (lv_at hl 0 rfl) ?_
        refine k_get X hH in_X47 0 rfl hc 23 (by decide) q6007 rfl dX47_block_511 ?_
        refine lv_bipush (v := 6) hx hb dX47_block_514 (by decide) ?_
        refine lv_aload_n hx hb dX47_block_516 rfl (lv_at hl 0 rfl) ?_
        refine k_get X hH in_X47 0 rfl hc 23 (by decide) q6007 rfl dX47_block_517 ?_
        refine lv_bipush (v := 6) hx hb dX47_block_520 (by decide) ?_
        refine k_lald X hH 16 15 rfl rfl (by unfold vp_in; decide) dX47_block_522 ?_
        have e_161 := z_ldL (f := f_words_160) (rfl : (6 : Int32).toInt = 6) (by decide)
        refine lv_lload hx hb dX47_block_523 (lv_at hl 7 rfl) ?_
        refine lv_ladd hx hb dX47_block_525 ?_
        have e_162 := zL_add (zL_m e_161) (zL_m (rfl : x14_129.toInt = _))
        refine lv_ldc2 (v := 4294967295) hx hb X.1.2.2.2.1 (X.1.2.2.2.2 _ q5979) dX47_block_526 ?_
        refine lv_land hx hb dX47_block_529 ?_
        have e_163 := zL_mask e_162 (k := 32) (mm := 4294967295) (c := 4294967296) (by decide)
        refine lv_topl (fun v_164 ev_164 => ?_)
        have hw := hw v_164.toInt (by rw [ev_164]; exact e_163)
        obtain ⟨f_words_165, ef_words_165⟩ : ∃ y : Nat → Int64, y = vp_updL f_words_160 (6 : Int32).toNatClampNeg v_164 := ⟨_, rfl⟩
        refine k_last X hH 16 15 rfl rfl (by unfold vp_in; decide) dX47_block_530 ef_words_165 (ws1 := (wX47 ci ad d f_constants f_blanks f_counts f_points f_kept f_hashes f_news f_rounds f_hashed f_groups f_groupOf f_groupCount f_trial f_row f_names f_namedBlanks f_form f_formCount f_octets f_descriptions f_described f_message f_size f_words_165 f_schedule_64 f_thrown f_said)) rfl (fun H locs hH => ?_)
        have hw := hw (zG f_words_165) (by rw [ef_words_165]; exact z_stL (f := f_words_160) (rfl : (6 : Int32).toInt = 6) (by decide) (rfl : v_164.toInt = _))
        refine lv_aload_n hx hb dX47_block_531 rfl (lv_at hl 0 rfl) ?_
        refine k_get X hH in_X47 0 rfl hc 23 (by decide) q6007 rfl dX47_block_532 ?_
        refine lv_bipush (v := 7) hx hb dX47_block_535 (by decide) ?_
        refine lv_aload_n hx hb dX47_block_537 rfl (lv_at hl 0 rfl) ?_
        refine k_get X hH in_X47 0 rfl hc 23 (by decide) q6007 rfl dX47_block_538 ?_
        refine lv_bipush (v := 7) hx hb dX47_block_541 (by decide) ?_
        refine k_lald X hH 16 15 rfl rfl (by unfold vp_in; decide) dX47_block_543 ?_
        have e_166 := z_ldL (f := f_words_165) (rfl : (7 : Int32).toInt = 7) (by decide)
        refine lv_lload hx hb dX47_block_544 (lv_at hl 8 rfl) ?_
        refine lv_ladd hx hb dX47_block_546 ?_
        have e_167 := zL_add (zL_m e_166) (zL_m (rfl : x16_130.toInt = _))
        refine lv_ldc2 (v := 4294967295) hx hb X.1.2.2.2.1 (X.1.2.2.2.2 _ q5979) dX47_block_547 ?_
        refine lv_land hx hb dX47_block_550 ?_
        have e_168 := zL_mask e_167 (k := 32) (mm := 4294967295) (c := 4294967296) (by decide)
        refine lv_topl (fun v_169 ev_169 => ?_)
        have hw := hw v_169.toInt (by rw [ev_169]; exact e_168)
        obtain ⟨f_words_170, ef_words_170⟩ : ∃ y : Nat → Int64, y = vp_updL f_words_165 (7 : Int32).toNatClampNeg v_169 := ⟨_, rfl⟩
        refine k_last X hH 16 15 rfl rfl (by unfold vp_in; decide) dX47_block_551 ef_words_170 (ws1 := (wX47 ci ad d f_constants f_blanks f_counts f_points f_kept f_hashes f_news f_rounds f_hashed f_groups f_groupOf f_groupCount f_trial f_row f_names f_namedBlanks f_form f_formCount f_octets f_descriptions f_described f_message f_size f_words_170 f_schedule_64 f_thrown f_said)) rfl (fun H locs hH => ?_)
        have hw := hw (zG f_words_170) (by rw [ef_words_170]; exact z_stL (f := f_words_165) (rfl : (7 : Int32).toInt = 7) (by decide) (rfl : v_169.toInt = _))
        exact k_vret X hH (f_words_170, f_schedule_64) hw rfl dX47_block_552
set_option maxHeartbeats 4000000 in
theorem atX47_digestOf_87 {p : Program} {l : Launch} {e : Env} {s : State} {m : MethodId} {args : Array Value} {below : List Frame} {meth : Method} {c : Code} {dC : Nat → ClassId} {dI : Nat → Nat → Nat} {cl : List vw_C} {ci : Nat} (hc : cl[ci]? = some (RX47, TX47, 27)) {ad : Nat → Nat} {d : Nat → ClassId} {A : Nat → Prop} {post : (Int → Int) → (Int → Int) → (Int → Int) → Prop} {f_constants : Nat → Int64} {f_blanks : Nat → Int32} {f_counts : Nat → Int32} {f_points : Nat → Int32} {f_kept : Int32} {f_hashes : Nat → Int64} {f_news : Nat → Int64} {f_rounds : Int32} {f_hashed : Int32} {f_groups : Nat → Int32} {f_groupOf : Nat → Int32} {f_groupCount : Int32} {f_trial : Nat → Int32} {f_row : Nat → Int32} {f_names : Nat → Int32} {f_namedBlanks : Int32} {f_form : Nat → Int32} {f_formCount : Int32} {f_octets : Nat → Int32} {f_descriptions : Nat → Int32} {f_described : Int32} {f_size : Int32} {f_thrown : Int32} {f_said : Nat → Int32} (X : kX p s m args meth c cX47_digestOf 4 RX47 none (dC, dI) cl (tX47 d)) {K109 : Int → (Int → Int) → Prop} {x1 : Int32} {f_words : Nat → Int64} {f_schedule : Nat → Int64} (hk109 : ∀ (x2 : Int32) (f_message : Nat → Int32), K109 x2.toInt (zF f_message) → ∀ (H : Heap) (locs : List Loc) (ls : Array Slot), kH (dC, dI) cl A s.heap H locs (wX47 ci ad d f_constants f_blanks f_counts f_points f_kept f_hashes f_news f_rounds f_hashed f_groups f_groupOf f_groupCount f_trial f_row f_names f_namedBlanks f_form f_formCount f_octets f_descriptions f_described f_message f_size f_words f_schedule f_thrown f_said) → lv_has ls 4 [(0, .ref (ad 0)), (1, .int x1), (2, .int x2)] → W p l e ({ frames := 2, cells := 0, slots := 0, locals := 64 } : Room) s m args below meth c H locs 0 0 (MQ below (va_Qv (fun (u : (Nat → Int32) × (Nat → Int64) × (Nat → Int64)) => post (zF (u.1)) (zG (u.2.1)) (zG (u.2.2))) (kB (dC, dI) cl (tX47 d) A (fun u : (Nat → Int32) × (Nat → Int64) × (Nat → Int64) => (wX47 ci ad d f_constants f_blanks f_counts f_points f_kept f_hashes f_news f_rounds f_hashed f_groups f_groupOf f_groupCount f_trial f_row f_names f_namedBlanks f_form f_formCount f_octets f_descriptions f_described (u.1) f_size (u.2.1) (u.2.2) f_thrown f_said))) A) args s 0 0 A) (F0 m 109 ls [])) :
    ∀ (nn : Nat) (x2 : Int32) (f_message : Nat → Int32), wX47_digestOf_87 K109 nn x2.toInt (zF f_message) → ∀ (H : Heap) (locs : List Loc) (ls : Array Slot), kH (dC, dI) cl A s.heap H locs (wX47 ci ad d f_constants f_blanks f_counts f_points f_kept f_hashes f_news f_rounds f_hashed f_groups f_groupOf f_groupCount f_trial f_row f_names f_namedBlanks f_form f_formCount f_octets f_descriptions f_described f_message f_size f_words f_schedule f_thrown f_said) → lv_has ls 4 [(0, .ref (ad 0)), (1, .int x1), (2, .int x2)] → W p l e ({ frames := 2, cells := 0, slots := 0, locals := 64 } : Room) s m args below meth c H locs 0 0 (MQ below (va_Qv (fun (u : (Nat → Int32) × (Nat → Int64) × (Nat → Int64)) => post (zF (u.1)) (zG (u.2.1)) (zG (u.2.2))) (kB (dC, dI) cl (tX47 d) A (fun u : (Nat → Int32) × (Nat → Int64) × (Nat → Int64) => (wX47 ci ad d f_constants f_blanks f_counts f_points f_kept f_hashes f_news f_rounds f_hashed f_groups f_groupOf f_groupCount f_trial f_row f_names f_namedBlanks f_form f_formCount f_octets f_descriptions f_described (u.1) f_size (u.2.1) (u.2.2) f_thrown f_said))) A) args s 0 0 A) (F0 m 87 ls []) := by
  have hx := X.1.1
  have hb := X.1.2.1
  intro nn
  induction nn with
  | zero =>
    intro x2 f_message hw
    exact False.elim hw
  | succ n ih =>
    intro x2 f_message hw H locs ls hH hl
    rw [wX47_digestOf_87] at hw
    refine lv_iload_n hx hb dX47_digestOf_87 rfl (lv_at hl 2 rfl) ?_
    refine lv_bipush (v := 64) hx hb dX47_digestOf_88 (by decide) ?_
    have hq_14 := hw.1
    have hw := hw.2
    refine lv_irem hx hb dX47_digestOf_90 (by decide) ?_
    have e_15 := z_rem (rfl : x2.toInt = _) (rfl : (64 : Int32).toInt = 64) hq_14 (by decide)
    refine lv_bipush (v := 56) hx hb dX47_digestOf_91 (by decide) ?_
    refine lv_icmp_eq (tgt := 109) hx hb dX47_digestOf_93 (by decide) (fun c_16 => ?_) (fun c_16 => ?_)
    · have hw := hw.1 (z_eq e_15 (rfl : (56 : Int32).toInt = 56) c_16)
      exact hk109 x2 f_message hw _ _ ls hH (lv_sub hl [0, 1, 2] rfl)
    · have hw := hw.2 (z_neq e_15 (rfl : (56 : Int32).toInt = 56) c_16)
      refine lv_aload_n hx hb dX47_digestOf_96 rfl (lv_at hl 0 rfl) ?_
      refine k_get X hH in_X47 0 rfl hc 21 (by decide) q6005 rfl dX47_digestOf_97 ?_
      refine lv_iload_n hx hb dX47_digestOf_100 rfl (lv_at hl 2 rfl) ?_
      refine lv_iconst (v := 0) hx hb dX47_digestOf_101 (by decide) ?_
      have hq_18 := hw.1
      have hw := hw.2
      have hq_19 := hw.1
      have hw := hw.2
      obtain ⟨f_message_17, ef_message_17⟩ : ∃ y : Nat → Int32, y = upd f_message x2.toNatClampNeg (vp_nar .byte 0) := ⟨_, rfl⟩
      refine k_bast X hH 15 14 rfl rfl (z_in (rfl : x2.toInt = _) hq_18) dX47_digestOf_102 ef_message_17 (ws1 := (wX47 ci ad d f_constants f_blanks f_counts f_points f_kept f_hashes f_news f_rounds f_hashed f_groups f_groupOf f_groupCount f_trial f_row f_names f_namedBlanks f_form f_formCount f_octets f_descriptions f_described f_message_17 f_size f_words f_schedule f_thrown f_said)) rfl (fun H locs hH => ?_)
      have hw := hw (zF f_message_17) (by rw [ef_message_17]; exact z_st (f := f_message) (rfl : x2.toInt = _) hq_18.1 (z_narB (rfl : (0 : Int32).toInt = 0) hq_19))
      have hq_21 := hw.1
      have hw := hw.2
      obtain ⟨x2_20, ex2_20⟩ : ∃ y : Int32, y = x2 + 1 := ⟨_, rfl⟩
      have hw := hw x2_20.toInt (by rw [ex2_20]; exact (z_x (z_add (z_m (rfl : x2.toInt = _)) (z_m (rfl : (1 : Int32).toInt = 1))) hq_21))
      refine lv_iinc (v := x2_20) (lv' := [(2, .int x2_20), (0, .ref (ad 0)), (1, .int x1)]) hx hb dX47_digestOf_103 hl (k := 2) rfl (by rw [ex2_20]; rfl) (by decide) rfl (fun ls hl => ?_)
      refine lv_goto (tgt := 87) hx hb dX47_digestOf_106 (by decide) ?_
      exact ih x2_20 f_message_17 hw _ _ ls hH (lv_sub hl [1, 2, 0] rfl)
set_option maxHeartbeats 4000000 in
theorem atX47_digestOf_112 {p : Program} {l : Launch} {e : Env} {s : State} {m : MethodId} {args : Array Value} {below : List Frame} {meth : Method} {c : Code} {dC : Nat → ClassId} {dI : Nat → Nat → Nat} {cl : List vw_C} {ci : Nat} (hc : cl[ci]? = some (RX47, TX47, 27)) {ad : Nat → Nat} {d : Nat → ClassId} {A : Nat → Prop} {post : (Int → Int) → (Int → Int) → (Int → Int) → Prop} {f_constants : Nat → Int64} {f_blanks : Nat → Int32} {f_counts : Nat → Int32} {f_points : Nat → Int32} {f_kept : Int32} {f_hashes : Nat → Int64} {f_news : Nat → Int64} {f_rounds : Int32} {f_hashed : Int32} {f_groups : Nat → Int32} {f_groupOf : Nat → Int32} {f_groupCount : Int32} {f_trial : Nat → Int32} {f_row : Nat → Int32} {f_names : Nat → Int32} {f_namedBlanks : Int32} {f_form : Nat → Int32} {f_formCount : Int32} {f_octets : Nat → Int32} {f_descriptions : Nat → Int32} {f_described : Int32} {f_size : Int32} {f_thrown : Int32} {f_said : Nat → Int32} (X : kX p s m args meth c cX47_digestOf 4 RX47 none (dC, dI) cl (tX47 d)) {K144 : Int → (Int → Int) → Prop} {x1 : Int32} {f_words : Nat → Int64} {f_schedule : Nat → Int64} (hk144 : ∀ (x2 : Int32) (f_message : Nat → Int32), K144 x2.toInt (zF f_message) → ∀ (H : Heap) (locs : List Loc) (ls : Array Slot), kH (dC, dI) cl A s.heap H locs (wX47 ci ad d f_constants f_blanks f_counts f_points f_kept f_hashes f_news f_rounds f_hashed f_groups f_groupOf f_groupCount f_trial f_row f_names f_namedBlanks f_form f_formCount f_octets f_descriptions f_described f_message f_size f_words f_schedule f_thrown f_said) → lv_has ls 4 [(0, .ref (ad 0)), (2, .int x2)] → W p l e ({ frames := 2, cells := 0, slots := 0, locals := 64 } : Room) s m args below meth c H locs 0 0 (MQ below (va_Qv (fun (u : (Nat → Int32) × (Nat → Int64) × (Nat → Int64)) => post (zF (u.1)) (zG (u.2.1)) (zG (u.2.2))) (kB (dC, dI) cl (tX47 d) A (fun u : (Nat → Int32) × (Nat → Int64) × (Nat → Int64) => (wX47 ci ad d f_constants f_blanks f_counts f_points f_kept f_hashes f_news f_rounds f_hashed f_groups f_groupOf f_groupCount f_trial f_row f_names f_namedBlanks f_form f_formCount f_octets f_descriptions f_described (u.1) f_size (u.2.1) (u.2.2) f_thrown f_said))) A) args s 0 0 A) (F0 m 144 ls [])) :
    ∀ (nn : Nat) (x2 : Int32) (x3 : Int32) (f_message : Nat → Int32), wX47_digestOf_112 K144 x1.toInt nn x2.toInt x3.toInt (zF f_message) → ∀ (H : Heap) (locs : List Loc) (ls : Array Slot), kH (dC, dI) cl A s.heap H locs (wX47 ci ad d f_constants f_blanks f_counts f_points f_kept f_hashes f_news f_rounds f_hashed f_groups f_groupOf f_groupCount f_trial f_row f_names f_namedBlanks f_form f_formCount f_octets f_descriptions f_described f_message f_size f_words f_schedule f_thrown f_said) → lv_has ls 4 [(0, .ref (ad 0)), (1, .int x1), (2, .int x2), (3, .int x3)] → W p l e ({ frames := 2, cells := 0, slots := 0, locals := 64 } : Room) s m args below meth c H locs 0 0 (MQ below (va_Qv (fun (u : (Nat → Int32) × (Nat → Int64) × (Nat → Int64)) => post (zF (u.1)) (zG (u.2.1)) (zG (u.2.2))) (kB (dC, dI) cl (tX47 d) A (fun u : (Nat → Int32) × (Nat → Int64) × (Nat → Int64) => (wX47 ci ad d f_constants f_blanks f_counts f_points f_kept f_hashes f_news f_rounds f_hashed f_groups f_groupOf f_groupCount f_trial f_row f_names f_namedBlanks f_form f_formCount f_octets f_descriptions f_described (u.1) f_size (u.2.1) (u.2.2) f_thrown f_said))) A) args s 0 0 A) (F0 m 112 ls []) := by
  have hx := X.1.1
  have hb := X.1.2.1
  intro nn
  induction nn with
  | zero =>
    intro x2 x3 f_message hw
    exact False.elim hw
  | succ n ih =>
    intro x2 x3 f_message hw H locs ls hH hl
    rw [wX47_digestOf_112] at hw
    refine lv_iload_n hx hb dX47_digestOf_112 rfl (lv_at hl 3 rfl) ?_
    refine lv_if_lt (tgt := 144) hx hb dX47_digestOf_113 (by decide) (fun c_24 => ?_) (fun c_24 => ?_)
    · have hw := hw.1 (z_lt (rfl : x3.toInt = _) (rfl : (0 : Int32).toInt = 0) c_24)
      exact hk144 x2 f_message hw _ _ ls hH (lv_sub hl [0, 2] rfl)
    · have hw := hw.2 (z_nlt (rfl : x3.toInt = _) (rfl : (0 : Int32).toInt = 0) c_24)
      refine lv_aload_n hx hb dX47_digestOf_116 rfl (lv_at hl 0 rfl) ?_
      refine k_get X hH in_X47 0 rfl hc 21 (by decide) q6005 rfl dX47_digestOf_117 ?_
      refine lv_iload_n hx hb dX47_digestOf_120 rfl (lv_at hl 2 rfl) ?_
      refine lv_ldc2 (v := 8) hx hb X.1.2.2.2.1 (X.1.2.2.2.2 _ q5970) dX47_digestOf_121 ?_
      refine lv_iload_n hx hb dX47_digestOf_124 rfl (lv_at hl 1 rfl) ?_
      refine lv_i2l (v := x1.toInt64) hx hb dX47_digestOf_125 rfl ?_
      have e_25 := z_i2l (rfl : x1.toInt = _)
      refine lv_lmul hx hb dX47_digestOf_126 ?_
      have e_26 := zL_mul (zL_m (rfl : (8 : Int64).toInt = 8)) (zL_m e_25)
      refine lv_bipush (v := 8) hx hb dX47_digestOf_127 (by decide) ?_
      refine lv_iload_n hx hb dX47_digestOf_129 rfl (lv_at hl 3 rfl) ?_
      refine lv_imul hx hb dX47_digestOf_130 ?_
      have e_27 := z_mul (z_m (rfl : (8 : Int32).toInt = 8)) (z_m (rfl : x3.toInt = _))
      have hq_28 := hw.1
      have hw := hw.2
      have e_29 := z_x e_27 hq_28
      have hq_30 := hw.1
      have hw := hw.2
      have e_31 := zL_x e_26 hq_30
      refine lv_lshr (v := (8 * (x1.toInt64)) >>> ((8 * x3).toInt64 &&& 63)) hx hb dX47_digestOf_131 rfl ?_
      have hq_32 := hw.1
      have hw := hw.2
      have e_33 := zL_shrV e_31 e_29 hq_32
      refine lv_l2i (v := ((8 * (x1.toInt64)) >>> ((8 * x3).toInt64 &&& 63)).toInt32) hx hb dX47_digestOf_132 rfl ?_
      have e_34 := z_l2iM (zL_m e_33)
      refine lv_i2b (v := (((8 * (x1.toInt64)) >>> ((8 * x3).toInt64 &&& 63)).toInt32).toInt8.toInt32) hx hb dX47_digestOf_133 rfl ?_
      have e_35 := z_i2b e_34
      refine lv_topi (fun v_36 ev_36 => ?_)
      have hw := hw v_36.toInt (by rw [ev_36]; exact e_35)
      have hq_38 := hw.1
      have hw := hw.2
      have hq_39 := hw.1
      have hw := hw.2
      obtain ⟨f_message_37, ef_message_37⟩ : ∃ y : Nat → Int32, y = upd f_message x2.toNatClampNeg (vp_nar .byte v_36) := ⟨_, rfl⟩
      refine k_bast X hH 15 14 rfl rfl (z_in (rfl : x2.toInt = _) hq_38) dX47_digestOf_134 ef_message_37 (ws1 := (wX47 ci ad d f_constants f_blanks f_counts f_points f_kept f_hashes f_news f_rounds f_hashed f_groups f_groupOf f_groupCount f_trial f_row f_names f_namedBlanks f_form f_formCount f_octets f_descriptions f_described f_message_37 f_size f_words f_schedule f_thrown f_said)) rfl (fun H locs hH => ?_)
      have hw := hw (zF f_message_37) (by rw [ef_message_37]; exact z_st (f := f_message) (rfl : x2.toInt = _) hq_38.1 (z_narB (rfl : v_36.toInt = _) hq_39))
      have hq_41 := hw.1
      have hw := hw.2
      obtain ⟨x2_40, ex2_40⟩ : ∃ y : Int32, y = x2 + 1 := ⟨_, rfl⟩
      have hw := hw x2_40.toInt (by rw [ex2_40]; exact (z_x (z_add (z_m (rfl : x2.toInt = _)) (z_m (rfl : (1 : Int32).toInt = 1))) hq_41))
      refine lv_iinc (v := x2_40) (lv' := [(2, .int x2_40), (0, .ref (ad 0)), (1, .int x1), (3, .int x3)]) hx hb dX47_digestOf_135 hl (k := 2) rfl (by rw [ex2_40]; rfl) (by decide) rfl (fun ls hl => ?_)
      have hq_43 := hw.1
      have hw := hw.2
      obtain ⟨x3_42, ex3_42⟩ : ∃ y : Int32, y = x3 + (-1) := ⟨_, rfl⟩
      have hw := hw x3_42.toInt (by rw [ex3_42]; exact (z_x (z_add (z_m (rfl : x3.toInt = _)) (z_m (rfl : ((-1) : Int32).toInt = (-1)))) hq_43))
      refine lv_iinc (v := x3_42) (lv' := [(3, .int x3_42), (2, .int x2_40), (0, .ref (ad 0)), (1, .int x1)]) hx hb dX47_digestOf_138 hl (k := 3) rfl (by rw [ex3_42]; rfl) (by decide) rfl (fun ls hl => ?_)
      refine lv_goto (tgt := 112) hx hb dX47_digestOf_141 (by decide) ?_
      exact ih x2_40 x3_42 f_message_37 hw _ _ ls hH (lv_sub hl [2, 3, 1, 0] rfl)
set_option maxHeartbeats 4000000 in
theorem atX47_digestOf_146 {p : Program} {l : Launch} {e : Env} {s : State} {m : MethodId} {args : Array Value} {below : List Frame} {meth : Method} {c : Code} {dC : Nat → ClassId} {dI : Nat → Nat → Nat} {cl : List vw_C} {ci : Nat} (hc : cl[ci]? = some (RX47, TX47, 27)) {ad : Nat → Nat} {d : Nat → ClassId} {A : Nat → Prop} {post : (Int → Int) → (Int → Int) → (Int → Int) → Prop} {f_constants : Nat → Int64} {f_blanks : Nat → Int32} {f_counts : Nat → Int32} {f_points : Nat → Int32} {f_kept : Int32} {f_hashes : Nat → Int64} {f_news : Nat → Int64} {f_rounds : Int32} {f_hashed : Int32} {f_groups : Nat → Int32} {f_groupOf : Nat → Int32} {f_groupCount : Int32} {f_trial : Nat → Int32} {f_row : Nat → Int32} {f_names : Nat → Int32} {f_namedBlanks : Int32} {f_form : Nat → Int32} {f_formCount : Int32} {f_octets : Nat → Int32} {f_descriptions : Nat → Int32} {f_described : Int32} {f_size : Int32} {f_thrown : Int32} {f_said : Nat → Int32} (X : kX p s m args meth c cX47_digestOf 4 RX47 none (dC, dI) cl (tX47 d)) {K162 : (Int → Int) → (Int → Int) → Prop} {x2 : Int32} {f_message : Nat → Int32} (hk162 : ∀ (f_words : Nat → Int64) (f_schedule : Nat → Int64), K162 (zG f_words) (zG f_schedule) → ∀ (H : Heap) (locs : List Loc) (ls : Array Slot), kH (dC, dI) cl A s.heap H locs (wX47 ci ad d f_constants f_blanks f_counts f_points f_kept f_hashes f_news f_rounds f_hashed f_groups f_groupOf f_groupCount f_trial f_row f_names f_namedBlanks f_form f_formCount f_octets f_descriptions f_described f_message f_size f_words f_schedule f_thrown f_said) → lv_has ls 4 [] → W p l e ({ frames := 2, cells := 0, slots := 0, locals := 64 } : Room) s m args below meth c H locs 0 0 (MQ below (va_Qv (fun (u : (Nat → Int32) × (Nat → Int64) × (Nat → Int64)) => post (zF (u.1)) (zG (u.2.1)) (zG (u.2.2))) (kB (dC, dI) cl (tX47 d) A (fun u : (Nat → Int32) × (Nat → Int64) × (Nat → Int64) => (wX47 ci ad d f_constants f_blanks f_counts f_points f_kept f_hashes f_news f_rounds f_hashed f_groups f_groupOf f_groupCount f_trial f_row f_names f_namedBlanks f_form f_formCount f_octets f_descriptions f_described (u.1) f_size (u.2.1) (u.2.2) f_thrown f_said))) A) args s 0 0 A) (F0 m 162 ls [])) :
    ∀ (nn : Nat) (x3 : Int32) (f_words : Nat → Int64) (f_schedule : Nat → Int64), wX47_digestOf_146 K162 x2.toInt (zG f_constants) (zF f_message) nn x3.toInt (zG f_words) (zG f_schedule) → ∀ (H : Heap) (locs : List Loc) (ls : Array Slot), kH (dC, dI) cl A s.heap H locs (wX47 ci ad d f_constants f_blanks f_counts f_points f_kept f_hashes f_news f_rounds f_hashed f_groups f_groupOf f_groupCount f_trial f_row f_names f_namedBlanks f_form f_formCount f_octets f_descriptions f_described f_message f_size f_words f_schedule f_thrown f_said) → lv_has ls 4 [(0, .ref (ad 0)), (2, .int x2), (3, .int x3)] → W p l e ({ frames := 2, cells := 0, slots := 0, locals := 64 } : Room) s m args below meth c H locs 0 0 (MQ below (va_Qv (fun (u : (Nat → Int32) × (Nat → Int64) × (Nat → Int64)) => post (zF (u.1)) (zG (u.2.1)) (zG (u.2.2))) (kB (dC, dI) cl (tX47 d) A (fun u : (Nat → Int32) × (Nat → Int64) × (Nat → Int64) => (wX47 ci ad d f_constants f_blanks f_counts f_points f_kept f_hashes f_news f_rounds f_hashed f_groups f_groupOf f_groupCount f_trial f_row f_names f_namedBlanks f_form f_formCount f_octets f_descriptions f_described (u.1) f_size (u.2.1) (u.2.2) f_thrown f_said))) A) args s 0 0 A) (F0 m 146 ls []) := by
  have hx := X.1.1
  have hb := X.1.2.1
  intro nn
  induction nn with
  | zero =>
    intro x3 f_words f_schedule hw
    exact False.elim hw
  | succ n ih =>
    intro x3 f_words f_schedule hw H locs ls hH hl
    rw [wX47_digestOf_146] at hw
    refine lv_iload_n hx hb dX47_digestOf_146 rfl (lv_at hl 2 rfl) ?_
    refine lv_iload_n hx hb dX47_digestOf_147 rfl (lv_at hl 1 rfl) ?_
    refine lv_icmp_ge (tgt := 162) hx hb dX47_digestOf_148 (by decide) (fun c_46 => ?_) (fun c_46 => ?_)
    · have hw := hw.1 (z_le (rfl : x2.toInt = _) (rfl : x3.toInt = _) c_46)
      exact hk162 f_words f_schedule hw _ _ ls hH (lv_sub hl [] rfl)
    · have hw := hw.2 (z_nle (rfl : x2.toInt = _) (rfl : x3.toInt = _) c_46)
      refine lv_aload_n hx hb dX47_digestOf_151 rfl (lv_at hl 0 rfl) ?_
      refine lv_iload_n hx hb dX47_digestOf_152 rfl (lv_at hl 2 rfl) ?_
      refine k_v0 hH (k_runV (As := [.int x3]) (rest := []) X hH.1 hH.2.1 X.2.2.2 (walkX47_block hc (x1 := x3) (f_constants := f_constants) (f_blanks := f_blanks) (f_counts := f_counts) (f_points := f_points) (f_kept := f_kept) (f_hashes := f_hashes) (f_news := f_news) (f_rounds := f_rounds) (f_hashed := f_hashed) (f_groups := f_groups) (f_groupOf := f_groupOf) (f_groupCount := f_groupCount) (f_trial := f_trial) (f_row := f_row) (f_names := f_names) (f_namedBlanks := f_namedBlanks) (f_form := f_form) (f_formCount := f_formCount) (f_octets := f_octets) (f_descriptions := f_descriptions) (f_described := f_described) (f_message := f_message) (f_size := f_size) (f_words := f_words) (f_schedule := f_schedule) (f_thrown := f_thrown) (f_said := f_said) hw) (cwV 1 X.1.2.2.2.2 gX47_226 rfl rfl rfl hX47_block ⟨Nat.le_of_ble_eq_true rfl, Nat.le_of_ble_eq_true rfl⟩) hc (q0 := 0) rfl rfl hl.1 rfl (Nat.le_of_ble_eq_true rfl) dX47_digestOf_153 ⟨Nat.le_refl 0, Nat.le_refl 0⟩) (fun u H locs hw hH => ?_)
      obtain ⟨f_words_47, f_schedule_48⟩ := u
      have hH : kH (dC, dI) cl A s.heap H locs (wX47 ci ad d f_constants f_blanks f_counts f_points f_kept f_hashes f_news f_rounds f_hashed f_groups f_groupOf f_groupCount f_trial f_row f_names f_namedBlanks f_form f_formCount f_octets f_descriptions f_described f_message f_size f_words_47 f_schedule_48 f_thrown f_said) := hH
      have hq_50 := hw.1
      have hw := hw.2
      obtain ⟨x3_49, ex3_49⟩ : ∃ y : Int32, y = x3 + 64 := ⟨_, rfl⟩
      have hw := hw x3_49.toInt (by rw [ex3_49]; exact (z_x (z_add (z_m (rfl : x3.toInt = _)) (z_m (rfl : (64 : Int32).toInt = 64))) hq_50))
      refine lv_iinc (v := x3_49) (lv' := [(3, .int x3_49), (0, .ref (ad 0)), (2, .int x2)]) hx hb dX47_digestOf_156 hl (k := 2) rfl (by rw [ex3_49]; rfl) (by decide) rfl (fun ls hl => ?_)
      refine lv_goto (tgt := 146) hx hb dX47_digestOf_159 (by decide) ?_
      exact ih x3_49 f_words_47 f_schedule_48 hw _ _ ls hH (lv_sub hl [1, 2, 0] rfl)
set_option maxHeartbeats 4000000 in
theorem walkX47_digestOf {l : Launch} {dC : Nat → ClassId} {dI : Nat → Nat → Nat} {cl : List vw_C} {ci : Nat} (hc : cl[ci]? = some (RX47, TX47, 27)) {ad : Nat → Nat} {d : Nat → ClassId} {sz : Nat} {f_constants : Nat → Int64} {f_blanks : Nat → Int32} {f_counts : Nat → Int32} {f_points : Nat → Int32} {f_kept : Int32} {f_hashes : Nat → Int64} {f_news : Nat → Int64} {f_rounds : Int32} {f_hashed : Int32} {f_groups : Nat → Int32} {f_groupOf : Nat → Int32} {f_groupCount : Int32} {f_trial : Nat → Int32} {f_row : Nat → Int32} {f_names : Nat → Int32} {f_namedBlanks : Int32} {f_form : Nat → Int32} {f_formCount : Int32} {f_octets : Nat → Int32} {f_descriptions : Nat → Int32} {f_described : Int32} {f_message : Nat → Int32} {f_size : Int32} {f_words : Nat → Int64} {f_schedule : Nat → Int64} {f_thrown : Int32} {f_said : Nat → Int32} {x1 : Int32} {post : (Int → Int) → (Int → Int) → (Int → Int) → Prop} (hw : wpX47_digestOf post (zG f_constants) (zF f_message) (zG f_words) (zG f_schedule) x1.toInt) :
    Met l yX47_digestOf (ws_ yX47_digestOf cX47_digestOf 4 none) ({ frames := 2, cells := 0, slots := 0, locals := 64 } : Room) (kPc (dC, dI) cl (tX47 d) [.ref (ad 0), .int x1] sz (wX47 ci ad d f_constants f_blanks f_counts f_points f_kept f_hashes f_news f_rounds f_hashed f_groups f_groupOf f_groupCount f_trial f_row f_names f_namedBlanks f_form f_formCount f_octets f_descriptions f_described f_message f_size f_words f_schedule f_thrown f_said)) (va_Qv (fun (u : (Nat → Int32) × (Nat → Int64) × (Nat → Int64)) => post (zF (u.1)) (zG (u.2.1)) (zG (u.2.2))) (kB (dC, dI) cl (tX47 d) (va_A (wX47 ci ad d f_constants f_blanks f_counts f_points f_kept f_hashes f_news f_rounds f_hashed f_groups f_groupOf f_groupCount f_trial f_row f_names f_namedBlanks f_form f_formCount f_octets f_descriptions f_described f_message f_size f_words f_schedule f_thrown f_said) sz) (fun u : (Nat → Int32) × (Nat → Int64) × (Nat → Int64) => (wX47 ci ad d f_constants f_blanks f_counts f_points f_kept f_hashes f_news f_rounds f_hashed f_groups f_groupOf f_groupCount f_trial f_row f_names f_namedBlanks f_form f_formCount f_octets f_descriptions f_described (u.1) f_size (u.2.1) (u.2.2) f_thrown f_said))) (va_A (wX47 ci ad d f_constants f_blanks f_counts f_points f_kept f_hashes f_news f_rounds f_hashed f_groups f_groupOf f_groupCount f_trial f_row f_names f_namedBlanks f_form f_formCount f_octets f_descriptions f_described f_message f_size f_words f_schedule f_thrown f_said) sz)) 0 0 (va_A (wX47 ci ad d f_constants f_blanks f_counts f_points f_kept f_hashes f_news f_rounds f_hashed f_groups f_groupOf f_groupCount f_trial f_row f_names f_namedBlanks f_form f_formCount f_octets f_descriptions f_described f_message f_size f_words f_schedule f_thrown f_said) sz) := by
  refine k_enter (by decide) (Nat.le_of_ble_eq_true rfl) ?_
  intro p e s m below meth c ls X hsz hH hl
  subst hsz
  generalize va_A (wX47 ci ad d f_constants f_blanks f_counts f_points f_kept f_hashes f_news f_rounds f_hashed f_groups f_groupOf f_groupCount f_trial f_row f_names f_namedBlanks f_form f_formCount f_octets f_descriptions f_described f_message f_size f_words f_schedule f_thrown f_said) s.heap.size = A at hH ⊢
  have hx := X.1.1
  have hb := X.1.2.1
  have hl : lv_has ls 4 [(0, .ref (ad 0)), (1, .int x1)] := hl
  unfold wpX47_digestOf at hw
  refine lv_aload_n hx hb dX47_digestOf_0 rfl (lv_at hl 0 rfl) ?_
  refine k_get X hH in_X47 0 rfl hc 23 (by decide) q6007 rfl dX47_digestOf_1 ?_
  refine lv_iconst (v := 0) hx hb dX47_digestOf_4 (by decide) ?_
  refine lv_ldc2 (v := 1779033703) hx hb X.1.2.2.2.1 (X.1.2.2.2.2 _ q5962) dX47_digestOf_5 ?_
  obtain ⟨f_words_1, ef_words_1⟩ : ∃ y : Nat → Int64, y = vp_updL f_words (0 : Int32).toNatClampNeg 1779033703 := ⟨_, rfl⟩
  refine k_last X hH 16 15 rfl rfl (by unfold vp_in; decide) dX47_digestOf_8 ef_words_1 (ws1 := (wX47 ci ad d f_constants f_blanks f_counts f_points f_kept f_hashes f_news f_rounds f_hashed f_groups f_groupOf f_groupCount f_trial f_row f_names f_namedBlanks f_form f_formCount f_octets f_descriptions f_described f_message f_size f_words_1 f_schedule f_thrown f_said)) rfl (fun H locs hH => ?_)
  have hw := hw (zG f_words_1) (by rw [ef_words_1]; exact z_stL (f := f_words) (rfl : (0 : Int32).toInt = 0) (by decide) (rfl : (1779033703 : Int64).toInt = 1779033703))
  refine lv_aload_n hx hb dX47_digestOf_9 rfl (lv_at hl 0 rfl) ?_
  refine k_get X hH in_X47 0 rfl hc 23 (by decide) q6007 rfl dX47_digestOf_10 ?_
  refine lv_iconst (v := 1) hx hb dX47_digestOf_13 (by decide) ?_
  refine lv_ldc2 (v := 3144134277) hx hb X.1.2.2.2.1 (X.1.2.2.2.2 _ q5963) dX47_digestOf_14 ?_
  obtain ⟨f_words_2, ef_words_2⟩ : ∃ y : Nat → Int64, y = vp_updL f_words_1 (1 : Int32).toNatClampNeg 3144134277 := ⟨_, rfl⟩
  refine k_last X hH 16 15 rfl rfl (by unfold vp_in; decide) dX47_digestOf_17 ef_words_2 (ws1 := (wX47 ci ad d f_constants f_blanks f_counts f_points f_kept f_hashes f_news f_rounds f_hashed f_groups f_groupOf f_groupCount f_trial f_row f_names f_namedBlanks f_form f_formCount f_octets f_descriptions f_described f_message f_size f_words_2 f_schedule f_thrown f_said)) rfl (fun H locs hH => ?_)
  have hw := hw (zG f_words_2) (by rw [ef_words_2]; exact z_stL (f := f_words_1) (rfl : (1 : Int32).toInt = 1) (by decide) (rfl : (3144134277 : Int64).toInt = 3144134277))
  refine lv_aload_n hx hb dX47_digestOf_18 rfl (lv_at hl 0 rfl) ?_
  refine k_get X hH in_X47 0 rfl hc 23 (by decide) q6007 rfl dX47_digestOf_19 ?_
  refine lv_iconst (v := 2) hx hb dX47_digestOf_22 (by decide) ?_
  refine lv_ldc2 (v := 1013904242) hx hb X.1.2.2.2.1 (X.1.2.2.2.2 _ q5964) dX47_digestOf_23 ?_
  obtain ⟨f_words_3, ef_words_3⟩ : ∃ y : Nat → Int64, y = vp_updL f_words_2 (2 : Int32).toNatClampNeg 1013904242 := ⟨_, rfl⟩
  refine k_last X hH 16 15 rfl rfl (by unfold vp_in; decide) dX47_digestOf_26 ef_words_3 (ws1 := (wX47 ci ad d f_constants f_blanks f_counts f_points f_kept f_hashes f_news f_rounds f_hashed f_groups f_groupOf f_groupCount f_trial f_row f_names f_namedBlanks f_form f_formCount f_octets f_descriptions f_described f_message f_size f_words_3 f_schedule f_thrown f_said)) rfl (fun H locs hH => ?_)
  have hw := hw (zG f_words_3) (by rw [ef_words_3]; exact z_stL (f := f_words_2) (rfl : (2 : Int32).toInt = 2) (by decide) (rfl : (1013904242 : Int64).toInt = 1013904242))
  refine lv_aload_n hx hb dX47_digestOf_27 rfl (lv_at hl 0 rfl) ?_
  refine k_get X hH in_X47 0 rfl hc 23 (by decide) q6007 rfl dX47_digestOf_28 ?_
  refine lv_iconst (v := 3) hx hb dX47_digestOf_31 (by decide) ?_
  refine lv_ldc2 (v := 2773480762) hx hb X.1.2.2.2.1 (X.1.2.2.2.2 _ q5965) dX47_digestOf_32 ?_
  obtain ⟨f_words_4, ef_words_4⟩ : ∃ y : Nat → Int64, y = vp_updL f_words_3 (3 : Int32).toNatClampNeg 2773480762 := ⟨_, rfl⟩
  refine k_last X hH 16 15 rfl rfl (by unfold vp_in; decide) dX47_digestOf_35 ef_words_4 (ws1 := (wX47 ci ad d f_constants f_blanks f_counts f_points f_kept f_hashes f_news f_rounds f_hashed f_groups f_groupOf f_groupCount f_trial f_row f_names f_namedBlanks f_form f_formCount f_octets f_descriptions f_described f_message f_size f_words_4 f_schedule f_thrown f_said)) rfl (fun H locs hH => ?_)
  have hw := hw (zG f_words_4) (by rw [ef_words_4]; exact z_stL (f := f_words_3) (rfl : (3 : Int32).toInt = 3) (by decide) (rfl : (2773480762 : Int64).toInt = 2773480762))
  refine lv_aload_n hx hb dX47_digestOf_36 rfl (lv_at hl 0 rfl) ?_
  refine k_get X hH in_X47 0 rfl hc 23 (by decide) q6007 rfl dX47_digestOf_37 ?_
  refine lv_iconst (v := 4) hx hb dX47_digestOf_40 (by decide) ?_
  refine lv_ldc2 (v := 1359893119) hx hb X.1.2.2.2.1 (X.1.2.2.2.2 _ q5966) dX47_digestOf_41 ?_
  obtain ⟨f_words_5, ef_words_5⟩ : ∃ y : Nat → Int64, y = vp_updL f_words_4 (4 : Int32).toNatClampNeg 1359893119 := ⟨_, rfl⟩
  refine k_last X hH 16 15 rfl rfl (by unfold vp_in; decide) dX47_digestOf_44 ef_words_5 (ws1 := (wX47 ci ad d f_constants f_blanks f_counts f_points f_kept f_hashes f_news f_rounds f_hashed f_groups f_groupOf f_groupCount f_trial f_row f_names f_namedBlanks f_form f_formCount f_octets f_descriptions f_described f_message f_size f_words_5 f_schedule f_thrown f_said)) rfl (fun H locs hH => ?_)
  have hw := hw (zG f_words_5) (by rw [ef_words_5]; exact z_stL (f := f_words_4) (rfl : (4 : Int32).toInt = 4) (by decide) (rfl : (1359893119 : Int64).toInt = 1359893119))
  refine lv_aload_n hx hb dX47_digestOf_45 rfl (lv_at hl 0 rfl) ?_
  refine k_get X hH in_X47 0 rfl hc 23 (by decide) q6007 rfl dX47_digestOf_46 ?_
  refine lv_iconst (v := 5) hx hb dX47_digestOf_49 (by decide) ?_
  refine lv_ldc2 (v := 2600822924) hx hb X.1.2.2.2.1 (X.1.2.2.2.2 _ q5967) dX47_digestOf_50 ?_
  obtain ⟨f_words_6, ef_words_6⟩ : ∃ y : Nat → Int64, y = vp_updL f_words_5 (5 : Int32).toNatClampNeg 2600822924 := ⟨_, rfl⟩
  refine k_last X hH 16 15 rfl rfl (by unfold vp_in; decide) dX47_digestOf_53 ef_words_6 (ws1 := (wX47 ci ad d f_constants f_blanks f_counts f_points f_kept f_hashes f_news f_rounds f_hashed f_groups f_groupOf f_groupCount f_trial f_row f_names f_namedBlanks f_form f_formCount f_octets f_descriptions f_described f_message f_size f_words_6 f_schedule f_thrown f_said)) rfl (fun H locs hH => ?_)
  have hw := hw (zG f_words_6) (by rw [ef_words_6]; exact z_stL (f := f_words_5) (rfl : (5 : Int32).toInt = 5) (by decide) (rfl : (2600822924 : Int64).toInt = 2600822924))
  refine lv_aload_n hx hb dX47_digestOf_54 rfl (lv_at hl 0 rfl) ?_
  refine k_get X hH in_X47 0 rfl hc 23 (by decide) q6007 rfl dX47_digestOf_55 ?_
  refine lv_bipush (v := 6) hx hb dX47_digestOf_58 (by decide) ?_
  refine lv_ldc2 (v := 528734635) hx hb X.1.2.2.2.1 (X.1.2.2.2.2 _ q5968) dX47_digestOf_60 ?_
  obtain ⟨f_words_7, ef_words_7⟩ : ∃ y : Nat → Int64, y = vp_updL f_words_6 (6 : Int32).toNatClampNeg 528734635 := ⟨_, rfl⟩
  refine k_last X hH 16 15 rfl rfl (by unfold vp_in; decide) dX47_digestOf_63 ef_words_7 (ws1 := (wX47 ci ad d f_constants f_blanks f_counts f_points f_kept f_hashes f_news f_rounds f_hashed f_groups f_groupOf f_groupCount f_trial f_row f_names f_namedBlanks f_form f_formCount f_octets f_descriptions f_described f_message f_size f_words_7 f_schedule f_thrown f_said)) rfl (fun H locs hH => ?_)
  have hw := hw (zG f_words_7) (by rw [ef_words_7]; exact z_stL (f := f_words_6) (rfl : (6 : Int32).toInt = 6) (by decide) (rfl : (528734635 : Int64).toInt = 528734635))
  refine lv_aload_n hx hb dX47_digestOf_64 rfl (lv_at hl 0 rfl) ?_
  refine k_get X hH in_X47 0 rfl hc 23 (by decide) q6007 rfl dX47_digestOf_65 ?_
  refine lv_bipush (v := 7) hx hb dX47_digestOf_68 (by decide) ?_
  refine lv_ldc2 (v := 1541459225) hx hb X.1.2.2.2.1 (X.1.2.2.2.2 _ q5969) dX47_digestOf_70 ?_
  obtain ⟨f_words_8, ef_words_8⟩ : ∃ y : Nat → Int64, y = vp_updL f_words_7 (7 : Int32).toNatClampNeg 1541459225 := ⟨_, rfl⟩
  refine k_last X hH 16 15 rfl rfl (by unfold vp_in; decide) dX47_digestOf_73 ef_words_8 (ws1 := (wX47 ci ad d f_constants f_blanks f_counts f_points f_kept f_hashes f_news f_rounds f_hashed f_groups f_groupOf f_groupCount f_trial f_row f_names f_namedBlanks f_form f_formCount f_octets f_descriptions f_described f_message f_size f_words_8 f_schedule f_thrown f_said)) rfl (fun H locs hH => ?_)
  have hw := hw (zG f_words_8) (by rw [ef_words_8]; exact z_stL (f := f_words_7) (rfl : (7 : Int32).toInt = 7) (by decide) (rfl : (1541459225 : Int64).toInt = 1541459225))
  refine lv_iload_n hx hb dX47_digestOf_74 rfl (lv_at hl 1 rfl) ?_
  refine lv_istore_n (lv' := [(2, .int x1), (0, .ref (ad 0)), (1, .int x1)]) hx hb dX47_digestOf_75 rfl hl (by decide) rfl (fun ls hl => ?_)
  refine lv_aload_n hx hb dX47_digestOf_76 rfl (lv_at hl 1 rfl) ?_
  refine k_get X hH in_X47 0 rfl hc 21 (by decide) q6005 rfl dX47_digestOf_77 ?_
  refine lv_iload_n hx hb dX47_digestOf_80 rfl (lv_at hl 0 rfl) ?_
  refine lv_bipush (v := (-128)) hx hb dX47_digestOf_81 (by decide) ?_
  have hq_10 := hw.1
  have hw := hw.2
  have hq_11 := hw.1
  have hw := hw.2
  obtain ⟨f_message_9, ef_message_9⟩ : ∃ y : Nat → Int32, y = upd f_message x1.toNatClampNeg (vp_nar .byte (-128)) := ⟨_, rfl⟩
  refine k_bast X hH 15 14 rfl rfl (z_in (rfl : x1.toInt = _) hq_10) dX47_digestOf_83 ef_message_9 (ws1 := (wX47 ci ad d f_constants f_blanks f_counts f_points f_kept f_hashes f_news f_rounds f_hashed f_groups f_groupOf f_groupCount f_trial f_row f_names f_namedBlanks f_form f_formCount f_octets f_descriptions f_described f_message_9 f_size f_words_8 f_schedule f_thrown f_said)) rfl (fun H locs hH => ?_)
  have hw := hw (zF f_message_9) (by rw [ef_message_9]; exact z_st (f := f_message) (rfl : x1.toInt = _) hq_10.1 (z_narB (rfl : ((-128) : Int32).toInt = (-128)) hq_11))
  have hq_13 := hw.1
  have hw := hw.2
  obtain ⟨x2_12, ex2_12⟩ : ∃ y : Int32, y = x1 + 1 := ⟨_, rfl⟩
  have hw := hw x2_12.toInt (by rw [ex2_12]; exact (z_x (z_add (z_m (rfl : x1.toInt = _)) (z_m (rfl : (1 : Int32).toInt = 1))) hq_13))
  refine lv_iinc (v := x2_12) (lv' := [(2, .int x2_12), (0, .ref (ad 0)), (1, .int x1)]) hx hb dX47_digestOf_84 hl (k := 0) rfl (by rw [ex2_12]; rfl) (by decide) rfl (fun ls hl => ?_)
  obtain ⟨fu, hw⟩ := hw
  refine atX47_digestOf_87 hc X ?_ fu x2_12 f_message_9 hw _ _ ls hH (lv_sub hl [1, 2, 0] rfl)
  · intro x2_22 f_message_23 hw H locs ls hH hl
    refine lv_bipush (v := 7) hx hb dX47_digestOf_109 (by decide) ?_
    refine lv_istore_n (lv' := [(3, .int 7), (0, .ref (ad 0)), (1, .int x1), (2, .int x2_22)]) hx hb dX47_digestOf_111 rfl hl (by decide) rfl (fun ls hl => ?_)
    obtain ⟨fu, hw⟩ := hw
    refine atX47_digestOf_112 hc X ?_ fu x2_22 7 f_message_23 hw _ _ ls hH (lv_sub hl [1, 2, 3, 0] rfl)
    · intro x2_44 f_message_45 hw H locs ls hH hl
      refine lv_iconst (v := 0) hx hb dX47_digestOf_144 (by decide) ?_
      refine lv_istore_n (lv' := [(3, .int 0), (0, .ref (ad 0)), (2, .int x2_44)]) hx hb dX47_digestOf_145 rfl hl (by decide) rfl (fun ls hl => ?_)
      obtain ⟨fu, hw⟩ := hw
      refine atX47_digestOf_146 hc X ?_ fu 0 f_words_8 f_schedule hw _ _ ls hH (lv_sub hl [1, 2, 0] rfl)
      · intro f_words_51 f_schedule_52 hw H locs ls hH hl
        exact k_vret X hH (f_message_45, f_words_51, f_schedule_52) hw rfl dX47_digestOf_162
set_option maxHeartbeats 4000000 in
theorem atX47_octetsOf_2 {p : Program} {l : Launch} {e : Env} {s : State} {m : MethodId} {args : Array Value} {below : List Frame} {meth : Method} {c : Code} {dC : Nat → ClassId} {dI : Nat → Nat → Nat} {cl : List vw_C} {ci : Nat} (hc : cl[ci]? = some (RX47, TX47, 27)) {ad : Nat → Nat} {d : Nat → ClassId} {A : Nat → Prop} {post : (Int → Int) → Prop} {f_constants : Nat → Int64} {f_blanks : Nat → Int32} {f_counts : Nat → Int32} {f_points : Nat → Int32} {f_kept : Int32} {f_hashes : Nat → Int64} {f_news : Nat → Int64} {f_rounds : Int32} {f_hashed : Int32} {f_groups : Nat → Int32} {f_groupOf : Nat → Int32} {f_groupCount : Int32} {f_trial : Nat → Int32} {f_row : Nat → Int32} {f_names : Nat → Int32} {f_namedBlanks : Int32} {f_form : Nat → Int32} {f_formCount : Int32} {f_descriptions : Nat → Int32} {f_described : Int32} {f_message : Nat → Int32} {f_size : Int32} {f_words : Nat → Int64} {f_schedule : Nat → Int64} {f_thrown : Int32} {f_said : Nat → Int32} (X : kX p s m args meth c cX47_octetsOf 2 RX47 none (dC, dI) cl (tX47 d)) {K40 : (Int → Int) → Prop}   (hk40 : ∀ (f_octets : Nat → Int32), K40 (zF f_octets) → ∀ (H : Heap) (locs : List Loc) (ls : Array Slot), kH (dC, dI) cl A s.heap H locs (wX47 ci ad d f_constants f_blanks f_counts f_points f_kept f_hashes f_news f_rounds f_hashed f_groups f_groupOf f_groupCount f_trial f_row f_names f_namedBlanks f_form f_formCount f_octets f_descriptions f_described f_message f_size f_words f_schedule f_thrown f_said) → lv_has ls 2 [] → W p l e ({ frames := 0, cells := 0, slots := 0, locals := 0 } : Room) s m args below meth c H locs 0 0 (MQ below (va_Qv (fun (u : (Nat → Int32)) => post (zF (u))) (kB (dC, dI) cl (tX47 d) A (fun u : (Nat → Int32) => (wX47 ci ad d f_constants f_blanks f_counts f_points f_kept f_hashes f_news f_rounds f_hashed f_groups f_groupOf f_groupCount f_trial f_row f_names f_namedBlanks f_form f_formCount (u) f_descriptions f_described f_message f_size f_words f_schedule f_thrown f_said))) A) args s 0 0 A) (F0 m 40 ls [])) :
    ∀ (nn : Nat) (x1 : Int32) (f_octets : Nat → Int32), wX47_octetsOf_2 K40 (zG f_words) nn x1.toInt (zF f_octets) → ∀ (H : Heap) (locs : List Loc) (ls : Array Slot), kH (dC, dI) cl A s.heap H locs (wX47 ci ad d f_constants f_blanks f_counts f_points f_kept f_hashes f_news f_rounds f_hashed f_groups f_groupOf f_groupCount f_trial f_row f_names f_namedBlanks f_form f_formCount f_octets f_descriptions f_described f_message f_size f_words f_schedule f_thrown f_said) → lv_has ls 2 [(0, .ref (ad 0)), (1, .int x1)] → W p l e ({ frames := 0, cells := 0, slots := 0, locals := 0 } : Room) s m args below meth c H locs 0 0 (MQ below (va_Qv (fun (u : (Nat → Int32)) => post (zF (u))) (kB (dC, dI) cl (tX47 d) A (fun u : (Nat → Int32) => (wX47 ci ad d f_constants f_blanks f_counts f_points f_kept f_hashes f_news f_rounds f_hashed f_groups f_groupOf f_groupCount f_trial f_row f_names f_namedBlanks f_form f_formCount (u) f_descriptions f_described f_message f_size f_words f_schedule f_thrown f_said))) A) args s 0 0 A) (F0 m 2 ls []) := by
  have hx := X.1.1
  have hb := X.1.2.1
  intro nn
  induction nn with
  | zero =>
    intro x1 f_octets hw
    exact False.elim hw
  | succ n ih =>
    intro x1 f_octets hw H locs ls hH hl
    rw [wX47_octetsOf_2] at hw
    refine lv_iload_n hx hb dX47_octetsOf_2 rfl (lv_at hl 1 rfl) ?_
    refine lv_bipush (v := 32) hx hb dX47_octetsOf_3 (by decide) ?_
    refine lv_icmp_ge (tgt := 40) hx hb dX47_octetsOf_5 (by decide) (fun c_1 => ?_) (fun c_1 => ?_)
    · have hw := hw.1 (z_le (rfl : (32 : Int32).toInt = 32) (rfl : x1.toInt = _) c_1)
      exact hk40 f_octets hw _ _ ls hH (lv_sub hl [] rfl)
    · have hw := hw.2 (z_nle (rfl : (32 : Int32).toInt = 32) (rfl : x1.toInt = _) c_1)
      refine lv_aload_n hx hb dX47_octetsOf_8 rfl (lv_at hl 0 rfl) ?_
      refine k_get X hH in_X47 0 rfl hc 18 (by decide) q6002 rfl dX47_octetsOf_9 ?_
      refine lv_iload_n hx hb dX47_octetsOf_12 rfl (lv_at hl 1 rfl) ?_
      refine lv_aload_n hx hb dX47_octetsOf_13 rfl (lv_at hl 0 rfl) ?_
      refine k_get X hH in_X47 0 rfl hc 23 (by decide) q6007 rfl dX47_octetsOf_14 ?_
      refine lv_iload_n hx hb dX47_octetsOf_17 rfl (lv_at hl 1 rfl) ?_
      refine lv_iconst (v := 4) hx hb dX47_octetsOf_18 (by decide) ?_
      have hq_2 := hw.1
      have hw := hw.2
      refine lv_idiv hx hb dX47_octetsOf_19 (by decide) ?_
      have e_3 := z_div (rfl : x1.toInt = _) (rfl : (4 : Int32).toInt = 4) hq_2 (by decide)
      have hq_4 := hw.1
      have hw := hw.2
      refine k_lald X hH 16 15 rfl rfl (z_in e_3 hq_4) dX47_octetsOf_20 ?_
      have e_5 := z_ldL (f := f_words) e_3 hq_4.1
      refine lv_bipush (v := 24) hx hb dX47_octetsOf_21 (by decide) ?_
      refine lv_bipush (v := 8) hx hb dX47_octetsOf_23 (by decide) ?_
      refine lv_iload_n hx hb dX47_octetsOf_25 rfl (lv_at hl 1 rfl) ?_
      refine lv_iconst (v := 4) hx hb dX47_octetsOf_26 (by decide) ?_
      refine lv_irem hx hb dX47_octetsOf_27 (by decide) ?_
      have e_6 := z_rem (rfl : x1.toInt = _) (rfl : (4 : Int32).toInt = 4) hq_2 (by decide)
      refine lv_imul hx hb dX47_octetsOf_28 ?_
      have e_7 := z_mul (z_m (rfl : (8 : Int32).toInt = 8)) (z_m e_6)
      refine lv_isub hx hb dX47_octetsOf_29 ?_
      have e_8 := z_sub (z_m (rfl : (24 : Int32).toInt = 24)) e_7
      have hq_9 := hw.1
      have hw := hw.2
      have e_10 := z_x e_8 hq_9
      refine lv_lshr (v := (f_words (x1 / 4).toNatClampNeg) >>> ((24 - (8 * (x1 - x1 / 4 * 4))).toInt64 &&& 63)) hx hb dX47_octetsOf_30 rfl ?_
      have hq_11 := hw.1
      have hw := hw.2
      have e_12 := zL_shrV e_5 e_10 hq_11
      refine lv_l2i (v := ((f_words (x1 / 4).toNatClampNeg) >>> ((24 - (8 * (x1 - x1 / 4 * 4))).toInt64 &&& 63)).toInt32) hx hb dX47_octetsOf_31 rfl ?_
      have e_13 := z_l2iM (zL_m e_12)
      refine lv_i2b (v := (((f_words (x1 / 4).toNatClampNeg) >>> ((24 - (8 * (x1 - x1 / 4 * 4))).toInt64 &&& 63)).toInt32).toInt8.toInt32) hx hb dX47_octetsOf_32 rfl ?_
      have e_14 := z_i2b e_13
      refine lv_topi (fun v_15 ev_15 => ?_)
      have hw := hw v_15.toInt (by rw [ev_15]; exact e_14)
      have hq_17 := hw.1
      have hw := hw.2
      have hq_18 := hw.1
      have hw := hw.2
      obtain ⟨f_octets_16, ef_octets_16⟩ : ∃ y : Nat → Int32, y = upd f_octets x1.toNatClampNeg (vp_nar .byte v_15) := ⟨_, rfl⟩
      refine k_bast X hH 13 12 rfl rfl (z_in (rfl : x1.toInt = _) hq_17) dX47_octetsOf_33 ef_octets_16 (ws1 := (wX47 ci ad d f_constants f_blanks f_counts f_points f_kept f_hashes f_news f_rounds f_hashed f_groups f_groupOf f_groupCount f_trial f_row f_names f_namedBlanks f_form f_formCount f_octets_16 f_descriptions f_described f_message f_size f_words f_schedule f_thrown f_said)) rfl (fun H locs hH => ?_)
      have hw := hw (zF f_octets_16) (by rw [ef_octets_16]; exact z_st (f := f_octets) (rfl : x1.toInt = _) hq_17.1 (z_narB (rfl : v_15.toInt = _) hq_18))
      have hq_20 := hw.1
      have hw := hw.2
      obtain ⟨x1_19, ex1_19⟩ : ∃ y : Int32, y = x1 + 1 := ⟨_, rfl⟩
      have hw := hw x1_19.toInt (by rw [ex1_19]; exact (z_x (z_add (z_m (rfl : x1.toInt = _)) (z_m (rfl : (1 : Int32).toInt = 1))) hq_20))
      refine lv_iinc (v := x1_19) (lv' := [(1, .int x1_19), (0, .ref (ad 0))]) hx hb dX47_octetsOf_34 hl (k := 1) rfl (by rw [ex1_19]; rfl) (by decide) rfl (fun ls hl => ?_)
      refine lv_goto (tgt := 2) hx hb dX47_octetsOf_37 (by decide) ?_
      exact ih x1_19 f_octets_16 hw _ _ ls hH (lv_sub hl [1, 0] rfl)
set_option maxHeartbeats 4000000 in
theorem walkX47_octetsOf {l : Launch} {dC : Nat → ClassId} {dI : Nat → Nat → Nat} {cl : List vw_C} {ci : Nat} (hc : cl[ci]? = some (RX47, TX47, 27)) {ad : Nat → Nat} {d : Nat → ClassId} {sz : Nat} {f_constants : Nat → Int64} {f_blanks : Nat → Int32} {f_counts : Nat → Int32} {f_points : Nat → Int32} {f_kept : Int32} {f_hashes : Nat → Int64} {f_news : Nat → Int64} {f_rounds : Int32} {f_hashed : Int32} {f_groups : Nat → Int32} {f_groupOf : Nat → Int32} {f_groupCount : Int32} {f_trial : Nat → Int32} {f_row : Nat → Int32} {f_names : Nat → Int32} {f_namedBlanks : Int32} {f_form : Nat → Int32} {f_formCount : Int32} {f_octets : Nat → Int32} {f_descriptions : Nat → Int32} {f_described : Int32} {f_message : Nat → Int32} {f_size : Int32} {f_words : Nat → Int64} {f_schedule : Nat → Int64} {f_thrown : Int32} {f_said : Nat → Int32}  {post : (Int → Int) → Prop} (hw : wpX47_octetsOf post (zF f_octets) (zG f_words) ) :
    Met l yX47_octetsOf (ws_ yX47_octetsOf cX47_octetsOf 2 none) ({ frames := 0, cells := 0, slots := 0, locals := 0 } : Room) (kPc (dC, dI) cl (tX47 d) [.ref (ad 0)] sz (wX47 ci ad d f_constants f_blanks f_counts f_points f_kept f_hashes f_news f_rounds f_hashed f_groups f_groupOf f_groupCount f_trial f_row f_names f_namedBlanks f_form f_formCount f_octets f_descriptions f_described f_message f_size f_words f_schedule f_thrown f_said)) (va_Qv (fun (u : (Nat → Int32)) => post (zF (u))) (kB (dC, dI) cl (tX47 d) (va_A (wX47 ci ad d f_constants f_blanks f_counts f_points f_kept f_hashes f_news f_rounds f_hashed f_groups f_groupOf f_groupCount f_trial f_row f_names f_namedBlanks f_form f_formCount f_octets f_descriptions f_described f_message f_size f_words f_schedule f_thrown f_said) sz) (fun u : (Nat → Int32) => (wX47 ci ad d f_constants f_blanks f_counts f_points f_kept f_hashes f_news f_rounds f_hashed f_groups f_groupOf f_groupCount f_trial f_row f_names f_namedBlanks f_form f_formCount (u) f_descriptions f_described f_message f_size f_words f_schedule f_thrown f_said))) (va_A (wX47 ci ad d f_constants f_blanks f_counts f_points f_kept f_hashes f_news f_rounds f_hashed f_groups f_groupOf f_groupCount f_trial f_row f_names f_namedBlanks f_form f_formCount f_octets f_descriptions f_described f_message f_size f_words f_schedule f_thrown f_said) sz)) 0 0 (va_A (wX47 ci ad d f_constants f_blanks f_counts f_points f_kept f_hashes f_news f_rounds f_hashed f_groups f_groupOf f_groupCount f_trial f_row f_names f_namedBlanks f_form f_formCount f_octets f_descriptions f_described f_message f_size f_words f_schedule f_thrown f_said) sz) := by
  refine k_enter (by decide) (Nat.le_of_ble_eq_true rfl) ?_
  intro p e s m below meth c ls X hsz hH hl
  subst hsz
  generalize va_A (wX47 ci ad d f_constants f_blanks f_counts f_points f_kept f_hashes f_news f_rounds f_hashed f_groups f_groupOf f_groupCount f_trial f_row f_names f_namedBlanks f_form f_formCount f_octets f_descriptions f_described f_message f_size f_words f_schedule f_thrown f_said) s.heap.size = A at hH ⊢
  have hx := X.1.1
  have hb := X.1.2.1
  have hl : lv_has ls 2 [(0, .ref (ad 0))] := hl
  unfold wpX47_octetsOf at hw
  refine lv_iconst (v := 0) hx hb dX47_octetsOf_0 (by decide) ?_
  refine lv_istore_n (lv' := [(1, .int 0), (0, .ref (ad 0))]) hx hb dX47_octetsOf_1 rfl hl (by decide) rfl (fun ls hl => ?_)
  obtain ⟨fu, hw⟩ := hw
  refine atX47_octetsOf_2 hc X ?_ fu 0 f_octets hw _ _ ls hH (lv_sub hl [1, 0] rfl)
  · intro f_octets_21 hw H locs ls hH hl
    exact k_vret X hH (f_octets_21) hw rfl dX47_octetsOf_40
set_option maxHeartbeats 4000000 in
theorem atX47_keep_51 {p : Program} {l : Launch} {e : Env} {s : State} {m : MethodId} {args : Array Value} {below : List Frame} {meth : Method} {c : Code} {dC : Nat → ClassId} {dI : Nat → Nat → Nat} {cl : List vw_C} {ci : Nat} (hc : cl[ci]? = some (RX47, TX47, 27)) {ad : Nat → Nat} {d : Nat → ClassId} {A : Nat → Prop} {post : Int → (Int → Int) → (Int → Int) → (Int → Int) → Int → Int → Int → Prop} {f_constants : Nat → Int64} {f_hashes : Nat → Int64} {f_news : Nat → Int64} {f_rounds : Int32} {f_groups : Nat → Int32} {f_groupOf : Nat → Int32} {f_groupCount : Int32} {f_trial : Nat → Int32} {f_row : Nat → Int32} {f_names : Nat → Int32} {f_namedBlanks : Int32} {f_form : Nat → Int32} {f_formCount : Int32} {f_octets : Nat → Int32} {f_descriptions : Nat → Int32} {f_described : Int32} {f_message : Nat → Int32} {f_size : Int32} {f_words : Nat → Int64} {f_schedule : Nat → Int64} {f_said : Nat → Int32} (X : kX p s m args meth c cX47_keep 2 RX47 (some .int) (dC, dI) cl (tX47 d)) {K87 : (Int → Int) → Prop}  {f_blanks : Nat → Int32} {f_counts : Nat → Int32} {f_kept : Int32} {f_hashed : Int32} {f_thrown : Int32} (hk87 : ∀ (f_points : Nat → Int32), K87 (zF f_points) → ∀ (H : Heap) (locs : List Loc) (ls : Array Slot), kH (dC, dI) cl A s.heap H locs (wX47 ci ad d f_constants f_blanks f_counts f_points f_kept f_hashes f_news f_rounds f_hashed f_groups f_groupOf f_groupCount f_trial f_row f_names f_namedBlanks f_form f_formCount f_octets f_descriptions f_described f_message f_size f_words f_schedule f_thrown f_said) → lv_has ls 2 [(0, .ref (ad 0))] → W p l e ({ frames := 0, cells := 0, slots := 0, locals := 0 } : Room) s m args below meth c H locs 0 0 (MQ below (va_Qi (fun (r : Int32) (u : (Nat → Int32) × (Nat → Int32) × (Nat → Int32) × Int32 × Int32 × Int32) => post r.toInt (zF (u.1)) (zF (u.2.1)) (zF (u.2.2.1)) (u.2.2.2.1).toInt (u.2.2.2.2.1).toInt (u.2.2.2.2.2).toInt) (kB (dC, dI) cl (tX47 d) A (fun u : (Nat → Int32) × (Nat → Int32) × (Nat → Int32) × Int32 × Int32 × Int32 => (wX47 ci ad d f_constants (u.1) (u.2.1) (u.2.2.1) (u.2.2.2.1) f_hashes f_news f_rounds (u.2.2.2.2.1) f_groups f_groupOf f_groupCount f_trial f_row f_names f_namedBlanks f_form f_formCount f_octets f_descriptions f_described f_message f_size f_words f_schedule (u.2.2.2.2.2) f_said))) A) args s 0 0 A) (F0 m 87 ls [])) :
    ∀ (nn : Nat) (x1 : Int32) (f_points : Nat → Int32), wX47_keep_51 K87 f_kept.toInt nn x1.toInt (zF f_points) → ∀ (H : Heap) (locs : List Loc) (ls : Array Slot), kH (dC, dI) cl A s.heap H locs (wX47 ci ad d f_constants f_blanks f_counts f_points f_kept f_hashes f_news f_rounds f_hashed f_groups f_groupOf f_groupCount f_trial f_row f_names f_namedBlanks f_form f_formCount f_octets f_descriptions f_described f_message f_size f_words f_schedule f_thrown f_said) → lv_has ls 2 [(0, .ref (ad 0)), (1, .int x1)] → W p l e ({ frames := 0, cells := 0, slots := 0, locals := 0 } : Room) s m args below meth c H locs 0 0 (MQ below (va_Qi (fun (r : Int32) (u : (Nat → Int32) × (Nat → Int32) × (Nat → Int32) × Int32 × Int32 × Int32) => post r.toInt (zF (u.1)) (zF (u.2.1)) (zF (u.2.2.1)) (u.2.2.2.1).toInt (u.2.2.2.2.1).toInt (u.2.2.2.2.2).toInt) (kB (dC, dI) cl (tX47 d) A (fun u : (Nat → Int32) × (Nat → Int32) × (Nat → Int32) × Int32 × Int32 × Int32 => (wX47 ci ad d f_constants (u.1) (u.2.1) (u.2.2.1) (u.2.2.2.1) f_hashes f_news f_rounds (u.2.2.2.2.1) f_groups f_groupOf f_groupCount f_trial f_row f_names f_namedBlanks f_form f_formCount f_octets f_descriptions f_described f_message f_size f_words f_schedule (u.2.2.2.2.2) f_said))) A) args s 0 0 A) (F0 m 51 ls []) := by
  have hx := X.1.1
  have hb := X.1.2.1
  intro nn
  induction nn with
  | zero =>
    intro x1 f_points hw
    exact False.elim hw
  | succ n ih =>
    intro x1 f_points hw H locs ls hH hl
    rw [wX47_keep_51] at hw
    refine lv_iload_n hx hb dX47_keep_51 rfl (lv_at hl 1 rfl) ?_
    refine lv_bipush (v := 120) hx hb dX47_keep_52 (by decide) ?_
    refine lv_icmp_ge (tgt := 87) hx hb dX47_keep_54 (by decide) (fun c_9 => ?_) (fun c_9 => ?_)
    · have hw := hw.1 (z_le (rfl : (120 : Int32).toInt = 120) (rfl : x1.toInt = _) c_9)
      exact hk87 f_points hw _ _ ls hH (lv_sub hl [0] rfl)
    · have hw := hw.2 (z_nle (rfl : (120 : Int32).toInt = 120) (rfl : x1.toInt = _) c_9)
      refine lv_aload_n hx hb dX47_keep_57 rfl (lv_at hl 0 rfl) ?_
      refine k_get X hH in_X47 0 rfl hc 3 (by decide) q5987 rfl dX47_keep_58 ?_
      refine lv_bipush (v := 120) hx hb dX47_keep_61 (by decide) ?_
      refine lv_aload_n hx hb dX47_keep_63 rfl (lv_at hl 0 rfl) ?_
      refine k_get X hH in_X47 0 rfl hc 4 (by decide) q5988 rfl dX47_keep_64 ?_
      refine lv_imul hx hb dX47_keep_67 ?_
      have e_10 := z_mul (z_m (rfl : (120 : Int32).toInt = 120)) (z_m (rfl : f_kept.toInt = _))
      refine lv_iload_n hx hb dX47_keep_68 rfl (lv_at hl 1 rfl) ?_
      refine lv_iadd hx hb dX47_keep_69 ?_
      have e_11 := z_add e_10 (z_m (rfl : x1.toInt = _))
      refine lv_aload_n hx hb dX47_keep_70 rfl (lv_at hl 0 rfl) ?_
      refine k_get X hH in_X47 0 rfl hc 3 (by decide) q5987 rfl dX47_keep_71 ?_
      refine lv_sipush (v := 960) hx hb dX47_keep_74 (by decide) ?_
      refine lv_iload_n hx hb dX47_keep_77 rfl (lv_at hl 1 rfl) ?_
      refine lv_iadd hx hb dX47_keep_78 ?_
      have e_12 := z_add (z_m (rfl : (960 : Int32).toInt = 960)) (z_m (rfl : x1.toInt = _))
      have hq_13 := hw.1
      have hw := hw.2
      have e_14 := z_xi e_12 hq_13 (by decide)
      refine k_iald X hH 4 3 rfl rfl (z_in e_14 hq_13) dX47_keep_79 ?_
      have e_15 := z_ld (f := f_points) e_14 hq_13.1
      refine lv_topi (fun v_16 ev_16 => ?_)
      have hw := hw v_16.toInt (by rw [ev_16]; exact e_15)
      have hq_18 := hw.1
      have hw := hw.2
      have e_19 := z_xi e_11 hq_18 (by decide)
      obtain ⟨f_points_17, ef_points_17⟩ : ∃ y : Nat → Int32, y = upd f_points ((120 * f_kept) + x1).toNatClampNeg v_16 := ⟨_, rfl⟩
      refine k_iast X hH 4 3 rfl rfl (z_in e_19 hq_18) dX47_keep_80 ef_points_17 (ws1 := (wX47 ci ad d f_constants f_blanks f_counts f_points_17 f_kept f_hashes f_news f_rounds f_hashed f_groups f_groupOf f_groupCount f_trial f_row f_names f_namedBlanks f_form f_formCount f_octets f_descriptions f_described f_message f_size f_words f_schedule f_thrown f_said)) rfl (fun H locs hH => ?_)
      have hw := hw (zF f_points_17) (by rw [ef_points_17]; exact z_st (f := f_points) e_19 hq_18.1 (rfl : v_16.toInt = _))
      have hq_21 := hw.1
      have hw := hw.2
      obtain ⟨x1_20, ex1_20⟩ : ∃ y : Int32, y = x1 + 1 := ⟨_, rfl⟩
      have hw := hw x1_20.toInt (by rw [ex1_20]; exact (z_x (z_add (z_m (rfl : x1.toInt = _)) (z_m (rfl : (1 : Int32).toInt = 1))) hq_21))
      refine lv_iinc (v := x1_20) (lv' := [(1, .int x1_20), (0, .ref (ad 0))]) hx hb dX47_keep_81 hl (k := 1) rfl (by rw [ex1_20]; rfl) (by decide) rfl (fun ls hl => ?_)
      refine lv_goto (tgt := 51) hx hb dX47_keep_84 (by decide) ?_
      exact ih x1_20 f_points_17 hw _ _ ls hH (lv_sub hl [1, 0] rfl)
set_option maxHeartbeats 4000000 in
theorem walkX47_keep {l : Launch} {dC : Nat → ClassId} {dI : Nat → Nat → Nat} {cl : List vw_C} {ci : Nat} (hc : cl[ci]? = some (RX47, TX47, 27)) {ad : Nat → Nat} {d : Nat → ClassId} {sz : Nat} {f_constants : Nat → Int64} {f_blanks : Nat → Int32} {f_counts : Nat → Int32} {f_points : Nat → Int32} {f_kept : Int32} {f_hashes : Nat → Int64} {f_news : Nat → Int64} {f_rounds : Int32} {f_hashed : Int32} {f_groups : Nat → Int32} {f_groupOf : Nat → Int32} {f_groupCount : Int32} {f_trial : Nat → Int32} {f_row : Nat → Int32} {f_names : Nat → Int32} {f_namedBlanks : Int32} {f_form : Nat → Int32} {f_formCount : Int32} {f_octets : Nat → Int32} {f_descriptions : Nat → Int32} {f_described : Int32} {f_message : Nat → Int32} {f_size : Int32} {f_words : Nat → Int64} {f_schedule : Nat → Int64} {f_thrown : Int32} {f_said : Nat → Int32}  {post : Int → (Int → Int) → (Int → Int) → (Int → Int) → Int → Int → Int → Prop} (hw : wpX47_keep post (zF f_blanks) (zF f_counts) (zF f_points) f_kept.toInt f_hashed.toInt ) :
    Met l yX47_keep (ws_ yX47_keep cX47_keep 2 (some .int)) ({ frames := 0, cells := 0, slots := 0, locals := 0 } : Room) (kPc (dC, dI) cl (tX47 d) [.ref (ad 0)] sz (wX47 ci ad d f_constants f_blanks f_counts f_points f_kept f_hashes f_news f_rounds f_hashed f_groups f_groupOf f_groupCount f_trial f_row f_names f_namedBlanks f_form f_formCount f_octets f_descriptions f_described f_message f_size f_words f_schedule f_thrown f_said)) (va_Qi (fun (r : Int32) (u : (Nat → Int32) × (Nat → Int32) × (Nat → Int32) × Int32 × Int32 × Int32) => post r.toInt (zF (u.1)) (zF (u.2.1)) (zF (u.2.2.1)) (u.2.2.2.1).toInt (u.2.2.2.2.1).toInt (u.2.2.2.2.2).toInt) (kB (dC, dI) cl (tX47 d) (va_A (wX47 ci ad d f_constants f_blanks f_counts f_points f_kept f_hashes f_news f_rounds f_hashed f_groups f_groupOf f_groupCount f_trial f_row f_names f_namedBlanks f_form f_formCount f_octets f_descriptions f_described f_message f_size f_words f_schedule f_thrown f_said) sz) (fun u : (Nat → Int32) × (Nat → Int32) × (Nat → Int32) × Int32 × Int32 × Int32 => (wX47 ci ad d f_constants (u.1) (u.2.1) (u.2.2.1) (u.2.2.2.1) f_hashes f_news f_rounds (u.2.2.2.2.1) f_groups f_groupOf f_groupCount f_trial f_row f_names f_namedBlanks f_form f_formCount f_octets f_descriptions f_described f_message f_size f_words f_schedule (u.2.2.2.2.2) f_said))) (va_A (wX47 ci ad d f_constants f_blanks f_counts f_points f_kept f_hashes f_news f_rounds f_hashed f_groups f_groupOf f_groupCount f_trial f_row f_names f_namedBlanks f_form f_formCount f_octets f_descriptions f_described f_message f_size f_words f_schedule f_thrown f_said) sz)) 0 0 (va_A (wX47 ci ad d f_constants f_blanks f_counts f_points f_kept f_hashes f_news f_rounds f_hashed f_groups f_groupOf f_groupCount f_trial f_row f_names f_namedBlanks f_form f_formCount f_octets f_descriptions f_described f_message f_size f_words f_schedule f_thrown f_said) sz) := by
  refine k_enter (by decide) (Nat.le_of_ble_eq_true rfl) ?_
  intro p e s m below meth c ls X hsz hH hl
  subst hsz
  generalize va_A (wX47 ci ad d f_constants f_blanks f_counts f_points f_kept f_hashes f_news f_rounds f_hashed f_groups f_groupOf f_groupCount f_trial f_row f_names f_namedBlanks f_form f_formCount f_octets f_descriptions f_described f_message f_size f_words f_schedule f_thrown f_said) s.heap.size = A at hH ⊢
  have hx := X.1.1
  have hb := X.1.2.1
  have hl : lv_has ls 2 [(0, .ref (ad 0))] := hl
  unfold wpX47_keep at hw
  refine lv_aload_n hx hb dX47_keep_0 rfl (lv_at hl 0 rfl) ?_
  refine lv_iconst (v := 0) hx hb dX47_keep_1 (by decide) ?_
  refine k_put X hH in_X47 tyX47_ok nmX47 0 rfl hc 25 (by decide) q6009 rfl (ty := .int) rfl rfl rfl (Nat.le_of_ble_eq_true rfl) dX47_keep_2 (ws1 := (wX47 ci ad d f_constants f_blanks f_counts f_points f_kept f_hashes f_news f_rounds f_hashed f_groups f_groupOf f_groupCount f_trial f_row f_names f_namedBlanks f_form f_formCount f_octets f_descriptions f_described f_message f_size f_words f_schedule 0 f_said)) rfl (fun H locs hH => ?_)
  refine lv_aload_n hx hb dX47_keep_5 rfl (lv_at hl 0 rfl) ?_
  refine k_get X hH in_X47 0 rfl hc 4 (by decide) q5988 rfl dX47_keep_6 ?_
  refine lv_bipush (v := 8) hx hb dX47_keep_9 (by decide) ?_
  refine lv_icmp_ne (tgt := 17) hx hb dX47_keep_11 (by decide) (fun c_1 => ?_) (fun c_1 => ?_)
  · have hw := hw.2 (z_ne (rfl : f_kept.toInt = _) (rfl : (8 : Int32).toInt = 8) c_1)
    refine lv_aload_n hx hb dX47_keep_17 rfl (lv_at hl 0 rfl) ?_
    refine k_get X hH in_X47 0 rfl hc 1 (by decide) q5985 rfl dX47_keep_18 ?_
    refine lv_aload_n hx hb dX47_keep_21 rfl (lv_at hl 0 rfl) ?_
    refine k_get X hH in_X47 0 rfl hc 4 (by decide) q5988 rfl dX47_keep_22 ?_
    refine lv_aload_n hx hb dX47_keep_25 rfl (lv_at hl 0 rfl) ?_
    refine k_get X hH in_X47 0 rfl hc 1 (by decide) q5985 rfl dX47_keep_26 ?_
    refine lv_bipush (v := 8) hx hb dX47_keep_29 (by decide) ?_
    refine k_iald X hH 2 1 rfl rfl (by unfold vp_in; decide) dX47_keep_31 ?_
    have e_2 := z_ld (f := f_blanks) (rfl : (8 : Int32).toInt = 8) (by decide)
    refine lv_topi (fun v_3 ev_3 => ?_)
    have hw := hw v_3.toInt (by rw [ev_3]; exact e_2)
    have hq_5 := hw.1
    have hw := hw.2
    obtain ⟨f_blanks_4, ef_blanks_4⟩ : ∃ y : Nat → Int32, y = upd f_blanks f_kept.toNatClampNeg v_3 := ⟨_, rfl⟩
    refine k_iast X hH 2 1 rfl rfl (z_in (rfl : f_kept.toInt = _) hq_5) dX47_keep_32 ef_blanks_4 (ws1 := (wX47 ci ad d f_constants f_blanks_4 f_counts f_points f_kept f_hashes f_news f_rounds f_hashed f_groups f_groupOf f_groupCount f_trial f_row f_names f_namedBlanks f_form f_formCount f_octets f_descriptions f_described f_message f_size f_words f_schedule 0 f_said)) rfl (fun H locs hH => ?_)
    have hw := hw (zF f_blanks_4) (by rw [ef_blanks_4]; exact z_st (f := f_blanks) (rfl : f_kept.toInt = _) hq_5.1 (rfl : v_3.toInt = _))
    refine lv_aload_n hx hb dX47_keep_33 rfl (lv_at hl 0 rfl) ?_
    refine k_get X hH in_X47 0 rfl hc 2 (by decide) q5986 rfl dX47_keep_34 ?_
    refine lv_aload_n hx hb dX47_keep_37 rfl (lv_at hl 0 rfl) ?_
    refine k_get X hH in_X47 0 rfl hc 4 (by decide) q5988 rfl dX47_keep_38 ?_
    refine lv_aload_n hx hb dX47_keep_41 rfl (lv_at hl 0 rfl) ?_
    refine k_get X hH in_X47 0 rfl hc 2 (by decide) q5986 rfl dX47_keep_42 ?_
    refine lv_bipush (v := 8) hx hb dX47_keep_45 (by decide) ?_
    refine k_iald X hH 3 2 rfl rfl (by unfold vp_in; decide) dX47_keep_47 ?_
    have e_6 := z_ld (f := f_counts) (rfl : (8 : Int32).toInt = 8) (by decide)
    refine lv_topi (fun v_7 ev_7 => ?_)
    have hw := hw v_7.toInt (by rw [ev_7]; exact e_6)
    obtain ⟨f_counts_8, ef_counts_8⟩ : ∃ y : Nat → Int32, y = upd f_counts f_kept.toNatClampNeg v_7 := ⟨_, rfl⟩
    refine k_iast X hH 3 2 rfl rfl (z_in (rfl : f_kept.toInt = _) hq_5) dX47_keep_48 ef_counts_8 (ws1 := (wX47 ci ad d f_constants f_blanks_4 f_counts_8 f_points f_kept f_hashes f_news f_rounds f_hashed f_groups f_groupOf f_groupCount f_trial f_row f_names f_namedBlanks f_form f_formCount f_octets f_descriptions f_described f_message f_size f_words f_schedule 0 f_said)) rfl (fun H locs hH => ?_)
    have hw := hw (zF f_counts_8) (by rw [ef_counts_8]; exact z_st (f := f_counts) (rfl : f_kept.toInt = _) hq_5.1 (rfl : v_7.toInt = _))
    refine lv_iconst (v := 0) hx hb dX47_keep_49 (by decide) ?_
    refine lv_istore_n (lv' := [(1, .int 0), (0, .ref (ad 0))]) hx hb dX47_keep_50 rfl hl (by decide) rfl (fun ls hl => ?_)
    obtain ⟨fu, hw⟩ := hw
    refine atX47_keep_51 hc X ?_ fu 0 f_points hw _ _ ls hH (lv_sub hl [1, 0] rfl)
    · intro f_points_22 hw H locs ls hH hl
      refine lv_aload_n hx hb dX47_keep_87 rfl (lv_at hl 0 rfl) ?_
      refine lv_dup hx hb dX47_keep_88 rfl ?_
      refine k_get X hH in_X47 0 rfl hc 4 (by decide) q5988 rfl dX47_keep_89 ?_
      refine lv_iconst (v := 1) hx hb dX47_keep_92 (by decide) ?_
      refine lv_iadd hx hb dX47_keep_93 ?_
      have e_23 := z_add (z_m (rfl : f_kept.toInt = _)) (z_m (rfl : (1 : Int32).toInt = 1))
      have hq_24 := hw.1
      have hw := hw.2
      have e_25 := z_x e_23 hq_24
      refine lv_topi (fun f_kept_26 ef_kept_26 => ?_)
      have hw := hw f_kept_26.toInt (by rw [ef_kept_26]; exact e_25)
      refine k_put X hH in_X47 tyX47_ok nmX47 0 rfl hc 4 (by decide) q5988 rfl (ty := .int) rfl rfl rfl (Nat.le_of_ble_eq_true rfl) dX47_keep_94 (ws1 := (wX47 ci ad d f_constants f_blanks_4 f_counts_8 f_points_22 f_kept_26 f_hashes f_news f_rounds f_hashed f_groups f_groupOf f_groupCount f_trial f_row f_names f_namedBlanks f_form f_formCount f_octets f_descriptions f_described f_message f_size f_words f_schedule 0 f_said)) rfl (fun H locs hH => ?_)
      refine lv_aload_n hx hb dX47_keep_97 rfl (lv_at hl 0 rfl) ?_
      refine k_get X hH in_X47 0 rfl hc 1 (by decide) q5985 rfl dX47_keep_98 ?_
      refine lv_bipush (v := 8) hx hb dX47_keep_101 (by decide) ?_
      refine lv_iconst (v := 0) hx hb dX47_keep_103 (by decide) ?_
      obtain ⟨f_blanks_27, ef_blanks_27⟩ : ∃ y : Nat → Int32, y = upd f_blanks_4 (8 : Int32).toNatClampNeg 0 := ⟨_, rfl⟩
      refine k_iast X hH 2 1 rfl rfl (by unfold vp_in; decide) dX47_keep_104 ef_blanks_27 (ws1 := (wX47 ci ad d f_constants f_blanks_27 f_counts_8 f_points_22 f_kept_26 f_hashes f_news f_rounds f_hashed f_groups f_groupOf f_groupCount f_trial f_row f_names f_namedBlanks f_form f_formCount f_octets f_descriptions f_described f_message f_size f_words f_schedule 0 f_said)) rfl (fun H locs hH => ?_)
      have hw := hw (zF f_blanks_27) (by rw [ef_blanks_27]; exact z_st (f := f_blanks_4) (rfl : (8 : Int32).toInt = 8) (by decide) (rfl : (0 : Int32).toInt = 0))
      refine lv_aload_n hx hb dX47_keep_105 rfl (lv_at hl 0 rfl) ?_
      refine k_get X hH in_X47 0 rfl hc 2 (by decide) q5986 rfl dX47_keep_106 ?_
      refine lv_bipush (v := 8) hx hb dX47_keep_109 (by decide) ?_
      refine lv_iconst (v := 0) hx hb dX47_keep_111 (by decide) ?_
      obtain ⟨f_counts_28, ef_counts_28⟩ : ∃ y : Nat → Int32, y = upd f_counts_8 (8 : Int32).toNatClampNeg 0 := ⟨_, rfl⟩
      refine k_iast X hH 3 2 rfl rfl (by unfold vp_in; decide) dX47_keep_112 ef_counts_28 (ws1 := (wX47 ci ad d f_constants f_blanks_27 f_counts_28 f_points_22 f_kept_26 f_hashes f_news f_rounds f_hashed f_groups f_groupOf f_groupCount f_trial f_row f_names f_namedBlanks f_form f_formCount f_octets f_descriptions f_described f_message f_size f_words f_schedule 0 f_said)) rfl (fun H locs hH => ?_)
      have hw := hw (zF f_counts_28) (by rw [ef_counts_28]; exact z_st (f := f_counts_8) (rfl : (8 : Int32).toInt = 8) (by decide) (rfl : (0 : Int32).toInt = 0))
      refine lv_aload_n hx hb dX47_keep_113 rfl (lv_at hl 0 rfl) ?_
      refine lv_iconst (v := 0) hx hb dX47_keep_114 (by decide) ?_
      refine k_put X hH in_X47 tyX47_ok nmX47 0 rfl hc 8 (by decide) q5992 rfl (ty := .boolean) rfl rfl rfl (Nat.le_of_ble_eq_true rfl) dX47_keep_115 (ws1 := (wX47 ci ad d f_constants f_blanks_27 f_counts_28 f_points_22 f_kept_26 f_hashes f_news f_rounds 0 f_groups f_groupOf f_groupCount f_trial f_row f_names f_namedBlanks f_form f_formCount f_octets f_descriptions f_described f_message f_size f_words f_schedule 0 f_said)) rfl (fun H locs hH => ?_)
      refine lv_aload_n hx hb dX47_keep_118 rfl (lv_at hl 0 rfl) ?_
      refine k_get X hH in_X47 0 rfl hc 4 (by decide) q5988 rfl dX47_keep_119 ?_
      refine lv_iconst (v := 1) hx hb dX47_keep_122 (by decide) ?_
      refine lv_isub hx hb dX47_keep_123 ?_
      have e_29 := z_sub (z_m (rfl : f_kept_26.toInt = _)) (z_m (rfl : (1 : Int32).toInt = 1))
      have hq_30 := hw.1
      have hw := hw.2
      have e_31 := z_x e_29 hq_30
      exact k_iret (v := f_kept_26 - 1) X hH (f_blanks_27, f_counts_28, f_points_22, f_kept_26, 0, 0) (by rw [show (f_kept_26 - 1 : Int32).toInt = _ from e_31]; exact hw) rfl rfl dX47_keep_124
  · have hw := hw.1 (z_eq (rfl : f_kept.toInt = _) (rfl : (8 : Int32).toInt = 8) c_1)
    refine lv_bipush (v := (-2)) hx hb dX47_keep_14 (by decide) ?_
    exact k_iret (v := (-2)) X hH (f_blanks, f_counts, f_points, f_kept, f_hashed, 0) hw rfl rfl dX47_keep_16
set_option maxHeartbeats 4000000 in
theorem walkX47_blank {l : Launch} {dC : Nat → ClassId} {dI : Nat → Nat → Nat} {cl : List vw_C} {ci : Nat} (hc : cl[ci]? = some (RX47, TX47, 27)) {ad : Nat → Nat} {d : Nat → ClassId} {sz : Nat} {f_constants : Nat → Int64} {f_blanks : Nat → Int32} {f_counts : Nat → Int32} {f_points : Nat → Int32} {f_kept : Int32} {f_hashes : Nat → Int64} {f_news : Nat → Int64} {f_rounds : Int32} {f_hashed : Int32} {f_groups : Nat → Int32} {f_groupOf : Nat → Int32} {f_groupCount : Int32} {f_trial : Nat → Int32} {f_row : Nat → Int32} {f_names : Nat → Int32} {f_namedBlanks : Int32} {f_form : Nat → Int32} {f_formCount : Int32} {f_octets : Nat → Int32} {f_descriptions : Nat → Int32} {f_described : Int32} {f_message : Nat → Int32} {f_size : Int32} {f_words : Nat → Int64} {f_schedule : Nat → Int64} {f_thrown : Int32} {f_said : Nat → Int32}  {post : Int → (Int → Int) → Int → Int → Prop} (hw : wpX47_blank post (zF f_blanks) f_hashed.toInt ) :
    Met l yX47_blank (ws_ yX47_blank cX47_blank 1 (some .int)) ({ frames := 0, cells := 0, slots := 0, locals := 0 } : Room) (kPc (dC, dI) cl (tX47 d) [.ref (ad 0)] sz (wX47 ci ad d f_constants f_blanks f_counts f_points f_kept f_hashes f_news f_rounds f_hashed f_groups f_groupOf f_groupCount f_trial f_row f_names f_namedBlanks f_form f_formCount f_octets f_descriptions f_described f_message f_size f_words f_schedule f_thrown f_said)) (va_Qi (fun (r : Int32) (u : (Nat → Int32) × Int32 × Int32) => post r.toInt (zF (u.1)) (u.2.1).toInt (u.2.2).toInt) (kB (dC, dI) cl (tX47 d) (va_A (wX47 ci ad d f_constants f_blanks f_counts f_points f_kept f_hashes f_news f_rounds f_hashed f_groups f_groupOf f_groupCount f_trial f_row f_names f_namedBlanks f_form f_formCount f_octets f_descriptions f_described f_message f_size f_words f_schedule f_thrown f_said) sz) (fun u : (Nat → Int32) × Int32 × Int32 => (wX47 ci ad d f_constants (u.1) f_counts f_points f_kept f_hashes f_news f_rounds (u.2.1) f_groups f_groupOf f_groupCount f_trial f_row f_names f_namedBlanks f_form f_formCount f_octets f_descriptions f_described f_message f_size f_words f_schedule (u.2.2) f_said))) (va_A (wX47 ci ad d f_constants f_blanks f_counts f_points f_kept f_hashes f_news f_rounds f_hashed f_groups f_groupOf f_groupCount f_trial f_row f_names f_namedBlanks f_form f_formCount f_octets f_descriptions f_described f_message f_size f_words f_schedule f_thrown f_said) sz)) 0 0 (va_A (wX47 ci ad d f_constants f_blanks f_counts f_points f_kept f_hashes f_news f_rounds f_hashed f_groups f_groupOf f_groupCount f_trial f_row f_names f_namedBlanks f_form f_formCount f_octets f_descriptions f_described f_message f_size f_words f_schedule f_thrown f_said) sz) := by
  refine k_enter (by decide) (Nat.le_of_ble_eq_true rfl) ?_
  intro p e s m below meth c ls X hsz hH hl
  subst hsz
  generalize va_A (wX47 ci ad d f_constants f_blanks f_counts f_points f_kept f_hashes f_news f_rounds f_hashed f_groups f_groupOf f_groupCount f_trial f_row f_names f_namedBlanks f_form f_formCount f_octets f_descriptions f_described f_message f_size f_words f_schedule f_thrown f_said) s.heap.size = A at hH ⊢
  have hx := X.1.1
  have hb := X.1.2.1
  have hl : lv_has ls 1 [(0, .ref (ad 0))] := hl
  unfold wpX47_blank at hw
  refine lv_aload_n hx hb dX47_blank_0 rfl (lv_at hl 0 rfl) ?_
  refine lv_iconst (v := 0) hx hb dX47_blank_1 (by decide) ?_
  refine k_put X hH in_X47 tyX47_ok nmX47 0 rfl hc 25 (by decide) q6009 rfl (ty := .int) rfl rfl rfl (Nat.le_of_ble_eq_true rfl) dX47_blank_2 (ws1 := (wX47 ci ad d f_constants f_blanks f_counts f_points f_kept f_hashes f_news f_rounds f_hashed f_groups f_groupOf f_groupCount f_trial f_row f_names f_namedBlanks f_form f_formCount f_octets f_descriptions f_described f_message f_size f_words f_schedule 0 f_said)) rfl (fun H locs hH => ?_)
  refine lv_aload_n hx hb dX47_blank_5 rfl (lv_at hl 0 rfl) ?_
  refine k_get X hH in_X47 0 rfl hc 1 (by decide) q5985 rfl dX47_blank_6 ?_
  refine lv_bipush (v := 8) hx hb dX47_blank_9 (by decide) ?_
  refine k_iald X hH 2 1 rfl rfl (by unfold vp_in; decide) dX47_blank_11 ?_
  have e_1 := z_ld (f := f_blanks) (rfl : (8 : Int32).toInt = 8) (by decide)
  refine lv_bipush (v := 8) hx hb dX47_blank_12 (by decide) ?_
  refine lv_icmp_ne (tgt := 20) hx hb dX47_blank_14 (by decide) (fun c_2 => ?_) (fun c_2 => ?_)
  · have hw := hw.2 (z_ne e_1 (rfl : (8 : Int32).toInt = 8) c_2)
    refine lv_aload_n hx hb dX47_blank_20 rfl (lv_at hl 0 rfl) ?_
    refine k_get X hH in_X47 0 rfl hc 1 (by decide) q5985 rfl dX47_blank_21 ?_
    refine lv_bipush (v := 8) hx hb dX47_blank_24 (by decide) ?_
    refine lv_dup2_11 hx hb dX47_blank_26 rfl rfl ?_
    refine k_iald X hH 2 1 rfl rfl (by unfold vp_in; decide) dX47_blank_27 ?_
    have e_3 := z_ld (f := f_blanks) (rfl : (8 : Int32).toInt = 8) (by decide)
    refine lv_iconst (v := 1) hx hb dX47_blank_28 (by decide) ?_
    refine lv_iadd hx hb dX47_blank_29 ?_
    have e_4 := z_add (z_m e_3) (z_m (rfl : (1 : Int32).toInt = 1))
    have hq_5 := hw.1
    have hw := hw.2
    have e_6 := z_x e_4 hq_5
    refine lv_topi (fun v_7 ev_7 => ?_)
    have hw := hw v_7.toInt (by rw [ev_7]; exact e_6)
    obtain ⟨f_blanks_8, ef_blanks_8⟩ : ∃ y : Nat → Int32, y = upd f_blanks (8 : Int32).toNatClampNeg v_7 := ⟨_, rfl⟩
    refine k_iast X hH 2 1 rfl rfl (by unfold vp_in; decide) dX47_blank_30 ef_blanks_8 (ws1 := (wX47 ci ad d f_constants f_blanks_8 f_counts f_points f_kept f_hashes f_news f_rounds f_hashed f_groups f_groupOf f_groupCount f_trial f_row f_names f_namedBlanks f_form f_formCount f_octets f_descriptions f_described f_message f_size f_words f_schedule 0 f_said)) rfl (fun H locs hH => ?_)
    have hw := hw (zF f_blanks_8) (by rw [ef_blanks_8]; exact z_st (f := f_blanks) (rfl : (8 : Int32).toInt = 8) (by decide) (rfl : v_7.toInt = _))
    refine lv_aload_n hx hb dX47_blank_31 rfl (lv_at hl 0 rfl) ?_
    refine lv_iconst (v := 0) hx hb dX47_blank_32 (by decide) ?_
    refine k_put X hH in_X47 tyX47_ok nmX47 0 rfl hc 8 (by decide) q5992 rfl (ty := .boolean) rfl rfl rfl (Nat.le_of_ble_eq_true rfl) dX47_blank_33 (ws1 := (wX47 ci ad d f_constants f_blanks_8 f_counts f_points f_kept f_hashes f_news f_rounds 0 f_groups f_groupOf f_groupCount f_trial f_row f_names f_namedBlanks f_form f_formCount f_octets f_descriptions f_described f_message f_size f_words f_schedule 0 f_said)) rfl (fun H locs hH => ?_)
    refine lv_aload_n hx hb dX47_blank_36 rfl (lv_at hl 0 rfl) ?_
    refine k_get X hH in_X47 0 rfl hc 1 (by decide) q5985 rfl dX47_blank_37 ?_
    refine lv_bipush (v := 8) hx hb dX47_blank_40 (by decide) ?_
    refine k_iald X hH 2 1 rfl rfl (by unfold vp_in; decide) dX47_blank_42 ?_
    have e_9 := z_ld (f := f_blanks_8) (rfl : (8 : Int32).toInt = 8) (by decide)
    exact k_iret (v := f_blanks_8 (8 : Int32).toNatClampNeg) X hH (f_blanks_8, 0, 0) (by rw [show (f_blanks_8 (8 : Int32).toNatClampNeg : Int32).toInt = _ from e_9]; exact hw) rfl rfl dX47_blank_43
  · have hw := hw.1 (z_eq e_1 (rfl : (8 : Int32).toInt = 8) c_2)
    refine lv_bipush (v := (-2)) hx hb dX47_blank_17 (by decide) ?_
    exact k_iret (v := (-2)) X hH (f_blanks, f_hashed, 0) hw rfl rfl dX47_blank_19
set_option maxHeartbeats 4000000 in
theorem walkX47_isPoint {l : Launch} {dC : Nat → ClassId} {dI : Nat → Nat → Nat} {cl : List vw_C} {ci : Nat} (hc : cl[ci]? = some (RX47, TX47, 27)) {ad : Nat → Nat} {d : Nat → ClassId} {sz : Nat} {f_constants : Nat → Int64} {f_blanks : Nat → Int32} {f_counts : Nat → Int32} {f_points : Nat → Int32} {f_kept : Int32} {f_hashes : Nat → Int64} {f_news : Nat → Int64} {f_rounds : Int32} {f_hashed : Int32} {f_groups : Nat → Int32} {f_groupOf : Nat → Int32} {f_groupCount : Int32} {f_trial : Nat → Int32} {f_row : Nat → Int32} {f_names : Nat → Int32} {f_namedBlanks : Int32} {f_form : Nat → Int32} {f_formCount : Int32} {f_octets : Nat → Int32} {f_descriptions : Nat → Int32} {f_described : Int32} {f_message : Nat → Int32} {f_size : Int32} {f_words : Nat → Int64} {f_schedule : Nat → Int64} {f_thrown : Int32} {f_said : Nat → Int32} {x1 : Int32} {post : Int → Prop} (hw : wpX47_isPoint post (zF f_blanks) x1.toInt) :
    Met l yX47_isPoint (ws_ yX47_isPoint cX47_isPoint 2 (some .boolean)) ({ frames := 0, cells := 0, slots := 0, locals := 0 } : Room) (kPc (dC, dI) cl (tX47 d) [.ref (ad 0), .int x1] sz (wX47 ci ad d f_constants f_blanks f_counts f_points f_kept f_hashes f_news f_rounds f_hashed f_groups f_groupOf f_groupCount f_trial f_row f_names f_namedBlanks f_form f_formCount f_octets f_descriptions f_described f_message f_size f_words f_schedule f_thrown f_said)) (va_Qi (fun (r : Int32) (_ : Unit) => post r.toInt) (kB (dC, dI) cl (tX47 d) (va_A (wX47 ci ad d f_constants f_blanks f_counts f_points f_kept f_hashes f_news f_rounds f_hashed f_groups f_groupOf f_groupCount f_trial f_row f_names f_namedBlanks f_form f_formCount f_octets f_descriptions f_described f_message f_size f_words f_schedule f_thrown f_said) sz) (fun _ : Unit => (wX47 ci ad d f_constants f_blanks f_counts f_points f_kept f_hashes f_news f_rounds f_hashed f_groups f_groupOf f_groupCount f_trial f_row f_names f_namedBlanks f_form f_formCount f_octets f_descriptions f_described f_message f_size f_words f_schedule f_thrown f_said))) (va_A (wX47 ci ad d f_constants f_blanks f_counts f_points f_kept f_hashes f_news f_rounds f_hashed f_groups f_groupOf f_groupCount f_trial f_row f_names f_namedBlanks f_form f_formCount f_octets f_descriptions f_described f_message f_size f_words f_schedule f_thrown f_said) sz)) 0 0 (va_A (wX47 ci ad d f_constants f_blanks f_counts f_points f_kept f_hashes f_news f_rounds f_hashed f_groups f_groupOf f_groupCount f_trial f_row f_names f_namedBlanks f_form f_formCount f_octets f_descriptions f_described f_message f_size f_words f_schedule f_thrown f_said) sz) := by
  refine k_enter (by decide) (Nat.le_of_ble_eq_true rfl) ?_
  intro p e s m below meth c ls X hsz hH hl
  subst hsz
  generalize va_A (wX47 ci ad d f_constants f_blanks f_counts f_points f_kept f_hashes f_news f_rounds f_hashed f_groups f_groupOf f_groupCount f_trial f_row f_names f_namedBlanks f_form f_formCount f_octets f_descriptions f_described f_message f_size f_words f_schedule f_thrown f_said) s.heap.size = A at hH ⊢
  have hx := X.1.1
  have hb := X.1.2.1
  have hl : lv_has ls 2 [(0, .ref (ad 0)), (1, .int x1)] := hl
  unfold wpX47_isPoint at hw
  refine lv_iload_n hx hb dX47_isPoint_0 rfl (lv_at hl 1 rfl) ?_
  refine lv_if_le (tgt := 19) hx hb dX47_isPoint_1 (by decide) (fun c_1 => ?_) (fun c_1 => ?_)
  · have hw := hw.1 (z_le (rfl : x1.toInt = _) (rfl : (0 : Int32).toInt = 0) c_1)
    refine lv_iload_n hx hb dX47_isPoint_19 rfl (lv_at hl 1 rfl) ?_
    refine lv_if_ge (tgt := 39) hx hb dX47_isPoint_20 (by decide) (fun c_2 => ?_) (fun c_2 => ?_)
    · have hw := hw.1 (z_le (rfl : (0 : Int32).toInt = 0) (rfl : x1.toInt = _) c_2)
      refine lv_iconst (v := 0) hx hb dX47_isPoint_39 (by decide) ?_
      exact k_iret (v := 0) X hH () hw rfl rfl dX47_isPoint_40
    · have hw := hw.2 (z_nle (rfl : (0 : Int32).toInt = 0) (rfl : x1.toInt = _) c_2)
      refine lv_iload_n hx hb dX47_isPoint_23 rfl (lv_at hl 1 rfl) ?_
      refine lv_aload_n hx hb dX47_isPoint_24 rfl (lv_at hl 0 rfl) ?_
      refine k_get X hH in_X47 0 rfl hc 1 (by decide) q5985 rfl dX47_isPoint_25 ?_
      refine lv_bipush (v := 8) hx hb dX47_isPoint_28 (by decide) ?_
      refine k_iald X hH 2 1 rfl rfl (by unfold vp_in; decide) dX47_isPoint_30 ?_
      have e_3 := z_ld (f := f_blanks) (rfl : (8 : Int32).toInt = 8) (by decide)
      refine lv_ineg hx hb dX47_isPoint_31 ?_
      have e_4 := z_neg (z_m e_3)
      have hq_6 := hw.1
      have hw := hw.2
      have e_7 := z_x e_4 hq_6
      refine lv_icmp_lt (tgt := 39) hx hb dX47_isPoint_32 (by decide) (fun c_5 => ?_) (fun c_5 => ?_)
      · have hw := hw.1 (z_lt (rfl : x1.toInt = _) e_7 c_5)
        refine lv_iconst (v := 0) hx hb dX47_isPoint_39 (by decide) ?_
        exact k_iret (v := 0) X hH () hw rfl rfl dX47_isPoint_40
      · have hw := hw.2 (z_nlt (rfl : x1.toInt = _) e_7 c_5)
        refine lv_iconst (v := 1) hx hb dX47_isPoint_35 (by decide) ?_
        refine lv_goto (tgt := 40) hx hb dX47_isPoint_36 (by decide) ?_
        exact k_iret (v := 1) X hH () hw rfl rfl dX47_isPoint_40
  · have hw := hw.2 (z_nle (rfl : x1.toInt = _) (rfl : (0 : Int32).toInt = 0) c_1)
    refine lv_iload_n hx hb dX47_isPoint_4 rfl (lv_at hl 1 rfl) ?_
    refine lv_sipush (v := 1000) hx hb dX47_isPoint_5 (by decide) ?_
    refine lv_icmp_gt (tgt := 15) hx hb dX47_isPoint_8 (by decide) (fun c_8 => ?_) (fun c_8 => ?_)
    · have hw := hw.1 (z_lt (rfl : (1000 : Int32).toInt = 1000) (rfl : x1.toInt = _) c_8)
      refine lv_iconst (v := 0) hx hb dX47_isPoint_15 (by decide) ?_
      refine lv_goto (tgt := 40) hx hb dX47_isPoint_16 (by decide) ?_
      exact k_iret (v := 0) X hH () hw rfl rfl dX47_isPoint_40
    · have hw := hw.2 (z_nlt (rfl : (1000 : Int32).toInt = 1000) (rfl : x1.toInt = _) c_8)
      refine lv_iconst (v := 1) hx hb dX47_isPoint_11 (by decide) ?_
      refine lv_goto (tgt := 40) hx hb dX47_isPoint_12 (by decide) ?_
      exact k_iret (v := 1) X hH () hw rfl rfl dX47_isPoint_40
set_option maxHeartbeats 4000000 in
theorem walkX47_at {l : Launch} {dC : Nat → ClassId} {dI : Nat → Nat → Nat} {cl : List vw_C} {ci : Nat} (hc : cl[ci]? = some (RX47, TX47, 27)) {ad : Nat → Nat} {d : Nat → ClassId} {sz : Nat} {f_constants : Nat → Int64} {f_blanks : Nat → Int32} {f_counts : Nat → Int32} {f_points : Nat → Int32} {f_kept : Int32} {f_hashes : Nat → Int64} {f_news : Nat → Int64} {f_rounds : Int32} {f_hashed : Int32} {f_groups : Nat → Int32} {f_groupOf : Nat → Int32} {f_groupCount : Int32} {f_trial : Nat → Int32} {f_row : Nat → Int32} {f_names : Nat → Int32} {f_namedBlanks : Int32} {f_form : Nat → Int32} {f_formCount : Int32} {f_octets : Nat → Int32} {f_descriptions : Nat → Int32} {f_described : Int32} {f_message : Nat → Int32} {f_size : Int32} {f_words : Nat → Int64} {f_schedule : Nat → Int64} {f_thrown : Int32} {f_said : Nat → Int32} {x0 : Int32} {x1 : Int32} {post : Int → Prop} (hw : wpX47_at post  x0.toInt x1.toInt) :
    Met l yX47_at (ws_ yX47_at cX47_at 2 (some .int)) ({ frames := 0, cells := 0, slots := 0, locals := 0 } : Room) (kPc (dC, dI) cl (tX47 d) [.int x0, .int x1] sz (wX47 ci ad d f_constants f_blanks f_counts f_points f_kept f_hashes f_news f_rounds f_hashed f_groups f_groupOf f_groupCount f_trial f_row f_names f_namedBlanks f_form f_formCount f_octets f_descriptions f_described f_message f_size f_words f_schedule f_thrown f_said)) (va_Qi (fun (r : Int32) (_ : Unit) => post r.toInt) (kB (dC, dI) cl (tX47 d) (va_A (wX47 ci ad d f_constants f_blanks f_counts f_points f_kept f_hashes f_news f_rounds f_hashed f_groups f_groupOf f_groupCount f_trial f_row f_names f_namedBlanks f_form f_formCount f_octets f_descriptions f_described f_message f_size f_words f_schedule f_thrown f_said) sz) (fun _ : Unit => (wX47 ci ad d f_constants f_blanks f_counts f_points f_kept f_hashes f_news f_rounds f_hashed f_groups f_groupOf f_groupCount f_trial f_row f_names f_namedBlanks f_form f_formCount f_octets f_descriptions f_described f_message f_size f_words f_schedule f_thrown f_said))) (va_A (wX47 ci ad d f_constants f_blanks f_counts f_points f_kept f_hashes f_news f_rounds f_hashed f_groups f_groupOf f_groupCount f_trial f_row f_names f_namedBlanks f_form f_formCount f_octets f_descriptions f_described f_message f_size f_words f_schedule f_thrown f_said) sz)) 0 0 (va_A (wX47 ci ad d f_constants f_blanks f_counts f_points f_kept f_hashes f_news f_rounds f_hashed f_groups f_groupOf f_groupCount f_trial f_row f_names f_namedBlanks f_form f_formCount f_octets f_descriptions f_described f_message f_size f_words f_schedule f_thrown f_said) sz) := by
  refine k_enter (by decide) (Nat.le_of_ble_eq_true rfl) ?_
  intro p e s m below meth c ls X hsz hH hl
  subst hsz
  generalize va_A (wX47 ci ad d f_constants f_blanks f_counts f_points f_kept f_hashes f_news f_rounds f_hashed f_groups f_groupOf f_groupCount f_trial f_row f_names f_namedBlanks f_form f_formCount f_octets f_descriptions f_described f_message f_size f_words f_schedule f_thrown f_said) s.heap.size = A at hH ⊢
  have hx := X.1.1
  have hb := X.1.2.1
  have hl : lv_has ls 2 [(0, .int x0), (1, .int x1)] := hl
  unfold wpX47_at at hw
  refine lv_bipush (v := 120) hx hb dX47_at_0 (by decide) ?_
  refine lv_iload_n hx hb dX47_at_2 rfl (lv_at hl 0 rfl) ?_
  refine lv_imul hx hb dX47_at_3 ?_
  have e_1 := z_mul (z_m (rfl : (120 : Int32).toInt = 120)) (z_m (rfl : x0.toInt = _))
  refine lv_iconst (v := 3) hx hb dX47_at_4 (by decide) ?_
  refine lv_iload_n hx hb dX47_at_5 rfl (lv_at hl 1 rfl) ?_
  refine lv_imul hx hb dX47_at_6 ?_
  have e_2 := z_mul (z_m (rfl : (3 : Int32).toInt = 3)) (z_m (rfl : x1.toInt = _))
  refine lv_iadd hx hb dX47_at_7 ?_
  have e_3 := z_add e_1 e_2
  have hq_4 := hw.1
  have hw := hw.2
  have e_5 := z_x e_3 hq_4
  exact k_iret (v := (120 * x0) + (3 * x1)) X hH () (by rw [show ((120 * x0) + (3 * x1) : Int32).toInt = _ from e_5]; exact hw) rfl rfl dX47_at_8
set_option maxHeartbeats 4000000 in
theorem atX47_find_3 {p : Program} {l : Launch} {e : Env} {s : State} {m : MethodId} {args : Array Value} {below : List Frame} {meth : Method} {c : Code} {dC : Nat → ClassId} {dI : Nat → Nat → Nat} {cl : List vw_C} {ci : Nat} (hc : cl[ci]? = some (RX47, TX47, 27)) {ad : Nat → Nat} {d : Nat → ClassId} {A : Nat → Prop} {post : Int → Prop} {f_constants : Nat → Int64} {f_blanks : Nat → Int32} {f_counts : Nat → Int32} {f_points : Nat → Int32} {f_kept : Int32} {f_hashes : Nat → Int64} {f_news : Nat → Int64} {f_rounds : Int32} {f_hashed : Int32} {f_groups : Nat → Int32} {f_groupOf : Nat → Int32} {f_groupCount : Int32} {f_trial : Nat → Int32} {f_row : Nat → Int32} {f_names : Nat → Int32} {f_namedBlanks : Int32} {f_form : Nat → Int32} {f_formCount : Int32} {f_octets : Nat → Int32} {f_descriptions : Nat → Int32} {f_described : Int32} {f_message : Nat → Int32} {f_size : Int32} {f_words : Nat → Int64} {f_schedule : Nat → Int64} {f_thrown : Int32} {f_said : Nat → Int32} (X : kX p s m args meth c cX47_find 7 RX47 (some .int) (dC, dI) cl (tX47 d)) {K60 : Int → Prop} {K69 : Prop} {x1 : Int32} {x2 : Int32} {x3 : Int32} {x4 : Int32}  (hk60 : ∀ (x5 : Int32), K60 x5.toInt → ∀ (H : Heap) (locs : List Loc) (ls : Array Slot), kH (dC, dI) cl A s.heap H locs (wX47 ci ad d f_constants f_blanks f_counts f_points f_kept f_hashes f_news f_rounds f_hashed f_groups f_groupOf f_groupCount f_trial f_row f_names f_namedBlanks f_form f_formCount f_octets f_descriptions f_described f_message f_size f_words f_schedule f_thrown f_said) → lv_has ls 7 [(5, .int x5)] → W p l e ({ frames := 1, cells := 0, slots := 0, locals := 21 } : Room) s m args below meth c H locs 0 0 (MQ below (va_Qi (fun (r : Int32) (_ : Unit) => post r.toInt) (kB (dC, dI) cl (tX47 d) A (fun _ : Unit => (wX47 ci ad d f_constants f_blanks f_counts f_points f_kept f_hashes f_news f_rounds f_hashed f_groups f_groupOf f_groupCount f_trial f_row f_names f_namedBlanks f_form f_formCount f_octets f_descriptions f_described f_message f_size f_words f_schedule f_thrown f_said))) A) args s 0 0 A) (F0 m 60 ls [])) (hk69 : K69  → ∀ (H : Heap) (locs : List Loc) (ls : Array Slot), kH (dC, dI) cl A s.heap H locs (wX47 ci ad d f_constants f_blanks f_counts f_points f_kept f_hashes f_news f_rounds f_hashed f_groups f_groupOf f_groupCount f_trial f_row f_names f_namedBlanks f_form f_formCount f_octets f_descriptions f_described f_message f_size f_words f_schedule f_thrown f_said) → lv_has ls 7 [] → W p l e ({ frames := 1, cells := 0, slots := 0, locals := 21 } : Room) s m args below meth c H locs 0 0 (MQ below (va_Qi (fun (r : Int32) (_ : Unit) => post r.toInt) (kB (dC, dI) cl (tX47 d) A (fun _ : Unit => (wX47 ci ad d f_constants f_blanks f_counts f_points f_kept f_hashes f_news f_rounds f_hashed f_groups f_groupOf f_groupCount f_trial f_row f_names f_namedBlanks f_form f_formCount f_octets f_descriptions f_described f_message f_size f_words f_schedule f_thrown f_said))) A) args s 0 0 A) (F0 m 69 ls [])) :
    ∀ (nn : Nat) (x5 : Int32), wX47_find_3 K60 K69 x1.toInt x2.toInt x3.toInt x4.toInt (zF f_counts) (zF f_points) nn x5.toInt → ∀ (H : Heap) (locs : List Loc) (ls : Array Slot), kH (dC, dI) cl A s.heap H locs (wX47 ci ad d f_constants f_blanks f_counts f_points f_kept f_hashes f_news f_rounds f_hashed f_groups f_groupOf f_groupCount f_trial f_row f_names f_namedBlanks f_form f_formCount f_octets f_descriptions f_described f_message f_size f_words f_schedule f_thrown f_said) → lv_has ls 7 [(0, .ref (ad 0)), (1, .int x1), (2, .int x2), (3, .int x3), (4, .int x4), (5, .int x5)] → W p l e ({ frames := 1, cells := 0, slots := 0, locals := 21 } : Room) s m args below meth c H locs 0 0 (MQ below (va_Qi (fun (r : Int32) (_ : Unit) => post r.toInt) (kB (dC, dI) cl (tX47 d) A (fun _ : Unit => (wX47 ci ad d f_constants f_blanks f_counts f_points f_kept f_hashes f_news f_rounds f_hashed f_groups f_groupOf f_groupCount f_trial f_row f_names f_namedBlanks f_form f_formCount f_octets f_descriptions f_described f_message f_size f_words f_schedule f_thrown f_said))) A) args s 0 0 A) (F0 m 3 ls []) := by
  have hx := X.1.1
  have hb := X.1.2.1
  intro nn
  induction nn with
  | zero =>
    intro x5 hw
    exact False.elim hw
  | succ n ih =>
    intro x5 hw H locs ls hH hl
    rw [wX47_find_3] at hw
    refine lv_iload hx hb dX47_find_3 (lv_at hl 5 rfl) ?_
    refine lv_aload_n hx hb dX47_find_5 rfl (lv_at hl 0 rfl) ?_
    refine k_get X hH in_X47 0 rfl hc 2 (by decide) q5986 rfl dX47_find_6 ?_
    refine lv_iload_n hx hb dX47_find_9 rfl (lv_at hl 1 rfl) ?_
    have hq_1 := hw.1
    have hw := hw.2
    refine k_iald X hH 3 2 rfl rfl (z_in (rfl : x1.toInt = _) hq_1) dX47_find_10 ?_
    have e_2 := z_ld (f := f_counts) (rfl : x1.toInt = _) hq_1.1
    refine lv_icmp_ge (tgt := 69) hx hb dX47_find_11 (by decide) (fun c_3 => ?_) (fun c_3 => ?_)
    · have hw := hw.1 (z_le e_2 (rfl : x5.toInt = _) c_3)
      exact hk69  hw _ _ ls hH (lv_sub hl [] rfl)
    · have hw := hw.2 (z_nle e_2 (rfl : x5.toInt = _) c_3)
      refine lv_iload_n hx hb dX47_find_14 rfl (lv_at hl 1 rfl) ?_
      refine lv_iload hx hb dX47_find_15 (lv_at hl 5 rfl) ?_
      refine k_i0 hH (k_runS (As := [.int x1, .int x5]) (rest := []) X hH.1 hH.2.1 X.2.2.2 (walkX47_at hc (x0 := x1) (x1 := x5) (f_constants := f_constants) (f_blanks := f_blanks) (f_counts := f_counts) (f_points := f_points) (f_kept := f_kept) (f_hashes := f_hashes) (f_news := f_news) (f_rounds := f_rounds) (f_hashed := f_hashed) (f_groups := f_groups) (f_groupOf := f_groupOf) (f_groupCount := f_groupCount) (f_trial := f_trial) (f_row := f_row) (f_names := f_names) (f_namedBlanks := f_namedBlanks) (f_form := f_form) (f_formCount := f_formCount) (f_octets := f_octets) (f_descriptions := f_descriptions) (f_described := f_described) (f_message := f_message) (f_size := f_size) (f_words := f_words) (f_schedule := f_schedule) (f_thrown := f_thrown) (f_said := f_said) hw) (va_cwS 2 X.1.2.2.2.2 gX47_245 rfl rfl rfl hX47_at ⟨Nat.le_of_ble_eq_true rfl, Nat.le_of_ble_eq_true rfl⟩) rfl hl.1 rfl (Nat.le_of_ble_eq_true rfl) dX47_find_17 ⟨Nat.le_refl 0, Nat.le_refl 0⟩) (fun r_4 _ H locs hw hH => ?_)
      have hH : kH (dC, dI) cl A s.heap H locs (wX47 ci ad d f_constants f_blanks f_counts f_points f_kept f_hashes f_news f_rounds f_hashed f_groups f_groupOf f_groupCount f_trial f_row f_names f_namedBlanks f_form f_formCount f_octets f_descriptions f_described f_message f_size f_words f_schedule f_thrown f_said) := hH
      refine lv_istore (lv' := [(6, .int r_4), (0, .ref (ad 0)), (1, .int x1), (2, .int x2), (3, .int x3), (4, .int x4), (5, .int x5)]) hx hb dX47_find_20 hl (by decide) rfl (fun ls hl => ?_)
      refine lv_aload_n hx hb dX47_find_22 rfl (lv_at hl 1 rfl) ?_
      refine k_get X hH in_X47 0 rfl hc 3 (by decide) q5987 rfl dX47_find_23 ?_
      refine lv_iload hx hb dX47_find_26 (lv_at hl 0 rfl) ?_
      have hq_5 := hw.1
      have hw := hw.2
      refine k_iald X hH 4 3 rfl rfl (z_in (rfl : r_4.toInt = _) hq_5) dX47_find_28 ?_
      have e_6 := z_ld (f := f_points) (rfl : r_4.toInt = _) hq_5.1
      refine lv_iload_n hx hb dX47_find_29 rfl (lv_at hl 3 rfl) ?_
      refine lv_icmp_ne (tgt := 63) hx hb dX47_find_30 (by decide) (fun c_7 => ?_) (fun c_7 => ?_)
      · have hw := hw.2 (z_ne e_6 (rfl : x2.toInt = _) c_7)
        have hq_9 := hw.1
        have hw := hw.2
        obtain ⟨x5_8, ex5_8⟩ : ∃ y : Int32, y = x5 + 1 := ⟨_, rfl⟩
        have hw := hw x5_8.toInt (by rw [ex5_8]; exact (z_x (z_add (z_m (rfl : x5.toInt = _)) (z_m (rfl : (1 : Int32).toInt = 1))) hq_9))
        refine lv_iinc (v := x5_8) (lv' := [(5, .int x5_8), (6, .int r_4), (0, .ref (ad 0)), (1, .int x1), (2, .int x2), (3, .int x3), (4, .int x4)]) hx hb dX47_find_63 hl (k := 6) rfl (by rw [ex5_8]; rfl) (by decide) rfl (fun ls hl => ?_)
        refine lv_goto (tgt := 3) hx hb dX47_find_66 (by decide) ?_
        exact ih x5_8 hw _ _ ls hH (lv_sub hl [2, 3, 4, 5, 6, 0] rfl)
      · have hw := hw.1 (z_eq e_6 (rfl : x2.toInt = _) c_7)
        refine lv_aload_n hx hb dX47_find_33 rfl (lv_at hl 1 rfl) ?_
        refine k_get X hH in_X47 0 rfl hc 3 (by decide) q5987 rfl dX47_find_34 ?_
        refine lv_iload hx hb dX47_find_37 (lv_at hl 0 rfl) ?_
        refine lv_iconst (v := 1) hx hb dX47_find_39 (by decide) ?_
        refine lv_iadd hx hb dX47_find_40 ?_
        have e_10 := z_add (z_m (rfl : r_4.toInt = _)) (z_m (rfl : (1 : Int32).toInt = 1))
        have hq_11 := hw.1
        have hw := hw.2
        have e_12 := z_xi e_10 hq_11 (by decide)
        refine k_iald X hH 4 3 rfl rfl (z_in e_12 hq_11) dX47_find_41 ?_
        have e_13 := z_ld (f := f_points) e_12 hq_11.1
        refine lv_iload_n hx hb dX47_find_42 rfl (lv_at hl 4 rfl) ?_
        refine lv_icmp_ne (tgt := 63) hx hb dX47_find_43 (by decide) (fun c_14 => ?_) (fun c_14 => ?_)
        · have hw := hw.2 (z_ne e_13 (rfl : x3.toInt = _) c_14)
          have hq_16 := hw.1
          have hw := hw.2
          obtain ⟨x5_15, ex5_15⟩ : ∃ y : Int32, y = x5 + 1 := ⟨_, rfl⟩
          have hw := hw x5_15.toInt (by rw [ex5_15]; exact (z_x (z_add (z_m (rfl : x5.toInt = _)) (z_m (rfl : (1 : Int32).toInt = 1))) hq_16))
          refine lv_iinc (v := x5_15) (lv' := [(5, .int x5_15), (6, .int r_4), (0, .ref (ad 0)), (1, .int x1), (2, .int x2), (3, .int x3), (4, .int x4)]) hx hb dX47_find_63 hl (k := 6) rfl (by rw [ex5_15]; rfl) (by decide) rfl (fun ls hl => ?_)
          refine lv_goto (tgt := 3) hx hb dX47_find_66 (by decide) ?_
          exact ih x5_15 hw _ _ ls hH (lv_sub hl [2, 3, 4, 5, 6, 0] rfl)
        · have hw := hw.1 (z_eq e_13 (rfl : x3.toInt = _) c_14)
          refine lv_aload_n hx hb dX47_find_46 rfl (lv_at hl 1 rfl) ?_
          refine k_get X hH in_X47 0 rfl hc 3 (by decide) q5987 rfl dX47_find_47 ?_
          refine lv_iload hx hb dX47_find_50 (lv_at hl 0 rfl) ?_
          refine lv_iconst (v := 2) hx hb dX47_find_52 (by decide) ?_
          refine lv_iadd hx hb dX47_find_53 ?_
          have e_17 := z_add (z_m (rfl : r_4.toInt = _)) (z_m (rfl : (2 : Int32).toInt = 2))
          have hq_18 := hw.1
          have hw := hw.2
          have e_19 := z_xi e_17 hq_18 (by decide)
          refine k_iald X hH 4 3 rfl rfl (z_in e_19 hq_18) dX47_find_54 ?_
          have e_20 := z_ld (f := f_points) e_19 hq_18.1
          refine lv_iload hx hb dX47_find_55 (lv_at hl 5 rfl) ?_
          refine lv_icmp_ne (tgt := 63) hx hb dX47_find_57 (by decide) (fun c_21 => ?_) (fun c_21 => ?_)
          · have hw := hw.2 (z_ne e_20 (rfl : x4.toInt = _) c_21)
            have hq_23 := hw.1
            have hw := hw.2
            obtain ⟨x5_22, ex5_22⟩ : ∃ y : Int32, y = x5 + 1 := ⟨_, rfl⟩
            have hw := hw x5_22.toInt (by rw [ex5_22]; exact (z_x (z_add (z_m (rfl : x5.toInt = _)) (z_m (rfl : (1 : Int32).toInt = 1))) hq_23))
            refine lv_iinc (v := x5_22) (lv' := [(5, .int x5_22), (6, .int r_4), (0, .ref (ad 0)), (1, .int x1), (2, .int x2), (3, .int x3), (4, .int x4)]) hx hb dX47_find_63 hl (k := 6) rfl (by rw [ex5_22]; rfl) (by decide) rfl (fun ls hl => ?_)
            refine lv_goto (tgt := 3) hx hb dX47_find_66 (by decide) ?_
            exact ih x5_22 hw _ _ ls hH (lv_sub hl [2, 3, 4, 5, 6, 0] rfl)
          · have hw := hw.1 (z_eq e_20 (rfl : x4.toInt = _) c_21)
            exact hk60 x5 hw _ _ ls hH (lv_sub hl [6] rfl)
set_option maxHeartbeats 4000000 in
theorem walkX47_find {l : Launch} {dC : Nat → ClassId} {dI : Nat → Nat → Nat} {cl : List vw_C} {ci : Nat} (hc : cl[ci]? = some (RX47, TX47, 27)) {ad : Nat → Nat} {d : Nat → ClassId} {sz : Nat} {f_constants : Nat → Int64} {f_blanks : Nat → Int32} {f_counts : Nat → Int32} {f_points : Nat → Int32} {f_kept : Int32} {f_hashes : Nat → Int64} {f_news : Nat → Int64} {f_rounds : Int32} {f_hashed : Int32} {f_groups : Nat → Int32} {f_groupOf : Nat → Int32} {f_groupCount : Int32} {f_trial : Nat → Int32} {f_row : Nat → Int32} {f_names : Nat → Int32} {f_namedBlanks : Int32} {f_form : Nat → Int32} {f_formCount : Int32} {f_octets : Nat → Int32} {f_descriptions : Nat → Int32} {f_described : Int32} {f_message : Nat → Int32} {f_size : Int32} {f_words : Nat → Int64} {f_schedule : Nat → Int64} {f_thrown : Int32} {f_said : Nat → Int32} {x1 : Int32} {x2 : Int32} {x3 : Int32} {x4 : Int32} {post : Int → Prop} (hw : wpX47_find post (zF f_counts) (zF f_points) x1.toInt x2.toInt x3.toInt x4.toInt) :
    Met l yX47_find (ws_ yX47_find cX47_find 7 (some .int)) ({ frames := 1, cells := 0, slots := 0, locals := 21 } : Room) (kPc (dC, dI) cl (tX47 d) [.ref (ad 0), .int x1, .int x2, .int x3, .int x4] sz (wX47 ci ad d f_constants f_blanks f_counts f_points f_kept f_hashes f_news f_rounds f_hashed f_groups f_groupOf f_groupCount f_trial f_row f_names f_namedBlanks f_form f_formCount f_octets f_descriptions f_described f_message f_size f_words f_schedule f_thrown f_said)) (va_Qi (fun (r : Int32) (_ : Unit) => post r.toInt) (kB (dC, dI) cl (tX47 d) (va_A (wX47 ci ad d f_constants f_blanks f_counts f_points f_kept f_hashes f_news f_rounds f_hashed f_groups f_groupOf f_groupCount f_trial f_row f_names f_namedBlanks f_form f_formCount f_octets f_descriptions f_described f_message f_size f_words f_schedule f_thrown f_said) sz) (fun _ : Unit => (wX47 ci ad d f_constants f_blanks f_counts f_points f_kept f_hashes f_news f_rounds f_hashed f_groups f_groupOf f_groupCount f_trial f_row f_names f_namedBlanks f_form f_formCount f_octets f_descriptions f_described f_message f_size f_words f_schedule f_thrown f_said))) (va_A (wX47 ci ad d f_constants f_blanks f_counts f_points f_kept f_hashes f_news f_rounds f_hashed f_groups f_groupOf f_groupCount f_trial f_row f_names f_namedBlanks f_form f_formCount f_octets f_descriptions f_described f_message f_size f_words f_schedule f_thrown f_said) sz)) 0 0 (va_A (wX47 ci ad d f_constants f_blanks f_counts f_points f_kept f_hashes f_news f_rounds f_hashed f_groups f_groupOf f_groupCount f_trial f_row f_names f_namedBlanks f_form f_formCount f_octets f_descriptions f_described f_message f_size f_words f_schedule f_thrown f_said) sz) := by
  refine k_enter (by decide) (Nat.le_of_ble_eq_true rfl) ?_
  intro p e s m below meth c ls X hsz hH hl
  subst hsz
  generalize va_A (wX47 ci ad d f_constants f_blanks f_counts f_points f_kept f_hashes f_news f_rounds f_hashed f_groups f_groupOf f_groupCount f_trial f_row f_names f_namedBlanks f_form f_formCount f_octets f_descriptions f_described f_message f_size f_words f_schedule f_thrown f_said) s.heap.size = A at hH ⊢
  have hx := X.1.1
  have hb := X.1.2.1
  have hl : lv_has ls 7 [(0, .ref (ad 0)), (1, .int x1), (2, .int x2), (3, .int x3), (4, .int x4)] := hl
  unfold wpX47_find at hw
  refine lv_iconst (v := 0) hx hb dX47_find_0 (by decide) ?_
  refine lv_istore (lv' := [(5, .int 0), (0, .ref (ad 0)), (1, .int x1), (2, .int x2), (3, .int x3), (4, .int x4)]) hx hb dX47_find_1 hl (by decide) rfl (fun ls hl => ?_)
  obtain ⟨fu, hw⟩ := hw
  refine atX47_find_3 hc X ?_ ?_ fu 0 hw _ _ ls hH (lv_sub hl [1, 2, 3, 4, 5, 0] rfl)
  · intro x5_24 hw H locs ls hH hl
    refine lv_iload hx hb dX47_find_60 (lv_at hl 0 rfl) ?_
    exact k_iret (v := x5_24) X hH () hw rfl rfl dX47_find_62
  · intro hw H locs ls hH hl
    refine lv_iconst (v := (-1)) hx hb dX47_find_69 (by decide) ?_
    exact k_iret (v := (-1)) X hH () hw rfl rfl dX47_find_70
set_option maxHeartbeats 4000000 in
theorem walkX47_triple {l : Launch} {dC : Nat → ClassId} {dI : Nat → Nat → Nat} {cl : List vw_C} {ci : Nat} (hc : cl[ci]? = some (RX47, TX47, 27)) {ad : Nat → Nat} {d : Nat → ClassId} {sz : Nat} {f_constants : Nat → Int64} {f_blanks : Nat → Int32} {f_counts : Nat → Int32} {f_points : Nat → Int32} {f_kept : Int32} {f_hashes : Nat → Int64} {f_news : Nat → Int64} {f_rounds : Int32} {f_hashed : Int32} {f_groups : Nat → Int32} {f_groupOf : Nat → Int32} {f_groupCount : Int32} {f_trial : Nat → Int32} {f_row : Nat → Int32} {f_names : Nat → Int32} {f_namedBlanks : Int32} {f_form : Nat → Int32} {f_formCount : Int32} {f_octets : Nat → Int32} {f_descriptions : Nat → Int32} {f_described : Int32} {f_message : Nat → Int32} {f_size : Int32} {f_words : Nat → Int64} {f_schedule : Nat → Int64} {f_thrown : Int32} {f_said : Nat → Int32} {x1 : Int32} {x2 : Int32} {x3 : Int32} {post : Int → (Int → Int) → (Int → Int) → Int → Int → Prop} (hw : wpX47_triple post (zF f_blanks) (zF f_counts) (zF f_points) f_hashed.toInt x1.toInt x2.toInt x3.toInt) :
    Met l yX47_triple (ws_ yX47_triple cX47_triple 5 (some .int)) ({ frames := 2, cells := 0, slots := 0, locals := 47 } : Room) (kPc (dC, dI) cl (tX47 d) [.ref (ad 0), .int x1, .int x2, .int x3] sz (wX47 ci ad d f_constants f_blanks f_counts f_points f_kept f_hashes f_news f_rounds f_hashed f_groups f_groupOf f_groupCount f_trial f_row f_names f_namedBlanks f_form f_formCount f_octets f_descriptions f_described f_message f_size f_words f_schedule f_thrown f_said)) (va_Qi (fun (r : Int32) (u : (Nat → Int32) × (Nat → Int32) × Int32 × Int32) => post r.toInt (zF (u.1)) (zF (u.2.1)) (u.2.2.1).toInt (u.2.2.2).toInt) (kB (dC, dI) cl (tX47 d) (va_A (wX47 ci ad d f_constants f_blanks f_counts f_points f_kept f_hashes f_news f_rounds f_hashed f_groups f_groupOf f_groupCount f_trial f_row f_names f_namedBlanks f_form f_formCount f_octets f_descriptions f_described f_message f_size f_words f_schedule f_thrown f_said) sz) (fun u : (Nat → Int32) × (Nat → Int32) × Int32 × Int32 => (wX47 ci ad d f_constants f_blanks (u.1) (u.2.1) f_kept f_hashes f_news f_rounds (u.2.2.1) f_groups f_groupOf f_groupCount f_trial f_row f_names f_namedBlanks f_form f_formCount f_octets f_descriptions f_described f_message f_size f_words f_schedule (u.2.2.2) f_said))) (va_A (wX47 ci ad d f_constants f_blanks f_counts f_points f_kept f_hashes f_news f_rounds f_hashed f_groups f_groupOf f_groupCount f_trial f_row f_names f_namedBlanks f_form f_formCount f_octets f_descriptions f_described f_message f_size f_words f_schedule f_thrown f_said) sz)) 0 0 (va_A (wX47 ci ad d f_constants f_blanks f_counts f_points f_kept f_hashes f_news f_rounds f_hashed f_groups f_groupOf f_groupCount f_trial f_row f_names f_namedBlanks f_form f_formCount f_octets f_descriptions f_described f_message f_size f_words f_schedule f_thrown f_said) sz) := by
  refine k_enter (by decide) (Nat.le_of_ble_eq_true rfl) ?_
  intro p e s m below meth c ls X hsz hH hl
  subst hsz
  generalize va_A (wX47 ci ad d f_constants f_blanks f_counts f_points f_kept f_hashes f_news f_rounds f_hashed f_groups f_groupOf f_groupCount f_trial f_row f_names f_namedBlanks f_form f_formCount f_octets f_descriptions f_described f_message f_size f_words f_schedule f_thrown f_said) s.heap.size = A at hH ⊢
  have hx := X.1.1
  have hb := X.1.2.1
  have hl : lv_has ls 5 [(0, .ref (ad 0)), (1, .int x1), (2, .int x2), (3, .int x3)] := hl
  unfold wpX47_triple at hw
  refine lv_aload_n hx hb dX47_triple_0 rfl (lv_at hl 0 rfl) ?_
  refine lv_iconst (v := 0) hx hb dX47_triple_1 (by decide) ?_
  refine k_put X hH in_X47 tyX47_ok nmX47 0 rfl hc 25 (by decide) q6009 rfl (ty := .int) rfl rfl rfl (Nat.le_of_ble_eq_true rfl) dX47_triple_2 (ws1 := (wX47 ci ad d f_constants f_blanks f_counts f_points f_kept f_hashes f_news f_rounds f_hashed f_groups f_groupOf f_groupCount f_trial f_row f_names f_namedBlanks f_form f_formCount f_octets f_descriptions f_described f_message f_size f_words f_schedule 0 f_said)) rfl (fun H locs hH => ?_)
  refine lv_aload_n hx hb dX47_triple_5 rfl (lv_at hl 0 rfl) ?_
  refine lv_iload_n hx hb dX47_triple_6 rfl (lv_at hl 1 rfl) ?_
  refine k_i0 hH (k_runV (As := [.int x1]) (rest := []) X hH.1 hH.2.1 X.2.2.2 (walkX47_isPoint hc (x1 := x1) (f_constants := f_constants) (f_blanks := f_blanks) (f_counts := f_counts) (f_points := f_points) (f_kept := f_kept) (f_hashes := f_hashes) (f_news := f_news) (f_rounds := f_rounds) (f_hashed := f_hashed) (f_groups := f_groups) (f_groupOf := f_groupOf) (f_groupCount := f_groupCount) (f_trial := f_trial) (f_row := f_row) (f_names := f_names) (f_namedBlanks := f_namedBlanks) (f_form := f_form) (f_formCount := f_formCount) (f_octets := f_octets) (f_descriptions := f_descriptions) (f_described := f_described) (f_message := f_message) (f_size := f_size) (f_words := f_words) (f_schedule := f_schedule) (f_thrown := 0) (f_said := f_said) hw) (cwV 1 X.1.2.2.2.2 gX47_249 rfl rfl rfl hX47_isPoint ⟨Nat.le_of_ble_eq_true rfl, Nat.le_of_ble_eq_true rfl⟩) hc (q0 := 0) rfl rfl hl.1 rfl (Nat.le_of_ble_eq_true rfl) dX47_triple_7 ⟨Nat.le_refl 0, Nat.le_refl 0⟩) (fun r_1 _ H locs hw hH => ?_)
  have hH : kH (dC, dI) cl A s.heap H locs (wX47 ci ad d f_constants f_blanks f_counts f_points f_kept f_hashes f_news f_rounds f_hashed f_groups f_groupOf f_groupCount f_trial f_row f_names f_namedBlanks f_form f_formCount f_octets f_descriptions f_described f_message f_size f_words f_schedule 0 f_said) := hH
  refine lv_if_eq (tgt := 29) hx hb dX47_triple_10 (by decide) (fun c_2 => ?_) (fun c_2 => ?_)
  · have hw := hw.1 (z_eq (rfl : r_1.toInt = _) (rfl : (0 : Int32).toInt = 0) c_2)
    refine lv_iconst (v := (-1)) hx hb dX47_triple_29 (by decide) ?_
    exact k_iret (v := (-1)) X hH (f_counts, f_points, f_hashed, 0) hw rfl rfl dX47_triple_30
  · have hw := hw.2 (z_neq (rfl : r_1.toInt = _) (rfl : (0 : Int32).toInt = 0) c_2)
    refine lv_aload_n hx hb dX47_triple_13 rfl (lv_at hl 0 rfl) ?_
    refine lv_iload_n hx hb dX47_triple_14 rfl (lv_at hl 2 rfl) ?_
    refine k_i0 hH (k_runV (As := [.int x2]) (rest := []) X hH.1 hH.2.1 X.2.2.2 (walkX47_isPoint hc (x1 := x2) (f_constants := f_constants) (f_blanks := f_blanks) (f_counts := f_counts) (f_points := f_points) (f_kept := f_kept) (f_hashes := f_hashes) (f_news := f_news) (f_rounds := f_rounds) (f_hashed := f_hashed) (f_groups := f_groups) (f_groupOf := f_groupOf) (f_groupCount := f_groupCount) (f_trial := f_trial) (f_row := f_row) (f_names := f_names) (f_namedBlanks := f_namedBlanks) (f_form := f_form) (f_formCount := f_formCount) (f_octets := f_octets) (f_descriptions := f_descriptions) (f_described := f_described) (f_message := f_message) (f_size := f_size) (f_words := f_words) (f_schedule := f_schedule) (f_thrown := 0) (f_said := f_said) hw) (cwV 1 X.1.2.2.2.2 gX47_249 rfl rfl rfl hX47_isPoint ⟨Nat.le_of_ble_eq_true rfl, Nat.le_of_ble_eq_true rfl⟩) hc (q0 := 0) rfl rfl hl.1 rfl (Nat.le_of_ble_eq_true rfl) dX47_triple_15 ⟨Nat.le_refl 0, Nat.le_refl 0⟩) (fun r_3 _ H locs hw hH => ?_)
    have hH : kH (dC, dI) cl A s.heap H locs (wX47 ci ad d f_constants f_blanks f_counts f_points f_kept f_hashes f_news f_rounds f_hashed f_groups f_groupOf f_groupCount f_trial f_row f_names f_namedBlanks f_form f_formCount f_octets f_descriptions f_described f_message f_size f_words f_schedule 0 f_said) := hH
    refine lv_if_eq (tgt := 29) hx hb dX47_triple_18 (by decide) (fun c_4 => ?_) (fun c_4 => ?_)
    · have hw := hw.1 (z_eq (rfl : r_3.toInt = _) (rfl : (0 : Int32).toInt = 0) c_4)
      refine lv_iconst (v := (-1)) hx hb dX47_triple_29 (by decide) ?_
      exact k_iret (v := (-1)) X hH (f_counts, f_points, f_hashed, 0) hw rfl rfl dX47_triple_30
    · have hw := hw.2 (z_neq (rfl : r_3.toInt = _) (rfl : (0 : Int32).toInt = 0) c_4)
      refine lv_aload_n hx hb dX47_triple_21 rfl (lv_at hl 0 rfl) ?_
      refine lv_iload_n hx hb dX47_triple_22 rfl (lv_at hl 3 rfl) ?_
      refine k_i0 hH (k_runV (As := [.int x3]) (rest := []) X hH.1 hH.2.1 X.2.2.2 (walkX47_isPoint hc (x1 := x3) (f_constants := f_constants) (f_blanks := f_blanks) (f_counts := f_counts) (f_points := f_points) (f_kept := f_kept) (f_hashes := f_hashes) (f_news := f_news) (f_rounds := f_rounds) (f_hashed := f_hashed) (f_groups := f_groups) (f_groupOf := f_groupOf) (f_groupCount := f_groupCount) (f_trial := f_trial) (f_row := f_row) (f_names := f_names) (f_namedBlanks := f_namedBlanks) (f_form := f_form) (f_formCount := f_formCount) (f_octets := f_octets) (f_descriptions := f_descriptions) (f_described := f_described) (f_message := f_message) (f_size := f_size) (f_words := f_words) (f_schedule := f_schedule) (f_thrown := 0) (f_said := f_said) hw) (cwV 1 X.1.2.2.2.2 gX47_249 rfl rfl rfl hX47_isPoint ⟨Nat.le_of_ble_eq_true rfl, Nat.le_of_ble_eq_true rfl⟩) hc (q0 := 0) rfl rfl hl.1 rfl (Nat.le_of_ble_eq_true rfl) dX47_triple_23 ⟨Nat.le_refl 0, Nat.le_refl 0⟩) (fun r_5 _ H locs hw hH => ?_)
      have hH : kH (dC, dI) cl A s.heap H locs (wX47 ci ad d f_constants f_blanks f_counts f_points f_kept f_hashes f_news f_rounds f_hashed f_groups f_groupOf f_groupCount f_trial f_row f_names f_namedBlanks f_form f_formCount f_octets f_descriptions f_described f_message f_size f_words f_schedule 0 f_said) := hH
      refine lv_if_ne (tgt := 31) hx hb dX47_triple_26 (by decide) (fun c_6 => ?_) (fun c_6 => ?_)
      · have hw := hw.2 (z_ne (rfl : r_5.toInt = _) (rfl : (0 : Int32).toInt = 0) c_6)
        refine lv_aload_n hx hb dX47_triple_31 rfl (lv_at hl 0 rfl) ?_
        refine lv_bipush (v := 8) hx hb dX47_triple_32 (by decide) ?_
        refine lv_iload_n hx hb dX47_triple_34 rfl (lv_at hl 1 rfl) ?_
        refine lv_iload_n hx hb dX47_triple_35 rfl (lv_at hl 2 rfl) ?_
        refine lv_iload_n hx hb dX47_triple_36 rfl (lv_at hl 3 rfl) ?_
        refine k_i0 hH (k_runV (As := [.int 8, .int x1, .int x2, .int x3]) (rest := []) X hH.1 hH.2.1 X.2.2.2 (walkX47_find hc (x1 := 8) (x2 := x1) (x3 := x2) (x4 := x3) (f_constants := f_constants) (f_blanks := f_blanks) (f_counts := f_counts) (f_points := f_points) (f_kept := f_kept) (f_hashes := f_hashes) (f_news := f_news) (f_rounds := f_rounds) (f_hashed := f_hashed) (f_groups := f_groups) (f_groupOf := f_groupOf) (f_groupCount := f_groupCount) (f_trial := f_trial) (f_row := f_row) (f_names := f_names) (f_namedBlanks := f_namedBlanks) (f_form := f_form) (f_formCount := f_formCount) (f_octets := f_octets) (f_descriptions := f_descriptions) (f_described := f_described) (f_message := f_message) (f_size := f_size) (f_words := f_words) (f_schedule := f_schedule) (f_thrown := 0) (f_said := f_said) hw) (cwV 4 X.1.2.2.2.2 gX47_253 rfl rfl rfl hX47_find ⟨Nat.le_of_ble_eq_true rfl, Nat.le_of_ble_eq_true rfl⟩) hc (q0 := 0) rfl rfl hl.1 rfl (Nat.le_of_ble_eq_true rfl) dX47_triple_37 ⟨Nat.le_refl 0, Nat.le_refl 0⟩) (fun r_7 _ H locs hw hH => ?_)
        have hH : kH (dC, dI) cl A s.heap H locs (wX47 ci ad d f_constants f_blanks f_counts f_points f_kept f_hashes f_news f_rounds f_hashed f_groups f_groupOf f_groupCount f_trial f_row f_names f_namedBlanks f_form f_formCount f_octets f_descriptions f_described f_message f_size f_words f_schedule 0 f_said) := hH
        refine lv_if_lt (tgt := 45) hx hb dX47_triple_40 (by decide) (fun c_8 => ?_) (fun c_8 => ?_)
        · have hw := hw.1 (z_lt (rfl : r_7.toInt = _) (rfl : (0 : Int32).toInt = 0) c_8)
          refine lv_aload_n hx hb dX47_triple_45 rfl (lv_at hl 0 rfl) ?_
          refine k_get X hH in_X47 0 rfl hc 2 (by decide) q5986 rfl dX47_triple_46 ?_
          refine lv_bipush (v := 8) hx hb dX47_triple_49 (by decide) ?_
          refine k_iald X hH 3 2 rfl rfl (by unfold vp_in; decide) dX47_triple_51 ?_
          have e_9 := z_ld (f := f_counts) (rfl : (8 : Int32).toInt = 8) (by decide)
          refine lv_bipush (v := 40) hx hb dX47_triple_52 (by decide) ?_
          refine lv_icmp_ne (tgt := 60) hx hb dX47_triple_54 (by decide) (fun c_10 => ?_) (fun c_10 => ?_)
          · have hw := hw.2 (z_ne e_9 (rfl : (40 : Int32).toInt = 40) c_10)
            refine lv_bipush (v := 8) hx hb dX47_triple_60 (by decide) ?_
            refine lv_aload_n hx hb dX47_triple_62 rfl (lv_at hl 0 rfl) ?_
            refine k_get X hH in_X47 0 rfl hc 2 (by decide) q5986 rfl dX47_triple_63 ?_
            refine lv_bipush (v := 8) hx hb dX47_triple_66 (by decide) ?_
            refine k_iald X hH 3 2 rfl rfl (by unfold vp_in; decide) dX47_triple_68 ?_
            have e_11 := z_ld (f := f_counts) (rfl : (8 : Int32).toInt = 8) (by decide)
            refine k_i0 hH (k_runS (As := [.int 8, .int (f_counts (8 : Int32).toNatClampNeg)]) (rest := []) X hH.1 hH.2.1 X.2.2.2 (walkX47_at hc (x0 := 8) (x1 := (f_counts (8 : Int32).toNatClampNeg)) (f_constants := f_constants) (f_blanks := f_blanks) (f_counts := f_counts) (f_points := f_points) (f_kept := f_kept) (f_hashes := f_hashes) (f_news := f_news) (f_rounds := f_rounds) (f_hashed := f_hashed) (f_groups := f_groups) (f_groupOf := f_groupOf) (f_groupCount := f_groupCount) (f_trial := f_trial) (f_row := f_row) (f_names := f_names) (f_namedBlanks := f_namedBlanks) (f_form := f_form) (f_formCount := f_formCount) (f_octets := f_octets) (f_descriptions := f_descriptions) (f_described := f_described) (f_message := f_message) (f_size := f_size) (f_words := f_words) (f_schedule := f_schedule) (f_thrown := 0) (f_said := f_said) (by rw [show (f_counts (8 : Int32).toNatClampNeg : Int32).toInt = _ from e_11]; exact hw)) (va_cwS 2 X.1.2.2.2.2 gX47_245 rfl rfl rfl hX47_at ⟨Nat.le_of_ble_eq_true rfl, Nat.le_of_ble_eq_true rfl⟩) rfl hl.1 rfl (Nat.le_of_ble_eq_true rfl) dX47_triple_69 ⟨Nat.le_refl 0, Nat.le_refl 0⟩) (fun r_12 _ H locs hw hH => ?_)
            have hH : kH (dC, dI) cl A s.heap H locs (wX47 ci ad d f_constants f_blanks f_counts f_points f_kept f_hashes f_news f_rounds f_hashed f_groups f_groupOf f_groupCount f_trial f_row f_names f_namedBlanks f_form f_formCount f_octets f_descriptions f_described f_message f_size f_words f_schedule 0 f_said) := hH
            refine lv_istore (lv' := [(4, .int r_12), (0, .ref (ad 0)), (1, .int x1), (2, .int x2), (3, .int x3)]) hx hb dX47_triple_72 hl (by decide) rfl (fun ls hl => ?_)
            refine lv_aload_n hx hb dX47_triple_74 rfl (lv_at hl 1 rfl) ?_
            refine k_get X hH in_X47 0 rfl hc 3 (by decide) q5987 rfl dX47_triple_75 ?_
            refine lv_iload hx hb dX47_triple_78 (lv_at hl 0 rfl) ?_
            refine lv_iload_n hx hb dX47_triple_80 rfl (lv_at hl 2 rfl) ?_
            have hq_14 := hw.1
            have hw := hw.2
            obtain ⟨f_points_13, ef_points_13⟩ : ∃ y : Nat → Int32, y = upd f_points r_12.toNatClampNeg x1 := ⟨_, rfl⟩
            refine k_iast X hH 4 3 rfl rfl (z_in (rfl : r_12.toInt = _) hq_14) dX47_triple_81 ef_points_13 (ws1 := (wX47 ci ad d f_constants f_blanks f_counts f_points_13 f_kept f_hashes f_news f_rounds f_hashed f_groups f_groupOf f_groupCount f_trial f_row f_names f_namedBlanks f_form f_formCount f_octets f_descriptions f_described f_message f_size f_words f_schedule 0 f_said)) rfl (fun H locs hH => ?_)
            have hw := hw (zF f_points_13) (by rw [ef_points_13]; exact z_st (f := f_points) (rfl : r_12.toInt = _) hq_14.1 (rfl : x1.toInt = _))
            refine lv_aload_n hx hb dX47_triple_82 rfl (lv_at hl 1 rfl) ?_
            refine k_get X hH in_X47 0 rfl hc 3 (by decide) q5987 rfl dX47_triple_83 ?_
            refine lv_iload hx hb dX47_triple_86 (lv_at hl 0 rfl) ?_
            refine lv_iconst (v := 1) hx hb dX47_triple_88 (by decide) ?_
            refine lv_iadd hx hb dX47_triple_89 ?_
            have e_15 := z_add (z_m (rfl : r_12.toInt = _)) (z_m (rfl : (1 : Int32).toInt = 1))
            refine lv_iload_n hx hb dX47_triple_90 rfl (lv_at hl 3 rfl) ?_
            have hq_17 := hw.1
            have hw := hw.2
            have e_18 := z_xi e_15 hq_17 (by decide)
            obtain ⟨f_points_16, ef_points_16⟩ : ∃ y : Nat → Int32, y = upd f_points_13 (r_12 + 1).toNatClampNeg x2 := ⟨_, rfl⟩
            refine k_iast X hH 4 3 rfl rfl (z_in e_18 hq_17) dX47_triple_91 ef_points_16 (ws1 := (wX47 ci ad d f_constants f_blanks f_counts f_points_16 f_kept f_hashes f_news f_rounds f_hashed f_groups f_groupOf f_groupCount f_trial f_row f_names f_namedBlanks f_form f_formCount f_octets f_descriptions f_described f_message f_size f_words f_schedule 0 f_said)) rfl (fun H locs hH => ?_)
            have hw := hw (zF f_points_16) (by rw [ef_points_16]; exact z_st (f := f_points_13) e_18 hq_17.1 (rfl : x2.toInt = _))
            refine lv_aload_n hx hb dX47_triple_92 rfl (lv_at hl 1 rfl) ?_
            refine k_get X hH in_X47 0 rfl hc 3 (by decide) q5987 rfl dX47_triple_93 ?_
            refine lv_iload hx hb dX47_triple_96 (lv_at hl 0 rfl) ?_
            refine lv_iconst (v := 2) hx hb dX47_triple_98 (by decide) ?_
            refine lv_iadd hx hb dX47_triple_99 ?_
            have e_19 := z_add (z_m (rfl : r_12.toInt = _)) (z_m (rfl : (2 : Int32).toInt = 2))
            refine lv_iload_n hx hb dX47_triple_100 rfl (lv_at hl 4 rfl) ?_
            have hq_21 := hw.1
            have hw := hw.2
            have e_22 := z_xi e_19 hq_21 (by decide)
            obtain ⟨f_points_20, ef_points_20⟩ : ∃ y : Nat → Int32, y = upd f_points_16 (r_12 + 2).toNatClampNeg x3 := ⟨_, rfl⟩
            refine k_iast X hH 4 3 rfl rfl (z_in e_22 hq_21) dX47_triple_101 ef_points_20 (ws1 := (wX47 ci ad d f_constants f_blanks f_counts f_points_20 f_kept f_hashes f_news f_rounds f_hashed f_groups f_groupOf f_groupCount f_trial f_row f_names f_namedBlanks f_form f_formCount f_octets f_descriptions f_described f_message f_size f_words f_schedule 0 f_said)) rfl (fun H locs hH => ?_)
            have hw := hw (zF f_points_20) (by rw [ef_points_20]; exact z_st (f := f_points_16) e_22 hq_21.1 (rfl : x3.toInt = _))
            refine lv_aload_n hx hb dX47_triple_102 rfl (lv_at hl 1 rfl) ?_
            refine k_get X hH in_X47 0 rfl hc 2 (by decide) q5986 rfl dX47_triple_103 ?_
            refine lv_bipush (v := 8) hx hb dX47_triple_106 (by decide) ?_
            refine lv_dup2_11 hx hb dX47_triple_108 rfl rfl ?_
            refine k_iald X hH 3 2 rfl rfl (by unfold vp_in; decide) dX47_triple_109 ?_
            have e_23 := z_ld (f := f_counts) (rfl : (8 : Int32).toInt = 8) (by decide)
            refine lv_iconst (v := 1) hx hb dX47_triple_110 (by decide) ?_
            refine lv_iadd hx hb dX47_triple_111 ?_
            have e_24 := z_add (z_m e_23) (z_m (rfl : (1 : Int32).toInt = 1))
            have hq_25 := hw.1
            have hw := hw.2
            have e_26 := z_x e_24 hq_25
            refine lv_topi (fun v_27 ev_27 => ?_)
            have hw := hw v_27.toInt (by rw [ev_27]; exact e_26)
            obtain ⟨f_counts_28, ef_counts_28⟩ : ∃ y : Nat → Int32, y = upd f_counts (8 : Int32).toNatClampNeg v_27 := ⟨_, rfl⟩
            refine k_iast X hH 3 2 rfl rfl (by unfold vp_in; decide) dX47_triple_112 ef_counts_28 (ws1 := (wX47 ci ad d f_constants f_blanks f_counts_28 f_points_20 f_kept f_hashes f_news f_rounds f_hashed f_groups f_groupOf f_groupCount f_trial f_row f_names f_namedBlanks f_form f_formCount f_octets f_descriptions f_described f_message f_size f_words f_schedule 0 f_said)) rfl (fun H locs hH => ?_)
            have hw := hw (zF f_counts_28) (by rw [ef_counts_28]; exact z_st (f := f_counts) (rfl : (8 : Int32).toInt = 8) (by decide) (rfl : v_27.toInt = _))
            refine lv_aload_n hx hb dX47_triple_113 rfl (lv_at hl 1 rfl) ?_
            refine lv_iconst (v := 0) hx hb dX47_triple_114 (by decide) ?_
            refine k_put X hH in_X47 tyX47_ok nmX47 0 rfl hc 8 (by decide) q5992 rfl (ty := .boolean) rfl rfl rfl (Nat.le_of_ble_eq_true rfl) dX47_triple_115 (ws1 := (wX47 ci ad d f_constants f_blanks f_counts_28 f_points_20 f_kept f_hashes f_news f_rounds 0 f_groups f_groupOf f_groupCount f_trial f_row f_names f_namedBlanks f_form f_formCount f_octets f_descriptions f_described f_message f_size f_words f_schedule 0 f_said)) rfl (fun H locs hH => ?_)
            refine lv_iconst (v := 1) hx hb dX47_triple_118 (by decide) ?_
            exact k_iret (v := 1) X hH (f_counts_28, f_points_20, 0, 0) hw rfl rfl dX47_triple_119
          · have hw := hw.1 (z_eq e_9 (rfl : (40 : Int32).toInt = 40) c_10)
            refine lv_bipush (v := (-2)) hx hb dX47_triple_57 (by decide) ?_
            exact k_iret (v := (-2)) X hH (f_counts, f_points, f_hashed, 0) hw rfl rfl dX47_triple_59
        · have hw := hw.2 (z_nlt (rfl : r_7.toInt = _) (rfl : (0 : Int32).toInt = 0) c_8)
          refine lv_iconst (v := 0) hx hb dX47_triple_43 (by decide) ?_
          exact k_iret (v := 0) X hH (f_counts, f_points, f_hashed, 0) hw rfl rfl dX47_triple_44
      · have hw := hw.1 (z_eq (rfl : r_5.toInt = _) (rfl : (0 : Int32).toInt = 0) c_6)
        refine lv_iconst (v := (-1)) hx hb dX47_triple_29 (by decide) ?_
        exact k_iret (v := (-1)) X hH (f_counts, f_points, f_hashed, 0) hw rfl rfl dX47_triple_30
set_option maxHeartbeats 4000000 in
theorem atX47_describe_73 {p : Program} {l : Launch} {e : Env} {s : State} {m : MethodId} {args : Array Value} {below : List Frame} {meth : Method} {c : Code} {dC : Nat → ClassId} {dI : Nat → Nat → Nat} {cl : List vw_C} {ci : Nat} (hc : cl[ci]? = some (RX47, TX47, 27)) {ad : Nat → Nat} {d : Nat → ClassId} {A : Nat → Prop} {post : (Int → Int) → Int → Prop} {f_constants : Nat → Int64} {f_blanks : Nat → Int32} {f_counts : Nat → Int32} {f_points : Nat → Int32} {f_kept : Int32} {f_hashes : Nat → Int64} {f_news : Nat → Int64} {f_rounds : Int32} {f_hashed : Int32} {f_groups : Nat → Int32} {f_groupOf : Nat → Int32} {f_groupCount : Int32} {f_trial : Nat → Int32} {f_row : Nat → Int32} {f_names : Nat → Int32} {f_namedBlanks : Int32} {f_form : Nat → Int32} {f_formCount : Int32} {f_octets : Nat → Int32} {f_message : Nat → Int32} {f_size : Int32} {f_words : Nat → Int64} {f_schedule : Nat → Int64} {f_thrown : Int32} {f_said : Nat → Int32} (X : kX p s m args meth c cX47_describe 8 RX47 none (dC, dI) cl (tX47 d)) {K117 : Int → (Int → Int) → Prop} {x1 : Int32} {x2 : Int32} {x3 : Int32} {x5 : Int32} {x6 : Int32} {f_described : Int32} (hk117 : ∀ (x4 : Int32) (f_descriptions : Nat → Int32), K117 x4.toInt (zF f_descriptions) → ∀ (H : Heap) (locs : List Loc) (ls : Array Slot), kH (dC, dI) cl A s.heap H locs (wX47 ci ad d f_constants f_blanks f_counts f_points f_kept f_hashes f_news f_rounds f_hashed f_groups f_groupOf f_groupCount f_trial f_row f_names f_namedBlanks f_form f_formCount f_octets f_descriptions f_described f_message f_size f_words f_schedule f_thrown f_said) → lv_has ls 8 [(0, .ref (ad 0)), (1, .int x1), (2, .int x2), (3, .int x3), (4, .int x4), (5, .int x5), (6, .int x6)] → W p l e ({ frames := 1, cells := 0, slots := 0, locals := 21 } : Room) s m args below meth c H locs 0 0 (MQ below (va_Qv (fun (u : (Nat → Int32) × Int32) => post (zF (u.1)) (u.2).toInt) (kB (dC, dI) cl (tX47 d) A (fun u : (Nat → Int32) × Int32 => (wX47 ci ad d f_constants f_blanks f_counts f_points f_kept f_hashes f_news f_rounds f_hashed f_groups f_groupOf f_groupCount f_trial f_row f_names f_namedBlanks f_form f_formCount f_octets (u.1) (u.2) f_message f_size f_words f_schedule f_thrown f_said))) A) args s 0 0 A) (F0 m 117 ls [])) :
    ∀ (nn : Nat) (x4 : Int32) (x7 : Int32) (f_descriptions : Nat → Int32), wX47_describe_73 K117 x3.toInt x6.toInt nn x4.toInt x7.toInt (zF f_descriptions) → ∀ (H : Heap) (locs : List Loc) (ls : Array Slot), kH (dC, dI) cl A s.heap H locs (wX47 ci ad d f_constants f_blanks f_counts f_points f_kept f_hashes f_news f_rounds f_hashed f_groups f_groupOf f_groupCount f_trial f_row f_names f_namedBlanks f_form f_formCount f_octets f_descriptions f_described f_message f_size f_words f_schedule f_thrown f_said) → lv_has ls 8 [(0, .ref (ad 0)), (1, .int x1), (2, .int x2), (3, .int x3), (4, .int x4), (5, .int x5), (6, .int x6), (7, .int x7)] → W p l e ({ frames := 1, cells := 0, slots := 0, locals := 21 } : Room) s m args below meth c H locs 0 0 (MQ below (va_Qv (fun (u : (Nat → Int32) × Int32) => post (zF (u.1)) (u.2).toInt) (kB (dC, dI) cl (tX47 d) A (fun u : (Nat → Int32) × Int32 => (wX47 ci ad d f_constants f_blanks f_counts f_points f_kept f_hashes f_news f_rounds f_hashed f_groups f_groupOf f_groupCount f_trial f_row f_names f_namedBlanks f_form f_formCount f_octets (u.1) (u.2) f_message f_size f_words f_schedule f_thrown f_said))) A) args s 0 0 A) (F0 m 73 ls []) := by
  have hx := X.1.1
  have hb := X.1.2.1
  intro nn
  induction nn with
  | zero =>
    intro x4 x7 f_descriptions hw
    exact False.elim hw
  | succ n ih =>
    intro x4 x7 f_descriptions hw H locs ls hH hl
    rw [wX47_describe_73] at hw
    refine lv_iload hx hb dX47_describe_73 (lv_at hl 7 rfl) ?_
    refine lv_iconst (v := 4) hx hb dX47_describe_75 (by decide) ?_
    refine lv_icmp_ge (tgt := 117) hx hb dX47_describe_76 (by decide) (fun c_23 => ?_) (fun c_23 => ?_)
    · have hw := hw.1 (z_le (rfl : (4 : Int32).toInt = 4) (rfl : x7.toInt = _) c_23)
      exact hk117 x4 f_descriptions hw _ _ ls hH (lv_sub hl [0, 1, 2, 3, 4, 5, 6] rfl)
    · have hw := hw.2 (z_nle (rfl : (4 : Int32).toInt = 4) (rfl : x7.toInt = _) c_23)
      refine lv_iload hx hb dX47_describe_79 (lv_at hl 6 rfl) ?_
      refine lv_if_le (tgt := 117) hx hb dX47_describe_81 (by decide) (fun c_24 => ?_) (fun c_24 => ?_)
      · have hw := hw.1 (z_le (rfl : x6.toInt = _) (rfl : (0 : Int32).toInt = 0) c_24)
        exact hk117 x4 f_descriptions hw _ _ ls hH (lv_sub hl [0, 1, 2, 3, 4, 5, 6] rfl)
      · have hw := hw.2 (z_nle (rfl : x6.toInt = _) (rfl : (0 : Int32).toInt = 0) c_24)
        refine lv_aload_n hx hb dX47_describe_84 rfl (lv_at hl 0 rfl) ?_
        refine k_get X hH in_X47 0 rfl hc 19 (by decide) q6003 rfl dX47_describe_85 ?_
        refine lv_iload_n hx hb dX47_describe_88 rfl (lv_at hl 3 rfl) ?_
        refine lv_iload hx hb dX47_describe_89 (lv_at hl 4 rfl) ?_
        refine lv_iadd hx hb dX47_describe_91 ?_
        have e_25 := z_add (z_m (rfl : x3.toInt = _)) (z_m (rfl : x4.toInt = _))
        refine lv_iload hx hb dX47_describe_92 (lv_at hl 6 rfl) ?_
        refine lv_bipush (v := 24) hx hb dX47_describe_94 (by decide) ?_
        refine lv_bipush (v := 8) hx hb dX47_describe_96 (by decide) ?_
        refine lv_iload hx hb dX47_describe_98 (lv_at hl 7 rfl) ?_
        refine lv_imul hx hb dX47_describe_100 ?_
        have e_26 := z_mul (z_m (rfl : (8 : Int32).toInt = 8)) (z_m (rfl : x7.toInt = _))
        refine lv_isub hx hb dX47_describe_101 ?_
        have e_27 := z_sub (z_m (rfl : (24 : Int32).toInt = 24)) e_26
        have hq_28 := hw.1
        have hw := hw.2
        have e_29 := z_x e_27 hq_28
        refine lv_ishr hx hb dX47_describe_102 ?_
        have hq_30 := hw.1
        have hw := hw.2
        have e_31 := z_shrV (rfl : x6.toInt = _) e_29 hq_30
        refine lv_sipush (v := 255) hx hb dX47_describe_103 (by decide) ?_
        refine lv_iand hx hb dX47_describe_106 ?_
        have e_32 := z_mask (z_m e_31) (k := 8) (m := 255) (c := 256) (by decide)
        refine lv_topi (fun v_33 ev_33 => ?_)
        have hw := hw v_33.toInt (by rw [ev_33]; exact e_32)
        have hq_35 := hw.1
        have hw := hw.2
        have e_36 := z_xi e_25 hq_35 (by decide)
        obtain ⟨f_descriptions_34, ef_descriptions_34⟩ : ∃ y : Nat → Int32, y = upd f_descriptions (x3 + x4).toNatClampNeg v_33 := ⟨_, rfl⟩
        refine k_iast X hH 14 13 rfl rfl (z_in e_36 hq_35) dX47_describe_107 ef_descriptions_34 (ws1 := (wX47 ci ad d f_constants f_blanks f_counts f_points f_kept f_hashes f_news f_rounds f_hashed f_groups f_groupOf f_groupCount f_trial f_row f_names f_namedBlanks f_form f_formCount f_octets f_descriptions_34 f_described f_message f_size f_words f_schedule f_thrown f_said)) rfl (fun H locs hH => ?_)
        have hw := hw (zF f_descriptions_34) (by rw [ef_descriptions_34]; exact z_st (f := f_descriptions) e_36 hq_35.1 (rfl : v_33.toInt = _))
        have hq_38 := hw.1
        have hw := hw.2
        obtain ⟨x4_37, ex4_37⟩ : ∃ y : Int32, y = x4 + 1 := ⟨_, rfl⟩
        have hw := hw x4_37.toInt (by rw [ex4_37]; exact (z_x (z_add (z_m (rfl : x4.toInt = _)) (z_m (rfl : (1 : Int32).toInt = 1))) hq_38))
        refine lv_iinc (v := x4_37) (lv' := [(4, .int x4_37), (0, .ref (ad 0)), (1, .int x1), (2, .int x2), (3, .int x3), (5, .int x5), (6, .int x6), (7, .int x7)]) hx hb dX47_describe_108 hl (k := 4) rfl (by rw [ex4_37]; rfl) (by decide) rfl (fun ls hl => ?_)
        have hq_40 := hw.1
        have hw := hw.2
        obtain ⟨x7_39, ex7_39⟩ : ∃ y : Int32, y = x7 + 1 := ⟨_, rfl⟩
        have hw := hw x7_39.toInt (by rw [ex7_39]; exact (z_x (z_add (z_m (rfl : x7.toInt = _)) (z_m (rfl : (1 : Int32).toInt = 1))) hq_40))
        refine lv_iinc (v := x7_39) (lv' := [(7, .int x7_39), (4, .int x4_37), (0, .ref (ad 0)), (1, .int x1), (2, .int x2), (3, .int x3), (5, .int x5), (6, .int x6)]) hx hb dX47_describe_111 hl (k := 7) rfl (by rw [ex7_39]; rfl) (by decide) rfl (fun ls hl => ?_)
        refine lv_goto (tgt := 73) hx hb dX47_describe_114 (by decide) ?_
        exact ih x4_37 x7_39 f_descriptions_34 hw _ _ ls hH (lv_sub hl [2, 3, 4, 5, 1, 6, 7, 0] rfl)
set_option maxHeartbeats 4000000 in
theorem atX47_describe_120 {p : Program} {l : Launch} {e : Env} {s : State} {m : MethodId} {args : Array Value} {below : List Frame} {meth : Method} {c : Code} {dC : Nat → ClassId} {dI : Nat → Nat → Nat} {cl : List vw_C} {ci : Nat} (hc : cl[ci]? = some (RX47, TX47, 27)) {ad : Nat → Nat} {d : Nat → ClassId} {A : Nat → Prop} {post : (Int → Int) → Int → Prop} {f_constants : Nat → Int64} {f_blanks : Nat → Int32} {f_counts : Nat → Int32} {f_points : Nat → Int32} {f_kept : Int32} {f_hashes : Nat → Int64} {f_news : Nat → Int64} {f_rounds : Int32} {f_hashed : Int32} {f_groups : Nat → Int32} {f_groupOf : Nat → Int32} {f_groupCount : Int32} {f_trial : Nat → Int32} {f_row : Nat → Int32} {f_names : Nat → Int32} {f_namedBlanks : Int32} {f_form : Nat → Int32} {f_formCount : Int32} {f_octets : Nat → Int32} {f_message : Nat → Int32} {f_size : Int32} {f_words : Nat → Int64} {f_schedule : Nat → Int64} {f_thrown : Int32} {f_said : Nat → Int32} (X : kX p s m args meth c cX47_describe 8 RX47 none (dC, dI) cl (tX47 d)) {K189 : Int → (Int → Int) → Prop} {x1 : Int32} {x2 : Int32} {x3 : Int32} {x5 : Int32} {x6 : Int32} {f_described : Int32} (hk189 : ∀ (x4 : Int32) (f_descriptions : Nat → Int32), K189 x4.toInt (zF f_descriptions) → ∀ (H : Heap) (locs : List Loc) (ls : Array Slot), kH (dC, dI) cl A s.heap H locs (wX47 ci ad d f_constants f_blanks f_counts f_points f_kept f_hashes f_news f_rounds f_hashed f_groups f_groupOf f_groupCount f_trial f_row f_names f_namedBlanks f_form f_formCount f_octets f_descriptions f_described f_message f_size f_words f_schedule f_thrown f_said) → lv_has ls 8 [(0, .ref (ad 0)), (1, .int x1), (2, .int x2), (3, .int x3), (4, .int x4), (5, .int x5)] → W p l e ({ frames := 1, cells := 0, slots := 0, locals := 21 } : Room) s m args below meth c H locs 0 0 (MQ below (va_Qv (fun (u : (Nat → Int32) × Int32) => post (zF (u.1)) (u.2).toInt) (kB (dC, dI) cl (tX47 d) A (fun u : (Nat → Int32) × Int32 => (wX47 ci ad d f_constants f_blanks f_counts f_points f_kept f_hashes f_news f_rounds f_hashed f_groups f_groupOf f_groupCount f_trial f_row f_names f_namedBlanks f_form f_formCount f_octets (u.1) (u.2) f_message f_size f_words f_schedule f_thrown f_said))) A) args s 0 0 A) (F0 m 189 ls [])) :
    ∀ (nn : Nat) (x4 : Int32) (x7 : Int32) (f_descriptions : Nat → Int32), wX47_describe_120 K189 x1.toInt x3.toInt x6.toInt (zG f_hashes) nn x4.toInt x7.toInt (zF f_descriptions) → ∀ (H : Heap) (locs : List Loc) (ls : Array Slot), kH (dC, dI) cl A s.heap H locs (wX47 ci ad d f_constants f_blanks f_counts f_points f_kept f_hashes f_news f_rounds f_hashed f_groups f_groupOf f_groupCount f_trial f_row f_names f_namedBlanks f_form f_formCount f_octets f_descriptions f_described f_message f_size f_words f_schedule f_thrown f_said) → lv_has ls 8 [(0, .ref (ad 0)), (1, .int x1), (2, .int x2), (3, .int x3), (4, .int x4), (5, .int x5), (6, .int x6), (7, .int x7)] → W p l e ({ frames := 1, cells := 0, slots := 0, locals := 21 } : Room) s m args below meth c H locs 0 0 (MQ below (va_Qv (fun (u : (Nat → Int32) × Int32) => post (zF (u.1)) (u.2).toInt) (kB (dC, dI) cl (tX47 d) A (fun u : (Nat → Int32) × Int32 => (wX47 ci ad d f_constants f_blanks f_counts f_points f_kept f_hashes f_news f_rounds f_hashed f_groups f_groupOf f_groupCount f_trial f_row f_names f_namedBlanks f_form f_formCount f_octets (u.1) (u.2) f_message f_size f_words f_schedule f_thrown f_said))) A) args s 0 0 A) (F0 m 120 ls []) := by
  have hx := X.1.1
  have hb := X.1.2.1
  intro nn
  induction nn with
  | zero =>
    intro x4 x7 f_descriptions hw
    exact False.elim hw
  | succ n ih =>
    intro x4 x7 f_descriptions hw H locs ls hH hl
    rw [wX47_describe_120] at hw
    refine lv_iload hx hb dX47_describe_120 (lv_at hl 7 rfl) ?_
    refine lv_bipush (v := 32) hx hb dX47_describe_122 (by decide) ?_
    refine lv_icmp_ge (tgt := 189) hx hb dX47_describe_124 (by decide) (fun c_43 => ?_) (fun c_43 => ?_)
    · have hw := hw.1 (z_le (rfl : (32 : Int32).toInt = 32) (rfl : x7.toInt = _) c_43)
      exact hk189 x4 f_descriptions hw _ _ ls hH (lv_sub hl [0, 1, 2, 3, 4, 5] rfl)
    · have hw := hw.2 (z_nle (rfl : (32 : Int32).toInt = 32) (rfl : x7.toInt = _) c_43)
      refine lv_iload hx hb dX47_describe_127 (lv_at hl 6 rfl) ?_
      refine lv_if_ge (tgt := 189) hx hb dX47_describe_129 (by decide) (fun c_44 => ?_) (fun c_44 => ?_)
      · have hw := hw.1 (z_le (rfl : (0 : Int32).toInt = 0) (rfl : x6.toInt = _) c_44)
        exact hk189 x4 f_descriptions hw _ _ ls hH (lv_sub hl [0, 1, 2, 3, 4, 5] rfl)
      · have hw := hw.2 (z_nle (rfl : (0 : Int32).toInt = 0) (rfl : x6.toInt = _) c_44)
        refine lv_iload hx hb dX47_describe_132 (lv_at hl 6 rfl) ?_
        refine lv_ineg hx hb dX47_describe_134 ?_
        have e_45 := z_neg (z_m (rfl : x6.toInt = _))
        refine lv_iload_n hx hb dX47_describe_135 rfl (lv_at hl 1 rfl) ?_
        have hq_47 := hw.1
        have hw := hw.2
        have e_48 := z_x e_45 hq_47
        refine lv_icmp_eq (tgt := 189) hx hb dX47_describe_136 (by decide) (fun c_46 => ?_) (fun c_46 => ?_)
        · have hw := hw.1 (z_eq e_48 (rfl : x1.toInt = _) c_46)
          exact hk189 x4 f_descriptions hw _ _ ls hH (lv_sub hl [0, 1, 2, 3, 4, 5] rfl)
        · have hw := hw.2 (z_neq e_48 (rfl : x1.toInt = _) c_46)
          refine lv_aload_n hx hb dX47_describe_139 rfl (lv_at hl 0 rfl) ?_
          refine k_get X hH in_X47 0 rfl hc 19 (by decide) q6003 rfl dX47_describe_140 ?_
          refine lv_iload_n hx hb dX47_describe_143 rfl (lv_at hl 3 rfl) ?_
          refine lv_iload hx hb dX47_describe_144 (lv_at hl 4 rfl) ?_
          refine lv_iadd hx hb dX47_describe_146 ?_
          have e_49 := z_add (z_m (rfl : x3.toInt = _)) (z_m (rfl : x4.toInt = _))
          refine lv_aload_n hx hb dX47_describe_147 rfl (lv_at hl 0 rfl) ?_
          refine k_get X hH in_X47 0 rfl hc 5 (by decide) q5989 rfl dX47_describe_148 ?_
          refine lv_bipush (v := 8) hx hb dX47_describe_151 (by decide) ?_
          refine lv_iload hx hb dX47_describe_153 (lv_at hl 6 rfl) ?_
          refine lv_ineg hx hb dX47_describe_155 ?_
          have e_50 := z_neg (z_m (rfl : x6.toInt = _))
          refine lv_imul hx hb dX47_describe_156 ?_
          have e_51 := z_mul (z_m (rfl : (8 : Int32).toInt = 8)) e_50
          refine lv_iload hx hb dX47_describe_157 (lv_at hl 7 rfl) ?_
          refine lv_iconst (v := 4) hx hb dX47_describe_159 (by decide) ?_
          have hq_52 := hw.1
          have hw := hw.2
          refine lv_idiv hx hb dX47_describe_160 (by decide) ?_
          have e_53 := z_div (rfl : x7.toInt = _) (rfl : (4 : Int32).toInt = 4) hq_52 (by decide)
          refine lv_iadd hx hb dX47_describe_161 ?_
          have e_54 := z_add e_51 (z_m e_53)
          have hq_55 := hw.1
          have hw := hw.2
          have e_56 := z_xi e_54 hq_55 (by decide)
          refine k_lald X hH 5 4 rfl rfl (z_in e_56 hq_55) dX47_describe_162 ?_
          have e_57 := z_ldL (f := f_hashes) e_56 hq_55.1
          refine lv_bipush (v := 24) hx hb dX47_describe_163 (by decide) ?_
          refine lv_bipush (v := 8) hx hb dX47_describe_165 (by decide) ?_
          refine lv_iload hx hb dX47_describe_167 (lv_at hl 7 rfl) ?_
          refine lv_iconst (v := 4) hx hb dX47_describe_169 (by decide) ?_
          refine lv_irem hx hb dX47_describe_170 (by decide) ?_
          have e_58 := z_rem (rfl : x7.toInt = _) (rfl : (4 : Int32).toInt = 4) hq_52 (by decide)
          refine lv_imul hx hb dX47_describe_171 ?_
          have e_59 := z_mul (z_m (rfl : (8 : Int32).toInt = 8)) (z_m e_58)
          refine lv_isub hx hb dX47_describe_172 ?_
          have e_60 := z_sub (z_m (rfl : (24 : Int32).toInt = 24)) e_59
          have hq_61 := hw.1
          have hw := hw.2
          have e_62 := z_x e_60 hq_61
          refine lv_lshr (v := (f_hashes ((8 * (-x6)) + (x7 / 4)).toNatClampNeg) >>> ((24 - (8 * (x7 - x7 / 4 * 4))).toInt64 &&& 63)) hx hb dX47_describe_173 rfl ?_
          have hq_63 := hw.1
          have hw := hw.2
          have e_64 := zL_shrV e_57 e_62 hq_63
          refine lv_ldc2 (v := 255) hx hb X.1.2.2.2.1 (X.1.2.2.2.2 _ q7444) dX47_describe_174 ?_
          refine lv_land hx hb dX47_describe_177 ?_
          have e_65 := zL_mask (zL_m e_64) (k := 8) (mm := 255) (c := 256) (by decide)
          refine lv_l2i (v := (((f_hashes ((8 * (-x6)) + (x7 / 4)).toNatClampNeg) >>> ((24 - (8 * (x7 - x7 / 4 * 4))).toInt64 &&& 63)) &&& 255).toInt32) hx hb dX47_describe_178 rfl ?_
          have e_66 := z_l2iM (zL_m e_65)
          have hq_67 := hw.1
          have hw := hw.2
          have e_68 := z_x e_66 hq_67
          refine lv_topi (fun v_69 ev_69 => ?_)
          have hw := hw v_69.toInt (by rw [ev_69]; exact e_68)
          have hq_71 := hw.1
          have hw := hw.2
          have e_72 := z_xi e_49 hq_71 (by decide)
          obtain ⟨f_descriptions_70, ef_descriptions_70⟩ : ∃ y : Nat → Int32, y = upd f_descriptions (x3 + x4).toNatClampNeg v_69 := ⟨_, rfl⟩
          refine k_iast X hH 14 13 rfl rfl (z_in e_72 hq_71) dX47_describe_179 ef_descriptions_70 (ws1 := (wX47 ci ad d f_constants f_blanks f_counts f_points f_kept f_hashes f_news f_rounds f_hashed f_groups f_groupOf f_groupCount f_trial f_row f_names f_namedBlanks f_form f_formCount f_octets f_descriptions_70 f_described f_message f_size f_words f_schedule f_thrown f_said)) rfl (fun H locs hH => ?_)
          have hw := hw (zF f_descriptions_70) (by rw [ef_descriptions_70]; exact z_st (f := f_descriptions) e_72 hq_71.1 (rfl : v_69.toInt = _))
          have hq_74 := hw.1
          have hw := hw.2
          obtain ⟨x4_73, ex4_73⟩ : ∃ y : Int32, y = x4 + 1 := ⟨_, rfl⟩
          have hw := hw x4_73.toInt (by rw [ex4_73]; exact (z_x (z_add (z_m (rfl : x4.toInt = _)) (z_m (rfl : (1 : Int32).toInt = 1))) hq_74))
          refine lv_iinc (v := x4_73) (lv' := [(4, .int x4_73), (0, .ref (ad 0)), (1, .int x1), (2, .int x2), (3, .int x3), (5, .int x5), (6, .int x6), (7, .int x7)]) hx hb dX47_describe_180 hl (k := 4) rfl (by rw [ex4_73]; rfl) (by decide) rfl (fun ls hl => ?_)
          have hq_76 := hw.1
          have hw := hw.2
          obtain ⟨x7_75, ex7_75⟩ : ∃ y : Int32, y = x7 + 1 := ⟨_, rfl⟩
          have hw := hw x7_75.toInt (by rw [ex7_75]; exact (z_x (z_add (z_m (rfl : x7.toInt = _)) (z_m (rfl : (1 : Int32).toInt = 1))) hq_76))
          refine lv_iinc (v := x7_75) (lv' := [(7, .int x7_75), (4, .int x4_73), (0, .ref (ad 0)), (1, .int x1), (2, .int x2), (3, .int x3), (5, .int x5), (6, .int x6)]) hx hb dX47_describe_183 hl (k := 7) rfl (by rw [ex7_75]; rfl) (by decide) rfl (fun ls hl => ?_)
          refine lv_goto (tgt := 120) hx hb dX47_describe_186 (by decide) ?_
          exact ih x4_73 x7_75 f_descriptions_70 hw _ _ ls hH (lv_sub hl [2, 3, 4, 5, 1, 6, 7, 0] rfl)
set_option maxHeartbeats 4000000 in
theorem atX47_describe_15 {p : Program} {l : Launch} {e : Env} {s : State} {m : MethodId} {args : Array Value} {below : List Frame} {meth : Method} {c : Code} {dC : Nat → ClassId} {dI : Nat → Nat → Nat} {cl : List vw_C} {ci : Nat} (hc : cl[ci]? = some (RX47, TX47, 27)) {ad : Nat → Nat} {d : Nat → ClassId} {A : Nat → Prop} {post : (Int → Int) → Int → Prop} {f_constants : Nat → Int64} {f_blanks : Nat → Int32} {f_counts : Nat → Int32} {f_points : Nat → Int32} {f_kept : Int32} {f_hashes : Nat → Int64} {f_news : Nat → Int64} {f_rounds : Int32} {f_hashed : Int32} {f_groups : Nat → Int32} {f_groupOf : Nat → Int32} {f_groupCount : Int32} {f_trial : Nat → Int32} {f_row : Nat → Int32} {f_names : Nat → Int32} {f_namedBlanks : Int32} {f_form : Nat → Int32} {f_formCount : Int32} {f_octets : Nat → Int32} {f_message : Nat → Int32} {f_size : Int32} {f_words : Nat → Int64} {f_schedule : Nat → Int64} {f_thrown : Int32} {f_said : Nat → Int32} (X : kX p s m args meth c cX47_describe 8 RX47 none (dC, dI) cl (tX47 d)) {K195 : Int → (Int → Int) → Prop} {x1 : Int32} {x2 : Int32} {x3 : Int32} {f_described : Int32} (hk195 : ∀ (x4 : Int32) (f_descriptions : Nat → Int32), K195 x4.toInt (zF f_descriptions) → ∀ (H : Heap) (locs : List Loc) (ls : Array Slot), kH (dC, dI) cl A s.heap H locs (wX47 ci ad d f_constants f_blanks f_counts f_points f_kept f_hashes f_news f_rounds f_hashed f_groups f_groupOf f_groupCount f_trial f_row f_names f_namedBlanks f_form f_formCount f_octets f_descriptions f_described f_message f_size f_words f_schedule f_thrown f_said) → lv_has ls 8 [(0, .ref (ad 0)), (3, .int x3), (4, .int x4)] → W p l e ({ frames := 1, cells := 0, slots := 0, locals := 21 } : Room) s m args below meth c H locs 0 0 (MQ below (va_Qv (fun (u : (Nat → Int32) × Int32) => post (zF (u.1)) (u.2).toInt) (kB (dC, dI) cl (tX47 d) A (fun u : (Nat → Int32) × Int32 => (wX47 ci ad d f_constants f_blanks f_counts f_points f_kept f_hashes f_news f_rounds f_hashed f_groups f_groupOf f_groupCount f_trial f_row f_names f_namedBlanks f_form f_formCount f_octets (u.1) (u.2) f_message f_size f_words f_schedule f_thrown f_said))) A) args s 0 0 A) (F0 m 195 ls [])) :
    ∀ (nn : Nat) (x4 : Int32) (x5 : Int32) (f_descriptions : Nat → Int32), wX47_describe_15 K195 x1.toInt x2.toInt x3.toInt (zF f_points) (zG f_hashes) nn x4.toInt x5.toInt (zF f_descriptions) → ∀ (H : Heap) (locs : List Loc) (ls : Array Slot), kH (dC, dI) cl A s.heap H locs (wX47 ci ad d f_constants f_blanks f_counts f_points f_kept f_hashes f_news f_rounds f_hashed f_groups f_groupOf f_groupCount f_trial f_row f_names f_namedBlanks f_form f_formCount f_octets f_descriptions f_described f_message f_size f_words f_schedule f_thrown f_said) → lv_has ls 8 [(0, .ref (ad 0)), (1, .int x1), (2, .int x2), (3, .int x3), (4, .int x4), (5, .int x5)] → W p l e ({ frames := 1, cells := 0, slots := 0, locals := 21 } : Room) s m args below meth c H locs 0 0 (MQ below (va_Qv (fun (u : (Nat → Int32) × Int32) => post (zF (u.1)) (u.2).toInt) (kB (dC, dI) cl (tX47 d) A (fun u : (Nat → Int32) × Int32 => (wX47 ci ad d f_constants f_blanks f_counts f_points f_kept f_hashes f_news f_rounds f_hashed f_groups f_groupOf f_groupCount f_trial f_row f_names f_namedBlanks f_form f_formCount f_octets (u.1) (u.2) f_message f_size f_words f_schedule f_thrown f_said))) A) args s 0 0 A) (F0 m 15 ls []) := by
  have hx := X.1.1
  have hb := X.1.2.1
  intro nn
  induction nn with
  | zero =>
    intro x4 x5 f_descriptions hw
    exact False.elim hw
  | succ n ih =>
    intro x4 x5 f_descriptions hw H locs ls hH hl
    rw [wX47_describe_15] at hw
    refine lv_iload hx hb dX47_describe_15 (lv_at hl 5 rfl) ?_
    refine lv_iconst (v := 3) hx hb dX47_describe_17 (by decide) ?_
    refine lv_icmp_ge (tgt := 195) hx hb dX47_describe_18 (by decide) (fun c_5 => ?_) (fun c_5 => ?_)
    · have hw := hw.1 (z_le (rfl : (3 : Int32).toInt = 3) (rfl : x5.toInt = _) c_5)
      exact hk195 x4 f_descriptions hw _ _ ls hH (lv_sub hl [0, 3, 4] rfl)
    · have hw := hw.2 (z_nle (rfl : (3 : Int32).toInt = 3) (rfl : x5.toInt = _) c_5)
      refine lv_aload_n hx hb dX47_describe_21 rfl (lv_at hl 0 rfl) ?_
      refine k_get X hH in_X47 0 rfl hc 3 (by decide) q5987 rfl dX47_describe_22 ?_
      refine lv_bipush (v := 8) hx hb dX47_describe_25 (by decide) ?_
      refine lv_iload_n hx hb dX47_describe_27 rfl (lv_at hl 2 rfl) ?_
      refine k_i0 hH (k_runS (As := [.int 8, .int x2]) (rest := [.ref (ad 4)]) X hH.1 hH.2.1 X.2.2.2 (walkX47_at hc (x0 := 8) (x1 := x2) (f_constants := f_constants) (f_blanks := f_blanks) (f_counts := f_counts) (f_points := f_points) (f_kept := f_kept) (f_hashes := f_hashes) (f_news := f_news) (f_rounds := f_rounds) (f_hashed := f_hashed) (f_groups := f_groups) (f_groupOf := f_groupOf) (f_groupCount := f_groupCount) (f_trial := f_trial) (f_row := f_row) (f_names := f_names) (f_namedBlanks := f_namedBlanks) (f_form := f_form) (f_formCount := f_formCount) (f_octets := f_octets) (f_descriptions := f_descriptions) (f_described := f_described) (f_message := f_message) (f_size := f_size) (f_words := f_words) (f_schedule := f_schedule) (f_thrown := f_thrown) (f_said := f_said) hw) (va_cwS 2 X.1.2.2.2.2 gX47_245 rfl rfl rfl hX47_at ⟨Nat.le_of_ble_eq_true rfl, Nat.le_of_ble_eq_true rfl⟩) rfl hl.1 rfl (Nat.le_of_ble_eq_true rfl) dX47_describe_28 ⟨Nat.le_refl 0, Nat.le_refl 0⟩) (fun r_6 _ H locs hw hH => ?_)
      have hH : kH (dC, dI) cl A s.heap H locs (wX47 ci ad d f_constants f_blanks f_counts f_points f_kept f_hashes f_news f_rounds f_hashed f_groups f_groupOf f_groupCount f_trial f_row f_names f_namedBlanks f_form f_formCount f_octets f_descriptions f_described f_message f_size f_words f_schedule f_thrown f_said) := hH
      refine lv_iload hx hb dX47_describe_31 (lv_at hl 5 rfl) ?_
      refine lv_iadd hx hb dX47_describe_33 ?_
      have e_7 := z_add (z_m (rfl : r_6.toInt = _)) (z_m (rfl : x5.toInt = _))
      have hq_8 := hw.1
      have hw := hw.2
      have e_9 := z_xi e_7 hq_8 (by decide)
      refine k_iald X hH 4 3 rfl rfl (z_in e_9 hq_8) dX47_describe_34 ?_
      have e_10 := z_ld (f := f_points) e_9 hq_8.1
      refine lv_topi (fun x6_11 ex6_11 => ?_)
      have hw := hw x6_11.toInt (by rw [ex6_11]; exact e_10)
      refine lv_istore (lv' := [(6, .int x6_11), (0, .ref (ad 0)), (1, .int x1), (2, .int x2), (3, .int x3), (4, .int x4), (5, .int x5)]) hx hb dX47_describe_35 hl (by decide) rfl (fun ls hl => ?_)
      refine lv_aload_n hx hb dX47_describe_37 rfl (lv_at hl 1 rfl) ?_
      refine k_get X hH in_X47 0 rfl hc 19 (by decide) q6003 rfl dX47_describe_38 ?_
      refine lv_iload_n hx hb dX47_describe_41 rfl (lv_at hl 4 rfl) ?_
      refine lv_iload hx hb dX47_describe_42 (lv_at hl 5 rfl) ?_
      refine lv_iadd hx hb dX47_describe_44 ?_
      have e_12 := z_add (z_m (rfl : x3.toInt = _)) (z_m (rfl : x4.toInt = _))
      refine lv_iload hx hb dX47_describe_45 (lv_at hl 0 rfl) ?_
      refine lv_if_le (tgt := 54) hx hb dX47_describe_47 (by decide) (fun c_13 => ?_) (fun c_13 => ?_)
      · have hw := hw.1 (z_le (rfl : x6_11.toInt = _) (rfl : (0 : Int32).toInt = 0) c_13)
        refine lv_iload hx hb dX47_describe_54 (lv_at hl 0 rfl) ?_
        refine lv_ineg hx hb dX47_describe_56 ?_
        have e_14 := z_neg (z_m (rfl : x6_11.toInt = _))
        refine lv_iload_n hx hb dX47_describe_57 rfl (lv_at hl 2 rfl) ?_
        have hq_16 := hw.1
        have hw := hw.2
        have e_17 := z_x e_14 hq_16
        refine lv_icmp_ne (tgt := 65) hx hb dX47_describe_58 (by decide) (fun c_15 => ?_) (fun c_15 => ?_)
        · have hw := hw.2 (z_ne e_17 (rfl : x1.toInt = _) c_15)
          refine lv_iconst (v := 2) hx hb dX47_describe_65 (by decide) ?_
          have hq_19 := hw.1
          have hw := hw.2
          have e_20 := z_xi e_12 hq_19 (by decide)
          obtain ⟨f_descriptions_18, ef_descriptions_18⟩ : ∃ y : Nat → Int32, y = upd f_descriptions (x3 + x4).toNatClampNeg 2 := ⟨_, rfl⟩
          refine k_iast X hH 14 13 rfl rfl (z_in e_20 hq_19) dX47_describe_66 ef_descriptions_18 (ws1 := (wX47 ci ad d f_constants f_blanks f_counts f_points f_kept f_hashes f_news f_rounds f_hashed f_groups f_groupOf f_groupCount f_trial f_row f_names f_namedBlanks f_form f_formCount f_octets f_descriptions_18 f_described f_message f_size f_words f_schedule f_thrown f_said)) rfl (fun H locs hH => ?_)
          have hw := hw (zF f_descriptions_18) (by rw [ef_descriptions_18]; exact z_st (f := f_descriptions) e_20 hq_19.1 (rfl : (2 : Int32).toInt = 2))
          have hq_22 := hw.1
          have hw := hw.2
          obtain ⟨x4_21, ex4_21⟩ : ∃ y : Int32, y = x4 + 1 := ⟨_, rfl⟩
          have hw := hw x4_21.toInt (by rw [ex4_21]; exact (z_x (z_add (z_m (rfl : x4.toInt = _)) (z_m (rfl : (1 : Int32).toInt = 1))) hq_22))
          refine lv_iinc (v := x4_21) (lv' := [(4, .int x4_21), (6, .int x6_11), (0, .ref (ad 0)), (1, .int x1), (2, .int x2), (3, .int x3), (5, .int x5)]) hx hb dX47_describe_67 hl (k := 5) rfl (by rw [ex4_21]; rfl) (by decide) rfl (fun ls hl => ?_)
          refine lv_iconst (v := 0) hx hb dX47_describe_70 (by decide) ?_
          refine lv_istore (lv' := [(7, .int 0), (4, .int x4_21), (6, .int x6_11), (0, .ref (ad 0)), (1, .int x1), (2, .int x2), (3, .int x3), (5, .int x5)]) hx hb dX47_describe_71 hl (by decide) rfl (fun ls hl => ?_)
          obtain ⟨fu, hw⟩ := hw
          refine atX47_describe_73 hc X ?_ fu x4_21 0 f_descriptions_18 hw _ _ ls hH (lv_sub hl [3, 4, 5, 6, 1, 7, 2, 0] rfl)
          · intro x4_41 f_descriptions_42 hw H locs ls hH hl
            refine lv_iconst (v := 0) hx hb dX47_describe_117 (by decide) ?_
            refine lv_istore (lv' := [(7, .int 0), (0, .ref (ad 0)), (1, .int x1), (2, .int x2), (3, .int x3), (4, .int x4_41), (5, .int x5), (6, .int x6_11)]) hx hb dX47_describe_118 hl (by decide) rfl (fun ls hl => ?_)
            obtain ⟨fu, hw⟩ := hw
            refine atX47_describe_120 hc X ?_ fu x4_41 0 f_descriptions_42 hw _ _ ls hH (lv_sub hl [1, 2, 3, 4, 5, 6, 7, 0] rfl)
            · intro x4_77 f_descriptions_78 hw H locs ls hH hl
              have hq_80 := hw.1
              have hw := hw.2
              obtain ⟨x5_79, ex5_79⟩ : ∃ y : Int32, y = x5 + 1 := ⟨_, rfl⟩
              have hw := hw x5_79.toInt (by rw [ex5_79]; exact (z_x (z_add (z_m (rfl : x5.toInt = _)) (z_m (rfl : (1 : Int32).toInt = 1))) hq_80))
              refine lv_iinc (v := x5_79) (lv' := [(5, .int x5_79), (0, .ref (ad 0)), (1, .int x1), (2, .int x2), (3, .int x3), (4, .int x4_77)]) hx hb dX47_describe_189 hl (k := 5) rfl (by rw [ex5_79]; rfl) (by decide) rfl (fun ls hl => ?_)
              refine lv_goto (tgt := 15) hx hb dX47_describe_192 (by decide) ?_
              exact ih x4_77 x5_79 f_descriptions_78 hw _ _ ls hH (lv_sub hl [1, 2, 3, 4, 5, 0] rfl)
        · have hw := hw.1 (z_eq e_17 (rfl : x1.toInt = _) c_15)
          refine lv_iconst (v := 1) hx hb dX47_describe_61 (by decide) ?_
          refine lv_goto (tgt := 66) hx hb dX47_describe_62 (by decide) ?_
          have hq_82 := hw.1
          have hw := hw.2
          have e_83 := z_xi e_12 hq_82 (by decide)
          obtain ⟨f_descriptions_81, ef_descriptions_81⟩ : ∃ y : Nat → Int32, y = upd f_descriptions (x3 + x4).toNatClampNeg 1 := ⟨_, rfl⟩
          refine k_iast X hH 14 13 rfl rfl (z_in e_83 hq_82) dX47_describe_66 ef_descriptions_81 (ws1 := (wX47 ci ad d f_constants f_blanks f_counts f_points f_kept f_hashes f_news f_rounds f_hashed f_groups f_groupOf f_groupCount f_trial f_row f_names f_namedBlanks f_form f_formCount f_octets f_descriptions_81 f_described f_message f_size f_words f_schedule f_thrown f_said)) rfl (fun H locs hH => ?_)
          have hw := hw (zF f_descriptions_81) (by rw [ef_descriptions_81]; exact z_st (f := f_descriptions) e_83 hq_82.1 (rfl : (1 : Int32).toInt = 1))
          have hq_85 := hw.1
          have hw := hw.2
          obtain ⟨x4_84, ex4_84⟩ : ∃ y : Int32, y = x4 + 1 := ⟨_, rfl⟩
          have hw := hw x4_84.toInt (by rw [ex4_84]; exact (z_x (z_add (z_m (rfl : x4.toInt = _)) (z_m (rfl : (1 : Int32).toInt = 1))) hq_85))
          refine lv_iinc (v := x4_84) (lv' := [(4, .int x4_84), (6, .int x6_11), (0, .ref (ad 0)), (1, .int x1), (2, .int x2), (3, .int x3), (5, .int x5)]) hx hb dX47_describe_67 hl (k := 5) rfl (by rw [ex4_84]; rfl) (by decide) rfl (fun ls hl => ?_)
          refine lv_iconst (v := 0) hx hb dX47_describe_70 (by decide) ?_
          refine lv_istore (lv' := [(7, .int 0), (4, .int x4_84), (6, .int x6_11), (0, .ref (ad 0)), (1, .int x1), (2, .int x2), (3, .int x3), (5, .int x5)]) hx hb dX47_describe_71 hl (by decide) rfl (fun ls hl => ?_)
          obtain ⟨fu, hw⟩ := hw
          refine atX47_describe_73 hc X ?_ fu x4_84 0 f_descriptions_81 hw _ _ ls hH (lv_sub hl [3, 4, 5, 6, 1, 7, 2, 0] rfl)
          · intro x4_86 f_descriptions_87 hw H locs ls hH hl
            refine lv_iconst (v := 0) hx hb dX47_describe_117 (by decide) ?_
            refine lv_istore (lv' := [(7, .int 0), (0, .ref (ad 0)), (1, .int x1), (2, .int x2), (3, .int x3), (4, .int x4_86), (5, .int x5), (6, .int x6_11)]) hx hb dX47_describe_118 hl (by decide) rfl (fun ls hl => ?_)
            obtain ⟨fu, hw⟩ := hw
            refine atX47_describe_120 hc X ?_ fu x4_86 0 f_descriptions_87 hw _ _ ls hH (lv_sub hl [1, 2, 3, 4, 5, 6, 7, 0] rfl)
            · intro x4_88 f_descriptions_89 hw H locs ls hH hl
              have hq_91 := hw.1
              have hw := hw.2
              obtain ⟨x5_90, ex5_90⟩ : ∃ y : Int32, y = x5 + 1 := ⟨_, rfl⟩
              have hw := hw x5_90.toInt (by rw [ex5_90]; exact (z_x (z_add (z_m (rfl : x5.toInt = _)) (z_m (rfl : (1 : Int32).toInt = 1))) hq_91))
              refine lv_iinc (v := x5_90) (lv' := [(5, .int x5_90), (0, .ref (ad 0)), (1, .int x1), (2, .int x2), (3, .int x3), (4, .int x4_88)]) hx hb dX47_describe_189 hl (k := 5) rfl (by rw [ex5_90]; rfl) (by decide) rfl (fun ls hl => ?_)
              refine lv_goto (tgt := 15) hx hb dX47_describe_192 (by decide) ?_
              exact ih x4_88 x5_90 f_descriptions_89 hw _ _ ls hH (lv_sub hl [1, 2, 3, 4, 5, 0] rfl)
      · have hw := hw.2 (z_nle (rfl : x6_11.toInt = _) (rfl : (0 : Int32).toInt = 0) c_13)
        refine lv_iconst (v := 0) hx hb dX47_describe_50 (by decide) ?_
        refine lv_goto (tgt := 66) hx hb dX47_describe_51 (by decide) ?_
        have hq_93 := hw.1
        have hw := hw.2
        have e_94 := z_xi e_12 hq_93 (by decide)
        obtain ⟨f_descriptions_92, ef_descriptions_92⟩ : ∃ y : Nat → Int32, y = upd f_descriptions (x3 + x4).toNatClampNeg 0 := ⟨_, rfl⟩
        refine k_iast X hH 14 13 rfl rfl (z_in e_94 hq_93) dX47_describe_66 ef_descriptions_92 (ws1 := (wX47 ci ad d f_constants f_blanks f_counts f_points f_kept f_hashes f_news f_rounds f_hashed f_groups f_groupOf f_groupCount f_trial f_row f_names f_namedBlanks f_form f_formCount f_octets f_descriptions_92 f_described f_message f_size f_words f_schedule f_thrown f_said)) rfl (fun H locs hH => ?_)
        have hw := hw (zF f_descriptions_92) (by rw [ef_descriptions_92]; exact z_st (f := f_descriptions) e_94 hq_93.1 (rfl : (0 : Int32).toInt = 0))
        have hq_96 := hw.1
        have hw := hw.2
        obtain ⟨x4_95, ex4_95⟩ : ∃ y : Int32, y = x4 + 1 := ⟨_, rfl⟩
        have hw := hw x4_95.toInt (by rw [ex4_95]; exact (z_x (z_add (z_m (rfl : x4.toInt = _)) (z_m (rfl : (1 : Int32).toInt = 1))) hq_96))
        refine lv_iinc (v := x4_95) (lv' := [(4, .int x4_95), (6, .int x6_11), (0, .ref (ad 0)), (1, .int x1), (2, .int x2), (3, .int x3), (5, .int x5)]) hx hb dX47_describe_67 hl (k := 5) rfl (by rw [ex4_95]; rfl) (by decide) rfl (fun ls hl => ?_)
        refine lv_iconst (v := 0) hx hb dX47_describe_70 (by decide) ?_
        refine lv_istore (lv' := [(7, .int 0), (4, .int x4_95), (6, .int x6_11), (0, .ref (ad 0)), (1, .int x1), (2, .int x2), (3, .int x3), (5, .int x5)]) hx hb dX47_describe_71 hl (by decide) rfl (fun ls hl => ?_)
        obtain ⟨fu, hw⟩ := hw
        refine atX47_describe_73 hc X ?_ fu x4_95 0 f_descriptions_92 hw _ _ ls hH (lv_sub hl [3, 4, 5, 6, 1, 7, 2, 0] rfl)
        · intro x4_97 f_descriptions_98 hw H locs ls hH hl
          refine lv_iconst (v := 0) hx hb dX47_describe_117 (by decide) ?_
          refine lv_istore (lv' := [(7, .int 0), (0, .ref (ad 0)), (1, .int x1), (2, .int x2), (3, .int x3), (4, .int x4_97), (5, .int x5), (6, .int x6_11)]) hx hb dX47_describe_118 hl (by decide) rfl (fun ls hl => ?_)
          obtain ⟨fu, hw⟩ := hw
          refine atX47_describe_120 hc X ?_ fu x4_97 0 f_descriptions_98 hw _ _ ls hH (lv_sub hl [1, 2, 3, 4, 5, 6, 7, 0] rfl)
          · intro x4_99 f_descriptions_100 hw H locs ls hH hl
            have hq_102 := hw.1
            have hw := hw.2
            obtain ⟨x5_101, ex5_101⟩ : ∃ y : Int32, y = x5 + 1 := ⟨_, rfl⟩
            have hw := hw x5_101.toInt (by rw [ex5_101]; exact (z_x (z_add (z_m (rfl : x5.toInt = _)) (z_m (rfl : (1 : Int32).toInt = 1))) hq_102))
            refine lv_iinc (v := x5_101) (lv' := [(5, .int x5_101), (0, .ref (ad 0)), (1, .int x1), (2, .int x2), (3, .int x3), (4, .int x4_99)]) hx hb dX47_describe_189 hl (k := 5) rfl (by rw [ex5_101]; rfl) (by decide) rfl (fun ls hl => ?_)
            refine lv_goto (tgt := 15) hx hb dX47_describe_192 (by decide) ?_
            exact ih x4_99 x5_101 f_descriptions_100 hw _ _ ls hH (lv_sub hl [1, 2, 3, 4, 5, 0] rfl)
set_option maxHeartbeats 4000000 in
theorem walkX47_describe {l : Launch} {dC : Nat → ClassId} {dI : Nat → Nat → Nat} {cl : List vw_C} {ci : Nat} (hc : cl[ci]? = some (RX47, TX47, 27)) {ad : Nat → Nat} {d : Nat → ClassId} {sz : Nat} {f_constants : Nat → Int64} {f_blanks : Nat → Int32} {f_counts : Nat → Int32} {f_points : Nat → Int32} {f_kept : Int32} {f_hashes : Nat → Int64} {f_news : Nat → Int64} {f_rounds : Int32} {f_hashed : Int32} {f_groups : Nat → Int32} {f_groupOf : Nat → Int32} {f_groupCount : Int32} {f_trial : Nat → Int32} {f_row : Nat → Int32} {f_names : Nat → Int32} {f_namedBlanks : Int32} {f_form : Nat → Int32} {f_formCount : Int32} {f_octets : Nat → Int32} {f_descriptions : Nat → Int32} {f_described : Int32} {f_message : Nat → Int32} {f_size : Int32} {f_words : Nat → Int64} {f_schedule : Nat → Int64} {f_thrown : Int32} {f_said : Nat → Int32} {x1 : Int32} {x2 : Int32} {post : (Int → Int) → Int → Prop} (hw : wpX47_describe post (zF f_points) (zG f_hashes) (zF f_descriptions) f_described.toInt x1.toInt x2.toInt) :
    Met l yX47_describe (ws_ yX47_describe cX47_describe 8 none) ({ frames := 1, cells := 0, slots := 0, locals := 21 } : Room) (kPc (dC, dI) cl (tX47 d) [.ref (ad 0), .int x1, .int x2] sz (wX47 ci ad d f_constants f_blanks f_counts f_points f_kept f_hashes f_news f_rounds f_hashed f_groups f_groupOf f_groupCount f_trial f_row f_names f_namedBlanks f_form f_formCount f_octets f_descriptions f_described f_message f_size f_words f_schedule f_thrown f_said)) (va_Qv (fun (u : (Nat → Int32) × Int32) => post (zF (u.1)) (u.2).toInt) (kB (dC, dI) cl (tX47 d) (va_A (wX47 ci ad d f_constants f_blanks f_counts f_points f_kept f_hashes f_news f_rounds f_hashed f_groups f_groupOf f_groupCount f_trial f_row f_names f_namedBlanks f_form f_formCount f_octets f_descriptions f_described f_message f_size f_words f_schedule f_thrown f_said) sz) (fun u : (Nat → Int32) × Int32 => (wX47 ci ad d f_constants f_blanks f_counts f_points f_kept f_hashes f_news f_rounds f_hashed f_groups f_groupOf f_groupCount f_trial f_row f_names f_namedBlanks f_form f_formCount f_octets (u.1) (u.2) f_message f_size f_words f_schedule f_thrown f_said))) (va_A (wX47 ci ad d f_constants f_blanks f_counts f_points f_kept f_hashes f_news f_rounds f_hashed f_groups f_groupOf f_groupCount f_trial f_row f_names f_namedBlanks f_form f_formCount f_octets f_descriptions f_described f_message f_size f_words f_schedule f_thrown f_said) sz)) 0 0 (va_A (wX47 ci ad d f_constants f_blanks f_counts f_points f_kept f_hashes f_news f_rounds f_hashed f_groups f_groupOf f_groupCount f_trial f_row f_names f_namedBlanks f_form f_formCount f_octets f_descriptions f_described f_message f_size f_words f_schedule f_thrown f_said) sz) := by
  refine k_enter (by decide) (Nat.le_of_ble_eq_true rfl) ?_
  intro p e s m below meth c ls X hsz hH hl
  subst hsz
  generalize va_A (wX47 ci ad d f_constants f_blanks f_counts f_points f_kept f_hashes f_news f_rounds f_hashed f_groups f_groupOf f_groupCount f_trial f_row f_names f_namedBlanks f_form f_formCount f_octets f_descriptions f_described f_message f_size f_words f_schedule f_thrown f_said) s.heap.size = A at hH ⊢
  have hx := X.1.1
  have hb := X.1.2.1
  have hl : lv_has ls 8 [(0, .ref (ad 0)), (1, .int x1), (2, .int x2)] := hl
  unfold wpX47_describe at hw
  refine lv_sipush (v := 128) hx hb dX47_describe_0 (by decide) ?_
  refine lv_aload_n hx hb dX47_describe_3 rfl (lv_at hl 0 rfl) ?_
  refine k_get X hH in_X47 0 rfl hc 20 (by decide) q6004 rfl dX47_describe_4 ?_
  refine lv_imul hx hb dX47_describe_7 ?_
  have e_1 := z_mul (z_m (rfl : (128 : Int32).toInt = 128)) (z_m (rfl : f_described.toInt = _))
  have hq_2 := hw.1
  have hw := hw.2
  have e_3 := z_x e_1 hq_2
  refine lv_topi (fun x3_4 ex3_4 => ?_)
  have hw := hw x3_4.toInt (by rw [ex3_4]; exact e_3)
  refine lv_istore_n (lv' := [(3, .int x3_4), (0, .ref (ad 0)), (1, .int x1), (2, .int x2)]) hx hb dX47_describe_8 rfl hl (by decide) rfl (fun ls hl => ?_)
  refine lv_iconst (v := 1) hx hb dX47_describe_9 (by decide) ?_
  refine lv_istore (lv' := [(4, .int 1), (3, .int x3_4), (0, .ref (ad 0)), (1, .int x1), (2, .int x2)]) hx hb dX47_describe_10 hl (by decide) rfl (fun ls hl => ?_)
  refine lv_iconst (v := 0) hx hb dX47_describe_12 (by decide) ?_
  refine lv_istore (lv' := [(5, .int 0), (4, .int 1), (3, .int x3_4), (0, .ref (ad 0)), (1, .int x1), (2, .int x2)]) hx hb dX47_describe_13 hl (by decide) rfl (fun ls hl => ?_)
  obtain ⟨fu, hw⟩ := hw
  refine atX47_describe_15 hc X ?_ fu 1 0 f_descriptions hw _ _ ls hH (lv_sub hl [3, 4, 5, 2, 1, 0] rfl)
  · intro x4_103 f_descriptions_104 hw H locs ls hH hl
    refine lv_aload_n hx hb dX47_describe_195 rfl (lv_at hl 0 rfl) ?_
    refine k_get X hH in_X47 0 rfl hc 19 (by decide) q6003 rfl dX47_describe_196 ?_
    refine lv_iload_n hx hb dX47_describe_199 rfl (lv_at hl 1 rfl) ?_
    refine lv_iload hx hb dX47_describe_200 (lv_at hl 2 rfl) ?_
    refine lv_iconst (v := 1) hx hb dX47_describe_202 (by decide) ?_
    refine lv_isub hx hb dX47_describe_203 ?_
    have e_105 := z_sub (z_m (rfl : x4_103.toInt = _)) (z_m (rfl : (1 : Int32).toInt = 1))
    have hq_106 := hw.1
    have hw := hw.2
    have e_107 := z_x e_105 hq_106
    refine lv_topi (fun v_108 ev_108 => ?_)
    have hw := hw v_108.toInt (by rw [ev_108]; exact e_107)
    have hq_110 := hw.1
    have hw := hw.2
    obtain ⟨f_descriptions_109, ef_descriptions_109⟩ : ∃ y : Nat → Int32, y = upd f_descriptions_104 x3_4.toNatClampNeg v_108 := ⟨_, rfl⟩
    refine k_iast X hH 14 13 rfl rfl (z_in (rfl : x3_4.toInt = _) hq_110) dX47_describe_204 ef_descriptions_109 (ws1 := (wX47 ci ad d f_constants f_blanks f_counts f_points f_kept f_hashes f_news f_rounds f_hashed f_groups f_groupOf f_groupCount f_trial f_row f_names f_namedBlanks f_form f_formCount f_octets f_descriptions_109 f_described f_message f_size f_words f_schedule f_thrown f_said)) rfl (fun H locs hH => ?_)
    have hw := hw (zF f_descriptions_109) (by rw [ef_descriptions_109]; exact z_st (f := f_descriptions_104) (rfl : x3_4.toInt = _) hq_110.1 (rfl : v_108.toInt = _))
    refine lv_aload_n hx hb dX47_describe_205 rfl (lv_at hl 0 rfl) ?_
    refine lv_dup hx hb dX47_describe_206 rfl ?_
    refine k_get X hH in_X47 0 rfl hc 20 (by decide) q6004 rfl dX47_describe_207 ?_
    refine lv_iconst (v := 1) hx hb dX47_describe_210 (by decide) ?_
    refine lv_iadd hx hb dX47_describe_211 ?_
    have e_111 := z_add (z_m (rfl : f_described.toInt = _)) (z_m (rfl : (1 : Int32).toInt = 1))
    have hq_112 := hw.1
    have hw := hw.2
    have e_113 := z_x e_111 hq_112
    refine lv_topi (fun f_described_114 ef_described_114 => ?_)
    have hw := hw f_described_114.toInt (by rw [ef_described_114]; exact e_113)
    refine k_put X hH in_X47 tyX47_ok nmX47 0 rfl hc 20 (by decide) q6004 rfl (ty := .int) rfl rfl rfl (Nat.le_of_ble_eq_true rfl) dX47_describe_212 (ws1 := (wX47 ci ad d f_constants f_blanks f_counts f_points f_kept f_hashes f_news f_rounds f_hashed f_groups f_groupOf f_groupCount f_trial f_row f_names f_namedBlanks f_form f_formCount f_octets f_descriptions_109 f_described_114 f_message f_size f_words f_schedule f_thrown f_said)) rfl (fun H locs hH => ?_)
    exact k_vret X hH (f_descriptions_109, f_described_114) hw rfl dX47_describe_215
set_option maxHeartbeats 4000000 in
theorem walkX47_say {l : Launch} {dC : Nat → ClassId} {dI : Nat → Nat → Nat} {cl : List vw_C} {ci : Nat} (hc : cl[ci]? = some (RX47, TX47, 27)) {ad : Nat → Nat} {d : Nat → ClassId} {sz : Nat} {f_constants : Nat → Int64} {f_blanks : Nat → Int32} {f_counts : Nat → Int32} {f_points : Nat → Int32} {f_kept : Int32} {f_hashes : Nat → Int64} {f_news : Nat → Int64} {f_rounds : Int32} {f_hashed : Int32} {f_groups : Nat → Int32} {f_groupOf : Nat → Int32} {f_groupCount : Int32} {f_trial : Nat → Int32} {f_row : Nat → Int32} {f_names : Nat → Int32} {f_namedBlanks : Int32} {f_form : Nat → Int32} {f_formCount : Int32} {f_octets : Nat → Int32} {f_descriptions : Nat → Int32} {f_described : Int32} {f_message : Nat → Int32} {f_size : Int32} {f_words : Nat → Int64} {f_schedule : Nat → Int64} {f_thrown : Int32} {f_said : Nat → Int32} {x1 : Int32} {post : (Int → Int) → Int → Prop} (hw : wpX47_say post (zF f_message) f_size.toInt x1.toInt) :
    Met l yX47_say (ws_ yX47_say cX47_say 2 none) ({ frames := 0, cells := 0, slots := 0, locals := 0 } : Room) (kPc (dC, dI) cl (tX47 d) [.ref (ad 0), .int x1] sz (wX47 ci ad d f_constants f_blanks f_counts f_points f_kept f_hashes f_news f_rounds f_hashed f_groups f_groupOf f_groupCount f_trial f_row f_names f_namedBlanks f_form f_formCount f_octets f_descriptions f_described f_message f_size f_words f_schedule f_thrown f_said)) (va_Qv (fun (u : (Nat → Int32) × Int32) => post (zF (u.1)) (u.2).toInt) (kB (dC, dI) cl (tX47 d) (va_A (wX47 ci ad d f_constants f_blanks f_counts f_points f_kept f_hashes f_news f_rounds f_hashed f_groups f_groupOf f_groupCount f_trial f_row f_names f_namedBlanks f_form f_formCount f_octets f_descriptions f_described f_message f_size f_words f_schedule f_thrown f_said) sz) (fun u : (Nat → Int32) × Int32 => (wX47 ci ad d f_constants f_blanks f_counts f_points f_kept f_hashes f_news f_rounds f_hashed f_groups f_groupOf f_groupCount f_trial f_row f_names f_namedBlanks f_form f_formCount f_octets f_descriptions f_described (u.1) (u.2) f_words f_schedule f_thrown f_said))) (va_A (wX47 ci ad d f_constants f_blanks f_counts f_points f_kept f_hashes f_news f_rounds f_hashed f_groups f_groupOf f_groupCount f_trial f_row f_names f_namedBlanks f_form f_formCount f_octets f_descriptions f_described f_message f_size f_words f_schedule f_thrown f_said) sz)) 0 0 (va_A (wX47 ci ad d f_constants f_blanks f_counts f_points f_kept f_hashes f_news f_rounds f_hashed f_groups f_groupOf f_groupCount f_trial f_row f_names f_namedBlanks f_form f_formCount f_octets f_descriptions f_described f_message f_size f_words f_schedule f_thrown f_said) sz) := by
  refine k_enter (by decide) (Nat.le_of_ble_eq_true rfl) ?_
  intro p e s m below meth c ls X hsz hH hl
  subst hsz
  generalize va_A (wX47 ci ad d f_constants f_blanks f_counts f_points f_kept f_hashes f_news f_rounds f_hashed f_groups f_groupOf f_groupCount f_trial f_row f_names f_namedBlanks f_form f_formCount f_octets f_descriptions f_described f_message f_size f_words f_schedule f_thrown f_said) s.heap.size = A at hH ⊢
  have hx := X.1.1
  have hb := X.1.2.1
  have hl : lv_has ls 2 [(0, .ref (ad 0)), (1, .int x1)] := hl
  unfold wpX47_say at hw
  refine lv_aload_n hx hb dX47_say_0 rfl (lv_at hl 0 rfl) ?_
  refine k_get X hH in_X47 0 rfl hc 21 (by decide) q6005 rfl dX47_say_1 ?_
  refine lv_aload_n hx hb dX47_say_4 rfl (lv_at hl 0 rfl) ?_
  refine k_get X hH in_X47 0 rfl hc 22 (by decide) q6006 rfl dX47_say_5 ?_
  refine lv_iload_n hx hb dX47_say_8 rfl (lv_at hl 1 rfl) ?_
  refine lv_i2b (v := x1.toInt8.toInt32) hx hb dX47_say_9 rfl ?_
  have e_1 := z_i2b (z_m (rfl : x1.toInt = _))
  refine lv_topi (fun v_2 ev_2 => ?_)
  have hw := hw v_2.toInt (by rw [ev_2]; exact e_1)
  have hq_4 := hw.1
  have hw := hw.2
  have hq_5 := hw.1
  have hw := hw.2
  obtain ⟨f_message_3, ef_message_3⟩ : ∃ y : Nat → Int32, y = upd f_message f_size.toNatClampNeg (vp_nar .byte v_2) := ⟨_, rfl⟩
  refine k_bast X hH 15 14 rfl rfl (z_in (rfl : f_size.toInt = _) hq_4) dX47_say_10 ef_message_3 (ws1 := (wX47 ci ad d f_constants f_blanks f_counts f_points f_kept f_hashes f_news f_rounds f_hashed f_groups f_groupOf f_groupCount f_trial f_row f_names f_namedBlanks f_form f_formCount f_octets f_descriptions f_described f_message_3 f_size f_words f_schedule f_thrown f_said)) rfl (fun H locs hH => ?_)
  have hw := hw (zF f_message_3) (by rw [ef_message_3]; exact z_st (f := f_message) (rfl : f_size.toInt = _) hq_4.1 (z_narB (rfl : v_2.toInt = _) hq_5))
  refine lv_aload_n hx hb dX47_say_11 rfl (lv_at hl 0 rfl) ?_
  refine lv_dup hx hb dX47_say_12 rfl ?_
  refine k_get X hH in_X47 0 rfl hc 22 (by decide) q6006 rfl dX47_say_13 ?_
  refine lv_iconst (v := 1) hx hb dX47_say_16 (by decide) ?_
  refine lv_iadd hx hb dX47_say_17 ?_
  have e_6 := z_add (z_m (rfl : f_size.toInt = _)) (z_m (rfl : (1 : Int32).toInt = 1))
  have hq_7 := hw.1
  have hw := hw.2
  have e_8 := z_x e_6 hq_7
  refine lv_topi (fun f_size_9 ef_size_9 => ?_)
  have hw := hw f_size_9.toInt (by rw [ef_size_9]; exact e_8)
  refine k_put X hH in_X47 tyX47_ok nmX47 0 rfl hc 22 (by decide) q6006 rfl (ty := .int) rfl rfl rfl (Nat.le_of_ble_eq_true rfl) dX47_say_18 (ws1 := (wX47 ci ad d f_constants f_blanks f_counts f_points f_kept f_hashes f_news f_rounds f_hashed f_groups f_groupOf f_groupCount f_trial f_row f_names f_namedBlanks f_form f_formCount f_octets f_descriptions f_described f_message_3 f_size_9 f_words f_schedule f_thrown f_said)) rfl (fun H locs hH => ?_)
  exact k_vret X hH (f_message_3, f_size_9) hw rfl dX47_say_21
set_option maxHeartbeats 4000000 in
theorem atX47_sayNumber_2 {p : Program} {l : Launch} {e : Env} {s : State} {m : MethodId} {args : Array Value} {below : List Frame} {meth : Method} {c : Code} {dC : Nat → ClassId} {dI : Nat → Nat → Nat} {cl : List vw_C} {ci : Nat} (hc : cl[ci]? = some (RX47, TX47, 27)) {ad : Nat → Nat} {d : Nat → ClassId} {A : Nat → Prop} {post : (Int → Int) → Int → Prop} {f_constants : Nat → Int64} {f_blanks : Nat → Int32} {f_counts : Nat → Int32} {f_points : Nat → Int32} {f_kept : Int32} {f_hashes : Nat → Int64} {f_news : Nat → Int64} {f_rounds : Int32} {f_hashed : Int32} {f_groups : Nat → Int32} {f_groupOf : Nat → Int32} {f_groupCount : Int32} {f_trial : Nat → Int32} {f_row : Nat → Int32} {f_names : Nat → Int32} {f_namedBlanks : Int32} {f_form : Nat → Int32} {f_formCount : Int32} {f_octets : Nat → Int32} {f_descriptions : Nat → Int32} {f_described : Int32} {f_words : Nat → Int64} {f_schedule : Nat → Int64} {f_thrown : Int32} {f_said : Nat → Int32} (X : kX p s m args meth c cX47_sayNumber 4 RX47 none (dC, dI) cl (tX47 d)) {K23 : (Int → Int) → Int → Prop} {x1 : Int64}  (hk23 : ∀ (f_message : Nat → Int32) (f_size : Int32), K23 (zF f_message) f_size.toInt → ∀ (H : Heap) (locs : List Loc) (ls : Array Slot), kH (dC, dI) cl A s.heap H locs (wX47 ci ad d f_constants f_blanks f_counts f_points f_kept f_hashes f_news f_rounds f_hashed f_groups f_groupOf f_groupCount f_trial f_row f_names f_namedBlanks f_form f_formCount f_octets f_descriptions f_described f_message f_size f_words f_schedule f_thrown f_said) → lv_has ls 4 [] → W p l e ({ frames := 1, cells := 0, slots := 0, locals := 21 } : Room) s m args below meth c H locs 0 0 (MQ below (va_Qv (fun (u : (Nat → Int32) × Int32) => post (zF (u.1)) (u.2).toInt) (kB (dC, dI) cl (tX47 d) A (fun u : (Nat → Int32) × Int32 => (wX47 ci ad d f_constants f_blanks f_counts f_points f_kept f_hashes f_news f_rounds f_hashed f_groups f_groupOf f_groupCount f_trial f_row f_names f_namedBlanks f_form f_formCount f_octets f_descriptions f_described (u.1) (u.2) f_words f_schedule f_thrown f_said))) A) args s 0 0 A) (F0 m 23 ls [])) :
    ∀ (nn : Nat) (x3 : Int32) (f_message : Nat → Int32) (f_size : Int32), wX47_sayNumber_2 K23 x1.toInt nn x3.toInt (zF f_message) f_size.toInt → ∀ (H : Heap) (locs : List Loc) (ls : Array Slot), kH (dC, dI) cl A s.heap H locs (wX47 ci ad d f_constants f_blanks f_counts f_points f_kept f_hashes f_news f_rounds f_hashed f_groups f_groupOf f_groupCount f_trial f_row f_names f_namedBlanks f_form f_formCount f_octets f_descriptions f_described f_message f_size f_words f_schedule f_thrown f_said) → lv_has ls 4 [(0, .ref (ad 0)), (1, .long x1), (3, .int x3)] → W p l e ({ frames := 1, cells := 0, slots := 0, locals := 21 } : Room) s m args below meth c H locs 0 0 (MQ below (va_Qv (fun (u : (Nat → Int32) × Int32) => post (zF (u.1)) (u.2).toInt) (kB (dC, dI) cl (tX47 d) A (fun u : (Nat → Int32) × Int32 => (wX47 ci ad d f_constants f_blanks f_counts f_points f_kept f_hashes f_news f_rounds f_hashed f_groups f_groupOf f_groupCount f_trial f_row f_names f_namedBlanks f_form f_formCount f_octets f_descriptions f_described (u.1) (u.2) f_words f_schedule f_thrown f_said))) A) args s 0 0 A) (F0 m 2 ls []) := by
  have hx := X.1.1
  have hb := X.1.2.1
  intro nn
  induction nn with
  | zero =>
    intro x3 f_message f_size hw
    exact False.elim hw
  | succ n ih =>
    intro x3 f_message f_size hw H locs ls hH hl
    rw [wX47_sayNumber_2] at hw
    refine lv_iload_n hx hb dX47_sayNumber_2 rfl (lv_at hl 2 rfl) ?_
    refine lv_if_lt (tgt := 23) hx hb dX47_sayNumber_3 (by decide) (fun c_1 => ?_) (fun c_1 => ?_)
    · have hw := hw.1 (z_lt (rfl : x3.toInt = _) (rfl : (0 : Int32).toInt = 0) c_1)
      exact hk23 f_message f_size hw _ _ ls hH (lv_sub hl [] rfl)
    · have hw := hw.2 (z_nlt (rfl : x3.toInt = _) (rfl : (0 : Int32).toInt = 0) c_1)
      refine lv_aload_n hx hb dX47_sayNumber_6 rfl (lv_at hl 0 rfl) ?_
      refine lv_lload_n hx hb dX47_sayNumber_7 rfl (lv_at hl 1 rfl) ?_
      refine lv_bipush (v := 8) hx hb dX47_sayNumber_8 (by decide) ?_
      refine lv_iload_n hx hb dX47_sayNumber_10 rfl (lv_at hl 2 rfl) ?_
      refine lv_imul hx hb dX47_sayNumber_11 ?_
      have e_2 := z_mulw (rfl : (8 : Int32).toInt = 8) (rfl : x3.toInt = _)
      refine lv_lshr (v := x1 >>> ((8 * x3).toInt64 &&& 63)) hx hb dX47_sayNumber_12 rfl ?_
      have hq_3 := hw.1
      have hw := hw.2
      have e_4 := zL_shrV (rfl : x1.toInt = _) e_2 hq_3
      refine lv_l2i (v := (x1 >>> ((8 * x3).toInt64 &&& 63)).toInt32) hx hb dX47_sayNumber_13 rfl ?_
      have e_5 := z_l2i e_4
      refine k_v0 hH (k_runV (As := [.int ((x1 >>> ((8 * x3).toInt64 &&& 63)).toInt32)]) (rest := []) X hH.1 hH.2.1 X.2.2.2 (walkX47_say hc (x1 := ((x1 >>> ((8 * x3).toInt64 &&& 63)).toInt32)) (f_constants := f_constants) (f_blanks := f_blanks) (f_counts := f_counts) (f_points := f_points) (f_kept := f_kept) (f_hashes := f_hashes) (f_news := f_news) (f_rounds := f_rounds) (f_hashed := f_hashed) (f_groups := f_groups) (f_groupOf := f_groupOf) (f_groupCount := f_groupCount) (f_trial := f_trial) (f_row := f_row) (f_names := f_names) (f_namedBlanks := f_namedBlanks) (f_form := f_form) (f_formCount := f_formCount) (f_octets := f_octets) (f_descriptions := f_descriptions) (f_described := f_described) (f_message := f_message) (f_size := f_size) (f_words := f_words) (f_schedule := f_schedule) (f_thrown := f_thrown) (f_said := f_said) (by rw [show ((x1 >>> ((8 * x3).toInt64 &&& 63)).toInt32 : Int32).toInt = _ from e_5]; exact hw)) (cwV 1 X.1.2.2.2.2 gX47_238 rfl rfl rfl hX47_say ⟨Nat.le_of_ble_eq_true rfl, Nat.le_of_ble_eq_true rfl⟩) hc (q0 := 0) rfl rfl hl.1 rfl (Nat.le_of_ble_eq_true rfl) dX47_sayNumber_14 ⟨Nat.le_refl 0, Nat.le_refl 0⟩) (fun u H locs hw hH => ?_)
      obtain ⟨f_message_6, f_size_7⟩ := u
      have hH : kH (dC, dI) cl A s.heap H locs (wX47 ci ad d f_constants f_blanks f_counts f_points f_kept f_hashes f_news f_rounds f_hashed f_groups f_groupOf f_groupCount f_trial f_row f_names f_namedBlanks f_form f_formCount f_octets f_descriptions f_described f_message_6 f_size_7 f_words f_schedule f_thrown f_said) := hH
      obtain ⟨x3_8, ex3_8⟩ : ∃ y : Int32, y = x3 + (-1) := ⟨_, rfl⟩
      have hw := hw x3_8.toInt (by rw [ex3_8]; exact (z_addw (rfl : x3.toInt = _) (rfl : ((-1) : Int32).toInt = (-1))))
      refine lv_iinc (v := x3_8) (lv' := [(3, .int x3_8), (0, .ref (ad 0)), (1, .long x1)]) hx hb dX47_sayNumber_17 hl (k := 2) rfl (by rw [ex3_8]; rfl) (by decide) rfl (fun ls hl => ?_)
      refine lv_goto (tgt := 2) hx hb dX47_sayNumber_20 (by decide) ?_
      exact ih x3_8 f_message_6 f_size_7 hw _ _ ls hH (lv_sub hl [1, 2, 0] rfl)
set_option maxHeartbeats 4000000 in
theorem walkX47_sayNumber {l : Launch} {dC : Nat → ClassId} {dI : Nat → Nat → Nat} {cl : List vw_C} {ci : Nat} (hc : cl[ci]? = some (RX47, TX47, 27)) {ad : Nat → Nat} {d : Nat → ClassId} {sz : Nat} {f_constants : Nat → Int64} {f_blanks : Nat → Int32} {f_counts : Nat → Int32} {f_points : Nat → Int32} {f_kept : Int32} {f_hashes : Nat → Int64} {f_news : Nat → Int64} {f_rounds : Int32} {f_hashed : Int32} {f_groups : Nat → Int32} {f_groupOf : Nat → Int32} {f_groupCount : Int32} {f_trial : Nat → Int32} {f_row : Nat → Int32} {f_names : Nat → Int32} {f_namedBlanks : Int32} {f_form : Nat → Int32} {f_formCount : Int32} {f_octets : Nat → Int32} {f_descriptions : Nat → Int32} {f_described : Int32} {f_message : Nat → Int32} {f_size : Int32} {f_words : Nat → Int64} {f_schedule : Nat → Int64} {f_thrown : Int32} {f_said : Nat → Int32} {x1 : Int64} {post : (Int → Int) → Int → Prop} (hw : wpX47_sayNumber post (zF f_message) f_size.toInt x1.toInt) :
    Met l yX47_sayNumber (ws_ yX47_sayNumber cX47_sayNumber 4 none) ({ frames := 1, cells := 0, slots := 0, locals := 21 } : Room) (kPc (dC, dI) cl (tX47 d) [.ref (ad 0), .long x1] sz (wX47 ci ad d f_constants f_blanks f_counts f_points f_kept f_hashes f_news f_rounds f_hashed f_groups f_groupOf f_groupCount f_trial f_row f_names f_namedBlanks f_form f_formCount f_octets f_descriptions f_described f_message f_size f_words f_schedule f_thrown f_said)) (va_Qv (fun (u : (Nat → Int32) × Int32) => post (zF (u.1)) (u.2).toInt) (kB (dC, dI) cl (tX47 d) (va_A (wX47 ci ad d f_constants f_blanks f_counts f_points f_kept f_hashes f_news f_rounds f_hashed f_groups f_groupOf f_groupCount f_trial f_row f_names f_namedBlanks f_form f_formCount f_octets f_descriptions f_described f_message f_size f_words f_schedule f_thrown f_said) sz) (fun u : (Nat → Int32) × Int32 => (wX47 ci ad d f_constants f_blanks f_counts f_points f_kept f_hashes f_news f_rounds f_hashed f_groups f_groupOf f_groupCount f_trial f_row f_names f_namedBlanks f_form f_formCount f_octets f_descriptions f_described (u.1) (u.2) f_words f_schedule f_thrown f_said))) (va_A (wX47 ci ad d f_constants f_blanks f_counts f_points f_kept f_hashes f_news f_rounds f_hashed f_groups f_groupOf f_groupCount f_trial f_row f_names f_namedBlanks f_form f_formCount f_octets f_descriptions f_described f_message f_size f_words f_schedule f_thrown f_said) sz)) 0 0 (va_A (wX47 ci ad d f_constants f_blanks f_counts f_points f_kept f_hashes f_news f_rounds f_hashed f_groups f_groupOf f_groupCount f_trial f_row f_names f_namedBlanks f_form f_formCount f_octets f_descriptions f_described f_message f_size f_words f_schedule f_thrown f_said) sz) := by
  refine k_enter (by decide) (Nat.le_of_ble_eq_true rfl) ?_
  intro p e s m below meth c ls X hsz hH hl
  subst hsz
  generalize va_A (wX47 ci ad d f_constants f_blanks f_counts f_points f_kept f_hashes f_news f_rounds f_hashed f_groups f_groupOf f_groupCount f_trial f_row f_names f_namedBlanks f_form f_formCount f_octets f_descriptions f_described f_message f_size f_words f_schedule f_thrown f_said) s.heap.size = A at hH ⊢
  have hx := X.1.1
  have hb := X.1.2.1
  have hl : lv_has ls 4 [(0, .ref (ad 0)), (1, .long x1)] := hl
  unfold wpX47_sayNumber at hw
  refine lv_iconst (v := 3) hx hb dX47_sayNumber_0 (by decide) ?_
  refine lv_istore_n (lv' := [(3, .int 3), (0, .ref (ad 0)), (1, .long x1)]) hx hb dX47_sayNumber_1 rfl hl (by decide) rfl (fun ls hl => ?_)
  obtain ⟨fu, hw⟩ := hw
  refine atX47_sayNumber_2 hc X ?_ fu 3 f_message f_size hw _ _ ls hH (lv_sub hl [1, 2, 0] rfl)
  · intro f_message_9 f_size_10 hw H locs ls hH hl
    exact k_vret X hH (f_message_9, f_size_10) hw rfl dX47_sayNumber_23
set_option maxHeartbeats 4000000 in
theorem atX47_isBefore_26 {p : Program} {l : Launch} {e : Env} {s : State} {m : MethodId} {args : Array Value} {below : List Frame} {meth : Method} {c : Code} {dC : Nat → ClassId} {dI : Nat → Nat → Nat} {cl : List vw_C} {ci : Nat} (hc : cl[ci]? = some (RX47, TX47, 27)) {ad : Nat → Nat} {d : Nat → ClassId} {A : Nat → Prop} {post : Int → Prop} {f_constants : Nat → Int64} {f_blanks : Nat → Int32} {f_counts : Nat → Int32} {f_points : Nat → Int32} {f_kept : Int32} {f_hashes : Nat → Int64} {f_news : Nat → Int64} {f_rounds : Int32} {f_hashed : Int32} {f_groups : Nat → Int32} {f_groupOf : Nat → Int32} {f_groupCount : Int32} {f_trial : Nat → Int32} {f_row : Nat → Int32} {f_names : Nat → Int32} {f_namedBlanks : Int32} {f_form : Nat → Int32} {f_formCount : Int32} {f_octets : Nat → Int32} {f_descriptions : Nat → Int32} {f_described : Int32} {f_message : Nat → Int32} {f_size : Int32} {f_words : Nat → Int64} {f_schedule : Nat → Int64} {f_thrown : Int32} {f_said : Nat → Int32} (X : kX p s m args meth c cX47_isBefore 8 RX47 (some .boolean) (dC, dI) cl (tX47 d)) {K76 : Int → Int → Prop} {K95 : Prop} {x1 : Int32} {x2 : Int32} {x3 : Int32} {x4 : Int32}  (hk76 : ∀ (x6 : Int32) (x7 : Int32), K76 x6.toInt x7.toInt → ∀ (H : Heap) (locs : List Loc) (ls : Array Slot), kH (dC, dI) cl A s.heap H locs (wX47 ci ad d f_constants f_blanks f_counts f_points f_kept f_hashes f_news f_rounds f_hashed f_groups f_groupOf f_groupCount f_trial f_row f_names f_namedBlanks f_form f_formCount f_octets f_descriptions f_described f_message f_size f_words f_schedule f_thrown f_said) → lv_has ls 8 [(6, .int x6), (7, .int x7)] → W p l e ({ frames := 0, cells := 0, slots := 0, locals := 0 } : Room) s m args below meth c H locs 0 0 (MQ below (va_Qi (fun (r : Int32) (_ : Unit) => post r.toInt) (kB (dC, dI) cl (tX47 d) A (fun _ : Unit => (wX47 ci ad d f_constants f_blanks f_counts f_points f_kept f_hashes f_news f_rounds f_hashed f_groups f_groupOf f_groupCount f_trial f_row f_names f_namedBlanks f_form f_formCount f_octets f_descriptions f_described f_message f_size f_words f_schedule f_thrown f_said))) A) args s 0 0 A) (F0 m 76 ls [])) (hk95 : K95  → ∀ (H : Heap) (locs : List Loc) (ls : Array Slot), kH (dC, dI) cl A s.heap H locs (wX47 ci ad d f_constants f_blanks f_counts f_points f_kept f_hashes f_news f_rounds f_hashed f_groups f_groupOf f_groupCount f_trial f_row f_names f_namedBlanks f_form f_formCount f_octets f_descriptions f_described f_message f_size f_words f_schedule f_thrown f_said) → lv_has ls 8 [(3, .int x3), (4, .int x4)] → W p l e ({ frames := 0, cells := 0, slots := 0, locals := 0 } : Room) s m args below meth c H locs 0 0 (MQ below (va_Qi (fun (r : Int32) (_ : Unit) => post r.toInt) (kB (dC, dI) cl (tX47 d) A (fun _ : Unit => (wX47 ci ad d f_constants f_blanks f_counts f_points f_kept f_hashes f_news f_rounds f_hashed f_groups f_groupOf f_groupCount f_trial f_row f_names f_namedBlanks f_form f_formCount f_octets f_descriptions f_described f_message f_size f_words f_schedule f_thrown f_said))) A) args s 0 0 A) (F0 m 95 ls [])) :
    ∀ (nn : Nat) (x5 : Int32), wX47_isBefore_26 K76 K95 x1.toInt x2.toInt x3.toInt x4.toInt (zF f_descriptions) nn x5.toInt → ∀ (H : Heap) (locs : List Loc) (ls : Array Slot), kH (dC, dI) cl A s.heap H locs (wX47 ci ad d f_constants f_blanks f_counts f_points f_kept f_hashes f_news f_rounds f_hashed f_groups f_groupOf f_groupCount f_trial f_row f_names f_namedBlanks f_form f_formCount f_octets f_descriptions f_described f_message f_size f_words f_schedule f_thrown f_said) → lv_has ls 8 [(0, .ref (ad 0)), (1, .int x1), (2, .int x2), (3, .int x3), (4, .int x4), (5, .int x5)] → W p l e ({ frames := 0, cells := 0, slots := 0, locals := 0 } : Room) s m args below meth c H locs 0 0 (MQ below (va_Qi (fun (r : Int32) (_ : Unit) => post r.toInt) (kB (dC, dI) cl (tX47 d) A (fun _ : Unit => (wX47 ci ad d f_constants f_blanks f_counts f_points f_kept f_hashes f_news f_rounds f_hashed f_groups f_groupOf f_groupCount f_trial f_row f_names f_namedBlanks f_form f_formCount f_octets f_descriptions f_described f_message f_size f_words f_schedule f_thrown f_said))) A) args s 0 0 A) (F0 m 26 ls []) := by
  have hx := X.1.1
  have hb := X.1.2.1
  intro nn
  induction nn with
  | zero =>
    intro x5 hw
    exact False.elim hw
  | succ n ih =>
    intro x5 hw H locs ls hH hl
    rw [wX47_isBefore_26] at hw
    refine lv_iload hx hb dX47_isBefore_26 (lv_at hl 5 rfl) ?_
    refine lv_iload_n hx hb dX47_isBefore_28 rfl (lv_at hl 3 rfl) ?_
    refine lv_icmp_gt (tgt := 95) hx hb dX47_isBefore_29 (by decide) (fun c_11 => ?_) (fun c_11 => ?_)
    · have hw := hw.1 (z_lt (rfl : x3.toInt = _) (rfl : x5.toInt = _) c_11)
      exact hk95  hw _ _ ls hH (lv_sub hl [3, 4] rfl)
    · have hw := hw.2 (z_nlt (rfl : x3.toInt = _) (rfl : x5.toInt = _) c_11)
      refine lv_iload hx hb dX47_isBefore_32 (lv_at hl 5 rfl) ?_
      refine lv_iload hx hb dX47_isBefore_34 (lv_at hl 4 rfl) ?_
      refine lv_icmp_gt (tgt := 95) hx hb dX47_isBefore_36 (by decide) (fun c_12 => ?_) (fun c_12 => ?_)
      · have hw := hw.1 (z_lt (rfl : x4.toInt = _) (rfl : x5.toInt = _) c_12)
        exact hk95  hw _ _ ls hH (lv_sub hl [3, 4] rfl)
      · have hw := hw.2 (z_nlt (rfl : x4.toInt = _) (rfl : x5.toInt = _) c_12)
        refine lv_aload_n hx hb dX47_isBefore_39 rfl (lv_at hl 0 rfl) ?_
        refine k_get X hH in_X47 0 rfl hc 19 (by decide) q6003 rfl dX47_isBefore_40 ?_
        refine lv_sipush (v := 128) hx hb dX47_isBefore_43 (by decide) ?_
        refine lv_iload_n hx hb dX47_isBefore_46 rfl (lv_at hl 1 rfl) ?_
        refine lv_imul hx hb dX47_isBefore_47 ?_
        have e_13 := z_mul (z_m (rfl : (128 : Int32).toInt = 128)) (z_m (rfl : x1.toInt = _))
        refine lv_iload hx hb dX47_isBefore_48 (lv_at hl 5 rfl) ?_
        refine lv_iadd hx hb dX47_isBefore_50 ?_
        have e_14 := z_add e_13 (z_m (rfl : x5.toInt = _))
        have hq_15 := hw.1
        have hw := hw.2
        have e_16 := z_xi e_14 hq_15 (by decide)
        refine k_iald X hH 14 13 rfl rfl (z_in e_16 hq_15) dX47_isBefore_51 ?_
        have e_17 := z_ld (f := f_descriptions) e_16 hq_15.1
        refine lv_topi (fun x6_18 ex6_18 => ?_)
        have hw := hw x6_18.toInt (by rw [ex6_18]; exact e_17)
        refine lv_istore (lv' := [(6, .int x6_18), (0, .ref (ad 0)), (1, .int x1), (2, .int x2), (3, .int x3), (4, .int x4), (5, .int x5)]) hx hb dX47_isBefore_52 hl (by decide) rfl (fun ls hl => ?_)
        refine lv_aload_n hx hb dX47_isBefore_54 rfl (lv_at hl 1 rfl) ?_
        refine k_get X hH in_X47 0 rfl hc 19 (by decide) q6003 rfl dX47_isBefore_55 ?_
        refine lv_sipush (v := 128) hx hb dX47_isBefore_58 (by decide) ?_
        refine lv_iload_n hx hb dX47_isBefore_61 rfl (lv_at hl 3 rfl) ?_
        refine lv_imul hx hb dX47_isBefore_62 ?_
        have e_19 := z_mul (z_m (rfl : (128 : Int32).toInt = 128)) (z_m (rfl : x2.toInt = _))
        refine lv_iload hx hb dX47_isBefore_63 (lv_at hl 6 rfl) ?_
        refine lv_iadd hx hb dX47_isBefore_65 ?_
        have e_20 := z_add e_19 (z_m (rfl : x5.toInt = _))
        have hq_21 := hw.1
        have hw := hw.2
        have e_22 := z_xi e_20 hq_21 (by decide)
        refine k_iald X hH 14 13 rfl rfl (z_in e_22 hq_21) dX47_isBefore_66 ?_
        have e_23 := z_ld (f := f_descriptions) e_22 hq_21.1
        refine lv_topi (fun x7_24 ex7_24 => ?_)
        have hw := hw x7_24.toInt (by rw [ex7_24]; exact e_23)
        refine lv_istore (lv' := [(7, .int x7_24), (6, .int x6_18), (0, .ref (ad 0)), (1, .int x1), (2, .int x2), (3, .int x3), (4, .int x4), (5, .int x5)]) hx hb dX47_isBefore_67 hl (by decide) rfl (fun ls hl => ?_)
        refine lv_iload hx hb dX47_isBefore_69 (lv_at hl 1 rfl) ?_
        refine lv_iload hx hb dX47_isBefore_71 (lv_at hl 0 rfl) ?_
        refine lv_icmp_eq (tgt := 89) hx hb dX47_isBefore_73 (by decide) (fun c_25 => ?_) (fun c_25 => ?_)
        · have hw := hw.1 (z_eq (rfl : x6_18.toInt = _) (rfl : x7_24.toInt = _) c_25)
          have hq_27 := hw.1
          have hw := hw.2
          obtain ⟨x5_26, ex5_26⟩ : ∃ y : Int32, y = x5 + 1 := ⟨_, rfl⟩
          have hw := hw x5_26.toInt (by rw [ex5_26]; exact (z_x (z_add (z_m (rfl : x5.toInt = _)) (z_m (rfl : (1 : Int32).toInt = 1))) hq_27))
          refine lv_iinc (v := x5_26) (lv' := [(5, .int x5_26), (7, .int x7_24), (6, .int x6_18), (0, .ref (ad 0)), (1, .int x1), (2, .int x2), (3, .int x3), (4, .int x4)]) hx hb dX47_isBefore_89 hl (k := 7) rfl (by rw [ex5_26]; rfl) (by decide) rfl (fun ls hl => ?_)
          refine lv_goto (tgt := 26) hx hb dX47_isBefore_92 (by decide) ?_
          exact ih x5_26 hw _ _ ls hH (lv_sub hl [3, 4, 5, 6, 7, 0] rfl)
        · have hw := hw.2 (z_neq (rfl : x6_18.toInt = _) (rfl : x7_24.toInt = _) c_25)
          exact hk76 x6_18 x7_24 hw _ _ ls hH (lv_sub hl [1, 0] rfl)
set_option maxHeartbeats 4000000 in
theorem walkX47_isBefore {l : Launch} {dC : Nat → ClassId} {dI : Nat → Nat → Nat} {cl : List vw_C} {ci : Nat} (hc : cl[ci]? = some (RX47, TX47, 27)) {ad : Nat → Nat} {d : Nat → ClassId} {sz : Nat} {f_constants : Nat → Int64} {f_blanks : Nat → Int32} {f_counts : Nat → Int32} {f_points : Nat → Int32} {f_kept : Int32} {f_hashes : Nat → Int64} {f_news : Nat → Int64} {f_rounds : Int32} {f_hashed : Int32} {f_groups : Nat → Int32} {f_groupOf : Nat → Int32} {f_groupCount : Int32} {f_trial : Nat → Int32} {f_row : Nat → Int32} {f_names : Nat → Int32} {f_namedBlanks : Int32} {f_form : Nat → Int32} {f_formCount : Int32} {f_octets : Nat → Int32} {f_descriptions : Nat → Int32} {f_described : Int32} {f_message : Nat → Int32} {f_size : Int32} {f_words : Nat → Int64} {f_schedule : Nat → Int64} {f_thrown : Int32} {f_said : Nat → Int32} {x1 : Int32} {x2 : Int32} {post : Int → Prop} (hw : wpX47_isBefore post (zF f_descriptions) x1.toInt x2.toInt) :
    Met l yX47_isBefore (ws_ yX47_isBefore cX47_isBefore 8 (some .boolean)) ({ frames := 0, cells := 0, slots := 0, locals := 0 } : Room) (kPc (dC, dI) cl (tX47 d) [.ref (ad 0), .int x1, .int x2] sz (wX47 ci ad d f_constants f_blanks f_counts f_points f_kept f_hashes f_news f_rounds f_hashed f_groups f_groupOf f_groupCount f_trial f_row f_names f_namedBlanks f_form f_formCount f_octets f_descriptions f_described f_message f_size f_words f_schedule f_thrown f_said)) (va_Qi (fun (r : Int32) (_ : Unit) => post r.toInt) (kB (dC, dI) cl (tX47 d) (va_A (wX47 ci ad d f_constants f_blanks f_counts f_points f_kept f_hashes f_news f_rounds f_hashed f_groups f_groupOf f_groupCount f_trial f_row f_names f_namedBlanks f_form f_formCount f_octets f_descriptions f_described f_message f_size f_words f_schedule f_thrown f_said) sz) (fun _ : Unit => (wX47 ci ad d f_constants f_blanks f_counts f_points f_kept f_hashes f_news f_rounds f_hashed f_groups f_groupOf f_groupCount f_trial f_row f_names f_namedBlanks f_form f_formCount f_octets f_descriptions f_described f_message f_size f_words f_schedule f_thrown f_said))) (va_A (wX47 ci ad d f_constants f_blanks f_counts f_points f_kept f_hashes f_news f_rounds f_hashed f_groups f_groupOf f_groupCount f_trial f_row f_names f_namedBlanks f_form f_formCount f_octets f_descriptions f_described f_message f_size f_words f_schedule f_thrown f_said) sz)) 0 0 (va_A (wX47 ci ad d f_constants f_blanks f_counts f_points f_kept f_hashes f_news f_rounds f_hashed f_groups f_groupOf f_groupCount f_trial f_row f_names f_namedBlanks f_form f_formCount f_octets f_descriptions f_described f_message f_size f_words f_schedule f_thrown f_said) sz) := by
  refine k_enter (by decide) (Nat.le_of_ble_eq_true rfl) ?_
  intro p e s m below meth c ls X hsz hH hl
  subst hsz
  generalize va_A (wX47 ci ad d f_constants f_blanks f_counts f_points f_kept f_hashes f_news f_rounds f_hashed f_groups f_groupOf f_groupCount f_trial f_row f_names f_namedBlanks f_form f_formCount f_octets f_descriptions f_described f_message f_size f_words f_schedule f_thrown f_said) s.heap.size = A at hH ⊢
  have hx := X.1.1
  have hb := X.1.2.1
  have hl : lv_has ls 8 [(0, .ref (ad 0)), (1, .int x1), (2, .int x2)] := hl
  unfold wpX47_isBefore at hw
  refine lv_aload_n hx hb dX47_isBefore_0 rfl (lv_at hl 0 rfl) ?_
  refine k_get X hH in_X47 0 rfl hc 19 (by decide) q6003 rfl dX47_isBefore_1 ?_
  refine lv_sipush (v := 128) hx hb dX47_isBefore_4 (by decide) ?_
  refine lv_iload_n hx hb dX47_isBefore_7 rfl (lv_at hl 1 rfl) ?_
  refine lv_imul hx hb dX47_isBefore_8 ?_
  have e_1 := z_mul (z_m (rfl : (128 : Int32).toInt = 128)) (z_m (rfl : x1.toInt = _))
  have hq_2 := hw.1
  have hw := hw.2
  have e_3 := z_xi e_1 hq_2 (by decide)
  refine k_iald X hH 14 13 rfl rfl (z_in e_3 hq_2) dX47_isBefore_9 ?_
  have e_4 := z_ld (f := f_descriptions) e_3 hq_2.1
  refine lv_topi (fun x3_5 ex3_5 => ?_)
  have hw := hw x3_5.toInt (by rw [ex3_5]; exact e_4)
  refine lv_istore_n (lv' := [(3, .int x3_5), (0, .ref (ad 0)), (1, .int x1), (2, .int x2)]) hx hb dX47_isBefore_10 rfl hl (by decide) rfl (fun ls hl => ?_)
  refine lv_aload_n hx hb dX47_isBefore_11 rfl (lv_at hl 1 rfl) ?_
  refine k_get X hH in_X47 0 rfl hc 19 (by decide) q6003 rfl dX47_isBefore_12 ?_
  refine lv_sipush (v := 128) hx hb dX47_isBefore_15 (by decide) ?_
  refine lv_iload_n hx hb dX47_isBefore_18 rfl (lv_at hl 3 rfl) ?_
  refine lv_imul hx hb dX47_isBefore_19 ?_
  have e_6 := z_mul (z_m (rfl : (128 : Int32).toInt = 128)) (z_m (rfl : x2.toInt = _))
  have hq_7 := hw.1
  have hw := hw.2
  have e_8 := z_xi e_6 hq_7 (by decide)
  refine k_iald X hH 14 13 rfl rfl (z_in e_8 hq_7) dX47_isBefore_20 ?_
  have e_9 := z_ld (f := f_descriptions) e_8 hq_7.1
  refine lv_topi (fun x4_10 ex4_10 => ?_)
  have hw := hw x4_10.toInt (by rw [ex4_10]; exact e_9)
  refine lv_istore (lv' := [(4, .int x4_10), (3, .int x3_5), (0, .ref (ad 0)), (1, .int x1), (2, .int x2)]) hx hb dX47_isBefore_21 hl (by decide) rfl (fun ls hl => ?_)
  refine lv_iconst (v := 1) hx hb dX47_isBefore_23 (by decide) ?_
  refine lv_istore (lv' := [(5, .int 1), (4, .int x4_10), (3, .int x3_5), (0, .ref (ad 0)), (1, .int x1), (2, .int x2)]) hx hb dX47_isBefore_24 hl (by decide) rfl (fun ls hl => ?_)
  obtain ⟨fu, hw⟩ := hw
  refine atX47_isBefore_26 hc X ?_ ?_ fu 1 hw _ _ ls hH (lv_sub hl [3, 4, 5, 2, 1, 0] rfl)
  · intro x6_28 x7_29 hw H locs ls hH hl
    refine lv_iload hx hb dX47_isBefore_76 (lv_at hl 0 rfl) ?_
    refine lv_iload hx hb dX47_isBefore_78 (lv_at hl 1 rfl) ?_
    refine lv_icmp_ge (tgt := 87) hx hb dX47_isBefore_80 (by decide) (fun c_30 => ?_) (fun c_30 => ?_)
    · have hw := hw.1 (z_le (rfl : x7_29.toInt = _) (rfl : x6_28.toInt = _) c_30)
      refine lv_iconst (v := 0) hx hb dX47_isBefore_87 (by decide) ?_
      exact k_iret (v := 0) X hH () hw rfl rfl dX47_isBefore_88
    · have hw := hw.2 (z_nle (rfl : x7_29.toInt = _) (rfl : x6_28.toInt = _) c_30)
      refine lv_iconst (v := 1) hx hb dX47_isBefore_83 (by decide) ?_
      refine lv_goto (tgt := 88) hx hb dX47_isBefore_84 (by decide) ?_
      exact k_iret (v := 1) X hH () hw rfl rfl dX47_isBefore_88
  · intro hw H locs ls hH hl
    refine lv_iload_n hx hb dX47_isBefore_95 rfl (lv_at hl 0 rfl) ?_
    refine lv_iload hx hb dX47_isBefore_96 (lv_at hl 1 rfl) ?_
    refine lv_icmp_ge (tgt := 105) hx hb dX47_isBefore_98 (by decide) (fun c_31 => ?_) (fun c_31 => ?_)
    · have hw := hw.1 (z_le (rfl : x4_10.toInt = _) (rfl : x3_5.toInt = _) c_31)
      refine lv_iconst (v := 0) hx hb dX47_isBefore_105 (by decide) ?_
      exact k_iret (v := 0) X hH () hw rfl rfl dX47_isBefore_106
    · have hw := hw.2 (z_nle (rfl : x4_10.toInt = _) (rfl : x3_5.toInt = _) c_31)
      refine lv_iconst (v := 1) hx hb dX47_isBefore_101 (by decide) ?_
      refine lv_goto (tgt := 106) hx hb dX47_isBefore_102 (by decide) ?_
      exact k_iret (v := 1) X hH () hw rfl rfl dX47_isBefore_106
set_option maxHeartbeats 4000000 in
theorem atX47_next_7 {p : Program} {l : Launch} {e : Env} {s : State} {m : MethodId} {args : Array Value} {below : List Frame} {meth : Method} {c : Code} {dC : Nat → ClassId} {dI : Nat → Nat → Nat} {cl : List vw_C} {ci : Nat} (hc : cl[ci]? = some (RX47, TX47, 27)) {ad : Nat → Nat} {d : Nat → ClassId} {A : Nat → Prop} {post : (Int → Int) → (Int → Int) → Int → (Int → Int) → Int → (Int → Int) → (Int → Int) → (Int → Int) → Prop} {f_constants : Nat → Int64} {f_blanks : Nat → Int32} {f_counts : Nat → Int32} {f_points : Nat → Int32} {f_kept : Int32} {f_hashes : Nat → Int64} {f_rounds : Int32} {f_hashed : Int32} {f_groups : Nat → Int32} {f_groupOf : Nat → Int32} {f_groupCount : Int32} {f_trial : Nat → Int32} {f_row : Nat → Int32} {f_names : Nat → Int32} {f_namedBlanks : Int32} {f_form : Nat → Int32} {f_formCount : Int32} {f_octets : Nat → Int32} {f_thrown : Int32} (X : kX p s m args meth c cX47_next 5 RX47 none (dC, dI) cl (tX47 d)) {K74 : (Int → Int) → Int → Prop} {x1 : Int32} {f_news : Nat → Int64} {f_message : Nat → Int32} {f_size : Int32} {f_words : Nat → Int64} {f_schedule : Nat → Int64} {f_said : Nat → Int32} (hk74 : ∀ (f_descriptions : Nat → Int32) (f_described : Int32), K74 (zF f_descriptions) f_described.toInt → ∀ (H : Heap) (locs : List Loc) (ls : Array Slot), kH (dC, dI) cl A s.heap H locs (wX47 ci ad d f_constants f_blanks f_counts f_points f_kept f_hashes f_news f_rounds f_hashed f_groups f_groupOf f_groupCount f_trial f_row f_names f_namedBlanks f_form f_formCount f_octets f_descriptions f_described f_message f_size f_words f_schedule f_thrown f_said) → lv_has ls 5 [(0, .ref (ad 0)), (1, .int x1)] → W p l e ({ frames := 3, cells := 0, slots := 0, locals := 87 } : Room) s m args below meth c H locs 0 0 (MQ below (va_Qv (fun (u : (Nat → Int64) × (Nat → Int32) × Int32 × (Nat → Int32) × Int32 × (Nat → Int64) × (Nat → Int64) × (Nat → Int32)) => post (zG (u.1)) (zF (u.2.1)) (u.2.2.1).toInt (zF (u.2.2.2.1)) (u.2.2.2.2.1).toInt (zG (u.2.2.2.2.2.1)) (zG (u.2.2.2.2.2.2.1)) (zF (u.2.2.2.2.2.2.2))) (kB (dC, dI) cl (tX47 d) A (fun u : (Nat → Int64) × (Nat → Int32) × Int32 × (Nat → Int32) × Int32 × (Nat → Int64) × (Nat → Int64) × (Nat → Int32) => (wX47 ci ad d f_constants f_blanks f_counts f_points f_kept f_hashes (u.1) f_rounds f_hashed f_groups f_groupOf f_groupCount f_trial f_row f_names f_namedBlanks f_form f_formCount f_octets (u.2.1) (u.2.2.1) (u.2.2.2.1) (u.2.2.2.2.1) (u.2.2.2.2.2.1) (u.2.2.2.2.2.2.1) f_thrown (u.2.2.2.2.2.2.2)))) A) args s 0 0 A) (F0 m 74 ls [])) :
    ∀ (nn : Nat) (x2 : Int32) (f_descriptions : Nat → Int32) (f_described : Int32), wX47_next_7 K74 x1.toInt (zF f_counts) (zF f_points) (zG f_hashes) nn x2.toInt (zF f_descriptions) f_described.toInt → ∀ (H : Heap) (locs : List Loc) (ls : Array Slot), kH (dC, dI) cl A s.heap H locs (wX47 ci ad d f_constants f_blanks f_counts f_points f_kept f_hashes f_news f_rounds f_hashed f_groups f_groupOf f_groupCount f_trial f_row f_names f_namedBlanks f_form f_formCount f_octets f_descriptions f_described f_message f_size f_words f_schedule f_thrown f_said) → lv_has ls 5 [(0, .ref (ad 0)), (1, .int x1), (2, .int x2)] → W p l e ({ frames := 3, cells := 0, slots := 0, locals := 87 } : Room) s m args below meth c H locs 0 0 (MQ below (va_Qv (fun (u : (Nat → Int64) × (Nat → Int32) × Int32 × (Nat → Int32) × Int32 × (Nat → Int64) × (Nat → Int64) × (Nat → Int32)) => post (zG (u.1)) (zF (u.2.1)) (u.2.2.1).toInt (zF (u.2.2.2.1)) (u.2.2.2.2.1).toInt (zG (u.2.2.2.2.2.1)) (zG (u.2.2.2.2.2.2.1)) (zF (u.2.2.2.2.2.2.2))) (kB (dC, dI) cl (tX47 d) A (fun u : (Nat → Int64) × (Nat → Int32) × Int32 × (Nat → Int32) × Int32 × (Nat → Int64) × (Nat → Int64) × (Nat → Int32) => (wX47 ci ad d f_constants f_blanks f_counts f_points f_kept f_hashes (u.1) f_rounds f_hashed f_groups f_groupOf f_groupCount f_trial f_row f_names f_namedBlanks f_form f_formCount f_octets (u.2.1) (u.2.2.1) (u.2.2.2.1) (u.2.2.2.2.1) (u.2.2.2.2.2.1) (u.2.2.2.2.2.2.1) f_thrown (u.2.2.2.2.2.2.2)))) A) args s 0 0 A) (F0 m 7 ls []) := by
  have hx := X.1.1
  have hb := X.1.2.1
  intro nn
  induction nn with
  | zero =>
    intro x2 f_descriptions f_described hw
    exact False.elim hw
  | succ n ih =>
    intro x2 f_descriptions f_described hw H locs ls hH hl
    rw [wX47_next_7] at hw
    refine lv_iload_n hx hb dX47_next_7 rfl (lv_at hl 2 rfl) ?_
    refine lv_aload_n hx hb dX47_next_8 rfl (lv_at hl 0 rfl) ?_
    refine k_get X hH in_X47 0 rfl hc 2 (by decide) q5986 rfl dX47_next_9 ?_
    refine lv_bipush (v := 8) hx hb dX47_next_12 (by decide) ?_
    refine k_iald X hH 3 2 rfl rfl (by unfold vp_in; decide) dX47_next_14 ?_
    have e_1 := z_ld (f := f_counts) (rfl : (8 : Int32).toInt = 8) (by decide)
    refine lv_icmp_ge (tgt := 74) hx hb dX47_next_15 (by decide) (fun c_2 => ?_) (fun c_2 => ?_)
    · have hw := hw.1 (z_le e_1 (rfl : x2.toInt = _) c_2)
      exact hk74 f_descriptions f_described hw _ _ ls hH (lv_sub hl [0, 1] rfl)
    · have hw := hw.2 (z_nle e_1 (rfl : x2.toInt = _) c_2)
      refine lv_bipush (v := 8) hx hb dX47_next_18 (by decide) ?_
      refine lv_iload_n hx hb dX47_next_20 rfl (lv_at hl 2 rfl) ?_
      refine k_i0 hH (k_runS (As := [.int 8, .int x2]) (rest := []) X hH.1 hH.2.1 X.2.2.2 (walkX47_at hc (x0 := 8) (x1 := x2) (f_constants := f_constants) (f_blanks := f_blanks) (f_counts := f_counts) (f_points := f_points) (f_kept := f_kept) (f_hashes := f_hashes) (f_news := f_news) (f_rounds := f_rounds) (f_hashed := f_hashed) (f_groups := f_groups) (f_groupOf := f_groupOf) (f_groupCount := f_groupCount) (f_trial := f_trial) (f_row := f_row) (f_names := f_names) (f_namedBlanks := f_namedBlanks) (f_form := f_form) (f_formCount := f_formCount) (f_octets := f_octets) (f_descriptions := f_descriptions) (f_described := f_described) (f_message := f_message) (f_size := f_size) (f_words := f_words) (f_schedule := f_schedule) (f_thrown := f_thrown) (f_said := f_said) hw) (va_cwS 2 X.1.2.2.2.2 gX47_245 rfl rfl rfl hX47_at ⟨Nat.le_of_ble_eq_true rfl, Nat.le_of_ble_eq_true rfl⟩) rfl hl.1 rfl (Nat.le_of_ble_eq_true rfl) dX47_next_21 ⟨Nat.le_refl 0, Nat.le_refl 0⟩) (fun r_3 _ H locs hw hH => ?_)
      have hH : kH (dC, dI) cl A s.heap H locs (wX47 ci ad d f_constants f_blanks f_counts f_points f_kept f_hashes f_news f_rounds f_hashed f_groups f_groupOf f_groupCount f_trial f_row f_names f_namedBlanks f_form f_formCount f_octets f_descriptions f_described f_message f_size f_words f_schedule f_thrown f_said) := hH
      refine lv_istore_n (lv' := [(3, .int r_3), (0, .ref (ad 0)), (1, .int x1), (2, .int x2)]) hx hb dX47_next_24 rfl hl (by decide) rfl (fun ls hl => ?_)
      refine lv_aload_n hx hb dX47_next_25 rfl (lv_at hl 1 rfl) ?_
      refine k_get X hH in_X47 0 rfl hc 3 (by decide) q5987 rfl dX47_next_26 ?_
      refine lv_iload_n hx hb dX47_next_29 rfl (lv_at hl 0 rfl) ?_
      have hq_4 := hw.1
      have hw := hw.2
      refine k_iald X hH 4 3 rfl rfl (z_in (rfl : r_3.toInt = _) hq_4) dX47_next_30 ?_
      have e_5 := z_ld (f := f_points) (rfl : r_3.toInt = _) hq_4.1
      refine lv_iload_n hx hb dX47_next_31 rfl (lv_at hl 2 rfl) ?_
      refine lv_ineg hx hb dX47_next_32 ?_
      have e_6 := z_neg (z_m (rfl : x1.toInt = _))
      have hq_8 := hw.1
      have hw := hw.2
      have e_9 := z_x e_6 hq_8
      refine lv_icmp_eq (tgt := 62) hx hb dX47_next_33 (by decide) (fun c_7 => ?_) (fun c_7 => ?_)
      · have hw := hw.1 (z_eq e_5 e_9 c_7)
        refine lv_aload_n hx hb dX47_next_62 rfl (lv_at hl 1 rfl) ?_
        refine lv_iload_n hx hb dX47_next_63 rfl (lv_at hl 2 rfl) ?_
        refine lv_iload_n hx hb dX47_next_64 rfl (lv_at hl 3 rfl) ?_
        refine k_v0 hH (k_runV (As := [.int x1, .int x2]) (rest := []) X hH.1 hH.2.1 X.2.2.2 (walkX47_describe hc (x1 := x1) (x2 := x2) (f_constants := f_constants) (f_blanks := f_blanks) (f_counts := f_counts) (f_points := f_points) (f_kept := f_kept) (f_hashes := f_hashes) (f_news := f_news) (f_rounds := f_rounds) (f_hashed := f_hashed) (f_groups := f_groups) (f_groupOf := f_groupOf) (f_groupCount := f_groupCount) (f_trial := f_trial) (f_row := f_row) (f_names := f_names) (f_namedBlanks := f_namedBlanks) (f_form := f_form) (f_formCount := f_formCount) (f_octets := f_octets) (f_descriptions := f_descriptions) (f_described := f_described) (f_message := f_message) (f_size := f_size) (f_words := f_words) (f_schedule := f_schedule) (f_thrown := f_thrown) (f_said := f_said) hw) (cwV 2 X.1.2.2.2.2 gX47_262 rfl rfl rfl hX47_describe ⟨Nat.le_of_ble_eq_true rfl, Nat.le_of_ble_eq_true rfl⟩) hc (q0 := 0) rfl rfl hl.1 rfl (Nat.le_of_ble_eq_true rfl) dX47_next_65 ⟨Nat.le_refl 0, Nat.le_refl 0⟩) (fun u H locs hw hH => ?_)
        obtain ⟨f_descriptions_10, f_described_11⟩ := u
        have hH : kH (dC, dI) cl A s.heap H locs (wX47 ci ad d f_constants f_blanks f_counts f_points f_kept f_hashes f_news f_rounds f_hashed f_groups f_groupOf f_groupCount f_trial f_row f_names f_namedBlanks f_form f_formCount f_octets f_descriptions_10 f_described_11 f_message f_size f_words f_schedule f_thrown f_said) := hH
        have hq_13 := hw.1
        have hw := hw.2
        obtain ⟨x2_12, ex2_12⟩ : ∃ y : Int32, y = x2 + 1 := ⟨_, rfl⟩
        have hw := hw x2_12.toInt (by rw [ex2_12]; exact (z_x (z_add (z_m (rfl : x2.toInt = _)) (z_m (rfl : (1 : Int32).toInt = 1))) hq_13))
        refine lv_iinc (v := x2_12) (lv' := [(2, .int x2_12), (3, .int r_3), (0, .ref (ad 0)), (1, .int x1)]) hx hb dX47_next_68 hl (k := 3) rfl (by rw [ex2_12]; rfl) (by decide) rfl (fun ls hl => ?_)
        refine lv_goto (tgt := 7) hx hb dX47_next_71 (by decide) ?_
        exact ih x2_12 f_descriptions_10 f_described_11 hw _ _ ls hH (lv_sub hl [2, 3, 0] rfl)
      · have hw := hw.2 (z_neq e_5 e_9 c_7)
        refine lv_aload_n hx hb dX47_next_36 rfl (lv_at hl 1 rfl) ?_
        refine k_get X hH in_X47 0 rfl hc 3 (by decide) q5987 rfl dX47_next_37 ?_
        refine lv_iload_n hx hb dX47_next_40 rfl (lv_at hl 0 rfl) ?_
        refine lv_iconst (v := 1) hx hb dX47_next_41 (by decide) ?_
        refine lv_iadd hx hb dX47_next_42 ?_
        have e_14 := z_add (z_m (rfl : r_3.toInt = _)) (z_m (rfl : (1 : Int32).toInt = 1))
        have hq_15 := hw.1
        have hw := hw.2
        have e_16 := z_xi e_14 hq_15 (by decide)
        refine k_iald X hH 4 3 rfl rfl (z_in e_16 hq_15) dX47_next_43 ?_
        have e_17 := z_ld (f := f_points) e_16 hq_15.1
        refine lv_iload_n hx hb dX47_next_44 rfl (lv_at hl 2 rfl) ?_
        refine lv_ineg hx hb dX47_next_45 ?_
        have e_18 := z_neg (z_m (rfl : x1.toInt = _))
        have e_20 := z_x e_18 hq_8
        refine lv_icmp_eq (tgt := 62) hx hb dX47_next_46 (by decide) (fun c_19 => ?_) (fun c_19 => ?_)
        · have hw := hw.1 (z_eq e_17 e_20 c_19)
          refine lv_aload_n hx hb dX47_next_62 rfl (lv_at hl 1 rfl) ?_
          refine lv_iload_n hx hb dX47_next_63 rfl (lv_at hl 2 rfl) ?_
          refine lv_iload_n hx hb dX47_next_64 rfl (lv_at hl 3 rfl) ?_
          refine k_v0 hH (k_runV (As := [.int x1, .int x2]) (rest := []) X hH.1 hH.2.1 X.2.2.2 (walkX47_describe hc (x1 := x1) (x2 := x2) (f_constants := f_constants) (f_blanks := f_blanks) (f_counts := f_counts) (f_points := f_points) (f_kept := f_kept) (f_hashes := f_hashes) (f_news := f_news) (f_rounds := f_rounds) (f_hashed := f_hashed) (f_groups := f_groups) (f_groupOf := f_groupOf) (f_groupCount := f_groupCount) (f_trial := f_trial) (f_row := f_row) (f_names := f_names) (f_namedBlanks := f_namedBlanks) (f_form := f_form) (f_formCount := f_formCount) (f_octets := f_octets) (f_descriptions := f_descriptions) (f_described := f_described) (f_message := f_message) (f_size := f_size) (f_words := f_words) (f_schedule := f_schedule) (f_thrown := f_thrown) (f_said := f_said) hw) (cwV 2 X.1.2.2.2.2 gX47_262 rfl rfl rfl hX47_describe ⟨Nat.le_of_ble_eq_true rfl, Nat.le_of_ble_eq_true rfl⟩) hc (q0 := 0) rfl rfl hl.1 rfl (Nat.le_of_ble_eq_true rfl) dX47_next_65 ⟨Nat.le_refl 0, Nat.le_refl 0⟩) (fun u H locs hw hH => ?_)
          obtain ⟨f_descriptions_21, f_described_22⟩ := u
          have hH : kH (dC, dI) cl A s.heap H locs (wX47 ci ad d f_constants f_blanks f_counts f_points f_kept f_hashes f_news f_rounds f_hashed f_groups f_groupOf f_groupCount f_trial f_row f_names f_namedBlanks f_form f_formCount f_octets f_descriptions_21 f_described_22 f_message f_size f_words f_schedule f_thrown f_said) := hH
          have hq_24 := hw.1
          have hw := hw.2
          obtain ⟨x2_23, ex2_23⟩ : ∃ y : Int32, y = x2 + 1 := ⟨_, rfl⟩
          have hw := hw x2_23.toInt (by rw [ex2_23]; exact (z_x (z_add (z_m (rfl : x2.toInt = _)) (z_m (rfl : (1 : Int32).toInt = 1))) hq_24))
          refine lv_iinc (v := x2_23) (lv' := [(2, .int x2_23), (3, .int r_3), (0, .ref (ad 0)), (1, .int x1)]) hx hb dX47_next_68 hl (k := 3) rfl (by rw [ex2_23]; rfl) (by decide) rfl (fun ls hl => ?_)
          refine lv_goto (tgt := 7) hx hb dX47_next_71 (by decide) ?_
          exact ih x2_23 f_descriptions_21 f_described_22 hw _ _ ls hH (lv_sub hl [2, 3, 0] rfl)
        · have hw := hw.2 (z_neq e_17 e_20 c_19)
          refine lv_aload_n hx hb dX47_next_49 rfl (lv_at hl 1 rfl) ?_
          refine k_get X hH in_X47 0 rfl hc 3 (by decide) q5987 rfl dX47_next_50 ?_
          refine lv_iload_n hx hb dX47_next_53 rfl (lv_at hl 0 rfl) ?_
          refine lv_iconst (v := 2) hx hb dX47_next_54 (by decide) ?_
          refine lv_iadd hx hb dX47_next_55 ?_
          have e_25 := z_add (z_m (rfl : r_3.toInt = _)) (z_m (rfl : (2 : Int32).toInt = 2))
          have hq_26 := hw.1
          have hw := hw.2
          have e_27 := z_xi e_25 hq_26 (by decide)
          refine k_iald X hH 4 3 rfl rfl (z_in e_27 hq_26) dX47_next_56 ?_
          have e_28 := z_ld (f := f_points) e_27 hq_26.1
          refine lv_iload_n hx hb dX47_next_57 rfl (lv_at hl 2 rfl) ?_
          refine lv_ineg hx hb dX47_next_58 ?_
          have e_29 := z_neg (z_m (rfl : x1.toInt = _))
          have e_31 := z_x e_29 hq_8
          refine lv_icmp_ne (tgt := 68) hx hb dX47_next_59 (by decide) (fun c_30 => ?_) (fun c_30 => ?_)
          · have hw := hw.2 (z_ne e_28 e_31 c_30)
            have hq_33 := hw.1
            have hw := hw.2
            obtain ⟨x2_32, ex2_32⟩ : ∃ y : Int32, y = x2 + 1 := ⟨_, rfl⟩
            have hw := hw x2_32.toInt (by rw [ex2_32]; exact (z_x (z_add (z_m (rfl : x2.toInt = _)) (z_m (rfl : (1 : Int32).toInt = 1))) hq_33))
            refine lv_iinc (v := x2_32) (lv' := [(2, .int x2_32), (3, .int r_3), (0, .ref (ad 0)), (1, .int x1)]) hx hb dX47_next_68 hl (k := 3) rfl (by rw [ex2_32]; rfl) (by decide) rfl (fun ls hl => ?_)
            refine lv_goto (tgt := 7) hx hb dX47_next_71 (by decide) ?_
            exact ih x2_32 f_descriptions f_described hw _ _ ls hH (lv_sub hl [2, 3, 0] rfl)
          · have hw := hw.1 (z_eq e_28 e_31 c_30)
            refine lv_aload_n hx hb dX47_next_62 rfl (lv_at hl 1 rfl) ?_
            refine lv_iload_n hx hb dX47_next_63 rfl (lv_at hl 2 rfl) ?_
            refine lv_iload_n hx hb dX47_next_64 rfl (lv_at hl 3 rfl) ?_
            refine k_v0 hH (k_runV (As := [.int x1, .int x2]) (rest := []) X hH.1 hH.2.1 X.2.2.2 (walkX47_describe hc (x1 := x1) (x2 := x2) (f_constants := f_constants) (f_blanks := f_blanks) (f_counts := f_counts) (f_points := f_points) (f_kept := f_kept) (f_hashes := f_hashes) (f_news := f_news) (f_rounds := f_rounds) (f_hashed := f_hashed) (f_groups := f_groups) (f_groupOf := f_groupOf) (f_groupCount := f_groupCount) (f_trial := f_trial) (f_row := f_row) (f_names := f_names) (f_namedBlanks := f_namedBlanks) (f_form := f_form) (f_formCount := f_formCount) (f_octets := f_octets) (f_descriptions := f_descriptions) (f_described := f_described) (f_message := f_message) (f_size := f_size) (f_words := f_words) (f_schedule := f_schedule) (f_thrown := f_thrown) (f_said := f_said) hw) (cwV 2 X.1.2.2.2.2 gX47_262 rfl rfl rfl hX47_describe ⟨Nat.le_of_ble_eq_true rfl, Nat.le_of_ble_eq_true rfl⟩) hc (q0 := 0) rfl rfl hl.1 rfl (Nat.le_of_ble_eq_true rfl) dX47_next_65 ⟨Nat.le_refl 0, Nat.le_refl 0⟩) (fun u H locs hw hH => ?_)
            obtain ⟨f_descriptions_34, f_described_35⟩ := u
            have hH : kH (dC, dI) cl A s.heap H locs (wX47 ci ad d f_constants f_blanks f_counts f_points f_kept f_hashes f_news f_rounds f_hashed f_groups f_groupOf f_groupCount f_trial f_row f_names f_namedBlanks f_form f_formCount f_octets f_descriptions_34 f_described_35 f_message f_size f_words f_schedule f_thrown f_said) := hH
            have hq_37 := hw.1
            have hw := hw.2
            obtain ⟨x2_36, ex2_36⟩ : ∃ y : Int32, y = x2 + 1 := ⟨_, rfl⟩
            have hw := hw x2_36.toInt (by rw [ex2_36]; exact (z_x (z_add (z_m (rfl : x2.toInt = _)) (z_m (rfl : (1 : Int32).toInt = 1))) hq_37))
            refine lv_iinc (v := x2_36) (lv' := [(2, .int x2_36), (3, .int r_3), (0, .ref (ad 0)), (1, .int x1)]) hx hb dX47_next_68 hl (k := 3) rfl (by rw [ex2_36]; rfl) (by decide) rfl (fun ls hl => ?_)
            refine lv_goto (tgt := 7) hx hb dX47_next_71 (by decide) ?_
            exact ih x2_36 f_descriptions_34 f_described_35 hw _ _ ls hH (lv_sub hl [2, 3, 0] rfl)
set_option maxHeartbeats 4000000 in
theorem atX47_next_81 {p : Program} {l : Launch} {e : Env} {s : State} {m : MethodId} {args : Array Value} {below : List Frame} {meth : Method} {c : Code} {dC : Nat → ClassId} {dI : Nat → Nat → Nat} {cl : List vw_C} {ci : Nat} (hc : cl[ci]? = some (RX47, TX47, 27)) {ad : Nat → Nat} {d : Nat → ClassId} {A : Nat → Prop} {post : (Int → Int) → (Int → Int) → Int → (Int → Int) → Int → (Int → Int) → (Int → Int) → (Int → Int) → Prop} {f_constants : Nat → Int64} {f_blanks : Nat → Int32} {f_counts : Nat → Int32} {f_points : Nat → Int32} {f_kept : Int32} {f_hashes : Nat → Int64} {f_rounds : Int32} {f_hashed : Int32} {f_groups : Nat → Int32} {f_groupOf : Nat → Int32} {f_groupCount : Int32} {f_trial : Nat → Int32} {f_row : Nat → Int32} {f_names : Nat → Int32} {f_namedBlanks : Int32} {f_form : Nat → Int32} {f_formCount : Int32} {f_octets : Nat → Int32} {f_thrown : Int32} (X : kX p s m args meth c cX47_next 5 RX47 none (dC, dI) cl (tX47 d)) {K108 : (Int → Int) → Int → Prop} {x1 : Int32} {f_news : Nat → Int64} {f_descriptions : Nat → Int32} {f_described : Int32} {f_words : Nat → Int64} {f_schedule : Nat → Int64} {f_said : Nat → Int32} (hk108 : ∀ (f_message : Nat → Int32) (f_size : Int32), K108 (zF f_message) f_size.toInt → ∀ (H : Heap) (locs : List Loc) (ls : Array Slot), kH (dC, dI) cl A s.heap H locs (wX47 ci ad d f_constants f_blanks f_counts f_points f_kept f_hashes f_news f_rounds f_hashed f_groups f_groupOf f_groupCount f_trial f_row f_names f_namedBlanks f_form f_formCount f_octets f_descriptions f_described f_message f_size f_words f_schedule f_thrown f_said) → lv_has ls 5 [(0, .ref (ad 0)), (1, .int x1)] → W p l e ({ frames := 3, cells := 0, slots := 0, locals := 87 } : Room) s m args below meth c H locs 0 0 (MQ below (va_Qv (fun (u : (Nat → Int64) × (Nat → Int32) × Int32 × (Nat → Int32) × Int32 × (Nat → Int64) × (Nat → Int64) × (Nat → Int32)) => post (zG (u.1)) (zF (u.2.1)) (u.2.2.1).toInt (zF (u.2.2.2.1)) (u.2.2.2.2.1).toInt (zG (u.2.2.2.2.2.1)) (zG (u.2.2.2.2.2.2.1)) (zF (u.2.2.2.2.2.2.2))) (kB (dC, dI) cl (tX47 d) A (fun u : (Nat → Int64) × (Nat → Int32) × Int32 × (Nat → Int32) × Int32 × (Nat → Int64) × (Nat → Int64) × (Nat → Int32) => (wX47 ci ad d f_constants f_blanks f_counts f_points f_kept f_hashes (u.1) f_rounds f_hashed f_groups f_groupOf f_groupCount f_trial f_row f_names f_namedBlanks f_form f_formCount f_octets (u.2.1) (u.2.2.1) (u.2.2.2.1) (u.2.2.2.2.1) (u.2.2.2.2.2.1) (u.2.2.2.2.2.2.1) f_thrown (u.2.2.2.2.2.2.2)))) A) args s 0 0 A) (F0 m 108 ls [])) :
    ∀ (nn : Nat) (x2 : Int32) (f_message : Nat → Int32) (f_size : Int32), wX47_next_81 K108 x1.toInt (zG f_hashes) nn x2.toInt (zF f_message) f_size.toInt → ∀ (H : Heap) (locs : List Loc) (ls : Array Slot), kH (dC, dI) cl A s.heap H locs (wX47 ci ad d f_constants f_blanks f_counts f_points f_kept f_hashes f_news f_rounds f_hashed f_groups f_groupOf f_groupCount f_trial f_row f_names f_namedBlanks f_form f_formCount f_octets f_descriptions f_described f_message f_size f_words f_schedule f_thrown f_said) → lv_has ls 5 [(0, .ref (ad 0)), (1, .int x1), (2, .int x2)] → W p l e ({ frames := 3, cells := 0, slots := 0, locals := 87 } : Room) s m args below meth c H locs 0 0 (MQ below (va_Qv (fun (u : (Nat → Int64) × (Nat → Int32) × Int32 × (Nat → Int32) × Int32 × (Nat → Int64) × (Nat → Int64) × (Nat → Int32)) => post (zG (u.1)) (zF (u.2.1)) (u.2.2.1).toInt (zF (u.2.2.2.1)) (u.2.2.2.2.1).toInt (zG (u.2.2.2.2.2.1)) (zG (u.2.2.2.2.2.2.1)) (zF (u.2.2.2.2.2.2.2))) (kB (dC, dI) cl (tX47 d) A (fun u : (Nat → Int64) × (Nat → Int32) × Int32 × (Nat → Int32) × Int32 × (Nat → Int64) × (Nat → Int64) × (Nat → Int32) => (wX47 ci ad d f_constants f_blanks f_counts f_points f_kept f_hashes (u.1) f_rounds f_hashed f_groups f_groupOf f_groupCount f_trial f_row f_names f_namedBlanks f_form f_formCount f_octets (u.2.1) (u.2.2.1) (u.2.2.2.1) (u.2.2.2.2.1) (u.2.2.2.2.2.1) (u.2.2.2.2.2.2.1) f_thrown (u.2.2.2.2.2.2.2)))) A) args s 0 0 A) (F0 m 81 ls []) := by
  have hx := X.1.1
  have hb := X.1.2.1
  intro nn
  induction nn with
  | zero =>
    intro x2 f_message f_size hw
    exact False.elim hw
  | succ n ih =>
    intro x2 f_message f_size hw H locs ls hH hl
    rw [wX47_next_81] at hw
    refine lv_iload_n hx hb dX47_next_81 rfl (lv_at hl 2 rfl) ?_
    refine lv_bipush (v := 8) hx hb dX47_next_82 (by decide) ?_
    refine lv_icmp_ge (tgt := 108) hx hb dX47_next_84 (by decide) (fun c_40 => ?_) (fun c_40 => ?_)
    · have hw := hw.1 (z_le (rfl : (8 : Int32).toInt = 8) (rfl : x2.toInt = _) c_40)
      exact hk108 f_message f_size hw _ _ ls hH (lv_sub hl [0, 1] rfl)
    · have hw := hw.2 (z_nle (rfl : (8 : Int32).toInt = 8) (rfl : x2.toInt = _) c_40)
      refine lv_aload_n hx hb dX47_next_87 rfl (lv_at hl 0 rfl) ?_
      refine lv_aload_n hx hb dX47_next_88 rfl (lv_at hl 0 rfl) ?_
      refine k_get X hH in_X47 0 rfl hc 5 (by decide) q5989 rfl dX47_next_89 ?_
      refine lv_bipush (v := 8) hx hb dX47_next_92 (by decide) ?_
      refine lv_iload_n hx hb dX47_next_94 rfl (lv_at hl 1 rfl) ?_
      refine lv_imul hx hb dX47_next_95 ?_
      have e_41 := z_mul (z_m (rfl : (8 : Int32).toInt = 8)) (z_m (rfl : x1.toInt = _))
      refine lv_iload_n hx hb dX47_next_96 rfl (lv_at hl 2 rfl) ?_
      refine lv_iadd hx hb dX47_next_97 ?_
      have e_42 := z_add e_41 (z_m (rfl : x2.toInt = _))
      have hq_43 := hw.1
      have hw := hw.2
      have e_44 := z_xi e_42 hq_43 (by decide)
      refine k_lald X hH 5 4 rfl rfl (z_in e_44 hq_43) dX47_next_98 ?_
      have e_45 := z_ldL (f := f_hashes) e_44 hq_43.1
      refine k_v0 hH (k_runV (As := [.long (f_hashes ((8 * x1) + x2).toNatClampNeg)]) (rest := []) X hH.1 hH.2.1 X.2.2.2 (walkX47_sayNumber hc (x1 := (f_hashes ((8 * x1) + x2).toNatClampNeg)) (f_constants := f_constants) (f_blanks := f_blanks) (f_counts := f_counts) (f_points := f_points) (f_kept := f_kept) (f_hashes := f_hashes) (f_news := f_news) (f_rounds := f_rounds) (f_hashed := f_hashed) (f_groups := f_groups) (f_groupOf := f_groupOf) (f_groupCount := f_groupCount) (f_trial := f_trial) (f_row := f_row) (f_names := f_names) (f_namedBlanks := f_namedBlanks) (f_form := f_form) (f_formCount := f_formCount) (f_octets := f_octets) (f_descriptions := f_descriptions) (f_described := f_described) (f_message := f_message) (f_size := f_size) (f_words := f_words) (f_schedule := f_schedule) (f_thrown := f_thrown) (f_said := f_said) (by rw [show (f_hashes ((8 * x1) + x2).toNatClampNeg : Int64).toInt = _ from e_45]; exact hw)) (cwV 1 X.1.2.2.2.2 gX47_266 rfl rfl rfl hX47_sayNumber ⟨Nat.le_of_ble_eq_true rfl, Nat.le_of_ble_eq_true rfl⟩) hc (q0 := 0) rfl rfl hl.1 rfl (Nat.le_of_ble_eq_true rfl) dX47_next_99 ⟨Nat.le_refl 0, Nat.le_refl 0⟩) (fun u H locs hw hH => ?_)
      obtain ⟨f_message_46, f_size_47⟩ := u
      have hH : kH (dC, dI) cl A s.heap H locs (wX47 ci ad d f_constants f_blanks f_counts f_points f_kept f_hashes f_news f_rounds f_hashed f_groups f_groupOf f_groupCount f_trial f_row f_names f_namedBlanks f_form f_formCount f_octets f_descriptions f_described f_message_46 f_size_47 f_words f_schedule f_thrown f_said) := hH
      have hq_49 := hw.1
      have hw := hw.2
      obtain ⟨x2_48, ex2_48⟩ : ∃ y : Int32, y = x2 + 1 := ⟨_, rfl⟩
      have hw := hw x2_48.toInt (by rw [ex2_48]; exact (z_x (z_add (z_m (rfl : x2.toInt = _)) (z_m (rfl : (1 : Int32).toInt = 1))) hq_49))
      refine lv_iinc (v := x2_48) (lv' := [(2, .int x2_48), (0, .ref (ad 0)), (1, .int x1)]) hx hb dX47_next_102 hl (k := 2) rfl (by rw [ex2_48]; rfl) (by decide) rfl (fun ls hl => ?_)
      refine lv_goto (tgt := 81) hx hb dX47_next_105 (by decide) ?_
      exact ih x2_48 f_message_46 f_size_47 hw _ _ ls hH (lv_sub hl [1, 2, 0] rfl)
set_option maxHeartbeats 4000000 in
theorem atX47_next_110 {p : Program} {l : Launch} {e : Env} {s : State} {m : MethodId} {args : Array Value} {below : List Frame} {meth : Method} {c : Code} {dC : Nat → ClassId} {dI : Nat → Nat → Nat} {cl : List vw_C} {ci : Nat} (hc : cl[ci]? = some (RX47, TX47, 27)) {ad : Nat → Nat} {d : Nat → ClassId} {A : Nat → Prop} {post : (Int → Int) → (Int → Int) → Int → (Int → Int) → Int → (Int → Int) → (Int → Int) → (Int → Int) → Prop} {f_constants : Nat → Int64} {f_blanks : Nat → Int32} {f_counts : Nat → Int32} {f_points : Nat → Int32} {f_kept : Int32} {f_hashes : Nat → Int64} {f_rounds : Int32} {f_hashed : Int32} {f_groups : Nat → Int32} {f_groupOf : Nat → Int32} {f_groupCount : Int32} {f_trial : Nat → Int32} {f_row : Nat → Int32} {f_names : Nat → Int32} {f_namedBlanks : Int32} {f_form : Nat → Int32} {f_formCount : Int32} {f_octets : Nat → Int32} {f_thrown : Int32} (X : kX p s m args meth c cX47_next 5 RX47 none (dC, dI) cl (tX47 d)) {K131 : (Int → Int) → Prop} {x1 : Int32} {f_news : Nat → Int64} {f_descriptions : Nat → Int32} {f_described : Int32} {f_message : Nat → Int32} {f_size : Int32} {f_words : Nat → Int64} {f_schedule : Nat → Int64} (hk131 : ∀ (f_said : Nat → Int32), K131 (zF f_said) → ∀ (H : Heap) (locs : List Loc) (ls : Array Slot), kH (dC, dI) cl A s.heap H locs (wX47 ci ad d f_constants f_blanks f_counts f_points f_kept f_hashes f_news f_rounds f_hashed f_groups f_groupOf f_groupCount f_trial f_row f_names f_namedBlanks f_form f_formCount f_octets f_descriptions f_described f_message f_size f_words f_schedule f_thrown f_said) → lv_has ls 5 [(0, .ref (ad 0)), (1, .int x1)] → W p l e ({ frames := 3, cells := 0, slots := 0, locals := 87 } : Room) s m args below meth c H locs 0 0 (MQ below (va_Qv (fun (u : (Nat → Int64) × (Nat → Int32) × Int32 × (Nat → Int32) × Int32 × (Nat → Int64) × (Nat → Int64) × (Nat → Int32)) => post (zG (u.1)) (zF (u.2.1)) (u.2.2.1).toInt (zF (u.2.2.2.1)) (u.2.2.2.2.1).toInt (zG (u.2.2.2.2.2.1)) (zG (u.2.2.2.2.2.2.1)) (zF (u.2.2.2.2.2.2.2))) (kB (dC, dI) cl (tX47 d) A (fun u : (Nat → Int64) × (Nat → Int32) × Int32 × (Nat → Int32) × Int32 × (Nat → Int64) × (Nat → Int64) × (Nat → Int32) => (wX47 ci ad d f_constants f_blanks f_counts f_points f_kept f_hashes (u.1) f_rounds f_hashed f_groups f_groupOf f_groupCount f_trial f_row f_names f_namedBlanks f_form f_formCount f_octets (u.2.1) (u.2.2.1) (u.2.2.2.1) (u.2.2.2.2.1) (u.2.2.2.2.2.1) (u.2.2.2.2.2.2.1) f_thrown (u.2.2.2.2.2.2.2)))) A) args s 0 0 A) (F0 m 131 ls [])) :
    ∀ (nn : Nat) (x2 : Int32) (f_said : Nat → Int32), wX47_next_110 K131 f_described.toInt nn x2.toInt (zF f_said) → ∀ (H : Heap) (locs : List Loc) (ls : Array Slot), kH (dC, dI) cl A s.heap H locs (wX47 ci ad d f_constants f_blanks f_counts f_points f_kept f_hashes f_news f_rounds f_hashed f_groups f_groupOf f_groupCount f_trial f_row f_names f_namedBlanks f_form f_formCount f_octets f_descriptions f_described f_message f_size f_words f_schedule f_thrown f_said) → lv_has ls 5 [(0, .ref (ad 0)), (1, .int x1), (2, .int x2)] → W p l e ({ frames := 3, cells := 0, slots := 0, locals := 87 } : Room) s m args below meth c H locs 0 0 (MQ below (va_Qv (fun (u : (Nat → Int64) × (Nat → Int32) × Int32 × (Nat → Int32) × Int32 × (Nat → Int64) × (Nat → Int64) × (Nat → Int32)) => post (zG (u.1)) (zF (u.2.1)) (u.2.2.1).toInt (zF (u.2.2.2.1)) (u.2.2.2.2.1).toInt (zG (u.2.2.2.2.2.1)) (zG (u.2.2.2.2.2.2.1)) (zF (u.2.2.2.2.2.2.2))) (kB (dC, dI) cl (tX47 d) A (fun u : (Nat → Int64) × (Nat → Int32) × Int32 × (Nat → Int32) × Int32 × (Nat → Int64) × (Nat → Int64) × (Nat → Int32) => (wX47 ci ad d f_constants f_blanks f_counts f_points f_kept f_hashes (u.1) f_rounds f_hashed f_groups f_groupOf f_groupCount f_trial f_row f_names f_namedBlanks f_form f_formCount f_octets (u.2.1) (u.2.2.1) (u.2.2.2.1) (u.2.2.2.2.1) (u.2.2.2.2.2.1) (u.2.2.2.2.2.2.1) f_thrown (u.2.2.2.2.2.2.2)))) A) args s 0 0 A) (F0 m 110 ls []) := by
  have hx := X.1.1
  have hb := X.1.2.1
  intro nn
  induction nn with
  | zero =>
    intro x2 f_said hw
    exact False.elim hw
  | succ n ih =>
    intro x2 f_said hw H locs ls hH hl
    rw [wX47_next_110] at hw
    refine lv_iload_n hx hb dX47_next_110 rfl (lv_at hl 2 rfl) ?_
    refine lv_aload_n hx hb dX47_next_111 rfl (lv_at hl 0 rfl) ?_
    refine k_get X hH in_X47 0 rfl hc 20 (by decide) q6004 rfl dX47_next_112 ?_
    refine lv_icmp_ge (tgt := 131) hx hb dX47_next_115 (by decide) (fun c_52 => ?_) (fun c_52 => ?_)
    · have hw := hw.1 (z_le (rfl : f_described.toInt = _) (rfl : x2.toInt = _) c_52)
      exact hk131 f_said hw _ _ ls hH (lv_sub hl [0, 1] rfl)
    · have hw := hw.2 (z_nle (rfl : f_described.toInt = _) (rfl : x2.toInt = _) c_52)
      refine lv_aload_n hx hb dX47_next_118 rfl (lv_at hl 0 rfl) ?_
      refine k_get X hH in_X47 0 rfl hc 26 (by decide) q6010 rfl dX47_next_119 ?_
      refine lv_iload_n hx hb dX47_next_122 rfl (lv_at hl 2 rfl) ?_
      refine lv_iconst (v := 0) hx hb dX47_next_123 (by decide) ?_
      have hq_54 := hw.1
      have hw := hw.2
      obtain ⟨f_said_53, ef_said_53⟩ : ∃ y : Nat → Int32, y = upd f_said x2.toNatClampNeg (vp_nar .boolean 0) := ⟨_, rfl⟩
      refine k_zast X hH 18 17 rfl rfl (z_in (rfl : x2.toInt = _) hq_54) dX47_next_124 ef_said_53 (ws1 := (wX47 ci ad d f_constants f_blanks f_counts f_points f_kept f_hashes f_news f_rounds f_hashed f_groups f_groupOf f_groupCount f_trial f_row f_names f_namedBlanks f_form f_formCount f_octets f_descriptions f_described f_message f_size f_words f_schedule f_thrown f_said_53)) rfl (fun H locs hH => ?_)
      have hw := hw (zF f_said_53) (by rw [ef_said_53]; exact z_st (f := f_said) (rfl : x2.toInt = _) hq_54.1 (z_narZ (rfl : (0 : Int32).toInt = 0) (by decide)))
      have hq_56 := hw.1
      have hw := hw.2
      obtain ⟨x2_55, ex2_55⟩ : ∃ y : Int32, y = x2 + 1 := ⟨_, rfl⟩
      have hw := hw x2_55.toInt (by rw [ex2_55]; exact (z_x (z_add (z_m (rfl : x2.toInt = _)) (z_m (rfl : (1 : Int32).toInt = 1))) hq_56))
      refine lv_iinc (v := x2_55) (lv' := [(2, .int x2_55), (0, .ref (ad 0)), (1, .int x1)]) hx hb dX47_next_125 hl (k := 2) rfl (by rw [ex2_55]; rfl) (by decide) rfl (fun ls hl => ?_)
      refine lv_goto (tgt := 110) hx hb dX47_next_128 (by decide) ?_
      exact ih x2_55 f_said_53 hw _ _ ls hH (lv_sub hl [1, 2, 0] rfl)
set_option maxHeartbeats 4000000 in
theorem atX47_next_146 {p : Program} {l : Launch} {e : Env} {s : State} {m : MethodId} {args : Array Value} {below : List Frame} {meth : Method} {c : Code} {dC : Nat → ClassId} {dI : Nat → Nat → Nat} {cl : List vw_C} {ci : Nat} (hc : cl[ci]? = some (RX47, TX47, 27)) {ad : Nat → Nat} {d : Nat → ClassId} {A : Nat → Prop} {post : (Int → Int) → (Int → Int) → Int → (Int → Int) → Int → (Int → Int) → (Int → Int) → (Int → Int) → Prop} {f_constants : Nat → Int64} {f_blanks : Nat → Int32} {f_counts : Nat → Int32} {f_points : Nat → Int32} {f_kept : Int32} {f_hashes : Nat → Int64} {f_rounds : Int32} {f_hashed : Int32} {f_groups : Nat → Int32} {f_groupOf : Nat → Int32} {f_groupCount : Int32} {f_trial : Nat → Int32} {f_row : Nat → Int32} {f_names : Nat → Int32} {f_namedBlanks : Int32} {f_form : Nat → Int32} {f_formCount : Int32} {f_octets : Nat → Int32} {f_thrown : Int32} (X : kX p s m args meth c cX47_next 5 RX47 none (dC, dI) cl (tX47 d)) {K188 : Int → Prop} {x1 : Int32} {x2 : Int32} {f_news : Nat → Int64} {f_descriptions : Nat → Int32} {f_described : Int32} {f_message : Nat → Int32} {f_size : Int32} {f_words : Nat → Int64} {f_schedule : Nat → Int64} {f_said : Nat → Int32} (hk188 : ∀ (x3 : Int32), K188 x3.toInt → ∀ (H : Heap) (locs : List Loc) (ls : Array Slot), kH (dC, dI) cl A s.heap H locs (wX47 ci ad d f_constants f_blanks f_counts f_points f_kept f_hashes f_news f_rounds f_hashed f_groups f_groupOf f_groupCount f_trial f_row f_names f_namedBlanks f_form f_formCount f_octets f_descriptions f_described f_message f_size f_words f_schedule f_thrown f_said) → lv_has ls 5 [(0, .ref (ad 0)), (1, .int x1), (2, .int x2), (3, .int x3)] → W p l e ({ frames := 3, cells := 0, slots := 0, locals := 87 } : Room) s m args below meth c H locs 0 0 (MQ below (va_Qv (fun (u : (Nat → Int64) × (Nat → Int32) × Int32 × (Nat → Int32) × Int32 × (Nat → Int64) × (Nat → Int64) × (Nat → Int32)) => post (zG (u.1)) (zF (u.2.1)) (u.2.2.1).toInt (zF (u.2.2.2.1)) (u.2.2.2.2.1).toInt (zG (u.2.2.2.2.2.1)) (zG (u.2.2.2.2.2.2.1)) (zF (u.2.2.2.2.2.2.2))) (kB (dC, dI) cl (tX47 d) A (fun u : (Nat → Int64) × (Nat → Int32) × Int32 × (Nat → Int32) × Int32 × (Nat → Int64) × (Nat → Int64) × (Nat → Int32) => (wX47 ci ad d f_constants f_blanks f_counts f_points f_kept f_hashes (u.1) f_rounds f_hashed f_groups f_groupOf f_groupCount f_trial f_row f_names f_namedBlanks f_form f_formCount f_octets (u.2.1) (u.2.2.1) (u.2.2.2.1) (u.2.2.2.2.1) (u.2.2.2.2.2.1) (u.2.2.2.2.2.2.1) f_thrown (u.2.2.2.2.2.2.2)))) A) args s 0 0 A) (F0 m 188 ls [])) :
    ∀ (nn : Nat) (x3 : Int32) (x4 : Int32), wX47_next_146 K188 (zF f_descriptions) f_described.toInt (zF f_said) nn x3.toInt x4.toInt → ∀ (H : Heap) (locs : List Loc) (ls : Array Slot), kH (dC, dI) cl A s.heap H locs (wX47 ci ad d f_constants f_blanks f_counts f_points f_kept f_hashes f_news f_rounds f_hashed f_groups f_groupOf f_groupCount f_trial f_row f_names f_namedBlanks f_form f_formCount f_octets f_descriptions f_described f_message f_size f_words f_schedule f_thrown f_said) → lv_has ls 5 [(0, .ref (ad 0)), (1, .int x1), (2, .int x2), (3, .int x3), (4, .int x4)] → W p l e ({ frames := 3, cells := 0, slots := 0, locals := 87 } : Room) s m args below meth c H locs 0 0 (MQ below (va_Qv (fun (u : (Nat → Int64) × (Nat → Int32) × Int32 × (Nat → Int32) × Int32 × (Nat → Int64) × (Nat → Int64) × (Nat → Int32)) => post (zG (u.1)) (zF (u.2.1)) (u.2.2.1).toInt (zF (u.2.2.2.1)) (u.2.2.2.2.1).toInt (zG (u.2.2.2.2.2.1)) (zG (u.2.2.2.2.2.2.1)) (zF (u.2.2.2.2.2.2.2))) (kB (dC, dI) cl (tX47 d) A (fun u : (Nat → Int64) × (Nat → Int32) × Int32 × (Nat → Int32) × Int32 × (Nat → Int64) × (Nat → Int64) × (Nat → Int32) => (wX47 ci ad d f_constants f_blanks f_counts f_points f_kept f_hashes (u.1) f_rounds f_hashed f_groups f_groupOf f_groupCount f_trial f_row f_names f_namedBlanks f_form f_formCount f_octets (u.2.1) (u.2.2.1) (u.2.2.2.1) (u.2.2.2.2.1) (u.2.2.2.2.2.1) (u.2.2.2.2.2.2.1) f_thrown (u.2.2.2.2.2.2.2)))) A) args s 0 0 A) (F0 m 146 ls []) := by
  have hx := X.1.1
  have hb := X.1.2.1
  intro nn
  induction nn with
  | zero =>
    intro x3 x4 hw
    exact False.elim hw
  | succ n ih =>
    intro x3 x4 hw H locs ls hH hl
    rw [wX47_next_146] at hw
    refine lv_iload hx hb dX47_next_146 (lv_at hl 4 rfl) ?_
    refine lv_aload_n hx hb dX47_next_148 rfl (lv_at hl 0 rfl) ?_
    refine k_get X hH in_X47 0 rfl hc 20 (by decide) q6004 rfl dX47_next_149 ?_
    refine lv_icmp_ge (tgt := 188) hx hb dX47_next_152 (by decide) (fun c_59 => ?_) (fun c_59 => ?_)
    · have hw := hw.1 (z_le (rfl : f_described.toInt = _) (rfl : x4.toInt = _) c_59)
      exact hk188 x3 hw _ _ ls hH (lv_sub hl [0, 1, 2, 3] rfl)
    · have hw := hw.2 (z_nle (rfl : f_described.toInt = _) (rfl : x4.toInt = _) c_59)
      refine lv_aload_n hx hb dX47_next_155 rfl (lv_at hl 0 rfl) ?_
      refine k_get X hH in_X47 0 rfl hc 26 (by decide) q6010 rfl dX47_next_156 ?_
      refine lv_iload hx hb dX47_next_159 (lv_at hl 4 rfl) ?_
      have hq_60 := hw.1
      have hw := hw.2
      refine k_zald X hH 18 17 rfl rfl (z_in (rfl : x4.toInt = _) hq_60) dX47_next_161 ?_
      have e_61 := z_ld (f := f_said) (rfl : x4.toInt = _) hq_60.1
      refine lv_if_ne (tgt := 182) hx hb dX47_next_162 (by decide) (fun c_62 => ?_) (fun c_62 => ?_)
      · have hw := hw.2 (z_ne e_61 (rfl : (0 : Int32).toInt = 0) c_62)
        have hq_64 := hw.1
        have hw := hw.2
        obtain ⟨x4_63, ex4_63⟩ : ∃ y : Int32, y = x4 + 1 := ⟨_, rfl⟩
        have hw := hw x4_63.toInt (by rw [ex4_63]; exact (z_x (z_add (z_m (rfl : x4.toInt = _)) (z_m (rfl : (1 : Int32).toInt = 1))) hq_64))
        refine lv_iinc (v := x4_63) (lv' := [(4, .int x4_63), (0, .ref (ad 0)), (1, .int x1), (2, .int x2), (3, .int x3)]) hx hb dX47_next_182 hl (k := 4) rfl (by rw [ex4_63]; rfl) (by decide) rfl (fun ls hl => ?_)
        refine lv_goto (tgt := 146) hx hb dX47_next_185 (by decide) ?_
        exact ih x3 x4_63 hw _ _ ls hH (lv_sub hl [1, 2, 3, 4, 0] rfl)
      · have hw := hw.1 (z_eq e_61 (rfl : (0 : Int32).toInt = 0) c_62)
        refine lv_iload_n hx hb dX47_next_165 rfl (lv_at hl 3 rfl) ?_
        refine lv_if_lt (tgt := 179) hx hb dX47_next_166 (by decide) (fun c_65 => ?_) (fun c_65 => ?_)
        · have hw := hw.1 (z_lt (rfl : x3.toInt = _) (rfl : (0 : Int32).toInt = 0) c_65)
          refine lv_iload hx hb dX47_next_179 (lv_at hl 4 rfl) ?_
          refine lv_istore_n (lv' := [(3, .int x4), (0, .ref (ad 0)), (1, .int x1), (2, .int x2), (4, .int x4)]) hx hb dX47_next_181 rfl hl (by decide) rfl (fun ls hl => ?_)
          have hq_67 := hw.1
          have hw := hw.2
          obtain ⟨x4_66, ex4_66⟩ : ∃ y : Int32, y = x4 + 1 := ⟨_, rfl⟩
          have hw := hw x4_66.toInt (by rw [ex4_66]; exact (z_x (z_add (z_m (rfl : x4.toInt = _)) (z_m (rfl : (1 : Int32).toInt = 1))) hq_67))
          refine lv_iinc (v := x4_66) (lv' := [(4, .int x4_66), (3, .int x4), (0, .ref (ad 0)), (1, .int x1), (2, .int x2)]) hx hb dX47_next_182 hl (k := 4) rfl (by rw [ex4_66]; rfl) (by decide) rfl (fun ls hl => ?_)
          refine lv_goto (tgt := 146) hx hb dX47_next_185 (by decide) ?_
          exact ih x4 x4_66 hw _ _ ls hH (lv_sub hl [2, 3, 4, 1, 0] rfl)
        · have hw := hw.2 (z_nlt (rfl : x3.toInt = _) (rfl : (0 : Int32).toInt = 0) c_65)
          refine lv_aload_n hx hb dX47_next_169 rfl (lv_at hl 0 rfl) ?_
          refine lv_iload hx hb dX47_next_170 (lv_at hl 4 rfl) ?_
          refine lv_iload_n hx hb dX47_next_172 rfl (lv_at hl 3 rfl) ?_
          refine k_i0 hH (k_runV (As := [.int x4, .int x3]) (rest := []) X hH.1 hH.2.1 X.2.2.2 (walkX47_isBefore hc (x1 := x4) (x2 := x3) (f_constants := f_constants) (f_blanks := f_blanks) (f_counts := f_counts) (f_points := f_points) (f_kept := f_kept) (f_hashes := f_hashes) (f_news := f_news) (f_rounds := f_rounds) (f_hashed := f_hashed) (f_groups := f_groups) (f_groupOf := f_groupOf) (f_groupCount := f_groupCount) (f_trial := f_trial) (f_row := f_row) (f_names := f_names) (f_namedBlanks := f_namedBlanks) (f_form := f_form) (f_formCount := f_formCount) (f_octets := f_octets) (f_descriptions := f_descriptions) (f_described := f_described) (f_message := f_message) (f_size := f_size) (f_words := f_words) (f_schedule := f_schedule) (f_thrown := f_thrown) (f_said := f_said) hw) (cwV 2 X.1.2.2.2.2 gX47_270 rfl rfl rfl hX47_isBefore ⟨Nat.le_of_ble_eq_true rfl, Nat.le_of_ble_eq_true rfl⟩) hc (q0 := 0) rfl rfl hl.1 rfl (Nat.le_of_ble_eq_true rfl) dX47_next_173 ⟨Nat.le_refl 0, Nat.le_refl 0⟩) (fun r_68 _ H locs hw hH => ?_)
          have hH : kH (dC, dI) cl A s.heap H locs (wX47 ci ad d f_constants f_blanks f_counts f_points f_kept f_hashes f_news f_rounds f_hashed f_groups f_groupOf f_groupCount f_trial f_row f_names f_namedBlanks f_form f_formCount f_octets f_descriptions f_described f_message f_size f_words f_schedule f_thrown f_said) := hH
          refine lv_if_eq (tgt := 182) hx hb dX47_next_176 (by decide) (fun c_69 => ?_) (fun c_69 => ?_)
          · have hw := hw.1 (z_eq (rfl : r_68.toInt = _) (rfl : (0 : Int32).toInt = 0) c_69)
            have hq_71 := hw.1
            have hw := hw.2
            obtain ⟨x4_70, ex4_70⟩ : ∃ y : Int32, y = x4 + 1 := ⟨_, rfl⟩
            have hw := hw x4_70.toInt (by rw [ex4_70]; exact (z_x (z_add (z_m (rfl : x4.toInt = _)) (z_m (rfl : (1 : Int32).toInt = 1))) hq_71))
            refine lv_iinc (v := x4_70) (lv' := [(4, .int x4_70), (0, .ref (ad 0)), (1, .int x1), (2, .int x2), (3, .int x3)]) hx hb dX47_next_182 hl (k := 4) rfl (by rw [ex4_70]; rfl) (by decide) rfl (fun ls hl => ?_)
            refine lv_goto (tgt := 146) hx hb dX47_next_185 (by decide) ?_
            exact ih x3 x4_70 hw _ _ ls hH (lv_sub hl [1, 2, 3, 4, 0] rfl)
          · have hw := hw.2 (z_neq (rfl : r_68.toInt = _) (rfl : (0 : Int32).toInt = 0) c_69)
            refine lv_iload hx hb dX47_next_179 (lv_at hl 4 rfl) ?_
            refine lv_istore_n (lv' := [(3, .int x4), (0, .ref (ad 0)), (1, .int x1), (2, .int x2), (4, .int x4)]) hx hb dX47_next_181 rfl hl (by decide) rfl (fun ls hl => ?_)
            have hq_73 := hw.1
            have hw := hw.2
            obtain ⟨x4_72, ex4_72⟩ : ∃ y : Int32, y = x4 + 1 := ⟨_, rfl⟩
            have hw := hw x4_72.toInt (by rw [ex4_72]; exact (z_x (z_add (z_m (rfl : x4.toInt = _)) (z_m (rfl : (1 : Int32).toInt = 1))) hq_73))
            refine lv_iinc (v := x4_72) (lv' := [(4, .int x4_72), (3, .int x4), (0, .ref (ad 0)), (1, .int x1), (2, .int x2)]) hx hb dX47_next_182 hl (k := 4) rfl (by rw [ex4_72]; rfl) (by decide) rfl (fun ls hl => ?_)
            refine lv_goto (tgt := 146) hx hb dX47_next_185 (by decide) ?_
            exact ih x4 x4_72 hw _ _ ls hH (lv_sub hl [2, 3, 4, 1, 0] rfl)
set_option maxHeartbeats 4000000 in
theorem atX47_next_198 {p : Program} {l : Launch} {e : Env} {s : State} {m : MethodId} {args : Array Value} {below : List Frame} {meth : Method} {c : Code} {dC : Nat → ClassId} {dI : Nat → Nat → Nat} {cl : List vw_C} {ci : Nat} (hc : cl[ci]? = some (RX47, TX47, 27)) {ad : Nat → Nat} {d : Nat → ClassId} {A : Nat → Prop} {post : (Int → Int) → (Int → Int) → Int → (Int → Int) → Int → (Int → Int) → (Int → Int) → (Int → Int) → Prop} {f_constants : Nat → Int64} {f_blanks : Nat → Int32} {f_counts : Nat → Int32} {f_points : Nat → Int32} {f_kept : Int32} {f_hashes : Nat → Int64} {f_rounds : Int32} {f_hashed : Int32} {f_groups : Nat → Int32} {f_groupOf : Nat → Int32} {f_groupCount : Int32} {f_trial : Nat → Int32} {f_row : Nat → Int32} {f_names : Nat → Int32} {f_namedBlanks : Int32} {f_form : Nat → Int32} {f_formCount : Int32} {f_octets : Nat → Int32} {f_thrown : Int32} (X : kX p s m args meth c cX47_next 5 RX47 none (dC, dI) cl (tX47 d)) {K236 : (Int → Int) → Int → Prop} {x1 : Int32} {x2 : Int32} {x3 : Int32} {f_news : Nat → Int64} {f_descriptions : Nat → Int32} {f_described : Int32} {f_words : Nat → Int64} {f_schedule : Nat → Int64} {f_said : Nat → Int32} (hk236 : ∀ (f_message : Nat → Int32) (f_size : Int32), K236 (zF f_message) f_size.toInt → ∀ (H : Heap) (locs : List Loc) (ls : Array Slot), kH (dC, dI) cl A s.heap H locs (wX47 ci ad d f_constants f_blanks f_counts f_points f_kept f_hashes f_news f_rounds f_hashed f_groups f_groupOf f_groupCount f_trial f_row f_names f_namedBlanks f_form f_formCount f_octets f_descriptions f_described f_message f_size f_words f_schedule f_thrown f_said) → lv_has ls 5 [(0, .ref (ad 0)), (1, .int x1), (2, .int x2)] → W p l e ({ frames := 3, cells := 0, slots := 0, locals := 87 } : Room) s m args below meth c H locs 0 0 (MQ below (va_Qv (fun (u : (Nat → Int64) × (Nat → Int32) × Int32 × (Nat → Int32) × Int32 × (Nat → Int64) × (Nat → Int64) × (Nat → Int32)) => post (zG (u.1)) (zF (u.2.1)) (u.2.2.1).toInt (zF (u.2.2.2.1)) (u.2.2.2.2.1).toInt (zG (u.2.2.2.2.2.1)) (zG (u.2.2.2.2.2.2.1)) (zF (u.2.2.2.2.2.2.2))) (kB (dC, dI) cl (tX47 d) A (fun u : (Nat → Int64) × (Nat → Int32) × Int32 × (Nat → Int32) × Int32 × (Nat → Int64) × (Nat → Int64) × (Nat → Int32) => (wX47 ci ad d f_constants f_blanks f_counts f_points f_kept f_hashes (u.1) f_rounds f_hashed f_groups f_groupOf f_groupCount f_trial f_row f_names f_namedBlanks f_form f_formCount f_octets (u.2.1) (u.2.2.1) (u.2.2.2.1) (u.2.2.2.2.1) (u.2.2.2.2.2.1) (u.2.2.2.2.2.2.1) f_thrown (u.2.2.2.2.2.2.2)))) A) args s 0 0 A) (F0 m 236 ls [])) :
    ∀ (nn : Nat) (x4 : Int32) (f_message : Nat → Int32) (f_size : Int32), wX47_next_198 K236 x3.toInt (zF f_descriptions) nn x4.toInt (zF f_message) f_size.toInt → ∀ (H : Heap) (locs : List Loc) (ls : Array Slot), kH (dC, dI) cl A s.heap H locs (wX47 ci ad d f_constants f_blanks f_counts f_points f_kept f_hashes f_news f_rounds f_hashed f_groups f_groupOf f_groupCount f_trial f_row f_names f_namedBlanks f_form f_formCount f_octets f_descriptions f_described f_message f_size f_words f_schedule f_thrown f_said) → lv_has ls 5 [(0, .ref (ad 0)), (1, .int x1), (2, .int x2), (3, .int x3), (4, .int x4)] → W p l e ({ frames := 3, cells := 0, slots := 0, locals := 87 } : Room) s m args below meth c H locs 0 0 (MQ below (va_Qv (fun (u : (Nat → Int64) × (Nat → Int32) × Int32 × (Nat → Int32) × Int32 × (Nat → Int64) × (Nat → Int64) × (Nat → Int32)) => post (zG (u.1)) (zF (u.2.1)) (u.2.2.1).toInt (zF (u.2.2.2.1)) (u.2.2.2.2.1).toInt (zG (u.2.2.2.2.2.1)) (zG (u.2.2.2.2.2.2.1)) (zF (u.2.2.2.2.2.2.2))) (kB (dC, dI) cl (tX47 d) A (fun u : (Nat → Int64) × (Nat → Int32) × Int32 × (Nat → Int32) × Int32 × (Nat → Int64) × (Nat → Int64) × (Nat → Int32) => (wX47 ci ad d f_constants f_blanks f_counts f_points f_kept f_hashes (u.1) f_rounds f_hashed f_groups f_groupOf f_groupCount f_trial f_row f_names f_namedBlanks f_form f_formCount f_octets (u.2.1) (u.2.2.1) (u.2.2.2.1) (u.2.2.2.2.1) (u.2.2.2.2.2.1) (u.2.2.2.2.2.2.1) f_thrown (u.2.2.2.2.2.2.2)))) A) args s 0 0 A) (F0 m 198 ls []) := by
  have hx := X.1.1
  have hb := X.1.2.1
  intro nn
  induction nn with
  | zero =>
    intro x4 f_message f_size hw
    exact False.elim hw
  | succ n ih =>
    intro x4 f_message f_size hw H locs ls hH hl
    rw [wX47_next_198] at hw
    refine lv_iload hx hb dX47_next_198 (lv_at hl 4 rfl) ?_
    refine lv_aload_n hx hb dX47_next_200 rfl (lv_at hl 0 rfl) ?_
    refine k_get X hH in_X47 0 rfl hc 19 (by decide) q6003 rfl dX47_next_201 ?_
    refine lv_sipush (v := 128) hx hb dX47_next_204 (by decide) ?_
    refine lv_iload_n hx hb dX47_next_207 rfl (lv_at hl 3 rfl) ?_
    refine lv_imul hx hb dX47_next_208 ?_
    have e_77 := z_mul (z_m (rfl : (128 : Int32).toInt = 128)) (z_m (rfl : x3.toInt = _))
    have hq_78 := hw.1
    have hw := hw.2
    have e_79 := z_xi e_77 hq_78 (by decide)
    refine k_iald X hH 14 13 rfl rfl (z_in e_79 hq_78) dX47_next_209 ?_
    have e_80 := z_ld (f := f_descriptions) e_79 hq_78.1
    refine lv_icmp_gt (tgt := 236) hx hb dX47_next_210 (by decide) (fun c_81 => ?_) (fun c_81 => ?_)
    · have hw := hw.1 (z_lt e_80 (rfl : x4.toInt = _) c_81)
      exact hk236 f_message f_size hw _ _ ls hH (lv_sub hl [0, 1, 2] rfl)
    · have hw := hw.2 (z_nlt e_80 (rfl : x4.toInt = _) c_81)
      refine lv_aload_n hx hb dX47_next_213 rfl (lv_at hl 0 rfl) ?_
      refine lv_aload_n hx hb dX47_next_214 rfl (lv_at hl 0 rfl) ?_
      refine k_get X hH in_X47 0 rfl hc 19 (by decide) q6003 rfl dX47_next_215 ?_
      refine lv_sipush (v := 128) hx hb dX47_next_218 (by decide) ?_
      refine lv_iload_n hx hb dX47_next_221 rfl (lv_at hl 3 rfl) ?_
      refine lv_imul hx hb dX47_next_222 ?_
      have e_82 := z_mul (z_m (rfl : (128 : Int32).toInt = 128)) (z_m (rfl : x3.toInt = _))
      refine lv_iload hx hb dX47_next_223 (lv_at hl 4 rfl) ?_
      refine lv_iadd hx hb dX47_next_225 ?_
      have e_83 := z_add e_82 (z_m (rfl : x4.toInt = _))
      have hq_84 := hw.1
      have hw := hw.2
      have e_85 := z_xi e_83 hq_84 (by decide)
      refine k_iald X hH 14 13 rfl rfl (z_in e_85 hq_84) dX47_next_226 ?_
      have e_86 := z_ld (f := f_descriptions) e_85 hq_84.1
      refine k_v0 hH (k_runV (As := [.int (f_descriptions ((128 * x3) + x4).toNatClampNeg)]) (rest := []) X hH.1 hH.2.1 X.2.2.2 (walkX47_say hc (x1 := (f_descriptions ((128 * x3) + x4).toNatClampNeg)) (f_constants := f_constants) (f_blanks := f_blanks) (f_counts := f_counts) (f_points := f_points) (f_kept := f_kept) (f_hashes := f_hashes) (f_news := f_news) (f_rounds := f_rounds) (f_hashed := f_hashed) (f_groups := f_groups) (f_groupOf := f_groupOf) (f_groupCount := f_groupCount) (f_trial := f_trial) (f_row := f_row) (f_names := f_names) (f_namedBlanks := f_namedBlanks) (f_form := f_form) (f_formCount := f_formCount) (f_octets := f_octets) (f_descriptions := f_descriptions) (f_described := f_described) (f_message := f_message) (f_size := f_size) (f_words := f_words) (f_schedule := f_schedule) (f_thrown := f_thrown) (f_said := f_said) (by rw [show (f_descriptions ((128 * x3) + x4).toNatClampNeg : Int32).toInt = _ from e_86]; exact hw)) (cwV 1 X.1.2.2.2.2 gX47_238 rfl rfl rfl hX47_say ⟨Nat.le_of_ble_eq_true rfl, Nat.le_of_ble_eq_true rfl⟩) hc (q0 := 0) rfl rfl hl.1 rfl (Nat.le_of_ble_eq_true rfl) dX47_next_227 ⟨Nat.le_refl 0, Nat.le_refl 0⟩) (fun u H locs hw hH => ?_)
      obtain ⟨f_message_87, f_size_88⟩ := u
      have hH : kH (dC, dI) cl A s.heap H locs (wX47 ci ad d f_constants f_blanks f_counts f_points f_kept f_hashes f_news f_rounds f_hashed f_groups f_groupOf f_groupCount f_trial f_row f_names f_namedBlanks f_form f_formCount f_octets f_descriptions f_described f_message_87 f_size_88 f_words f_schedule f_thrown f_said) := hH
      have hq_90 := hw.1
      have hw := hw.2
      obtain ⟨x4_89, ex4_89⟩ : ∃ y : Int32, y = x4 + 1 := ⟨_, rfl⟩
      have hw := hw x4_89.toInt (by rw [ex4_89]; exact (z_x (z_add (z_m (rfl : x4.toInt = _)) (z_m (rfl : (1 : Int32).toInt = 1))) hq_90))
      refine lv_iinc (v := x4_89) (lv' := [(4, .int x4_89), (0, .ref (ad 0)), (1, .int x1), (2, .int x2), (3, .int x3)]) hx hb dX47_next_230 hl (k := 4) rfl (by rw [ex4_89]; rfl) (by decide) rfl (fun ls hl => ?_)
      refine lv_goto (tgt := 198) hx hb dX47_next_233 (by decide) ?_
      exact ih x4_89 f_message_87 f_size_88 hw _ _ ls hH (lv_sub hl [1, 2, 3, 4, 0] rfl)
set_option maxHeartbeats 4000000 in
theorem atX47_next_133 {p : Program} {l : Launch} {e : Env} {s : State} {m : MethodId} {args : Array Value} {below : List Frame} {meth : Method} {c : Code} {dC : Nat → ClassId} {dI : Nat → Nat → Nat} {cl : List vw_C} {ci : Nat} (hc : cl[ci]? = some (RX47, TX47, 27)) {ad : Nat → Nat} {d : Nat → ClassId} {A : Nat → Prop} {post : (Int → Int) → (Int → Int) → Int → (Int → Int) → Int → (Int → Int) → (Int → Int) → (Int → Int) → Prop} {f_constants : Nat → Int64} {f_blanks : Nat → Int32} {f_counts : Nat → Int32} {f_points : Nat → Int32} {f_kept : Int32} {f_hashes : Nat → Int64} {f_rounds : Int32} {f_hashed : Int32} {f_groups : Nat → Int32} {f_groupOf : Nat → Int32} {f_groupCount : Int32} {f_trial : Nat → Int32} {f_row : Nat → Int32} {f_names : Nat → Int32} {f_namedBlanks : Int32} {f_form : Nat → Int32} {f_formCount : Int32} {f_octets : Nat → Int32} {f_thrown : Int32} (X : kX p s m args meth c cX47_next 5 RX47 none (dC, dI) cl (tX47 d)) {K242 : (Int → Int) → Int → (Int → Int) → Prop} {x1 : Int32} {f_news : Nat → Int64} {f_descriptions : Nat → Int32} {f_described : Int32} {f_words : Nat → Int64} {f_schedule : Nat → Int64} (hk242 : ∀ (f_message : Nat → Int32) (f_size : Int32) (f_said : Nat → Int32), K242 (zF f_message) f_size.toInt (zF f_said) → ∀ (H : Heap) (locs : List Loc) (ls : Array Slot), kH (dC, dI) cl A s.heap H locs (wX47 ci ad d f_constants f_blanks f_counts f_points f_kept f_hashes f_news f_rounds f_hashed f_groups f_groupOf f_groupCount f_trial f_row f_names f_namedBlanks f_form f_formCount f_octets f_descriptions f_described f_message f_size f_words f_schedule f_thrown f_said) → lv_has ls 5 [(0, .ref (ad 0)), (1, .int x1)] → W p l e ({ frames := 3, cells := 0, slots := 0, locals := 87 } : Room) s m args below meth c H locs 0 0 (MQ below (va_Qv (fun (u : (Nat → Int64) × (Nat → Int32) × Int32 × (Nat → Int32) × Int32 × (Nat → Int64) × (Nat → Int64) × (Nat → Int32)) => post (zG (u.1)) (zF (u.2.1)) (u.2.2.1).toInt (zF (u.2.2.2.1)) (u.2.2.2.2.1).toInt (zG (u.2.2.2.2.2.1)) (zG (u.2.2.2.2.2.2.1)) (zF (u.2.2.2.2.2.2.2))) (kB (dC, dI) cl (tX47 d) A (fun u : (Nat → Int64) × (Nat → Int32) × Int32 × (Nat → Int32) × Int32 × (Nat → Int64) × (Nat → Int64) × (Nat → Int32) => (wX47 ci ad d f_constants f_blanks f_counts f_points f_kept f_hashes (u.1) f_rounds f_hashed f_groups f_groupOf f_groupCount f_trial f_row f_names f_namedBlanks f_form f_formCount f_octets (u.2.1) (u.2.2.1) (u.2.2.2.1) (u.2.2.2.2.1) (u.2.2.2.2.2.1) (u.2.2.2.2.2.2.1) f_thrown (u.2.2.2.2.2.2.2)))) A) args s 0 0 A) (F0 m 242 ls [])) :
    ∀ (nn : Nat) (x2 : Int32) (f_message : Nat → Int32) (f_size : Int32) (f_said : Nat → Int32), wX47_next_133 K242 (zF f_descriptions) f_described.toInt nn x2.toInt (zF f_message) f_size.toInt (zF f_said) → ∀ (H : Heap) (locs : List Loc) (ls : Array Slot), kH (dC, dI) cl A s.heap H locs (wX47 ci ad d f_constants f_blanks f_counts f_points f_kept f_hashes f_news f_rounds f_hashed f_groups f_groupOf f_groupCount f_trial f_row f_names f_namedBlanks f_form f_formCount f_octets f_descriptions f_described f_message f_size f_words f_schedule f_thrown f_said) → lv_has ls 5 [(0, .ref (ad 0)), (1, .int x1), (2, .int x2)] → W p l e ({ frames := 3, cells := 0, slots := 0, locals := 87 } : Room) s m args below meth c H locs 0 0 (MQ below (va_Qv (fun (u : (Nat → Int64) × (Nat → Int32) × Int32 × (Nat → Int32) × Int32 × (Nat → Int64) × (Nat → Int64) × (Nat → Int32)) => post (zG (u.1)) (zF (u.2.1)) (u.2.2.1).toInt (zF (u.2.2.2.1)) (u.2.2.2.2.1).toInt (zG (u.2.2.2.2.2.1)) (zG (u.2.2.2.2.2.2.1)) (zF (u.2.2.2.2.2.2.2))) (kB (dC, dI) cl (tX47 d) A (fun u : (Nat → Int64) × (Nat → Int32) × Int32 × (Nat → Int32) × Int32 × (Nat → Int64) × (Nat → Int64) × (Nat → Int32) => (wX47 ci ad d f_constants f_blanks f_counts f_points f_kept f_hashes (u.1) f_rounds f_hashed f_groups f_groupOf f_groupCount f_trial f_row f_names f_namedBlanks f_form f_formCount f_octets (u.2.1) (u.2.2.1) (u.2.2.2.1) (u.2.2.2.2.1) (u.2.2.2.2.2.1) (u.2.2.2.2.2.2.1) f_thrown (u.2.2.2.2.2.2.2)))) A) args s 0 0 A) (F0 m 133 ls []) := by
  have hx := X.1.1
  have hb := X.1.2.1
  intro nn
  induction nn with
  | zero =>
    intro x2 f_message f_size f_said hw
    exact False.elim hw
  | succ n ih =>
    intro x2 f_message f_size f_said hw H locs ls hH hl
    rw [wX47_next_133] at hw
    refine lv_iload_n hx hb dX47_next_133 rfl (lv_at hl 2 rfl) ?_
    refine lv_aload_n hx hb dX47_next_134 rfl (lv_at hl 0 rfl) ?_
    refine k_get X hH in_X47 0 rfl hc 20 (by decide) q6004 rfl dX47_next_135 ?_
    refine lv_icmp_ge (tgt := 242) hx hb dX47_next_138 (by decide) (fun c_58 => ?_) (fun c_58 => ?_)
    · have hw := hw.1 (z_le (rfl : f_described.toInt = _) (rfl : x2.toInt = _) c_58)
      exact hk242 f_message f_size f_said hw _ _ ls hH (lv_sub hl [0, 1] rfl)
    · have hw := hw.2 (z_nle (rfl : f_described.toInt = _) (rfl : x2.toInt = _) c_58)
      refine lv_iconst (v := (-1)) hx hb dX47_next_141 (by decide) ?_
      refine lv_istore_n (lv' := [(3, .int ((-1))), (0, .ref (ad 0)), (1, .int x1), (2, .int x2)]) hx hb dX47_next_142 rfl hl (by decide) rfl (fun ls hl => ?_)
      refine lv_iconst (v := 0) hx hb dX47_next_143 (by decide) ?_
      refine lv_istore (lv' := [(4, .int 0), (3, .int ((-1))), (0, .ref (ad 0)), (1, .int x1), (2, .int x2)]) hx hb dX47_next_144 hl (by decide) rfl (fun ls hl => ?_)
      obtain ⟨fu, hw⟩ := hw
      refine atX47_next_146 hc X ?_ fu (-1) 0 hw _ _ ls hH (lv_sub hl [2, 3, 4, 1, 0] rfl)
      · intro x3_74 hw H locs ls hH hl
        refine lv_aload_n hx hb dX47_next_188 rfl (lv_at hl 0 rfl) ?_
        refine k_get X hH in_X47 0 rfl hc 26 (by decide) q6010 rfl dX47_next_189 ?_
        refine lv_iload_n hx hb dX47_next_192 rfl (lv_at hl 3 rfl) ?_
        refine lv_iconst (v := 1) hx hb dX47_next_193 (by decide) ?_
        have hq_76 := hw.1
        have hw := hw.2
        obtain ⟨f_said_75, ef_said_75⟩ : ∃ y : Nat → Int32, y = upd f_said x3_74.toNatClampNeg (vp_nar .boolean 1) := ⟨_, rfl⟩
        refine k_zast X hH 18 17 rfl rfl (z_in (rfl : x3_74.toInt = _) hq_76) dX47_next_194 ef_said_75 (ws1 := (wX47 ci ad d f_constants f_blanks f_counts f_points f_kept f_hashes f_news f_rounds f_hashed f_groups f_groupOf f_groupCount f_trial f_row f_names f_namedBlanks f_form f_formCount f_octets f_descriptions f_described f_message f_size f_words f_schedule f_thrown f_said_75)) rfl (fun H locs hH => ?_)
        have hw := hw (zF f_said_75) (by rw [ef_said_75]; exact z_st (f := f_said) (rfl : x3_74.toInt = _) hq_76.1 (z_narZ (rfl : (1 : Int32).toInt = 1) (by decide)))
        refine lv_iconst (v := 1) hx hb dX47_next_195 (by decide) ?_
        refine lv_istore (lv' := [(4, .int 1), (0, .ref (ad 0)), (1, .int x1), (2, .int x2), (3, .int x3_74)]) hx hb dX47_next_196 hl (by decide) rfl (fun ls hl => ?_)
        obtain ⟨fu, hw⟩ := hw
        refine atX47_next_198 hc X ?_ fu 1 f_message f_size hw _ _ ls hH (lv_sub hl [1, 2, 3, 4, 0] rfl)
        · intro f_message_91 f_size_92 hw H locs ls hH hl
          have hq_94 := hw.1
          have hw := hw.2
          obtain ⟨x2_93, ex2_93⟩ : ∃ y : Int32, y = x2 + 1 := ⟨_, rfl⟩
          have hw := hw x2_93.toInt (by rw [ex2_93]; exact (z_x (z_add (z_m (rfl : x2.toInt = _)) (z_m (rfl : (1 : Int32).toInt = 1))) hq_94))
          refine lv_iinc (v := x2_93) (lv' := [(2, .int x2_93), (0, .ref (ad 0)), (1, .int x1)]) hx hb dX47_next_236 hl (k := 2) rfl (by rw [ex2_93]; rfl) (by decide) rfl (fun ls hl => ?_)
          refine lv_goto (tgt := 133) hx hb dX47_next_239 (by decide) ?_
          exact ih x2_93 f_message_91 f_size_92 f_said_75 hw _ _ ls hH (lv_sub hl [1, 2, 0] rfl)
set_option maxHeartbeats 4000000 in
theorem atX47_next_252 {p : Program} {l : Launch} {e : Env} {s : State} {m : MethodId} {args : Array Value} {below : List Frame} {meth : Method} {c : Code} {dC : Nat → ClassId} {dI : Nat → Nat → Nat} {cl : List vw_C} {ci : Nat} (hc : cl[ci]? = some (RX47, TX47, 27)) {ad : Nat → Nat} {d : Nat → ClassId} {A : Nat → Prop} {post : (Int → Int) → (Int → Int) → Int → (Int → Int) → Int → (Int → Int) → (Int → Int) → (Int → Int) → Prop} {f_constants : Nat → Int64} {f_blanks : Nat → Int32} {f_counts : Nat → Int32} {f_points : Nat → Int32} {f_kept : Int32} {f_hashes : Nat → Int64} {f_rounds : Int32} {f_hashed : Int32} {f_groups : Nat → Int32} {f_groupOf : Nat → Int32} {f_groupCount : Int32} {f_trial : Nat → Int32} {f_row : Nat → Int32} {f_names : Nat → Int32} {f_namedBlanks : Int32} {f_form : Nat → Int32} {f_formCount : Int32} {f_octets : Nat → Int32} {f_thrown : Int32} (X : kX p s m args meth c cX47_next 5 RX47 none (dC, dI) cl (tX47 d)) {K281 : (Int → Int) → Prop} {x1 : Int32} {f_descriptions : Nat → Int32} {f_described : Int32} {f_message : Nat → Int32} {f_size : Int32} {f_words : Nat → Int64} {f_schedule : Nat → Int64} {f_said : Nat → Int32} (hk281 : ∀ (f_news : Nat → Int64), K281 (zG f_news) → ∀ (H : Heap) (locs : List Loc) (ls : Array Slot), kH (dC, dI) cl A s.heap H locs (wX47 ci ad d f_constants f_blanks f_counts f_points f_kept f_hashes f_news f_rounds f_hashed f_groups f_groupOf f_groupCount f_trial f_row f_names f_namedBlanks f_form f_formCount f_octets f_descriptions f_described f_message f_size f_words f_schedule f_thrown f_said) → lv_has ls 5 [] → W p l e ({ frames := 3, cells := 0, slots := 0, locals := 87 } : Room) s m args below meth c H locs 0 0 (MQ below (va_Qv (fun (u : (Nat → Int64) × (Nat → Int32) × Int32 × (Nat → Int32) × Int32 × (Nat → Int64) × (Nat → Int64) × (Nat → Int32)) => post (zG (u.1)) (zF (u.2.1)) (u.2.2.1).toInt (zF (u.2.2.2.1)) (u.2.2.2.2.1).toInt (zG (u.2.2.2.2.2.1)) (zG (u.2.2.2.2.2.2.1)) (zF (u.2.2.2.2.2.2.2))) (kB (dC, dI) cl (tX47 d) A (fun u : (Nat → Int64) × (Nat → Int32) × Int32 × (Nat → Int32) × Int32 × (Nat → Int64) × (Nat → Int64) × (Nat → Int32) => (wX47 ci ad d f_constants f_blanks f_counts f_points f_kept f_hashes (u.1) f_rounds f_hashed f_groups f_groupOf f_groupCount f_trial f_row f_names f_namedBlanks f_form f_formCount f_octets (u.2.1) (u.2.2.1) (u.2.2.2.1) (u.2.2.2.2.1) (u.2.2.2.2.2.1) (u.2.2.2.2.2.2.1) f_thrown (u.2.2.2.2.2.2.2)))) A) args s 0 0 A) (F0 m 281 ls [])) :
    ∀ (nn : Nat) (x2 : Int32) (f_news : Nat → Int64), wX47_next_252 K281 x1.toInt (zG f_words) nn x2.toInt (zG f_news) → ∀ (H : Heap) (locs : List Loc) (ls : Array Slot), kH (dC, dI) cl A s.heap H locs (wX47 ci ad d f_constants f_blanks f_counts f_points f_kept f_hashes f_news f_rounds f_hashed f_groups f_groupOf f_groupCount f_trial f_row f_names f_namedBlanks f_form f_formCount f_octets f_descriptions f_described f_message f_size f_words f_schedule f_thrown f_said) → lv_has ls 5 [(0, .ref (ad 0)), (1, .int x1), (2, .int x2)] → W p l e ({ frames := 3, cells := 0, slots := 0, locals := 87 } : Room) s m args below meth c H locs 0 0 (MQ below (va_Qv (fun (u : (Nat → Int64) × (Nat → Int32) × Int32 × (Nat → Int32) × Int32 × (Nat → Int64) × (Nat → Int64) × (Nat → Int32)) => post (zG (u.1)) (zF (u.2.1)) (u.2.2.1).toInt (zF (u.2.2.2.1)) (u.2.2.2.2.1).toInt (zG (u.2.2.2.2.2.1)) (zG (u.2.2.2.2.2.2.1)) (zF (u.2.2.2.2.2.2.2))) (kB (dC, dI) cl (tX47 d) A (fun u : (Nat → Int64) × (Nat → Int32) × Int32 × (Nat → Int32) × Int32 × (Nat → Int64) × (Nat → Int64) × (Nat → Int32) => (wX47 ci ad d f_constants f_blanks f_counts f_points f_kept f_hashes (u.1) f_rounds f_hashed f_groups f_groupOf f_groupCount f_trial f_row f_names f_namedBlanks f_form f_formCount f_octets (u.2.1) (u.2.2.1) (u.2.2.2.1) (u.2.2.2.2.1) (u.2.2.2.2.2.1) (u.2.2.2.2.2.2.1) f_thrown (u.2.2.2.2.2.2.2)))) A) args s 0 0 A) (F0 m 252 ls []) := by
  have hx := X.1.1
  have hb := X.1.2.1
  intro nn
  induction nn with
  | zero =>
    intro x2 f_news hw
    exact False.elim hw
  | succ n ih =>
    intro x2 f_news hw H locs ls hH hl
    rw [wX47_next_252] at hw
    refine lv_iload_n hx hb dX47_next_252 rfl (lv_at hl 2 rfl) ?_
    refine lv_bipush (v := 8) hx hb dX47_next_253 (by decide) ?_
    refine lv_icmp_ge (tgt := 281) hx hb dX47_next_255 (by decide) (fun c_101 => ?_) (fun c_101 => ?_)
    · have hw := hw.1 (z_le (rfl : (8 : Int32).toInt = 8) (rfl : x2.toInt = _) c_101)
      exact hk281 f_news hw _ _ ls hH (lv_sub hl [] rfl)
    · have hw := hw.2 (z_nle (rfl : (8 : Int32).toInt = 8) (rfl : x2.toInt = _) c_101)
      refine lv_aload_n hx hb dX47_next_258 rfl (lv_at hl 0 rfl) ?_
      refine k_get X hH in_X47 0 rfl hc 6 (by decide) q5990 rfl dX47_next_259 ?_
      refine lv_bipush (v := 8) hx hb dX47_next_262 (by decide) ?_
      refine lv_iload_n hx hb dX47_next_264 rfl (lv_at hl 1 rfl) ?_
      refine lv_imul hx hb dX47_next_265 ?_
      have e_102 := z_mul (z_m (rfl : (8 : Int32).toInt = 8)) (z_m (rfl : x1.toInt = _))
      refine lv_iload_n hx hb dX47_next_266 rfl (lv_at hl 2 rfl) ?_
      refine lv_iadd hx hb dX47_next_267 ?_
      have e_103 := z_add e_102 (z_m (rfl : x2.toInt = _))
      refine lv_aload_n hx hb dX47_next_268 rfl (lv_at hl 0 rfl) ?_
      refine k_get X hH in_X47 0 rfl hc 23 (by decide) q6007 rfl dX47_next_269 ?_
      refine lv_iload_n hx hb dX47_next_272 rfl (lv_at hl 2 rfl) ?_
      have hq_104 := hw.1
      have hw := hw.2
      refine k_lald X hH 16 15 rfl rfl (z_in (rfl : x2.toInt = _) hq_104) dX47_next_273 ?_
      have e_105 := z_ldL (f := f_words) (rfl : x2.toInt = _) hq_104.1
      refine lv_topl (fun v_106 ev_106 => ?_)
      have hw := hw v_106.toInt (by rw [ev_106]; exact e_105)
      have hq_108 := hw.1
      have hw := hw.2
      have e_109 := z_xi e_103 hq_108 (by decide)
      obtain ⟨f_news_107, ef_news_107⟩ : ∃ y : Nat → Int64, y = vp_updL f_news ((8 * x1) + x2).toNatClampNeg v_106 := ⟨_, rfl⟩
      refine k_last X hH 6 5 rfl rfl (z_in e_109 hq_108) dX47_next_274 ef_news_107 (ws1 := (wX47 ci ad d f_constants f_blanks f_counts f_points f_kept f_hashes f_news_107 f_rounds f_hashed f_groups f_groupOf f_groupCount f_trial f_row f_names f_namedBlanks f_form f_formCount f_octets f_descriptions f_described f_message f_size f_words f_schedule f_thrown f_said)) rfl (fun H locs hH => ?_)
      have hw := hw (zG f_news_107) (by rw [ef_news_107]; exact z_stL (f := f_news) e_109 hq_108.1 (rfl : v_106.toInt = _))
      have hq_111 := hw.1
      have hw := hw.2
      obtain ⟨x2_110, ex2_110⟩ : ∃ y : Int32, y = x2 + 1 := ⟨_, rfl⟩
      have hw := hw x2_110.toInt (by rw [ex2_110]; exact (z_x (z_add (z_m (rfl : x2.toInt = _)) (z_m (rfl : (1 : Int32).toInt = 1))) hq_111))
      refine lv_iinc (v := x2_110) (lv' := [(2, .int x2_110), (0, .ref (ad 0)), (1, .int x1)]) hx hb dX47_next_275 hl (k := 2) rfl (by rw [ex2_110]; rfl) (by decide) rfl (fun ls hl => ?_)
      refine lv_goto (tgt := 252) hx hb dX47_next_278 (by decide) ?_
      exact ih x2_110 f_news_107 hw _ _ ls hH (lv_sub hl [1, 2, 0] rfl)
set_option maxHeartbeats 4000000 in
theorem walkX47_next {l : Launch} {dC : Nat → ClassId} {dI : Nat → Nat → Nat} {cl : List vw_C} {ci : Nat} (hc : cl[ci]? = some (RX47, TX47, 27)) {ad : Nat → Nat} {d : Nat → ClassId} {sz : Nat} {f_constants : Nat → Int64} {f_blanks : Nat → Int32} {f_counts : Nat → Int32} {f_points : Nat → Int32} {f_kept : Int32} {f_hashes : Nat → Int64} {f_news : Nat → Int64} {f_rounds : Int32} {f_hashed : Int32} {f_groups : Nat → Int32} {f_groupOf : Nat → Int32} {f_groupCount : Int32} {f_trial : Nat → Int32} {f_row : Nat → Int32} {f_names : Nat → Int32} {f_namedBlanks : Int32} {f_form : Nat → Int32} {f_formCount : Int32} {f_octets : Nat → Int32} {f_descriptions : Nat → Int32} {f_described : Int32} {f_message : Nat → Int32} {f_size : Int32} {f_words : Nat → Int64} {f_schedule : Nat → Int64} {f_thrown : Int32} {f_said : Nat → Int32} {x1 : Int32} {post : (Int → Int) → (Int → Int) → Int → (Int → Int) → Int → (Int → Int) → (Int → Int) → (Int → Int) → Prop} (hw : wpX47_next post (zG f_constants) (zF f_counts) (zF f_points) (zG f_hashes) (zG f_news) (zF f_descriptions) (zF f_message) (zG f_words) (zG f_schedule) (zF f_said) x1.toInt) :
    Met l yX47_next (ws_ yX47_next cX47_next 5 none) ({ frames := 3, cells := 0, slots := 0, locals := 87 } : Room) (kPc (dC, dI) cl (tX47 d) [.ref (ad 0), .int x1] sz (wX47 ci ad d f_constants f_blanks f_counts f_points f_kept f_hashes f_news f_rounds f_hashed f_groups f_groupOf f_groupCount f_trial f_row f_names f_namedBlanks f_form f_formCount f_octets f_descriptions f_described f_message f_size f_words f_schedule f_thrown f_said)) (va_Qv (fun (u : (Nat → Int64) × (Nat → Int32) × Int32 × (Nat → Int32) × Int32 × (Nat → Int64) × (Nat → Int64) × (Nat → Int32)) => post (zG (u.1)) (zF (u.2.1)) (u.2.2.1).toInt (zF (u.2.2.2.1)) (u.2.2.2.2.1).toInt (zG (u.2.2.2.2.2.1)) (zG (u.2.2.2.2.2.2.1)) (zF (u.2.2.2.2.2.2.2))) (kB (dC, dI) cl (tX47 d) (va_A (wX47 ci ad d f_constants f_blanks f_counts f_points f_kept f_hashes f_news f_rounds f_hashed f_groups f_groupOf f_groupCount f_trial f_row f_names f_namedBlanks f_form f_formCount f_octets f_descriptions f_described f_message f_size f_words f_schedule f_thrown f_said) sz) (fun u : (Nat → Int64) × (Nat → Int32) × Int32 × (Nat → Int32) × Int32 × (Nat → Int64) × (Nat → Int64) × (Nat → Int32) => (wX47 ci ad d f_constants f_blanks f_counts f_points f_kept f_hashes (u.1) f_rounds f_hashed f_groups f_groupOf f_groupCount f_trial f_row f_names f_namedBlanks f_form f_formCount f_octets (u.2.1) (u.2.2.1) (u.2.2.2.1) (u.2.2.2.2.1) (u.2.2.2.2.2.1) (u.2.2.2.2.2.2.1) f_thrown (u.2.2.2.2.2.2.2)))) (va_A (wX47 ci ad d f_constants f_blanks f_counts f_points f_kept f_hashes f_news f_rounds f_hashed f_groups f_groupOf f_groupCount f_trial f_row f_names f_namedBlanks f_form f_formCount f_octets f_descriptions f_described f_message f_size f_words f_schedule f_thrown f_said) sz)) 0 0 (va_A (wX47 ci ad d f_constants f_blanks f_counts f_points f_kept f_hashes f_news f_rounds f_hashed f_groups f_groupOf f_groupCount f_trial f_row f_names f_namedBlanks f_form f_formCount f_octets f_descriptions f_described f_message f_size f_words f_schedule f_thrown f_said) sz) := by
  refine k_enter (by decide) (Nat.le_of_ble_eq_true rfl) ?_
  intro p e s m below meth c ls X hsz hH hl
  subst hsz
  generalize va_A (wX47 ci ad d f_constants f_blanks f_counts f_points f_kept f_hashes f_news f_rounds f_hashed f_groups f_groupOf f_groupCount f_trial f_row f_names f_namedBlanks f_form f_formCount f_octets f_descriptions f_described f_message f_size f_words f_schedule f_thrown f_said) s.heap.size = A at hH ⊢
  have hx := X.1.1
  have hb := X.1.2.1
  have hl : lv_has ls 5 [(0, .ref (ad 0)), (1, .int x1)] := hl
  unfold wpX47_next at hw
  refine lv_aload_n hx hb dX47_next_0 rfl (lv_at hl 0 rfl) ?_
  refine lv_iconst (v := 0) hx hb dX47_next_1 (by decide) ?_
  refine k_put X hH in_X47 tyX47_ok nmX47 0 rfl hc 20 (by decide) q6004 rfl (ty := .int) rfl rfl rfl (Nat.le_of_ble_eq_true rfl) dX47_next_2 (ws1 := (wX47 ci ad d f_constants f_blanks f_counts f_points f_kept f_hashes f_news f_rounds f_hashed f_groups f_groupOf f_groupCount f_trial f_row f_names f_namedBlanks f_form f_formCount f_octets f_descriptions 0 f_message f_size f_words f_schedule f_thrown f_said)) rfl (fun H locs hH => ?_)
  refine lv_iconst (v := 0) hx hb dX47_next_5 (by decide) ?_
  refine lv_istore_n (lv' := [(2, .int 0), (0, .ref (ad 0)), (1, .int x1)]) hx hb dX47_next_6 rfl hl (by decide) rfl (fun ls hl => ?_)
  obtain ⟨fu, hw⟩ := hw
  refine atX47_next_7 hc X ?_ fu 0 f_descriptions 0 hw _ _ ls hH (lv_sub hl [1, 2, 0] rfl)
  · intro f_descriptions_38 f_described_39 hw H locs ls hH hl
    refine lv_aload_n hx hb dX47_next_74 rfl (lv_at hl 0 rfl) ?_
    refine lv_iconst (v := 0) hx hb dX47_next_75 (by decide) ?_
    refine k_put X hH in_X47 tyX47_ok nmX47 0 rfl hc 22 (by decide) q6006 rfl (ty := .int) rfl rfl rfl (Nat.le_of_ble_eq_true rfl) dX47_next_76 (ws1 := (wX47 ci ad d f_constants f_blanks f_counts f_points f_kept f_hashes f_news f_rounds f_hashed f_groups f_groupOf f_groupCount f_trial f_row f_names f_namedBlanks f_form f_formCount f_octets f_descriptions_38 f_described_39 f_message 0 f_words f_schedule f_thrown f_said)) rfl (fun H locs hH => ?_)
    refine lv_iconst (v := 0) hx hb dX47_next_79 (by decide) ?_
    refine lv_istore_n (lv' := [(2, .int 0), (0, .ref (ad 0)), (1, .int x1)]) hx hb dX47_next_80 rfl hl (by decide) rfl (fun ls hl => ?_)
    obtain ⟨fu, hw⟩ := hw
    refine atX47_next_81 hc X ?_ fu 0 f_message 0 hw _ _ ls hH (lv_sub hl [1, 2, 0] rfl)
    · intro f_message_50 f_size_51 hw H locs ls hH hl
      refine lv_iconst (v := 0) hx hb dX47_next_108 (by decide) ?_
      refine lv_istore_n (lv' := [(2, .int 0), (0, .ref (ad 0)), (1, .int x1)]) hx hb dX47_next_109 rfl hl (by decide) rfl (fun ls hl => ?_)
      obtain ⟨fu, hw⟩ := hw
      refine atX47_next_110 hc X ?_ fu 0 f_said hw _ _ ls hH (lv_sub hl [1, 2, 0] rfl)
      · intro f_said_57 hw H locs ls hH hl
        refine lv_iconst (v := 0) hx hb dX47_next_131 (by decide) ?_
        refine lv_istore_n (lv' := [(2, .int 0), (0, .ref (ad 0)), (1, .int x1)]) hx hb dX47_next_132 rfl hl (by decide) rfl (fun ls hl => ?_)
        obtain ⟨fu, hw⟩ := hw
        refine atX47_next_133 hc X ?_ fu 0 f_message_50 f_size_51 f_said_57 hw _ _ ls hH (lv_sub hl [1, 2, 0] rfl)
        · intro f_message_95 f_size_96 f_said_97 hw H locs ls hH hl
          refine lv_aload_n hx hb dX47_next_242 rfl (lv_at hl 0 rfl) ?_
          refine lv_aload_n hx hb dX47_next_243 rfl (lv_at hl 0 rfl) ?_
          refine k_get X hH in_X47 0 rfl hc 22 (by decide) q6006 rfl dX47_next_244 ?_
          refine k_v0 hH (k_runV (As := [.int f_size_96]) (rest := []) X hH.1 hH.2.1 X.2.2.2 (walkX47_digestOf hc (x1 := f_size_96) (f_constants := f_constants) (f_blanks := f_blanks) (f_counts := f_counts) (f_points := f_points) (f_kept := f_kept) (f_hashes := f_hashes) (f_news := f_news) (f_rounds := f_rounds) (f_hashed := f_hashed) (f_groups := f_groups) (f_groupOf := f_groupOf) (f_groupCount := f_groupCount) (f_trial := f_trial) (f_row := f_row) (f_names := f_names) (f_namedBlanks := f_namedBlanks) (f_form := f_form) (f_formCount := f_formCount) (f_octets := f_octets) (f_descriptions := f_descriptions_38) (f_described := f_described_39) (f_message := f_message_95) (f_size := f_size_96) (f_words := f_words) (f_schedule := f_schedule) (f_thrown := f_thrown) (f_said := f_said_97) hw) (cwV 1 X.1.2.2.2.2 gX47_199 rfl rfl rfl hX47_digestOf ⟨Nat.le_of_ble_eq_true rfl, Nat.le_of_ble_eq_true rfl⟩) hc (q0 := 0) rfl rfl hl.1 rfl (Nat.le_of_ble_eq_true rfl) dX47_next_247 ⟨Nat.le_refl 0, Nat.le_refl 0⟩) (fun u H locs hw hH => ?_)
          obtain ⟨f_message_98, f_words_99, f_schedule_100⟩ := u
          have hH : kH (dC, dI) cl A s.heap H locs (wX47 ci ad d f_constants f_blanks f_counts f_points f_kept f_hashes f_news f_rounds f_hashed f_groups f_groupOf f_groupCount f_trial f_row f_names f_namedBlanks f_form f_formCount f_octets f_descriptions_38 f_described_39 f_message_98 f_size_96 f_words_99 f_schedule_100 f_thrown f_said_97) := hH
          refine lv_iconst (v := 0) hx hb dX47_next_250 (by decide) ?_
          refine lv_istore_n (lv' := [(2, .int 0), (0, .ref (ad 0)), (1, .int x1)]) hx hb dX47_next_251 rfl hl (by decide) rfl (fun ls hl => ?_)
          obtain ⟨fu, hw⟩ := hw
          refine atX47_next_252 hc X ?_ fu 0 f_news hw _ _ ls hH (lv_sub hl [1, 2, 0] rfl)
          · intro f_news_112 hw H locs ls hH hl
            exact k_vret X hH (f_news_112, f_descriptions_38, f_described_39, f_message_98, f_size_96, f_words_99, f_schedule_100, f_said_97) hw rfl dX47_next_281
set_option maxHeartbeats 4000000 in
theorem atX47_compare_news_2 {p : Program} {l : Launch} {e : Env} {s : State} {m : MethodId} {args : Array Value} {below : List Frame} {meth : Method} {c : Code} {dC : Nat → ClassId} {dI : Nat → Nat → Nat} {cl : List vw_C} {ci : Nat} (hc : cl[ci]? = some (RX47, TX47, 27)) {ad : Nat → Nat} {d : Nat → ClassId} {A : Nat → Prop} {post : Int → Prop} {f_constants : Nat → Int64} {f_blanks : Nat → Int32} {f_counts : Nat → Int32} {f_points : Nat → Int32} {f_kept : Int32} {f_hashes : Nat → Int64} {f_news : Nat → Int64} {f_rounds : Int32} {f_hashed : Int32} {f_groups : Nat → Int32} {f_groupOf : Nat → Int32} {f_groupCount : Int32} {f_trial : Nat → Int32} {f_row : Nat → Int32} {f_names : Nat → Int32} {f_namedBlanks : Int32} {f_form : Nat → Int32} {f_formCount : Int32} {f_octets : Nat → Int32} {f_descriptions : Nat → Int32} {f_described : Int32} {f_message : Nat → Int32} {f_size : Int32} {f_words : Nat → Int64} {f_schedule : Nat → Int64} {f_thrown : Int32} {f_said : Nat → Int32} (X : kX p s m args meth c cX47_compare 4 RX47 (some .int) (dC, dI) cl (tX47 d)) {K28 : Int → Prop} {K60 : Prop} {x1 : Int32} {x2 : Int32}  (hk28 : ∀ (x3 : Int32), K28 x3.toInt → ∀ (H : Heap) (locs : List Loc) (ls : Array Slot), kH (dC, dI) cl A s.heap H locs (wX47 ci ad d f_constants f_blanks f_counts f_points f_kept f_hashes f_news f_rounds f_hashed f_groups f_groupOf f_groupCount f_trial f_row f_names f_namedBlanks f_form f_formCount f_octets f_descriptions f_described f_message f_size f_words f_schedule f_thrown f_said) → lv_has ls 4 [(0, .ref (ad 6)), (1, .int x1), (2, .int x2), (3, .int x3)] → W p l e ({ frames := 0, cells := 0, slots := 0, locals := 0 } : Room) s m args below meth c H locs 0 0 (MQ below (va_Qi (fun (r : Int32) (_ : Unit) => post r.toInt) (kB (dC, dI) cl (tX47 d) A (fun _ : Unit => (wX47 ci ad d f_constants f_blanks f_counts f_points f_kept f_hashes f_news f_rounds f_hashed f_groups f_groupOf f_groupCount f_trial f_row f_names f_namedBlanks f_form f_formCount f_octets f_descriptions f_described f_message f_size f_words f_schedule f_thrown f_said))) A) args s 0 0 A) (F0 m 28 ls [])) (hk60 : K60  → ∀ (H : Heap) (locs : List Loc) (ls : Array Slot), kH (dC, dI) cl A s.heap H locs (wX47 ci ad d f_constants f_blanks f_counts f_points f_kept f_hashes f_news f_rounds f_hashed f_groups f_groupOf f_groupCount f_trial f_row f_names f_namedBlanks f_form f_formCount f_octets f_descriptions f_described f_message f_size f_words f_schedule f_thrown f_said) → lv_has ls 4 [] → W p l e ({ frames := 0, cells := 0, slots := 0, locals := 0 } : Room) s m args below meth c H locs 0 0 (MQ below (va_Qi (fun (r : Int32) (_ : Unit) => post r.toInt) (kB (dC, dI) cl (tX47 d) A (fun _ : Unit => (wX47 ci ad d f_constants f_blanks f_counts f_points f_kept f_hashes f_news f_rounds f_hashed f_groups f_groupOf f_groupCount f_trial f_row f_names f_namedBlanks f_form f_formCount f_octets f_descriptions f_described f_message f_size f_words f_schedule f_thrown f_said))) A) args s 0 0 A) (F0 m 60 ls [])) :
    ∀ (nn : Nat) (x3 : Int32), wX47_compare_news_2 K28 K60 x1.toInt x2.toInt (zG f_news) nn x3.toInt → ∀ (H : Heap) (locs : List Loc) (ls : Array Slot), kH (dC, dI) cl A s.heap H locs (wX47 ci ad d f_constants f_blanks f_counts f_points f_kept f_hashes f_news f_rounds f_hashed f_groups f_groupOf f_groupCount f_trial f_row f_names f_namedBlanks f_form f_formCount f_octets f_descriptions f_described f_message f_size f_words f_schedule f_thrown f_said) → lv_has ls 4 [(0, .ref (ad 6)), (1, .int x1), (2, .int x2), (3, .int x3)] → W p l e ({ frames := 0, cells := 0, slots := 0, locals := 0 } : Room) s m args below meth c H locs 0 0 (MQ below (va_Qi (fun (r : Int32) (_ : Unit) => post r.toInt) (kB (dC, dI) cl (tX47 d) A (fun _ : Unit => (wX47 ci ad d f_constants f_blanks f_counts f_points f_kept f_hashes f_news f_rounds f_hashed f_groups f_groupOf f_groupCount f_trial f_row f_names f_namedBlanks f_form f_formCount f_octets f_descriptions f_described f_message f_size f_words f_schedule f_thrown f_said))) A) args s 0 0 A) (F0 m 2 ls []) := by
  have hx := X.1.1
  have hb := X.1.2.1
  intro nn
  induction nn with
  | zero =>
    intro x3 hw
    exact False.elim hw
  | succ n ih =>
    intro x3 hw H locs ls hH hl
    rw [wX47_compare_news_2] at hw
    refine lv_iload_n hx hb dX47_compare_2 rfl (lv_at hl 3 rfl) ?_
    refine lv_bipush (v := 8) hx hb dX47_compare_3 (by decide) ?_
    refine lv_icmp_ge (tgt := 60) hx hb dX47_compare_5 (by decide) (fun c_1 => ?_) (fun c_1 => ?_)
    · have hw := hw.1 (z_le (rfl : (8 : Int32).toInt = 8) (rfl : x3.toInt = _) c_1)
      exact hk60  hw _ _ ls hH (lv_sub hl [] rfl)
    · have hw := hw.2 (z_nle (rfl : (8 : Int32).toInt = 8) (rfl : x3.toInt = _) c_1)
      refine lv_aload_n hx hb dX47_compare_8 rfl (lv_at hl 0 rfl) ?_
      refine lv_bipush (v := 8) hx hb dX47_compare_9 (by decide) ?_
      refine lv_iload_n hx hb dX47_compare_11 rfl (lv_at hl 1 rfl) ?_
      refine lv_imul hx hb dX47_compare_12 ?_
      have e_2 := z_mul (z_m (rfl : (8 : Int32).toInt = 8)) (z_m (rfl : x1.toInt = _))
      refine lv_iload_n hx hb dX47_compare_13 rfl (lv_at hl 3 rfl) ?_
      refine lv_iadd hx hb dX47_compare_14 ?_
      have e_3 := z_add e_2 (z_m (rfl : x3.toInt = _))
      have hq_4 := hw.1
      have hw := hw.2
      have e_5 := z_xi e_3 hq_4 (by decide)
      refine k_lald X hH 6 5 rfl rfl (z_in e_5 hq_4) dX47_compare_15 ?_
      have e_6 := z_ldL (f := f_news) e_5 hq_4.1
      refine lv_aload_n hx hb dX47_compare_16 rfl (lv_at hl 0 rfl) ?_
      refine lv_bipush (v := 8) hx hb dX47_compare_17 (by decide) ?_
      refine lv_iload_n hx hb dX47_compare_19 rfl (lv_at hl 2 rfl) ?_
      refine lv_imul hx hb dX47_compare_20 ?_
      have e_7 := z_mul (z_m (rfl : (8 : Int32).toInt = 8)) (z_m (rfl : x2.toInt = _))
      refine lv_iload_n hx hb dX47_compare_21 rfl (lv_at hl 3 rfl) ?_
      refine lv_iadd hx hb dX47_compare_22 ?_
      have e_8 := z_add e_7 (z_m (rfl : x3.toInt = _))
      have hq_9 := hw.1
      have hw := hw.2
      have e_10 := z_xi e_8 hq_9 (by decide)
      refine k_lald X hH 6 5 rfl rfl (z_in e_10 hq_9) dX47_compare_23 ?_
      have e_11 := z_ldL (f := f_news) e_10 hq_9.1
      refine W.lcmp hx hb dX47_compare_24 ?_
      refine lv_if_eq (tgt := 54) hx hb dX47_compare_25 (by decide) (fun c_12 => ?_) (fun c_12 => ?_)
      · have hw := hw.1 (zL_eq e_6 e_11 (k_lc_eq.mp c_12))
        have hq_14 := hw.1
        have hw := hw.2
        obtain ⟨x3_13, ex3_13⟩ : ∃ y : Int32, y = x3 + 1 := ⟨_, rfl⟩
        have hw := hw x3_13.toInt (by rw [ex3_13]; exact (z_x (z_add (z_m (rfl : x3.toInt = _)) (z_m (rfl : (1 : Int32).toInt = 1))) hq_14))
        refine lv_iinc (v := x3_13) (lv' := [(3, .int x3_13), (0, .ref (ad 6)), (1, .int x1), (2, .int x2)]) hx hb dX47_compare_54 hl (k := 3) rfl (by rw [ex3_13]; rfl) (by decide) rfl (fun ls hl => ?_)
        refine lv_goto (tgt := 2) hx hb dX47_compare_57 (by decide) ?_
        exact ih x3_13 hw _ _ ls hH (lv_sub hl [1, 2, 3, 0] rfl)
      · have hw := hw.2 (zL_neq e_6 e_11 (fun z => c_12 (k_lc_eq.mpr z)))
        exact hk28 x3 hw _ _ ls hH (lv_sub hl [0, 1, 2, 3] rfl)
set_option maxHeartbeats 4000000 in
theorem walkX47_compare_news {l : Launch} {dC : Nat → ClassId} {dI : Nat → Nat → Nat} {cl : List vw_C} {ci : Nat} (hc : cl[ci]? = some (RX47, TX47, 27)) {ad : Nat → Nat} {d : Nat → ClassId} {sz : Nat} {f_constants : Nat → Int64} {f_blanks : Nat → Int32} {f_counts : Nat → Int32} {f_points : Nat → Int32} {f_kept : Int32} {f_hashes : Nat → Int64} {f_news : Nat → Int64} {f_rounds : Int32} {f_hashed : Int32} {f_groups : Nat → Int32} {f_groupOf : Nat → Int32} {f_groupCount : Int32} {f_trial : Nat → Int32} {f_row : Nat → Int32} {f_names : Nat → Int32} {f_namedBlanks : Int32} {f_form : Nat → Int32} {f_formCount : Int32} {f_octets : Nat → Int32} {f_descriptions : Nat → Int32} {f_described : Int32} {f_message : Nat → Int32} {f_size : Int32} {f_words : Nat → Int64} {f_schedule : Nat → Int64} {f_thrown : Int32} {f_said : Nat → Int32} {x1 : Int32} {x2 : Int32} {post : Int → Prop} (hw : wpX47_compare_news post (zG f_news) x1.toInt x2.toInt) :
    Met l yX47_compare (ws_ yX47_compare cX47_compare 4 (some .int)) ({ frames := 0, cells := 0, slots := 0, locals := 0 } : Room) (kPc (dC, dI) cl (tX47 d) [.ref (ad 6), .int x1, .int x2] sz (wX47 ci ad d f_constants f_blanks f_counts f_points f_kept f_hashes f_news f_rounds f_hashed f_groups f_groupOf f_groupCount f_trial f_row f_names f_namedBlanks f_form f_formCount f_octets f_descriptions f_described f_message f_size f_words f_schedule f_thrown f_said)) (va_Qi (fun (r : Int32) (_ : Unit) => post r.toInt) (kB (dC, dI) cl (tX47 d) (va_A (wX47 ci ad d f_constants f_blanks f_counts f_points f_kept f_hashes f_news f_rounds f_hashed f_groups f_groupOf f_groupCount f_trial f_row f_names f_namedBlanks f_form f_formCount f_octets f_descriptions f_described f_message f_size f_words f_schedule f_thrown f_said) sz) (fun _ : Unit => (wX47 ci ad d f_constants f_blanks f_counts f_points f_kept f_hashes f_news f_rounds f_hashed f_groups f_groupOf f_groupCount f_trial f_row f_names f_namedBlanks f_form f_formCount f_octets f_descriptions f_described f_message f_size f_words f_schedule f_thrown f_said))) (va_A (wX47 ci ad d f_constants f_blanks f_counts f_points f_kept f_hashes f_news f_rounds f_hashed f_groups f_groupOf f_groupCount f_trial f_row f_names f_namedBlanks f_form f_formCount f_octets f_descriptions f_described f_message f_size f_words f_schedule f_thrown f_said) sz)) 0 0 (va_A (wX47 ci ad d f_constants f_blanks f_counts f_points f_kept f_hashes f_news f_rounds f_hashed f_groups f_groupOf f_groupCount f_trial f_row f_names f_namedBlanks f_form f_formCount f_octets f_descriptions f_described f_message f_size f_words f_schedule f_thrown f_said) sz) := by
  refine k_enter (by decide) (Nat.le_of_ble_eq_true rfl) ?_
  intro p e s m below meth c ls X hsz hH hl
  subst hsz
  generalize va_A (wX47 ci ad d f_constants f_blanks f_counts f_points f_kept f_hashes f_news f_rounds f_hashed f_groups f_groupOf f_groupCount f_trial f_row f_names f_namedBlanks f_form f_formCount f_octets f_descriptions f_described f_message f_size f_words f_schedule f_thrown f_said) s.heap.size = A at hH ⊢
  have hx := X.1.1
  have hb := X.1.2.1
  have hl : lv_has ls 4 [(0, .ref (ad 6)), (1, .int x1), (2, .int x2)] := hl
  unfold wpX47_compare_news at hw
  refine lv_iconst (v := 0) hx hb dX47_compare_0 (by decide) ?_
  refine lv_istore_n (lv' := [(3, .int 0), (0, .ref (ad 6)), (1, .int x1), (2, .int x2)]) hx hb dX47_compare_1 rfl hl (by decide) rfl (fun ls hl => ?_)
  obtain ⟨fu, hw⟩ := hw
  refine atX47_compare_news_2 hc X ?_ ?_ fu 0 hw _ _ ls hH (lv_sub hl [1, 2, 3, 0] rfl)
  · intro x3_15 hw H locs ls hH hl
    refine lv_aload_n hx hb dX47_compare_28 rfl (lv_at hl 0 rfl) ?_
    refine lv_bipush (v := 8) hx hb dX47_compare_29 (by decide) ?_
    refine lv_iload_n hx hb dX47_compare_31 rfl (lv_at hl 1 rfl) ?_
    refine lv_imul hx hb dX47_compare_32 ?_
    have e_16 := z_mul (z_m (rfl : (8 : Int32).toInt = 8)) (z_m (rfl : x1.toInt = _))
    refine lv_iload_n hx hb dX47_compare_33 rfl (lv_at hl 3 rfl) ?_
    refine lv_iadd hx hb dX47_compare_34 ?_
    have e_17 := z_add e_16 (z_m (rfl : x3_15.toInt = _))
    have hq_18 := hw.1
    have hw := hw.2
    have e_19 := z_xi e_17 hq_18 (by decide)
    refine k_lald X hH 6 5 rfl rfl (z_in e_19 hq_18) dX47_compare_35 ?_
    have e_20 := z_ldL (f := f_news) e_19 hq_18.1
    refine lv_aload_n hx hb dX47_compare_36 rfl (lv_at hl 0 rfl) ?_
    refine lv_bipush (v := 8) hx hb dX47_compare_37 (by decide) ?_
    refine lv_iload_n hx hb dX47_compare_39 rfl (lv_at hl 2 rfl) ?_
    refine lv_imul hx hb dX47_compare_40 ?_
    have e_21 := z_mul (z_m (rfl : (8 : Int32).toInt = 8)) (z_m (rfl : x2.toInt = _))
    refine lv_iload_n hx hb dX47_compare_41 rfl (lv_at hl 3 rfl) ?_
    refine lv_iadd hx hb dX47_compare_42 ?_
    have e_22 := z_add e_21 (z_m (rfl : x3_15.toInt = _))
    have hq_23 := hw.1
    have hw := hw.2
    have e_24 := z_xi e_22 hq_23 (by decide)
    refine k_lald X hH 6 5 rfl rfl (z_in e_24 hq_23) dX47_compare_43 ?_
    have e_25 := z_ldL (f := f_news) e_24 hq_23.1
    refine W.lcmp hx hb dX47_compare_44 ?_
    refine lv_if_ge (tgt := 52) hx hb dX47_compare_45 (by decide) (fun c_26 => ?_) (fun c_26 => ?_)
    · have hw := hw.1 (zL_le e_25 e_20 (k_lc_ge.mp c_26))
      refine lv_iconst (v := 1) hx hb dX47_compare_52 (by decide) ?_
      exact k_iret (v := 1) X hH () hw rfl rfl dX47_compare_53
    · have hw := hw.2 (zL_nle e_25 e_20 (fun z => c_26 (k_lc_ge.mpr z)))
      refine lv_iconst (v := (-1)) hx hb dX47_compare_48 (by decide) ?_
      refine lv_goto (tgt := 53) hx hb dX47_compare_49 (by decide) ?_
      exact k_iret (v := (-1)) X hH () hw rfl rfl dX47_compare_53
  · intro hw H locs ls hH hl
    refine lv_iconst (v := 0) hx hb dX47_compare_60 (by decide) ?_
    exact k_iret (v := 0) X hH () hw rfl rfl dX47_compare_61
set_option maxHeartbeats 4000000 in
theorem atX47_different_news_21 {p : Program} {l : Launch} {e : Env} {s : State} {m : MethodId} {args : Array Value} {below : List Frame} {meth : Method} {c : Code} {dC : Nat → ClassId} {dI : Nat → Nat → Nat} {cl : List vw_C} {ci : Nat} (hc : cl[ci]? = some (RX47, TX47, 27)) {ad : Nat → Nat} {d : Nat → ClassId} {A : Nat → Prop} {post : Int → Prop} {f_constants : Nat → Int64} {f_blanks : Nat → Int32} {f_counts : Nat → Int32} {f_points : Nat → Int32} {f_kept : Int32} {f_hashes : Nat → Int64} {f_news : Nat → Int64} {f_rounds : Int32} {f_hashed : Int32} {f_groups : Nat → Int32} {f_groupOf : Nat → Int32} {f_groupCount : Int32} {f_trial : Nat → Int32} {f_row : Nat → Int32} {f_names : Nat → Int32} {f_namedBlanks : Int32} {f_form : Nat → Int32} {f_formCount : Int32} {f_octets : Nat → Int32} {f_descriptions : Nat → Int32} {f_described : Int32} {f_message : Nat → Int32} {f_size : Int32} {f_words : Nat → Int64} {f_schedule : Nat → Int64} {f_thrown : Int32} {f_said : Nat → Int32} (X : kX p s m args meth c cX47_different 6 RX47 (some .int) (dC, dI) cl (tX47 d)) {K55 : Int → Prop} {x2 : Int32} {x3 : Int32}  (hk55 : ∀ (x4 : Int32), K55 x4.toInt → ∀ (H : Heap) (locs : List Loc) (ls : Array Slot), kH (dC, dI) cl A s.heap H locs (wX47 ci ad d f_constants f_blanks f_counts f_points f_kept f_hashes f_news f_rounds f_hashed f_groups f_groupOf f_groupCount f_trial f_row f_names f_namedBlanks f_form f_formCount f_octets f_descriptions f_described f_message f_size f_words f_schedule f_thrown f_said) → lv_has ls 6 [(0, .ref (ad 0)), (1, .ref (ad 6)), (2, .int x2), (3, .int x3), (4, .int x4)] → W p l e ({ frames := 1, cells := 0, slots := 0, locals := 23 } : Room) s m args below meth c H locs 0 0 (MQ below (va_Qi (fun (r : Int32) (_ : Unit) => post r.toInt) (kB (dC, dI) cl (tX47 d) A (fun _ : Unit => (wX47 ci ad d f_constants f_blanks f_counts f_points f_kept f_hashes f_news f_rounds f_hashed f_groups f_groupOf f_groupCount f_trial f_row f_names f_namedBlanks f_form f_formCount f_octets f_descriptions f_described f_message f_size f_words f_schedule f_thrown f_said))) A) args s 0 0 A) (F0 m 55 ls [])) :
    ∀ (nn : Nat) (x4 : Int32) (x5 : Int32), wX47_different_news_21 K55 x3.toInt (zG f_news) nn x4.toInt x5.toInt → ∀ (H : Heap) (locs : List Loc) (ls : Array Slot), kH (dC, dI) cl A s.heap H locs (wX47 ci ad d f_constants f_blanks f_counts f_points f_kept f_hashes f_news f_rounds f_hashed f_groups f_groupOf f_groupCount f_trial f_row f_names f_namedBlanks f_form f_formCount f_octets f_descriptions f_described f_message f_size f_words f_schedule f_thrown f_said) → lv_has ls 6 [(0, .ref (ad 0)), (1, .ref (ad 6)), (2, .int x2), (3, .int x3), (4, .int x4), (5, .int x5)] → W p l e ({ frames := 1, cells := 0, slots := 0, locals := 23 } : Room) s m args below meth c H locs 0 0 (MQ below (va_Qi (fun (r : Int32) (_ : Unit) => post r.toInt) (kB (dC, dI) cl (tX47 d) A (fun _ : Unit => (wX47 ci ad d f_constants f_blanks f_counts f_points f_kept f_hashes f_news f_rounds f_hashed f_groups f_groupOf f_groupCount f_trial f_row f_names f_namedBlanks f_form f_formCount f_octets f_descriptions f_described f_message f_size f_words f_schedule f_thrown f_said))) A) args s 0 0 A) (F0 m 21 ls []) := by
  have hx := X.1.1
  have hb := X.1.2.1
  intro nn
  induction nn with
  | zero =>
    intro x4 x5 hw
    exact False.elim hw
  | succ n ih =>
    intro x4 x5 hw H locs ls hH hl
    rw [wX47_different_news_21] at hw
    refine lv_iload hx hb dX47_different_21 (lv_at hl 5 rfl) ?_
    refine lv_iload_n hx hb dX47_different_23 rfl (lv_at hl 3 rfl) ?_
    refine lv_icmp_ge (tgt := 55) hx hb dX47_different_24 (by decide) (fun c_3 => ?_) (fun c_3 => ?_)
    · have hw := hw.1 (z_le (rfl : x3.toInt = _) (rfl : x5.toInt = _) c_3)
      exact hk55 x4 hw _ _ ls hH (lv_sub hl [0, 1, 2, 3, 4] rfl)
    · have hw := hw.2 (z_nle (rfl : x3.toInt = _) (rfl : x5.toInt = _) c_3)
      refine lv_iload hx hb dX47_different_27 (lv_at hl 4 rfl) ?_
      refine lv_if_eq (tgt := 46) hx hb dX47_different_29 (by decide) (fun c_4 => ?_) (fun c_4 => ?_)
      · have hw := hw.1 (z_eq (rfl : x4.toInt = _) (rfl : (0 : Int32).toInt = 0) c_4)
        refine lv_iconst (v := 0) hx hb dX47_different_46 (by decide) ?_
        refine lv_istore (lv' := [(4, .int 0), (0, .ref (ad 0)), (1, .ref (ad 6)), (2, .int x2), (3, .int x3), (5, .int x5)]) hx hb dX47_different_47 hl (by decide) rfl (fun ls hl => ?_)
        have hq_6 := hw.1
        have hw := hw.2
        obtain ⟨x5_5, ex5_5⟩ : ∃ y : Int32, y = x5 + 1 := ⟨_, rfl⟩
        have hw := hw x5_5.toInt (by rw [ex5_5]; exact (z_x (z_add (z_m (rfl : x5.toInt = _)) (z_m (rfl : (1 : Int32).toInt = 1))) hq_6))
        refine lv_iinc (v := x5_5) (lv' := [(5, .int x5_5), (4, .int 0), (0, .ref (ad 0)), (1, .ref (ad 6)), (2, .int x2), (3, .int x3)]) hx hb dX47_different_49 hl (k := 5) rfl (by rw [ex5_5]; rfl) (by decide) rfl (fun ls hl => ?_)
        refine lv_goto (tgt := 21) hx hb dX47_different_52 (by decide) ?_
        exact ih 0 x5_5 hw _ _ ls hH (lv_sub hl [2, 3, 4, 5, 1, 0] rfl)
      · have hw := hw.2 (z_neq (rfl : x4.toInt = _) (rfl : (0 : Int32).toInt = 0) c_4)
        refine lv_aload_n hx hb dX47_different_32 rfl (lv_at hl 1 rfl) ?_
        refine lv_iload_n hx hb dX47_different_33 rfl (lv_at hl 3 rfl) ?_
        refine lv_iload hx hb dX47_different_34 (lv_at hl 5 rfl) ?_
        refine k_i0 hH (k_runS (As := [.ref (ad 6), .int x3, .int x5]) (rest := []) X hH.1 hH.2.1 X.2.2.2 (walkX47_compare_news hc (x1 := x3) (x2 := x5) (f_constants := f_constants) (f_blanks := f_blanks) (f_counts := f_counts) (f_points := f_points) (f_kept := f_kept) (f_hashes := f_hashes) (f_news := f_news) (f_rounds := f_rounds) (f_hashed := f_hashed) (f_groups := f_groups) (f_groupOf := f_groupOf) (f_groupCount := f_groupCount) (f_trial := f_trial) (f_row := f_row) (f_names := f_names) (f_namedBlanks := f_namedBlanks) (f_form := f_form) (f_formCount := f_formCount) (f_octets := f_octets) (f_descriptions := f_descriptions) (f_described := f_described) (f_message := f_message) (f_size := f_size) (f_words := f_words) (f_schedule := f_schedule) (f_thrown := f_thrown) (f_said := f_said) hw) (va_cwS 3 X.1.2.2.2.2 gX47_274 rfl rfl rfl hX47_compare ⟨Nat.le_of_ble_eq_true rfl, Nat.le_of_ble_eq_true rfl⟩) rfl hl.1 rfl (Nat.le_of_ble_eq_true rfl) dX47_different_36 ⟨Nat.le_refl 0, Nat.le_refl 0⟩) (fun r_7 _ H locs hw hH => ?_)
        have hH : kH (dC, dI) cl A s.heap H locs (wX47 ci ad d f_constants f_blanks f_counts f_points f_kept f_hashes f_news f_rounds f_hashed f_groups f_groupOf f_groupCount f_trial f_row f_names f_namedBlanks f_form f_formCount f_octets f_descriptions f_described f_message f_size f_words f_schedule f_thrown f_said) := hH
        refine lv_if_eq (tgt := 46) hx hb dX47_different_39 (by decide) (fun c_8 => ?_) (fun c_8 => ?_)
        · have hw := hw.1 (z_eq (rfl : r_7.toInt = _) (rfl : (0 : Int32).toInt = 0) c_8)
          refine lv_iconst (v := 0) hx hb dX47_different_46 (by decide) ?_
          refine lv_istore (lv' := [(4, .int 0), (0, .ref (ad 0)), (1, .ref (ad 6)), (2, .int x2), (3, .int x3), (5, .int x5)]) hx hb dX47_different_47 hl (by decide) rfl (fun ls hl => ?_)
          have hq_10 := hw.1
          have hw := hw.2
          obtain ⟨x5_9, ex5_9⟩ : ∃ y : Int32, y = x5 + 1 := ⟨_, rfl⟩
          have hw := hw x5_9.toInt (by rw [ex5_9]; exact (z_x (z_add (z_m (rfl : x5.toInt = _)) (z_m (rfl : (1 : Int32).toInt = 1))) hq_10))
          refine lv_iinc (v := x5_9) (lv' := [(5, .int x5_9), (4, .int 0), (0, .ref (ad 0)), (1, .ref (ad 6)), (2, .int x2), (3, .int x3)]) hx hb dX47_different_49 hl (k := 5) rfl (by rw [ex5_9]; rfl) (by decide) rfl (fun ls hl => ?_)
          refine lv_goto (tgt := 21) hx hb dX47_different_52 (by decide) ?_
          exact ih 0 x5_9 hw _ _ ls hH (lv_sub hl [2, 3, 4, 5, 1, 0] rfl)
        · have hw := hw.2 (z_neq (rfl : r_7.toInt = _) (rfl : (0 : Int32).toInt = 0) c_8)
          refine lv_iconst (v := 1) hx hb dX47_different_42 (by decide) ?_
          refine lv_goto (tgt := 47) hx hb dX47_different_43 (by decide) ?_
          refine lv_istore (lv' := [(4, .int 1), (0, .ref (ad 0)), (1, .ref (ad 6)), (2, .int x2), (3, .int x3), (5, .int x5)]) hx hb dX47_different_47 hl (by decide) rfl (fun ls hl => ?_)
          have hq_12 := hw.1
          have hw := hw.2
          obtain ⟨x5_11, ex5_11⟩ : ∃ y : Int32, y = x5 + 1 := ⟨_, rfl⟩
          have hw := hw x5_11.toInt (by rw [ex5_11]; exact (z_x (z_add (z_m (rfl : x5.toInt = _)) (z_m (rfl : (1 : Int32).toInt = 1))) hq_12))
          refine lv_iinc (v := x5_11) (lv' := [(5, .int x5_11), (4, .int 1), (0, .ref (ad 0)), (1, .ref (ad 6)), (2, .int x2), (3, .int x3)]) hx hb dX47_different_49 hl (k := 5) rfl (by rw [ex5_11]; rfl) (by decide) rfl (fun ls hl => ?_)
          refine lv_goto (tgt := 21) hx hb dX47_different_52 (by decide) ?_
          exact ih 1 x5_11 hw _ _ ls hH (lv_sub hl [2, 3, 4, 5, 1, 0] rfl)
set_option maxHeartbeats 4000000 in
theorem atX47_different_news_4 {p : Program} {l : Launch} {e : Env} {s : State} {m : MethodId} {args : Array Value} {below : List Frame} {meth : Method} {c : Code} {dC : Nat → ClassId} {dI : Nat → Nat → Nat} {cl : List vw_C} {ci : Nat} (hc : cl[ci]? = some (RX47, TX47, 27)) {ad : Nat → Nat} {d : Nat → ClassId} {A : Nat → Prop} {post : Int → Prop} {f_constants : Nat → Int64} {f_blanks : Nat → Int32} {f_counts : Nat → Int32} {f_points : Nat → Int32} {f_kept : Int32} {f_hashes : Nat → Int64} {f_news : Nat → Int64} {f_rounds : Int32} {f_hashed : Int32} {f_groups : Nat → Int32} {f_groupOf : Nat → Int32} {f_groupCount : Int32} {f_trial : Nat → Int32} {f_row : Nat → Int32} {f_names : Nat → Int32} {f_namedBlanks : Int32} {f_form : Nat → Int32} {f_formCount : Int32} {f_octets : Nat → Int32} {f_descriptions : Nat → Int32} {f_described : Int32} {f_message : Nat → Int32} {f_size : Int32} {f_words : Nat → Int64} {f_schedule : Nat → Int64} {f_thrown : Int32} {f_said : Nat → Int32} (X : kX p s m args meth c cX47_different 6 RX47 (some .int) (dC, dI) cl (tX47 d)) {K74 : Int → Prop}   (hk74 : ∀ (x2 : Int32), K74 x2.toInt → ∀ (H : Heap) (locs : List Loc) (ls : Array Slot), kH (dC, dI) cl A s.heap H locs (wX47 ci ad d f_constants f_blanks f_counts f_points f_kept f_hashes f_news f_rounds f_hashed f_groups f_groupOf f_groupCount f_trial f_row f_names f_namedBlanks f_form f_formCount f_octets f_descriptions f_described f_message f_size f_words f_schedule f_thrown f_said) → lv_has ls 6 [(2, .int x2)] → W p l e ({ frames := 1, cells := 0, slots := 0, locals := 23 } : Room) s m args below meth c H locs 0 0 (MQ below (va_Qi (fun (r : Int32) (_ : Unit) => post r.toInt) (kB (dC, dI) cl (tX47 d) A (fun _ : Unit => (wX47 ci ad d f_constants f_blanks f_counts f_points f_kept f_hashes f_news f_rounds f_hashed f_groups f_groupOf f_groupCount f_trial f_row f_names f_namedBlanks f_form f_formCount f_octets f_descriptions f_described f_message f_size f_words f_schedule f_thrown f_said))) A) args s 0 0 A) (F0 m 74 ls [])) :
    ∀ (nn : Nat) (x2 : Int32) (x3 : Int32), wX47_different_news_4 K74 (zF f_blanks) (zG f_news) nn x2.toInt x3.toInt → ∀ (H : Heap) (locs : List Loc) (ls : Array Slot), kH (dC, dI) cl A s.heap H locs (wX47 ci ad d f_constants f_blanks f_counts f_points f_kept f_hashes f_news f_rounds f_hashed f_groups f_groupOf f_groupCount f_trial f_row f_names f_namedBlanks f_form f_formCount f_octets f_descriptions f_described f_message f_size f_words f_schedule f_thrown f_said) → lv_has ls 6 [(0, .ref (ad 0)), (1, .ref (ad 6)), (2, .int x2), (3, .int x3)] → W p l e ({ frames := 1, cells := 0, slots := 0, locals := 23 } : Room) s m args below meth c H locs 0 0 (MQ below (va_Qi (fun (r : Int32) (_ : Unit) => post r.toInt) (kB (dC, dI) cl (tX47 d) A (fun _ : Unit => (wX47 ci ad d f_constants f_blanks f_counts f_points f_kept f_hashes f_news f_rounds f_hashed f_groups f_groupOf f_groupCount f_trial f_row f_names f_namedBlanks f_form f_formCount f_octets f_descriptions f_described f_message f_size f_words f_schedule f_thrown f_said))) A) args s 0 0 A) (F0 m 4 ls []) := by
  have hx := X.1.1
  have hb := X.1.2.1
  intro nn
  induction nn with
  | zero =>
    intro x2 x3 hw
    exact False.elim hw
  | succ n ih =>
    intro x2 x3 hw H locs ls hH hl
    rw [wX47_different_news_4] at hw
    refine lv_iload_n hx hb dX47_different_4 rfl (lv_at hl 3 rfl) ?_
    refine lv_aload_n hx hb dX47_different_5 rfl (lv_at hl 0 rfl) ?_
    refine k_get X hH in_X47 0 rfl hc 1 (by decide) q5985 rfl dX47_different_6 ?_
    refine lv_bipush (v := 8) hx hb dX47_different_9 (by decide) ?_
    refine k_iald X hH 2 1 rfl rfl (by unfold vp_in; decide) dX47_different_11 ?_
    have e_1 := z_ld (f := f_blanks) (rfl : (8 : Int32).toInt = 8) (by decide)
    refine lv_icmp_gt (tgt := 74) hx hb dX47_different_12 (by decide) (fun c_2 => ?_) (fun c_2 => ?_)
    · have hw := hw.1 (z_lt e_1 (rfl : x3.toInt = _) c_2)
      exact hk74 x2 hw _ _ ls hH (lv_sub hl [2] rfl)
    · have hw := hw.2 (z_nlt e_1 (rfl : x3.toInt = _) c_2)
      refine lv_iconst (v := 1) hx hb dX47_different_15 (by decide) ?_
      refine lv_istore (lv' := [(4, .int 1), (0, .ref (ad 0)), (1, .ref (ad 6)), (2, .int x2), (3, .int x3)]) hx hb dX47_different_16 hl (by decide) rfl (fun ls hl => ?_)
      refine lv_iconst (v := 1) hx hb dX47_different_18 (by decide) ?_
      refine lv_istore (lv' := [(5, .int 1), (4, .int 1), (0, .ref (ad 0)), (1, .ref (ad 6)), (2, .int x2), (3, .int x3)]) hx hb dX47_different_19 hl (by decide) rfl (fun ls hl => ?_)
      obtain ⟨fu, hw⟩ := hw
      refine atX47_different_news_21 hc X ?_ fu 1 1 hw _ _ ls hH (lv_sub hl [2, 3, 4, 5, 1, 0] rfl)
      · intro x4_13 hw H locs ls hH hl
        refine lv_iload_n hx hb dX47_different_55 rfl (lv_at hl 2 rfl) ?_
        refine lv_iload hx hb dX47_different_56 (lv_at hl 4 rfl) ?_
        refine lv_if_eq (tgt := 65) hx hb dX47_different_58 (by decide) (fun c_14 => ?_) (fun c_14 => ?_)
        · have hw := hw.1 (z_eq (rfl : x4_13.toInt = _) (rfl : (0 : Int32).toInt = 0) c_14)
          refine lv_iconst (v := 0) hx hb dX47_different_65 (by decide) ?_
          refine lv_iadd hx hb dX47_different_66 ?_
          have e_15 := z_add (z_m (rfl : x2.toInt = _)) (z_m (rfl : (0 : Int32).toInt = 0))
          have hq_16 := hw.1
          have hw := hw.2
          have e_17 := z_x e_15 hq_16
          refine lv_topi (fun x2_18 ex2_18 => ?_)
          have hw := hw x2_18.toInt (by rw [ex2_18]; exact e_17)
          refine lv_istore_n (lv' := [(2, .int x2_18), (0, .ref (ad 0)), (1, .ref (ad 6)), (3, .int x3), (4, .int x4_13)]) hx hb dX47_different_67 rfl hl (by decide) rfl (fun ls hl => ?_)
          have hq_20 := hw.1
          have hw := hw.2
          obtain ⟨x3_19, ex3_19⟩ : ∃ y : Int32, y = x3 + 1 := ⟨_, rfl⟩
          have hw := hw x3_19.toInt (by rw [ex3_19]; exact (z_x (z_add (z_m (rfl : x3.toInt = _)) (z_m (rfl : (1 : Int32).toInt = 1))) hq_20))
          refine lv_iinc (v := x3_19) (lv' := [(3, .int x3_19), (2, .int x2_18), (0, .ref (ad 0)), (1, .ref (ad 6)), (4, .int x4_13)]) hx hb dX47_different_68 hl (k := 3) rfl (by rw [ex3_19]; rfl) (by decide) rfl (fun ls hl => ?_)
          refine lv_goto (tgt := 4) hx hb dX47_different_71 (by decide) ?_
          exact ih x2_18 x3_19 hw _ _ ls hH (lv_sub hl [2, 3, 1, 0] rfl)
        · have hw := hw.2 (z_neq (rfl : x4_13.toInt = _) (rfl : (0 : Int32).toInt = 0) c_14)
          refine lv_iconst (v := 1) hx hb dX47_different_61 (by decide) ?_
          refine lv_goto (tgt := 66) hx hb dX47_different_62 (by decide) ?_
          refine lv_iadd hx hb dX47_different_66 ?_
          have e_21 := z_add (z_m (rfl : x2.toInt = _)) (z_m (rfl : (1 : Int32).toInt = 1))
          have hq_22 := hw.1
          have hw := hw.2
          have e_23 := z_x e_21 hq_22
          refine lv_topi (fun x2_24 ex2_24 => ?_)
          have hw := hw x2_24.toInt (by rw [ex2_24]; exact e_23)
          refine lv_istore_n (lv' := [(2, .int x2_24), (0, .ref (ad 0)), (1, .ref (ad 6)), (3, .int x3), (4, .int x4_13)]) hx hb dX47_different_67 rfl hl (by decide) rfl (fun ls hl => ?_)
          have hq_26 := hw.1
          have hw := hw.2
          obtain ⟨x3_25, ex3_25⟩ : ∃ y : Int32, y = x3 + 1 := ⟨_, rfl⟩
          have hw := hw x3_25.toInt (by rw [ex3_25]; exact (z_x (z_add (z_m (rfl : x3.toInt = _)) (z_m (rfl : (1 : Int32).toInt = 1))) hq_26))
          refine lv_iinc (v := x3_25) (lv' := [(3, .int x3_25), (2, .int x2_24), (0, .ref (ad 0)), (1, .ref (ad 6)), (4, .int x4_13)]) hx hb dX47_different_68 hl (k := 3) rfl (by rw [ex3_25]; rfl) (by decide) rfl (fun ls hl => ?_)
          refine lv_goto (tgt := 4) hx hb dX47_different_71 (by decide) ?_
          exact ih x2_24 x3_25 hw _ _ ls hH (lv_sub hl [2, 3, 1, 0] rfl)
set_option maxHeartbeats 4000000 in
theorem walkX47_different_news {l : Launch} {dC : Nat → ClassId} {dI : Nat → Nat → Nat} {cl : List vw_C} {ci : Nat} (hc : cl[ci]? = some (RX47, TX47, 27)) {ad : Nat → Nat} {d : Nat → ClassId} {sz : Nat} {f_constants : Nat → Int64} {f_blanks : Nat → Int32} {f_counts : Nat → Int32} {f_points : Nat → Int32} {f_kept : Int32} {f_hashes : Nat → Int64} {f_news : Nat → Int64} {f_rounds : Int32} {f_hashed : Int32} {f_groups : Nat → Int32} {f_groupOf : Nat → Int32} {f_groupCount : Int32} {f_trial : Nat → Int32} {f_row : Nat → Int32} {f_names : Nat → Int32} {f_namedBlanks : Int32} {f_form : Nat → Int32} {f_formCount : Int32} {f_octets : Nat → Int32} {f_descriptions : Nat → Int32} {f_described : Int32} {f_message : Nat → Int32} {f_size : Int32} {f_words : Nat → Int64} {f_schedule : Nat → Int64} {f_thrown : Int32} {f_said : Nat → Int32}  {post : Int → Prop} (hw : wpX47_different_news post (zF f_blanks) (zG f_news) ) :
    Met l yX47_different (ws_ yX47_different cX47_different 6 (some .int)) ({ frames := 1, cells := 0, slots := 0, locals := 23 } : Room) (kPc (dC, dI) cl (tX47 d) [.ref (ad 0), .ref (ad 6)] sz (wX47 ci ad d f_constants f_blanks f_counts f_points f_kept f_hashes f_news f_rounds f_hashed f_groups f_groupOf f_groupCount f_trial f_row f_names f_namedBlanks f_form f_formCount f_octets f_descriptions f_described f_message f_size f_words f_schedule f_thrown f_said)) (va_Qi (fun (r : Int32) (_ : Unit) => post r.toInt) (kB (dC, dI) cl (tX47 d) (va_A (wX47 ci ad d f_constants f_blanks f_counts f_points f_kept f_hashes f_news f_rounds f_hashed f_groups f_groupOf f_groupCount f_trial f_row f_names f_namedBlanks f_form f_formCount f_octets f_descriptions f_described f_message f_size f_words f_schedule f_thrown f_said) sz) (fun _ : Unit => (wX47 ci ad d f_constants f_blanks f_counts f_points f_kept f_hashes f_news f_rounds f_hashed f_groups f_groupOf f_groupCount f_trial f_row f_names f_namedBlanks f_form f_formCount f_octets f_descriptions f_described f_message f_size f_words f_schedule f_thrown f_said))) (va_A (wX47 ci ad d f_constants f_blanks f_counts f_points f_kept f_hashes f_news f_rounds f_hashed f_groups f_groupOf f_groupCount f_trial f_row f_names f_namedBlanks f_form f_formCount f_octets f_descriptions f_described f_message f_size f_words f_schedule f_thrown f_said) sz)) 0 0 (va_A (wX47 ci ad d f_constants f_blanks f_counts f_points f_kept f_hashes f_news f_rounds f_hashed f_groups f_groupOf f_groupCount f_trial f_row f_names f_namedBlanks f_form f_formCount f_octets f_descriptions f_described f_message f_size f_words f_schedule f_thrown f_said) sz) := by
  refine k_enter (by decide) (Nat.le_of_ble_eq_true rfl) ?_
  intro p e s m below meth c ls X hsz hH hl
  subst hsz
  generalize va_A (wX47 ci ad d f_constants f_blanks f_counts f_points f_kept f_hashes f_news f_rounds f_hashed f_groups f_groupOf f_groupCount f_trial f_row f_names f_namedBlanks f_form f_formCount f_octets f_descriptions f_described f_message f_size f_words f_schedule f_thrown f_said) s.heap.size = A at hH ⊢
  have hx := X.1.1
  have hb := X.1.2.1
  have hl : lv_has ls 6 [(0, .ref (ad 0)), (1, .ref (ad 6))] := hl
  unfold wpX47_different_news at hw
  refine lv_iconst (v := 0) hx hb dX47_different_0 (by decide) ?_
  refine lv_istore_n (lv' := [(2, .int 0), (0, .ref (ad 0)), (1, .ref (ad 6))]) hx hb dX47_different_1 rfl hl (by decide) rfl (fun ls hl => ?_)
  refine lv_iconst (v := 1) hx hb dX47_different_2 (by decide) ?_
  refine lv_istore_n (lv' := [(3, .int 1), (2, .int 0), (0, .ref (ad 0)), (1, .ref (ad 6))]) hx hb dX47_different_3 rfl hl (by decide) rfl (fun ls hl => ?_)
  obtain ⟨fu, hw⟩ := hw
  refine atX47_different_news_4 hc X ?_ fu 0 1 hw _ _ ls hH (lv_sub hl [2, 3, 1, 0] rfl)
  · intro x2_27 hw H locs ls hH hl
    refine lv_iload_n hx hb dX47_different_74 rfl (lv_at hl 0 rfl) ?_
    exact k_iret (v := x2_27) X hH () hw rfl rfl dX47_different_75
set_option maxHeartbeats 4000000 in
theorem atX47_compare_hashes_2 {p : Program} {l : Launch} {e : Env} {s : State} {m : MethodId} {args : Array Value} {below : List Frame} {meth : Method} {c : Code} {dC : Nat → ClassId} {dI : Nat → Nat → Nat} {cl : List vw_C} {ci : Nat} (hc : cl[ci]? = some (RX47, TX47, 27)) {ad : Nat → Nat} {d : Nat → ClassId} {A : Nat → Prop} {post : Int → Prop} {f_constants : Nat → Int64} {f_blanks : Nat → Int32} {f_counts : Nat → Int32} {f_points : Nat → Int32} {f_kept : Int32} {f_hashes : Nat → Int64} {f_news : Nat → Int64} {f_rounds : Int32} {f_hashed : Int32} {f_groups : Nat → Int32} {f_groupOf : Nat → Int32} {f_groupCount : Int32} {f_trial : Nat → Int32} {f_row : Nat → Int32} {f_names : Nat → Int32} {f_namedBlanks : Int32} {f_form : Nat → Int32} {f_formCount : Int32} {f_octets : Nat → Int32} {f_descriptions : Nat → Int32} {f_described : Int32} {f_message : Nat → Int32} {f_size : Int32} {f_words : Nat → Int64} {f_schedule : Nat → Int64} {f_thrown : Int32} {f_said : Nat → Int32} (X : kX p s m args meth c cX47_compare 4 RX47 (some .int) (dC, dI) cl (tX47 d)) {K28 : Int → Prop} {K60 : Prop} {x1 : Int32} {x2 : Int32}  (hk28 : ∀ (x3 : Int32), K28 x3.toInt → ∀ (H : Heap) (locs : List Loc) (ls : Array Slot), kH (dC, dI) cl A s.heap H locs (wX47 ci ad d f_constants f_blanks f_counts f_points f_kept f_hashes f_news f_rounds f_hashed f_groups f_groupOf f_groupCount f_trial f_row f_names f_namedBlanks f_form f_formCount f_octets f_descriptions f_described f_message f_size f_words f_schedule f_thrown f_said) → lv_has ls 4 [(0, .ref (ad 5)), (1, .int x1), (2, .int x2), (3, .int x3)] → W p l e ({ frames := 0, cells := 0, slots := 0, locals := 0 } : Room) s m args below meth c H locs 0 0 (MQ below (va_Qi (fun (r : Int32) (_ : Unit) => post r.toInt) (kB (dC, dI) cl (tX47 d) A (fun _ : Unit => (wX47 ci ad d f_constants f_blanks f_counts f_points f_kept f_hashes f_news f_rounds f_hashed f_groups f_groupOf f_groupCount f_trial f_row f_names f_namedBlanks f_form f_formCount f_octets f_descriptions f_described f_message f_size f_words f_schedule f_thrown f_said))) A) args s 0 0 A) (F0 m 28 ls [])) (hk60 : K60  → ∀ (H : Heap) (locs : List Loc) (ls : Array Slot), kH (dC, dI) cl A s.heap H locs (wX47 ci ad d f_constants f_blanks f_counts f_points f_kept f_hashes f_news f_rounds f_hashed f_groups f_groupOf f_groupCount f_trial f_row f_names f_namedBlanks f_form f_formCount f_octets f_descriptions f_described f_message f_size f_words f_schedule f_thrown f_said) → lv_has ls 4 [] → W p l e ({ frames := 0, cells := 0, slots := 0, locals := 0 } : Room) s m args below meth c H locs 0 0 (MQ below (va_Qi (fun (r : Int32) (_ : Unit) => post r.toInt) (kB (dC, dI) cl (tX47 d) A (fun _ : Unit => (wX47 ci ad d f_constants f_blanks f_counts f_points f_kept f_hashes f_news f_rounds f_hashed f_groups f_groupOf f_groupCount f_trial f_row f_names f_namedBlanks f_form f_formCount f_octets f_descriptions f_described f_message f_size f_words f_schedule f_thrown f_said))) A) args s 0 0 A) (F0 m 60 ls [])) :
    ∀ (nn : Nat) (x3 : Int32), wX47_compare_hashes_2 K28 K60 x1.toInt x2.toInt (zG f_hashes) nn x3.toInt → ∀ (H : Heap) (locs : List Loc) (ls : Array Slot), kH (dC, dI) cl A s.heap H locs (wX47 ci ad d f_constants f_blanks f_counts f_points f_kept f_hashes f_news f_rounds f_hashed f_groups f_groupOf f_groupCount f_trial f_row f_names f_namedBlanks f_form f_formCount f_octets f_descriptions f_described f_message f_size f_words f_schedule f_thrown f_said) → lv_has ls 4 [(0, .ref (ad 5)), (1, .int x1), (2, .int x2), (3, .int x3)] → W p l e ({ frames := 0, cells := 0, slots := 0, locals := 0 } : Room) s m args below meth c H locs 0 0 (MQ below (va_Qi (fun (r : Int32) (_ : Unit) => post r.toInt) (kB (dC, dI) cl (tX47 d) A (fun _ : Unit => (wX47 ci ad d f_constants f_blanks f_counts f_points f_kept f_hashes f_news f_rounds f_hashed f_groups f_groupOf f_groupCount f_trial f_row f_names f_namedBlanks f_form f_formCount f_octets f_descriptions f_described f_message f_size f_words f_schedule f_thrown f_said))) A) args s 0 0 A) (F0 m 2 ls []) := by
  have hx := X.1.1
  have hb := X.1.2.1
  intro nn
  induction nn with
  | zero =>
    intro x3 hw
    exact False.elim hw
  | succ n ih =>
    intro x3 hw H locs ls hH hl
    rw [wX47_compare_hashes_2] at hw
    refine lv_iload_n hx hb dX47_compare_2 rfl (lv_at hl 3 rfl) ?_
    refine lv_bipush (v := 8) hx hb dX47_compare_3 (by decide) ?_
    refine lv_icmp_ge (tgt := 60) hx hb dX47_compare_5 (by decide) (fun c_1 => ?_) (fun c_1 => ?_)
    · have hw := hw.1 (z_le (rfl : (8 : Int32).toInt = 8) (rfl : x3.toInt = _) c_1)
      exact hk60  hw _ _ ls hH (lv_sub hl [] rfl)
    · have hw := hw.2 (z_nle (rfl : (8 : Int32).toInt = 8) (rfl : x3.toInt = _) c_1)
      refine lv_aload_n hx hb dX47_compare_8 rfl (lv_at hl 0 rfl) ?_
      refine lv_bipush (v := 8) hx hb dX47_compare_9 (by decide) ?_
      refine lv_iload_n hx hb dX47_compare_11 rfl (lv_at hl 1 rfl) ?_
      refine lv_imul hx hb dX47_compare_12 ?_
      have e_2 := z_mul (z_m (rfl : (8 : Int32).toInt = 8)) (z_m (rfl : x1.toInt = _))
      refine lv_iload_n hx hb dX47_compare_13 rfl (lv_at hl 3 rfl) ?_
      refine lv_iadd hx hb dX47_compare_14 ?_
      have e_3 := z_add e_2 (z_m (rfl : x3.toInt = _))
      have hq_4 := hw.1
      have hw := hw.2
      have e_5 := z_xi e_3 hq_4 (by decide)
      refine k_lald X hH 5 4 rfl rfl (z_in e_5 hq_4) dX47_compare_15 ?_
      have e_6 := z_ldL (f := f_hashes) e_5 hq_4.1
      refine lv_aload_n hx hb dX47_compare_16 rfl (lv_at hl 0 rfl) ?_
      refine lv_bipush (v := 8) hx hb dX47_compare_17 (by decide) ?_
      refine lv_iload_n hx hb dX47_compare_19 rfl (lv_at hl 2 rfl) ?_
      refine lv_imul hx hb dX47_compare_20 ?_
      have e_7 := z_mul (z_m (rfl : (8 : Int32).toInt = 8)) (z_m (rfl : x2.toInt = _))
      refine lv_iload_n hx hb dX47_compare_21 rfl (lv_at hl 3 rfl) ?_
      refine lv_iadd hx hb dX47_compare_22 ?_
      have e_8 := z_add e_7 (z_m (rfl : x3.toInt = _))
      have hq_9 := hw.1
      have hw := hw.2
      have e_10 := z_xi e_8 hq_9 (by decide)
      refine k_lald X hH 5 4 rfl rfl (z_in e_10 hq_9) dX47_compare_23 ?_
      have e_11 := z_ldL (f := f_hashes) e_10 hq_9.1
      refine W.lcmp hx hb dX47_compare_24 ?_
      refine lv_if_eq (tgt := 54) hx hb dX47_compare_25 (by decide) (fun c_12 => ?_) (fun c_12 => ?_)
      · have hw := hw.1 (zL_eq e_6 e_11 (k_lc_eq.mp c_12))
        have hq_14 := hw.1
        have hw := hw.2
        obtain ⟨x3_13, ex3_13⟩ : ∃ y : Int32, y = x3 + 1 := ⟨_, rfl⟩
        have hw := hw x3_13.toInt (by rw [ex3_13]; exact (z_x (z_add (z_m (rfl : x3.toInt = _)) (z_m (rfl : (1 : Int32).toInt = 1))) hq_14))
        refine lv_iinc (v := x3_13) (lv' := [(3, .int x3_13), (0, .ref (ad 5)), (1, .int x1), (2, .int x2)]) hx hb dX47_compare_54 hl (k := 3) rfl (by rw [ex3_13]; rfl) (by decide) rfl (fun ls hl => ?_)
        refine lv_goto (tgt := 2) hx hb dX47_compare_57 (by decide) ?_
        exact ih x3_13 hw _ _ ls hH (lv_sub hl [1, 2, 3, 0] rfl)
      · have hw := hw.2 (zL_neq e_6 e_11 (fun z => c_12 (k_lc_eq.mpr z)))
        exact hk28 x3 hw _ _ ls hH (lv_sub hl [0, 1, 2, 3] rfl)
set_option maxHeartbeats 4000000 in
theorem walkX47_compare_hashes {l : Launch} {dC : Nat → ClassId} {dI : Nat → Nat → Nat} {cl : List vw_C} {ci : Nat} (hc : cl[ci]? = some (RX47, TX47, 27)) {ad : Nat → Nat} {d : Nat → ClassId} {sz : Nat} {f_constants : Nat → Int64} {f_blanks : Nat → Int32} {f_counts : Nat → Int32} {f_points : Nat → Int32} {f_kept : Int32} {f_hashes : Nat → Int64} {f_news : Nat → Int64} {f_rounds : Int32} {f_hashed : Int32} {f_groups : Nat → Int32} {f_groupOf : Nat → Int32} {f_groupCount : Int32} {f_trial : Nat → Int32} {f_row : Nat → Int32} {f_names : Nat → Int32} {f_namedBlanks : Int32} {f_form : Nat → Int32} {f_formCount : Int32} {f_octets : Nat → Int32} {f_descriptions : Nat → Int32} {f_described : Int32} {f_message : Nat → Int32} {f_size : Int32} {f_words : Nat → Int64} {f_schedule : Nat → Int64} {f_thrown : Int32} {f_said : Nat → Int32} {x1 : Int32} {x2 : Int32} {post : Int → Prop} (hw : wpX47_compare_hashes post (zG f_hashes) x1.toInt x2.toInt) :
    Met l yX47_compare (ws_ yX47_compare cX47_compare 4 (some .int)) ({ frames := 0, cells := 0, slots := 0, locals := 0 } : Room) (kPc (dC, dI) cl (tX47 d) [.ref (ad 5), .int x1, .int x2] sz (wX47 ci ad d f_constants f_blanks f_counts f_points f_kept f_hashes f_news f_rounds f_hashed f_groups f_groupOf f_groupCount f_trial f_row f_names f_namedBlanks f_form f_formCount f_octets f_descriptions f_described f_message f_size f_words f_schedule f_thrown f_said)) (va_Qi (fun (r : Int32) (_ : Unit) => post r.toInt) (kB (dC, dI) cl (tX47 d) (va_A (wX47 ci ad d f_constants f_blanks f_counts f_points f_kept f_hashes f_news f_rounds f_hashed f_groups f_groupOf f_groupCount f_trial f_row f_names f_namedBlanks f_form f_formCount f_octets f_descriptions f_described f_message f_size f_words f_schedule f_thrown f_said) sz) (fun _ : Unit => (wX47 ci ad d f_constants f_blanks f_counts f_points f_kept f_hashes f_news f_rounds f_hashed f_groups f_groupOf f_groupCount f_trial f_row f_names f_namedBlanks f_form f_formCount f_octets f_descriptions f_described f_message f_size f_words f_schedule f_thrown f_said))) (va_A (wX47 ci ad d f_constants f_blanks f_counts f_points f_kept f_hashes f_news f_rounds f_hashed f_groups f_groupOf f_groupCount f_trial f_row f_names f_namedBlanks f_form f_formCount f_octets f_descriptions f_described f_message f_size f_words f_schedule f_thrown f_said) sz)) 0 0 (va_A (wX47 ci ad d f_constants f_blanks f_counts f_points f_kept f_hashes f_news f_rounds f_hashed f_groups f_groupOf f_groupCount f_trial f_row f_names f_namedBlanks f_form f_formCount f_octets f_descriptions f_described f_message f_size f_words f_schedule f_thrown f_said) sz) := by
  refine k_enter (by decide) (Nat.le_of_ble_eq_true rfl) ?_
  intro p e s m below meth c ls X hsz hH hl
  subst hsz
  generalize va_A (wX47 ci ad d f_constants f_blanks f_counts f_points f_kept f_hashes f_news f_rounds f_hashed f_groups f_groupOf f_groupCount f_trial f_row f_names f_namedBlanks f_form f_formCount f_octets f_descriptions f_described f_message f_size f_words f_schedule f_thrown f_said) s.heap.size = A at hH ⊢
  have hx := X.1.1
  have hb := X.1.2.1
  have hl : lv_has ls 4 [(0, .ref (ad 5)), (1, .int x1), (2, .int x2)] := hl
  unfold wpX47_compare_hashes at hw
  refine lv_iconst (v := 0) hx hb dX47_compare_0 (by decide) ?_
  refine lv_istore_n (lv' := [(3, .int 0), (0, .ref (ad 5)), (1, .int x1), (2, .int x2)]) hx hb dX47_compare_1 rfl hl (by decide) rfl (fun ls hl => ?_)
  obtain ⟨fu, hw⟩ := hw
  refine atX47_compare_hashes_2 hc X ?_ ?_ fu 0 hw _ _ ls hH (lv_sub hl [1, 2, 3, 0] rfl)
  · intro x3_15 hw H locs ls hH hl
    refine lv_aload_n hx hb dX47_compare_28 rfl (lv_at hl 0 rfl) ?_
    refine lv_bipush (v := 8) hx hb dX47_compare_29 (by decide) ?_
    refine lv_iload_n hx hb dX47_compare_31 rfl (lv_at hl 1 rfl) ?_
    refine lv_imul hx hb dX47_compare_32 ?_
    have e_16 := z_mul (z_m (rfl : (8 : Int32).toInt = 8)) (z_m (rfl : x1.toInt = _))
    refine lv_iload_n hx hb dX47_compare_33 rfl (lv_at hl 3 rfl) ?_
    refine lv_iadd hx hb dX47_compare_34 ?_
    have e_17 := z_add e_16 (z_m (rfl : x3_15.toInt = _))
    have hq_18 := hw.1
    have hw := hw.2
    have e_19 := z_xi e_17 hq_18 (by decide)
    refine k_lald X hH 5 4 rfl rfl (z_in e_19 hq_18) dX47_compare_35 ?_
    have e_20 := z_ldL (f := f_hashes) e_19 hq_18.1
    refine lv_aload_n hx hb dX47_compare_36 rfl (lv_at hl 0 rfl) ?_
    refine lv_bipush (v := 8) hx hb dX47_compare_37 (by decide) ?_
    refine lv_iload_n hx hb dX47_compare_39 rfl (lv_at hl 2 rfl) ?_
    refine lv_imul hx hb dX47_compare_40 ?_
    have e_21 := z_mul (z_m (rfl : (8 : Int32).toInt = 8)) (z_m (rfl : x2.toInt = _))
    refine lv_iload_n hx hb dX47_compare_41 rfl (lv_at hl 3 rfl) ?_
    refine lv_iadd hx hb dX47_compare_42 ?_
    have e_22 := z_add e_21 (z_m (rfl : x3_15.toInt = _))
    have hq_23 := hw.1
    have hw := hw.2
    have e_24 := z_xi e_22 hq_23 (by decide)
    refine k_lald X hH 5 4 rfl rfl (z_in e_24 hq_23) dX47_compare_43 ?_
    have e_25 := z_ldL (f := f_hashes) e_24 hq_23.1
    refine W.lcmp hx hb dX47_compare_44 ?_
    refine lv_if_ge (tgt := 52) hx hb dX47_compare_45 (by decide) (fun c_26 => ?_) (fun c_26 => ?_)
    · have hw := hw.1 (zL_le e_25 e_20 (k_lc_ge.mp c_26))
      refine lv_iconst (v := 1) hx hb dX47_compare_52 (by decide) ?_
      exact k_iret (v := 1) X hH () hw rfl rfl dX47_compare_53
    · have hw := hw.2 (zL_nle e_25 e_20 (fun z => c_26 (k_lc_ge.mpr z)))
      refine lv_iconst (v := (-1)) hx hb dX47_compare_48 (by decide) ?_
      refine lv_goto (tgt := 53) hx hb dX47_compare_49 (by decide) ?_
      exact k_iret (v := (-1)) X hH () hw rfl rfl dX47_compare_53
  · intro hw H locs ls hH hl
    refine lv_iconst (v := 0) hx hb dX47_compare_60 (by decide) ?_
    exact k_iret (v := 0) X hH () hw rfl rfl dX47_compare_61
set_option maxHeartbeats 4000000 in
theorem atX47_different_hashes_21 {p : Program} {l : Launch} {e : Env} {s : State} {m : MethodId} {args : Array Value} {below : List Frame} {meth : Method} {c : Code} {dC : Nat → ClassId} {dI : Nat → Nat → Nat} {cl : List vw_C} {ci : Nat} (hc : cl[ci]? = some (RX47, TX47, 27)) {ad : Nat → Nat} {d : Nat → ClassId} {A : Nat → Prop} {post : Int → Prop} {f_constants : Nat → Int64} {f_blanks : Nat → Int32} {f_counts : Nat → Int32} {f_points : Nat → Int32} {f_kept : Int32} {f_hashes : Nat → Int64} {f_news : Nat → Int64} {f_rounds : Int32} {f_hashed : Int32} {f_groups : Nat → Int32} {f_groupOf : Nat → Int32} {f_groupCount : Int32} {f_trial : Nat → Int32} {f_row : Nat → Int32} {f_names : Nat → Int32} {f_namedBlanks : Int32} {f_form : Nat → Int32} {f_formCount : Int32} {f_octets : Nat → Int32} {f_descriptions : Nat → Int32} {f_described : Int32} {f_message : Nat → Int32} {f_size : Int32} {f_words : Nat → Int64} {f_schedule : Nat → Int64} {f_thrown : Int32} {f_said : Nat → Int32} (X : kX p s m args meth c cX47_different 6 RX47 (some .int) (dC, dI) cl (tX47 d)) {K55 : Int → Prop} {x2 : Int32} {x3 : Int32}  (hk55 : ∀ (x4 : Int32), K55 x4.toInt → ∀ (H : Heap) (locs : List Loc) (ls : Array Slot), kH (dC, dI) cl A s.heap H locs (wX47 ci ad d f_constants f_blanks f_counts f_points f_kept f_hashes f_news f_rounds f_hashed f_groups f_groupOf f_groupCount f_trial f_row f_names f_namedBlanks f_form f_formCount f_octets f_descriptions f_described f_message f_size f_words f_schedule f_thrown f_said) → lv_has ls 6 [(0, .ref (ad 0)), (1, .ref (ad 5)), (2, .int x2), (3, .int x3), (4, .int x4)] → W p l e ({ frames := 1, cells := 0, slots := 0, locals := 23 } : Room) s m args below meth c H locs 0 0 (MQ below (va_Qi (fun (r : Int32) (_ : Unit) => post r.toInt) (kB (dC, dI) cl (tX47 d) A (fun _ : Unit => (wX47 ci ad d f_constants f_blanks f_counts f_points f_kept f_hashes f_news f_rounds f_hashed f_groups f_groupOf f_groupCount f_trial f_row f_names f_namedBlanks f_form f_formCount f_octets f_descriptions f_described f_message f_size f_words f_schedule f_thrown f_said))) A) args s 0 0 A) (F0 m 55 ls [])) :
    ∀ (nn : Nat) (x4 : Int32) (x5 : Int32), wX47_different_hashes_21 K55 x3.toInt (zG f_hashes) nn x4.toInt x5.toInt → ∀ (H : Heap) (locs : List Loc) (ls : Array Slot), kH (dC, dI) cl A s.heap H locs (wX47 ci ad d f_constants f_blanks f_counts f_points f_kept f_hashes f_news f_rounds f_hashed f_groups f_groupOf f_groupCount f_trial f_row f_names f_namedBlanks f_form f_formCount f_octets f_descriptions f_described f_message f_size f_words f_schedule f_thrown f_said) → lv_has ls 6 [(0, .ref (ad 0)), (1, .ref (ad 5)), (2, .int x2), (3, .int x3), (4, .int x4), (5, .int x5)] → W p l e ({ frames := 1, cells := 0, slots := 0, locals := 23 } : Room) s m args below meth c H locs 0 0 (MQ below (va_Qi (fun (r : Int32) (_ : Unit) => post r.toInt) (kB (dC, dI) cl (tX47 d) A (fun _ : Unit => (wX47 ci ad d f_constants f_blanks f_counts f_points f_kept f_hashes f_news f_rounds f_hashed f_groups f_groupOf f_groupCount f_trial f_row f_names f_namedBlanks f_form f_formCount f_octets f_descriptions f_described f_message f_size f_words f_schedule f_thrown f_said))) A) args s 0 0 A) (F0 m 21 ls []) := by
  have hx := X.1.1
  have hb := X.1.2.1
  intro nn
  induction nn with
  | zero =>
    intro x4 x5 hw
    exact False.elim hw
  | succ n ih =>
    intro x4 x5 hw H locs ls hH hl
    rw [wX47_different_hashes_21] at hw
    refine lv_iload hx hb dX47_different_21 (lv_at hl 5 rfl) ?_
    refine lv_iload_n hx hb dX47_different_23 rfl (lv_at hl 3 rfl) ?_
    refine lv_icmp_ge (tgt := 55) hx hb dX47_different_24 (by decide) (fun c_3 => ?_) (fun c_3 => ?_)
    · have hw := hw.1 (z_le (rfl : x3.toInt = _) (rfl : x5.toInt = _) c_3)
      exact hk55 x4 hw _ _ ls hH (lv_sub hl [0, 1, 2, 3, 4] rfl)
    · have hw := hw.2 (z_nle (rfl : x3.toInt = _) (rfl : x5.toInt = _) c_3)
      refine lv_iload hx hb dX47_different_27 (lv_at hl 4 rfl) ?_
      refine lv_if_eq (tgt := 46) hx hb dX47_different_29 (by decide) (fun c_4 => ?_) (fun c_4 => ?_)
      · have hw := hw.1 (z_eq (rfl : x4.toInt = _) (rfl : (0 : Int32).toInt = 0) c_4)
        refine lv_iconst (v := 0) hx hb dX47_different_46 (by decide) ?_
        refine lv_istore (lv' := [(4, .int 0), (0, .ref (ad 0)), (1, .ref (ad 5)), (2, .int x2), (3, .int x3), (5, .int x5)]) hx hb dX47_different_47 hl (by decide) rfl (fun ls hl => ?_)
        have hq_6 := hw.1
        have hw := hw.2
        obtain ⟨x5_5, ex5_5⟩ : ∃ y : Int32, y = x5 + 1 := ⟨_, rfl⟩
        have hw := hw x5_5.toInt (by rw [ex5_5]; exact (z_x (z_add (z_m (rfl : x5.toInt = _)) (z_m (rfl : (1 : Int32).toInt = 1))) hq_6))
        refine lv_iinc (v := x5_5) (lv' := [(5, .int x5_5), (4, .int 0), (0, .ref (ad 0)), (1, .ref (ad 5)), (2, .int x2), (3, .int x3)]) hx hb dX47_different_49 hl (k := 5) rfl (by rw [ex5_5]; rfl) (by decide) rfl (fun ls hl => ?_)
        refine lv_goto (tgt := 21) hx hb dX47_different_52 (by decide) ?_
        exact ih 0 x5_5 hw _ _ ls hH (lv_sub hl [2, 3, 4, 5, 1, 0] rfl)
      · have hw := hw.2 (z_neq (rfl : x4.toInt = _) (rfl : (0 : Int32).toInt = 0) c_4)
        refine lv_aload_n hx hb dX47_different_32 rfl (lv_at hl 1 rfl) ?_
        refine lv_iload_n hx hb dX47_different_33 rfl (lv_at hl 3 rfl) ?_
        refine lv_iload hx hb dX47_different_34 (lv_at hl 5 rfl) ?_
        refine k_i0 hH (k_runS (As := [.ref (ad 5), .int x3, .int x5]) (rest := []) X hH.1 hH.2.1 X.2.2.2 (walkX47_compare_hashes hc (x1 := x3) (x2 := x5) (f_constants := f_constants) (f_blanks := f_blanks) (f_counts := f_counts) (f_points := f_points) (f_kept := f_kept) (f_hashes := f_hashes) (f_news := f_news) (f_rounds := f_rounds) (f_hashed := f_hashed) (f_groups := f_groups) (f_groupOf := f_groupOf) (f_groupCount := f_groupCount) (f_trial := f_trial) (f_row := f_row) (f_names := f_names) (f_namedBlanks := f_namedBlanks) (f_form := f_form) (f_formCount := f_formCount) (f_octets := f_octets) (f_descriptions := f_descriptions) (f_described := f_described) (f_message := f_message) (f_size := f_size) (f_words := f_words) (f_schedule := f_schedule) (f_thrown := f_thrown) (f_said := f_said) hw) (va_cwS 3 X.1.2.2.2.2 gX47_274 rfl rfl rfl hX47_compare ⟨Nat.le_of_ble_eq_true rfl, Nat.le_of_ble_eq_true rfl⟩) rfl hl.1 rfl (Nat.le_of_ble_eq_true rfl) dX47_different_36 ⟨Nat.le_refl 0, Nat.le_refl 0⟩) (fun r_7 _ H locs hw hH => ?_)
        have hH : kH (dC, dI) cl A s.heap H locs (wX47 ci ad d f_constants f_blanks f_counts f_points f_kept f_hashes f_news f_rounds f_hashed f_groups f_groupOf f_groupCount f_trial f_row f_names f_namedBlanks f_form f_formCount f_octets f_descriptions f_described f_message f_size f_words f_schedule f_thrown f_said) := hH
        refine lv_if_eq (tgt := 46) hx hb dX47_different_39 (by decide) (fun c_8 => ?_) (fun c_8 => ?_)
        · have hw := hw.1 (z_eq (rfl : r_7.toInt = _) (rfl : (0 : Int32).toInt = 0) c_8)
          refine lv_iconst (v := 0) hx hb dX47_different_46 (by decide) ?_
          refine lv_istore (lv' := [(4, .int 0), (0, .ref (ad 0)), (1, .ref (ad 5)), (2, .int x2), (3, .int x3), (5, .int x5)]) hx hb dX47_different_47 hl (by decide) rfl (fun ls hl => ?_)
          have hq_10 := hw.1
          have hw := hw.2
          obtain ⟨x5_9, ex5_9⟩ : ∃ y : Int32, y = x5 + 1 := ⟨_, rfl⟩
          have hw := hw x5_9.toInt (by rw [ex5_9]; exact (z_x (z_add (z_m (rfl : x5.toInt = _)) (z_m (rfl : (1 : Int32).toInt = 1))) hq_10))
          refine lv_iinc (v := x5_9) (lv' := [(5, .int x5_9), (4, .int 0), (0, .ref (ad 0)), (1, .ref (ad 5)), (2, .int x2), (3, .int x3)]) hx hb dX47_different_49 hl (k := 5) rfl (by rw [ex5_9]; rfl) (by decide) rfl (fun ls hl => ?_)
          refine lv_goto (tgt := 21) hx hb dX47_different_52 (by decide) ?_
          exact ih 0 x5_9 hw _ _ ls hH (lv_sub hl [2, 3, 4, 5, 1, 0] rfl)
        · have hw := hw.2 (z_neq (rfl : r_7.toInt = _) (rfl : (0 : Int32).toInt = 0) c_8)
          refine lv_iconst (v := 1) hx hb dX47_different_42 (by decide) ?_
          refine lv_goto (tgt := 47) hx hb dX47_different_43 (by decide) ?_
          refine lv_istore (lv' := [(4, .int 1), (0, .ref (ad 0)), (1, .ref (ad 5)), (2, .int x2), (3, .int x3), (5, .int x5)]) hx hb dX47_different_47 hl (by decide) rfl (fun ls hl => ?_)
          have hq_12 := hw.1
          have hw := hw.2
          obtain ⟨x5_11, ex5_11⟩ : ∃ y : Int32, y = x5 + 1 := ⟨_, rfl⟩
          have hw := hw x5_11.toInt (by rw [ex5_11]; exact (z_x (z_add (z_m (rfl : x5.toInt = _)) (z_m (rfl : (1 : Int32).toInt = 1))) hq_12))
          refine lv_iinc (v := x5_11) (lv' := [(5, .int x5_11), (4, .int 1), (0, .ref (ad 0)), (1, .ref (ad 5)), (2, .int x2), (3, .int x3)]) hx hb dX47_different_49 hl (k := 5) rfl (by rw [ex5_11]; rfl) (by decide) rfl (fun ls hl => ?_)
          refine lv_goto (tgt := 21) hx hb dX47_different_52 (by decide) ?_
          exact ih 1 x5_11 hw _ _ ls hH (lv_sub hl [2, 3, 4, 5, 1, 0] rfl)
set_option maxHeartbeats 4000000 in
theorem atX47_different_hashes_4 {p : Program} {l : Launch} {e : Env} {s : State} {m : MethodId} {args : Array Value} {below : List Frame} {meth : Method} {c : Code} {dC : Nat → ClassId} {dI : Nat → Nat → Nat} {cl : List vw_C} {ci : Nat} (hc : cl[ci]? = some (RX47, TX47, 27)) {ad : Nat → Nat} {d : Nat → ClassId} {A : Nat → Prop} {post : Int → Prop} {f_constants : Nat → Int64} {f_blanks : Nat → Int32} {f_counts : Nat → Int32} {f_points : Nat → Int32} {f_kept : Int32} {f_hashes : Nat → Int64} {f_news : Nat → Int64} {f_rounds : Int32} {f_hashed : Int32} {f_groups : Nat → Int32} {f_groupOf : Nat → Int32} {f_groupCount : Int32} {f_trial : Nat → Int32} {f_row : Nat → Int32} {f_names : Nat → Int32} {f_namedBlanks : Int32} {f_form : Nat → Int32} {f_formCount : Int32} {f_octets : Nat → Int32} {f_descriptions : Nat → Int32} {f_described : Int32} {f_message : Nat → Int32} {f_size : Int32} {f_words : Nat → Int64} {f_schedule : Nat → Int64} {f_thrown : Int32} {f_said : Nat → Int32} (X : kX p s m args meth c cX47_different 6 RX47 (some .int) (dC, dI) cl (tX47 d)) {K74 : Int → Prop}   (hk74 : ∀ (x2 : Int32), K74 x2.toInt → ∀ (H : Heap) (locs : List Loc) (ls : Array Slot), kH (dC, dI) cl A s.heap H locs (wX47 ci ad d f_constants f_blanks f_counts f_points f_kept f_hashes f_news f_rounds f_hashed f_groups f_groupOf f_groupCount f_trial f_row f_names f_namedBlanks f_form f_formCount f_octets f_descriptions f_described f_message f_size f_words f_schedule f_thrown f_said) → lv_has ls 6 [(2, .int x2)] → W p l e ({ frames := 1, cells := 0, slots := 0, locals := 23 } : Room) s m args below meth c H locs 0 0 (MQ below (va_Qi (fun (r : Int32) (_ : Unit) => post r.toInt) (kB (dC, dI) cl (tX47 d) A (fun _ : Unit => (wX47 ci ad d f_constants f_blanks f_counts f_points f_kept f_hashes f_news f_rounds f_hashed f_groups f_groupOf f_groupCount f_trial f_row f_names f_namedBlanks f_form f_formCount f_octets f_descriptions f_described f_message f_size f_words f_schedule f_thrown f_said))) A) args s 0 0 A) (F0 m 74 ls [])) :
    ∀ (nn : Nat) (x2 : Int32) (x3 : Int32), wX47_different_hashes_4 K74 (zF f_blanks) (zG f_hashes) nn x2.toInt x3.toInt → ∀ (H : Heap) (locs : List Loc) (ls : Array Slot), kH (dC, dI) cl A s.heap H locs (wX47 ci ad d f_constants f_blanks f_counts f_points f_kept f_hashes f_news f_rounds f_hashed f_groups f_groupOf f_groupCount f_trial f_row f_names f_namedBlanks f_form f_formCount f_octets f_descriptions f_described f_message f_size f_words f_schedule f_thrown f_said) → lv_has ls 6 [(0, .ref (ad 0)), (1, .ref (ad 5)), (2, .int x2), (3, .int x3)] → W p l e ({ frames := 1, cells := 0, slots := 0, locals := 23 } : Room) s m args below meth c H locs 0 0 (MQ below (va_Qi (fun (r : Int32) (_ : Unit) => post r.toInt) (kB (dC, dI) cl (tX47 d) A (fun _ : Unit => (wX47 ci ad d f_constants f_blanks f_counts f_points f_kept f_hashes f_news f_rounds f_hashed f_groups f_groupOf f_groupCount f_trial f_row f_names f_namedBlanks f_form f_formCount f_octets f_descriptions f_described f_message f_size f_words f_schedule f_thrown f_said))) A) args s 0 0 A) (F0 m 4 ls []) := by
  have hx := X.1.1
  have hb := X.1.2.1
  intro nn
  induction nn with
  | zero =>
    intro x2 x3 hw
    exact False.elim hw
  | succ n ih =>
    intro x2 x3 hw H locs ls hH hl
    rw [wX47_different_hashes_4] at hw
    refine lv_iload_n hx hb dX47_different_4 rfl (lv_at hl 3 rfl) ?_
    refine lv_aload_n hx hb dX47_different_5 rfl (lv_at hl 0 rfl) ?_
    refine k_get X hH in_X47 0 rfl hc 1 (by decide) q5985 rfl dX47_different_6 ?_
    refine lv_bipush (v := 8) hx hb dX47_different_9 (by decide) ?_
    refine k_iald X hH 2 1 rfl rfl (by unfold vp_in; decide) dX47_different_11 ?_
    have e_1 := z_ld (f := f_blanks) (rfl : (8 : Int32).toInt = 8) (by decide)
    refine lv_icmp_gt (tgt := 74) hx hb dX47_different_12 (by decide) (fun c_2 => ?_) (fun c_2 => ?_)
    · have hw := hw.1 (z_lt e_1 (rfl : x3.toInt = _) c_2)
      exact hk74 x2 hw _ _ ls hH (lv_sub hl [2] rfl)
    · have hw := hw.2 (z_nlt e_1 (rfl : x3.toInt = _) c_2)
      refine lv_iconst (v := 1) hx hb dX47_different_15 (by decide) ?_
      refine lv_istore (lv' := [(4, .int 1), (0, .ref (ad 0)), (1, .ref (ad 5)), (2, .int x2), (3, .int x3)]) hx hb dX47_different_16 hl (by decide) rfl (fun ls hl => ?_)
      refine lv_iconst (v := 1) hx hb dX47_different_18 (by decide) ?_
      refine lv_istore (lv' := [(5, .int 1), (4, .int 1), (0, .ref (ad 0)), (1, .ref (ad 5)), (2, .int x2), (3, .int x3)]) hx hb dX47_different_19 hl (by decide) rfl (fun ls hl => ?_)
      obtain ⟨fu, hw⟩ := hw
      refine atX47_different_hashes_21 hc X ?_ fu 1 1 hw _ _ ls hH (lv_sub hl [2, 3, 4, 5, 1, 0] rfl)
      · intro x4_13 hw H locs ls hH hl
        refine lv_iload_n hx hb dX47_different_55 rfl (lv_at hl 2 rfl) ?_
        refine lv_iload hx hb dX47_different_56 (lv_at hl 4 rfl) ?_
        refine lv_if_eq (tgt := 65) hx hb dX47_different_58 (by decide) (fun c_14 => ?_) (fun c_14 => ?_)
        · have hw := hw.1 (z_eq (rfl : x4_13.toInt = _) (rfl : (0 : Int32).toInt = 0) c_14)
          refine lv_iconst (v := 0) hx hb dX47_different_65 (by decide) ?_
          refine lv_iadd hx hb dX47_different_66 ?_
          have e_15 := z_add (z_m (rfl : x2.toInt = _)) (z_m (rfl : (0 : Int32).toInt = 0))
          have hq_16 := hw.1
          have hw := hw.2
          have e_17 := z_x e_15 hq_16
          refine lv_topi (fun x2_18 ex2_18 => ?_)
          have hw := hw x2_18.toInt (by rw [ex2_18]; exact e_17)
          refine lv_istore_n (lv' := [(2, .int x2_18), (0, .ref (ad 0)), (1, .ref (ad 5)), (3, .int x3), (4, .int x4_13)]) hx hb dX47_different_67 rfl hl (by decide) rfl (fun ls hl => ?_)
          have hq_20 := hw.1
          have hw := hw.2
          obtain ⟨x3_19, ex3_19⟩ : ∃ y : Int32, y = x3 + 1 := ⟨_, rfl⟩
          have hw := hw x3_19.toInt (by rw [ex3_19]; exact (z_x (z_add (z_m (rfl : x3.toInt = _)) (z_m (rfl : (1 : Int32).toInt = 1))) hq_20))
          refine lv_iinc (v := x3_19) (lv' := [(3, .int x3_19), (2, .int x2_18), (0, .ref (ad 0)), (1, .ref (ad 5)), (4, .int x4_13)]) hx hb dX47_different_68 hl (k := 3) rfl (by rw [ex3_19]; rfl) (by decide) rfl (fun ls hl => ?_)
          refine lv_goto (tgt := 4) hx hb dX47_different_71 (by decide) ?_
          exact ih x2_18 x3_19 hw _ _ ls hH (lv_sub hl [2, 3, 1, 0] rfl)
        · have hw := hw.2 (z_neq (rfl : x4_13.toInt = _) (rfl : (0 : Int32).toInt = 0) c_14)
          refine lv_iconst (v := 1) hx hb dX47_different_61 (by decide) ?_
          refine lv_goto (tgt := 66) hx hb dX47_different_62 (by decide) ?_
          refine lv_iadd hx hb dX47_different_66 ?_
          have e_21 := z_add (z_m (rfl : x2.toInt = _)) (z_m (rfl : (1 : Int32).toInt = 1))
          have hq_22 := hw.1
          have hw := hw.2
          have e_23 := z_x e_21 hq_22
          refine lv_topi (fun x2_24 ex2_24 => ?_)
          have hw := hw x2_24.toInt (by rw [ex2_24]; exact e_23)
          refine lv_istore_n (lv' := [(2, .int x2_24), (0, .ref (ad 0)), (1, .ref (ad 5)), (3, .int x3), (4, .int x4_13)]) hx hb dX47_different_67 rfl hl (by decide) rfl (fun ls hl => ?_)
          have hq_26 := hw.1
          have hw := hw.2
          obtain ⟨x3_25, ex3_25⟩ : ∃ y : Int32, y = x3 + 1 := ⟨_, rfl⟩
          have hw := hw x3_25.toInt (by rw [ex3_25]; exact (z_x (z_add (z_m (rfl : x3.toInt = _)) (z_m (rfl : (1 : Int32).toInt = 1))) hq_26))
          refine lv_iinc (v := x3_25) (lv' := [(3, .int x3_25), (2, .int x2_24), (0, .ref (ad 0)), (1, .ref (ad 5)), (4, .int x4_13)]) hx hb dX47_different_68 hl (k := 3) rfl (by rw [ex3_25]; rfl) (by decide) rfl (fun ls hl => ?_)
          refine lv_goto (tgt := 4) hx hb dX47_different_71 (by decide) ?_
          exact ih x2_24 x3_25 hw _ _ ls hH (lv_sub hl [2, 3, 1, 0] rfl)
set_option maxHeartbeats 4000000 in
theorem walkX47_different_hashes {l : Launch} {dC : Nat → ClassId} {dI : Nat → Nat → Nat} {cl : List vw_C} {ci : Nat} (hc : cl[ci]? = some (RX47, TX47, 27)) {ad : Nat → Nat} {d : Nat → ClassId} {sz : Nat} {f_constants : Nat → Int64} {f_blanks : Nat → Int32} {f_counts : Nat → Int32} {f_points : Nat → Int32} {f_kept : Int32} {f_hashes : Nat → Int64} {f_news : Nat → Int64} {f_rounds : Int32} {f_hashed : Int32} {f_groups : Nat → Int32} {f_groupOf : Nat → Int32} {f_groupCount : Int32} {f_trial : Nat → Int32} {f_row : Nat → Int32} {f_names : Nat → Int32} {f_namedBlanks : Int32} {f_form : Nat → Int32} {f_formCount : Int32} {f_octets : Nat → Int32} {f_descriptions : Nat → Int32} {f_described : Int32} {f_message : Nat → Int32} {f_size : Int32} {f_words : Nat → Int64} {f_schedule : Nat → Int64} {f_thrown : Int32} {f_said : Nat → Int32}  {post : Int → Prop} (hw : wpX47_different_hashes post (zF f_blanks) (zG f_hashes) ) :
    Met l yX47_different (ws_ yX47_different cX47_different 6 (some .int)) ({ frames := 1, cells := 0, slots := 0, locals := 23 } : Room) (kPc (dC, dI) cl (tX47 d) [.ref (ad 0), .ref (ad 5)] sz (wX47 ci ad d f_constants f_blanks f_counts f_points f_kept f_hashes f_news f_rounds f_hashed f_groups f_groupOf f_groupCount f_trial f_row f_names f_namedBlanks f_form f_formCount f_octets f_descriptions f_described f_message f_size f_words f_schedule f_thrown f_said)) (va_Qi (fun (r : Int32) (_ : Unit) => post r.toInt) (kB (dC, dI) cl (tX47 d) (va_A (wX47 ci ad d f_constants f_blanks f_counts f_points f_kept f_hashes f_news f_rounds f_hashed f_groups f_groupOf f_groupCount f_trial f_row f_names f_namedBlanks f_form f_formCount f_octets f_descriptions f_described f_message f_size f_words f_schedule f_thrown f_said) sz) (fun _ : Unit => (wX47 ci ad d f_constants f_blanks f_counts f_points f_kept f_hashes f_news f_rounds f_hashed f_groups f_groupOf f_groupCount f_trial f_row f_names f_namedBlanks f_form f_formCount f_octets f_descriptions f_described f_message f_size f_words f_schedule f_thrown f_said))) (va_A (wX47 ci ad d f_constants f_blanks f_counts f_points f_kept f_hashes f_news f_rounds f_hashed f_groups f_groupOf f_groupCount f_trial f_row f_names f_namedBlanks f_form f_formCount f_octets f_descriptions f_described f_message f_size f_words f_schedule f_thrown f_said) sz)) 0 0 (va_A (wX47 ci ad d f_constants f_blanks f_counts f_points f_kept f_hashes f_news f_rounds f_hashed f_groups f_groupOf f_groupCount f_trial f_row f_names f_namedBlanks f_form f_formCount f_octets f_descriptions f_described f_message f_size f_words f_schedule f_thrown f_said) sz) := by
  refine k_enter (by decide) (Nat.le_of_ble_eq_true rfl) ?_
  intro p e s m below meth c ls X hsz hH hl
  subst hsz
  generalize va_A (wX47 ci ad d f_constants f_blanks f_counts f_points f_kept f_hashes f_news f_rounds f_hashed f_groups f_groupOf f_groupCount f_trial f_row f_names f_namedBlanks f_form f_formCount f_octets f_descriptions f_described f_message f_size f_words f_schedule f_thrown f_said) s.heap.size = A at hH ⊢
  have hx := X.1.1
  have hb := X.1.2.1
  have hl : lv_has ls 6 [(0, .ref (ad 0)), (1, .ref (ad 5))] := hl
  unfold wpX47_different_hashes at hw
  refine lv_iconst (v := 0) hx hb dX47_different_0 (by decide) ?_
  refine lv_istore_n (lv' := [(2, .int 0), (0, .ref (ad 0)), (1, .ref (ad 5))]) hx hb dX47_different_1 rfl hl (by decide) rfl (fun ls hl => ?_)
  refine lv_iconst (v := 1) hx hb dX47_different_2 (by decide) ?_
  refine lv_istore_n (lv' := [(3, .int 1), (2, .int 0), (0, .ref (ad 0)), (1, .ref (ad 5))]) hx hb dX47_different_3 rfl hl (by decide) rfl (fun ls hl => ?_)
  obtain ⟨fu, hw⟩ := hw
  refine atX47_different_hashes_4 hc X ?_ fu 0 1 hw _ _ ls hH (lv_sub hl [2, 3, 1, 0] rfl)
  · intro x2_27 hw H locs ls hH hl
    refine lv_iload_n hx hb dX47_different_74 rfl (lv_at hl 0 rfl) ?_
    exact k_iret (v := x2_27) X hH () hw rfl rfl dX47_different_75
set_option maxHeartbeats 4000000 in
theorem atX47_makeGroups_7 {p : Program} {l : Launch} {e : Env} {s : State} {m : MethodId} {args : Array Value} {below : List Frame} {meth : Method} {c : Code} {dC : Nat → ClassId} {dI : Nat → Nat → Nat} {cl : List vw_C} {ci : Nat} (hc : cl[ci]? = some (RX47, TX47, 27)) {ad : Nat → Nat} {d : Nat → ClassId} {A : Nat → Prop} {post : (Int → Int) → (Int → Int) → Int → Prop} {f_constants : Nat → Int64} {f_blanks : Nat → Int32} {f_counts : Nat → Int32} {f_points : Nat → Int32} {f_kept : Int32} {f_hashes : Nat → Int64} {f_news : Nat → Int64} {f_rounds : Int32} {f_hashed : Int32} {f_trial : Nat → Int32} {f_row : Nat → Int32} {f_names : Nat → Int32} {f_namedBlanks : Int32} {f_form : Nat → Int32} {f_formCount : Int32} {f_octets : Nat → Int32} {f_descriptions : Nat → Int32} {f_described : Int32} {f_message : Nat → Int32} {f_size : Int32} {f_words : Nat → Int64} {f_schedule : Nat → Int64} {f_thrown : Int32} {f_said : Nat → Int32} (X : kX p s m args meth c cX47_makeGroups 6 RX47 none (dC, dI) cl (tX47 d)) {K25 : (Int → Int) → Prop} {x1 : Int32} {f_groupOf : Nat → Int32} {f_groupCount : Int32} (hk25 : ∀ (f_groups : Nat → Int32), K25 (zF f_groups) → ∀ (H : Heap) (locs : List Loc) (ls : Array Slot), kH (dC, dI) cl A s.heap H locs (wX47 ci ad d f_constants f_blanks f_counts f_points f_kept f_hashes f_news f_rounds f_hashed f_groups f_groupOf f_groupCount f_trial f_row f_names f_namedBlanks f_form f_formCount f_octets f_descriptions f_described f_message f_size f_words f_schedule f_thrown f_said) → lv_has ls 6 [(0, .ref (ad 0)), (1, .int x1)] → W p l e ({ frames := 1, cells := 0, slots := 0, locals := 23 } : Room) s m args below meth c H locs 0 0 (MQ below (va_Qv (fun (u : (Nat → Int32) × (Nat → Int32) × Int32) => post (zF (u.1)) (zF (u.2.1)) (u.2.2).toInt) (kB (dC, dI) cl (tX47 d) A (fun u : (Nat → Int32) × (Nat → Int32) × Int32 => (wX47 ci ad d f_constants f_blanks f_counts f_points f_kept f_hashes f_news f_rounds f_hashed (u.1) (u.2.1) (u.2.2) f_trial f_row f_names f_namedBlanks f_form f_formCount f_octets f_descriptions f_described f_message f_size f_words f_schedule f_thrown f_said))) A) args s 0 0 A) (F0 m 25 ls [])) :
    ∀ (nn : Nat) (x2 : Int32) (f_groups : Nat → Int32), wX47_makeGroups_7 K25 x1.toInt nn x2.toInt (zF f_groups) → ∀ (H : Heap) (locs : List Loc) (ls : Array Slot), kH (dC, dI) cl A s.heap H locs (wX47 ci ad d f_constants f_blanks f_counts f_points f_kept f_hashes f_news f_rounds f_hashed f_groups f_groupOf f_groupCount f_trial f_row f_names f_namedBlanks f_form f_formCount f_octets f_descriptions f_described f_message f_size f_words f_schedule f_thrown f_said) → lv_has ls 6 [(0, .ref (ad 0)), (1, .int x1), (2, .int x2)] → W p l e ({ frames := 1, cells := 0, slots := 0, locals := 23 } : Room) s m args below meth c H locs 0 0 (MQ below (va_Qv (fun (u : (Nat → Int32) × (Nat → Int32) × Int32) => post (zF (u.1)) (zF (u.2.1)) (u.2.2).toInt) (kB (dC, dI) cl (tX47 d) A (fun u : (Nat → Int32) × (Nat → Int32) × Int32 => (wX47 ci ad d f_constants f_blanks f_counts f_points f_kept f_hashes f_news f_rounds f_hashed (u.1) (u.2.1) (u.2.2) f_trial f_row f_names f_namedBlanks f_form f_formCount f_octets f_descriptions f_described f_message f_size f_words f_schedule f_thrown f_said))) A) args s 0 0 A) (F0 m 7 ls []) := by
  have hx := X.1.1
  have hb := X.1.2.1
  intro nn
  induction nn with
  | zero =>
    intro x2 f_groups hw
    exact False.elim hw
  | succ n ih =>
    intro x2 f_groups hw H locs ls hH hl
    rw [wX47_makeGroups_7] at hw
    refine lv_iload_n hx hb dX47_makeGroups_7 rfl (lv_at hl 2 rfl) ?_
    refine lv_iload_n hx hb dX47_makeGroups_8 rfl (lv_at hl 1 rfl) ?_
    refine lv_icmp_gt (tgt := 25) hx hb dX47_makeGroups_9 (by decide) (fun c_1 => ?_) (fun c_1 => ?_)
    · have hw := hw.1 (z_lt (rfl : x1.toInt = _) (rfl : x2.toInt = _) c_1)
      exact hk25 f_groups hw _ _ ls hH (lv_sub hl [0, 1] rfl)
    · have hw := hw.2 (z_nlt (rfl : x1.toInt = _) (rfl : x2.toInt = _) c_1)
      refine lv_aload_n hx hb dX47_makeGroups_12 rfl (lv_at hl 0 rfl) ?_
      refine k_get X hH in_X47 0 rfl hc 9 (by decide) q5993 rfl dX47_makeGroups_13 ?_
      refine lv_iload_n hx hb dX47_makeGroups_16 rfl (lv_at hl 2 rfl) ?_
      refine lv_iconst (v := (-1)) hx hb dX47_makeGroups_17 (by decide) ?_
      have hq_3 := hw.1
      have hw := hw.2
      obtain ⟨f_groups_2, ef_groups_2⟩ : ∃ y : Nat → Int32, y = upd f_groups x2.toNatClampNeg (-1) := ⟨_, rfl⟩
      refine k_iast X hH 7 6 rfl rfl (z_in (rfl : x2.toInt = _) hq_3) dX47_makeGroups_18 ef_groups_2 (ws1 := (wX47 ci ad d f_constants f_blanks f_counts f_points f_kept f_hashes f_news f_rounds f_hashed f_groups_2 f_groupOf f_groupCount f_trial f_row f_names f_namedBlanks f_form f_formCount f_octets f_descriptions f_described f_message f_size f_words f_schedule f_thrown f_said)) rfl (fun H locs hH => ?_)
      have hw := hw (zF f_groups_2) (by rw [ef_groups_2]; exact z_st (f := f_groups) (rfl : x2.toInt = _) hq_3.1 (rfl : ((-1) : Int32).toInt = (-1)))
      have hq_5 := hw.1
      have hw := hw.2
      obtain ⟨x2_4, ex2_4⟩ : ∃ y : Int32, y = x2 + 1 := ⟨_, rfl⟩
      have hw := hw x2_4.toInt (by rw [ex2_4]; exact (z_x (z_add (z_m (rfl : x2.toInt = _)) (z_m (rfl : (1 : Int32).toInt = 1))) hq_5))
      refine lv_iinc (v := x2_4) (lv' := [(2, .int x2_4), (0, .ref (ad 0)), (1, .int x1)]) hx hb dX47_makeGroups_19 hl (k := 2) rfl (by rw [ex2_4]; rfl) (by decide) rfl (fun ls hl => ?_)
      refine lv_goto (tgt := 7) hx hb dX47_makeGroups_22 (by decide) ?_
      exact ih x2_4 f_groups_2 hw _ _ ls hH (lv_sub hl [1, 2, 0] rfl)
set_option maxHeartbeats 4000000 in
theorem atX47_makeGroups_40 {p : Program} {l : Launch} {e : Env} {s : State} {m : MethodId} {args : Array Value} {below : List Frame} {meth : Method} {c : Code} {dC : Nat → ClassId} {dI : Nat → Nat → Nat} {cl : List vw_C} {ci : Nat} (hc : cl[ci]? = some (RX47, TX47, 27)) {ad : Nat → Nat} {d : Nat → ClassId} {A : Nat → Prop} {post : (Int → Int) → (Int → Int) → Int → Prop} {f_constants : Nat → Int64} {f_blanks : Nat → Int32} {f_counts : Nat → Int32} {f_points : Nat → Int32} {f_kept : Int32} {f_hashes : Nat → Int64} {f_news : Nat → Int64} {f_rounds : Int32} {f_hashed : Int32} {f_trial : Nat → Int32} {f_row : Nat → Int32} {f_names : Nat → Int32} {f_namedBlanks : Int32} {f_form : Nat → Int32} {f_formCount : Int32} {f_octets : Nat → Int32} {f_descriptions : Nat → Int32} {f_described : Int32} {f_message : Nat → Int32} {f_size : Int32} {f_words : Nat → Int64} {f_schedule : Nat → Int64} {f_thrown : Int32} {f_said : Nat → Int32} (X : kX p s m args meth c cX47_makeGroups 6 RX47 none (dC, dI) cl (tX47 d)) {K85 : Int → Prop} {x1 : Int32} {x2 : Int32} {x3 : Int32} {f_groups : Nat → Int32} {f_groupOf : Nat → Int32} {f_groupCount : Int32} (hk85 : ∀ (x4 : Int32), K85 x4.toInt → ∀ (H : Heap) (locs : List Loc) (ls : Array Slot), kH (dC, dI) cl A s.heap H locs (wX47 ci ad d f_constants f_blanks f_counts f_points f_kept f_hashes f_news f_rounds f_hashed f_groups f_groupOf f_groupCount f_trial f_row f_names f_namedBlanks f_form f_formCount f_octets f_descriptions f_described f_message f_size f_words f_schedule f_thrown f_said) → lv_has ls 6 [(0, .ref (ad 0)), (1, .int x1), (2, .int x2), (3, .int x3), (4, .int x4)] → W p l e ({ frames := 1, cells := 0, slots := 0, locals := 23 } : Room) s m args below meth c H locs 0 0 (MQ below (va_Qv (fun (u : (Nat → Int32) × (Nat → Int32) × Int32) => post (zF (u.1)) (zF (u.2.1)) (u.2.2).toInt) (kB (dC, dI) cl (tX47 d) A (fun u : (Nat → Int32) × (Nat → Int32) × Int32 => (wX47 ci ad d f_constants f_blanks f_counts f_points f_kept f_hashes f_news f_rounds f_hashed (u.1) (u.2.1) (u.2.2) f_trial f_row f_names f_namedBlanks f_form f_formCount f_octets f_descriptions f_described f_message f_size f_words f_schedule f_thrown f_said))) A) args s 0 0 A) (F0 m 85 ls [])) :
    ∀ (nn : Nat) (x4 : Int32) (x5 : Int32), wX47_makeGroups_40 K85 x1.toInt (zG f_hashes) (zF f_groups) nn x4.toInt x5.toInt → ∀ (H : Heap) (locs : List Loc) (ls : Array Slot), kH (dC, dI) cl A s.heap H locs (wX47 ci ad d f_constants f_blanks f_counts f_points f_kept f_hashes f_news f_rounds f_hashed f_groups f_groupOf f_groupCount f_trial f_row f_names f_namedBlanks f_form f_formCount f_octets f_descriptions f_described f_message f_size f_words f_schedule f_thrown f_said) → lv_has ls 6 [(0, .ref (ad 0)), (1, .int x1), (2, .int x2), (3, .int x3), (4, .int x4), (5, .int x5)] → W p l e ({ frames := 1, cells := 0, slots := 0, locals := 23 } : Room) s m args below meth c H locs 0 0 (MQ below (va_Qv (fun (u : (Nat → Int32) × (Nat → Int32) × Int32) => post (zF (u.1)) (zF (u.2.1)) (u.2.2).toInt) (kB (dC, dI) cl (tX47 d) A (fun u : (Nat → Int32) × (Nat → Int32) × Int32 => (wX47 ci ad d f_constants f_blanks f_counts f_points f_kept f_hashes f_news f_rounds f_hashed (u.1) (u.2.1) (u.2.2) f_trial f_row f_names f_namedBlanks f_form f_formCount f_octets f_descriptions f_described f_message f_size f_words f_schedule f_thrown f_said))) A) args s 0 0 A) (F0 m 40 ls []) := by
  have hx := X.1.1
  have hb := X.1.2.1
  intro nn
  induction nn with
  | zero =>
    intro x4 x5 hw
    exact False.elim hw
  | succ n ih =>
    intro x4 x5 hw H locs ls hH hl
    rw [wX47_makeGroups_40] at hw
    refine lv_iload hx hb dX47_makeGroups_40 (lv_at hl 5 rfl) ?_
    refine lv_iload_n hx hb dX47_makeGroups_42 rfl (lv_at hl 1 rfl) ?_
    refine lv_icmp_gt (tgt := 85) hx hb dX47_makeGroups_43 (by decide) (fun c_8 => ?_) (fun c_8 => ?_)
    · have hw := hw.1 (z_lt (rfl : x1.toInt = _) (rfl : x5.toInt = _) c_8)
      exact hk85 x4 hw _ _ ls hH (lv_sub hl [0, 1, 2, 3, 4] rfl)
    · have hw := hw.2 (z_nlt (rfl : x1.toInt = _) (rfl : x5.toInt = _) c_8)
      refine lv_aload_n hx hb dX47_makeGroups_46 rfl (lv_at hl 0 rfl) ?_
      refine k_get X hH in_X47 0 rfl hc 9 (by decide) q5993 rfl dX47_makeGroups_47 ?_
      refine lv_iload hx hb dX47_makeGroups_50 (lv_at hl 5 rfl) ?_
      have hq_9 := hw.1
      have hw := hw.2
      refine k_iald X hH 7 6 rfl rfl (z_in (rfl : x5.toInt = _) hq_9) dX47_makeGroups_52 ?_
      have e_10 := z_ld (f := f_groups) (rfl : x5.toInt = _) hq_9.1
      refine lv_if_ge (tgt := 79) hx hb dX47_makeGroups_53 (by decide) (fun c_11 => ?_) (fun c_11 => ?_)
      · have hw := hw.1 (z_le (rfl : (0 : Int32).toInt = 0) e_10 c_11)
        have hq_13 := hw.1
        have hw := hw.2
        obtain ⟨x5_12, ex5_12⟩ : ∃ y : Int32, y = x5 + 1 := ⟨_, rfl⟩
        have hw := hw x5_12.toInt (by rw [ex5_12]; exact (z_x (z_add (z_m (rfl : x5.toInt = _)) (z_m (rfl : (1 : Int32).toInt = 1))) hq_13))
        refine lv_iinc (v := x5_12) (lv' := [(5, .int x5_12), (0, .ref (ad 0)), (1, .int x1), (2, .int x2), (3, .int x3), (4, .int x4)]) hx hb dX47_makeGroups_79 hl (k := 5) rfl (by rw [ex5_12]; rfl) (by decide) rfl (fun ls hl => ?_)
        refine lv_goto (tgt := 40) hx hb dX47_makeGroups_82 (by decide) ?_
        exact ih x4 x5_12 hw _ _ ls hH (lv_sub hl [1, 2, 3, 4, 5, 0] rfl)
      · have hw := hw.2 (z_nle (rfl : (0 : Int32).toInt = 0) e_10 c_11)
        refine lv_iload hx hb dX47_makeGroups_56 (lv_at hl 4 rfl) ?_
        refine lv_if_eq (tgt := 75) hx hb dX47_makeGroups_58 (by decide) (fun c_14 => ?_) (fun c_14 => ?_)
        · have hw := hw.1 (z_eq (rfl : x4.toInt = _) (rfl : (0 : Int32).toInt = 0) c_14)
          refine lv_iload hx hb dX47_makeGroups_75 (lv_at hl 5 rfl) ?_
          refine lv_istore (lv' := [(4, .int x5), (0, .ref (ad 0)), (1, .int x1), (2, .int x2), (3, .int x3), (5, .int x5)]) hx hb dX47_makeGroups_77 hl (by decide) rfl (fun ls hl => ?_)
          have hq_16 := hw.1
          have hw := hw.2
          obtain ⟨x5_15, ex5_15⟩ : ∃ y : Int32, y = x5 + 1 := ⟨_, rfl⟩
          have hw := hw x5_15.toInt (by rw [ex5_15]; exact (z_x (z_add (z_m (rfl : x5.toInt = _)) (z_m (rfl : (1 : Int32).toInt = 1))) hq_16))
          refine lv_iinc (v := x5_15) (lv' := [(5, .int x5_15), (4, .int x5), (0, .ref (ad 0)), (1, .int x1), (2, .int x2), (3, .int x3)]) hx hb dX47_makeGroups_79 hl (k := 5) rfl (by rw [ex5_15]; rfl) (by decide) rfl (fun ls hl => ?_)
          refine lv_goto (tgt := 40) hx hb dX47_makeGroups_82 (by decide) ?_
          exact ih x5 x5_15 hw _ _ ls hH (lv_sub hl [2, 3, 4, 5, 1, 0] rfl)
        · have hw := hw.2 (z_neq (rfl : x4.toInt = _) (rfl : (0 : Int32).toInt = 0) c_14)
          refine lv_aload_n hx hb dX47_makeGroups_61 rfl (lv_at hl 0 rfl) ?_
          refine k_get X hH in_X47 0 rfl hc 5 (by decide) q5989 rfl dX47_makeGroups_62 ?_
          refine lv_iload hx hb dX47_makeGroups_65 (lv_at hl 5 rfl) ?_
          refine lv_iload hx hb dX47_makeGroups_67 (lv_at hl 4 rfl) ?_
          refine k_i0 hH (k_runS (As := [.ref (ad 5), .int x5, .int x4]) (rest := []) X hH.1 hH.2.1 X.2.2.2 (walkX47_compare_hashes hc (x1 := x5) (x2 := x4) (f_constants := f_constants) (f_blanks := f_blanks) (f_counts := f_counts) (f_points := f_points) (f_kept := f_kept) (f_hashes := f_hashes) (f_news := f_news) (f_rounds := f_rounds) (f_hashed := f_hashed) (f_groups := f_groups) (f_groupOf := f_groupOf) (f_groupCount := f_groupCount) (f_trial := f_trial) (f_row := f_row) (f_names := f_names) (f_namedBlanks := f_namedBlanks) (f_form := f_form) (f_formCount := f_formCount) (f_octets := f_octets) (f_descriptions := f_descriptions) (f_described := f_described) (f_message := f_message) (f_size := f_size) (f_words := f_words) (f_schedule := f_schedule) (f_thrown := f_thrown) (f_said := f_said) hw) (va_cwS 3 X.1.2.2.2.2 gX47_274 rfl rfl rfl hX47_compare ⟨Nat.le_of_ble_eq_true rfl, Nat.le_of_ble_eq_true rfl⟩) rfl hl.1 rfl (Nat.le_of_ble_eq_true rfl) dX47_makeGroups_69 ⟨Nat.le_refl 0, Nat.le_refl 0⟩) (fun r_17 _ H locs hw hH => ?_)
          have hH : kH (dC, dI) cl A s.heap H locs (wX47 ci ad d f_constants f_blanks f_counts f_points f_kept f_hashes f_news f_rounds f_hashed f_groups f_groupOf f_groupCount f_trial f_row f_names f_namedBlanks f_form f_formCount f_octets f_descriptions f_described f_message f_size f_words f_schedule f_thrown f_said) := hH
          refine lv_if_ge (tgt := 79) hx hb dX47_makeGroups_72 (by decide) (fun c_18 => ?_) (fun c_18 => ?_)
          · have hw := hw.1 (z_le (rfl : (0 : Int32).toInt = 0) (rfl : r_17.toInt = _) c_18)
            have hq_20 := hw.1
            have hw := hw.2
            obtain ⟨x5_19, ex5_19⟩ : ∃ y : Int32, y = x5 + 1 := ⟨_, rfl⟩
            have hw := hw x5_19.toInt (by rw [ex5_19]; exact (z_x (z_add (z_m (rfl : x5.toInt = _)) (z_m (rfl : (1 : Int32).toInt = 1))) hq_20))
            refine lv_iinc (v := x5_19) (lv' := [(5, .int x5_19), (0, .ref (ad 0)), (1, .int x1), (2, .int x2), (3, .int x3), (4, .int x4)]) hx hb dX47_makeGroups_79 hl (k := 5) rfl (by rw [ex5_19]; rfl) (by decide) rfl (fun ls hl => ?_)
            refine lv_goto (tgt := 40) hx hb dX47_makeGroups_82 (by decide) ?_
            exact ih x4 x5_19 hw _ _ ls hH (lv_sub hl [1, 2, 3, 4, 5, 0] rfl)
          · have hw := hw.2 (z_nle (rfl : (0 : Int32).toInt = 0) (rfl : r_17.toInt = _) c_18)
            refine lv_iload hx hb dX47_makeGroups_75 (lv_at hl 5 rfl) ?_
            refine lv_istore (lv' := [(4, .int x5), (0, .ref (ad 0)), (1, .int x1), (2, .int x2), (3, .int x3), (5, .int x5)]) hx hb dX47_makeGroups_77 hl (by decide) rfl (fun ls hl => ?_)
            have hq_22 := hw.1
            have hw := hw.2
            obtain ⟨x5_21, ex5_21⟩ : ∃ y : Int32, y = x5 + 1 := ⟨_, rfl⟩
            have hw := hw x5_21.toInt (by rw [ex5_21]; exact (z_x (z_add (z_m (rfl : x5.toInt = _)) (z_m (rfl : (1 : Int32).toInt = 1))) hq_22))
            refine lv_iinc (v := x5_21) (lv' := [(5, .int x5_21), (4, .int x5), (0, .ref (ad 0)), (1, .int x1), (2, .int x2), (3, .int x3)]) hx hb dX47_makeGroups_79 hl (k := 5) rfl (by rw [ex5_21]; rfl) (by decide) rfl (fun ls hl => ?_)
            refine lv_goto (tgt := 40) hx hb dX47_makeGroups_82 (by decide) ?_
            exact ih x5 x5_21 hw _ _ ls hH (lv_sub hl [2, 3, 4, 5, 1, 0] rfl)
set_option maxHeartbeats 4000000 in
theorem atX47_makeGroups_88 {p : Program} {l : Launch} {e : Env} {s : State} {m : MethodId} {args : Array Value} {below : List Frame} {meth : Method} {c : Code} {dC : Nat → ClassId} {dI : Nat → Nat → Nat} {cl : List vw_C} {ci : Nat} (hc : cl[ci]? = some (RX47, TX47, 27)) {ad : Nat → Nat} {d : Nat → ClassId} {A : Nat → Prop} {post : (Int → Int) → (Int → Int) → Int → Prop} {f_constants : Nat → Int64} {f_blanks : Nat → Int32} {f_counts : Nat → Int32} {f_points : Nat → Int32} {f_kept : Int32} {f_hashes : Nat → Int64} {f_news : Nat → Int64} {f_rounds : Int32} {f_hashed : Int32} {f_trial : Nat → Int32} {f_row : Nat → Int32} {f_names : Nat → Int32} {f_namedBlanks : Int32} {f_form : Nat → Int32} {f_formCount : Int32} {f_octets : Nat → Int32} {f_descriptions : Nat → Int32} {f_described : Int32} {f_message : Nat → Int32} {f_size : Int32} {f_words : Nat → Int64} {f_schedule : Nat → Int64} {f_thrown : Int32} {f_said : Nat → Int32} (X : kX p s m args meth c cX47_makeGroups 6 RX47 none (dC, dI) cl (tX47 d)) {K154 : Int → Int → (Int → Int) → (Int → Int) → Prop} {x1 : Int32} {x4 : Int32} {f_groupCount : Int32} (hk154 : ∀ (x2 : Int32) (x3 : Int32) (f_groups : Nat → Int32) (f_groupOf : Nat → Int32), K154 x2.toInt x3.toInt (zF f_groups) (zF f_groupOf) → ∀ (H : Heap) (locs : List Loc) (ls : Array Slot), kH (dC, dI) cl A s.heap H locs (wX47 ci ad d f_constants f_blanks f_counts f_points f_kept f_hashes f_news f_rounds f_hashed f_groups f_groupOf f_groupCount f_trial f_row f_names f_namedBlanks f_form f_formCount f_octets f_descriptions f_described f_message f_size f_words f_schedule f_thrown f_said) → lv_has ls 6 [(0, .ref (ad 0)), (1, .int x1), (2, .int x2), (3, .int x3)] → W p l e ({ frames := 1, cells := 0, slots := 0, locals := 23 } : Room) s m args below meth c H locs 0 0 (MQ below (va_Qv (fun (u : (Nat → Int32) × (Nat → Int32) × Int32) => post (zF (u.1)) (zF (u.2.1)) (u.2.2).toInt) (kB (dC, dI) cl (tX47 d) A (fun u : (Nat → Int32) × (Nat → Int32) × Int32 => (wX47 ci ad d f_constants f_blanks f_counts f_points f_kept f_hashes f_news f_rounds f_hashed (u.1) (u.2.1) (u.2.2) f_trial f_row f_names f_namedBlanks f_form f_formCount f_octets f_descriptions f_described f_message f_size f_words f_schedule f_thrown f_said))) A) args s 0 0 A) (F0 m 154 ls [])) :
    ∀ (nn : Nat) (x2 : Int32) (x3 : Int32) (x5 : Int32) (f_groups : Nat → Int32) (f_groupOf : Nat → Int32), wX47_makeGroups_88 K154 x1.toInt x4.toInt (zG f_hashes) f_groupCount.toInt nn x2.toInt x3.toInt x5.toInt (zF f_groups) (zF f_groupOf) → ∀ (H : Heap) (locs : List Loc) (ls : Array Slot), kH (dC, dI) cl A s.heap H locs (wX47 ci ad d f_constants f_blanks f_counts f_points f_kept f_hashes f_news f_rounds f_hashed f_groups f_groupOf f_groupCount f_trial f_row f_names f_namedBlanks f_form f_formCount f_octets f_descriptions f_described f_message f_size f_words f_schedule f_thrown f_said) → lv_has ls 6 [(0, .ref (ad 0)), (1, .int x1), (2, .int x2), (3, .int x3), (4, .int x4), (5, .int x5)] → W p l e ({ frames := 1, cells := 0, slots := 0, locals := 23 } : Room) s m args below meth c H locs 0 0 (MQ below (va_Qv (fun (u : (Nat → Int32) × (Nat → Int32) × Int32) => post (zF (u.1)) (zF (u.2.1)) (u.2.2).toInt) (kB (dC, dI) cl (tX47 d) A (fun u : (Nat → Int32) × (Nat → Int32) × Int32 => (wX47 ci ad d f_constants f_blanks f_counts f_points f_kept f_hashes f_news f_rounds f_hashed (u.1) (u.2.1) (u.2.2) f_trial f_row f_names f_namedBlanks f_form f_formCount f_octets f_descriptions f_described f_message f_size f_words f_schedule f_thrown f_said))) A) args s 0 0 A) (F0 m 88 ls []) := by
  have hx := X.1.1
  have hb := X.1.2.1
  intro nn
  induction nn with
  | zero =>
    intro x2 x3 x5 f_groups f_groupOf hw
    exact False.elim hw
  | succ n ih =>
    intro x2 x3 x5 f_groups f_groupOf hw H locs ls hH hl
    rw [wX47_makeGroups_88] at hw
    refine lv_iload hx hb dX47_makeGroups_88 (lv_at hl 5 rfl) ?_
    refine lv_iload_n hx hb dX47_makeGroups_90 rfl (lv_at hl 1 rfl) ?_
    refine lv_icmp_gt (tgt := 154) hx hb dX47_makeGroups_91 (by decide) (fun c_24 => ?_) (fun c_24 => ?_)
    · have hw := hw.1 (z_lt (rfl : x1.toInt = _) (rfl : x5.toInt = _) c_24)
      exact hk154 x2 x3 f_groups f_groupOf hw _ _ ls hH (lv_sub hl [0, 1, 2, 3] rfl)
    · have hw := hw.2 (z_nlt (rfl : x1.toInt = _) (rfl : x5.toInt = _) c_24)
      refine lv_aload_n hx hb dX47_makeGroups_94 rfl (lv_at hl 0 rfl) ?_
      refine k_get X hH in_X47 0 rfl hc 9 (by decide) q5993 rfl dX47_makeGroups_95 ?_
      refine lv_iload hx hb dX47_makeGroups_98 (lv_at hl 5 rfl) ?_
      have hq_25 := hw.1
      have hw := hw.2
      refine k_iald X hH 7 6 rfl rfl (z_in (rfl : x5.toInt = _) hq_25) dX47_makeGroups_100 ?_
      have e_26 := z_ld (f := f_groups) (rfl : x5.toInt = _) hq_25.1
      refine lv_if_ge (tgt := 148) hx hb dX47_makeGroups_101 (by decide) (fun c_27 => ?_) (fun c_27 => ?_)
      · have hw := hw.1 (z_le (rfl : (0 : Int32).toInt = 0) e_26 c_27)
        have hq_29 := hw.1
        have hw := hw.2
        obtain ⟨x5_28, ex5_28⟩ : ∃ y : Int32, y = x5 + 1 := ⟨_, rfl⟩
        have hw := hw x5_28.toInt (by rw [ex5_28]; exact (z_x (z_add (z_m (rfl : x5.toInt = _)) (z_m (rfl : (1 : Int32).toInt = 1))) hq_29))
        refine lv_iinc (v := x5_28) (lv' := [(5, .int x5_28), (0, .ref (ad 0)), (1, .int x1), (2, .int x2), (3, .int x3), (4, .int x4)]) hx hb dX47_makeGroups_148 hl (k := 5) rfl (by rw [ex5_28]; rfl) (by decide) rfl (fun ls hl => ?_)
        refine lv_goto (tgt := 88) hx hb dX47_makeGroups_151 (by decide) ?_
        exact ih x2 x3 x5_28 f_groups f_groupOf hw _ _ ls hH (lv_sub hl [1, 2, 3, 4, 5, 0] rfl)
      · have hw := hw.2 (z_nle (rfl : (0 : Int32).toInt = 0) e_26 c_27)
        refine lv_aload_n hx hb dX47_makeGroups_104 rfl (lv_at hl 0 rfl) ?_
        refine k_get X hH in_X47 0 rfl hc 5 (by decide) q5989 rfl dX47_makeGroups_105 ?_
        refine lv_iload hx hb dX47_makeGroups_108 (lv_at hl 5 rfl) ?_
        refine lv_iload hx hb dX47_makeGroups_110 (lv_at hl 4 rfl) ?_
        refine k_i0 hH (k_runS (As := [.ref (ad 5), .int x5, .int x4]) (rest := []) X hH.1 hH.2.1 X.2.2.2 (walkX47_compare_hashes hc (x1 := x5) (x2 := x4) (f_constants := f_constants) (f_blanks := f_blanks) (f_counts := f_counts) (f_points := f_points) (f_kept := f_kept) (f_hashes := f_hashes) (f_news := f_news) (f_rounds := f_rounds) (f_hashed := f_hashed) (f_groups := f_groups) (f_groupOf := f_groupOf) (f_groupCount := f_groupCount) (f_trial := f_trial) (f_row := f_row) (f_names := f_names) (f_namedBlanks := f_namedBlanks) (f_form := f_form) (f_formCount := f_formCount) (f_octets := f_octets) (f_descriptions := f_descriptions) (f_described := f_described) (f_message := f_message) (f_size := f_size) (f_words := f_words) (f_schedule := f_schedule) (f_thrown := f_thrown) (f_said := f_said) hw) (va_cwS 3 X.1.2.2.2.2 gX47_274 rfl rfl rfl hX47_compare ⟨Nat.le_of_ble_eq_true rfl, Nat.le_of_ble_eq_true rfl⟩) rfl hl.1 rfl (Nat.le_of_ble_eq_true rfl) dX47_makeGroups_112 ⟨Nat.le_refl 0, Nat.le_refl 0⟩) (fun r_30 _ H locs hw hH => ?_)
        have hH : kH (dC, dI) cl A s.heap H locs (wX47 ci ad d f_constants f_blanks f_counts f_points f_kept f_hashes f_news f_rounds f_hashed f_groups f_groupOf f_groupCount f_trial f_row f_names f_namedBlanks f_form f_formCount f_octets f_descriptions f_described f_message f_size f_words f_schedule f_thrown f_said) := hH
        refine lv_if_eq (tgt := 121) hx hb dX47_makeGroups_115 (by decide) (fun c_31 => ?_) (fun c_31 => ?_)
        · have hw := hw.1 (z_eq (rfl : r_30.toInt = _) (rfl : (0 : Int32).toInt = 0) c_31)
          refine lv_aload_n hx hb dX47_makeGroups_121 rfl (lv_at hl 0 rfl) ?_
          refine k_get X hH in_X47 0 rfl hc 9 (by decide) q5993 rfl dX47_makeGroups_122 ?_
          refine lv_iload hx hb dX47_makeGroups_125 (lv_at hl 5 rfl) ?_
          refine lv_aload_n hx hb dX47_makeGroups_127 rfl (lv_at hl 0 rfl) ?_
          refine k_get X hH in_X47 0 rfl hc 11 (by decide) q5995 rfl dX47_makeGroups_128 ?_
          obtain ⟨f_groups_32, ef_groups_32⟩ : ∃ y : Nat → Int32, y = upd f_groups x5.toNatClampNeg f_groupCount := ⟨_, rfl⟩
          refine k_iast X hH 7 6 rfl rfl (z_in (rfl : x5.toInt = _) hq_25) dX47_makeGroups_131 ef_groups_32 (ws1 := (wX47 ci ad d f_constants f_blanks f_counts f_points f_kept f_hashes f_news f_rounds f_hashed f_groups_32 f_groupOf f_groupCount f_trial f_row f_names f_namedBlanks f_form f_formCount f_octets f_descriptions f_described f_message f_size f_words f_schedule f_thrown f_said)) rfl (fun H locs hH => ?_)
          have hw := hw (zF f_groups_32) (by rw [ef_groups_32]; exact z_st (f := f_groups) (rfl : x5.toInt = _) hq_25.1 (rfl : f_groupCount.toInt = _))
          refine lv_aload_n hx hb dX47_makeGroups_132 rfl (lv_at hl 0 rfl) ?_
          refine k_get X hH in_X47 0 rfl hc 10 (by decide) q5994 rfl dX47_makeGroups_133 ?_
          refine lv_iload_n hx hb dX47_makeGroups_136 rfl (lv_at hl 2 rfl) ?_
          refine lv_aload_n hx hb dX47_makeGroups_137 rfl (lv_at hl 0 rfl) ?_
          refine k_get X hH in_X47 0 rfl hc 11 (by decide) q5995 rfl dX47_makeGroups_138 ?_
          have hq_34 := hw.1
          have hw := hw.2
          obtain ⟨f_groupOf_33, ef_groupOf_33⟩ : ∃ y : Nat → Int32, y = upd f_groupOf x2.toNatClampNeg f_groupCount := ⟨_, rfl⟩
          refine k_iast X hH 8 7 rfl rfl (z_in (rfl : x2.toInt = _) hq_34) dX47_makeGroups_141 ef_groupOf_33 (ws1 := (wX47 ci ad d f_constants f_blanks f_counts f_points f_kept f_hashes f_news f_rounds f_hashed f_groups_32 f_groupOf_33 f_groupCount f_trial f_row f_names f_namedBlanks f_form f_formCount f_octets f_descriptions f_described f_message f_size f_words f_schedule f_thrown f_said)) rfl (fun H locs hH => ?_)
          have hw := hw (zF f_groupOf_33) (by rw [ef_groupOf_33]; exact z_st (f := f_groupOf) (rfl : x2.toInt = _) hq_34.1 (rfl : f_groupCount.toInt = _))
          have hq_36 := hw.1
          have hw := hw.2
          obtain ⟨x2_35, ex2_35⟩ : ∃ y : Int32, y = x2 + 1 := ⟨_, rfl⟩
          have hw := hw x2_35.toInt (by rw [ex2_35]; exact (z_x (z_add (z_m (rfl : x2.toInt = _)) (z_m (rfl : (1 : Int32).toInt = 1))) hq_36))
          refine lv_iinc (v := x2_35) (lv' := [(2, .int x2_35), (0, .ref (ad 0)), (1, .int x1), (3, .int x3), (4, .int x4), (5, .int x5)]) hx hb dX47_makeGroups_142 hl (k := 2) rfl (by rw [ex2_35]; rfl) (by decide) rfl (fun ls hl => ?_)
          have hq_38 := hw.1
          have hw := hw.2
          obtain ⟨x3_37, ex3_37⟩ : ∃ y : Int32, y = x3 + 1 := ⟨_, rfl⟩
          have hw := hw x3_37.toInt (by rw [ex3_37]; exact (z_x (z_add (z_m (rfl : x3.toInt = _)) (z_m (rfl : (1 : Int32).toInt = 1))) hq_38))
          refine lv_iinc (v := x3_37) (lv' := [(3, .int x3_37), (2, .int x2_35), (0, .ref (ad 0)), (1, .int x1), (4, .int x4), (5, .int x5)]) hx hb dX47_makeGroups_145 hl (k := 3) rfl (by rw [ex3_37]; rfl) (by decide) rfl (fun ls hl => ?_)
          have hq_40 := hw.1
          have hw := hw.2
          obtain ⟨x5_39, ex5_39⟩ : ∃ y : Int32, y = x5 + 1 := ⟨_, rfl⟩
          have hw := hw x5_39.toInt (by rw [ex5_39]; exact (z_x (z_add (z_m (rfl : x5.toInt = _)) (z_m (rfl : (1 : Int32).toInt = 1))) hq_40))
          refine lv_iinc (v := x5_39) (lv' := [(5, .int x5_39), (3, .int x3_37), (2, .int x2_35), (0, .ref (ad 0)), (1, .int x1), (4, .int x4)]) hx hb dX47_makeGroups_148 hl (k := 5) rfl (by rw [ex5_39]; rfl) (by decide) rfl (fun ls hl => ?_)
          refine lv_goto (tgt := 88) hx hb dX47_makeGroups_151 (by decide) ?_
          exact ih x2_35 x3_37 x5_39 f_groups_32 f_groupOf_33 hw _ _ ls hH (lv_sub hl [3, 4, 2, 1, 5, 0] rfl)
        · have hw := hw.2 (z_neq (rfl : r_30.toInt = _) (rfl : (0 : Int32).toInt = 0) c_31)
          refine lv_goto (tgt := 148) hx hb dX47_makeGroups_118 (by decide) ?_
          have hq_42 := hw.1
          have hw := hw.2
          obtain ⟨x5_41, ex5_41⟩ : ∃ y : Int32, y = x5 + 1 := ⟨_, rfl⟩
          have hw := hw x5_41.toInt (by rw [ex5_41]; exact (z_x (z_add (z_m (rfl : x5.toInt = _)) (z_m (rfl : (1 : Int32).toInt = 1))) hq_42))
          refine lv_iinc (v := x5_41) (lv' := [(5, .int x5_41), (0, .ref (ad 0)), (1, .int x1), (2, .int x2), (3, .int x3), (4, .int x4)]) hx hb dX47_makeGroups_148 hl (k := 5) rfl (by rw [ex5_41]; rfl) (by decide) rfl (fun ls hl => ?_)
          refine lv_goto (tgt := 88) hx hb dX47_makeGroups_151 (by decide) ?_
          exact ih x2 x3 x5_41 f_groups f_groupOf hw _ _ ls hH (lv_sub hl [1, 2, 3, 4, 5, 0] rfl)
set_option maxHeartbeats 4000000 in
theorem atX47_makeGroups_29 {p : Program} {l : Launch} {e : Env} {s : State} {m : MethodId} {args : Array Value} {below : List Frame} {meth : Method} {c : Code} {dC : Nat → ClassId} {dI : Nat → Nat → Nat} {cl : List vw_C} {ci : Nat} (hc : cl[ci]? = some (RX47, TX47, 27)) {ad : Nat → Nat} {d : Nat → ClassId} {A : Nat → Prop} {post : (Int → Int) → (Int → Int) → Int → Prop} {f_constants : Nat → Int64} {f_blanks : Nat → Int32} {f_counts : Nat → Int32} {f_points : Nat → Int32} {f_kept : Int32} {f_hashes : Nat → Int64} {f_news : Nat → Int64} {f_rounds : Int32} {f_hashed : Int32} {f_trial : Nat → Int32} {f_row : Nat → Int32} {f_names : Nat → Int32} {f_namedBlanks : Int32} {f_form : Nat → Int32} {f_formCount : Int32} {f_octets : Nat → Int32} {f_descriptions : Nat → Int32} {f_described : Int32} {f_message : Nat → Int32} {f_size : Int32} {f_words : Nat → Int64} {f_schedule : Nat → Int64} {f_thrown : Int32} {f_said : Nat → Int32} (X : kX p s m args meth c cX47_makeGroups 6 RX47 none (dC, dI) cl (tX47 d)) {K167 : (Int → Int) → (Int → Int) → Int → Prop} {x1 : Int32}  (hk167 : ∀ (f_groups : Nat → Int32) (f_groupOf : Nat → Int32) (f_groupCount : Int32), K167 (zF f_groups) (zF f_groupOf) f_groupCount.toInt → ∀ (H : Heap) (locs : List Loc) (ls : Array Slot), kH (dC, dI) cl A s.heap H locs (wX47 ci ad d f_constants f_blanks f_counts f_points f_kept f_hashes f_news f_rounds f_hashed f_groups f_groupOf f_groupCount f_trial f_row f_names f_namedBlanks f_form f_formCount f_octets f_descriptions f_described f_message f_size f_words f_schedule f_thrown f_said) → lv_has ls 6 [] → W p l e ({ frames := 1, cells := 0, slots := 0, locals := 23 } : Room) s m args below meth c H locs 0 0 (MQ below (va_Qv (fun (u : (Nat → Int32) × (Nat → Int32) × Int32) => post (zF (u.1)) (zF (u.2.1)) (u.2.2).toInt) (kB (dC, dI) cl (tX47 d) A (fun u : (Nat → Int32) × (Nat → Int32) × Int32 => (wX47 ci ad d f_constants f_blanks f_counts f_points f_kept f_hashes f_news f_rounds f_hashed (u.1) (u.2.1) (u.2.2) f_trial f_row f_names f_namedBlanks f_form f_formCount f_octets f_descriptions f_described f_message f_size f_words f_schedule f_thrown f_said))) A) args s 0 0 A) (F0 m 167 ls [])) :
    ∀ (nn : Nat) (x2 : Int32) (x3 : Int32) (f_groups : Nat → Int32) (f_groupOf : Nat → Int32) (f_groupCount : Int32), wX47_makeGroups_29 K167 x1.toInt (zG f_hashes) nn x2.toInt x3.toInt (zF f_groups) (zF f_groupOf) f_groupCount.toInt → ∀ (H : Heap) (locs : List Loc) (ls : Array Slot), kH (dC, dI) cl A s.heap H locs (wX47 ci ad d f_constants f_blanks f_counts f_points f_kept f_hashes f_news f_rounds f_hashed f_groups f_groupOf f_groupCount f_trial f_row f_names f_namedBlanks f_form f_formCount f_octets f_descriptions f_described f_message f_size f_words f_schedule f_thrown f_said) → lv_has ls 6 [(0, .ref (ad 0)), (1, .int x1), (2, .int x2), (3, .int x3)] → W p l e ({ frames := 1, cells := 0, slots := 0, locals := 23 } : Room) s m args below meth c H locs 0 0 (MQ below (va_Qv (fun (u : (Nat → Int32) × (Nat → Int32) × Int32) => post (zF (u.1)) (zF (u.2.1)) (u.2.2).toInt) (kB (dC, dI) cl (tX47 d) A (fun u : (Nat → Int32) × (Nat → Int32) × Int32 => (wX47 ci ad d f_constants f_blanks f_counts f_points f_kept f_hashes f_news f_rounds f_hashed (u.1) (u.2.1) (u.2.2) f_trial f_row f_names f_namedBlanks f_form f_formCount f_octets f_descriptions f_described f_message f_size f_words f_schedule f_thrown f_said))) A) args s 0 0 A) (F0 m 29 ls []) := by
  have hx := X.1.1
  have hb := X.1.2.1
  intro nn
  induction nn with
  | zero =>
    intro x2 x3 f_groups f_groupOf f_groupCount hw
    exact False.elim hw
  | succ n ih =>
    intro x2 x3 f_groups f_groupOf f_groupCount hw H locs ls hH hl
    rw [wX47_makeGroups_29] at hw
    refine lv_iload_n hx hb dX47_makeGroups_29 rfl (lv_at hl 3 rfl) ?_
    refine lv_iload_n hx hb dX47_makeGroups_30 rfl (lv_at hl 1 rfl) ?_
    refine lv_icmp_ge (tgt := 167) hx hb dX47_makeGroups_31 (by decide) (fun c_7 => ?_) (fun c_7 => ?_)
    · have hw := hw.1 (z_le (rfl : x1.toInt = _) (rfl : x3.toInt = _) c_7)
      exact hk167 f_groups f_groupOf f_groupCount hw _ _ ls hH (lv_sub hl [] rfl)
    · have hw := hw.2 (z_nle (rfl : x1.toInt = _) (rfl : x3.toInt = _) c_7)
      refine lv_iconst (v := 0) hx hb dX47_makeGroups_34 (by decide) ?_
      refine lv_istore (lv' := [(4, .int 0), (0, .ref (ad 0)), (1, .int x1), (2, .int x2), (3, .int x3)]) hx hb dX47_makeGroups_35 hl (by decide) rfl (fun ls hl => ?_)
      refine lv_iconst (v := 1) hx hb dX47_makeGroups_37 (by decide) ?_
      refine lv_istore (lv' := [(5, .int 1), (4, .int 0), (0, .ref (ad 0)), (1, .int x1), (2, .int x2), (3, .int x3)]) hx hb dX47_makeGroups_38 hl (by decide) rfl (fun ls hl => ?_)
      obtain ⟨fu, hw⟩ := hw
      refine atX47_makeGroups_40 hc X ?_ fu 0 1 hw _ _ ls hH (lv_sub hl [2, 3, 4, 5, 1, 0] rfl)
      · intro x4_23 hw H locs ls hH hl
        refine lv_iconst (v := 1) hx hb dX47_makeGroups_85 (by decide) ?_
        refine lv_istore (lv' := [(5, .int 1), (0, .ref (ad 0)), (1, .int x1), (2, .int x2), (3, .int x3), (4, .int x4_23)]) hx hb dX47_makeGroups_86 hl (by decide) rfl (fun ls hl => ?_)
        obtain ⟨fu, hw⟩ := hw
        refine atX47_makeGroups_88 hc X ?_ fu x2 x3 1 f_groups f_groupOf hw _ _ ls hH (lv_sub hl [1, 2, 3, 4, 5, 0] rfl)
        · intro x2_43 x3_44 f_groups_45 f_groupOf_46 hw H locs ls hH hl
          refine lv_aload_n hx hb dX47_makeGroups_154 rfl (lv_at hl 0 rfl) ?_
          refine lv_dup hx hb dX47_makeGroups_155 rfl ?_
          refine k_get X hH in_X47 0 rfl hc 11 (by decide) q5995 rfl dX47_makeGroups_156 ?_
          refine lv_iconst (v := 1) hx hb dX47_makeGroups_159 (by decide) ?_
          refine lv_iadd hx hb dX47_makeGroups_160 ?_
          have e_47 := z_add (z_m (rfl : f_groupCount.toInt = _)) (z_m (rfl : (1 : Int32).toInt = 1))
          have hq_48 := hw.1
          have hw := hw.2
          have e_49 := z_x e_47 hq_48
          refine lv_topi (fun f_groupCount_50 ef_groupCount_50 => ?_)
          have hw := hw f_groupCount_50.toInt (by rw [ef_groupCount_50]; exact e_49)
          refine k_put X hH in_X47 tyX47_ok nmX47 0 rfl hc 11 (by decide) q5995 rfl (ty := .int) rfl rfl rfl (Nat.le_of_ble_eq_true rfl) dX47_makeGroups_161 (ws1 := (wX47 ci ad d f_constants f_blanks f_counts f_points f_kept f_hashes f_news f_rounds f_hashed f_groups_45 f_groupOf_46 f_groupCount_50 f_trial f_row f_names f_namedBlanks f_form f_formCount f_octets f_descriptions f_described f_message f_size f_words f_schedule f_thrown f_said)) rfl (fun H locs hH => ?_)
          refine lv_goto (tgt := 29) hx hb dX47_makeGroups_164 (by decide) ?_
          exact ih x2_43 x3_44 f_groups_45 f_groupOf_46 f_groupCount_50 hw _ _ ls hH (lv_sub hl [0, 1, 2, 3] rfl)
set_option maxHeartbeats 4000000 in
theorem walkX47_makeGroups {l : Launch} {dC : Nat → ClassId} {dI : Nat → Nat → Nat} {cl : List vw_C} {ci : Nat} (hc : cl[ci]? = some (RX47, TX47, 27)) {ad : Nat → Nat} {d : Nat → ClassId} {sz : Nat} {f_constants : Nat → Int64} {f_blanks : Nat → Int32} {f_counts : Nat → Int32} {f_points : Nat → Int32} {f_kept : Int32} {f_hashes : Nat → Int64} {f_news : Nat → Int64} {f_rounds : Int32} {f_hashed : Int32} {f_groups : Nat → Int32} {f_groupOf : Nat → Int32} {f_groupCount : Int32} {f_trial : Nat → Int32} {f_row : Nat → Int32} {f_names : Nat → Int32} {f_namedBlanks : Int32} {f_form : Nat → Int32} {f_formCount : Int32} {f_octets : Nat → Int32} {f_descriptions : Nat → Int32} {f_described : Int32} {f_message : Nat → Int32} {f_size : Int32} {f_words : Nat → Int64} {f_schedule : Nat → Int64} {f_thrown : Int32} {f_said : Nat → Int32} {x1 : Int32} {post : (Int → Int) → (Int → Int) → Int → Prop} (hw : wpX47_makeGroups post (zG f_hashes) (zF f_groups) (zF f_groupOf) x1.toInt) :
    Met l yX47_makeGroups (ws_ yX47_makeGroups cX47_makeGroups 6 none) ({ frames := 1, cells := 0, slots := 0, locals := 23 } : Room) (kPc (dC, dI) cl (tX47 d) [.ref (ad 0), .int x1] sz (wX47 ci ad d f_constants f_blanks f_counts f_points f_kept f_hashes f_news f_rounds f_hashed f_groups f_groupOf f_groupCount f_trial f_row f_names f_namedBlanks f_form f_formCount f_octets f_descriptions f_described f_message f_size f_words f_schedule f_thrown f_said)) (va_Qv (fun (u : (Nat → Int32) × (Nat → Int32) × Int32) => post (zF (u.1)) (zF (u.2.1)) (u.2.2).toInt) (kB (dC, dI) cl (tX47 d) (va_A (wX47 ci ad d f_constants f_blanks f_counts f_points f_kept f_hashes f_news f_rounds f_hashed f_groups f_groupOf f_groupCount f_trial f_row f_names f_namedBlanks f_form f_formCount f_octets f_descriptions f_described f_message f_size f_words f_schedule f_thrown f_said) sz) (fun u : (Nat → Int32) × (Nat → Int32) × Int32 => (wX47 ci ad d f_constants f_blanks f_counts f_points f_kept f_hashes f_news f_rounds f_hashed (u.1) (u.2.1) (u.2.2) f_trial f_row f_names f_namedBlanks f_form f_formCount f_octets f_descriptions f_described f_message f_size f_words f_schedule f_thrown f_said))) (va_A (wX47 ci ad d f_constants f_blanks f_counts f_points f_kept f_hashes f_news f_rounds f_hashed f_groups f_groupOf f_groupCount f_trial f_row f_names f_namedBlanks f_form f_formCount f_octets f_descriptions f_described f_message f_size f_words f_schedule f_thrown f_said) sz)) 0 0 (va_A (wX47 ci ad d f_constants f_blanks f_counts f_points f_kept f_hashes f_news f_rounds f_hashed f_groups f_groupOf f_groupCount f_trial f_row f_names f_namedBlanks f_form f_formCount f_octets f_descriptions f_described f_message f_size f_words f_schedule f_thrown f_said) sz) := by
  refine k_enter (by decide) (Nat.le_of_ble_eq_true rfl) ?_
  intro p e s m below meth c ls X hsz hH hl
  subst hsz
  generalize va_A (wX47 ci ad d f_constants f_blanks f_counts f_points f_kept f_hashes f_news f_rounds f_hashed f_groups f_groupOf f_groupCount f_trial f_row f_names f_namedBlanks f_form f_formCount f_octets f_descriptions f_described f_message f_size f_words f_schedule f_thrown f_said) s.heap.size = A at hH ⊢
  have hx := X.1.1
  have hb := X.1.2.1
  have hl : lv_has ls 6 [(0, .ref (ad 0)), (1, .int x1)] := hl
  unfold wpX47_makeGroups at hw
  refine lv_aload_n hx hb dX47_makeGroups_0 rfl (lv_at hl 0 rfl) ?_
  refine lv_iconst (v := 0) hx hb dX47_makeGroups_1 (by decide) ?_
  refine k_put X hH in_X47 tyX47_ok nmX47 0 rfl hc 11 (by decide) q5995 rfl (ty := .int) rfl rfl rfl (Nat.le_of_ble_eq_true rfl) dX47_makeGroups_2 (ws1 := (wX47 ci ad d f_constants f_blanks f_counts f_points f_kept f_hashes f_news f_rounds f_hashed f_groups f_groupOf 0 f_trial f_row f_names f_namedBlanks f_form f_formCount f_octets f_descriptions f_described f_message f_size f_words f_schedule f_thrown f_said)) rfl (fun H locs hH => ?_)
  refine lv_iconst (v := 1) hx hb dX47_makeGroups_5 (by decide) ?_
  refine lv_istore_n (lv' := [(2, .int 1), (0, .ref (ad 0)), (1, .int x1)]) hx hb dX47_makeGroups_6 rfl hl (by decide) rfl (fun ls hl => ?_)
  obtain ⟨fu, hw⟩ := hw
  refine atX47_makeGroups_7 hc X ?_ fu 1 f_groups hw _ _ ls hH (lv_sub hl [1, 2, 0] rfl)
  · intro f_groups_6 hw H locs ls hH hl
    refine lv_iconst (v := 1) hx hb dX47_makeGroups_25 (by decide) ?_
    refine lv_istore_n (lv' := [(2, .int 1), (0, .ref (ad 0)), (1, .int x1)]) hx hb dX47_makeGroups_26 rfl hl (by decide) rfl (fun ls hl => ?_)
    refine lv_iconst (v := 0) hx hb dX47_makeGroups_27 (by decide) ?_
    refine lv_istore_n (lv' := [(3, .int 0), (2, .int 1), (0, .ref (ad 0)), (1, .int x1)]) hx hb dX47_makeGroups_28 rfl hl (by decide) rfl (fun ls hl => ?_)
    obtain ⟨fu, hw⟩ := hw
    refine atX47_makeGroups_29 hc X ?_ fu 1 0 f_groups_6 f_groupOf 0 hw _ _ ls hH (lv_sub hl [2, 3, 1, 0] rfl)
    · intro f_groups_51 f_groupOf_52 f_groupCount_53 hw H locs ls hH hl
      exact k_vret X hH (f_groups_51, f_groupOf_52, f_groupCount_53) hw rfl dX47_makeGroups_167
set_option maxHeartbeats 4000000 in
theorem atX47_makeHashes_30 {p : Program} {l : Launch} {e : Env} {s : State} {m : MethodId} {args : Array Value} {below : List Frame} {meth : Method} {c : Code} {dC : Nat → ClassId} {dI : Nat → Nat → Nat} {cl : List vw_C} {ci : Nat} (hc : cl[ci]? = some (RX47, TX47, 27)) {ad : Nat → Nat} {d : Nat → ClassId} {A : Nat → Prop} {post : (Int → Int) → (Int → Int) → Int → Int → (Int → Int) → (Int → Int) → Int → (Int → Int) → Int → (Int → Int) → Int → (Int → Int) → (Int → Int) → (Int → Int) → Prop} {f_constants : Nat → Int64} {f_blanks : Nat → Int32} {f_counts : Nat → Int32} {f_points : Nat → Int32} {f_kept : Int32} {f_trial : Nat → Int32} {f_row : Nat → Int32} {f_names : Nat → Int32} {f_namedBlanks : Int32} {f_form : Nat → Int32} {f_formCount : Int32} {f_octets : Nat → Int32} {f_thrown : Int32} (X : kX p s m args meth c cX47_makeHashes 5 RX47 none (dC, dI) cl (tX47 d)) {K59 : (Int → Int) → Prop} {x1 : Int32} {x2 : Int32} {f_news : Nat → Int64} {f_rounds : Int32} {f_hashed : Int32} {f_groups : Nat → Int32} {f_groupOf : Nat → Int32} {f_groupCount : Int32} {f_descriptions : Nat → Int32} {f_described : Int32} {f_message : Nat → Int32} {f_size : Int32} {f_words : Nat → Int64} {f_schedule : Nat → Int64} {f_said : Nat → Int32} (hk59 : ∀ (f_hashes : Nat → Int64), K59 (zG f_hashes) → ∀ (H : Heap) (locs : List Loc) (ls : Array Slot), kH (dC, dI) cl A s.heap H locs (wX47 ci ad d f_constants f_blanks f_counts f_points f_kept f_hashes f_news f_rounds f_hashed f_groups f_groupOf f_groupCount f_trial f_row f_names f_namedBlanks f_form f_formCount f_octets f_descriptions f_described f_message f_size f_words f_schedule f_thrown f_said) → lv_has ls 5 [(0, .ref (ad 0)), (1, .int x1), (2, .int x2)] → W p l e ({ frames := 4, cells := 0, slots := 0, locals := 111 } : Room) s m args below meth c H locs 0 0 (MQ below (va_Qv (fun (u : (Nat → Int64) × (Nat → Int64) × Int32 × Int32 × (Nat → Int32) × (Nat → Int32) × Int32 × (Nat → Int32) × Int32 × (Nat → Int32) × Int32 × (Nat → Int64) × (Nat → Int64) × (Nat → Int32)) => post (zG (u.1)) (zG (u.2.1)) (u.2.2.1).toInt (u.2.2.2.1).toInt (zF (u.2.2.2.2.1)) (zF (u.2.2.2.2.2.1)) (u.2.2.2.2.2.2.1).toInt (zF (u.2.2.2.2.2.2.2.1)) (u.2.2.2.2.2.2.2.2.1).toInt (zF (u.2.2.2.2.2.2.2.2.2.1)) (u.2.2.2.2.2.2.2.2.2.2.1).toInt (zG (u.2.2.2.2.2.2.2.2.2.2.2.1)) (zG (u.2.2.2.2.2.2.2.2.2.2.2.2.1)) (zF (u.2.2.2.2.2.2.2.2.2.2.2.2.2))) (kB (dC, dI) cl (tX47 d) A (fun u : (Nat → Int64) × (Nat → Int64) × Int32 × Int32 × (Nat → Int32) × (Nat → Int32) × Int32 × (Nat → Int32) × Int32 × (Nat → Int32) × Int32 × (Nat → Int64) × (Nat → Int64) × (Nat → Int32) => (wX47 ci ad d f_constants f_blanks f_counts f_points f_kept (u.1) (u.2.1) (u.2.2.1) (u.2.2.2.1) (u.2.2.2.2.1) (u.2.2.2.2.2.1) (u.2.2.2.2.2.2.1) f_trial f_row f_names f_namedBlanks f_form f_formCount f_octets (u.2.2.2.2.2.2.2.1) (u.2.2.2.2.2.2.2.2.1) (u.2.2.2.2.2.2.2.2.2.1) (u.2.2.2.2.2.2.2.2.2.2.1) (u.2.2.2.2.2.2.2.2.2.2.2.1) (u.2.2.2.2.2.2.2.2.2.2.2.2.1) f_thrown (u.2.2.2.2.2.2.2.2.2.2.2.2.2)))) A) args s 0 0 A) (F0 m 59 ls [])) :
    ∀ (nn : Nat) (x3 : Int32) (f_hashes : Nat → Int64), wX47_makeHashes_30 K59 x2.toInt (zG f_words) nn x3.toInt (zG f_hashes) → ∀ (H : Heap) (locs : List Loc) (ls : Array Slot), kH (dC, dI) cl A s.heap H locs (wX47 ci ad d f_constants f_blanks f_counts f_points f_kept f_hashes f_news f_rounds f_hashed f_groups f_groupOf f_groupCount f_trial f_row f_names f_namedBlanks f_form f_formCount f_octets f_descriptions f_described f_message f_size f_words f_schedule f_thrown f_said) → lv_has ls 5 [(0, .ref (ad 0)), (1, .int x1), (2, .int x2), (3, .int x3)] → W p l e ({ frames := 4, cells := 0, slots := 0, locals := 111 } : Room) s m args below meth c H locs 0 0 (MQ below (va_Qv (fun (u : (Nat → Int64) × (Nat → Int64) × Int32 × Int32 × (Nat → Int32) × (Nat → Int32) × Int32 × (Nat → Int32) × Int32 × (Nat → Int32) × Int32 × (Nat → Int64) × (Nat → Int64) × (Nat → Int32)) => post (zG (u.1)) (zG (u.2.1)) (u.2.2.1).toInt (u.2.2.2.1).toInt (zF (u.2.2.2.2.1)) (zF (u.2.2.2.2.2.1)) (u.2.2.2.2.2.2.1).toInt (zF (u.2.2.2.2.2.2.2.1)) (u.2.2.2.2.2.2.2.2.1).toInt (zF (u.2.2.2.2.2.2.2.2.2.1)) (u.2.2.2.2.2.2.2.2.2.2.1).toInt (zG (u.2.2.2.2.2.2.2.2.2.2.2.1)) (zG (u.2.2.2.2.2.2.2.2.2.2.2.2.1)) (zF (u.2.2.2.2.2.2.2.2.2.2.2.2.2))) (kB (dC, dI) cl (tX47 d) A (fun u : (Nat → Int64) × (Nat → Int64) × Int32 × Int32 × (Nat → Int32) × (Nat → Int32) × Int32 × (Nat → Int32) × Int32 × (Nat → Int32) × Int32 × (Nat → Int64) × (Nat → Int64) × (Nat → Int32) => (wX47 ci ad d f_constants f_blanks f_counts f_points f_kept (u.1) (u.2.1) (u.2.2.1) (u.2.2.2.1) (u.2.2.2.2.1) (u.2.2.2.2.2.1) (u.2.2.2.2.2.2.1) f_trial f_row f_names f_namedBlanks f_form f_formCount f_octets (u.2.2.2.2.2.2.2.1) (u.2.2.2.2.2.2.2.2.1) (u.2.2.2.2.2.2.2.2.2.1) (u.2.2.2.2.2.2.2.2.2.2.1) (u.2.2.2.2.2.2.2.2.2.2.2.1) (u.2.2.2.2.2.2.2.2.2.2.2.2.1) f_thrown (u.2.2.2.2.2.2.2.2.2.2.2.2.2)))) A) args s 0 0 A) (F0 m 30 ls []) := by
  have hx := X.1.1
  have hb := X.1.2.1
  intro nn
  induction nn with
  | zero =>
    intro x3 f_hashes hw
    exact False.elim hw
  | succ n ih =>
    intro x3 f_hashes hw H locs ls hH hl
    rw [wX47_makeHashes_30] at hw
    refine lv_iload_n hx hb dX47_makeHashes_30 rfl (lv_at hl 3 rfl) ?_
    refine lv_bipush (v := 8) hx hb dX47_makeHashes_31 (by decide) ?_
    refine lv_icmp_ge (tgt := 59) hx hb dX47_makeHashes_33 (by decide) (fun c_8 => ?_) (fun c_8 => ?_)
    · have hw := hw.1 (z_le (rfl : (8 : Int32).toInt = 8) (rfl : x3.toInt = _) c_8)
      exact hk59 f_hashes hw _ _ ls hH (lv_sub hl [0, 1, 2] rfl)
    · have hw := hw.2 (z_nle (rfl : (8 : Int32).toInt = 8) (rfl : x3.toInt = _) c_8)
      refine lv_aload_n hx hb dX47_makeHashes_36 rfl (lv_at hl 0 rfl) ?_
      refine k_get X hH in_X47 0 rfl hc 5 (by decide) q5989 rfl dX47_makeHashes_37 ?_
      refine lv_bipush (v := 8) hx hb dX47_makeHashes_40 (by decide) ?_
      refine lv_iload_n hx hb dX47_makeHashes_42 rfl (lv_at hl 2 rfl) ?_
      refine lv_imul hx hb dX47_makeHashes_43 ?_
      have e_9 := z_mul (z_m (rfl : (8 : Int32).toInt = 8)) (z_m (rfl : x2.toInt = _))
      refine lv_iload_n hx hb dX47_makeHashes_44 rfl (lv_at hl 3 rfl) ?_
      refine lv_iadd hx hb dX47_makeHashes_45 ?_
      have e_10 := z_add e_9 (z_m (rfl : x3.toInt = _))
      refine lv_aload_n hx hb dX47_makeHashes_46 rfl (lv_at hl 0 rfl) ?_
      refine k_get X hH in_X47 0 rfl hc 23 (by decide) q6007 rfl dX47_makeHashes_47 ?_
      refine lv_iload_n hx hb dX47_makeHashes_50 rfl (lv_at hl 3 rfl) ?_
      have hq_11 := hw.1
      have hw := hw.2
      refine k_lald X hH 16 15 rfl rfl (z_in (rfl : x3.toInt = _) hq_11) dX47_makeHashes_51 ?_
      have e_12 := z_ldL (f := f_words) (rfl : x3.toInt = _) hq_11.1
      refine lv_topl (fun v_13 ev_13 => ?_)
      have hw := hw v_13.toInt (by rw [ev_13]; exact e_12)
      have hq_15 := hw.1
      have hw := hw.2
      have e_16 := z_xi e_10 hq_15 (by decide)
      obtain ⟨f_hashes_14, ef_hashes_14⟩ : ∃ y : Nat → Int64, y = vp_updL f_hashes ((8 * x2) + x3).toNatClampNeg v_13 := ⟨_, rfl⟩
      refine k_last X hH 5 4 rfl rfl (z_in e_16 hq_15) dX47_makeHashes_52 ef_hashes_14 (ws1 := (wX47 ci ad d f_constants f_blanks f_counts f_points f_kept f_hashes_14 f_news f_rounds f_hashed f_groups f_groupOf f_groupCount f_trial f_row f_names f_namedBlanks f_form f_formCount f_octets f_descriptions f_described f_message f_size f_words f_schedule f_thrown f_said)) rfl (fun H locs hH => ?_)
      have hw := hw (zG f_hashes_14) (by rw [ef_hashes_14]; exact z_stL (f := f_hashes) e_16 hq_15.1 (rfl : v_13.toInt = _))
      have hq_18 := hw.1
      have hw := hw.2
      obtain ⟨x3_17, ex3_17⟩ : ∃ y : Int32, y = x3 + 1 := ⟨_, rfl⟩
      have hw := hw x3_17.toInt (by rw [ex3_17]; exact (z_x (z_add (z_m (rfl : x3.toInt = _)) (z_m (rfl : (1 : Int32).toInt = 1))) hq_18))
      refine lv_iinc (v := x3_17) (lv' := [(3, .int x3_17), (0, .ref (ad 0)), (1, .int x1), (2, .int x2)]) hx hb dX47_makeHashes_53 hl (k := 3) rfl (by rw [ex3_17]; rfl) (by decide) rfl (fun ls hl => ?_)
      refine lv_goto (tgt := 30) hx hb dX47_makeHashes_56 (by decide) ?_
      exact ih x3_17 f_hashes_14 hw _ _ ls hH (lv_sub hl [1, 2, 3, 0] rfl)
set_option maxHeartbeats 4000000 in
theorem atX47_makeHashes_23 {p : Program} {l : Launch} {e : Env} {s : State} {m : MethodId} {args : Array Value} {below : List Frame} {meth : Method} {c : Code} {dC : Nat → ClassId} {dI : Nat → Nat → Nat} {cl : List vw_C} {ci : Nat} (hc : cl[ci]? = some (RX47, TX47, 27)) {ad : Nat → Nat} {d : Nat → ClassId} {A : Nat → Prop} {post : (Int → Int) → (Int → Int) → Int → Int → (Int → Int) → (Int → Int) → Int → (Int → Int) → Int → (Int → Int) → Int → (Int → Int) → (Int → Int) → (Int → Int) → Prop} {f_constants : Nat → Int64} {f_blanks : Nat → Int32} {f_counts : Nat → Int32} {f_points : Nat → Int32} {f_kept : Int32} {f_trial : Nat → Int32} {f_row : Nat → Int32} {f_names : Nat → Int32} {f_namedBlanks : Int32} {f_form : Nat → Int32} {f_formCount : Int32} {f_octets : Nat → Int32} {f_thrown : Int32} (X : kX p s m args meth c cX47_makeHashes 5 RX47 none (dC, dI) cl (tX47 d)) {K65 : (Int → Int) → Prop} {x1 : Int32} {f_news : Nat → Int64} {f_rounds : Int32} {f_hashed : Int32} {f_groups : Nat → Int32} {f_groupOf : Nat → Int32} {f_groupCount : Int32} {f_descriptions : Nat → Int32} {f_described : Int32} {f_message : Nat → Int32} {f_size : Int32} {f_words : Nat → Int64} {f_schedule : Nat → Int64} {f_said : Nat → Int32} (hk65 : ∀ (f_hashes : Nat → Int64), K65 (zG f_hashes) → ∀ (H : Heap) (locs : List Loc) (ls : Array Slot), kH (dC, dI) cl A s.heap H locs (wX47 ci ad d f_constants f_blanks f_counts f_points f_kept f_hashes f_news f_rounds f_hashed f_groups f_groupOf f_groupCount f_trial f_row f_names f_namedBlanks f_form f_formCount f_octets f_descriptions f_described f_message f_size f_words f_schedule f_thrown f_said) → lv_has ls 5 [(0, .ref (ad 0)), (1, .int x1)] → W p l e ({ frames := 4, cells := 0, slots := 0, locals := 111 } : Room) s m args below meth c H locs 0 0 (MQ below (va_Qv (fun (u : (Nat → Int64) × (Nat → Int64) × Int32 × Int32 × (Nat → Int32) × (Nat → Int32) × Int32 × (Nat → Int32) × Int32 × (Nat → Int32) × Int32 × (Nat → Int64) × (Nat → Int64) × (Nat → Int32)) => post (zG (u.1)) (zG (u.2.1)) (u.2.2.1).toInt (u.2.2.2.1).toInt (zF (u.2.2.2.2.1)) (zF (u.2.2.2.2.2.1)) (u.2.2.2.2.2.2.1).toInt (zF (u.2.2.2.2.2.2.2.1)) (u.2.2.2.2.2.2.2.2.1).toInt (zF (u.2.2.2.2.2.2.2.2.2.1)) (u.2.2.2.2.2.2.2.2.2.2.1).toInt (zG (u.2.2.2.2.2.2.2.2.2.2.2.1)) (zG (u.2.2.2.2.2.2.2.2.2.2.2.2.1)) (zF (u.2.2.2.2.2.2.2.2.2.2.2.2.2))) (kB (dC, dI) cl (tX47 d) A (fun u : (Nat → Int64) × (Nat → Int64) × Int32 × Int32 × (Nat → Int32) × (Nat → Int32) × Int32 × (Nat → Int32) × Int32 × (Nat → Int32) × Int32 × (Nat → Int64) × (Nat → Int64) × (Nat → Int32) => (wX47 ci ad d f_constants f_blanks f_counts f_points f_kept (u.1) (u.2.1) (u.2.2.1) (u.2.2.2.1) (u.2.2.2.2.1) (u.2.2.2.2.2.1) (u.2.2.2.2.2.2.1) f_trial f_row f_names f_namedBlanks f_form f_formCount f_octets (u.2.2.2.2.2.2.2.1) (u.2.2.2.2.2.2.2.2.1) (u.2.2.2.2.2.2.2.2.2.1) (u.2.2.2.2.2.2.2.2.2.2.1) (u.2.2.2.2.2.2.2.2.2.2.2.1) (u.2.2.2.2.2.2.2.2.2.2.2.2.1) f_thrown (u.2.2.2.2.2.2.2.2.2.2.2.2.2)))) A) args s 0 0 A) (F0 m 65 ls [])) :
    ∀ (nn : Nat) (x2 : Int32) (f_hashes : Nat → Int64), wX47_makeHashes_23 K65 x1.toInt (zG f_words) nn x2.toInt (zG f_hashes) → ∀ (H : Heap) (locs : List Loc) (ls : Array Slot), kH (dC, dI) cl A s.heap H locs (wX47 ci ad d f_constants f_blanks f_counts f_points f_kept f_hashes f_news f_rounds f_hashed f_groups f_groupOf f_groupCount f_trial f_row f_names f_namedBlanks f_form f_formCount f_octets f_descriptions f_described f_message f_size f_words f_schedule f_thrown f_said) → lv_has ls 5 [(0, .ref (ad 0)), (1, .int x1), (2, .int x2)] → W p l e ({ frames := 4, cells := 0, slots := 0, locals := 111 } : Room) s m args below meth c H locs 0 0 (MQ below (va_Qv (fun (u : (Nat → Int64) × (Nat → Int64) × Int32 × Int32 × (Nat → Int32) × (Nat → Int32) × Int32 × (Nat → Int32) × Int32 × (Nat → Int32) × Int32 × (Nat → Int64) × (Nat → Int64) × (Nat → Int32)) => post (zG (u.1)) (zG (u.2.1)) (u.2.2.1).toInt (u.2.2.2.1).toInt (zF (u.2.2.2.2.1)) (zF (u.2.2.2.2.2.1)) (u.2.2.2.2.2.2.1).toInt (zF (u.2.2.2.2.2.2.2.1)) (u.2.2.2.2.2.2.2.2.1).toInt (zF (u.2.2.2.2.2.2.2.2.2.1)) (u.2.2.2.2.2.2.2.2.2.2.1).toInt (zG (u.2.2.2.2.2.2.2.2.2.2.2.1)) (zG (u.2.2.2.2.2.2.2.2.2.2.2.2.1)) (zF (u.2.2.2.2.2.2.2.2.2.2.2.2.2))) (kB (dC, dI) cl (tX47 d) A (fun u : (Nat → Int64) × (Nat → Int64) × Int32 × Int32 × (Nat → Int32) × (Nat → Int32) × Int32 × (Nat → Int32) × Int32 × (Nat → Int32) × Int32 × (Nat → Int64) × (Nat → Int64) × (Nat → Int32) => (wX47 ci ad d f_constants f_blanks f_counts f_points f_kept (u.1) (u.2.1) (u.2.2.1) (u.2.2.2.1) (u.2.2.2.2.1) (u.2.2.2.2.2.1) (u.2.2.2.2.2.2.1) f_trial f_row f_names f_namedBlanks f_form f_formCount f_octets (u.2.2.2.2.2.2.2.1) (u.2.2.2.2.2.2.2.2.1) (u.2.2.2.2.2.2.2.2.2.1) (u.2.2.2.2.2.2.2.2.2.2.1) (u.2.2.2.2.2.2.2.2.2.2.2.1) (u.2.2.2.2.2.2.2.2.2.2.2.2.1) f_thrown (u.2.2.2.2.2.2.2.2.2.2.2.2.2)))) A) args s 0 0 A) (F0 m 23 ls []) := by
  have hx := X.1.1
  have hb := X.1.2.1
  intro nn
  induction nn with
  | zero =>
    intro x2 f_hashes hw
    exact False.elim hw
  | succ n ih =>
    intro x2 f_hashes hw H locs ls hH hl
    rw [wX47_makeHashes_23] at hw
    refine lv_iload_n hx hb dX47_makeHashes_23 rfl (lv_at hl 2 rfl) ?_
    refine lv_iload_n hx hb dX47_makeHashes_24 rfl (lv_at hl 1 rfl) ?_
    refine lv_icmp_gt (tgt := 65) hx hb dX47_makeHashes_25 (by decide) (fun c_7 => ?_) (fun c_7 => ?_)
    · have hw := hw.1 (z_lt (rfl : x1.toInt = _) (rfl : x2.toInt = _) c_7)
      exact hk65 f_hashes hw _ _ ls hH (lv_sub hl [0, 1] rfl)
    · have hw := hw.2 (z_nlt (rfl : x1.toInt = _) (rfl : x2.toInt = _) c_7)
      refine lv_iconst (v := 0) hx hb dX47_makeHashes_28 (by decide) ?_
      refine lv_istore_n (lv' := [(3, .int 0), (0, .ref (ad 0)), (1, .int x1), (2, .int x2)]) hx hb dX47_makeHashes_29 rfl hl (by decide) rfl (fun ls hl => ?_)
      obtain ⟨fu, hw⟩ := hw
      refine atX47_makeHashes_30 hc X ?_ fu 0 f_hashes hw _ _ ls hH (lv_sub hl [1, 2, 3, 0] rfl)
      · intro f_hashes_19 hw H locs ls hH hl
        have hq_21 := hw.1
        have hw := hw.2
        obtain ⟨x2_20, ex2_20⟩ : ∃ y : Int32, y = x2 + 1 := ⟨_, rfl⟩
        have hw := hw x2_20.toInt (by rw [ex2_20]; exact (z_x (z_add (z_m (rfl : x2.toInt = _)) (z_m (rfl : (1 : Int32).toInt = 1))) hq_21))
        refine lv_iinc (v := x2_20) (lv' := [(2, .int x2_20), (0, .ref (ad 0)), (1, .int x1)]) hx hb dX47_makeHashes_59 hl (k := 2) rfl (by rw [ex2_20]; rfl) (by decide) rfl (fun ls hl => ?_)
        refine lv_goto (tgt := 23) hx hb dX47_makeHashes_62 (by decide) ?_
        exact ih x2_20 f_hashes_19 hw _ _ ls hH (lv_sub hl [1, 2, 0] rfl)
set_option maxHeartbeats 4000000 in
theorem atX47_makeHashes_78 {p : Program} {l : Launch} {e : Env} {s : State} {m : MethodId} {args : Array Value} {below : List Frame} {meth : Method} {c : Code} {dC : Nat → ClassId} {dI : Nat → Nat → Nat} {cl : List vw_C} {ci : Nat} (hc : cl[ci]? = some (RX47, TX47, 27)) {ad : Nat → Nat} {d : Nat → ClassId} {A : Nat → Prop} {post : (Int → Int) → (Int → Int) → Int → Int → (Int → Int) → (Int → Int) → Int → (Int → Int) → Int → (Int → Int) → Int → (Int → Int) → (Int → Int) → (Int → Int) → Prop} {f_constants : Nat → Int64} {f_blanks : Nat → Int32} {f_counts : Nat → Int32} {f_points : Nat → Int32} {f_kept : Int32} {f_trial : Nat → Int32} {f_row : Nat → Int32} {f_names : Nat → Int32} {f_namedBlanks : Int32} {f_form : Nat → Int32} {f_formCount : Int32} {f_octets : Nat → Int32} {f_thrown : Int32} (X : kX p s m args meth c cX47_makeHashes 5 RX47 none (dC, dI) cl (tX47 d)) {K94 : (Int → Int) → (Int → Int) → Int → (Int → Int) → Int → (Int → Int) → (Int → Int) → (Int → Int) → Prop} {x1 : Int32} {f_hashes : Nat → Int64} {f_rounds : Int32} {f_hashed : Int32} {f_groups : Nat → Int32} {f_groupOf : Nat → Int32} {f_groupCount : Int32} (hk94 : ∀ (f_news : Nat → Int64) (f_descriptions : Nat → Int32) (f_described : Int32) (f_message : Nat → Int32) (f_size : Int32) (f_words : Nat → Int64) (f_schedule : Nat → Int64) (f_said : Nat → Int32), K94 (zG f_news) (zF f_descriptions) f_described.toInt (zF f_message) f_size.toInt (zG f_words) (zG f_schedule) (zF f_said) → ∀ (H : Heap) (locs : List Loc) (ls : Array Slot), kH (dC, dI) cl A s.heap H locs (wX47 ci ad d f_constants f_blanks f_counts f_points f_kept f_hashes f_news f_rounds f_hashed f_groups f_groupOf f_groupCount f_trial f_row f_names f_namedBlanks f_form f_formCount f_octets f_descriptions f_described f_message f_size f_words f_schedule f_thrown f_said) → lv_has ls 5 [(0, .ref (ad 0)), (1, .int x1)] → W p l e ({ frames := 4, cells := 0, slots := 0, locals := 111 } : Room) s m args below meth c H locs 0 0 (MQ below (va_Qv (fun (u : (Nat → Int64) × (Nat → Int64) × Int32 × Int32 × (Nat → Int32) × (Nat → Int32) × Int32 × (Nat → Int32) × Int32 × (Nat → Int32) × Int32 × (Nat → Int64) × (Nat → Int64) × (Nat → Int32)) => post (zG (u.1)) (zG (u.2.1)) (u.2.2.1).toInt (u.2.2.2.1).toInt (zF (u.2.2.2.2.1)) (zF (u.2.2.2.2.2.1)) (u.2.2.2.2.2.2.1).toInt (zF (u.2.2.2.2.2.2.2.1)) (u.2.2.2.2.2.2.2.2.1).toInt (zF (u.2.2.2.2.2.2.2.2.2.1)) (u.2.2.2.2.2.2.2.2.2.2.1).toInt (zG (u.2.2.2.2.2.2.2.2.2.2.2.1)) (zG (u.2.2.2.2.2.2.2.2.2.2.2.2.1)) (zF (u.2.2.2.2.2.2.2.2.2.2.2.2.2))) (kB (dC, dI) cl (tX47 d) A (fun u : (Nat → Int64) × (Nat → Int64) × Int32 × Int32 × (Nat → Int32) × (Nat → Int32) × Int32 × (Nat → Int32) × Int32 × (Nat → Int32) × Int32 × (Nat → Int64) × (Nat → Int64) × (Nat → Int32) => (wX47 ci ad d f_constants f_blanks f_counts f_points f_kept (u.1) (u.2.1) (u.2.2.1) (u.2.2.2.1) (u.2.2.2.2.1) (u.2.2.2.2.2.1) (u.2.2.2.2.2.2.1) f_trial f_row f_names f_namedBlanks f_form f_formCount f_octets (u.2.2.2.2.2.2.2.1) (u.2.2.2.2.2.2.2.2.1) (u.2.2.2.2.2.2.2.2.2.1) (u.2.2.2.2.2.2.2.2.2.2.1) (u.2.2.2.2.2.2.2.2.2.2.2.1) (u.2.2.2.2.2.2.2.2.2.2.2.2.1) f_thrown (u.2.2.2.2.2.2.2.2.2.2.2.2.2)))) A) args s 0 0 A) (F0 m 94 ls [])) :
    ∀ (nn : Nat) (x3 : Int32) (f_news : Nat → Int64) (f_descriptions : Nat → Int32) (f_described : Int32) (f_message : Nat → Int32) (f_size : Int32) (f_words : Nat → Int64) (f_schedule : Nat → Int64) (f_said : Nat → Int32), wX47_makeHashes_78 K94 x1.toInt (zG f_constants) (zF f_counts) (zF f_points) (zG f_hashes) nn x3.toInt (zG f_news) (zF f_descriptions) f_described.toInt (zF f_message) f_size.toInt (zG f_words) (zG f_schedule) (zF f_said) → ∀ (H : Heap) (locs : List Loc) (ls : Array Slot), kH (dC, dI) cl A s.heap H locs (wX47 ci ad d f_constants f_blanks f_counts f_points f_kept f_hashes f_news f_rounds f_hashed f_groups f_groupOf f_groupCount f_trial f_row f_names f_namedBlanks f_form f_formCount f_octets f_descriptions f_described f_message f_size f_words f_schedule f_thrown f_said) → lv_has ls 5 [(0, .ref (ad 0)), (1, .int x1), (3, .int x3)] → W p l e ({ frames := 4, cells := 0, slots := 0, locals := 111 } : Room) s m args below meth c H locs 0 0 (MQ below (va_Qv (fun (u : (Nat → Int64) × (Nat → Int64) × Int32 × Int32 × (Nat → Int32) × (Nat → Int32) × Int32 × (Nat → Int32) × Int32 × (Nat → Int32) × Int32 × (Nat → Int64) × (Nat → Int64) × (Nat → Int32)) => post (zG (u.1)) (zG (u.2.1)) (u.2.2.1).toInt (u.2.2.2.1).toInt (zF (u.2.2.2.2.1)) (zF (u.2.2.2.2.2.1)) (u.2.2.2.2.2.2.1).toInt (zF (u.2.2.2.2.2.2.2.1)) (u.2.2.2.2.2.2.2.2.1).toInt (zF (u.2.2.2.2.2.2.2.2.2.1)) (u.2.2.2.2.2.2.2.2.2.2.1).toInt (zG (u.2.2.2.2.2.2.2.2.2.2.2.1)) (zG (u.2.2.2.2.2.2.2.2.2.2.2.2.1)) (zF (u.2.2.2.2.2.2.2.2.2.2.2.2.2))) (kB (dC, dI) cl (tX47 d) A (fun u : (Nat → Int64) × (Nat → Int64) × Int32 × Int32 × (Nat → Int32) × (Nat → Int32) × Int32 × (Nat → Int32) × Int32 × (Nat → Int32) × Int32 × (Nat → Int64) × (Nat → Int64) × (Nat → Int32) => (wX47 ci ad d f_constants f_blanks f_counts f_points f_kept (u.1) (u.2.1) (u.2.2.1) (u.2.2.2.1) (u.2.2.2.2.1) (u.2.2.2.2.2.1) (u.2.2.2.2.2.2.1) f_trial f_row f_names f_namedBlanks f_form f_formCount f_octets (u.2.2.2.2.2.2.2.1) (u.2.2.2.2.2.2.2.2.1) (u.2.2.2.2.2.2.2.2.2.1) (u.2.2.2.2.2.2.2.2.2.2.1) (u.2.2.2.2.2.2.2.2.2.2.2.1) (u.2.2.2.2.2.2.2.2.2.2.2.2.1) f_thrown (u.2.2.2.2.2.2.2.2.2.2.2.2.2)))) A) args s 0 0 A) (F0 m 78 ls []) := by
  have hx := X.1.1
  have hb := X.1.2.1
  intro nn
  induction nn with
  | zero =>
    intro x3 f_news f_descriptions f_described f_message f_size f_words f_schedule f_said hw
    exact False.elim hw
  | succ n ih =>
    intro x3 f_news f_descriptions f_described f_message f_size f_words f_schedule f_said hw H locs ls hH hl
    rw [wX47_makeHashes_78] at hw
    refine lv_iload_n hx hb dX47_makeHashes_78 rfl (lv_at hl 2 rfl) ?_
    refine lv_iload_n hx hb dX47_makeHashes_79 rfl (lv_at hl 1 rfl) ?_
    refine lv_icmp_gt (tgt := 94) hx hb dX47_makeHashes_80 (by decide) (fun c_24 => ?_) (fun c_24 => ?_)
    · have hw := hw.1 (z_lt (rfl : x1.toInt = _) (rfl : x3.toInt = _) c_24)
      exact hk94 f_news f_descriptions f_described f_message f_size f_words f_schedule f_said hw _ _ ls hH (lv_sub hl [0, 1] rfl)
    · have hw := hw.2 (z_nlt (rfl : x1.toInt = _) (rfl : x3.toInt = _) c_24)
      refine lv_aload_n hx hb dX47_makeHashes_83 rfl (lv_at hl 0 rfl) ?_
      refine lv_iload_n hx hb dX47_makeHashes_84 rfl (lv_at hl 2 rfl) ?_
      refine k_v0 hH (k_runV (As := [.int x3]) (rest := []) X hH.1 hH.2.1 X.2.2.2 (walkX47_next hc (x1 := x3) (f_constants := f_constants) (f_blanks := f_blanks) (f_counts := f_counts) (f_points := f_points) (f_kept := f_kept) (f_hashes := f_hashes) (f_news := f_news) (f_rounds := f_rounds) (f_hashed := f_hashed) (f_groups := f_groups) (f_groupOf := f_groupOf) (f_groupCount := f_groupCount) (f_trial := f_trial) (f_row := f_row) (f_names := f_names) (f_namedBlanks := f_namedBlanks) (f_form := f_form) (f_formCount := f_formCount) (f_octets := f_octets) (f_descriptions := f_descriptions) (f_described := f_described) (f_message := f_message) (f_size := f_size) (f_words := f_words) (f_schedule := f_schedule) (f_thrown := f_thrown) (f_said := f_said) hw) (cwV 1 X.1.2.2.2.2 gX47_281 rfl rfl rfl hX47_next ⟨Nat.le_of_ble_eq_true rfl, Nat.le_of_ble_eq_true rfl⟩) hc (q0 := 0) rfl rfl hl.1 rfl (Nat.le_of_ble_eq_true rfl) dX47_makeHashes_85 ⟨Nat.le_refl 0, Nat.le_refl 0⟩) (fun u H locs hw hH => ?_)
      obtain ⟨f_news_25, f_descriptions_26, f_described_27, f_message_28, f_size_29, f_words_30, f_schedule_31, f_said_32⟩ := u
      have hH : kH (dC, dI) cl A s.heap H locs (wX47 ci ad d f_constants f_blanks f_counts f_points f_kept f_hashes f_news_25 f_rounds f_hashed f_groups f_groupOf f_groupCount f_trial f_row f_names f_namedBlanks f_form f_formCount f_octets f_descriptions_26 f_described_27 f_message_28 f_size_29 f_words_30 f_schedule_31 f_thrown f_said_32) := hH
      have hq_34 := hw.1
      have hw := hw.2
      obtain ⟨x3_33, ex3_33⟩ : ∃ y : Int32, y = x3 + 1 := ⟨_, rfl⟩
      have hw := hw x3_33.toInt (by rw [ex3_33]; exact (z_x (z_add (z_m (rfl : x3.toInt = _)) (z_m (rfl : (1 : Int32).toInt = 1))) hq_34))
      refine lv_iinc (v := x3_33) (lv' := [(3, .int x3_33), (0, .ref (ad 0)), (1, .int x1)]) hx hb dX47_makeHashes_88 hl (k := 2) rfl (by rw [ex3_33]; rfl) (by decide) rfl (fun ls hl => ?_)
      refine lv_goto (tgt := 78) hx hb dX47_makeHashes_91 (by decide) ?_
      exact ih x3_33 f_news_25 f_descriptions_26 f_described_27 f_message_28 f_size_29 f_words_30 f_schedule_31 f_said_32 hw _ _ ls hH (lv_sub hl [1, 2, 0] rfl)
set_option maxHeartbeats 4000000 in
theorem atX47_makeHashes_137 {p : Program} {l : Launch} {e : Env} {s : State} {m : MethodId} {args : Array Value} {below : List Frame} {meth : Method} {c : Code} {dC : Nat → ClassId} {dI : Nat → Nat → Nat} {cl : List vw_C} {ci : Nat} (hc : cl[ci]? = some (RX47, TX47, 27)) {ad : Nat → Nat} {d : Nat → ClassId} {A : Nat → Prop} {post : (Int → Int) → (Int → Int) → Int → Int → (Int → Int) → (Int → Int) → Int → (Int → Int) → Int → (Int → Int) → Int → (Int → Int) → (Int → Int) → (Int → Int) → Prop} {f_constants : Nat → Int64} {f_blanks : Nat → Int32} {f_counts : Nat → Int32} {f_points : Nat → Int32} {f_kept : Int32} {f_trial : Nat → Int32} {f_row : Nat → Int32} {f_names : Nat → Int32} {f_namedBlanks : Int32} {f_form : Nat → Int32} {f_formCount : Int32} {f_octets : Nat → Int32} {f_thrown : Int32} (X : kX p s m args meth c cX47_makeHashes 5 RX47 none (dC, dI) cl (tX47 d)) {K168 : (Int → Int) → Prop} {x1 : Int32} {x3 : Int32} {f_news : Nat → Int64} {f_rounds : Int32} {f_hashed : Int32} {f_groups : Nat → Int32} {f_groupOf : Nat → Int32} {f_groupCount : Int32} {f_descriptions : Nat → Int32} {f_described : Int32} {f_message : Nat → Int32} {f_size : Int32} {f_words : Nat → Int64} {f_schedule : Nat → Int64} {f_said : Nat → Int32} (hk168 : ∀ (f_hashes : Nat → Int64), K168 (zG f_hashes) → ∀ (H : Heap) (locs : List Loc) (ls : Array Slot), kH (dC, dI) cl A s.heap H locs (wX47 ci ad d f_constants f_blanks f_counts f_points f_kept f_hashes f_news f_rounds f_hashed f_groups f_groupOf f_groupCount f_trial f_row f_names f_namedBlanks f_form f_formCount f_octets f_descriptions f_described f_message f_size f_words f_schedule f_thrown f_said) → lv_has ls 5 [(0, .ref (ad 0)), (1, .int x1), (3, .int x3)] → W p l e ({ frames := 4, cells := 0, slots := 0, locals := 111 } : Room) s m args below meth c H locs 0 0 (MQ below (va_Qv (fun (u : (Nat → Int64) × (Nat → Int64) × Int32 × Int32 × (Nat → Int32) × (Nat → Int32) × Int32 × (Nat → Int32) × Int32 × (Nat → Int32) × Int32 × (Nat → Int64) × (Nat → Int64) × (Nat → Int32)) => post (zG (u.1)) (zG (u.2.1)) (u.2.2.1).toInt (u.2.2.2.1).toInt (zF (u.2.2.2.2.1)) (zF (u.2.2.2.2.2.1)) (u.2.2.2.2.2.2.1).toInt (zF (u.2.2.2.2.2.2.2.1)) (u.2.2.2.2.2.2.2.2.1).toInt (zF (u.2.2.2.2.2.2.2.2.2.1)) (u.2.2.2.2.2.2.2.2.2.2.1).toInt (zG (u.2.2.2.2.2.2.2.2.2.2.2.1)) (zG (u.2.2.2.2.2.2.2.2.2.2.2.2.1)) (zF (u.2.2.2.2.2.2.2.2.2.2.2.2.2))) (kB (dC, dI) cl (tX47 d) A (fun u : (Nat → Int64) × (Nat → Int64) × Int32 × Int32 × (Nat → Int32) × (Nat → Int32) × Int32 × (Nat → Int32) × Int32 × (Nat → Int32) × Int32 × (Nat → Int64) × (Nat → Int64) × (Nat → Int32) => (wX47 ci ad d f_constants f_blanks f_counts f_points f_kept (u.1) (u.2.1) (u.2.2.1) (u.2.2.2.1) (u.2.2.2.2.1) (u.2.2.2.2.2.1) (u.2.2.2.2.2.2.1) f_trial f_row f_names f_namedBlanks f_form f_formCount f_octets (u.2.2.2.2.2.2.2.1) (u.2.2.2.2.2.2.2.2.1) (u.2.2.2.2.2.2.2.2.2.1) (u.2.2.2.2.2.2.2.2.2.2.1) (u.2.2.2.2.2.2.2.2.2.2.2.1) (u.2.2.2.2.2.2.2.2.2.2.2.2.1) f_thrown (u.2.2.2.2.2.2.2.2.2.2.2.2.2)))) A) args s 0 0 A) (F0 m 168 ls [])) :
    ∀ (nn : Nat) (x4 : Int32) (f_hashes : Nat → Int64), wX47_makeHashes_137 K168 x3.toInt (zG f_news) nn x4.toInt (zG f_hashes) → ∀ (H : Heap) (locs : List Loc) (ls : Array Slot), kH (dC, dI) cl A s.heap H locs (wX47 ci ad d f_constants f_blanks f_counts f_points f_kept f_hashes f_news f_rounds f_hashed f_groups f_groupOf f_groupCount f_trial f_row f_names f_namedBlanks f_form f_formCount f_octets f_descriptions f_described f_message f_size f_words f_schedule f_thrown f_said) → lv_has ls 5 [(0, .ref (ad 0)), (1, .int x1), (3, .int x3), (4, .int x4)] → W p l e ({ frames := 4, cells := 0, slots := 0, locals := 111 } : Room) s m args below meth c H locs 0 0 (MQ below (va_Qv (fun (u : (Nat → Int64) × (Nat → Int64) × Int32 × Int32 × (Nat → Int32) × (Nat → Int32) × Int32 × (Nat → Int32) × Int32 × (Nat → Int32) × Int32 × (Nat → Int64) × (Nat → Int64) × (Nat → Int32)) => post (zG (u.1)) (zG (u.2.1)) (u.2.2.1).toInt (u.2.2.2.1).toInt (zF (u.2.2.2.2.1)) (zF (u.2.2.2.2.2.1)) (u.2.2.2.2.2.2.1).toInt (zF (u.2.2.2.2.2.2.2.1)) (u.2.2.2.2.2.2.2.2.1).toInt (zF (u.2.2.2.2.2.2.2.2.2.1)) (u.2.2.2.2.2.2.2.2.2.2.1).toInt (zG (u.2.2.2.2.2.2.2.2.2.2.2.1)) (zG (u.2.2.2.2.2.2.2.2.2.2.2.2.1)) (zF (u.2.2.2.2.2.2.2.2.2.2.2.2.2))) (kB (dC, dI) cl (tX47 d) A (fun u : (Nat → Int64) × (Nat → Int64) × Int32 × Int32 × (Nat → Int32) × (Nat → Int32) × Int32 × (Nat → Int32) × Int32 × (Nat → Int32) × Int32 × (Nat → Int64) × (Nat → Int64) × (Nat → Int32) => (wX47 ci ad d f_constants f_blanks f_counts f_points f_kept (u.1) (u.2.1) (u.2.2.1) (u.2.2.2.1) (u.2.2.2.2.1) (u.2.2.2.2.2.1) (u.2.2.2.2.2.2.1) f_trial f_row f_names f_namedBlanks f_form f_formCount f_octets (u.2.2.2.2.2.2.2.1) (u.2.2.2.2.2.2.2.2.1) (u.2.2.2.2.2.2.2.2.2.1) (u.2.2.2.2.2.2.2.2.2.2.1) (u.2.2.2.2.2.2.2.2.2.2.2.1) (u.2.2.2.2.2.2.2.2.2.2.2.2.1) f_thrown (u.2.2.2.2.2.2.2.2.2.2.2.2.2)))) A) args s 0 0 A) (F0 m 137 ls []) := by
  have hx := X.1.1
  have hb := X.1.2.1
  intro nn
  induction nn with
  | zero =>
    intro x4 f_hashes hw
    exact False.elim hw
  | succ n ih =>
    intro x4 f_hashes hw H locs ls hH hl
    rw [wX47_makeHashes_137] at hw
    refine lv_iload hx hb dX47_makeHashes_137 (lv_at hl 3 rfl) ?_
    refine lv_bipush (v := 72) hx hb dX47_makeHashes_139 (by decide) ?_
    refine lv_icmp_ge (tgt := 168) hx hb dX47_makeHashes_141 (by decide) (fun c_48 => ?_) (fun c_48 => ?_)
    · have hw := hw.1 (z_le (rfl : (72 : Int32).toInt = 72) (rfl : x4.toInt = _) c_48)
      exact hk168 f_hashes hw _ _ ls hH (lv_sub hl [0, 1, 2] rfl)
    · have hw := hw.2 (z_nle (rfl : (72 : Int32).toInt = 72) (rfl : x4.toInt = _) c_48)
      refine lv_iload_n hx hb dX47_makeHashes_144 rfl (lv_at hl 2 rfl) ?_
      refine lv_if_eq (tgt := 168) hx hb dX47_makeHashes_145 (by decide) (fun c_49 => ?_) (fun c_49 => ?_)
      · have hw := hw.1 (z_eq (rfl : x3.toInt = _) (rfl : (0 : Int32).toInt = 0) c_49)
        exact hk168 f_hashes hw _ _ ls hH (lv_sub hl [0, 1, 2] rfl)
      · have hw := hw.2 (z_neq (rfl : x3.toInt = _) (rfl : (0 : Int32).toInt = 0) c_49)
        refine lv_aload_n hx hb dX47_makeHashes_148 rfl (lv_at hl 0 rfl) ?_
        refine k_get X hH in_X47 0 rfl hc 5 (by decide) q5989 rfl dX47_makeHashes_149 ?_
        refine lv_iload hx hb dX47_makeHashes_152 (lv_at hl 3 rfl) ?_
        refine lv_aload_n hx hb dX47_makeHashes_154 rfl (lv_at hl 0 rfl) ?_
        refine k_get X hH in_X47 0 rfl hc 6 (by decide) q5990 rfl dX47_makeHashes_155 ?_
        refine lv_iload hx hb dX47_makeHashes_158 (lv_at hl 3 rfl) ?_
        have hq_50 := hw.1
        have hw := hw.2
        refine k_lald X hH 6 5 rfl rfl (z_in (rfl : x4.toInt = _) hq_50) dX47_makeHashes_160 ?_
        have e_51 := z_ldL (f := f_news) (rfl : x4.toInt = _) hq_50.1
        refine lv_topl (fun v_52 ev_52 => ?_)
        have hw := hw v_52.toInt (by rw [ev_52]; exact e_51)
        obtain ⟨f_hashes_53, ef_hashes_53⟩ : ∃ y : Nat → Int64, y = vp_updL f_hashes x4.toNatClampNeg v_52 := ⟨_, rfl⟩
        refine k_last X hH 5 4 rfl rfl (z_in (rfl : x4.toInt = _) hq_50) dX47_makeHashes_161 ef_hashes_53 (ws1 := (wX47 ci ad d f_constants f_blanks f_counts f_points f_kept f_hashes_53 f_news f_rounds f_hashed f_groups f_groupOf f_groupCount f_trial f_row f_names f_namedBlanks f_form f_formCount f_octets f_descriptions f_described f_message f_size f_words f_schedule f_thrown f_said)) rfl (fun H locs hH => ?_)
        have hw := hw (zG f_hashes_53) (by rw [ef_hashes_53]; exact z_stL (f := f_hashes) (rfl : x4.toInt = _) hq_50.1 (rfl : v_52.toInt = _))
        have hq_55 := hw.1
        have hw := hw.2
        obtain ⟨x4_54, ex4_54⟩ : ∃ y : Int32, y = x4 + 1 := ⟨_, rfl⟩
        have hw := hw x4_54.toInt (by rw [ex4_54]; exact (z_x (z_add (z_m (rfl : x4.toInt = _)) (z_m (rfl : (1 : Int32).toInt = 1))) hq_55))
        refine lv_iinc (v := x4_54) (lv' := [(4, .int x4_54), (0, .ref (ad 0)), (1, .int x1), (3, .int x3)]) hx hb dX47_makeHashes_162 hl (k := 3) rfl (by rw [ex4_54]; rfl) (by decide) rfl (fun ls hl => ?_)
        refine lv_goto (tgt := 137) hx hb dX47_makeHashes_165 (by decide) ?_
        exact ih x4_54 f_hashes_53 hw _ _ ls hH (lv_sub hl [1, 2, 3, 0] rfl)
set_option maxHeartbeats 4000000 in
theorem atX47_makeHashes_168 {p : Program} {l : Launch} {e : Env} {s : State} {m : MethodId} {args : Array Value} {below : List Frame} {meth : Method} {c : Code} {dC : Nat → ClassId} {dI : Nat → Nat → Nat} {cl : List vw_C} {ci : Nat} (hc : cl[ci]? = some (RX47, TX47, 27)) {ad : Nat → Nat} {d : Nat → ClassId} {A : Nat → Prop} {post : (Int → Int) → (Int → Int) → Int → Int → (Int → Int) → (Int → Int) → Int → (Int → Int) → Int → (Int → Int) → Int → (Int → Int) → (Int → Int) → (Int → Int) → Prop} {f_constants : Nat → Int64} {f_blanks : Nat → Int32} {f_counts : Nat → Int32} {f_points : Nat → Int32} {f_kept : Int32} {f_trial : Nat → Int32} {f_row : Nat → Int32} {f_names : Nat → Int32} {f_namedBlanks : Int32} {f_form : Nat → Int32} {f_formCount : Int32} {f_octets : Nat → Int32} {f_thrown : Int32} (X : kX p s m args meth c cX47_makeHashes 5 RX47 none (dC, dI) cl (tX47 d)) {K72 : Int → (Int → Int) → (Int → Int) → Int → (Int → Int) → Int → (Int → Int) → Int → (Int → Int) → (Int → Int) → (Int → Int) → Prop} {x1 : Int32} {f_hashed : Int32} {f_groups : Nat → Int32} {f_groupOf : Nat → Int32} {f_groupCount : Int32} (hk72 : ∀ (x2 : Int32) (f_hashes : Nat → Int64) (f_news : Nat → Int64) (f_rounds : Int32) (f_descriptions : Nat → Int32) (f_described : Int32) (f_message : Nat → Int32) (f_size : Int32) (f_words : Nat → Int64) (f_schedule : Nat → Int64) (f_said : Nat → Int32), K72 x2.toInt (zG f_hashes) (zG f_news) f_rounds.toInt (zF f_descriptions) f_described.toInt (zF f_message) f_size.toInt (zG f_words) (zG f_schedule) (zF f_said) → ∀ (H : Heap) (locs : List Loc) (ls : Array Slot), kH (dC, dI) cl A s.heap H locs (wX47 ci ad d f_constants f_blanks f_counts f_points f_kept f_hashes f_news f_rounds f_hashed f_groups f_groupOf f_groupCount f_trial f_row f_names f_namedBlanks f_form f_formCount f_octets f_descriptions f_described f_message f_size f_words f_schedule f_thrown f_said) → lv_has ls 5 [(0, .ref (ad 0)), (1, .int x1), (2, .int x2)] → W p l e ({ frames := 4, cells := 0, slots := 0, locals := 111 } : Room) s m args below meth c H locs 0 0 (MQ below (va_Qv (fun (u : (Nat → Int64) × (Nat → Int64) × Int32 × Int32 × (Nat → Int32) × (Nat → Int32) × Int32 × (Nat → Int32) × Int32 × (Nat → Int32) × Int32 × (Nat → Int64) × (Nat → Int64) × (Nat → Int32)) => post (zG (u.1)) (zG (u.2.1)) (u.2.2.1).toInt (u.2.2.2.1).toInt (zF (u.2.2.2.2.1)) (zF (u.2.2.2.2.2.1)) (u.2.2.2.2.2.2.1).toInt (zF (u.2.2.2.2.2.2.2.1)) (u.2.2.2.2.2.2.2.2.1).toInt (zF (u.2.2.2.2.2.2.2.2.2.1)) (u.2.2.2.2.2.2.2.2.2.2.1).toInt (zG (u.2.2.2.2.2.2.2.2.2.2.2.1)) (zG (u.2.2.2.2.2.2.2.2.2.2.2.2.1)) (zF (u.2.2.2.2.2.2.2.2.2.2.2.2.2))) (kB (dC, dI) cl (tX47 d) A (fun u : (Nat → Int64) × (Nat → Int64) × Int32 × Int32 × (Nat → Int32) × (Nat → Int32) × Int32 × (Nat → Int32) × Int32 × (Nat → Int32) × Int32 × (Nat → Int64) × (Nat → Int64) × (Nat → Int32) => (wX47 ci ad d f_constants f_blanks f_counts f_points f_kept (u.1) (u.2.1) (u.2.2.1) (u.2.2.2.1) (u.2.2.2.2.1) (u.2.2.2.2.2.1) (u.2.2.2.2.2.2.1) f_trial f_row f_names f_namedBlanks f_form f_formCount f_octets (u.2.2.2.2.2.2.2.1) (u.2.2.2.2.2.2.2.2.1) (u.2.2.2.2.2.2.2.2.2.1) (u.2.2.2.2.2.2.2.2.2.2.1) (u.2.2.2.2.2.2.2.2.2.2.2.1) (u.2.2.2.2.2.2.2.2.2.2.2.2.1) f_thrown (u.2.2.2.2.2.2.2.2.2.2.2.2.2)))) A) args s 0 0 A) (F0 m 72 ls [])) :
    ∀ (x3 : Int32) (f_hashes : Nat → Int64) (f_news : Nat → Int64) (f_rounds : Int32) (f_descriptions : Nat → Int32) (f_described : Int32) (f_message : Nat → Int32) (f_size : Int32) (f_words : Nat → Int64) (f_schedule : Nat → Int64) (f_said : Nat → Int32), wX47_makeHashes_168 K72 x1.toInt x3.toInt (zG f_hashes) (zG f_news) f_rounds.toInt (zF f_descriptions) f_described.toInt (zF f_message) f_size.toInt (zG f_words) (zG f_schedule) (zF f_said) → ∀ (H : Heap) (locs : List Loc) (ls : Array Slot), kH (dC, dI) cl A s.heap H locs (wX47 ci ad d f_constants f_blanks f_counts f_points f_kept f_hashes f_news f_rounds f_hashed f_groups f_groupOf f_groupCount f_trial f_row f_names f_namedBlanks f_form f_formCount f_octets f_descriptions f_described f_message f_size f_words f_schedule f_thrown f_said) → lv_has ls 5 [(0, .ref (ad 0)), (1, .int x1), (3, .int x3)] → W p l e ({ frames := 4, cells := 0, slots := 0, locals := 111 } : Room) s m args below meth c H locs 0 0 (MQ below (va_Qv (fun (u : (Nat → Int64) × (Nat → Int64) × Int32 × Int32 × (Nat → Int32) × (Nat → Int32) × Int32 × (Nat → Int32) × Int32 × (Nat → Int32) × Int32 × (Nat → Int64) × (Nat → Int64) × (Nat → Int32)) => post (zG (u.1)) (zG (u.2.1)) (u.2.2.1).toInt (u.2.2.2.1).toInt (zF (u.2.2.2.2.1)) (zF (u.2.2.2.2.2.1)) (u.2.2.2.2.2.2.1).toInt (zF (u.2.2.2.2.2.2.2.1)) (u.2.2.2.2.2.2.2.2.1).toInt (zF (u.2.2.2.2.2.2.2.2.2.1)) (u.2.2.2.2.2.2.2.2.2.2.1).toInt (zG (u.2.2.2.2.2.2.2.2.2.2.2.1)) (zG (u.2.2.2.2.2.2.2.2.2.2.2.2.1)) (zF (u.2.2.2.2.2.2.2.2.2.2.2.2.2))) (kB (dC, dI) cl (tX47 d) A (fun u : (Nat → Int64) × (Nat → Int64) × Int32 × Int32 × (Nat → Int32) × (Nat → Int32) × Int32 × (Nat → Int32) × Int32 × (Nat → Int32) × Int32 × (Nat → Int64) × (Nat → Int64) × (Nat → Int32) => (wX47 ci ad d f_constants f_blanks f_counts f_points f_kept (u.1) (u.2.1) (u.2.2.1) (u.2.2.2.1) (u.2.2.2.2.1) (u.2.2.2.2.2.1) (u.2.2.2.2.2.2.1) f_trial f_row f_names f_namedBlanks f_form f_formCount f_octets (u.2.2.2.2.2.2.2.1) (u.2.2.2.2.2.2.2.2.1) (u.2.2.2.2.2.2.2.2.2.1) (u.2.2.2.2.2.2.2.2.2.2.1) (u.2.2.2.2.2.2.2.2.2.2.2.1) (u.2.2.2.2.2.2.2.2.2.2.2.2.1) f_thrown (u.2.2.2.2.2.2.2.2.2.2.2.2.2)))) A) args s 0 0 A) (F0 m 168 ls []) := by
  have hx := X.1.1
  have hb := X.1.2.1
  intro x3 f_hashes f_news f_rounds f_descriptions f_described f_message f_size f_words f_schedule f_said hw H locs ls hH hl
  unfold wX47_makeHashes_168 at hw
  refine lv_iload_n hx hb dX47_makeHashes_168 rfl (lv_at hl 2 rfl) ?_
  refine lv_if_eq (tgt := 181) hx hb dX47_makeHashes_169 (by decide) (fun c_57 => ?_) (fun c_57 => ?_)
  · have hw := hw.1 (z_eq (rfl : x3.toInt = _) (rfl : (0 : Int32).toInt = 0) c_57)
    refine lv_iconst (v := 0) hx hb dX47_makeHashes_181 (by decide) ?_
    refine lv_istore_n (lv' := [(2, .int 0), (0, .ref (ad 0)), (1, .int x1), (3, .int x3)]) hx hb dX47_makeHashes_182 rfl hl (by decide) rfl (fun ls hl => ?_)
    refine lv_goto (tgt := 72) hx hb dX47_makeHashes_183 (by decide) ?_
    exact hk72 0 f_hashes f_news f_rounds f_descriptions f_described f_message f_size f_words f_schedule f_said hw _ _ ls hH (lv_sub hl [1, 2, 0] rfl)
  · have hw := hw.2 (z_neq (rfl : x3.toInt = _) (rfl : (0 : Int32).toInt = 0) c_57)
    refine lv_iload_n hx hb dX47_makeHashes_172 rfl (lv_at hl 1 rfl) ?_
    refine lv_iconst (v := 1) hx hb dX47_makeHashes_173 (by decide) ?_
    refine lv_icmp_le (tgt := 181) hx hb dX47_makeHashes_174 (by decide) (fun c_58 => ?_) (fun c_58 => ?_)
    · have hw := hw.1 (z_le (rfl : x1.toInt = _) (rfl : (1 : Int32).toInt = 1) c_58)
      refine lv_iconst (v := 0) hx hb dX47_makeHashes_181 (by decide) ?_
      refine lv_istore_n (lv' := [(2, .int 0), (0, .ref (ad 0)), (1, .int x1), (3, .int x3)]) hx hb dX47_makeHashes_182 rfl hl (by decide) rfl (fun ls hl => ?_)
      refine lv_goto (tgt := 72) hx hb dX47_makeHashes_183 (by decide) ?_
      exact hk72 0 f_hashes f_news f_rounds f_descriptions f_described f_message f_size f_words f_schedule f_said hw _ _ ls hH (lv_sub hl [1, 2, 0] rfl)
    · have hw := hw.2 (z_nle (rfl : x1.toInt = _) (rfl : (1 : Int32).toInt = 1) c_58)
      refine lv_iconst (v := 1) hx hb dX47_makeHashes_177 (by decide) ?_
      refine lv_goto (tgt := 182) hx hb dX47_makeHashes_178 (by decide) ?_
      refine lv_istore_n (lv' := [(2, .int 1), (0, .ref (ad 0)), (1, .int x1), (3, .int x3)]) hx hb dX47_makeHashes_182 rfl hl (by decide) rfl (fun ls hl => ?_)
      refine lv_goto (tgt := 72) hx hb dX47_makeHashes_183 (by decide) ?_
      exact hk72 1 f_hashes f_news f_rounds f_descriptions f_described f_message f_size f_words f_schedule f_said hw _ _ ls hH (lv_sub hl [1, 2, 0] rfl)
set_option maxHeartbeats 4000000 in
theorem atX47_makeHashes_72 {p : Program} {l : Launch} {e : Env} {s : State} {m : MethodId} {args : Array Value} {below : List Frame} {meth : Method} {c : Code} {dC : Nat → ClassId} {dI : Nat → Nat → Nat} {cl : List vw_C} {ci : Nat} (hc : cl[ci]? = some (RX47, TX47, 27)) {ad : Nat → Nat} {d : Nat → ClassId} {A : Nat → Prop} {post : (Int → Int) → (Int → Int) → Int → Int → (Int → Int) → (Int → Int) → Int → (Int → Int) → Int → (Int → Int) → Int → (Int → Int) → (Int → Int) → (Int → Int) → Prop} {f_constants : Nat → Int64} {f_blanks : Nat → Int32} {f_counts : Nat → Int32} {f_points : Nat → Int32} {f_kept : Int32} {f_trial : Nat → Int32} {f_row : Nat → Int32} {f_names : Nat → Int32} {f_namedBlanks : Int32} {f_form : Nat → Int32} {f_formCount : Int32} {f_octets : Nat → Int32} {f_thrown : Int32} (X : kX p s m args meth c cX47_makeHashes 5 RX47 none (dC, dI) cl (tX47 d)) {K186 : (Int → Int) → (Int → Int) → Int → (Int → Int) → Int → (Int → Int) → Int → (Int → Int) → (Int → Int) → (Int → Int) → Prop} {x1 : Int32} {f_hashed : Int32} {f_groups : Nat → Int32} {f_groupOf : Nat → Int32} {f_groupCount : Int32} (hk186 : ∀ (f_hashes : Nat → Int64) (f_news : Nat → Int64) (f_rounds : Int32) (f_descriptions : Nat → Int32) (f_described : Int32) (f_message : Nat → Int32) (f_size : Int32) (f_words : Nat → Int64) (f_schedule : Nat → Int64) (f_said : Nat → Int32), K186 (zG f_hashes) (zG f_news) f_rounds.toInt (zF f_descriptions) f_described.toInt (zF f_message) f_size.toInt (zG f_words) (zG f_schedule) (zF f_said) → ∀ (H : Heap) (locs : List Loc) (ls : Array Slot), kH (dC, dI) cl A s.heap H locs (wX47 ci ad d f_constants f_blanks f_counts f_points f_kept f_hashes f_news f_rounds f_hashed f_groups f_groupOf f_groupCount f_trial f_row f_names f_namedBlanks f_form f_formCount f_octets f_descriptions f_described f_message f_size f_words f_schedule f_thrown f_said) → lv_has ls 5 [(0, .ref (ad 0)), (1, .int x1)] → W p l e ({ frames := 4, cells := 0, slots := 0, locals := 111 } : Room) s m args below meth c H locs 0 0 (MQ below (va_Qv (fun (u : (Nat → Int64) × (Nat → Int64) × Int32 × Int32 × (Nat → Int32) × (Nat → Int32) × Int32 × (Nat → Int32) × Int32 × (Nat → Int32) × Int32 × (Nat → Int64) × (Nat → Int64) × (Nat → Int32)) => post (zG (u.1)) (zG (u.2.1)) (u.2.2.1).toInt (u.2.2.2.1).toInt (zF (u.2.2.2.2.1)) (zF (u.2.2.2.2.2.1)) (u.2.2.2.2.2.2.1).toInt (zF (u.2.2.2.2.2.2.2.1)) (u.2.2.2.2.2.2.2.2.1).toInt (zF (u.2.2.2.2.2.2.2.2.2.1)) (u.2.2.2.2.2.2.2.2.2.2.1).toInt (zG (u.2.2.2.2.2.2.2.2.2.2.2.1)) (zG (u.2.2.2.2.2.2.2.2.2.2.2.2.1)) (zF (u.2.2.2.2.2.2.2.2.2.2.2.2.2))) (kB (dC, dI) cl (tX47 d) A (fun u : (Nat → Int64) × (Nat → Int64) × Int32 × Int32 × (Nat → Int32) × (Nat → Int32) × Int32 × (Nat → Int32) × Int32 × (Nat → Int32) × Int32 × (Nat → Int64) × (Nat → Int64) × (Nat → Int32) => (wX47 ci ad d f_constants f_blanks f_counts f_points f_kept (u.1) (u.2.1) (u.2.2.1) (u.2.2.2.1) (u.2.2.2.2.1) (u.2.2.2.2.2.1) (u.2.2.2.2.2.2.1) f_trial f_row f_names f_namedBlanks f_form f_formCount f_octets (u.2.2.2.2.2.2.2.1) (u.2.2.2.2.2.2.2.2.1) (u.2.2.2.2.2.2.2.2.2.1) (u.2.2.2.2.2.2.2.2.2.2.1) (u.2.2.2.2.2.2.2.2.2.2.2.1) (u.2.2.2.2.2.2.2.2.2.2.2.2.1) f_thrown (u.2.2.2.2.2.2.2.2.2.2.2.2.2)))) A) args s 0 0 A) (F0 m 186 ls [])) :
    ∀ (nn : Nat) (x2 : Int32) (f_hashes : Nat → Int64) (f_news : Nat → Int64) (f_rounds : Int32) (f_descriptions : Nat → Int32) (f_described : Int32) (f_message : Nat → Int32) (f_size : Int32) (f_words : Nat → Int64) (f_schedule : Nat → Int64) (f_said : Nat → Int32), wX47_makeHashes_72 K186 x1.toInt (zG f_constants) (zF f_blanks) (zF f_counts) (zF f_points) nn x2.toInt (zG f_hashes) (zG f_news) f_rounds.toInt (zF f_descriptions) f_described.toInt (zF f_message) f_size.toInt (zG f_words) (zG f_schedule) (zF f_said) → ∀ (H : Heap) (locs : List Loc) (ls : Array Slot), kH (dC, dI) cl A s.heap H locs (wX47 ci ad d f_constants f_blanks f_counts f_points f_kept f_hashes f_news f_rounds f_hashed f_groups f_groupOf f_groupCount f_trial f_row f_names f_namedBlanks f_form f_formCount f_octets f_descriptions f_described f_message f_size f_words f_schedule f_thrown f_said) → lv_has ls 5 [(0, .ref (ad 0)), (1, .int x1), (2, .int x2)] → W p l e ({ frames := 4, cells := 0, slots := 0, locals := 111 } : Room) s m args below meth c H locs 0 0 (MQ below (va_Qv (fun (u : (Nat → Int64) × (Nat → Int64) × Int32 × Int32 × (Nat → Int32) × (Nat → Int32) × Int32 × (Nat → Int32) × Int32 × (Nat → Int32) × Int32 × (Nat → Int64) × (Nat → Int64) × (Nat → Int32)) => post (zG (u.1)) (zG (u.2.1)) (u.2.2.1).toInt (u.2.2.2.1).toInt (zF (u.2.2.2.2.1)) (zF (u.2.2.2.2.2.1)) (u.2.2.2.2.2.2.1).toInt (zF (u.2.2.2.2.2.2.2.1)) (u.2.2.2.2.2.2.2.2.1).toInt (zF (u.2.2.2.2.2.2.2.2.2.1)) (u.2.2.2.2.2.2.2.2.2.2.1).toInt (zG (u.2.2.2.2.2.2.2.2.2.2.2.1)) (zG (u.2.2.2.2.2.2.2.2.2.2.2.2.1)) (zF (u.2.2.2.2.2.2.2.2.2.2.2.2.2))) (kB (dC, dI) cl (tX47 d) A (fun u : (Nat → Int64) × (Nat → Int64) × Int32 × Int32 × (Nat → Int32) × (Nat → Int32) × Int32 × (Nat → Int32) × Int32 × (Nat → Int32) × Int32 × (Nat → Int64) × (Nat → Int64) × (Nat → Int32) => (wX47 ci ad d f_constants f_blanks f_counts f_points f_kept (u.1) (u.2.1) (u.2.2.1) (u.2.2.2.1) (u.2.2.2.2.1) (u.2.2.2.2.2.1) (u.2.2.2.2.2.2.1) f_trial f_row f_names f_namedBlanks f_form f_formCount f_octets (u.2.2.2.2.2.2.2.1) (u.2.2.2.2.2.2.2.2.1) (u.2.2.2.2.2.2.2.2.2.1) (u.2.2.2.2.2.2.2.2.2.2.1) (u.2.2.2.2.2.2.2.2.2.2.2.1) (u.2.2.2.2.2.2.2.2.2.2.2.2.1) f_thrown (u.2.2.2.2.2.2.2.2.2.2.2.2.2)))) A) args s 0 0 A) (F0 m 72 ls []) := by
  have hx := X.1.1
  have hb := X.1.2.1
  intro nn
  induction nn with
  | zero =>
    intro x2 f_hashes f_news f_rounds f_descriptions f_described f_message f_size f_words f_schedule f_said hw
    exact False.elim hw
  | succ n ih =>
    intro x2 f_hashes f_news f_rounds f_descriptions f_described f_message f_size f_words f_schedule f_said hw H locs ls hH hl
    rw [wX47_makeHashes_72] at hw
    refine lv_iload_n hx hb dX47_makeHashes_72 rfl (lv_at hl 2 rfl) ?_
    refine lv_if_eq (tgt := 186) hx hb dX47_makeHashes_73 (by decide) (fun c_23 => ?_) (fun c_23 => ?_)
    · have hw := hw.1 (z_eq (rfl : x2.toInt = _) (rfl : (0 : Int32).toInt = 0) c_23)
      exact hk186 f_hashes f_news f_rounds f_descriptions f_described f_message f_size f_words f_schedule f_said hw _ _ ls hH (lv_sub hl [0, 1] rfl)
    · have hw := hw.2 (z_neq (rfl : x2.toInt = _) (rfl : (0 : Int32).toInt = 0) c_23)
      refine lv_iconst (v := 1) hx hb dX47_makeHashes_76 (by decide) ?_
      refine lv_istore_n (lv' := [(3, .int 1), (0, .ref (ad 0)), (1, .int x1), (2, .int x2)]) hx hb dX47_makeHashes_77 rfl hl (by decide) rfl (fun ls hl => ?_)
      obtain ⟨fu, hw⟩ := hw
      refine atX47_makeHashes_78 hc X ?_ fu 1 f_news f_descriptions f_described f_message f_size f_words f_schedule f_said hw _ _ ls hH (lv_sub hl [1, 2, 0] rfl)
      · intro f_news_35 f_descriptions_36 f_described_37 f_message_38 f_size_39 f_words_40 f_schedule_41 f_said_42 hw H locs ls hH hl
        refine lv_aload_n hx hb dX47_makeHashes_94 rfl (lv_at hl 0 rfl) ?_
        refine lv_dup hx hb dX47_makeHashes_95 rfl ?_
        refine k_get X hH in_X47 0 rfl hc 7 (by decide) q5991 rfl dX47_makeHashes_96 ?_
        refine lv_iconst (v := 1) hx hb dX47_makeHashes_99 (by decide) ?_
        refine lv_iadd hx hb dX47_makeHashes_100 ?_
        have e_43 := z_add (z_m (rfl : f_rounds.toInt = _)) (z_m (rfl : (1 : Int32).toInt = 1))
        have hq_44 := hw.1
        have hw := hw.2
        have e_45 := z_x e_43 hq_44
        refine lv_topi (fun f_rounds_46 ef_rounds_46 => ?_)
        have hw := hw f_rounds_46.toInt (by rw [ef_rounds_46]; exact e_45)
        refine k_put X hH in_X47 tyX47_ok nmX47 0 rfl hc 7 (by decide) q5991 rfl (ty := .int) rfl rfl rfl (Nat.le_of_ble_eq_true rfl) dX47_makeHashes_101 (ws1 := (wX47 ci ad d f_constants f_blanks f_counts f_points f_kept f_hashes f_news_35 f_rounds_46 f_hashed f_groups f_groupOf f_groupCount f_trial f_row f_names f_namedBlanks f_form f_formCount f_octets f_descriptions_36 f_described_37 f_message_38 f_size_39 f_words_40 f_schedule_41 f_thrown f_said_42)) rfl (fun H locs hH => ?_)
        refine lv_iload_n hx hb dX47_makeHashes_104 rfl (lv_at hl 1 rfl) ?_
        refine lv_iconst (v := 2) hx hb dX47_makeHashes_105 (by decide) ?_
        refine lv_icmp_lt (tgt := 128) hx hb dX47_makeHashes_106 (by decide) (fun c_47 => ?_) (fun c_47 => ?_)
        · have hw := hw.1 (z_lt (rfl : x1.toInt = _) (rfl : (2 : Int32).toInt = 2) c_47)
          refine lv_iconst (v := 1) hx hb dX47_makeHashes_128 (by decide) ?_
          refine lv_goto (tgt := 133) hx hb dX47_makeHashes_129 (by decide) ?_
          refine lv_istore_n (lv' := [(3, .int 1), (0, .ref (ad 0)), (1, .int x1)]) hx hb dX47_makeHashes_133 rfl hl (by decide) rfl (fun ls hl => ?_)
          refine lv_iconst (v := 0) hx hb dX47_makeHashes_134 (by decide) ?_
          refine lv_istore (lv' := [(4, .int 0), (3, .int 1), (0, .ref (ad 0)), (1, .int x1)]) hx hb dX47_makeHashes_135 hl (by decide) rfl (fun ls hl => ?_)
          obtain ⟨fu, hw⟩ := hw
          refine atX47_makeHashes_137 hc X ?_ fu 0 f_hashes hw _ _ ls hH (lv_sub hl [2, 3, 1, 0] rfl)
          · intro f_hashes_56 hw H locs ls hH hl
            exact atX47_makeHashes_168 hc X (fun x2 f_hashes f_news f_rounds f_descriptions f_described f_message f_size f_words f_schedule f_said hw H locs ls hH hl => ih x2 f_hashes f_news f_rounds f_descriptions f_described f_message f_size f_words f_schedule f_said hw _ _ ls hH (lv_sub hl [0, 1, 2] rfl)) 1 f_hashes_56 f_news_35 f_rounds_46 f_descriptions_36 f_described_37 f_message_38 f_size_39 f_words_40 f_schedule_41 f_said_42 hw _ _ ls hH (lv_sub hl [0, 1, 2] rfl)
        · have hw := hw.2 (z_nlt (rfl : x1.toInt = _) (rfl : (2 : Int32).toInt = 2) c_47)
          refine lv_aload_n hx hb dX47_makeHashes_109 rfl (lv_at hl 0 rfl) ?_
          refine lv_aload_n hx hb dX47_makeHashes_110 rfl (lv_at hl 0 rfl) ?_
          refine k_get X hH in_X47 0 rfl hc 6 (by decide) q5990 rfl dX47_makeHashes_111 ?_
          refine k_i0 hH (k_runV (As := [.ref (ad 6)]) (rest := []) X hH.1 hH.2.1 X.2.2.2 (walkX47_different_news hc (f_constants := f_constants) (f_blanks := f_blanks) (f_counts := f_counts) (f_points := f_points) (f_kept := f_kept) (f_hashes := f_hashes) (f_news := f_news_35) (f_rounds := f_rounds_46) (f_hashed := f_hashed) (f_groups := f_groups) (f_groupOf := f_groupOf) (f_groupCount := f_groupCount) (f_trial := f_trial) (f_row := f_row) (f_names := f_names) (f_namedBlanks := f_namedBlanks) (f_form := f_form) (f_formCount := f_formCount) (f_octets := f_octets) (f_descriptions := f_descriptions_36) (f_described := f_described_37) (f_message := f_message_38) (f_size := f_size_39) (f_words := f_words_40) (f_schedule := f_schedule_41) (f_thrown := f_thrown) (f_said := f_said_42) hw) (cwV 1 X.1.2.2.2.2 gX47_284 rfl rfl rfl hX47_different ⟨Nat.le_of_ble_eq_true rfl, Nat.le_of_ble_eq_true rfl⟩) hc (q0 := 0) rfl rfl hl.1 rfl (Nat.le_of_ble_eq_true rfl) dX47_makeHashes_114 ⟨Nat.le_refl 0, Nat.le_refl 0⟩) (fun r_59 _ H locs hw hH => ?_)
          have hH : kH (dC, dI) cl A s.heap H locs (wX47 ci ad d f_constants f_blanks f_counts f_points f_kept f_hashes f_news_35 f_rounds_46 f_hashed f_groups f_groupOf f_groupCount f_trial f_row f_names f_namedBlanks f_form f_formCount f_octets f_descriptions_36 f_described_37 f_message_38 f_size_39 f_words_40 f_schedule_41 f_thrown f_said_42) := hH
          refine lv_aload_n hx hb dX47_makeHashes_117 rfl (lv_at hl 0 rfl) ?_
          refine lv_aload_n hx hb dX47_makeHashes_118 rfl (lv_at hl 0 rfl) ?_
          refine k_get X hH in_X47 0 rfl hc 5 (by decide) q5989 rfl dX47_makeHashes_119 ?_
          refine k_i0 hH (k_runV (As := [.ref (ad 5)]) (rest := [.int r_59]) X hH.1 hH.2.1 X.2.2.2 (walkX47_different_hashes hc (f_constants := f_constants) (f_blanks := f_blanks) (f_counts := f_counts) (f_points := f_points) (f_kept := f_kept) (f_hashes := f_hashes) (f_news := f_news_35) (f_rounds := f_rounds_46) (f_hashed := f_hashed) (f_groups := f_groups) (f_groupOf := f_groupOf) (f_groupCount := f_groupCount) (f_trial := f_trial) (f_row := f_row) (f_names := f_names) (f_namedBlanks := f_namedBlanks) (f_form := f_form) (f_formCount := f_formCount) (f_octets := f_octets) (f_descriptions := f_descriptions_36) (f_described := f_described_37) (f_message := f_message_38) (f_size := f_size_39) (f_words := f_words_40) (f_schedule := f_schedule_41) (f_thrown := f_thrown) (f_said := f_said_42) hw) (cwV 1 X.1.2.2.2.2 gX47_284 rfl rfl rfl hX47_different ⟨Nat.le_of_ble_eq_true rfl, Nat.le_of_ble_eq_true rfl⟩) hc (q0 := 0) rfl rfl hl.1 rfl (Nat.le_of_ble_eq_true rfl) dX47_makeHashes_122 ⟨Nat.le_refl 0, Nat.le_refl 0⟩) (fun r_60 _ H locs hw hH => ?_)
          have hH : kH (dC, dI) cl A s.heap H locs (wX47 ci ad d f_constants f_blanks f_counts f_points f_kept f_hashes f_news_35 f_rounds_46 f_hashed f_groups f_groupOf f_groupCount f_trial f_row f_names f_namedBlanks f_form f_formCount f_octets f_descriptions_36 f_described_37 f_message_38 f_size_39 f_words_40 f_schedule_41 f_thrown f_said_42) := hH
          refine lv_icmp_le (tgt := 132) hx hb dX47_makeHashes_125 (by decide) (fun c_61 => ?_) (fun c_61 => ?_)
          · have hw := hw.1 (z_le (rfl : r_59.toInt = _) (rfl : r_60.toInt = _) c_61)
            refine lv_iconst (v := 0) hx hb dX47_makeHashes_132 (by decide) ?_
            refine lv_istore_n (lv' := [(3, .int 0), (0, .ref (ad 0)), (1, .int x1)]) hx hb dX47_makeHashes_133 rfl hl (by decide) rfl (fun ls hl => ?_)
            refine lv_iconst (v := 0) hx hb dX47_makeHashes_134 (by decide) ?_
            refine lv_istore (lv' := [(4, .int 0), (3, .int 0), (0, .ref (ad 0)), (1, .int x1)]) hx hb dX47_makeHashes_135 hl (by decide) rfl (fun ls hl => ?_)
            obtain ⟨fu, hw⟩ := hw
            refine atX47_makeHashes_137 hc X ?_ fu 0 f_hashes hw _ _ ls hH (lv_sub hl [2, 3, 1, 0] rfl)
            · intro f_hashes_62 hw H locs ls hH hl
              exact atX47_makeHashes_168 hc X (fun x2 f_hashes f_news f_rounds f_descriptions f_described f_message f_size f_words f_schedule f_said hw H locs ls hH hl => ih x2 f_hashes f_news f_rounds f_descriptions f_described f_message f_size f_words f_schedule f_said hw _ _ ls hH (lv_sub hl [0, 1, 2] rfl)) 0 f_hashes_62 f_news_35 f_rounds_46 f_descriptions_36 f_described_37 f_message_38 f_size_39 f_words_40 f_schedule_41 f_said_42 hw _ _ ls hH (lv_sub hl [0, 1, 2] rfl)
          · have hw := hw.2 (z_nle (rfl : r_59.toInt = _) (rfl : r_60.toInt = _) c_61)
            refine lv_iconst (v := 1) hx hb dX47_makeHashes_128 (by decide) ?_
            refine lv_goto (tgt := 133) hx hb dX47_makeHashes_129 (by decide) ?_
            refine lv_istore_n (lv' := [(3, .int 1), (0, .ref (ad 0)), (1, .int x1)]) hx hb dX47_makeHashes_133 rfl hl (by decide) rfl (fun ls hl => ?_)
            refine lv_iconst (v := 0) hx hb dX47_makeHashes_134 (by decide) ?_
            refine lv_istore (lv' := [(4, .int 0), (3, .int 1), (0, .ref (ad 0)), (1, .int x1)]) hx hb dX47_makeHashes_135 hl (by decide) rfl (fun ls hl => ?_)
            obtain ⟨fu, hw⟩ := hw
            refine atX47_makeHashes_137 hc X ?_ fu 0 f_hashes hw _ _ ls hH (lv_sub hl [2, 3, 1, 0] rfl)
            · intro f_hashes_63 hw H locs ls hH hl
              exact atX47_makeHashes_168 hc X (fun x2 f_hashes f_news f_rounds f_descriptions f_described f_message f_size f_words f_schedule f_said hw H locs ls hH hl => ih x2 f_hashes f_news f_rounds f_descriptions f_described f_message f_size f_words f_schedule f_said hw _ _ ls hH (lv_sub hl [0, 1, 2] rfl)) 1 f_hashes_63 f_news_35 f_rounds_46 f_descriptions_36 f_described_37 f_message_38 f_size_39 f_words_40 f_schedule_41 f_said_42 hw _ _ ls hH (lv_sub hl [0, 1, 2] rfl)
set_option maxHeartbeats 4000000 in
theorem walkX47_makeHashes {l : Launch} {dC : Nat → ClassId} {dI : Nat → Nat → Nat} {cl : List vw_C} {ci : Nat} (hc : cl[ci]? = some (RX47, TX47, 27)) {ad : Nat → Nat} {d : Nat → ClassId} {sz : Nat} {f_constants : Nat → Int64} {f_blanks : Nat → Int32} {f_counts : Nat → Int32} {f_points : Nat → Int32} {f_kept : Int32} {f_hashes : Nat → Int64} {f_news : Nat → Int64} {f_rounds : Int32} {f_hashed : Int32} {f_groups : Nat → Int32} {f_groupOf : Nat → Int32} {f_groupCount : Int32} {f_trial : Nat → Int32} {f_row : Nat → Int32} {f_names : Nat → Int32} {f_namedBlanks : Int32} {f_form : Nat → Int32} {f_formCount : Int32} {f_octets : Nat → Int32} {f_descriptions : Nat → Int32} {f_described : Int32} {f_message : Nat → Int32} {f_size : Int32} {f_words : Nat → Int64} {f_schedule : Nat → Int64} {f_thrown : Int32} {f_said : Nat → Int32}  {post : (Int → Int) → (Int → Int) → Int → Int → (Int → Int) → (Int → Int) → Int → (Int → Int) → Int → (Int → Int) → Int → (Int → Int) → (Int → Int) → (Int → Int) → Prop} (hw : wpX47_makeHashes post (zG f_constants) (zF f_blanks) (zF f_counts) (zF f_points) (zG f_hashes) (zG f_news) f_rounds.toInt f_hashed.toInt (zF f_groups) (zF f_groupOf) f_groupCount.toInt (zF f_descriptions) f_described.toInt (zF f_message) f_size.toInt (zG f_words) (zG f_schedule) (zF f_said) ) :
    Met l yX47_makeHashes (ws_ yX47_makeHashes cX47_makeHashes 5 none) ({ frames := 4, cells := 0, slots := 0, locals := 111 } : Room) (kPc (dC, dI) cl (tX47 d) [.ref (ad 0)] sz (wX47 ci ad d f_constants f_blanks f_counts f_points f_kept f_hashes f_news f_rounds f_hashed f_groups f_groupOf f_groupCount f_trial f_row f_names f_namedBlanks f_form f_formCount f_octets f_descriptions f_described f_message f_size f_words f_schedule f_thrown f_said)) (va_Qv (fun (u : (Nat → Int64) × (Nat → Int64) × Int32 × Int32 × (Nat → Int32) × (Nat → Int32) × Int32 × (Nat → Int32) × Int32 × (Nat → Int32) × Int32 × (Nat → Int64) × (Nat → Int64) × (Nat → Int32)) => post (zG (u.1)) (zG (u.2.1)) (u.2.2.1).toInt (u.2.2.2.1).toInt (zF (u.2.2.2.2.1)) (zF (u.2.2.2.2.2.1)) (u.2.2.2.2.2.2.1).toInt (zF (u.2.2.2.2.2.2.2.1)) (u.2.2.2.2.2.2.2.2.1).toInt (zF (u.2.2.2.2.2.2.2.2.2.1)) (u.2.2.2.2.2.2.2.2.2.2.1).toInt (zG (u.2.2.2.2.2.2.2.2.2.2.2.1)) (zG (u.2.2.2.2.2.2.2.2.2.2.2.2.1)) (zF (u.2.2.2.2.2.2.2.2.2.2.2.2.2))) (kB (dC, dI) cl (tX47 d) (va_A (wX47 ci ad d f_constants f_blanks f_counts f_points f_kept f_hashes f_news f_rounds f_hashed f_groups f_groupOf f_groupCount f_trial f_row f_names f_namedBlanks f_form f_formCount f_octets f_descriptions f_described f_message f_size f_words f_schedule f_thrown f_said) sz) (fun u : (Nat → Int64) × (Nat → Int64) × Int32 × Int32 × (Nat → Int32) × (Nat → Int32) × Int32 × (Nat → Int32) × Int32 × (Nat → Int32) × Int32 × (Nat → Int64) × (Nat → Int64) × (Nat → Int32) => (wX47 ci ad d f_constants f_blanks f_counts f_points f_kept (u.1) (u.2.1) (u.2.2.1) (u.2.2.2.1) (u.2.2.2.2.1) (u.2.2.2.2.2.1) (u.2.2.2.2.2.2.1) f_trial f_row f_names f_namedBlanks f_form f_formCount f_octets (u.2.2.2.2.2.2.2.1) (u.2.2.2.2.2.2.2.2.1) (u.2.2.2.2.2.2.2.2.2.1) (u.2.2.2.2.2.2.2.2.2.2.1) (u.2.2.2.2.2.2.2.2.2.2.2.1) (u.2.2.2.2.2.2.2.2.2.2.2.2.1) f_thrown (u.2.2.2.2.2.2.2.2.2.2.2.2.2)))) (va_A (wX47 ci ad d f_constants f_blanks f_counts f_points f_kept f_hashes f_news f_rounds f_hashed f_groups f_groupOf f_groupCount f_trial f_row f_names f_namedBlanks f_form f_formCount f_octets f_descriptions f_described f_message f_size f_words f_schedule f_thrown f_said) sz)) 0 0 (va_A (wX47 ci ad d f_constants f_blanks f_counts f_points f_kept f_hashes f_news f_rounds f_hashed f_groups f_groupOf f_groupCount f_trial f_row f_names f_namedBlanks f_form f_formCount f_octets f_descriptions f_described f_message f_size f_words f_schedule f_thrown f_said) sz) := by
  refine k_enter (by decide) (Nat.le_of_ble_eq_true rfl) ?_
  intro p e s m below meth c ls X hsz hH hl
  subst hsz
  generalize va_A (wX47 ci ad d f_constants f_blanks f_counts f_points f_kept f_hashes f_news f_rounds f_hashed f_groups f_groupOf f_groupCount f_trial f_row f_names f_namedBlanks f_form f_formCount f_octets f_descriptions f_described f_message f_size f_words f_schedule f_thrown f_said) s.heap.size = A at hH ⊢
  have hx := X.1.1
  have hb := X.1.2.1
  have hl : lv_has ls 5 [(0, .ref (ad 0))] := hl
  unfold wpX47_makeHashes at hw
  refine lv_aload_n hx hb dX47_makeHashes_0 rfl (lv_at hl 0 rfl) ?_
  refine k_get X hH in_X47 0 rfl hc 8 (by decide) q5992 rfl dX47_makeHashes_1 ?_
  refine lv_if_eq (tgt := 8) hx hb dX47_makeHashes_4 (by decide) (fun c_1 => ?_) (fun c_1 => ?_)
  · have hw := hw.1 (z_eq (rfl : f_hashed.toInt = _) (rfl : (0 : Int32).toInt = 0) c_1)
    refine lv_aload_n hx hb dX47_makeHashes_8 rfl (lv_at hl 0 rfl) ?_
    refine k_get X hH in_X47 0 rfl hc 1 (by decide) q5985 rfl dX47_makeHashes_9 ?_
    refine lv_bipush (v := 8) hx hb dX47_makeHashes_12 (by decide) ?_
    refine k_iald X hH 2 1 rfl rfl (by unfold vp_in; decide) dX47_makeHashes_14 ?_
    have e_2 := z_ld (f := f_blanks) (rfl : (8 : Int32).toInt = 8) (by decide)
    refine lv_topi (fun x1_3 ex1_3 => ?_)
    have hw := hw x1_3.toInt (by rw [ex1_3]; exact e_2)
    refine lv_istore_n (lv' := [(1, .int x1_3), (0, .ref (ad 0))]) hx hb dX47_makeHashes_15 rfl hl (by decide) rfl (fun ls hl => ?_)
    refine lv_aload_n hx hb dX47_makeHashes_16 rfl (lv_at hl 1 rfl) ?_
    refine lv_iconst (v := 0) hx hb dX47_makeHashes_17 (by decide) ?_
    refine k_v0 hH (k_runV (As := [.int 0]) (rest := []) X hH.1 hH.2.1 X.2.2.2 (walkX47_digestOf hc (x1 := 0) (f_constants := f_constants) (f_blanks := f_blanks) (f_counts := f_counts) (f_points := f_points) (f_kept := f_kept) (f_hashes := f_hashes) (f_news := f_news) (f_rounds := f_rounds) (f_hashed := f_hashed) (f_groups := f_groups) (f_groupOf := f_groupOf) (f_groupCount := f_groupCount) (f_trial := f_trial) (f_row := f_row) (f_names := f_names) (f_namedBlanks := f_namedBlanks) (f_form := f_form) (f_formCount := f_formCount) (f_octets := f_octets) (f_descriptions := f_descriptions) (f_described := f_described) (f_message := f_message) (f_size := f_size) (f_words := f_words) (f_schedule := f_schedule) (f_thrown := f_thrown) (f_said := f_said) hw) (cwV 1 X.1.2.2.2.2 gX47_199 rfl rfl rfl hX47_digestOf ⟨Nat.le_of_ble_eq_true rfl, Nat.le_of_ble_eq_true rfl⟩) hc (q0 := 0) rfl rfl hl.1 rfl (Nat.le_of_ble_eq_true rfl) dX47_makeHashes_18 ⟨Nat.le_refl 0, Nat.le_refl 0⟩) (fun u H locs hw hH => ?_)
    obtain ⟨f_message_4, f_words_5, f_schedule_6⟩ := u
    have hH : kH (dC, dI) cl A s.heap H locs (wX47 ci ad d f_constants f_blanks f_counts f_points f_kept f_hashes f_news f_rounds f_hashed f_groups f_groupOf f_groupCount f_trial f_row f_names f_namedBlanks f_form f_formCount f_octets f_descriptions f_described f_message_4 f_size f_words_5 f_schedule_6 f_thrown f_said) := hH
    refine lv_iconst (v := 1) hx hb dX47_makeHashes_21 (by decide) ?_
    refine lv_istore_n (lv' := [(2, .int 1), (1, .int x1_3), (0, .ref (ad 0))]) hx hb dX47_makeHashes_22 rfl hl (by decide) rfl (fun ls hl => ?_)
    obtain ⟨fu, hw⟩ := hw
    refine atX47_makeHashes_23 hc X ?_ fu 1 f_hashes hw _ _ ls hH (lv_sub hl [2, 1, 0] rfl)
    · intro f_hashes_22 hw H locs ls hH hl
      refine lv_aload_n hx hb dX47_makeHashes_65 rfl (lv_at hl 0 rfl) ?_
      refine lv_iconst (v := 0) hx hb dX47_makeHashes_66 (by decide) ?_
      refine k_put X hH in_X47 tyX47_ok nmX47 0 rfl hc 7 (by decide) q5991 rfl (ty := .int) rfl rfl rfl (Nat.le_of_ble_eq_true rfl) dX47_makeHashes_67 (ws1 := (wX47 ci ad d f_constants f_blanks f_counts f_points f_kept f_hashes_22 f_news 0 f_hashed f_groups f_groupOf f_groupCount f_trial f_row f_names f_namedBlanks f_form f_formCount f_octets f_descriptions f_described f_message_4 f_size f_words_5 f_schedule_6 f_thrown f_said)) rfl (fun H locs hH => ?_)
      refine lv_iconst (v := 1) hx hb dX47_makeHashes_70 (by decide) ?_
      refine lv_istore_n (lv' := [(2, .int 1), (0, .ref (ad 0)), (1, .int x1_3)]) hx hb dX47_makeHashes_71 rfl hl (by decide) rfl (fun ls hl => ?_)
      obtain ⟨fu, hw⟩ := hw
      refine atX47_makeHashes_72 hc X ?_ fu 1 f_hashes_22 f_news 0 f_descriptions f_described f_message_4 f_size f_words_5 f_schedule_6 f_said hw _ _ ls hH (lv_sub hl [1, 2, 0] rfl)
      · intro f_hashes_64 f_news_65 f_rounds_66 f_descriptions_67 f_described_68 f_message_69 f_size_70 f_words_71 f_schedule_72 f_said_73 hw H locs ls hH hl
        refine lv_aload_n hx hb dX47_makeHashes_186 rfl (lv_at hl 0 rfl) ?_
        refine lv_iload_n hx hb dX47_makeHashes_187 rfl (lv_at hl 1 rfl) ?_
        refine k_v0 hH (k_runV (As := [.int x1_3]) (rest := []) X hH.1 hH.2.1 X.2.2.2 (walkX47_makeGroups hc (x1 := x1_3) (f_constants := f_constants) (f_blanks := f_blanks) (f_counts := f_counts) (f_points := f_points) (f_kept := f_kept) (f_hashes := f_hashes_64) (f_news := f_news_65) (f_rounds := f_rounds_66) (f_hashed := f_hashed) (f_groups := f_groups) (f_groupOf := f_groupOf) (f_groupCount := f_groupCount) (f_trial := f_trial) (f_row := f_row) (f_names := f_names) (f_namedBlanks := f_namedBlanks) (f_form := f_form) (f_formCount := f_formCount) (f_octets := f_octets) (f_descriptions := f_descriptions_67) (f_described := f_described_68) (f_message := f_message_69) (f_size := f_size_70) (f_words := f_words_71) (f_schedule := f_schedule_72) (f_thrown := f_thrown) (f_said := f_said_73) hw) (cwV 1 X.1.2.2.2.2 gX47_288 rfl rfl rfl hX47_makeGroups ⟨Nat.le_of_ble_eq_true rfl, Nat.le_of_ble_eq_true rfl⟩) hc (q0 := 0) rfl rfl hl.1 rfl (Nat.le_of_ble_eq_true rfl) dX47_makeHashes_188 ⟨Nat.le_refl 0, Nat.le_refl 0⟩) (fun u H locs hw hH => ?_)
        obtain ⟨f_groups_74, f_groupOf_75, f_groupCount_76⟩ := u
        have hH : kH (dC, dI) cl A s.heap H locs (wX47 ci ad d f_constants f_blanks f_counts f_points f_kept f_hashes_64 f_news_65 f_rounds_66 f_hashed f_groups_74 f_groupOf_75 f_groupCount_76 f_trial f_row f_names f_namedBlanks f_form f_formCount f_octets f_descriptions_67 f_described_68 f_message_69 f_size_70 f_words_71 f_schedule_72 f_thrown f_said_73) := hH
        refine lv_aload_n hx hb dX47_makeHashes_191 rfl (lv_at hl 0 rfl) ?_
        refine lv_iconst (v := 1) hx hb dX47_makeHashes_192 (by decide) ?_
        refine k_put X hH in_X47 tyX47_ok nmX47 0 rfl hc 8 (by decide) q5992 rfl (ty := .boolean) rfl rfl rfl (Nat.le_of_ble_eq_true rfl) dX47_makeHashes_193 (ws1 := (wX47 ci ad d f_constants f_blanks f_counts f_points f_kept f_hashes_64 f_news_65 f_rounds_66 1 f_groups_74 f_groupOf_75 f_groupCount_76 f_trial f_row f_names f_namedBlanks f_form f_formCount f_octets f_descriptions_67 f_described_68 f_message_69 f_size_70 f_words_71 f_schedule_72 f_thrown f_said_73)) rfl (fun H locs hH => ?_)
        exact k_vret X hH (f_hashes_64, f_news_65, f_rounds_66, 1, f_groups_74, f_groupOf_75, f_groupCount_76, f_descriptions_67, f_described_68, f_message_69, f_size_70, f_words_71, f_schedule_72, f_said_73) hw rfl dX47_makeHashes_196
  · have hw := hw.2 (z_neq (rfl : f_hashed.toInt = _) (rfl : (0 : Int32).toInt = 0) c_1)
    exact k_vret X hH (f_hashes, f_news, f_rounds, f_hashed, f_groups, f_groupOf, f_groupCount, f_descriptions, f_described, f_message, f_size, f_words, f_schedule, f_said) hw rfl dX47_makeHashes_7
set_option maxHeartbeats 4000000 in
theorem atX47_namings_48 {p : Program} {l : Launch} {e : Env} {s : State} {m : MethodId} {args : Array Value} {below : List Frame} {meth : Method} {c : Code} {dC : Nat → ClassId} {dI : Nat → Nat → Nat} {cl : List vw_C} {ci : Nat} (hc : cl[ci]? = some (RX47, TX47, 27)) {ad : Nat → Nat} {d : Nat → ClassId} {A : Nat → Prop} {post : Int → Prop} {f_constants : Nat → Int64} {f_blanks : Nat → Int32} {f_counts : Nat → Int32} {f_points : Nat → Int32} {f_kept : Int32} {f_hashes : Nat → Int64} {f_news : Nat → Int64} {f_rounds : Int32} {f_hashed : Int32} {f_groups : Nat → Int32} {f_groupOf : Nat → Int32} {f_groupCount : Int32} {f_trial : Nat → Int32} {f_row : Nat → Int32} {f_names : Nat → Int32} {f_namedBlanks : Int32} {f_form : Nat → Int32} {f_formCount : Int32} {f_octets : Nat → Int32} {f_descriptions : Nat → Int32} {f_described : Int32} {f_message : Nat → Int32} {f_size : Int32} {f_words : Nat → Int64} {f_schedule : Nat → Int64} {f_thrown : Int32} {f_said : Nat → Int32} (X : kX p s m args meth c cX47_namings 6 RX47 (some .long) (dC, dI) cl (tX47 d)) {K18 : Int → Int → Int → Prop} {x3 : Int32}  (hk18 : ∀ (x1 : Int64) (x4 : Int32) (x5 : Int32), K18 x1.toInt x4.toInt x5.toInt → ∀ (H : Heap) (locs : List Loc) (ls : Array Slot), kH (dC, dI) cl A s.heap H locs (wX47 ci ad d f_constants f_blanks f_counts f_points f_kept f_hashes f_news f_rounds f_hashed f_groups f_groupOf f_groupCount f_trial f_row f_names f_namedBlanks f_form f_formCount f_octets f_descriptions f_described f_message f_size f_words f_schedule f_thrown f_said) → lv_has ls 6 [(0, .ref (ad 0)), (1, .long x1), (3, .int x3), (4, .int x4), (5, .int x5)] → W p l e ({ frames := 0, cells := 0, slots := 0, locals := 0 } : Room) s m args below meth c H locs 0 0 (MQ below (va_Ql (fun (r : Int64) (_ : Unit) => post r.toInt) (kB (dC, dI) cl (tX47 d) A (fun _ : Unit => (wX47 ci ad d f_constants f_blanks f_counts f_points f_kept f_hashes f_news f_rounds f_hashed f_groups f_groupOf f_groupCount f_trial f_row f_names f_namedBlanks f_form f_formCount f_octets f_descriptions f_described f_message f_size f_words f_schedule f_thrown f_said))) A) args s 0 0 A) (F0 m 18 ls [])) :
    ∀ (x1 : Int64) (x5 : Int32) (y0 : Int32) (y1 : Int32), wX47_namings_48 K18 x1.toInt x3.toInt x5.toInt y0.toInt y1.toInt (zF f_groups) → ∀ (H : Heap) (locs : List Loc) (ls : Array Slot), kH (dC, dI) cl A s.heap H locs (wX47 ci ad d f_constants f_blanks f_counts f_points f_kept f_hashes f_news f_rounds f_hashed f_groups f_groupOf f_groupCount f_trial f_row f_names f_namedBlanks f_form f_formCount f_octets f_descriptions f_described f_message f_size f_words f_schedule f_thrown f_said) → lv_has ls 6 [(0, .ref (ad 0)), (1, .long x1), (3, .int x3), (5, .int x5)] → W p l e ({ frames := 0, cells := 0, slots := 0, locals := 0 } : Room) s m args below meth c H locs 0 0 (MQ below (va_Ql (fun (r : Int64) (_ : Unit) => post r.toInt) (kB (dC, dI) cl (tX47 d) A (fun _ : Unit => (wX47 ci ad d f_constants f_blanks f_counts f_points f_kept f_hashes f_news f_rounds f_hashed f_groups f_groupOf f_groupCount f_trial f_row f_names f_namedBlanks f_form f_formCount f_octets f_descriptions f_described f_message f_size f_words f_schedule f_thrown f_said))) A) args s 0 0 A) (F0 m 48 ls [.int y1, .int y0]) := by
  have hx := X.1.1
  have hb := X.1.2.1
  intro x1 x5 y0 y1 hw H locs ls hH hl
  unfold wX47_namings_48 at hw
  refine lv_iadd hx hb dX47_namings_48 ?_
  have e_7 := z_add (z_m (rfl : y0.toInt = _)) (z_m (rfl : y1.toInt = _))
  have hq_8 := hw.1
  have hw := hw.2
  have e_9 := z_x e_7 hq_8
  refine lv_topi (fun x4_10 ex4_10 => ?_)
  have hw := hw x4_10.toInt (by rw [ex4_10]; exact e_9)
  refine lv_istore (lv' := [(4, .int x4_10), (0, .ref (ad 0)), (1, .long x1), (3, .int x3), (5, .int x5)]) hx hb dX47_namings_49 hl (by decide) rfl (fun ls hl => ?_)
  refine lv_aload_n hx hb dX47_namings_51 rfl (lv_at hl 1 rfl) ?_
  refine k_get X hH in_X47 0 rfl hc 9 (by decide) q5993 rfl dX47_namings_52 ?_
  refine lv_iload hx hb dX47_namings_55 (lv_at hl 4 rfl) ?_
  have hq_11 := hw.1
  have hw := hw.2
  refine k_iald X hH 7 6 rfl rfl (z_in (rfl : x5.toInt = _) hq_11) dX47_namings_57 ?_
  have e_12 := z_ld (f := f_groups) (rfl : x5.toInt = _) hq_11.1
  refine lv_iload_n hx hb dX47_namings_58 rfl (lv_at hl 3 rfl) ?_
  refine lv_icmp_ne (tgt := 70) hx hb dX47_namings_59 (by decide) (fun c_13 => ?_) (fun c_13 => ?_)
  · have hw := hw.2 (z_ne e_12 (rfl : x3.toInt = _) c_13)
    refine lv_lload_n hx hb dX47_namings_70 rfl (lv_at hl 2 rfl) ?_
    refine lv_lstore_n (lv' := [(1, .long x1), (4, .int x4_10), (0, .ref (ad 0)), (3, .int x3), (5, .int x5)]) hx hb dX47_namings_71 rfl hl (by decide) rfl (fun ls hl => ?_)
    have hq_15 := hw.1
    have hw := hw.2
    obtain ⟨x5_14, ex5_14⟩ : ∃ y : Int32, y = x5 + 1 := ⟨_, rfl⟩
    have hw := hw x5_14.toInt (by rw [ex5_14]; exact (z_x (z_add (z_m (rfl : x5.toInt = _)) (z_m (rfl : (1 : Int32).toInt = 1))) hq_15))
    refine lv_iinc (v := x5_14) (lv' := [(5, .int x5_14), (1, .long x1), (4, .int x4_10), (0, .ref (ad 0)), (3, .int x3)]) hx hb dX47_namings_72 hl (k := 4) rfl (by rw [ex5_14]; rfl) (by decide) rfl (fun ls hl => ?_)
    refine lv_goto (tgt := 18) hx hb dX47_namings_75 (by decide) ?_
    exact hk18 x1 x4_10 x5_14 hw _ _ ls hH (lv_sub hl [3, 1, 4, 2, 0] rfl)
  · have hw := hw.1 (z_eq e_12 (rfl : x3.toInt = _) c_13)
    refine lv_lload_n hx hb dX47_namings_62 rfl (lv_at hl 2 rfl) ?_
    refine lv_iload hx hb dX47_namings_63 (lv_at hl 0 rfl) ?_
    refine lv_i2l (v := x4_10.toInt64) hx hb dX47_namings_65 rfl ?_
    have e_16 := z_i2l (rfl : x4_10.toInt = _)
    refine lv_lmul hx hb dX47_namings_66 ?_
    have e_17 := zL_mul (zL_m (rfl : x1.toInt = _)) (zL_m e_16)
    refine lv_goto (tgt := 71) hx hb dX47_namings_67 (by decide) ?_
    have hq_18 := hw.1
    have hw := hw.2
    have e_19 := zL_x e_17 hq_18
    refine lv_topl (fun x1_20 ex1_20 => ?_)
    have hw := hw x1_20.toInt (by rw [ex1_20]; exact e_19)
    refine lv_lstore_n (lv' := [(1, .long x1_20), (4, .int x4_10), (0, .ref (ad 0)), (3, .int x3), (5, .int x5)]) hx hb dX47_namings_71 rfl hl (by decide) rfl (fun ls hl => ?_)
    have hq_22 := hw.1
    have hw := hw.2
    obtain ⟨x5_21, ex5_21⟩ : ∃ y : Int32, y = x5 + 1 := ⟨_, rfl⟩
    have hw := hw x5_21.toInt (by rw [ex5_21]; exact (z_x (z_add (z_m (rfl : x5.toInt = _)) (z_m (rfl : (1 : Int32).toInt = 1))) hq_22))
    refine lv_iinc (v := x5_21) (lv' := [(5, .int x5_21), (1, .long x1_20), (4, .int x4_10), (0, .ref (ad 0)), (3, .int x3)]) hx hb dX47_namings_72 hl (k := 4) rfl (by rw [ex5_21]; rfl) (by decide) rfl (fun ls hl => ?_)
    refine lv_goto (tgt := 18) hx hb dX47_namings_75 (by decide) ?_
    exact hk18 x1_20 x4_10 x5_21 hw _ _ ls hH (lv_sub hl [3, 1, 4, 2, 0] rfl)
set_option maxHeartbeats 4000000 in
theorem atX47_namings_18 {p : Program} {l : Launch} {e : Env} {s : State} {m : MethodId} {args : Array Value} {below : List Frame} {meth : Method} {c : Code} {dC : Nat → ClassId} {dI : Nat → Nat → Nat} {cl : List vw_C} {ci : Nat} (hc : cl[ci]? = some (RX47, TX47, 27)) {ad : Nat → Nat} {d : Nat → ClassId} {A : Nat → Prop} {post : Int → Prop} {f_constants : Nat → Int64} {f_blanks : Nat → Int32} {f_counts : Nat → Int32} {f_points : Nat → Int32} {f_kept : Int32} {f_hashes : Nat → Int64} {f_news : Nat → Int64} {f_rounds : Int32} {f_hashed : Int32} {f_groups : Nat → Int32} {f_groupOf : Nat → Int32} {f_groupCount : Int32} {f_trial : Nat → Int32} {f_row : Nat → Int32} {f_names : Nat → Int32} {f_namedBlanks : Int32} {f_form : Nat → Int32} {f_formCount : Int32} {f_octets : Nat → Int32} {f_descriptions : Nat → Int32} {f_described : Int32} {f_message : Nat → Int32} {f_size : Int32} {f_words : Nat → Int64} {f_schedule : Nat → Int64} {f_thrown : Int32} {f_said : Nat → Int32} (X : kX p s m args meth c cX47_namings 6 RX47 (some .long) (dC, dI) cl (tX47 d)) {K78 : Int → Prop} {x3 : Int32}  (hk78 : ∀ (x1 : Int64), K78 x1.toInt → ∀ (H : Heap) (locs : List Loc) (ls : Array Slot), kH (dC, dI) cl A s.heap H locs (wX47 ci ad d f_constants f_blanks f_counts f_points f_kept f_hashes f_news f_rounds f_hashed f_groups f_groupOf f_groupCount f_trial f_row f_names f_namedBlanks f_form f_formCount f_octets f_descriptions f_described f_message f_size f_words f_schedule f_thrown f_said) → lv_has ls 6 [(0, .ref (ad 0)), (1, .long x1), (3, .int x3)] → W p l e ({ frames := 0, cells := 0, slots := 0, locals := 0 } : Room) s m args below meth c H locs 0 0 (MQ below (va_Ql (fun (r : Int64) (_ : Unit) => post r.toInt) (kB (dC, dI) cl (tX47 d) A (fun _ : Unit => (wX47 ci ad d f_constants f_blanks f_counts f_points f_kept f_hashes f_news f_rounds f_hashed f_groups f_groupOf f_groupCount f_trial f_row f_names f_namedBlanks f_form f_formCount f_octets f_descriptions f_described f_message f_size f_words f_schedule f_thrown f_said))) A) args s 0 0 A) (F0 m 78 ls [])) :
    ∀ (nn : Nat) (x1 : Int64) (x4 : Int32) (x5 : Int32), wX47_namings_18 K78 x3.toInt (zF f_blanks) (zF f_groups) nn x1.toInt x4.toInt x5.toInt → ∀ (H : Heap) (locs : List Loc) (ls : Array Slot), kH (dC, dI) cl A s.heap H locs (wX47 ci ad d f_constants f_blanks f_counts f_points f_kept f_hashes f_news f_rounds f_hashed f_groups f_groupOf f_groupCount f_trial f_row f_names f_namedBlanks f_form f_formCount f_octets f_descriptions f_described f_message f_size f_words f_schedule f_thrown f_said) → lv_has ls 6 [(0, .ref (ad 0)), (1, .long x1), (3, .int x3), (4, .int x4), (5, .int x5)] → W p l e ({ frames := 0, cells := 0, slots := 0, locals := 0 } : Room) s m args below meth c H locs 0 0 (MQ below (va_Ql (fun (r : Int64) (_ : Unit) => post r.toInt) (kB (dC, dI) cl (tX47 d) A (fun _ : Unit => (wX47 ci ad d f_constants f_blanks f_counts f_points f_kept f_hashes f_news f_rounds f_hashed f_groups f_groupOf f_groupCount f_trial f_row f_names f_namedBlanks f_form f_formCount f_octets f_descriptions f_described f_message f_size f_words f_schedule f_thrown f_said))) A) args s 0 0 A) (F0 m 18 ls []) := by
  have hx := X.1.1
  have hb := X.1.2.1
  intro nn
  induction nn with
  | zero =>
    intro x1 x4 x5 hw
    exact False.elim hw
  | succ n ih =>
    intro x1 x4 x5 hw H locs ls hH hl
    rw [wX47_namings_18] at hw
    refine lv_iload hx hb dX47_namings_18 (lv_at hl 4 rfl) ?_
    refine lv_aload_n hx hb dX47_namings_20 rfl (lv_at hl 0 rfl) ?_
    refine k_get X hH in_X47 0 rfl hc 1 (by decide) q5985 rfl dX47_namings_21 ?_
    refine lv_bipush (v := 8) hx hb dX47_namings_24 (by decide) ?_
    refine k_iald X hH 2 1 rfl rfl (by unfold vp_in; decide) dX47_namings_26 ?_
    have e_2 := z_ld (f := f_blanks) (rfl : (8 : Int32).toInt = 8) (by decide)
    refine lv_icmp_gt (tgt := 78) hx hb dX47_namings_27 (by decide) (fun c_3 => ?_) (fun c_3 => ?_)
    · have hw := hw.1 (z_lt e_2 (rfl : x5.toInt = _) c_3)
      exact hk78 x1 hw _ _ ls hH (lv_sub hl [0, 1, 2] rfl)
    · have hw := hw.2 (z_nlt e_2 (rfl : x5.toInt = _) c_3)
      refine lv_iload hx hb dX47_namings_30 (lv_at hl 3 rfl) ?_
      refine lv_aload_n hx hb dX47_namings_32 rfl (lv_at hl 0 rfl) ?_
      refine k_get X hH in_X47 0 rfl hc 9 (by decide) q5993 rfl dX47_namings_33 ?_
      refine lv_iload hx hb dX47_namings_36 (lv_at hl 4 rfl) ?_
      have hq_4 := hw.1
      have hw := hw.2
      refine k_iald X hH 7 6 rfl rfl (z_in (rfl : x5.toInt = _) hq_4) dX47_namings_38 ?_
      have e_5 := z_ld (f := f_groups) (rfl : x5.toInt = _) hq_4.1
      refine lv_iload_n hx hb dX47_namings_39 rfl (lv_at hl 2 rfl) ?_
      refine lv_icmp_ne (tgt := 47) hx hb dX47_namings_40 (by decide) (fun c_6 => ?_) (fun c_6 => ?_)
      · have hw := hw.2 (z_ne e_5 (rfl : x3.toInt = _) c_6)
        refine lv_iconst (v := 0) hx hb dX47_namings_47 (by decide) ?_
        exact atX47_namings_48 hc X (fun x1 x4 x5 hw H locs ls hH hl => ih x1 x4 x5 hw _ _ ls hH (lv_sub hl [0, 1, 2, 3, 4] rfl)) x1 x5 x4 0 hw _ _ ls hH (lv_sub hl [0, 1, 2, 4] rfl)
      · have hw := hw.1 (z_eq e_5 (rfl : x3.toInt = _) c_6)
        refine lv_iconst (v := 1) hx hb dX47_namings_43 (by decide) ?_
        refine lv_goto (tgt := 48) hx hb dX47_namings_44 (by decide) ?_
        exact atX47_namings_48 hc X (fun x1 x4 x5 hw H locs ls hH hl => ih x1 x4 x5 hw _ _ ls hH (lv_sub hl [0, 1, 2, 3, 4] rfl)) x1 x5 x4 1 hw _ _ ls hH (lv_sub hl [0, 1, 2, 4] rfl)
set_option maxHeartbeats 4000000 in
theorem atX47_namings_4 {p : Program} {l : Launch} {e : Env} {s : State} {m : MethodId} {args : Array Value} {below : List Frame} {meth : Method} {c : Code} {dC : Nat → ClassId} {dI : Nat → Nat → Nat} {cl : List vw_C} {ci : Nat} (hc : cl[ci]? = some (RX47, TX47, 27)) {ad : Nat → Nat} {d : Nat → ClassId} {A : Nat → Prop} {post : Int → Prop} {f_constants : Nat → Int64} {f_blanks : Nat → Int32} {f_counts : Nat → Int32} {f_points : Nat → Int32} {f_kept : Int32} {f_hashes : Nat → Int64} {f_news : Nat → Int64} {f_rounds : Int32} {f_hashed : Int32} {f_groups : Nat → Int32} {f_groupOf : Nat → Int32} {f_groupCount : Int32} {f_trial : Nat → Int32} {f_row : Nat → Int32} {f_names : Nat → Int32} {f_namedBlanks : Int32} {f_form : Nat → Int32} {f_formCount : Int32} {f_octets : Nat → Int32} {f_descriptions : Nat → Int32} {f_described : Int32} {f_message : Nat → Int32} {f_size : Int32} {f_words : Nat → Int64} {f_schedule : Nat → Int64} {f_thrown : Int32} {f_said : Nat → Int32} (X : kX p s m args meth c cX47_namings 6 RX47 (some .long) (dC, dI) cl (tX47 d)) {K84 : Int → Prop}   (hk84 : ∀ (x1 : Int64), K84 x1.toInt → ∀ (H : Heap) (locs : List Loc) (ls : Array Slot), kH (dC, dI) cl A s.heap H locs (wX47 ci ad d f_constants f_blanks f_counts f_points f_kept f_hashes f_news f_rounds f_hashed f_groups f_groupOf f_groupCount f_trial f_row f_names f_namedBlanks f_form f_formCount f_octets f_descriptions f_described f_message f_size f_words f_schedule f_thrown f_said) → lv_has ls 6 [(1, .long x1)] → W p l e ({ frames := 0, cells := 0, slots := 0, locals := 0 } : Room) s m args below meth c H locs 0 0 (MQ below (va_Ql (fun (r : Int64) (_ : Unit) => post r.toInt) (kB (dC, dI) cl (tX47 d) A (fun _ : Unit => (wX47 ci ad d f_constants f_blanks f_counts f_points f_kept f_hashes f_news f_rounds f_hashed f_groups f_groupOf f_groupCount f_trial f_row f_names f_namedBlanks f_form f_formCount f_octets f_descriptions f_described f_message f_size f_words f_schedule f_thrown f_said))) A) args s 0 0 A) (F0 m 84 ls [])) :
    ∀ (nn : Nat) (x1 : Int64) (x3 : Int32), wX47_namings_4 K84 (zF f_blanks) (zF f_groups) f_groupCount.toInt nn x1.toInt x3.toInt → ∀ (H : Heap) (locs : List Loc) (ls : Array Slot), kH (dC, dI) cl A s.heap H locs (wX47 ci ad d f_constants f_blanks f_counts f_points f_kept f_hashes f_news f_rounds f_hashed f_groups f_groupOf f_groupCount f_trial f_row f_names f_namedBlanks f_form f_formCount f_octets f_descriptions f_described f_message f_size f_words f_schedule f_thrown f_said) → lv_has ls 6 [(0, .ref (ad 0)), (1, .long x1), (3, .int x3)] → W p l e ({ frames := 0, cells := 0, slots := 0, locals := 0 } : Room) s m args below meth c H locs 0 0 (MQ below (va_Ql (fun (r : Int64) (_ : Unit) => post r.toInt) (kB (dC, dI) cl (tX47 d) A (fun _ : Unit => (wX47 ci ad d f_constants f_blanks f_counts f_points f_kept f_hashes f_news f_rounds f_hashed f_groups f_groupOf f_groupCount f_trial f_row f_names f_namedBlanks f_form f_formCount f_octets f_descriptions f_described f_message f_size f_words f_schedule f_thrown f_said))) A) args s 0 0 A) (F0 m 4 ls []) := by
  have hx := X.1.1
  have hb := X.1.2.1
  intro nn
  induction nn with
  | zero =>
    intro x1 x3 hw
    exact False.elim hw
  | succ n ih =>
    intro x1 x3 hw H locs ls hH hl
    rw [wX47_namings_4] at hw
    refine lv_iload_n hx hb dX47_namings_4 rfl (lv_at hl 2 rfl) ?_
    refine lv_aload_n hx hb dX47_namings_5 rfl (lv_at hl 0 rfl) ?_
    refine k_get X hH in_X47 0 rfl hc 11 (by decide) q5995 rfl dX47_namings_6 ?_
    refine lv_icmp_ge (tgt := 84) hx hb dX47_namings_9 (by decide) (fun c_1 => ?_) (fun c_1 => ?_)
    · have hw := hw.1 (z_le (rfl : f_groupCount.toInt = _) (rfl : x3.toInt = _) c_1)
      exact hk84 x1 hw _ _ ls hH (lv_sub hl [1] rfl)
    · have hw := hw.2 (z_nle (rfl : f_groupCount.toInt = _) (rfl : x3.toInt = _) c_1)
      refine lv_iconst (v := 0) hx hb dX47_namings_12 (by decide) ?_
      refine lv_istore (lv' := [(4, .int 0), (0, .ref (ad 0)), (1, .long x1), (3, .int x3)]) hx hb dX47_namings_13 hl (by decide) rfl (fun ls hl => ?_)
      refine lv_iconst (v := 1) hx hb dX47_namings_15 (by decide) ?_
      refine lv_istore (lv' := [(5, .int 1), (4, .int 0), (0, .ref (ad 0)), (1, .long x1), (3, .int x3)]) hx hb dX47_namings_16 hl (by decide) rfl (fun ls hl => ?_)
      obtain ⟨fu, hw⟩ := hw
      refine atX47_namings_18 hc X ?_ fu x1 0 1 hw _ _ ls hH (lv_sub hl [2, 3, 4, 1, 0] rfl)
      · intro x1_23 hw H locs ls hH hl
        have hq_25 := hw.1
        have hw := hw.2
        obtain ⟨x3_24, ex3_24⟩ : ∃ y : Int32, y = x3 + 1 := ⟨_, rfl⟩
        have hw := hw x3_24.toInt (by rw [ex3_24]; exact (z_x (z_add (z_m (rfl : x3.toInt = _)) (z_m (rfl : (1 : Int32).toInt = 1))) hq_25))
        refine lv_iinc (v := x3_24) (lv' := [(3, .int x3_24), (0, .ref (ad 0)), (1, .long x1_23)]) hx hb dX47_namings_78 hl (k := 2) rfl (by rw [ex3_24]; rfl) (by decide) rfl (fun ls hl => ?_)
        refine lv_goto (tgt := 4) hx hb dX47_namings_81 (by decide) ?_
        exact ih x1_23 x3_24 hw _ _ ls hH (lv_sub hl [1, 2, 0] rfl)
set_option maxHeartbeats 4000000 in
theorem walkX47_namings {l : Launch} {dC : Nat → ClassId} {dI : Nat → Nat → Nat} {cl : List vw_C} {ci : Nat} (hc : cl[ci]? = some (RX47, TX47, 27)) {ad : Nat → Nat} {d : Nat → ClassId} {sz : Nat} {f_constants : Nat → Int64} {f_blanks : Nat → Int32} {f_counts : Nat → Int32} {f_points : Nat → Int32} {f_kept : Int32} {f_hashes : Nat → Int64} {f_news : Nat → Int64} {f_rounds : Int32} {f_hashed : Int32} {f_groups : Nat → Int32} {f_groupOf : Nat → Int32} {f_groupCount : Int32} {f_trial : Nat → Int32} {f_row : Nat → Int32} {f_names : Nat → Int32} {f_namedBlanks : Int32} {f_form : Nat → Int32} {f_formCount : Int32} {f_octets : Nat → Int32} {f_descriptions : Nat → Int32} {f_described : Int32} {f_message : Nat → Int32} {f_size : Int32} {f_words : Nat → Int64} {f_schedule : Nat → Int64} {f_thrown : Int32} {f_said : Nat → Int32}  {post : Int → Prop} (hw : wpX47_namings post (zF f_blanks) (zF f_groups) f_groupCount.toInt ) :
    Met l yX47_namings (ws_ yX47_namings cX47_namings 6 (some .long)) ({ frames := 0, cells := 0, slots := 0, locals := 0 } : Room) (kPc (dC, dI) cl (tX47 d) [.ref (ad 0)] sz (wX47 ci ad d f_constants f_blanks f_counts f_points f_kept f_hashes f_news f_rounds f_hashed f_groups f_groupOf f_groupCount f_trial f_row f_names f_namedBlanks f_form f_formCount f_octets f_descriptions f_described f_message f_size f_words f_schedule f_thrown f_said)) (va_Ql (fun (r : Int64) (_ : Unit) => post r.toInt) (kB (dC, dI) cl (tX47 d) (va_A (wX47 ci ad d f_constants f_blanks f_counts f_points f_kept f_hashes f_news f_rounds f_hashed f_groups f_groupOf f_groupCount f_trial f_row f_names f_namedBlanks f_form f_formCount f_octets f_descriptions f_described f_message f_size f_words f_schedule f_thrown f_said) sz) (fun _ : Unit => (wX47 ci ad d f_constants f_blanks f_counts f_points f_kept f_hashes f_news f_rounds f_hashed f_groups f_groupOf f_groupCount f_trial f_row f_names f_namedBlanks f_form f_formCount f_octets f_descriptions f_described f_message f_size f_words f_schedule f_thrown f_said))) (va_A (wX47 ci ad d f_constants f_blanks f_counts f_points f_kept f_hashes f_news f_rounds f_hashed f_groups f_groupOf f_groupCount f_trial f_row f_names f_namedBlanks f_form f_formCount f_octets f_descriptions f_described f_message f_size f_words f_schedule f_thrown f_said) sz)) 0 0 (va_A (wX47 ci ad d f_constants f_blanks f_counts f_points f_kept f_hashes f_news f_rounds f_hashed f_groups f_groupOf f_groupCount f_trial f_row f_names f_namedBlanks f_form f_formCount f_octets f_descriptions f_described f_message f_size f_words f_schedule f_thrown f_said) sz) := by
  refine k_enter (by decide) (Nat.le_of_ble_eq_true rfl) ?_
  intro p e s m below meth c ls X hsz hH hl
  subst hsz
  generalize va_A (wX47 ci ad d f_constants f_blanks f_counts f_points f_kept f_hashes f_news f_rounds f_hashed f_groups f_groupOf f_groupCount f_trial f_row f_names f_namedBlanks f_form f_formCount f_octets f_descriptions f_described f_message f_size f_words f_schedule f_thrown f_said) s.heap.size = A at hH ⊢
  have hx := X.1.1
  have hb := X.1.2.1
  have hl : lv_has ls 6 [(0, .ref (ad 0))] := hl
  unfold wpX47_namings at hw
  refine lv_lconst (v := 1) hx hb dX47_namings_0 (by decide) ?_
  refine lv_lstore_n (lv' := [(1, .long 1), (0, .ref (ad 0))]) hx hb dX47_namings_1 rfl hl (by decide) rfl (fun ls hl => ?_)
  refine lv_iconst (v := 0) hx hb dX47_namings_2 (by decide) ?_
  refine lv_istore_n (lv' := [(3, .int 0), (1, .long 1), (0, .ref (ad 0))]) hx hb dX47_namings_3 rfl hl (by decide) rfl (fun ls hl => ?_)
  obtain ⟨fu, hw⟩ := hw
  refine atX47_namings_4 hc X ?_ fu 1 0 hw _ _ ls hH (lv_sub hl [2, 1, 0] rfl)
  · intro x1_26 hw H locs ls hH hl
    refine lv_lload_n hx hb dX47_namings_84 rfl (lv_at hl 0 rfl) ?_
    exact k_lret (v := x1_26) X hH () hw rfl dX47_namings_85
set_option maxHeartbeats 4000000 in
theorem atX47_begin_2 {p : Program} {l : Launch} {e : Env} {s : State} {m : MethodId} {args : Array Value} {below : List Frame} {meth : Method} {c : Code} {dC : Nat → ClassId} {dI : Nat → Nat → Nat} {cl : List vw_C} {ci : Nat} (hc : cl[ci]? = some (RX47, TX47, 27)) {ad : Nat → Nat} {d : Nat → ClassId} {A : Nat → Prop} {post : (Int → Int) → Prop} {f_constants : Nat → Int64} {f_blanks : Nat → Int32} {f_counts : Nat → Int32} {f_points : Nat → Int32} {f_kept : Int32} {f_hashes : Nat → Int64} {f_news : Nat → Int64} {f_rounds : Int32} {f_hashed : Int32} {f_groups : Nat → Int32} {f_groupOf : Nat → Int32} {f_groupCount : Int32} {f_row : Nat → Int32} {f_names : Nat → Int32} {f_namedBlanks : Int32} {f_form : Nat → Int32} {f_formCount : Int32} {f_octets : Nat → Int32} {f_descriptions : Nat → Int32} {f_described : Int32} {f_message : Nat → Int32} {f_size : Int32} {f_words : Nat → Int64} {f_schedule : Nat → Int64} {f_thrown : Int32} {f_said : Nat → Int32} (X : kX p s m args meth c cX47_begin 3 RX47 none (dC, dI) cl (tX47 d)) {K20 : (Int → Int) → Prop} {x1 : Int32}  (hk20 : ∀ (f_trial : Nat → Int32), K20 (zF f_trial) → ∀ (H : Heap) (locs : List Loc) (ls : Array Slot), kH (dC, dI) cl A s.heap H locs (wX47 ci ad d f_constants f_blanks f_counts f_points f_kept f_hashes f_news f_rounds f_hashed f_groups f_groupOf f_groupCount f_trial f_row f_names f_namedBlanks f_form f_formCount f_octets f_descriptions f_described f_message f_size f_words f_schedule f_thrown f_said) → lv_has ls 3 [] → W p l e ({ frames := 0, cells := 0, slots := 0, locals := 0 } : Room) s m args below meth c H locs 0 0 (MQ below (va_Qv (fun (u : (Nat → Int32)) => post (zF (u))) (kB (dC, dI) cl (tX47 d) A (fun u : (Nat → Int32) => (wX47 ci ad d f_constants f_blanks f_counts f_points f_kept f_hashes f_news f_rounds f_hashed f_groups f_groupOf f_groupCount (u) f_row f_names f_namedBlanks f_form f_formCount f_octets f_descriptions f_described f_message f_size f_words f_schedule f_thrown f_said))) A) args s 0 0 A) (F0 m 20 ls [])) :
    ∀ (nn : Nat) (x2 : Int32) (f_trial : Nat → Int32), wX47_begin_2 K20 x1.toInt nn x2.toInt (zF f_trial) → ∀ (H : Heap) (locs : List Loc) (ls : Array Slot), kH (dC, dI) cl A s.heap H locs (wX47 ci ad d f_constants f_blanks f_counts f_points f_kept f_hashes f_news f_rounds f_hashed f_groups f_groupOf f_groupCount f_trial f_row f_names f_namedBlanks f_form f_formCount f_octets f_descriptions f_described f_message f_size f_words f_schedule f_thrown f_said) → lv_has ls 3 [(0, .ref (ad 0)), (1, .int x1), (2, .int x2)] → W p l e ({ frames := 0, cells := 0, slots := 0, locals := 0 } : Room) s m args below meth c H locs 0 0 (MQ below (va_Qv (fun (u : (Nat → Int32)) => post (zF (u))) (kB (dC, dI) cl (tX47 d) A (fun u : (Nat → Int32) => (wX47 ci ad d f_constants f_blanks f_counts f_points f_kept f_hashes f_news f_rounds f_hashed f_groups f_groupOf f_groupCount (u) f_row f_names f_namedBlanks f_form f_formCount f_octets f_descriptions f_described f_message f_size f_words f_schedule f_thrown f_said))) A) args s 0 0 A) (F0 m 2 ls []) := by
  have hx := X.1.1
  have hb := X.1.2.1
  intro nn
  induction nn with
  | zero =>
    intro x2 f_trial hw
    exact False.elim hw
  | succ n ih =>
    intro x2 f_trial hw H locs ls hH hl
    rw [wX47_begin_2] at hw
    refine lv_iload_n hx hb dX47_begin_2 rfl (lv_at hl 2 rfl) ?_
    refine lv_iload_n hx hb dX47_begin_3 rfl (lv_at hl 1 rfl) ?_
    refine lv_icmp_gt (tgt := 20) hx hb dX47_begin_4 (by decide) (fun c_1 => ?_) (fun c_1 => ?_)
    · have hw := hw.1 (z_lt (rfl : x1.toInt = _) (rfl : x2.toInt = _) c_1)
      exact hk20 f_trial hw _ _ ls hH (lv_sub hl [] rfl)
    · have hw := hw.2 (z_nlt (rfl : x1.toInt = _) (rfl : x2.toInt = _) c_1)
      refine lv_aload_n hx hb dX47_begin_7 rfl (lv_at hl 0 rfl) ?_
      refine k_get X hH in_X47 0 rfl hc 12 (by decide) q5996 rfl dX47_begin_8 ?_
      refine lv_iload_n hx hb dX47_begin_11 rfl (lv_at hl 2 rfl) ?_
      refine lv_iload_n hx hb dX47_begin_12 rfl (lv_at hl 2 rfl) ?_
      have hq_3 := hw.1
      have hw := hw.2
      obtain ⟨f_trial_2, ef_trial_2⟩ : ∃ y : Nat → Int32, y = upd f_trial x2.toNatClampNeg x2 := ⟨_, rfl⟩
      refine k_iast X hH 9 8 rfl rfl (z_in (rfl : x2.toInt = _) hq_3) dX47_begin_13 ef_trial_2 (ws1 := (wX47 ci ad d f_constants f_blanks f_counts f_points f_kept f_hashes f_news f_rounds f_hashed f_groups f_groupOf f_groupCount f_trial_2 f_row f_names f_namedBlanks f_form f_formCount f_octets f_descriptions f_described f_message f_size f_words f_schedule f_thrown f_said)) rfl (fun H locs hH => ?_)
      have hw := hw (zF f_trial_2) (by rw [ef_trial_2]; exact z_st (f := f_trial) (rfl : x2.toInt = _) hq_3.1 (rfl : x2.toInt = _))
      have hq_5 := hw.1
      have hw := hw.2
      obtain ⟨x2_4, ex2_4⟩ : ∃ y : Int32, y = x2 + 1 := ⟨_, rfl⟩
      have hw := hw x2_4.toInt (by rw [ex2_4]; exact (z_x (z_add (z_m (rfl : x2.toInt = _)) (z_m (rfl : (1 : Int32).toInt = 1))) hq_5))
      refine lv_iinc (v := x2_4) (lv' := [(2, .int x2_4), (0, .ref (ad 0)), (1, .int x1)]) hx hb dX47_begin_14 hl (k := 2) rfl (by rw [ex2_4]; rfl) (by decide) rfl (fun ls hl => ?_)
      refine lv_goto (tgt := 2) hx hb dX47_begin_17 (by decide) ?_
      exact ih x2_4 f_trial_2 hw _ _ ls hH (lv_sub hl [1, 2, 0] rfl)
set_option maxHeartbeats 4000000 in
theorem walkX47_begin {l : Launch} {dC : Nat → ClassId} {dI : Nat → Nat → Nat} {cl : List vw_C} {ci : Nat} (hc : cl[ci]? = some (RX47, TX47, 27)) {ad : Nat → Nat} {d : Nat → ClassId} {sz : Nat} {f_constants : Nat → Int64} {f_blanks : Nat → Int32} {f_counts : Nat → Int32} {f_points : Nat → Int32} {f_kept : Int32} {f_hashes : Nat → Int64} {f_news : Nat → Int64} {f_rounds : Int32} {f_hashed : Int32} {f_groups : Nat → Int32} {f_groupOf : Nat → Int32} {f_groupCount : Int32} {f_trial : Nat → Int32} {f_row : Nat → Int32} {f_names : Nat → Int32} {f_namedBlanks : Int32} {f_form : Nat → Int32} {f_formCount : Int32} {f_octets : Nat → Int32} {f_descriptions : Nat → Int32} {f_described : Int32} {f_message : Nat → Int32} {f_size : Int32} {f_words : Nat → Int64} {f_schedule : Nat → Int64} {f_thrown : Int32} {f_said : Nat → Int32} {x1 : Int32} {post : (Int → Int) → Prop} (hw : wpX47_begin post (zF f_trial) x1.toInt) :
    Met l yX47_begin (ws_ yX47_begin cX47_begin 3 none) ({ frames := 0, cells := 0, slots := 0, locals := 0 } : Room) (kPc (dC, dI) cl (tX47 d) [.ref (ad 0), .int x1] sz (wX47 ci ad d f_constants f_blanks f_counts f_points f_kept f_hashes f_news f_rounds f_hashed f_groups f_groupOf f_groupCount f_trial f_row f_names f_namedBlanks f_form f_formCount f_octets f_descriptions f_described f_message f_size f_words f_schedule f_thrown f_said)) (va_Qv (fun (u : (Nat → Int32)) => post (zF (u))) (kB (dC, dI) cl (tX47 d) (va_A (wX47 ci ad d f_constants f_blanks f_counts f_points f_kept f_hashes f_news f_rounds f_hashed f_groups f_groupOf f_groupCount f_trial f_row f_names f_namedBlanks f_form f_formCount f_octets f_descriptions f_described f_message f_size f_words f_schedule f_thrown f_said) sz) (fun u : (Nat → Int32) => (wX47 ci ad d f_constants f_blanks f_counts f_points f_kept f_hashes f_news f_rounds f_hashed f_groups f_groupOf f_groupCount (u) f_row f_names f_namedBlanks f_form f_formCount f_octets f_descriptions f_described f_message f_size f_words f_schedule f_thrown f_said))) (va_A (wX47 ci ad d f_constants f_blanks f_counts f_points f_kept f_hashes f_news f_rounds f_hashed f_groups f_groupOf f_groupCount f_trial f_row f_names f_namedBlanks f_form f_formCount f_octets f_descriptions f_described f_message f_size f_words f_schedule f_thrown f_said) sz)) 0 0 (va_A (wX47 ci ad d f_constants f_blanks f_counts f_points f_kept f_hashes f_news f_rounds f_hashed f_groups f_groupOf f_groupCount f_trial f_row f_names f_namedBlanks f_form f_formCount f_octets f_descriptions f_described f_message f_size f_words f_schedule f_thrown f_said) sz) := by
  refine k_enter (by decide) (Nat.le_of_ble_eq_true rfl) ?_
  intro p e s m below meth c ls X hsz hH hl
  subst hsz
  generalize va_A (wX47 ci ad d f_constants f_blanks f_counts f_points f_kept f_hashes f_news f_rounds f_hashed f_groups f_groupOf f_groupCount f_trial f_row f_names f_namedBlanks f_form f_formCount f_octets f_descriptions f_described f_message f_size f_words f_schedule f_thrown f_said) s.heap.size = A at hH ⊢
  have hx := X.1.1
  have hb := X.1.2.1
  have hl : lv_has ls 3 [(0, .ref (ad 0)), (1, .int x1)] := hl
  unfold wpX47_begin at hw
  refine lv_iconst (v := 1) hx hb dX47_begin_0 (by decide) ?_
  refine lv_istore_n (lv' := [(2, .int 1), (0, .ref (ad 0)), (1, .int x1)]) hx hb dX47_begin_1 rfl hl (by decide) rfl (fun ls hl => ?_)
  obtain ⟨fu, hw⟩ := hw
  refine atX47_begin_2 hc X ?_ fu 1 f_trial hw _ _ ls hH (lv_sub hl [1, 2, 0] rfl)
  · intro f_trial_6 hw H locs ls hH hl
    exact k_vret X hH (f_trial_6) hw rfl dX47_begin_20
set_option maxHeartbeats 4000000 in
theorem atX47_isNaming_4 {p : Program} {l : Launch} {e : Env} {s : State} {m : MethodId} {args : Array Value} {below : List Frame} {meth : Method} {c : Code} {dC : Nat → ClassId} {dI : Nat → Nat → Nat} {cl : List vw_C} {ci : Nat} (hc : cl[ci]? = some (RX47, TX47, 27)) {ad : Nat → Nat} {d : Nat → ClassId} {A : Nat → Prop} {post : Int → Prop} {f_constants : Nat → Int64} {f_blanks : Nat → Int32} {f_counts : Nat → Int32} {f_points : Nat → Int32} {f_kept : Int32} {f_hashes : Nat → Int64} {f_news : Nat → Int64} {f_rounds : Int32} {f_hashed : Int32} {f_groups : Nat → Int32} {f_groupOf : Nat → Int32} {f_groupCount : Int32} {f_trial : Nat → Int32} {f_row : Nat → Int32} {f_names : Nat → Int32} {f_namedBlanks : Int32} {f_form : Nat → Int32} {f_formCount : Int32} {f_octets : Nat → Int32} {f_descriptions : Nat → Int32} {f_described : Int32} {f_message : Nat → Int32} {f_size : Int32} {f_words : Nat → Int64} {f_schedule : Nat → Int64} {f_thrown : Int32} {f_said : Nat → Int32} (X : kX p s m args meth c cX47_isNaming 4 RX47 (some .boolean) (dC, dI) cl (tX47 d)) {K45 : Int → Prop} {x1 : Int32}  (hk45 : ∀ (x2 : Int32), K45 x2.toInt → ∀ (H : Heap) (locs : List Loc) (ls : Array Slot), kH (dC, dI) cl A s.heap H locs (wX47 ci ad d f_constants f_blanks f_counts f_points f_kept f_hashes f_news f_rounds f_hashed f_groups f_groupOf f_groupCount f_trial f_row f_names f_namedBlanks f_form f_formCount f_octets f_descriptions f_described f_message f_size f_words f_schedule f_thrown f_said) → lv_has ls 4 [(2, .int x2)] → W p l e ({ frames := 0, cells := 0, slots := 0, locals := 0 } : Room) s m args below meth c H locs 0 0 (MQ below (va_Qi (fun (r : Int32) (_ : Unit) => post r.toInt) (kB (dC, dI) cl (tX47 d) A (fun _ : Unit => (wX47 ci ad d f_constants f_blanks f_counts f_points f_kept f_hashes f_news f_rounds f_hashed f_groups f_groupOf f_groupCount f_trial f_row f_names f_namedBlanks f_form f_formCount f_octets f_descriptions f_described f_message f_size f_words f_schedule f_thrown f_said))) A) args s 0 0 A) (F0 m 45 ls [])) :
    ∀ (nn : Nat) (x2 : Int32) (x3 : Int32), wX47_isNaming_4 K45 x1.toInt (zF f_groups) (zF f_groupOf) (zF f_trial) nn x2.toInt x3.toInt → ∀ (H : Heap) (locs : List Loc) (ls : Array Slot), kH (dC, dI) cl A s.heap H locs (wX47 ci ad d f_constants f_blanks f_counts f_points f_kept f_hashes f_news f_rounds f_hashed f_groups f_groupOf f_groupCount f_trial f_row f_names f_namedBlanks f_form f_formCount f_octets f_descriptions f_described f_message f_size f_words f_schedule f_thrown f_said) → lv_has ls 4 [(0, .ref (ad 0)), (1, .int x1), (2, .int x2), (3, .int x3)] → W p l e ({ frames := 0, cells := 0, slots := 0, locals := 0 } : Room) s m args below meth c H locs 0 0 (MQ below (va_Qi (fun (r : Int32) (_ : Unit) => post r.toInt) (kB (dC, dI) cl (tX47 d) A (fun _ : Unit => (wX47 ci ad d f_constants f_blanks f_counts f_points f_kept f_hashes f_news f_rounds f_hashed f_groups f_groupOf f_groupCount f_trial f_row f_names f_namedBlanks f_form f_formCount f_octets f_descriptions f_described f_message f_size f_words f_schedule f_thrown f_said))) A) args s 0 0 A) (F0 m 4 ls []) := by
  have hx := X.1.1
  have hb := X.1.2.1
  intro nn
  induction nn with
  | zero =>
    intro x2 x3 hw
    exact False.elim hw
  | succ n ih =>
    intro x2 x3 hw H locs ls hH hl
    rw [wX47_isNaming_4] at hw
    refine lv_iload_n hx hb dX47_isNaming_4 rfl (lv_at hl 3 rfl) ?_
    refine lv_iload_n hx hb dX47_isNaming_5 rfl (lv_at hl 1 rfl) ?_
    refine lv_icmp_gt (tgt := 45) hx hb dX47_isNaming_6 (by decide) (fun c_1 => ?_) (fun c_1 => ?_)
    · have hw := hw.1 (z_lt (rfl : x1.toInt = _) (rfl : x3.toInt = _) c_1)
      exact hk45 x2 hw _ _ ls hH (lv_sub hl [2] rfl)
    · have hw := hw.2 (z_nlt (rfl : x1.toInt = _) (rfl : x3.toInt = _) c_1)
      refine lv_iload_n hx hb dX47_isNaming_9 rfl (lv_at hl 2 rfl) ?_
      refine lv_if_eq (tgt := 45) hx hb dX47_isNaming_10 (by decide) (fun c_2 => ?_) (fun c_2 => ?_)
      · have hw := hw.1 (z_eq (rfl : x2.toInt = _) (rfl : (0 : Int32).toInt = 0) c_2)
        exact hk45 x2 hw _ _ ls hH (lv_sub hl [2] rfl)
      · have hw := hw.2 (z_neq (rfl : x2.toInt = _) (rfl : (0 : Int32).toInt = 0) c_2)
        refine lv_aload_n hx hb dX47_isNaming_13 rfl (lv_at hl 0 rfl) ?_
        refine k_get X hH in_X47 0 rfl hc 10 (by decide) q5994 rfl dX47_isNaming_14 ?_
        refine lv_aload_n hx hb dX47_isNaming_17 rfl (lv_at hl 0 rfl) ?_
        refine k_get X hH in_X47 0 rfl hc 12 (by decide) q5996 rfl dX47_isNaming_18 ?_
        refine lv_iload_n hx hb dX47_isNaming_21 rfl (lv_at hl 3 rfl) ?_
        have hq_3 := hw.1
        have hw := hw.2
        refine k_iald X hH 9 8 rfl rfl (z_in (rfl : x3.toInt = _) hq_3) dX47_isNaming_22 ?_
        have e_4 := z_ld (f := f_trial) (rfl : x3.toInt = _) hq_3.1
        have hq_5 := hw.1
        have hw := hw.2
        refine k_iald X hH 8 7 rfl rfl (z_in e_4 hq_5) dX47_isNaming_23 ?_
        have e_6 := z_ld (f := f_groupOf) e_4 hq_5.1
        refine lv_aload_n hx hb dX47_isNaming_24 rfl (lv_at hl 0 rfl) ?_
        refine k_get X hH in_X47 0 rfl hc 9 (by decide) q5993 rfl dX47_isNaming_25 ?_
        refine lv_iload_n hx hb dX47_isNaming_28 rfl (lv_at hl 3 rfl) ?_
        have hq_7 := hw.1
        have hw := hw.2
        refine k_iald X hH 7 6 rfl rfl (z_in (rfl : x3.toInt = _) hq_7) dX47_isNaming_29 ?_
        have e_8 := z_ld (f := f_groups) (rfl : x3.toInt = _) hq_7.1
        refine lv_icmp_ne (tgt := 37) hx hb dX47_isNaming_30 (by decide) (fun c_9 => ?_) (fun c_9 => ?_)
        · have hw := hw.2 (z_ne e_6 e_8 c_9)
          refine lv_iconst (v := 0) hx hb dX47_isNaming_37 (by decide) ?_
          refine lv_istore_n (lv' := [(2, .int 0), (0, .ref (ad 0)), (1, .int x1), (3, .int x3)]) hx hb dX47_isNaming_38 rfl hl (by decide) rfl (fun ls hl => ?_)
          have hq_11 := hw.1
          have hw := hw.2
          obtain ⟨x3_10, ex3_10⟩ : ∃ y : Int32, y = x3 + 1 := ⟨_, rfl⟩
          have hw := hw x3_10.toInt (by rw [ex3_10]; exact (z_x (z_add (z_m (rfl : x3.toInt = _)) (z_m (rfl : (1 : Int32).toInt = 1))) hq_11))
          refine lv_iinc (v := x3_10) (lv' := [(3, .int x3_10), (2, .int 0), (0, .ref (ad 0)), (1, .int x1)]) hx hb dX47_isNaming_39 hl (k := 3) rfl (by rw [ex3_10]; rfl) (by decide) rfl (fun ls hl => ?_)
          refine lv_goto (tgt := 4) hx hb dX47_isNaming_42 (by decide) ?_
          exact ih 0 x3_10 hw _ _ ls hH (lv_sub hl [2, 3, 1, 0] rfl)
        · have hw := hw.1 (z_eq e_6 e_8 c_9)
          refine lv_iconst (v := 1) hx hb dX47_isNaming_33 (by decide) ?_
          refine lv_goto (tgt := 38) hx hb dX47_isNaming_34 (by decide) ?_
          refine lv_istore_n (lv' := [(2, .int 1), (0, .ref (ad 0)), (1, .int x1), (3, .int x3)]) hx hb dX47_isNaming_38 rfl hl (by decide) rfl (fun ls hl => ?_)
          have hq_13 := hw.1
          have hw := hw.2
          obtain ⟨x3_12, ex3_12⟩ : ∃ y : Int32, y = x3 + 1 := ⟨_, rfl⟩
          have hw := hw x3_12.toInt (by rw [ex3_12]; exact (z_x (z_add (z_m (rfl : x3.toInt = _)) (z_m (rfl : (1 : Int32).toInt = 1))) hq_13))
          refine lv_iinc (v := x3_12) (lv' := [(3, .int x3_12), (2, .int 1), (0, .ref (ad 0)), (1, .int x1)]) hx hb dX47_isNaming_39 hl (k := 3) rfl (by rw [ex3_12]; rfl) (by decide) rfl (fun ls hl => ?_)
          refine lv_goto (tgt := 4) hx hb dX47_isNaming_42 (by decide) ?_
          exact ih 1 x3_12 hw _ _ ls hH (lv_sub hl [2, 3, 1, 0] rfl)
set_option maxHeartbeats 4000000 in
theorem walkX47_isNaming {l : Launch} {dC : Nat → ClassId} {dI : Nat → Nat → Nat} {cl : List vw_C} {ci : Nat} (hc : cl[ci]? = some (RX47, TX47, 27)) {ad : Nat → Nat} {d : Nat → ClassId} {sz : Nat} {f_constants : Nat → Int64} {f_blanks : Nat → Int32} {f_counts : Nat → Int32} {f_points : Nat → Int32} {f_kept : Int32} {f_hashes : Nat → Int64} {f_news : Nat → Int64} {f_rounds : Int32} {f_hashed : Int32} {f_groups : Nat → Int32} {f_groupOf : Nat → Int32} {f_groupCount : Int32} {f_trial : Nat → Int32} {f_row : Nat → Int32} {f_names : Nat → Int32} {f_namedBlanks : Int32} {f_form : Nat → Int32} {f_formCount : Int32} {f_octets : Nat → Int32} {f_descriptions : Nat → Int32} {f_described : Int32} {f_message : Nat → Int32} {f_size : Int32} {f_words : Nat → Int64} {f_schedule : Nat → Int64} {f_thrown : Int32} {f_said : Nat → Int32} {x1 : Int32} {post : Int → Prop} (hw : wpX47_isNaming post (zF f_groups) (zF f_groupOf) (zF f_trial) x1.toInt) :
    Met l yX47_isNaming (ws_ yX47_isNaming cX47_isNaming 4 (some .boolean)) ({ frames := 0, cells := 0, slots := 0, locals := 0 } : Room) (kPc (dC, dI) cl (tX47 d) [.ref (ad 0), .int x1] sz (wX47 ci ad d f_constants f_blanks f_counts f_points f_kept f_hashes f_news f_rounds f_hashed f_groups f_groupOf f_groupCount f_trial f_row f_names f_namedBlanks f_form f_formCount f_octets f_descriptions f_described f_message f_size f_words f_schedule f_thrown f_said)) (va_Qi (fun (r : Int32) (_ : Unit) => post r.toInt) (kB (dC, dI) cl (tX47 d) (va_A (wX47 ci ad d f_constants f_blanks f_counts f_points f_kept f_hashes f_news f_rounds f_hashed f_groups f_groupOf f_groupCount f_trial f_row f_names f_namedBlanks f_form f_formCount f_octets f_descriptions f_described f_message f_size f_words f_schedule f_thrown f_said) sz) (fun _ : Unit => (wX47 ci ad d f_constants f_blanks f_counts f_points f_kept f_hashes f_news f_rounds f_hashed f_groups f_groupOf f_groupCount f_trial f_row f_names f_namedBlanks f_form f_formCount f_octets f_descriptions f_described f_message f_size f_words f_schedule f_thrown f_said))) (va_A (wX47 ci ad d f_constants f_blanks f_counts f_points f_kept f_hashes f_news f_rounds f_hashed f_groups f_groupOf f_groupCount f_trial f_row f_names f_namedBlanks f_form f_formCount f_octets f_descriptions f_described f_message f_size f_words f_schedule f_thrown f_said) sz)) 0 0 (va_A (wX47 ci ad d f_constants f_blanks f_counts f_points f_kept f_hashes f_news f_rounds f_hashed f_groups f_groupOf f_groupCount f_trial f_row f_names f_namedBlanks f_form f_formCount f_octets f_descriptions f_described f_message f_size f_words f_schedule f_thrown f_said) sz) := by
  refine k_enter (by decide) (Nat.le_of_ble_eq_true rfl) ?_
  intro p e s m below meth c ls X hsz hH hl
  subst hsz
  generalize va_A (wX47 ci ad d f_constants f_blanks f_counts f_points f_kept f_hashes f_news f_rounds f_hashed f_groups f_groupOf f_groupCount f_trial f_row f_names f_namedBlanks f_form f_formCount f_octets f_descriptions f_described f_message f_size f_words f_schedule f_thrown f_said) s.heap.size = A at hH ⊢
  have hx := X.1.1
  have hb := X.1.2.1
  have hl : lv_has ls 4 [(0, .ref (ad 0)), (1, .int x1)] := hl
  unfold wpX47_isNaming at hw
  refine lv_iconst (v := 1) hx hb dX47_isNaming_0 (by decide) ?_
  refine lv_istore_n (lv' := [(2, .int 1), (0, .ref (ad 0)), (1, .int x1)]) hx hb dX47_isNaming_1 rfl hl (by decide) rfl (fun ls hl => ?_)
  refine lv_iconst (v := 1) hx hb dX47_isNaming_2 (by decide) ?_
  refine lv_istore_n (lv' := [(3, .int 1), (2, .int 1), (0, .ref (ad 0)), (1, .int x1)]) hx hb dX47_isNaming_3 rfl hl (by decide) rfl (fun ls hl => ?_)
  obtain ⟨fu, hw⟩ := hw
  refine atX47_isNaming_4 hc X ?_ fu 1 1 hw _ _ ls hH (lv_sub hl [2, 3, 1, 0] rfl)
  · intro x2_14 hw H locs ls hH hl
    refine lv_iload_n hx hb dX47_isNaming_45 rfl (lv_at hl 0 rfl) ?_
    have hq_15 := hw.1
    have hw := hw.2
    exact k_iret (v := x2_14) X hH () hw rfl (k_zn (z_boolE (rfl : x2_14.toInt = _) hq_15)) dX47_isNaming_46
set_option maxHeartbeats 4000000 in
theorem walkX47_numbered {l : Launch} {dC : Nat → ClassId} {dI : Nat → Nat → Nat} {cl : List vw_C} {ci : Nat} (hc : cl[ci]? = some (RX47, TX47, 27)) {ad : Nat → Nat} {d : Nat → ClassId} {sz : Nat} {f_constants : Nat → Int64} {f_blanks : Nat → Int32} {f_counts : Nat → Int32} {f_points : Nat → Int32} {f_kept : Int32} {f_hashes : Nat → Int64} {f_news : Nat → Int64} {f_rounds : Int32} {f_hashed : Int32} {f_groups : Nat → Int32} {f_groupOf : Nat → Int32} {f_groupCount : Int32} {f_trial : Nat → Int32} {f_row : Nat → Int32} {f_names : Nat → Int32} {f_namedBlanks : Int32} {f_form : Nat → Int32} {f_formCount : Int32} {f_octets : Nat → Int32} {f_descriptions : Nat → Int32} {f_described : Int32} {f_message : Nat → Int32} {f_size : Int32} {f_words : Nat → Int64} {f_schedule : Nat → Int64} {f_thrown : Int32} {f_said : Nat → Int32} {x1 : Int32} {post : Int → Prop} (hw : wpX47_numbered post (zF f_trial) x1.toInt) :
    Met l yX47_numbered (ws_ yX47_numbered cX47_numbered 2 (some .int)) ({ frames := 0, cells := 0, slots := 0, locals := 0 } : Room) (kPc (dC, dI) cl (tX47 d) [.ref (ad 0), .int x1] sz (wX47 ci ad d f_constants f_blanks f_counts f_points f_kept f_hashes f_news f_rounds f_hashed f_groups f_groupOf f_groupCount f_trial f_row f_names f_namedBlanks f_form f_formCount f_octets f_descriptions f_described f_message f_size f_words f_schedule f_thrown f_said)) (va_Qi (fun (r : Int32) (_ : Unit) => post r.toInt) (kB (dC, dI) cl (tX47 d) (va_A (wX47 ci ad d f_constants f_blanks f_counts f_points f_kept f_hashes f_news f_rounds f_hashed f_groups f_groupOf f_groupCount f_trial f_row f_names f_namedBlanks f_form f_formCount f_octets f_descriptions f_described f_message f_size f_words f_schedule f_thrown f_said) sz) (fun _ : Unit => (wX47 ci ad d f_constants f_blanks f_counts f_points f_kept f_hashes f_news f_rounds f_hashed f_groups f_groupOf f_groupCount f_trial f_row f_names f_namedBlanks f_form f_formCount f_octets f_descriptions f_described f_message f_size f_words f_schedule f_thrown f_said))) (va_A (wX47 ci ad d f_constants f_blanks f_counts f_points f_kept f_hashes f_news f_rounds f_hashed f_groups f_groupOf f_groupCount f_trial f_row f_names f_namedBlanks f_form f_formCount f_octets f_descriptions f_described f_message f_size f_words f_schedule f_thrown f_said) sz)) 0 0 (va_A (wX47 ci ad d f_constants f_blanks f_counts f_points f_kept f_hashes f_news f_rounds f_hashed f_groups f_groupOf f_groupCount f_trial f_row f_names f_namedBlanks f_form f_formCount f_octets f_descriptions f_described f_message f_size f_words f_schedule f_thrown f_said) sz) := by
  refine k_enter (by decide) (Nat.le_of_ble_eq_true rfl) ?_
  intro p e s m below meth c ls X hsz hH hl
  subst hsz
  generalize va_A (wX47 ci ad d f_constants f_blanks f_counts f_points f_kept f_hashes f_news f_rounds f_hashed f_groups f_groupOf f_groupCount f_trial f_row f_names f_namedBlanks f_form f_formCount f_octets f_descriptions f_described f_message f_size f_words f_schedule f_thrown f_said) s.heap.size = A at hH ⊢
  have hx := X.1.1
  have hb := X.1.2.1
  have hl : lv_has ls 2 [(0, .ref (ad 0)), (1, .int x1)] := hl
  unfold wpX47_numbered at hw
  refine lv_iload_n hx hb dX47_numbered_0 rfl (lv_at hl 1 rfl) ?_
  refine lv_if_le (tgt := 8) hx hb dX47_numbered_1 (by decide) (fun c_1 => ?_) (fun c_1 => ?_)
  · have hw := hw.1 (z_le (rfl : x1.toInt = _) (rfl : (0 : Int32).toInt = 0) c_1)
    refine lv_aload_n hx hb dX47_numbered_8 rfl (lv_at hl 0 rfl) ?_
    refine k_get X hH in_X47 0 rfl hc 12 (by decide) q5996 rfl dX47_numbered_9 ?_
    refine lv_iload_n hx hb dX47_numbered_12 rfl (lv_at hl 1 rfl) ?_
    refine lv_ineg hx hb dX47_numbered_13 ?_
    have e_2 := z_neg (z_m (rfl : x1.toInt = _))
    have hq_3 := hw.1
    have hw := hw.2
    have e_4 := z_xi e_2 hq_3 (by decide)
    refine k_iald X hH 9 8 rfl rfl (z_in e_4 hq_3) dX47_numbered_14 ?_
    have e_5 := z_ld (f := f_trial) e_4 hq_3.1
    refine lv_ineg hx hb dX47_numbered_15 ?_
    have e_6 := z_neg (z_m e_5)
    have hq_7 := hw.1
    have hw := hw.2
    have e_8 := z_x e_6 hq_7
    exact k_iret (v := -(f_trial (-x1).toNatClampNeg)) X hH () (by rw [show (-(f_trial (-x1).toNatClampNeg) : Int32).toInt = _ from e_8]; exact hw) rfl rfl dX47_numbered_16
  · have hw := hw.2 (z_nle (rfl : x1.toInt = _) (rfl : (0 : Int32).toInt = 0) c_1)
    refine lv_iload_n hx hb dX47_numbered_4 rfl (lv_at hl 1 rfl) ?_
    refine lv_goto (tgt := 16) hx hb dX47_numbered_5 (by decide) ?_
    exact k_iret (v := x1) X hH () hw rfl rfl dX47_numbered_16
set_option maxHeartbeats 4000000 in
theorem atX47_compareTriples_row_row_3 {p : Program} {l : Launch} {e : Env} {s : State} {m : MethodId} {args : Array Value} {below : List Frame} {meth : Method} {c : Code} {dC : Nat → ClassId} {dI : Nat → Nat → Nat} {cl : List vw_C} {ci : Nat} (hc : cl[ci]? = some (RX47, TX47, 27)) {ad : Nat → Nat} {d : Nat → ClassId} {A : Nat → Prop} {post : Int → Prop} {f_constants : Nat → Int64} {f_blanks : Nat → Int32} {f_counts : Nat → Int32} {f_points : Nat → Int32} {f_kept : Int32} {f_hashes : Nat → Int64} {f_news : Nat → Int64} {f_rounds : Int32} {f_hashed : Int32} {f_groups : Nat → Int32} {f_groupOf : Nat → Int32} {f_groupCount : Int32} {f_trial : Nat → Int32} {f_row : Nat → Int32} {f_names : Nat → Int32} {f_namedBlanks : Int32} {f_form : Nat → Int32} {f_formCount : Int32} {f_octets : Nat → Int32} {f_descriptions : Nat → Int32} {f_described : Int32} {f_message : Nat → Int32} {f_size : Int32} {f_words : Nat → Int64} {f_schedule : Nat → Int64} {f_thrown : Int32} {f_said : Nat → Int32} (X : kX p s m args meth c cX47_compareTriples 5 RX47 (some .int) (dC, dI) cl (tX47 d)) {K28 : Int → Prop} {K59 : Prop} {x1 : Int32} {x3 : Int32}  (hk28 : ∀ (x4 : Int32), K28 x4.toInt → ∀ (H : Heap) (locs : List Loc) (ls : Array Slot), kH (dC, dI) cl A s.heap H locs (wX47 ci ad d f_constants f_blanks f_counts f_points f_kept f_hashes f_news f_rounds f_hashed f_groups f_groupOf f_groupCount f_trial f_row f_names f_namedBlanks f_form f_formCount f_octets f_descriptions f_described f_message f_size f_words f_schedule f_thrown f_said) → lv_has ls 5 [(0, .ref (ad 10)), (1, .int x1), (2, .ref (ad 10)), (3, .int x3), (4, .int x4)] → W p l e ({ frames := 0, cells := 0, slots := 0, locals := 0 } : Room) s m args below meth c H locs 0 0 (MQ below (va_Qi (fun (r : Int32) (_ : Unit) => post r.toInt) (kB (dC, dI) cl (tX47 d) A (fun _ : Unit => (wX47 ci ad d f_constants f_blanks f_counts f_points f_kept f_hashes f_news f_rounds f_hashed f_groups f_groupOf f_groupCount f_trial f_row f_names f_namedBlanks f_form f_formCount f_octets f_descriptions f_described f_message f_size f_words f_schedule f_thrown f_said))) A) args s 0 0 A) (F0 m 28 ls [])) (hk59 : K59  → ∀ (H : Heap) (locs : List Loc) (ls : Array Slot), kH (dC, dI) cl A s.heap H locs (wX47 ci ad d f_constants f_blanks f_counts f_points f_kept f_hashes f_news f_rounds f_hashed f_groups f_groupOf f_groupCount f_trial f_row f_names f_namedBlanks f_form f_formCount f_octets f_descriptions f_described f_message f_size f_words f_schedule f_thrown f_said) → lv_has ls 5 [] → W p l e ({ frames := 0, cells := 0, slots := 0, locals := 0 } : Room) s m args below meth c H locs 0 0 (MQ below (va_Qi (fun (r : Int32) (_ : Unit) => post r.toInt) (kB (dC, dI) cl (tX47 d) A (fun _ : Unit => (wX47 ci ad d f_constants f_blanks f_counts f_points f_kept f_hashes f_news f_rounds f_hashed f_groups f_groupOf f_groupCount f_trial f_row f_names f_namedBlanks f_form f_formCount f_octets f_descriptions f_described f_message f_size f_words f_schedule f_thrown f_said))) A) args s 0 0 A) (F0 m 59 ls [])) :
    ∀ (nn : Nat) (x4 : Int32), wX47_compareTriples_row_row_3 K28 K59 x1.toInt x3.toInt (zF f_row) nn x4.toInt → ∀ (H : Heap) (locs : List Loc) (ls : Array Slot), kH (dC, dI) cl A s.heap H locs (wX47 ci ad d f_constants f_blanks f_counts f_points f_kept f_hashes f_news f_rounds f_hashed f_groups f_groupOf f_groupCount f_trial f_row f_names f_namedBlanks f_form f_formCount f_octets f_descriptions f_described f_message f_size f_words f_schedule f_thrown f_said) → lv_has ls 5 [(0, .ref (ad 10)), (1, .int x1), (2, .ref (ad 10)), (3, .int x3), (4, .int x4)] → W p l e ({ frames := 0, cells := 0, slots := 0, locals := 0 } : Room) s m args below meth c H locs 0 0 (MQ below (va_Qi (fun (r : Int32) (_ : Unit) => post r.toInt) (kB (dC, dI) cl (tX47 d) A (fun _ : Unit => (wX47 ci ad d f_constants f_blanks f_counts f_points f_kept f_hashes f_news f_rounds f_hashed f_groups f_groupOf f_groupCount f_trial f_row f_names f_namedBlanks f_form f_formCount f_octets f_descriptions f_described f_message f_size f_words f_schedule f_thrown f_said))) A) args s 0 0 A) (F0 m 3 ls []) := by
  have hx := X.1.1
  have hb := X.1.2.1
  intro nn
  induction nn with
  | zero =>
    intro x4 hw
    exact False.elim hw
  | succ n ih =>
    intro x4 hw H locs ls hH hl
    rw [wX47_compareTriples_row_row_3] at hw
    refine lv_iload hx hb dX47_compareTriples_3 (lv_at hl 4 rfl) ?_
    refine lv_iconst (v := 3) hx hb dX47_compareTriples_5 (by decide) ?_
    refine lv_icmp_ge (tgt := 59) hx hb dX47_compareTriples_6 (by decide) (fun c_1 => ?_) (fun c_1 => ?_)
    · have hw := hw.1 (z_le (rfl : (3 : Int32).toInt = 3) (rfl : x4.toInt = _) c_1)
      exact hk59  hw _ _ ls hH (lv_sub hl [] rfl)
    · have hw := hw.2 (z_nle (rfl : (3 : Int32).toInt = 3) (rfl : x4.toInt = _) c_1)
      refine lv_aload_n hx hb dX47_compareTriples_9 rfl (lv_at hl 0 rfl) ?_
      refine lv_iconst (v := 3) hx hb dX47_compareTriples_10 (by decide) ?_
      refine lv_iload_n hx hb dX47_compareTriples_11 rfl (lv_at hl 1 rfl) ?_
      refine lv_imul hx hb dX47_compareTriples_12 ?_
      have e_2 := z_mul (z_m (rfl : (3 : Int32).toInt = 3)) (z_m (rfl : x1.toInt = _))
      refine lv_iload hx hb dX47_compareTriples_13 (lv_at hl 4 rfl) ?_
      refine lv_iadd hx hb dX47_compareTriples_15 ?_
      have e_3 := z_add e_2 (z_m (rfl : x4.toInt = _))
      have hq_4 := hw.1
      have hw := hw.2
      have e_5 := z_xi e_3 hq_4 (by decide)
      refine k_iald X hH 10 9 rfl rfl (z_in e_5 hq_4) dX47_compareTriples_16 ?_
      have e_6 := z_ld (f := f_row) e_5 hq_4.1
      refine lv_aload_n hx hb dX47_compareTriples_17 rfl (lv_at hl 2 rfl) ?_
      refine lv_iconst (v := 3) hx hb dX47_compareTriples_18 (by decide) ?_
      refine lv_iload_n hx hb dX47_compareTriples_19 rfl (lv_at hl 3 rfl) ?_
      refine lv_imul hx hb dX47_compareTriples_20 ?_
      have e_7 := z_mul (z_m (rfl : (3 : Int32).toInt = 3)) (z_m (rfl : x3.toInt = _))
      refine lv_iload hx hb dX47_compareTriples_21 (lv_at hl 4 rfl) ?_
      refine lv_iadd hx hb dX47_compareTriples_23 ?_
      have e_8 := z_add e_7 (z_m (rfl : x4.toInt = _))
      have hq_9 := hw.1
      have hw := hw.2
      have e_10 := z_xi e_8 hq_9 (by decide)
      refine k_iald X hH 10 9 rfl rfl (z_in e_10 hq_9) dX47_compareTriples_24 ?_
      have e_11 := z_ld (f := f_row) e_10 hq_9.1
      refine lv_icmp_eq (tgt := 53) hx hb dX47_compareTriples_25 (by decide) (fun c_12 => ?_) (fun c_12 => ?_)
      · have hw := hw.1 (z_eq e_6 e_11 c_12)
        have hq_14 := hw.1
        have hw := hw.2
        obtain ⟨x4_13, ex4_13⟩ : ∃ y : Int32, y = x4 + 1 := ⟨_, rfl⟩
        have hw := hw x4_13.toInt (by rw [ex4_13]; exact (z_x (z_add (z_m (rfl : x4.toInt = _)) (z_m (rfl : (1 : Int32).toInt = 1))) hq_14))
        refine lv_iinc (v := x4_13) (lv' := [(4, .int x4_13), (0, .ref (ad 10)), (1, .int x1), (2, .ref (ad 10)), (3, .int x3)]) hx hb dX47_compareTriples_53 hl (k := 4) rfl (by rw [ex4_13]; rfl) (by decide) rfl (fun ls hl => ?_)
        refine lv_goto (tgt := 3) hx hb dX47_compareTriples_56 (by decide) ?_
        exact ih x4_13 hw _ _ ls hH (lv_sub hl [1, 2, 3, 4, 0] rfl)
      · have hw := hw.2 (z_neq e_6 e_11 c_12)
        exact hk28 x4 hw _ _ ls hH (lv_sub hl [0, 1, 2, 3, 4] rfl)
set_option maxHeartbeats 4000000 in
theorem walkX47_compareTriples_row_row {l : Launch} {dC : Nat → ClassId} {dI : Nat → Nat → Nat} {cl : List vw_C} {ci : Nat} (hc : cl[ci]? = some (RX47, TX47, 27)) {ad : Nat → Nat} {d : Nat → ClassId} {sz : Nat} {f_constants : Nat → Int64} {f_blanks : Nat → Int32} {f_counts : Nat → Int32} {f_points : Nat → Int32} {f_kept : Int32} {f_hashes : Nat → Int64} {f_news : Nat → Int64} {f_rounds : Int32} {f_hashed : Int32} {f_groups : Nat → Int32} {f_groupOf : Nat → Int32} {f_groupCount : Int32} {f_trial : Nat → Int32} {f_row : Nat → Int32} {f_names : Nat → Int32} {f_namedBlanks : Int32} {f_form : Nat → Int32} {f_formCount : Int32} {f_octets : Nat → Int32} {f_descriptions : Nat → Int32} {f_described : Int32} {f_message : Nat → Int32} {f_size : Int32} {f_words : Nat → Int64} {f_schedule : Nat → Int64} {f_thrown : Int32} {f_said : Nat → Int32} {x1 : Int32} {x3 : Int32} {post : Int → Prop} (hw : wpX47_compareTriples_row_row post (zF f_row) x1.toInt x3.toInt) :
    Met l yX47_compareTriples (ws_ yX47_compareTriples cX47_compareTriples 5 (some .int)) ({ frames := 0, cells := 0, slots := 0, locals := 0 } : Room) (kPc (dC, dI) cl (tX47 d) [.ref (ad 10), .int x1, .ref (ad 10), .int x3] sz (wX47 ci ad d f_constants f_blanks f_counts f_points f_kept f_hashes f_news f_rounds f_hashed f_groups f_groupOf f_groupCount f_trial f_row f_names f_namedBlanks f_form f_formCount f_octets f_descriptions f_described f_message f_size f_words f_schedule f_thrown f_said)) (va_Qi (fun (r : Int32) (_ : Unit) => post r.toInt) (kB (dC, dI) cl (tX47 d) (va_A (wX47 ci ad d f_constants f_blanks f_counts f_points f_kept f_hashes f_news f_rounds f_hashed f_groups f_groupOf f_groupCount f_trial f_row f_names f_namedBlanks f_form f_formCount f_octets f_descriptions f_described f_message f_size f_words f_schedule f_thrown f_said) sz) (fun _ : Unit => (wX47 ci ad d f_constants f_blanks f_counts f_points f_kept f_hashes f_news f_rounds f_hashed f_groups f_groupOf f_groupCount f_trial f_row f_names f_namedBlanks f_form f_formCount f_octets f_descriptions f_described f_message f_size f_words f_schedule f_thrown f_said))) (va_A (wX47 ci ad d f_constants f_blanks f_counts f_points f_kept f_hashes f_news f_rounds f_hashed f_groups f_groupOf f_groupCount f_trial f_row f_names f_namedBlanks f_form f_formCount f_octets f_descriptions f_described f_message f_size f_words f_schedule f_thrown f_said) sz)) 0 0 (va_A (wX47 ci ad d f_constants f_blanks f_counts f_points f_kept f_hashes f_news f_rounds f_hashed f_groups f_groupOf f_groupCount f_trial f_row f_names f_namedBlanks f_form f_formCount f_octets f_descriptions f_described f_message f_size f_words f_schedule f_thrown f_said) sz) := by
  refine k_enter (by decide) (Nat.le_of_ble_eq_true rfl) ?_
  intro p e s m below meth c ls X hsz hH hl
  subst hsz
  generalize va_A (wX47 ci ad d f_constants f_blanks f_counts f_points f_kept f_hashes f_news f_rounds f_hashed f_groups f_groupOf f_groupCount f_trial f_row f_names f_namedBlanks f_form f_formCount f_octets f_descriptions f_described f_message f_size f_words f_schedule f_thrown f_said) s.heap.size = A at hH ⊢
  have hx := X.1.1
  have hb := X.1.2.1
  have hl : lv_has ls 5 [(0, .ref (ad 10)), (1, .int x1), (2, .ref (ad 10)), (3, .int x3)] := hl
  unfold wpX47_compareTriples_row_row at hw
  refine lv_iconst (v := 0) hx hb dX47_compareTriples_0 (by decide) ?_
  refine lv_istore (lv' := [(4, .int 0), (0, .ref (ad 10)), (1, .int x1), (2, .ref (ad 10)), (3, .int x3)]) hx hb dX47_compareTriples_1 hl (by decide) rfl (fun ls hl => ?_)
  obtain ⟨fu, hw⟩ := hw
  refine atX47_compareTriples_row_row_3 hc X ?_ ?_ fu 0 hw _ _ ls hH (lv_sub hl [1, 2, 3, 4, 0] rfl)
  · intro x4_15 hw H locs ls hH hl
    refine lv_aload_n hx hb dX47_compareTriples_28 rfl (lv_at hl 0 rfl) ?_
    refine lv_iconst (v := 3) hx hb dX47_compareTriples_29 (by decide) ?_
    refine lv_iload_n hx hb dX47_compareTriples_30 rfl (lv_at hl 1 rfl) ?_
    refine lv_imul hx hb dX47_compareTriples_31 ?_
    have e_16 := z_mul (z_m (rfl : (3 : Int32).toInt = 3)) (z_m (rfl : x1.toInt = _))
    refine lv_iload hx hb dX47_compareTriples_32 (lv_at hl 4 rfl) ?_
    refine lv_iadd hx hb dX47_compareTriples_34 ?_
    have e_17 := z_add e_16 (z_m (rfl : x4_15.toInt = _))
    have hq_18 := hw.1
    have hw := hw.2
    have e_19 := z_xi e_17 hq_18 (by decide)
    refine k_iald X hH 10 9 rfl rfl (z_in e_19 hq_18) dX47_compareTriples_35 ?_
    have e_20 := z_ld (f := f_row) e_19 hq_18.1
    refine lv_aload_n hx hb dX47_compareTriples_36 rfl (lv_at hl 2 rfl) ?_
    refine lv_iconst (v := 3) hx hb dX47_compareTriples_37 (by decide) ?_
    refine lv_iload_n hx hb dX47_compareTriples_38 rfl (lv_at hl 3 rfl) ?_
    refine lv_imul hx hb dX47_compareTriples_39 ?_
    have e_21 := z_mul (z_m (rfl : (3 : Int32).toInt = 3)) (z_m (rfl : x3.toInt = _))
    refine lv_iload hx hb dX47_compareTriples_40 (lv_at hl 4 rfl) ?_
    refine lv_iadd hx hb dX47_compareTriples_42 ?_
    have e_22 := z_add e_21 (z_m (rfl : x4_15.toInt = _))
    have hq_23 := hw.1
    have hw := hw.2
    have e_24 := z_xi e_22 hq_23 (by decide)
    refine k_iald X hH 10 9 rfl rfl (z_in e_24 hq_23) dX47_compareTriples_43 ?_
    have e_25 := z_ld (f := f_row) e_24 hq_23.1
    refine lv_icmp_ge (tgt := 51) hx hb dX47_compareTriples_44 (by decide) (fun c_26 => ?_) (fun c_26 => ?_)
    · have hw := hw.1 (z_le e_25 e_20 c_26)
      refine lv_iconst (v := 1) hx hb dX47_compareTriples_51 (by decide) ?_
      exact k_iret (v := 1) X hH () hw rfl rfl dX47_compareTriples_52
    · have hw := hw.2 (z_nle e_25 e_20 c_26)
      refine lv_iconst (v := (-1)) hx hb dX47_compareTriples_47 (by decide) ?_
      refine lv_goto (tgt := 52) hx hb dX47_compareTriples_48 (by decide) ?_
      exact k_iret (v := (-1)) X hH () hw rfl rfl dX47_compareTriples_52
  · intro hw H locs ls hH hl
    refine lv_iconst (v := 0) hx hb dX47_compareTriples_59 (by decide) ?_
    exact k_iret (v := 0) X hH () hw rfl rfl dX47_compareTriples_60
set_option maxHeartbeats 4000000 in
theorem atX47_makeRow_121 {p : Program} {l : Launch} {e : Env} {s : State} {m : MethodId} {args : Array Value} {below : List Frame} {meth : Method} {c : Code} {dC : Nat → ClassId} {dI : Nat → Nat → Nat} {cl : List vw_C} {ci : Nat} (hc : cl[ci]? = some (RX47, TX47, 27)) {ad : Nat → Nat} {d : Nat → ClassId} {A : Nat → Prop} {post : (Int → Int) → Prop} {f_constants : Nat → Int64} {f_blanks : Nat → Int32} {f_counts : Nat → Int32} {f_points : Nat → Int32} {f_kept : Int32} {f_hashes : Nat → Int64} {f_news : Nat → Int64} {f_rounds : Int32} {f_hashed : Int32} {f_groups : Nat → Int32} {f_groupOf : Nat → Int32} {f_groupCount : Int32} {f_trial : Nat → Int32} {f_names : Nat → Int32} {f_namedBlanks : Int32} {f_form : Nat → Int32} {f_formCount : Int32} {f_octets : Nat → Int32} {f_descriptions : Nat → Int32} {f_described : Int32} {f_message : Nat → Int32} {f_size : Int32} {f_words : Nat → Int64} {f_schedule : Nat → Int64} {f_thrown : Int32} {f_said : Nat → Int32} (X : kX p s m args meth c cX47_makeRow 9 RX47 none (dC, dI) cl (tX47 d)) {K185 : (Int → Int) → Prop} {x1 : Int32} {x3 : Int32}  (hk185 : ∀ (f_row : Nat → Int32), K185 (zF f_row) → ∀ (H : Heap) (locs : List Loc) (ls : Array Slot), kH (dC, dI) cl A s.heap H locs (wX47 ci ad d f_constants f_blanks f_counts f_points f_kept f_hashes f_news f_rounds f_hashed f_groups f_groupOf f_groupCount f_trial f_row f_names f_namedBlanks f_form f_formCount f_octets f_descriptions f_described f_message f_size f_words f_schedule f_thrown f_said) → lv_has ls 9 [(0, .ref (ad 0)), (1, .int x1), (3, .int x3)] → W p l e ({ frames := 1, cells := 0, slots := 0, locals := 24 } : Room) s m args below meth c H locs 0 0 (MQ below (va_Qv (fun (u : (Nat → Int32)) => post (zF (u))) (kB (dC, dI) cl (tX47 d) A (fun u : (Nat → Int32) => (wX47 ci ad d f_constants f_blanks f_counts f_points f_kept f_hashes f_news f_rounds f_hashed f_groups f_groupOf f_groupCount f_trial (u) f_names f_namedBlanks f_form f_formCount f_octets f_descriptions f_described f_message f_size f_words f_schedule f_thrown f_said))) A) args s 0 0 A) (F0 m 185 ls [])) :
    ∀ (nn : Nat) (x7 : Int32) (f_row : Nat → Int32), wX47_makeRow_121 K185 x3.toInt nn x7.toInt (zF f_row) → ∀ (H : Heap) (locs : List Loc) (ls : Array Slot), kH (dC, dI) cl A s.heap H locs (wX47 ci ad d f_constants f_blanks f_counts f_points f_kept f_hashes f_news f_rounds f_hashed f_groups f_groupOf f_groupCount f_trial f_row f_names f_namedBlanks f_form f_formCount f_octets f_descriptions f_described f_message f_size f_words f_schedule f_thrown f_said) → lv_has ls 9 [(0, .ref (ad 0)), (1, .int x1), (3, .int x3), (7, .int x7)] → W p l e ({ frames := 1, cells := 0, slots := 0, locals := 24 } : Room) s m args below meth c H locs 0 0 (MQ below (va_Qv (fun (u : (Nat → Int32)) => post (zF (u))) (kB (dC, dI) cl (tX47 d) A (fun u : (Nat → Int32) => (wX47 ci ad d f_constants f_blanks f_counts f_points f_kept f_hashes f_news f_rounds f_hashed f_groups f_groupOf f_groupCount f_trial (u) f_names f_namedBlanks f_form f_formCount f_octets f_descriptions f_described f_message f_size f_words f_schedule f_thrown f_said))) A) args s 0 0 A) (F0 m 121 ls []) := by
  have hx := X.1.1
  have hb := X.1.2.1
  intro nn
  induction nn with
  | zero =>
    intro x7 f_row hw
    exact False.elim hw
  | succ n ih =>
    intro x7 f_row hw H locs ls hH hl
    rw [wX47_makeRow_121] at hw
    refine lv_iload hx hb dX47_makeRow_121 (lv_at hl 3 rfl) ?_
    refine lv_iconst (v := 3) hx hb dX47_makeRow_123 (by decide) ?_
    refine lv_icmp_ge (tgt := 185) hx hb dX47_makeRow_124 (by decide) (fun c_37 => ?_) (fun c_37 => ?_)
    · have hw := hw.1 (z_le (rfl : (3 : Int32).toInt = 3) (rfl : x7.toInt = _) c_37)
      exact hk185 f_row hw _ _ ls hH (lv_sub hl [0, 1, 2] rfl)
    · have hw := hw.2 (z_nle (rfl : (3 : Int32).toInt = 3) (rfl : x7.toInt = _) c_37)
      refine lv_aload_n hx hb dX47_makeRow_127 rfl (lv_at hl 0 rfl) ?_
      refine k_get X hH in_X47 0 rfl hc 13 (by decide) q5997 rfl dX47_makeRow_128 ?_
      refine lv_iconst (v := 3) hx hb dX47_makeRow_131 (by decide) ?_
      refine lv_iload_n hx hb dX47_makeRow_132 rfl (lv_at hl 2 rfl) ?_
      refine lv_imul hx hb dX47_makeRow_133 ?_
      have e_38 := z_mul (z_m (rfl : (3 : Int32).toInt = 3)) (z_m (rfl : x3.toInt = _))
      refine lv_iload hx hb dX47_makeRow_134 (lv_at hl 3 rfl) ?_
      refine lv_iadd hx hb dX47_makeRow_136 ?_
      have e_39 := z_add e_38 (z_m (rfl : x7.toInt = _))
      have hq_40 := hw.1
      have hw := hw.2
      have e_41 := z_xi e_39 hq_40 (by decide)
      refine k_iald X hH 10 9 rfl rfl (z_in e_41 hq_40) dX47_makeRow_137 ?_
      have e_42 := z_ld (f := f_row) e_41 hq_40.1
      refine lv_topi (fun x8_43 ex8_43 => ?_)
      have hw := hw x8_43.toInt (by rw [ex8_43]; exact e_42)
      refine lv_istore (lv' := [(8, .int x8_43), (0, .ref (ad 0)), (1, .int x1), (3, .int x3), (7, .int x7)]) hx hb dX47_makeRow_138 hl (by decide) rfl (fun ls hl => ?_)
      refine lv_aload_n hx hb dX47_makeRow_140 rfl (lv_at hl 1 rfl) ?_
      refine k_get X hH in_X47 0 rfl hc 13 (by decide) q5997 rfl dX47_makeRow_141 ?_
      refine lv_iconst (v := 3) hx hb dX47_makeRow_144 (by decide) ?_
      refine lv_iload_n hx hb dX47_makeRow_145 rfl (lv_at hl 3 rfl) ?_
      refine lv_imul hx hb dX47_makeRow_146 ?_
      have e_44 := z_mul (z_m (rfl : (3 : Int32).toInt = 3)) (z_m (rfl : x3.toInt = _))
      refine lv_iload hx hb dX47_makeRow_147 (lv_at hl 4 rfl) ?_
      refine lv_iadd hx hb dX47_makeRow_149 ?_
      have e_45 := z_add e_44 (z_m (rfl : x7.toInt = _))
      refine lv_aload_n hx hb dX47_makeRow_150 rfl (lv_at hl 1 rfl) ?_
      refine k_get X hH in_X47 0 rfl hc 13 (by decide) q5997 rfl dX47_makeRow_151 ?_
      refine lv_iconst (v := 3) hx hb dX47_makeRow_154 (by decide) ?_
      refine lv_iload_n hx hb dX47_makeRow_155 rfl (lv_at hl 3 rfl) ?_
      refine lv_imul hx hb dX47_makeRow_156 ?_
      have e_46 := z_mul (z_m (rfl : (3 : Int32).toInt = 3)) (z_m (rfl : x3.toInt = _))
      refine lv_iconst (v := 3) hx hb dX47_makeRow_157 (by decide) ?_
      refine lv_isub hx hb dX47_makeRow_158 ?_
      have e_47 := z_sub e_46 (z_m (rfl : (3 : Int32).toInt = 3))
      refine lv_iload hx hb dX47_makeRow_159 (lv_at hl 4 rfl) ?_
      refine lv_iadd hx hb dX47_makeRow_161 ?_
      have e_48 := z_add e_47 (z_m (rfl : x7.toInt = _))
      have hq_49 := hw.1
      have hw := hw.2
      have e_50 := z_xi e_48 hq_49 (by decide)
      refine k_iald X hH 10 9 rfl rfl (z_in e_50 hq_49) dX47_makeRow_162 ?_
      have e_51 := z_ld (f := f_row) e_50 hq_49.1
      refine lv_topi (fun v_52 ev_52 => ?_)
      have hw := hw v_52.toInt (by rw [ev_52]; exact e_51)
      have e_54 := z_xi e_45 hq_40 (by decide)
      obtain ⟨f_row_53, ef_row_53⟩ : ∃ y : Nat → Int32, y = upd f_row ((3 * x3) + x7).toNatClampNeg v_52 := ⟨_, rfl⟩
      refine k_iast X hH 10 9 rfl rfl (z_in e_54 hq_40) dX47_makeRow_163 ef_row_53 (ws1 := (wX47 ci ad d f_constants f_blanks f_counts f_points f_kept f_hashes f_news f_rounds f_hashed f_groups f_groupOf f_groupCount f_trial f_row_53 f_names f_namedBlanks f_form f_formCount f_octets f_descriptions f_described f_message f_size f_words f_schedule f_thrown f_said)) rfl (fun H locs hH => ?_)
      have hw := hw (zF f_row_53) (by rw [ef_row_53]; exact z_st (f := f_row) e_54 hq_40.1 (rfl : v_52.toInt = _))
      refine lv_aload_n hx hb dX47_makeRow_164 rfl (lv_at hl 1 rfl) ?_
      refine k_get X hH in_X47 0 rfl hc 13 (by decide) q5997 rfl dX47_makeRow_165 ?_
      refine lv_iconst (v := 3) hx hb dX47_makeRow_168 (by decide) ?_
      refine lv_iload_n hx hb dX47_makeRow_169 rfl (lv_at hl 3 rfl) ?_
      refine lv_imul hx hb dX47_makeRow_170 ?_
      have e_55 := z_mul (z_m (rfl : (3 : Int32).toInt = 3)) (z_m (rfl : x3.toInt = _))
      refine lv_iconst (v := 3) hx hb dX47_makeRow_171 (by decide) ?_
      refine lv_isub hx hb dX47_makeRow_172 ?_
      have e_56 := z_sub e_55 (z_m (rfl : (3 : Int32).toInt = 3))
      refine lv_iload hx hb dX47_makeRow_173 (lv_at hl 4 rfl) ?_
      refine lv_iadd hx hb dX47_makeRow_175 ?_
      have e_57 := z_add e_56 (z_m (rfl : x7.toInt = _))
      refine lv_iload hx hb dX47_makeRow_176 (lv_at hl 0 rfl) ?_
      have e_59 := z_xi e_57 hq_49 (by decide)
      obtain ⟨f_row_58, ef_row_58⟩ : ∃ y : Nat → Int32, y = upd f_row_53 (((3 * x3) - 3) + x7).toNatClampNeg x8_43 := ⟨_, rfl⟩
      refine k_iast X hH 10 9 rfl rfl (z_in e_59 hq_49) dX47_makeRow_178 ef_row_58 (ws1 := (wX47 ci ad d f_constants f_blanks f_counts f_points f_kept f_hashes f_news f_rounds f_hashed f_groups f_groupOf f_groupCount f_trial f_row_58 f_names f_namedBlanks f_form f_formCount f_octets f_descriptions f_described f_message f_size f_words f_schedule f_thrown f_said)) rfl (fun H locs hH => ?_)
      have hw := hw (zF f_row_58) (by rw [ef_row_58]; exact z_st (f := f_row_53) e_59 hq_49.1 (rfl : x8_43.toInt = _))
      have hq_61 := hw.1
      have hw := hw.2
      obtain ⟨x7_60, ex7_60⟩ : ∃ y : Int32, y = x7 + 1 := ⟨_, rfl⟩
      have hw := hw x7_60.toInt (by rw [ex7_60]; exact (z_x (z_add (z_m (rfl : x7.toInt = _)) (z_m (rfl : (1 : Int32).toInt = 1))) hq_61))
      refine lv_iinc (v := x7_60) (lv' := [(7, .int x7_60), (8, .int x8_43), (0, .ref (ad 0)), (1, .int x1), (3, .int x3)]) hx hb dX47_makeRow_179 hl (k := 4) rfl (by rw [ex7_60]; rfl) (by decide) rfl (fun ls hl => ?_)
      refine lv_goto (tgt := 121) hx hb dX47_makeRow_182 (by decide) ?_
      exact ih x7_60 f_row_58 hw _ _ ls hH (lv_sub hl [2, 3, 4, 0] rfl)
set_option maxHeartbeats 4000000 in
theorem atX47_makeRow_96 {p : Program} {l : Launch} {e : Env} {s : State} {m : MethodId} {args : Array Value} {below : List Frame} {meth : Method} {c : Code} {dC : Nat → ClassId} {dI : Nat → Nat → Nat} {cl : List vw_C} {ci : Nat} (hc : cl[ci]? = some (RX47, TX47, 27)) {ad : Nat → Nat} {d : Nat → ClassId} {A : Nat → Prop} {post : (Int → Int) → Prop} {f_constants : Nat → Int64} {f_blanks : Nat → Int32} {f_counts : Nat → Int32} {f_points : Nat → Int32} {f_kept : Int32} {f_hashes : Nat → Int64} {f_news : Nat → Int64} {f_rounds : Int32} {f_hashed : Int32} {f_groups : Nat → Int32} {f_groupOf : Nat → Int32} {f_groupCount : Int32} {f_trial : Nat → Int32} {f_names : Nat → Int32} {f_namedBlanks : Int32} {f_form : Nat → Int32} {f_formCount : Int32} {f_octets : Nat → Int32} {f_descriptions : Nat → Int32} {f_described : Int32} {f_message : Nat → Int32} {f_size : Int32} {f_words : Nat → Int64} {f_schedule : Nat → Int64} {f_thrown : Int32} {f_said : Nat → Int32} (X : kX p s m args meth c cX47_makeRow 9 RX47 none (dC, dI) cl (tX47 d)) {K191 : (Int → Int) → Prop} {x1 : Int32}  (hk191 : ∀ (f_row : Nat → Int32), K191 (zF f_row) → ∀ (H : Heap) (locs : List Loc) (ls : Array Slot), kH (dC, dI) cl A s.heap H locs (wX47 ci ad d f_constants f_blanks f_counts f_points f_kept f_hashes f_news f_rounds f_hashed f_groups f_groupOf f_groupCount f_trial f_row f_names f_namedBlanks f_form f_formCount f_octets f_descriptions f_described f_message f_size f_words f_schedule f_thrown f_said) → lv_has ls 9 [(0, .ref (ad 0)), (1, .int x1)] → W p l e ({ frames := 1, cells := 0, slots := 0, locals := 24 } : Room) s m args below meth c H locs 0 0 (MQ below (va_Qv (fun (u : (Nat → Int32)) => post (zF (u))) (kB (dC, dI) cl (tX47 d) A (fun u : (Nat → Int32) => (wX47 ci ad d f_constants f_blanks f_counts f_points f_kept f_hashes f_news f_rounds f_hashed f_groups f_groupOf f_groupCount f_trial (u) f_names f_namedBlanks f_form f_formCount f_octets f_descriptions f_described f_message f_size f_words f_schedule f_thrown f_said))) A) args s 0 0 A) (F0 m 191 ls [])) :
    ∀ (nn : Nat) (x3 : Int32) (f_row : Nat → Int32), wX47_makeRow_96 K191 nn x3.toInt (zF f_row) → ∀ (H : Heap) (locs : List Loc) (ls : Array Slot), kH (dC, dI) cl A s.heap H locs (wX47 ci ad d f_constants f_blanks f_counts f_points f_kept f_hashes f_news f_rounds f_hashed f_groups f_groupOf f_groupCount f_trial f_row f_names f_namedBlanks f_form f_formCount f_octets f_descriptions f_described f_message f_size f_words f_schedule f_thrown f_said) → lv_has ls 9 [(0, .ref (ad 0)), (1, .int x1), (3, .int x3)] → W p l e ({ frames := 1, cells := 0, slots := 0, locals := 24 } : Room) s m args below meth c H locs 0 0 (MQ below (va_Qv (fun (u : (Nat → Int32)) => post (zF (u))) (kB (dC, dI) cl (tX47 d) A (fun u : (Nat → Int32) => (wX47 ci ad d f_constants f_blanks f_counts f_points f_kept f_hashes f_news f_rounds f_hashed f_groups f_groupOf f_groupCount f_trial (u) f_names f_namedBlanks f_form f_formCount f_octets f_descriptions f_described f_message f_size f_words f_schedule f_thrown f_said))) A) args s 0 0 A) (F0 m 96 ls []) := by
  have hx := X.1.1
  have hb := X.1.2.1
  intro nn
  induction nn with
  | zero =>
    intro x3 f_row hw
    exact False.elim hw
  | succ n ih =>
    intro x3 f_row hw H locs ls hH hl
    rw [wX47_makeRow_96] at hw
    refine lv_iload_n hx hb dX47_makeRow_96 rfl (lv_at hl 2 rfl) ?_
    refine lv_if_le (tgt := 191) hx hb dX47_makeRow_97 (by decide) (fun c_31 => ?_) (fun c_31 => ?_)
    · have hw := hw.1 (z_le (rfl : x3.toInt = _) (rfl : (0 : Int32).toInt = 0) c_31)
      exact hk191 f_row hw _ _ ls hH (lv_sub hl [0, 1] rfl)
    · have hw := hw.2 (z_nle (rfl : x3.toInt = _) (rfl : (0 : Int32).toInt = 0) c_31)
      refine lv_aload_n hx hb dX47_makeRow_100 rfl (lv_at hl 0 rfl) ?_
      refine k_get X hH in_X47 0 rfl hc 13 (by decide) q5997 rfl dX47_makeRow_101 ?_
      refine lv_iload_n hx hb dX47_makeRow_104 rfl (lv_at hl 2 rfl) ?_
      refine lv_aload_n hx hb dX47_makeRow_105 rfl (lv_at hl 0 rfl) ?_
      refine k_get X hH in_X47 0 rfl hc 13 (by decide) q5997 rfl dX47_makeRow_106 ?_
      refine lv_iload_n hx hb dX47_makeRow_109 rfl (lv_at hl 2 rfl) ?_
      refine lv_iconst (v := 1) hx hb dX47_makeRow_110 (by decide) ?_
      refine lv_isub hx hb dX47_makeRow_111 ?_
      have e_32 := z_sub (z_m (rfl : x3.toInt = _)) (z_m (rfl : (1 : Int32).toInt = 1))
      have hq_33 := hw.1
      have hw := hw.2
      have e_34 := z_x e_32 hq_33
      refine k_i0 hH (k_runS (As := [.ref (ad 10), .int x3, .ref (ad 10), .int (x3 - 1)]) (rest := []) X hH.1 hH.2.1 X.2.2.2 (walkX47_compareTriples_row_row hc (x1 := x3) (x3 := (x3 - 1)) (f_constants := f_constants) (f_blanks := f_blanks) (f_counts := f_counts) (f_points := f_points) (f_kept := f_kept) (f_hashes := f_hashes) (f_news := f_news) (f_rounds := f_rounds) (f_hashed := f_hashed) (f_groups := f_groups) (f_groupOf := f_groupOf) (f_groupCount := f_groupCount) (f_trial := f_trial) (f_row := f_row) (f_names := f_names) (f_namedBlanks := f_namedBlanks) (f_form := f_form) (f_formCount := f_formCount) (f_octets := f_octets) (f_descriptions := f_descriptions) (f_described := f_described) (f_message := f_message) (f_size := f_size) (f_words := f_words) (f_schedule := f_schedule) (f_thrown := f_thrown) (f_said := f_said) (by rw [show (x3 - 1 : Int32).toInt = _ from e_34]; exact hw)) (va_cwS 4 X.1.2.2.2.2 gX47_304 rfl rfl rfl hX47_compareTriples ⟨Nat.le_of_ble_eq_true rfl, Nat.le_of_ble_eq_true rfl⟩) rfl hl.1 rfl (Nat.le_of_ble_eq_true rfl) dX47_makeRow_112 ⟨Nat.le_refl 0, Nat.le_refl 0⟩) (fun r_35 _ H locs hw hH => ?_)
      have hH : kH (dC, dI) cl A s.heap H locs (wX47 ci ad d f_constants f_blanks f_counts f_points f_kept f_hashes f_news f_rounds f_hashed f_groups f_groupOf f_groupCount f_trial f_row f_names f_namedBlanks f_form f_formCount f_octets f_descriptions f_described f_message f_size f_words f_schedule f_thrown f_said) := hH
      refine lv_if_ge (tgt := 191) hx hb dX47_makeRow_115 (by decide) (fun c_36 => ?_) (fun c_36 => ?_)
      · have hw := hw.1 (z_le (rfl : (0 : Int32).toInt = 0) (rfl : r_35.toInt = _) c_36)
        exact hk191 f_row hw _ _ ls hH (lv_sub hl [0, 1] rfl)
      · have hw := hw.2 (z_nle (rfl : (0 : Int32).toInt = 0) (rfl : r_35.toInt = _) c_36)
        refine lv_iconst (v := 0) hx hb dX47_makeRow_118 (by decide) ?_
        refine lv_istore (lv' := [(7, .int 0), (0, .ref (ad 0)), (1, .int x1), (3, .int x3)]) hx hb dX47_makeRow_119 hl (by decide) rfl (fun ls hl => ?_)
        obtain ⟨fu, hw⟩ := hw
        refine atX47_makeRow_121 hc X ?_ fu 0 f_row hw _ _ ls hH (lv_sub hl [1, 2, 3, 0] rfl)
        · intro f_row_62 hw H locs ls hH hl
          have hq_64 := hw.1
          have hw := hw.2
          obtain ⟨x3_63, ex3_63⟩ : ∃ y : Int32, y = x3 + (-1) := ⟨_, rfl⟩
          have hw := hw x3_63.toInt (by rw [ex3_63]; exact (z_x (z_add (z_m (rfl : x3.toInt = _)) (z_m (rfl : ((-1) : Int32).toInt = (-1)))) hq_64))
          refine lv_iinc (v := x3_63) (lv' := [(3, .int x3_63), (0, .ref (ad 0)), (1, .int x1)]) hx hb dX47_makeRow_185 hl (k := 2) rfl (by rw [ex3_63]; rfl) (by decide) rfl (fun ls hl => ?_)
          refine lv_goto (tgt := 96) hx hb dX47_makeRow_188 (by decide) ?_
          exact ih x3_63 f_row_62 hw _ _ ls hH (lv_sub hl [1, 2, 0] rfl)
set_option maxHeartbeats 4000000 in
theorem atX47_makeRow_2 {p : Program} {l : Launch} {e : Env} {s : State} {m : MethodId} {args : Array Value} {below : List Frame} {meth : Method} {c : Code} {dC : Nat → ClassId} {dI : Nat → Nat → Nat} {cl : List vw_C} {ci : Nat} (hc : cl[ci]? = some (RX47, TX47, 27)) {ad : Nat → Nat} {d : Nat → ClassId} {A : Nat → Prop} {post : (Int → Int) → Prop} {f_constants : Nat → Int64} {f_blanks : Nat → Int32} {f_counts : Nat → Int32} {f_points : Nat → Int32} {f_kept : Int32} {f_hashes : Nat → Int64} {f_news : Nat → Int64} {f_rounds : Int32} {f_hashed : Int32} {f_groups : Nat → Int32} {f_groupOf : Nat → Int32} {f_groupCount : Int32} {f_trial : Nat → Int32} {f_names : Nat → Int32} {f_namedBlanks : Int32} {f_form : Nat → Int32} {f_formCount : Int32} {f_octets : Nat → Int32} {f_descriptions : Nat → Int32} {f_described : Int32} {f_message : Nat → Int32} {f_size : Int32} {f_words : Nat → Int64} {f_schedule : Nat → Int64} {f_thrown : Int32} {f_said : Nat → Int32} (X : kX p s m args meth c cX47_makeRow 9 RX47 none (dC, dI) cl (tX47 d)) {K197 : (Int → Int) → Prop}   (hk197 : ∀ (f_row : Nat → Int32), K197 (zF f_row) → ∀ (H : Heap) (locs : List Loc) (ls : Array Slot), kH (dC, dI) cl A s.heap H locs (wX47 ci ad d f_constants f_blanks f_counts f_points f_kept f_hashes f_news f_rounds f_hashed f_groups f_groupOf f_groupCount f_trial f_row f_names f_namedBlanks f_form f_formCount f_octets f_descriptions f_described f_message f_size f_words f_schedule f_thrown f_said) → lv_has ls 9 [] → W p l e ({ frames := 1, cells := 0, slots := 0, locals := 24 } : Room) s m args below meth c H locs 0 0 (MQ below (va_Qv (fun (u : (Nat → Int32)) => post (zF (u))) (kB (dC, dI) cl (tX47 d) A (fun u : (Nat → Int32) => (wX47 ci ad d f_constants f_blanks f_counts f_points f_kept f_hashes f_news f_rounds f_hashed f_groups f_groupOf f_groupCount f_trial (u) f_names f_namedBlanks f_form f_formCount f_octets f_descriptions f_described f_message f_size f_words f_schedule f_thrown f_said))) A) args s 0 0 A) (F0 m 197 ls [])) :
    ∀ (nn : Nat) (x1 : Int32) (f_row : Nat → Int32), wX47_makeRow_2 K197 (zF f_counts) (zF f_points) (zF f_trial) nn x1.toInt (zF f_row) → ∀ (H : Heap) (locs : List Loc) (ls : Array Slot), kH (dC, dI) cl A s.heap H locs (wX47 ci ad d f_constants f_blanks f_counts f_points f_kept f_hashes f_news f_rounds f_hashed f_groups f_groupOf f_groupCount f_trial f_row f_names f_namedBlanks f_form f_formCount f_octets f_descriptions f_described f_message f_size f_words f_schedule f_thrown f_said) → lv_has ls 9 [(0, .ref (ad 0)), (1, .int x1)] → W p l e ({ frames := 1, cells := 0, slots := 0, locals := 24 } : Room) s m args below meth c H locs 0 0 (MQ below (va_Qv (fun (u : (Nat → Int32)) => post (zF (u))) (kB (dC, dI) cl (tX47 d) A (fun u : (Nat → Int32) => (wX47 ci ad d f_constants f_blanks f_counts f_points f_kept f_hashes f_news f_rounds f_hashed f_groups f_groupOf f_groupCount f_trial (u) f_names f_namedBlanks f_form f_formCount f_octets f_descriptions f_described f_message f_size f_words f_schedule f_thrown f_said))) A) args s 0 0 A) (F0 m 2 ls []) := by
  have hx := X.1.1
  have hb := X.1.2.1
  intro nn
  induction nn with
  | zero =>
    intro x1 f_row hw
    exact False.elim hw
  | succ n ih =>
    intro x1 f_row hw H locs ls hH hl
    rw [wX47_makeRow_2] at hw
    refine lv_iload_n hx hb dX47_makeRow_2 rfl (lv_at hl 1 rfl) ?_
    refine lv_aload_n hx hb dX47_makeRow_3 rfl (lv_at hl 0 rfl) ?_
    refine k_get X hH in_X47 0 rfl hc 2 (by decide) q5986 rfl dX47_makeRow_4 ?_
    refine lv_bipush (v := 8) hx hb dX47_makeRow_7 (by decide) ?_
    refine k_iald X hH 3 2 rfl rfl (by unfold vp_in; decide) dX47_makeRow_9 ?_
    have e_1 := z_ld (f := f_counts) (rfl : (8 : Int32).toInt = 8) (by decide)
    refine lv_icmp_ge (tgt := 197) hx hb dX47_makeRow_10 (by decide) (fun c_2 => ?_) (fun c_2 => ?_)
    · have hw := hw.1 (z_le e_1 (rfl : x1.toInt = _) c_2)
      exact hk197 f_row hw _ _ ls hH (lv_sub hl [] rfl)
    · have hw := hw.2 (z_nle e_1 (rfl : x1.toInt = _) c_2)
      refine lv_bipush (v := 8) hx hb dX47_makeRow_13 (by decide) ?_
      refine lv_iload_n hx hb dX47_makeRow_15 rfl (lv_at hl 1 rfl) ?_
      refine k_i0 hH (k_runS (As := [.int 8, .int x1]) (rest := []) X hH.1 hH.2.1 X.2.2.2 (walkX47_at hc (x0 := 8) (x1 := x1) (f_constants := f_constants) (f_blanks := f_blanks) (f_counts := f_counts) (f_points := f_points) (f_kept := f_kept) (f_hashes := f_hashes) (f_news := f_news) (f_rounds := f_rounds) (f_hashed := f_hashed) (f_groups := f_groups) (f_groupOf := f_groupOf) (f_groupCount := f_groupCount) (f_trial := f_trial) (f_row := f_row) (f_names := f_names) (f_namedBlanks := f_namedBlanks) (f_form := f_form) (f_formCount := f_formCount) (f_octets := f_octets) (f_descriptions := f_descriptions) (f_described := f_described) (f_message := f_message) (f_size := f_size) (f_words := f_words) (f_schedule := f_schedule) (f_thrown := f_thrown) (f_said := f_said) hw) (va_cwS 2 X.1.2.2.2.2 gX47_245 rfl rfl rfl hX47_at ⟨Nat.le_of_ble_eq_true rfl, Nat.le_of_ble_eq_true rfl⟩) rfl hl.1 rfl (Nat.le_of_ble_eq_true rfl) dX47_makeRow_16 ⟨Nat.le_refl 0, Nat.le_refl 0⟩) (fun r_3 _ H locs hw hH => ?_)
      have hH : kH (dC, dI) cl A s.heap H locs (wX47 ci ad d f_constants f_blanks f_counts f_points f_kept f_hashes f_news f_rounds f_hashed f_groups f_groupOf f_groupCount f_trial f_row f_names f_namedBlanks f_form f_formCount f_octets f_descriptions f_described f_message f_size f_words f_schedule f_thrown f_said) := hH
      refine lv_istore_n (lv' := [(2, .int r_3), (0, .ref (ad 0)), (1, .int x1)]) hx hb dX47_makeRow_19 rfl hl (by decide) rfl (fun ls hl => ?_)
      refine lv_iload_n hx hb dX47_makeRow_20 rfl (lv_at hl 2 rfl) ?_
      refine lv_istore_n (lv' := [(3, .int x1), (2, .int r_3), (0, .ref (ad 0)), (1, .int x1)]) hx hb dX47_makeRow_21 rfl hl (by decide) rfl (fun ls hl => ?_)
      refine lv_aload_n hx hb dX47_makeRow_22 rfl (lv_at hl 2 rfl) ?_
      refine lv_aload_n hx hb dX47_makeRow_23 rfl (lv_at hl 2 rfl) ?_
      refine k_get X hH in_X47 0 rfl hc 3 (by decide) q5987 rfl dX47_makeRow_24 ?_
      refine lv_iload_n hx hb dX47_makeRow_27 rfl (lv_at hl 1 rfl) ?_
      have hq_4 := hw.1
      have hw := hw.2
      refine k_iald X hH 4 3 rfl rfl (z_in (rfl : r_3.toInt = _) hq_4) dX47_makeRow_28 ?_
      have e_5 := z_ld (f := f_points) (rfl : r_3.toInt = _) hq_4.1
      refine k_i0 hH (k_runV (As := [.int (f_points r_3.toNatClampNeg)]) (rest := []) X hH.1 hH.2.1 X.2.2.2 (walkX47_numbered hc (x1 := (f_points r_3.toNatClampNeg)) (f_constants := f_constants) (f_blanks := f_blanks) (f_counts := f_counts) (f_points := f_points) (f_kept := f_kept) (f_hashes := f_hashes) (f_news := f_news) (f_rounds := f_rounds) (f_hashed := f_hashed) (f_groups := f_groups) (f_groupOf := f_groupOf) (f_groupCount := f_groupCount) (f_trial := f_trial) (f_row := f_row) (f_names := f_names) (f_namedBlanks := f_namedBlanks) (f_form := f_form) (f_formCount := f_formCount) (f_octets := f_octets) (f_descriptions := f_descriptions) (f_described := f_described) (f_message := f_message) (f_size := f_size) (f_words := f_words) (f_schedule := f_schedule) (f_thrown := f_thrown) (f_said := f_said) (by rw [show (f_points r_3.toNatClampNeg : Int32).toInt = _ from e_5]; exact hw)) (cwV 1 X.1.2.2.2.2 gX47_300 rfl rfl rfl hX47_numbered ⟨Nat.le_of_ble_eq_true rfl, Nat.le_of_ble_eq_true rfl⟩) hc (q0 := 0) rfl rfl hl.1 rfl (Nat.le_of_ble_eq_true rfl) dX47_makeRow_29 ⟨Nat.le_refl 0, Nat.le_refl 0⟩) (fun r_6 _ H locs hw hH => ?_)
      have hH : kH (dC, dI) cl A s.heap H locs (wX47 ci ad d f_constants f_blanks f_counts f_points f_kept f_hashes f_news f_rounds f_hashed f_groups f_groupOf f_groupCount f_trial f_row f_names f_namedBlanks f_form f_formCount f_octets f_descriptions f_described f_message f_size f_words f_schedule f_thrown f_said) := hH
      refine lv_istore (lv' := [(4, .int r_6), (3, .int x1), (2, .int r_3), (0, .ref (ad 0)), (1, .int x1)]) hx hb dX47_makeRow_32 hl (by decide) rfl (fun ls hl => ?_)
      refine lv_aload_n hx hb dX47_makeRow_34 rfl (lv_at hl 3 rfl) ?_
      refine lv_aload_n hx hb dX47_makeRow_35 rfl (lv_at hl 3 rfl) ?_
      refine k_get X hH in_X47 0 rfl hc 3 (by decide) q5987 rfl dX47_makeRow_36 ?_
      refine lv_iload_n hx hb dX47_makeRow_39 rfl (lv_at hl 2 rfl) ?_
      refine lv_iconst (v := 1) hx hb dX47_makeRow_40 (by decide) ?_
      refine lv_iadd hx hb dX47_makeRow_41 ?_
      have e_7 := z_add (z_m (rfl : r_3.toInt = _)) (z_m (rfl : (1 : Int32).toInt = 1))
      have hq_8 := hw.1
      have hw := hw.2
      have e_9 := z_xi e_7 hq_8 (by decide)
      refine k_iald X hH 4 3 rfl rfl (z_in e_9 hq_8) dX47_makeRow_42 ?_
      have e_10 := z_ld (f := f_points) e_9 hq_8.1
      refine k_i0 hH (k_runV (As := [.int (f_points (r_3 + 1).toNatClampNeg)]) (rest := []) X hH.1 hH.2.1 X.2.2.2 (walkX47_numbered hc (x1 := (f_points (r_3 + 1).toNatClampNeg)) (f_constants := f_constants) (f_blanks := f_blanks) (f_counts := f_counts) (f_points := f_points) (f_kept := f_kept) (f_hashes := f_hashes) (f_news := f_news) (f_rounds := f_rounds) (f_hashed := f_hashed) (f_groups := f_groups) (f_groupOf := f_groupOf) (f_groupCount := f_groupCount) (f_trial := f_trial) (f_row := f_row) (f_names := f_names) (f_namedBlanks := f_namedBlanks) (f_form := f_form) (f_formCount := f_formCount) (f_octets := f_octets) (f_descriptions := f_descriptions) (f_described := f_described) (f_message := f_message) (f_size := f_size) (f_words := f_words) (f_schedule := f_schedule) (f_thrown := f_thrown) (f_said := f_said) (by rw [show (f_points (r_3 + 1).toNatClampNeg : Int32).toInt = _ from e_10]; exact hw)) (cwV 1 X.1.2.2.2.2 gX47_300 rfl rfl rfl hX47_numbered ⟨Nat.le_of_ble_eq_true rfl, Nat.le_of_ble_eq_true rfl⟩) hc (q0 := 0) rfl rfl hl.1 rfl (Nat.le_of_ble_eq_true rfl) dX47_makeRow_43 ⟨Nat.le_refl 0, Nat.le_refl 0⟩) (fun r_11 _ H locs hw hH => ?_)
      have hH : kH (dC, dI) cl A s.heap H locs (wX47 ci ad d f_constants f_blanks f_counts f_points f_kept f_hashes f_news f_rounds f_hashed f_groups f_groupOf f_groupCount f_trial f_row f_names f_namedBlanks f_form f_formCount f_octets f_descriptions f_described f_message f_size f_words f_schedule f_thrown f_said) := hH
      refine lv_istore (lv' := [(5, .int r_11), (4, .int r_6), (3, .int x1), (2, .int r_3), (0, .ref (ad 0)), (1, .int x1)]) hx hb dX47_makeRow_46 hl (by decide) rfl (fun ls hl => ?_)
      refine lv_aload_n hx hb dX47_makeRow_48 rfl (lv_at hl 4 rfl) ?_
      refine lv_aload_n hx hb dX47_makeRow_49 rfl (lv_at hl 4 rfl) ?_
      refine k_get X hH in_X47 0 rfl hc 3 (by decide) q5987 rfl dX47_makeRow_50 ?_
      refine lv_iload_n hx hb dX47_makeRow_53 rfl (lv_at hl 3 rfl) ?_
      refine lv_iconst (v := 2) hx hb dX47_makeRow_54 (by decide) ?_
      refine lv_iadd hx hb dX47_makeRow_55 ?_
      have e_12 := z_add (z_m (rfl : r_3.toInt = _)) (z_m (rfl : (2 : Int32).toInt = 2))
      have hq_13 := hw.1
      have hw := hw.2
      have e_14 := z_xi e_12 hq_13 (by decide)
      refine k_iald X hH 4 3 rfl rfl (z_in e_14 hq_13) dX47_makeRow_56 ?_
      have e_15 := z_ld (f := f_points) e_14 hq_13.1
      refine k_i0 hH (k_runV (As := [.int (f_points (r_3 + 2).toNatClampNeg)]) (rest := []) X hH.1 hH.2.1 X.2.2.2 (walkX47_numbered hc (x1 := (f_points (r_3 + 2).toNatClampNeg)) (f_constants := f_constants) (f_blanks := f_blanks) (f_counts := f_counts) (f_points := f_points) (f_kept := f_kept) (f_hashes := f_hashes) (f_news := f_news) (f_rounds := f_rounds) (f_hashed := f_hashed) (f_groups := f_groups) (f_groupOf := f_groupOf) (f_groupCount := f_groupCount) (f_trial := f_trial) (f_row := f_row) (f_names := f_names) (f_namedBlanks := f_namedBlanks) (f_form := f_form) (f_formCount := f_formCount) (f_octets := f_octets) (f_descriptions := f_descriptions) (f_described := f_described) (f_message := f_message) (f_size := f_size) (f_words := f_words) (f_schedule := f_schedule) (f_thrown := f_thrown) (f_said := f_said) (by rw [show (f_points (r_3 + 2).toNatClampNeg : Int32).toInt = _ from e_15]; exact hw)) (cwV 1 X.1.2.2.2.2 gX47_300 rfl rfl rfl hX47_numbered ⟨Nat.le_of_ble_eq_true rfl, Nat.le_of_ble_eq_true rfl⟩) hc (q0 := 0) rfl rfl hl.1 rfl (Nat.le_of_ble_eq_true rfl) dX47_makeRow_57 ⟨Nat.le_refl 0, Nat.le_refl 0⟩) (fun r_16 _ H locs hw hH => ?_)
      have hH : kH (dC, dI) cl A s.heap H locs (wX47 ci ad d f_constants f_blanks f_counts f_points f_kept f_hashes f_news f_rounds f_hashed f_groups f_groupOf f_groupCount f_trial f_row f_names f_namedBlanks f_form f_formCount f_octets f_descriptions f_described f_message f_size f_words f_schedule f_thrown f_said) := hH
      refine lv_istore (lv' := [(6, .int r_16), (5, .int r_11), (4, .int r_6), (3, .int x1), (2, .int r_3), (0, .ref (ad 0)), (1, .int x1)]) hx hb dX47_makeRow_60 hl (by decide) rfl (fun ls hl => ?_)
      refine lv_aload_n hx hb dX47_makeRow_62 rfl (lv_at hl 5 rfl) ?_
      refine k_get X hH in_X47 0 rfl hc 13 (by decide) q5997 rfl dX47_makeRow_63 ?_
      refine lv_iconst (v := 3) hx hb dX47_makeRow_66 (by decide) ?_
      refine lv_iload_n hx hb dX47_makeRow_67 rfl (lv_at hl 3 rfl) ?_
      refine lv_imul hx hb dX47_makeRow_68 ?_
      have e_17 := z_mul (z_m (rfl : (3 : Int32).toInt = 3)) (z_m (rfl : x1.toInt = _))
      refine lv_iload hx hb dX47_makeRow_69 (lv_at hl 2 rfl) ?_
      have hq_19 := hw.1
      have hw := hw.2
      have e_20 := z_xi e_17 hq_19 (by decide)
      obtain ⟨f_row_18, ef_row_18⟩ : ∃ y : Nat → Int32, y = upd f_row (3 * x1).toNatClampNeg r_6 := ⟨_, rfl⟩
      refine k_iast X hH 10 9 rfl rfl (z_in e_20 hq_19) dX47_makeRow_71 ef_row_18 (ws1 := (wX47 ci ad d f_constants f_blanks f_counts f_points f_kept f_hashes f_news f_rounds f_hashed f_groups f_groupOf f_groupCount f_trial f_row_18 f_names f_namedBlanks f_form f_formCount f_octets f_descriptions f_described f_message f_size f_words f_schedule f_thrown f_said)) rfl (fun H locs hH => ?_)
      have hw := hw (zF f_row_18) (by rw [ef_row_18]; exact z_st (f := f_row) e_20 hq_19.1 (rfl : r_6.toInt = _))
      refine lv_aload_n hx hb dX47_makeRow_72 rfl (lv_at hl 5 rfl) ?_
      refine k_get X hH in_X47 0 rfl hc 13 (by decide) q5997 rfl dX47_makeRow_73 ?_
      refine lv_iconst (v := 3) hx hb dX47_makeRow_76 (by decide) ?_
      refine lv_iload_n hx hb dX47_makeRow_77 rfl (lv_at hl 3 rfl) ?_
      refine lv_imul hx hb dX47_makeRow_78 ?_
      have e_21 := z_mul (z_m (rfl : (3 : Int32).toInt = 3)) (z_m (rfl : x1.toInt = _))
      refine lv_iconst (v := 1) hx hb dX47_makeRow_79 (by decide) ?_
      refine lv_iadd hx hb dX47_makeRow_80 ?_
      have e_22 := z_add e_21 (z_m (rfl : (1 : Int32).toInt = 1))
      refine lv_iload hx hb dX47_makeRow_81 (lv_at hl 1 rfl) ?_
      have hq_24 := hw.1
      have hw := hw.2
      have e_25 := z_xi e_22 hq_24 (by decide)
      obtain ⟨f_row_23, ef_row_23⟩ : ∃ y : Nat → Int32, y = upd f_row_18 ((3 * x1) + 1).toNatClampNeg r_11 := ⟨_, rfl⟩
      refine k_iast X hH 10 9 rfl rfl (z_in e_25 hq_24) dX47_makeRow_83 ef_row_23 (ws1 := (wX47 ci ad d f_constants f_blanks f_counts f_points f_kept f_hashes f_news f_rounds f_hashed f_groups f_groupOf f_groupCount f_trial f_row_23 f_names f_namedBlanks f_form f_formCount f_octets f_descriptions f_described f_message f_size f_words f_schedule f_thrown f_said)) rfl (fun H locs hH => ?_)
      have hw := hw (zF f_row_23) (by rw [ef_row_23]; exact z_st (f := f_row_18) e_25 hq_24.1 (rfl : r_11.toInt = _))
      refine lv_aload_n hx hb dX47_makeRow_84 rfl (lv_at hl 5 rfl) ?_
      refine k_get X hH in_X47 0 rfl hc 13 (by decide) q5997 rfl dX47_makeRow_85 ?_
      refine lv_iconst (v := 3) hx hb dX47_makeRow_88 (by decide) ?_
      refine lv_iload_n hx hb dX47_makeRow_89 rfl (lv_at hl 3 rfl) ?_
      refine lv_imul hx hb dX47_makeRow_90 ?_
      have e_26 := z_mul (z_m (rfl : (3 : Int32).toInt = 3)) (z_m (rfl : x1.toInt = _))
      refine lv_iconst (v := 2) hx hb dX47_makeRow_91 (by decide) ?_
      refine lv_iadd hx hb dX47_makeRow_92 ?_
      have e_27 := z_add e_26 (z_m (rfl : (2 : Int32).toInt = 2))
      refine lv_iload hx hb dX47_makeRow_93 (lv_at hl 0 rfl) ?_
      have hq_29 := hw.1
      have hw := hw.2
      have e_30 := z_xi e_27 hq_29 (by decide)
      obtain ⟨f_row_28, ef_row_28⟩ : ∃ y : Nat → Int32, y = upd f_row_23 ((3 * x1) + 2).toNatClampNeg r_16 := ⟨_, rfl⟩
      refine k_iast X hH 10 9 rfl rfl (z_in e_30 hq_29) dX47_makeRow_95 ef_row_28 (ws1 := (wX47 ci ad d f_constants f_blanks f_counts f_points f_kept f_hashes f_news f_rounds f_hashed f_groups f_groupOf f_groupCount f_trial f_row_28 f_names f_namedBlanks f_form f_formCount f_octets f_descriptions f_described f_message f_size f_words f_schedule f_thrown f_said)) rfl (fun H locs hH => ?_)
      have hw := hw (zF f_row_28) (by rw [ef_row_28]; exact z_st (f := f_row_23) e_30 hq_29.1 (rfl : r_16.toInt = _))
      obtain ⟨fu, hw⟩ := hw
      refine atX47_makeRow_96 hc X ?_ fu x1 f_row_28 hw _ _ ls hH (lv_sub hl [5, 6, 3] rfl)
      · intro f_row_65 hw H locs ls hH hl
        have hq_67 := hw.1
        have hw := hw.2
        obtain ⟨x1_66, ex1_66⟩ : ∃ y : Int32, y = x1 + 1 := ⟨_, rfl⟩
        have hw := hw x1_66.toInt (by rw [ex1_66]; exact (z_x (z_add (z_m (rfl : x1.toInt = _)) (z_m (rfl : (1 : Int32).toInt = 1))) hq_67))
        refine lv_iinc (v := x1_66) (lv' := [(1, .int x1_66), (0, .ref (ad 0))]) hx hb dX47_makeRow_191 hl (k := 1) rfl (by rw [ex1_66]; rfl) (by decide) rfl (fun ls hl => ?_)
        refine lv_goto (tgt := 2) hx hb dX47_makeRow_194 (by decide) ?_
        exact ih x1_66 f_row_65 hw _ _ ls hH (lv_sub hl [1, 0] rfl)
set_option maxHeartbeats 4000000 in
theorem walkX47_makeRow {l : Launch} {dC : Nat → ClassId} {dI : Nat → Nat → Nat} {cl : List vw_C} {ci : Nat} (hc : cl[ci]? = some (RX47, TX47, 27)) {ad : Nat → Nat} {d : Nat → ClassId} {sz : Nat} {f_constants : Nat → Int64} {f_blanks : Nat → Int32} {f_counts : Nat → Int32} {f_points : Nat → Int32} {f_kept : Int32} {f_hashes : Nat → Int64} {f_news : Nat → Int64} {f_rounds : Int32} {f_hashed : Int32} {f_groups : Nat → Int32} {f_groupOf : Nat → Int32} {f_groupCount : Int32} {f_trial : Nat → Int32} {f_row : Nat → Int32} {f_names : Nat → Int32} {f_namedBlanks : Int32} {f_form : Nat → Int32} {f_formCount : Int32} {f_octets : Nat → Int32} {f_descriptions : Nat → Int32} {f_described : Int32} {f_message : Nat → Int32} {f_size : Int32} {f_words : Nat → Int64} {f_schedule : Nat → Int64} {f_thrown : Int32} {f_said : Nat → Int32}  {post : (Int → Int) → Prop} (hw : wpX47_makeRow post (zF f_counts) (zF f_points) (zF f_trial) (zF f_row) ) :
    Met l yX47_makeRow (ws_ yX47_makeRow cX47_makeRow 9 none) ({ frames := 1, cells := 0, slots := 0, locals := 24 } : Room) (kPc (dC, dI) cl (tX47 d) [.ref (ad 0)] sz (wX47 ci ad d f_constants f_blanks f_counts f_points f_kept f_hashes f_news f_rounds f_hashed f_groups f_groupOf f_groupCount f_trial f_row f_names f_namedBlanks f_form f_formCount f_octets f_descriptions f_described f_message f_size f_words f_schedule f_thrown f_said)) (va_Qv (fun (u : (Nat → Int32)) => post (zF (u))) (kB (dC, dI) cl (tX47 d) (va_A (wX47 ci ad d f_constants f_blanks f_counts f_points f_kept f_hashes f_news f_rounds f_hashed f_groups f_groupOf f_groupCount f_trial f_row f_names f_namedBlanks f_form f_formCount f_octets f_descriptions f_described f_message f_size f_words f_schedule f_thrown f_said) sz) (fun u : (Nat → Int32) => (wX47 ci ad d f_constants f_blanks f_counts f_points f_kept f_hashes f_news f_rounds f_hashed f_groups f_groupOf f_groupCount f_trial (u) f_names f_namedBlanks f_form f_formCount f_octets f_descriptions f_described f_message f_size f_words f_schedule f_thrown f_said))) (va_A (wX47 ci ad d f_constants f_blanks f_counts f_points f_kept f_hashes f_news f_rounds f_hashed f_groups f_groupOf f_groupCount f_trial f_row f_names f_namedBlanks f_form f_formCount f_octets f_descriptions f_described f_message f_size f_words f_schedule f_thrown f_said) sz)) 0 0 (va_A (wX47 ci ad d f_constants f_blanks f_counts f_points f_kept f_hashes f_news f_rounds f_hashed f_groups f_groupOf f_groupCount f_trial f_row f_names f_namedBlanks f_form f_formCount f_octets f_descriptions f_described f_message f_size f_words f_schedule f_thrown f_said) sz) := by
  refine k_enter (by decide) (Nat.le_of_ble_eq_true rfl) ?_
  intro p e s m below meth c ls X hsz hH hl
  subst hsz
  generalize va_A (wX47 ci ad d f_constants f_blanks f_counts f_points f_kept f_hashes f_news f_rounds f_hashed f_groups f_groupOf f_groupCount f_trial f_row f_names f_namedBlanks f_form f_formCount f_octets f_descriptions f_described f_message f_size f_words f_schedule f_thrown f_said) s.heap.size = A at hH ⊢
  have hx := X.1.1
  have hb := X.1.2.1
  have hl : lv_has ls 9 [(0, .ref (ad 0))] := hl
  unfold wpX47_makeRow at hw
  refine lv_iconst (v := 0) hx hb dX47_makeRow_0 (by decide) ?_
  refine lv_istore_n (lv' := [(1, .int 0), (0, .ref (ad 0))]) hx hb dX47_makeRow_1 rfl hl (by decide) rfl (fun ls hl => ?_)
  obtain ⟨fu, hw⟩ := hw
  refine atX47_makeRow_2 hc X ?_ fu 0 f_row hw _ _ ls hH (lv_sub hl [1, 0] rfl)
  · intro f_row_68 hw H locs ls hH hl
    exact k_vret X hH (f_row_68) hw rfl dX47_makeRow_197
set_option maxHeartbeats 4000000 in
theorem atX47_compareTriples_row_form_3 {p : Program} {l : Launch} {e : Env} {s : State} {m : MethodId} {args : Array Value} {below : List Frame} {meth : Method} {c : Code} {dC : Nat → ClassId} {dI : Nat → Nat → Nat} {cl : List vw_C} {ci : Nat} (hc : cl[ci]? = some (RX47, TX47, 27)) {ad : Nat → Nat} {d : Nat → ClassId} {A : Nat → Prop} {post : Int → Prop} {f_constants : Nat → Int64} {f_blanks : Nat → Int32} {f_counts : Nat → Int32} {f_points : Nat → Int32} {f_kept : Int32} {f_hashes : Nat → Int64} {f_news : Nat → Int64} {f_rounds : Int32} {f_hashed : Int32} {f_groups : Nat → Int32} {f_groupOf : Nat → Int32} {f_groupCount : Int32} {f_trial : Nat → Int32} {f_row : Nat → Int32} {f_names : Nat → Int32} {f_namedBlanks : Int32} {f_form : Nat → Int32} {f_formCount : Int32} {f_octets : Nat → Int32} {f_descriptions : Nat → Int32} {f_described : Int32} {f_message : Nat → Int32} {f_size : Int32} {f_words : Nat → Int64} {f_schedule : Nat → Int64} {f_thrown : Int32} {f_said : Nat → Int32} (X : kX p s m args meth c cX47_compareTriples 5 RX47 (some .int) (dC, dI) cl (tX47 d)) {K28 : Int → Prop} {K59 : Prop} {x1 : Int32} {x3 : Int32}  (hk28 : ∀ (x4 : Int32), K28 x4.toInt → ∀ (H : Heap) (locs : List Loc) (ls : Array Slot), kH (dC, dI) cl A s.heap H locs (wX47 ci ad d f_constants f_blanks f_counts f_points f_kept f_hashes f_news f_rounds f_hashed f_groups f_groupOf f_groupCount f_trial f_row f_names f_namedBlanks f_form f_formCount f_octets f_descriptions f_described f_message f_size f_words f_schedule f_thrown f_said) → lv_has ls 5 [(0, .ref (ad 10)), (1, .int x1), (2, .ref (ad 12)), (3, .int x3), (4, .int x4)] → W p l e ({ frames := 0, cells := 0, slots := 0, locals := 0 } : Room) s m args below meth c H locs 0 0 (MQ below (va_Qi (fun (r : Int32) (_ : Unit) => post r.toInt) (kB (dC, dI) cl (tX47 d) A (fun _ : Unit => (wX47 ci ad d f_constants f_blanks f_counts f_points f_kept f_hashes f_news f_rounds f_hashed f_groups f_groupOf f_groupCount f_trial f_row f_names f_namedBlanks f_form f_formCount f_octets f_descriptions f_described f_message f_size f_words f_schedule f_thrown f_said))) A) args s 0 0 A) (F0 m 28 ls [])) (hk59 : K59  → ∀ (H : Heap) (locs : List Loc) (ls : Array Slot), kH (dC, dI) cl A s.heap H locs (wX47 ci ad d f_constants f_blanks f_counts f_points f_kept f_hashes f_news f_rounds f_hashed f_groups f_groupOf f_groupCount f_trial f_row f_names f_namedBlanks f_form f_formCount f_octets f_descriptions f_described f_message f_size f_words f_schedule f_thrown f_said) → lv_has ls 5 [] → W p l e ({ frames := 0, cells := 0, slots := 0, locals := 0 } : Room) s m args below meth c H locs 0 0 (MQ below (va_Qi (fun (r : Int32) (_ : Unit) => post r.toInt) (kB (dC, dI) cl (tX47 d) A (fun _ : Unit => (wX47 ci ad d f_constants f_blanks f_counts f_points f_kept f_hashes f_news f_rounds f_hashed f_groups f_groupOf f_groupCount f_trial f_row f_names f_namedBlanks f_form f_formCount f_octets f_descriptions f_described f_message f_size f_words f_schedule f_thrown f_said))) A) args s 0 0 A) (F0 m 59 ls [])) :
    ∀ (nn : Nat) (x4 : Int32), wX47_compareTriples_row_form_3 K28 K59 x1.toInt x3.toInt (zF f_row) (zF f_form) nn x4.toInt → ∀ (H : Heap) (locs : List Loc) (ls : Array Slot), kH (dC, dI) cl A s.heap H locs (wX47 ci ad d f_constants f_blanks f_counts f_points f_kept f_hashes f_news f_rounds f_hashed f_groups f_groupOf f_groupCount f_trial f_row f_names f_namedBlanks f_form f_formCount f_octets f_descriptions f_described f_message f_size f_words f_schedule f_thrown f_said) → lv_has ls 5 [(0, .ref (ad 10)), (1, .int x1), (2, .ref (ad 12)), (3, .int x3), (4, .int x4)] → W p l e ({ frames := 0, cells := 0, slots := 0, locals := 0 } : Room) s m args below meth c H locs 0 0 (MQ below (va_Qi (fun (r : Int32) (_ : Unit) => post r.toInt) (kB (dC, dI) cl (tX47 d) A (fun _ : Unit => (wX47 ci ad d f_constants f_blanks f_counts f_points f_kept f_hashes f_news f_rounds f_hashed f_groups f_groupOf f_groupCount f_trial f_row f_names f_namedBlanks f_form f_formCount f_octets f_descriptions f_described f_message f_size f_words f_schedule f_thrown f_said))) A) args s 0 0 A) (F0 m 3 ls []) := by
  have hx := X.1.1
  have hb := X.1.2.1
  intro nn
  induction nn with
  | zero =>
    intro x4 hw
    exact False.elim hw
  | succ n ih =>
    intro x4 hw H locs ls hH hl
    rw [wX47_compareTriples_row_form_3] at hw
    refine lv_iload hx hb dX47_compareTriples_3 (lv_at hl 4 rfl) ?_
    refine lv_iconst (v := 3) hx hb dX47_compareTriples_5 (by decide) ?_
    refine lv_icmp_ge (tgt := 59) hx hb dX47_compareTriples_6 (by decide) (fun c_1 => ?_) (fun c_1 => ?_)
    · have hw := hw.1 (z_le (rfl : (3 : Int32).toInt = 3) (rfl : x4.toInt = _) c_1)
      exact hk59  hw _ _ ls hH (lv_sub hl [] rfl)
    · have hw := hw.2 (z_nle (rfl : (3 : Int32).toInt = 3) (rfl : x4.toInt = _) c_1)
      refine lv_aload_n hx hb dX47_compareTriples_9 rfl (lv_at hl 0 rfl) ?_
      refine lv_iconst (v := 3) hx hb dX47_compareTriples_10 (by decide) ?_
      refine lv_iload_n hx hb dX47_compareTriples_11 rfl (lv_at hl 1 rfl) ?_
      refine lv_imul hx hb dX47_compareTriples_12 ?_
      have e_2 := z_mul (z_m (rfl : (3 : Int32).toInt = 3)) (z_m (rfl : x1.toInt = _))
      refine lv_iload hx hb dX47_compareTriples_13 (lv_at hl 4 rfl) ?_
      refine lv_iadd hx hb dX47_compareTriples_15 ?_
      have e_3 := z_add e_2 (z_m (rfl : x4.toInt = _))
      have hq_4 := hw.1
      have hw := hw.2
      have e_5 := z_xi e_3 hq_4 (by decide)
      refine k_iald X hH 10 9 rfl rfl (z_in e_5 hq_4) dX47_compareTriples_16 ?_
      have e_6 := z_ld (f := f_row) e_5 hq_4.1
      refine lv_aload_n hx hb dX47_compareTriples_17 rfl (lv_at hl 2 rfl) ?_
      refine lv_iconst (v := 3) hx hb dX47_compareTriples_18 (by decide) ?_
      refine lv_iload_n hx hb dX47_compareTriples_19 rfl (lv_at hl 3 rfl) ?_
      refine lv_imul hx hb dX47_compareTriples_20 ?_
      have e_7 := z_mul (z_m (rfl : (3 : Int32).toInt = 3)) (z_m (rfl : x3.toInt = _))
      refine lv_iload hx hb dX47_compareTriples_21 (lv_at hl 4 rfl) ?_
      refine lv_iadd hx hb dX47_compareTriples_23 ?_
      have e_8 := z_add e_7 (z_m (rfl : x4.toInt = _))
      have hq_9 := hw.1
      have hw := hw.2
      have e_10 := z_xi e_8 hq_9 (by decide)
      refine k_iald X hH 12 11 rfl rfl (z_in e_10 hq_9) dX47_compareTriples_24 ?_
      have e_11 := z_ld (f := f_form) e_10 hq_9.1
      refine lv_icmp_eq (tgt := 53) hx hb dX47_compareTriples_25 (by decide) (fun c_12 => ?_) (fun c_12 => ?_)
      · have hw := hw.1 (z_eq e_6 e_11 c_12)
        have hq_14 := hw.1
        have hw := hw.2
        obtain ⟨x4_13, ex4_13⟩ : ∃ y : Int32, y = x4 + 1 := ⟨_, rfl⟩
        have hw := hw x4_13.toInt (by rw [ex4_13]; exact (z_x (z_add (z_m (rfl : x4.toInt = _)) (z_m (rfl : (1 : Int32).toInt = 1))) hq_14))
        refine lv_iinc (v := x4_13) (lv' := [(4, .int x4_13), (0, .ref (ad 10)), (1, .int x1), (2, .ref (ad 12)), (3, .int x3)]) hx hb dX47_compareTriples_53 hl (k := 4) rfl (by rw [ex4_13]; rfl) (by decide) rfl (fun ls hl => ?_)
        refine lv_goto (tgt := 3) hx hb dX47_compareTriples_56 (by decide) ?_
        exact ih x4_13 hw _ _ ls hH (lv_sub hl [1, 2, 3, 4, 0] rfl)
      · have hw := hw.2 (z_neq e_6 e_11 c_12)
        exact hk28 x4 hw _ _ ls hH (lv_sub hl [0, 1, 2, 3, 4] rfl)
set_option maxHeartbeats 4000000 in
theorem walkX47_compareTriples_row_form {l : Launch} {dC : Nat → ClassId} {dI : Nat → Nat → Nat} {cl : List vw_C} {ci : Nat} (hc : cl[ci]? = some (RX47, TX47, 27)) {ad : Nat → Nat} {d : Nat → ClassId} {sz : Nat} {f_constants : Nat → Int64} {f_blanks : Nat → Int32} {f_counts : Nat → Int32} {f_points : Nat → Int32} {f_kept : Int32} {f_hashes : Nat → Int64} {f_news : Nat → Int64} {f_rounds : Int32} {f_hashed : Int32} {f_groups : Nat → Int32} {f_groupOf : Nat → Int32} {f_groupCount : Int32} {f_trial : Nat → Int32} {f_row : Nat → Int32} {f_names : Nat → Int32} {f_namedBlanks : Int32} {f_form : Nat → Int32} {f_formCount : Int32} {f_octets : Nat → Int32} {f_descriptions : Nat → Int32} {f_described : Int32} {f_message : Nat → Int32} {f_size : Int32} {f_words : Nat → Int64} {f_schedule : Nat → Int64} {f_thrown : Int32} {f_said : Nat → Int32} {x1 : Int32} {x3 : Int32} {post : Int → Prop} (hw : wpX47_compareTriples_row_form post (zF f_row) (zF f_form) x1.toInt x3.toInt) :
    Met l yX47_compareTriples (ws_ yX47_compareTriples cX47_compareTriples 5 (some .int)) ({ frames := 0, cells := 0, slots := 0, locals := 0 } : Room) (kPc (dC, dI) cl (tX47 d) [.ref (ad 10), .int x1, .ref (ad 12), .int x3] sz (wX47 ci ad d f_constants f_blanks f_counts f_points f_kept f_hashes f_news f_rounds f_hashed f_groups f_groupOf f_groupCount f_trial f_row f_names f_namedBlanks f_form f_formCount f_octets f_descriptions f_described f_message f_size f_words f_schedule f_thrown f_said)) (va_Qi (fun (r : Int32) (_ : Unit) => post r.toInt) (kB (dC, dI) cl (tX47 d) (va_A (wX47 ci ad d f_constants f_blanks f_counts f_points f_kept f_hashes f_news f_rounds f_hashed f_groups f_groupOf f_groupCount f_trial f_row f_names f_namedBlanks f_form f_formCount f_octets f_descriptions f_described f_message f_size f_words f_schedule f_thrown f_said) sz) (fun _ : Unit => (wX47 ci ad d f_constants f_blanks f_counts f_points f_kept f_hashes f_news f_rounds f_hashed f_groups f_groupOf f_groupCount f_trial f_row f_names f_namedBlanks f_form f_formCount f_octets f_descriptions f_described f_message f_size f_words f_schedule f_thrown f_said))) (va_A (wX47 ci ad d f_constants f_blanks f_counts f_points f_kept f_hashes f_news f_rounds f_hashed f_groups f_groupOf f_groupCount f_trial f_row f_names f_namedBlanks f_form f_formCount f_octets f_descriptions f_described f_message f_size f_words f_schedule f_thrown f_said) sz)) 0 0 (va_A (wX47 ci ad d f_constants f_blanks f_counts f_points f_kept f_hashes f_news f_rounds f_hashed f_groups f_groupOf f_groupCount f_trial f_row f_names f_namedBlanks f_form f_formCount f_octets f_descriptions f_described f_message f_size f_words f_schedule f_thrown f_said) sz) := by
  refine k_enter (by decide) (Nat.le_of_ble_eq_true rfl) ?_
  intro p e s m below meth c ls X hsz hH hl
  subst hsz
  generalize va_A (wX47 ci ad d f_constants f_blanks f_counts f_points f_kept f_hashes f_news f_rounds f_hashed f_groups f_groupOf f_groupCount f_trial f_row f_names f_namedBlanks f_form f_formCount f_octets f_descriptions f_described f_message f_size f_words f_schedule f_thrown f_said) s.heap.size = A at hH ⊢
  have hx := X.1.1
  have hb := X.1.2.1
  have hl : lv_has ls 5 [(0, .ref (ad 10)), (1, .int x1), (2, .ref (ad 12)), (3, .int x3)] := hl
  unfold wpX47_compareTriples_row_form at hw
  refine lv_iconst (v := 0) hx hb dX47_compareTriples_0 (by decide) ?_
  refine lv_istore (lv' := [(4, .int 0), (0, .ref (ad 10)), (1, .int x1), (2, .ref (ad 12)), (3, .int x3)]) hx hb dX47_compareTriples_1 hl (by decide) rfl (fun ls hl => ?_)
  obtain ⟨fu, hw⟩ := hw
  refine atX47_compareTriples_row_form_3 hc X ?_ ?_ fu 0 hw _ _ ls hH (lv_sub hl [1, 2, 3, 4, 0] rfl)
  · intro x4_15 hw H locs ls hH hl
    refine lv_aload_n hx hb dX47_compareTriples_28 rfl (lv_at hl 0 rfl) ?_
    refine lv_iconst (v := 3) hx hb dX47_compareTriples_29 (by decide) ?_
    refine lv_iload_n hx hb dX47_compareTriples_30 rfl (lv_at hl 1 rfl) ?_
    refine lv_imul hx hb dX47_compareTriples_31 ?_
    have e_16 := z_mul (z_m (rfl : (3 : Int32).toInt = 3)) (z_m (rfl : x1.toInt = _))
    refine lv_iload hx hb dX47_compareTriples_32 (lv_at hl 4 rfl) ?_
    refine lv_iadd hx hb dX47_compareTriples_34 ?_
    have e_17 := z_add e_16 (z_m (rfl : x4_15.toInt = _))
    have hq_18 := hw.1
    have hw := hw.2
    have e_19 := z_xi e_17 hq_18 (by decide)
    refine k_iald X hH 10 9 rfl rfl (z_in e_19 hq_18) dX47_compareTriples_35 ?_
    have e_20 := z_ld (f := f_row) e_19 hq_18.1
    refine lv_aload_n hx hb dX47_compareTriples_36 rfl (lv_at hl 2 rfl) ?_
    refine lv_iconst (v := 3) hx hb dX47_compareTriples_37 (by decide) ?_
    refine lv_iload_n hx hb dX47_compareTriples_38 rfl (lv_at hl 3 rfl) ?_
    refine lv_imul hx hb dX47_compareTriples_39 ?_
    have e_21 := z_mul (z_m (rfl : (3 : Int32).toInt = 3)) (z_m (rfl : x3.toInt = _))
    refine lv_iload hx hb dX47_compareTriples_40 (lv_at hl 4 rfl) ?_
    refine lv_iadd hx hb dX47_compareTriples_42 ?_
    have e_22 := z_add e_21 (z_m (rfl : x4_15.toInt = _))
    have hq_23 := hw.1
    have hw := hw.2
    have e_24 := z_xi e_22 hq_23 (by decide)
    refine k_iald X hH 12 11 rfl rfl (z_in e_24 hq_23) dX47_compareTriples_43 ?_
    have e_25 := z_ld (f := f_form) e_24 hq_23.1
    refine lv_icmp_ge (tgt := 51) hx hb dX47_compareTriples_44 (by decide) (fun c_26 => ?_) (fun c_26 => ?_)
    · have hw := hw.1 (z_le e_25 e_20 c_26)
      refine lv_iconst (v := 1) hx hb dX47_compareTriples_51 (by decide) ?_
      exact k_iret (v := 1) X hH () hw rfl rfl dX47_compareTriples_52
    · have hw := hw.2 (z_nle e_25 e_20 c_26)
      refine lv_iconst (v := (-1)) hx hb dX47_compareTriples_47 (by decide) ?_
      refine lv_goto (tgt := 52) hx hb dX47_compareTriples_48 (by decide) ?_
      exact k_iret (v := (-1)) X hH () hw rfl rfl dX47_compareTriples_52
  · intro hw H locs ls hH hl
    refine lv_iconst (v := 0) hx hb dX47_compareTriples_59 (by decide) ?_
    exact k_iret (v := 0) X hH () hw rfl rfl dX47_compareTriples_60
set_option maxHeartbeats 4000000 in
theorem atX47_compareForm_2 {p : Program} {l : Launch} {e : Env} {s : State} {m : MethodId} {args : Array Value} {below : List Frame} {meth : Method} {c : Code} {dC : Nat → ClassId} {dI : Nat → Nat → Nat} {cl : List vw_C} {ci : Nat} (hc : cl[ci]? = some (RX47, TX47, 27)) {ad : Nat → Nat} {d : Nat → ClassId} {A : Nat → Prop} {post : Int → Prop} {f_constants : Nat → Int64} {f_blanks : Nat → Int32} {f_counts : Nat → Int32} {f_points : Nat → Int32} {f_kept : Int32} {f_hashes : Nat → Int64} {f_news : Nat → Int64} {f_rounds : Int32} {f_hashed : Int32} {f_groups : Nat → Int32} {f_groupOf : Nat → Int32} {f_groupCount : Int32} {f_trial : Nat → Int32} {f_row : Nat → Int32} {f_names : Nat → Int32} {f_namedBlanks : Int32} {f_form : Nat → Int32} {f_formCount : Int32} {f_octets : Nat → Int32} {f_descriptions : Nat → Int32} {f_described : Int32} {f_message : Nat → Int32} {f_size : Int32} {f_words : Nat → Int64} {f_schedule : Nat → Int64} {f_thrown : Int32} {f_said : Nat → Int32} (X : kX p s m args meth c cX47_compareForm 3 RX47 (some .int) (dC, dI) cl (tX47 d)) {K31 : Int → Prop} {K39 : Prop}   (hk31 : ∀ (x2 : Int32), K31 x2.toInt → ∀ (H : Heap) (locs : List Loc) (ls : Array Slot), kH (dC, dI) cl A s.heap H locs (wX47 ci ad d f_constants f_blanks f_counts f_points f_kept f_hashes f_news f_rounds f_hashed f_groups f_groupOf f_groupCount f_trial f_row f_names f_namedBlanks f_form f_formCount f_octets f_descriptions f_described f_message f_size f_words f_schedule f_thrown f_said) → lv_has ls 3 [(2, .int x2)] → W p l e ({ frames := 1, cells := 0, slots := 0, locals := 24 } : Room) s m args below meth c H locs 0 0 (MQ below (va_Qi (fun (r : Int32) (_ : Unit) => post r.toInt) (kB (dC, dI) cl (tX47 d) A (fun _ : Unit => (wX47 ci ad d f_constants f_blanks f_counts f_points f_kept f_hashes f_news f_rounds f_hashed f_groups f_groupOf f_groupCount f_trial f_row f_names f_namedBlanks f_form f_formCount f_octets f_descriptions f_described f_message f_size f_words f_schedule f_thrown f_said))) A) args s 0 0 A) (F0 m 31 ls [])) (hk39 : K39  → ∀ (H : Heap) (locs : List Loc) (ls : Array Slot), kH (dC, dI) cl A s.heap H locs (wX47 ci ad d f_constants f_blanks f_counts f_points f_kept f_hashes f_news f_rounds f_hashed f_groups f_groupOf f_groupCount f_trial f_row f_names f_namedBlanks f_form f_formCount f_octets f_descriptions f_described f_message f_size f_words f_schedule f_thrown f_said) → lv_has ls 3 [] → W p l e ({ frames := 1, cells := 0, slots := 0, locals := 24 } : Room) s m args below meth c H locs 0 0 (MQ below (va_Qi (fun (r : Int32) (_ : Unit) => post r.toInt) (kB (dC, dI) cl (tX47 d) A (fun _ : Unit => (wX47 ci ad d f_constants f_blanks f_counts f_points f_kept f_hashes f_news f_rounds f_hashed f_groups f_groupOf f_groupCount f_trial f_row f_names f_namedBlanks f_form f_formCount f_octets f_descriptions f_described f_message f_size f_words f_schedule f_thrown f_said))) A) args s 0 0 A) (F0 m 39 ls [])) :
    ∀ (nn : Nat) (x1 : Int32), wX47_compareForm_2 K31 K39 (zF f_counts) (zF f_row) (zF f_form) nn x1.toInt → ∀ (H : Heap) (locs : List Loc) (ls : Array Slot), kH (dC, dI) cl A s.heap H locs (wX47 ci ad d f_constants f_blanks f_counts f_points f_kept f_hashes f_news f_rounds f_hashed f_groups f_groupOf f_groupCount f_trial f_row f_names f_namedBlanks f_form f_formCount f_octets f_descriptions f_described f_message f_size f_words f_schedule f_thrown f_said) → lv_has ls 3 [(0, .ref (ad 0)), (1, .int x1)] → W p l e ({ frames := 1, cells := 0, slots := 0, locals := 24 } : Room) s m args below meth c H locs 0 0 (MQ below (va_Qi (fun (r : Int32) (_ : Unit) => post r.toInt) (kB (dC, dI) cl (tX47 d) A (fun _ : Unit => (wX47 ci ad d f_constants f_blanks f_counts f_points f_kept f_hashes f_news f_rounds f_hashed f_groups f_groupOf f_groupCount f_trial f_row f_names f_namedBlanks f_form f_formCount f_octets f_descriptions f_described f_message f_size f_words f_schedule f_thrown f_said))) A) args s 0 0 A) (F0 m 2 ls []) := by
  have hx := X.1.1
  have hb := X.1.2.1
  intro nn
  induction nn with
  | zero =>
    intro x1 hw
    exact False.elim hw
  | succ n ih =>
    intro x1 hw H locs ls hH hl
    rw [wX47_compareForm_2] at hw
    refine lv_iload_n hx hb dX47_compareForm_2 rfl (lv_at hl 1 rfl) ?_
    refine lv_aload_n hx hb dX47_compareForm_3 rfl (lv_at hl 0 rfl) ?_
    refine k_get X hH in_X47 0 rfl hc 2 (by decide) q5986 rfl dX47_compareForm_4 ?_
    refine lv_bipush (v := 8) hx hb dX47_compareForm_7 (by decide) ?_
    refine k_iald X hH 3 2 rfl rfl (by unfold vp_in; decide) dX47_compareForm_9 ?_
    have e_1 := z_ld (f := f_counts) (rfl : (8 : Int32).toInt = 8) (by decide)
    refine lv_icmp_ge (tgt := 39) hx hb dX47_compareForm_10 (by decide) (fun c_2 => ?_) (fun c_2 => ?_)
    · have hw := hw.1 (z_le e_1 (rfl : x1.toInt = _) c_2)
      exact hk39  hw _ _ ls hH (lv_sub hl [] rfl)
    · have hw := hw.2 (z_nle e_1 (rfl : x1.toInt = _) c_2)
      refine lv_aload_n hx hb dX47_compareForm_13 rfl (lv_at hl 0 rfl) ?_
      refine k_get X hH in_X47 0 rfl hc 13 (by decide) q5997 rfl dX47_compareForm_14 ?_
      refine lv_iload_n hx hb dX47_compareForm_17 rfl (lv_at hl 1 rfl) ?_
      refine lv_aload_n hx hb dX47_compareForm_18 rfl (lv_at hl 0 rfl) ?_
      refine k_get X hH in_X47 0 rfl hc 16 (by decide) q6000 rfl dX47_compareForm_19 ?_
      refine lv_iload_n hx hb dX47_compareForm_22 rfl (lv_at hl 1 rfl) ?_
      refine k_i0 hH (k_runS (As := [.ref (ad 10), .int x1, .ref (ad 12), .int x1]) (rest := []) X hH.1 hH.2.1 X.2.2.2 (walkX47_compareTriples_row_form hc (x1 := x1) (x3 := x1) (f_constants := f_constants) (f_blanks := f_blanks) (f_counts := f_counts) (f_points := f_points) (f_kept := f_kept) (f_hashes := f_hashes) (f_news := f_news) (f_rounds := f_rounds) (f_hashed := f_hashed) (f_groups := f_groups) (f_groupOf := f_groupOf) (f_groupCount := f_groupCount) (f_trial := f_trial) (f_row := f_row) (f_names := f_names) (f_namedBlanks := f_namedBlanks) (f_form := f_form) (f_formCount := f_formCount) (f_octets := f_octets) (f_descriptions := f_descriptions) (f_described := f_described) (f_message := f_message) (f_size := f_size) (f_words := f_words) (f_schedule := f_schedule) (f_thrown := f_thrown) (f_said := f_said) hw) (va_cwS 4 X.1.2.2.2.2 gX47_304 rfl rfl rfl hX47_compareTriples ⟨Nat.le_of_ble_eq_true rfl, Nat.le_of_ble_eq_true rfl⟩) rfl hl.1 rfl (Nat.le_of_ble_eq_true rfl) dX47_compareForm_23 ⟨Nat.le_refl 0, Nat.le_refl 0⟩) (fun r_3 _ H locs hw hH => ?_)
      have hH : kH (dC, dI) cl A s.heap H locs (wX47 ci ad d f_constants f_blanks f_counts f_points f_kept f_hashes f_news f_rounds f_hashed f_groups f_groupOf f_groupCount f_trial f_row f_names f_namedBlanks f_form f_formCount f_octets f_descriptions f_described f_message f_size f_words f_schedule f_thrown f_said) := hH
      refine lv_istore_n (lv' := [(2, .int r_3), (0, .ref (ad 0)), (1, .int x1)]) hx hb dX47_compareForm_26 rfl hl (by decide) rfl (fun ls hl => ?_)
      refine lv_iload_n hx hb dX47_compareForm_27 rfl (lv_at hl 0 rfl) ?_
      refine lv_if_eq (tgt := 33) hx hb dX47_compareForm_28 (by decide) (fun c_4 => ?_) (fun c_4 => ?_)
      · have hw := hw.1 (z_eq (rfl : r_3.toInt = _) (rfl : (0 : Int32).toInt = 0) c_4)
        have hq_6 := hw.1
        have hw := hw.2
        obtain ⟨x1_5, ex1_5⟩ : ∃ y : Int32, y = x1 + 1 := ⟨_, rfl⟩
        have hw := hw x1_5.toInt (by rw [ex1_5]; exact (z_x (z_add (z_m (rfl : x1.toInt = _)) (z_m (rfl : (1 : Int32).toInt = 1))) hq_6))
        refine lv_iinc (v := x1_5) (lv' := [(1, .int x1_5), (2, .int r_3), (0, .ref (ad 0))]) hx hb dX47_compareForm_33 hl (k := 2) rfl (by rw [ex1_5]; rfl) (by decide) rfl (fun ls hl => ?_)
        refine lv_goto (tgt := 2) hx hb dX47_compareForm_36 (by decide) ?_
        exact ih x1_5 hw _ _ ls hH (lv_sub hl [2, 0] rfl)
      · have hw := hw.2 (z_neq (rfl : r_3.toInt = _) (rfl : (0 : Int32).toInt = 0) c_4)
        exact hk31 r_3 hw _ _ ls hH (lv_sub hl [0] rfl)
set_option maxHeartbeats 4000000 in
theorem walkX47_compareForm {l : Launch} {dC : Nat → ClassId} {dI : Nat → Nat → Nat} {cl : List vw_C} {ci : Nat} (hc : cl[ci]? = some (RX47, TX47, 27)) {ad : Nat → Nat} {d : Nat → ClassId} {sz : Nat} {f_constants : Nat → Int64} {f_blanks : Nat → Int32} {f_counts : Nat → Int32} {f_points : Nat → Int32} {f_kept : Int32} {f_hashes : Nat → Int64} {f_news : Nat → Int64} {f_rounds : Int32} {f_hashed : Int32} {f_groups : Nat → Int32} {f_groupOf : Nat → Int32} {f_groupCount : Int32} {f_trial : Nat → Int32} {f_row : Nat → Int32} {f_names : Nat → Int32} {f_namedBlanks : Int32} {f_form : Nat → Int32} {f_formCount : Int32} {f_octets : Nat → Int32} {f_descriptions : Nat → Int32} {f_described : Int32} {f_message : Nat → Int32} {f_size : Int32} {f_words : Nat → Int64} {f_schedule : Nat → Int64} {f_thrown : Int32} {f_said : Nat → Int32}  {post : Int → Prop} (hw : wpX47_compareForm post (zF f_counts) (zF f_row) (zF f_form) ) :
    Met l yX47_compareForm (ws_ yX47_compareForm cX47_compareForm 3 (some .int)) ({ frames := 1, cells := 0, slots := 0, locals := 24 } : Room) (kPc (dC, dI) cl (tX47 d) [.ref (ad 0)] sz (wX47 ci ad d f_constants f_blanks f_counts f_points f_kept f_hashes f_news f_rounds f_hashed f_groups f_groupOf f_groupCount f_trial f_row f_names f_namedBlanks f_form f_formCount f_octets f_descriptions f_described f_message f_size f_words f_schedule f_thrown f_said)) (va_Qi (fun (r : Int32) (_ : Unit) => post r.toInt) (kB (dC, dI) cl (tX47 d) (va_A (wX47 ci ad d f_constants f_blanks f_counts f_points f_kept f_hashes f_news f_rounds f_hashed f_groups f_groupOf f_groupCount f_trial f_row f_names f_namedBlanks f_form f_formCount f_octets f_descriptions f_described f_message f_size f_words f_schedule f_thrown f_said) sz) (fun _ : Unit => (wX47 ci ad d f_constants f_blanks f_counts f_points f_kept f_hashes f_news f_rounds f_hashed f_groups f_groupOf f_groupCount f_trial f_row f_names f_namedBlanks f_form f_formCount f_octets f_descriptions f_described f_message f_size f_words f_schedule f_thrown f_said))) (va_A (wX47 ci ad d f_constants f_blanks f_counts f_points f_kept f_hashes f_news f_rounds f_hashed f_groups f_groupOf f_groupCount f_trial f_row f_names f_namedBlanks f_form f_formCount f_octets f_descriptions f_described f_message f_size f_words f_schedule f_thrown f_said) sz)) 0 0 (va_A (wX47 ci ad d f_constants f_blanks f_counts f_points f_kept f_hashes f_news f_rounds f_hashed f_groups f_groupOf f_groupCount f_trial f_row f_names f_namedBlanks f_form f_formCount f_octets f_descriptions f_described f_message f_size f_words f_schedule f_thrown f_said) sz) := by
  refine k_enter (by decide) (Nat.le_of_ble_eq_true rfl) ?_
  intro p e s m below meth c ls X hsz hH hl
  subst hsz
  generalize va_A (wX47 ci ad d f_constants f_blanks f_counts f_points f_kept f_hashes f_news f_rounds f_hashed f_groups f_groupOf f_groupCount f_trial f_row f_names f_namedBlanks f_form f_formCount f_octets f_descriptions f_described f_message f_size f_words f_schedule f_thrown f_said) s.heap.size = A at hH ⊢
  have hx := X.1.1
  have hb := X.1.2.1
  have hl : lv_has ls 3 [(0, .ref (ad 0))] := hl
  unfold wpX47_compareForm at hw
  refine lv_iconst (v := 0) hx hb dX47_compareForm_0 (by decide) ?_
  refine lv_istore_n (lv' := [(1, .int 0), (0, .ref (ad 0))]) hx hb dX47_compareForm_1 rfl hl (by decide) rfl (fun ls hl => ?_)
  obtain ⟨fu, hw⟩ := hw
  refine atX47_compareForm_2 hc X ?_ ?_ fu 0 hw _ _ ls hH (lv_sub hl [1, 0] rfl)
  · intro x2_7 hw H locs ls hH hl
    refine lv_iload_n hx hb dX47_compareForm_31 rfl (lv_at hl 0 rfl) ?_
    exact k_iret (v := x2_7) X hH () hw rfl rfl dX47_compareForm_32
  · intro hw H locs ls hH hl
    refine lv_iconst (v := 0) hx hb dX47_compareForm_39 (by decide) ?_
    exact k_iret (v := 0) X hH () hw rfl rfl dX47_compareForm_40
set_option maxHeartbeats 4000000 in
theorem atX47_take_2 {p : Program} {l : Launch} {e : Env} {s : State} {m : MethodId} {args : Array Value} {below : List Frame} {meth : Method} {c : Code} {dC : Nat → ClassId} {dI : Nat → Nat → Nat} {cl : List vw_C} {ci : Nat} (hc : cl[ci]? = some (RX47, TX47, 27)) {ad : Nat → Nat} {d : Nat → ClassId} {A : Nat → Prop} {post : (Int → Int) → (Int → Int) → Prop} {f_constants : Nat → Int64} {f_blanks : Nat → Int32} {f_counts : Nat → Int32} {f_points : Nat → Int32} {f_kept : Int32} {f_hashes : Nat → Int64} {f_news : Nat → Int64} {f_rounds : Int32} {f_hashed : Int32} {f_groups : Nat → Int32} {f_groupOf : Nat → Int32} {f_groupCount : Int32} {f_trial : Nat → Int32} {f_row : Nat → Int32} {f_namedBlanks : Int32} {f_formCount : Int32} {f_octets : Nat → Int32} {f_descriptions : Nat → Int32} {f_described : Int32} {f_message : Nat → Int32} {f_size : Int32} {f_words : Nat → Int64} {f_schedule : Nat → Int64} {f_thrown : Int32} {f_said : Nat → Int32} (X : kX p s m args meth c cX47_take 3 RX47 none (dC, dI) cl (tX47 d)) {K25 : (Int → Int) → Prop} {x1 : Int32} {f_form : Nat → Int32} (hk25 : ∀ (f_names : Nat → Int32), K25 (zF f_names) → ∀ (H : Heap) (locs : List Loc) (ls : Array Slot), kH (dC, dI) cl A s.heap H locs (wX47 ci ad d f_constants f_blanks f_counts f_points f_kept f_hashes f_news f_rounds f_hashed f_groups f_groupOf f_groupCount f_trial f_row f_names f_namedBlanks f_form f_formCount f_octets f_descriptions f_described f_message f_size f_words f_schedule f_thrown f_said) → lv_has ls 3 [(0, .ref (ad 0))] → W p l e ({ frames := 0, cells := 0, slots := 0, locals := 0 } : Room) s m args below meth c H locs 0 0 (MQ below (va_Qv (fun (u : (Nat → Int32) × (Nat → Int32)) => post (zF (u.1)) (zF (u.2))) (kB (dC, dI) cl (tX47 d) A (fun u : (Nat → Int32) × (Nat → Int32) => (wX47 ci ad d f_constants f_blanks f_counts f_points f_kept f_hashes f_news f_rounds f_hashed f_groups f_groupOf f_groupCount f_trial f_row (u.1) f_namedBlanks (u.2) f_formCount f_octets f_descriptions f_described f_message f_size f_words f_schedule f_thrown f_said))) A) args s 0 0 A) (F0 m 25 ls [])) :
    ∀ (nn : Nat) (x2 : Int32) (f_names : Nat → Int32), wX47_take_2 K25 x1.toInt (zF f_trial) nn x2.toInt (zF f_names) → ∀ (H : Heap) (locs : List Loc) (ls : Array Slot), kH (dC, dI) cl A s.heap H locs (wX47 ci ad d f_constants f_blanks f_counts f_points f_kept f_hashes f_news f_rounds f_hashed f_groups f_groupOf f_groupCount f_trial f_row f_names f_namedBlanks f_form f_formCount f_octets f_descriptions f_described f_message f_size f_words f_schedule f_thrown f_said) → lv_has ls 3 [(0, .ref (ad 0)), (1, .int x1), (2, .int x2)] → W p l e ({ frames := 0, cells := 0, slots := 0, locals := 0 } : Room) s m args below meth c H locs 0 0 (MQ below (va_Qv (fun (u : (Nat → Int32) × (Nat → Int32)) => post (zF (u.1)) (zF (u.2))) (kB (dC, dI) cl (tX47 d) A (fun u : (Nat → Int32) × (Nat → Int32) => (wX47 ci ad d f_constants f_blanks f_counts f_points f_kept f_hashes f_news f_rounds f_hashed f_groups f_groupOf f_groupCount f_trial f_row (u.1) f_namedBlanks (u.2) f_formCount f_octets f_descriptions f_described f_message f_size f_words f_schedule f_thrown f_said))) A) args s 0 0 A) (F0 m 2 ls []) := by
  have hx := X.1.1
  have hb := X.1.2.1
  intro nn
  induction nn with
  | zero =>
    intro x2 f_names hw
    exact False.elim hw
  | succ n ih =>
    intro x2 f_names hw H locs ls hH hl
    rw [wX47_take_2] at hw
    refine lv_iload_n hx hb dX47_take_2 rfl (lv_at hl 2 rfl) ?_
    refine lv_iload_n hx hb dX47_take_3 rfl (lv_at hl 1 rfl) ?_
    refine lv_icmp_gt (tgt := 25) hx hb dX47_take_4 (by decide) (fun c_1 => ?_) (fun c_1 => ?_)
    · have hw := hw.1 (z_lt (rfl : x1.toInt = _) (rfl : x2.toInt = _) c_1)
      exact hk25 f_names hw _ _ ls hH (lv_sub hl [0] rfl)
    · have hw := hw.2 (z_nlt (rfl : x1.toInt = _) (rfl : x2.toInt = _) c_1)
      refine lv_aload_n hx hb dX47_take_7 rfl (lv_at hl 0 rfl) ?_
      refine k_get X hH in_X47 0 rfl hc 14 (by decide) q5998 rfl dX47_take_8 ?_
      refine lv_iload_n hx hb dX47_take_11 rfl (lv_at hl 2 rfl) ?_
      refine lv_aload_n hx hb dX47_take_12 rfl (lv_at hl 0 rfl) ?_
      refine k_get X hH in_X47 0 rfl hc 12 (by decide) q5996 rfl dX47_take_13 ?_
      refine lv_iload_n hx hb dX47_take_16 rfl (lv_at hl 2 rfl) ?_
      have hq_2 := hw.1
      have hw := hw.2
      refine k_iald X hH 9 8 rfl rfl (z_in (rfl : x2.toInt = _) hq_2) dX47_take_17 ?_
      have e_3 := z_ld (f := f_trial) (rfl : x2.toInt = _) hq_2.1
      refine lv_topi (fun v_4 ev_4 => ?_)
      have hw := hw v_4.toInt (by rw [ev_4]; exact e_3)
      have hq_6 := hw.1
      have hw := hw.2
      obtain ⟨f_names_5, ef_names_5⟩ : ∃ y : Nat → Int32, y = upd f_names x2.toNatClampNeg v_4 := ⟨_, rfl⟩
      refine k_iast X hH 11 10 rfl rfl (z_in (rfl : x2.toInt = _) hq_6) dX47_take_18 ef_names_5 (ws1 := (wX47 ci ad d f_constants f_blanks f_counts f_points f_kept f_hashes f_news f_rounds f_hashed f_groups f_groupOf f_groupCount f_trial f_row f_names_5 f_namedBlanks f_form f_formCount f_octets f_descriptions f_described f_message f_size f_words f_schedule f_thrown f_said)) rfl (fun H locs hH => ?_)
      have hw := hw (zF f_names_5) (by rw [ef_names_5]; exact z_st (f := f_names) (rfl : x2.toInt = _) hq_6.1 (rfl : v_4.toInt = _))
      have hq_8 := hw.1
      have hw := hw.2
      obtain ⟨x2_7, ex2_7⟩ : ∃ y : Int32, y = x2 + 1 := ⟨_, rfl⟩
      have hw := hw x2_7.toInt (by rw [ex2_7]; exact (z_x (z_add (z_m (rfl : x2.toInt = _)) (z_m (rfl : (1 : Int32).toInt = 1))) hq_8))
      refine lv_iinc (v := x2_7) (lv' := [(2, .int x2_7), (0, .ref (ad 0)), (1, .int x1)]) hx hb dX47_take_19 hl (k := 2) rfl (by rw [ex2_7]; rfl) (by decide) rfl (fun ls hl => ?_)
      refine lv_goto (tgt := 2) hx hb dX47_take_22 (by decide) ?_
      exact ih x2_7 f_names_5 hw _ _ ls hH (lv_sub hl [1, 2, 0] rfl)
set_option maxHeartbeats 4000000 in
theorem atX47_take_27 {p : Program} {l : Launch} {e : Env} {s : State} {m : MethodId} {args : Array Value} {below : List Frame} {meth : Method} {c : Code} {dC : Nat → ClassId} {dI : Nat → Nat → Nat} {cl : List vw_C} {ci : Nat} (hc : cl[ci]? = some (RX47, TX47, 27)) {ad : Nat → Nat} {d : Nat → ClassId} {A : Nat → Prop} {post : (Int → Int) → (Int → Int) → Prop} {f_constants : Nat → Int64} {f_blanks : Nat → Int32} {f_counts : Nat → Int32} {f_points : Nat → Int32} {f_kept : Int32} {f_hashes : Nat → Int64} {f_news : Nat → Int64} {f_rounds : Int32} {f_hashed : Int32} {f_groups : Nat → Int32} {f_groupOf : Nat → Int32} {f_groupCount : Int32} {f_trial : Nat → Int32} {f_row : Nat → Int32} {f_namedBlanks : Int32} {f_formCount : Int32} {f_octets : Nat → Int32} {f_descriptions : Nat → Int32} {f_described : Int32} {f_message : Nat → Int32} {f_size : Int32} {f_words : Nat → Int64} {f_schedule : Nat → Int64} {f_thrown : Int32} {f_said : Nat → Int32} (X : kX p s m args meth c cX47_take 3 RX47 none (dC, dI) cl (tX47 d)) {K58 : (Int → Int) → Prop}  {f_names : Nat → Int32} (hk58 : ∀ (f_form : Nat → Int32), K58 (zF f_form) → ∀ (H : Heap) (locs : List Loc) (ls : Array Slot), kH (dC, dI) cl A s.heap H locs (wX47 ci ad d f_constants f_blanks f_counts f_points f_kept f_hashes f_news f_rounds f_hashed f_groups f_groupOf f_groupCount f_trial f_row f_names f_namedBlanks f_form f_formCount f_octets f_descriptions f_described f_message f_size f_words f_schedule f_thrown f_said) → lv_has ls 3 [] → W p l e ({ frames := 0, cells := 0, slots := 0, locals := 0 } : Room) s m args below meth c H locs 0 0 (MQ below (va_Qv (fun (u : (Nat → Int32) × (Nat → Int32)) => post (zF (u.1)) (zF (u.2))) (kB (dC, dI) cl (tX47 d) A (fun u : (Nat → Int32) × (Nat → Int32) => (wX47 ci ad d f_constants f_blanks f_counts f_points f_kept f_hashes f_news f_rounds f_hashed f_groups f_groupOf f_groupCount f_trial f_row (u.1) f_namedBlanks (u.2) f_formCount f_octets f_descriptions f_described f_message f_size f_words f_schedule f_thrown f_said))) A) args s 0 0 A) (F0 m 58 ls [])) :
    ∀ (nn : Nat) (x2 : Int32) (f_form : Nat → Int32), wX47_take_27 K58 (zF f_counts) (zF f_row) nn x2.toInt (zF f_form) → ∀ (H : Heap) (locs : List Loc) (ls : Array Slot), kH (dC, dI) cl A s.heap H locs (wX47 ci ad d f_constants f_blanks f_counts f_points f_kept f_hashes f_news f_rounds f_hashed f_groups f_groupOf f_groupCount f_trial f_row f_names f_namedBlanks f_form f_formCount f_octets f_descriptions f_described f_message f_size f_words f_schedule f_thrown f_said) → lv_has ls 3 [(0, .ref (ad 0)), (2, .int x2)] → W p l e ({ frames := 0, cells := 0, slots := 0, locals := 0 } : Room) s m args below meth c H locs 0 0 (MQ below (va_Qv (fun (u : (Nat → Int32) × (Nat → Int32)) => post (zF (u.1)) (zF (u.2))) (kB (dC, dI) cl (tX47 d) A (fun u : (Nat → Int32) × (Nat → Int32) => (wX47 ci ad d f_constants f_blanks f_counts f_points f_kept f_hashes f_news f_rounds f_hashed f_groups f_groupOf f_groupCount f_trial f_row (u.1) f_namedBlanks (u.2) f_formCount f_octets f_descriptions f_described f_message f_size f_words f_schedule f_thrown f_said))) A) args s 0 0 A) (F0 m 27 ls []) := by
  have hx := X.1.1
  have hb := X.1.2.1
  intro nn
  induction nn with
  | zero =>
    intro x2 f_form hw
    exact False.elim hw
  | succ n ih =>
    intro x2 f_form hw H locs ls hH hl
    rw [wX47_take_27] at hw
    refine lv_iload_n hx hb dX47_take_27 rfl (lv_at hl 1 rfl) ?_
    refine lv_iconst (v := 3) hx hb dX47_take_28 (by decide) ?_
    refine lv_aload_n hx hb dX47_take_29 rfl (lv_at hl 0 rfl) ?_
    refine k_get X hH in_X47 0 rfl hc 2 (by decide) q5986 rfl dX47_take_30 ?_
    refine lv_bipush (v := 8) hx hb dX47_take_33 (by decide) ?_
    refine k_iald X hH 3 2 rfl rfl (by unfold vp_in; decide) dX47_take_35 ?_
    have e_10 := z_ld (f := f_counts) (rfl : (8 : Int32).toInt = 8) (by decide)
    refine lv_imul hx hb dX47_take_36 ?_
    have e_11 := z_mul (z_m (rfl : (3 : Int32).toInt = 3)) (z_m e_10)
    have hq_13 := hw.1
    have hw := hw.2
    have e_14 := z_x e_11 hq_13
    refine lv_icmp_ge (tgt := 58) hx hb dX47_take_37 (by decide) (fun c_12 => ?_) (fun c_12 => ?_)
    · have hw := hw.1 (z_le e_14 (rfl : x2.toInt = _) c_12)
      exact hk58 f_form hw _ _ ls hH (lv_sub hl [] rfl)
    · have hw := hw.2 (z_nle e_14 (rfl : x2.toInt = _) c_12)
      refine lv_aload_n hx hb dX47_take_40 rfl (lv_at hl 0 rfl) ?_
      refine k_get X hH in_X47 0 rfl hc 16 (by decide) q6000 rfl dX47_take_41 ?_
      refine lv_iload_n hx hb dX47_take_44 rfl (lv_at hl 1 rfl) ?_
      refine lv_aload_n hx hb dX47_take_45 rfl (lv_at hl 0 rfl) ?_
      refine k_get X hH in_X47 0 rfl hc 13 (by decide) q5997 rfl dX47_take_46 ?_
      refine lv_iload_n hx hb dX47_take_49 rfl (lv_at hl 1 rfl) ?_
      have hq_15 := hw.1
      have hw := hw.2
      refine k_iald X hH 10 9 rfl rfl (z_in (rfl : x2.toInt = _) hq_15) dX47_take_50 ?_
      have e_16 := z_ld (f := f_row) (rfl : x2.toInt = _) hq_15.1
      refine lv_topi (fun v_17 ev_17 => ?_)
      have hw := hw v_17.toInt (by rw [ev_17]; exact e_16)
      obtain ⟨f_form_18, ef_form_18⟩ : ∃ y : Nat → Int32, y = upd f_form x2.toNatClampNeg v_17 := ⟨_, rfl⟩
      refine k_iast X hH 12 11 rfl rfl (z_in (rfl : x2.toInt = _) hq_15) dX47_take_51 ef_form_18 (ws1 := (wX47 ci ad d f_constants f_blanks f_counts f_points f_kept f_hashes f_news f_rounds f_hashed f_groups f_groupOf f_groupCount f_trial f_row f_names f_namedBlanks f_form_18 f_formCount f_octets f_descriptions f_described f_message f_size f_words f_schedule f_thrown f_said)) rfl (fun H locs hH => ?_)
      have hw := hw (zF f_form_18) (by rw [ef_form_18]; exact z_st (f := f_form) (rfl : x2.toInt = _) hq_15.1 (rfl : v_17.toInt = _))
      have hq_20 := hw.1
      have hw := hw.2
      obtain ⟨x2_19, ex2_19⟩ : ∃ y : Int32, y = x2 + 1 := ⟨_, rfl⟩
      have hw := hw x2_19.toInt (by rw [ex2_19]; exact (z_x (z_add (z_m (rfl : x2.toInt = _)) (z_m (rfl : (1 : Int32).toInt = 1))) hq_20))
      refine lv_iinc (v := x2_19) (lv' := [(2, .int x2_19), (0, .ref (ad 0))]) hx hb dX47_take_52 hl (k := 1) rfl (by rw [ex2_19]; rfl) (by decide) rfl (fun ls hl => ?_)
      refine lv_goto (tgt := 27) hx hb dX47_take_55 (by decide) ?_
      exact ih x2_19 f_form_18 hw _ _ ls hH (lv_sub hl [1, 0] rfl)
set_option maxHeartbeats 4000000 in
theorem walkX47_take {l : Launch} {dC : Nat → ClassId} {dI : Nat → Nat → Nat} {cl : List vw_C} {ci : Nat} (hc : cl[ci]? = some (RX47, TX47, 27)) {ad : Nat → Nat} {d : Nat → ClassId} {sz : Nat} {f_constants : Nat → Int64} {f_blanks : Nat → Int32} {f_counts : Nat → Int32} {f_points : Nat → Int32} {f_kept : Int32} {f_hashes : Nat → Int64} {f_news : Nat → Int64} {f_rounds : Int32} {f_hashed : Int32} {f_groups : Nat → Int32} {f_groupOf : Nat → Int32} {f_groupCount : Int32} {f_trial : Nat → Int32} {f_row : Nat → Int32} {f_names : Nat → Int32} {f_namedBlanks : Int32} {f_form : Nat → Int32} {f_formCount : Int32} {f_octets : Nat → Int32} {f_descriptions : Nat → Int32} {f_described : Int32} {f_message : Nat → Int32} {f_size : Int32} {f_words : Nat → Int64} {f_schedule : Nat → Int64} {f_thrown : Int32} {f_said : Nat → Int32} {x1 : Int32} {post : (Int → Int) → (Int → Int) → Prop} (hw : wpX47_take post (zF f_counts) (zF f_trial) (zF f_row) (zF f_names) (zF f_form) x1.toInt) :
    Met l yX47_take (ws_ yX47_take cX47_take 3 none) ({ frames := 0, cells := 0, slots := 0, locals := 0 } : Room) (kPc (dC, dI) cl (tX47 d) [.ref (ad 0), .int x1] sz (wX47 ci ad d f_constants f_blanks f_counts f_points f_kept f_hashes f_news f_rounds f_hashed f_groups f_groupOf f_groupCount f_trial f_row f_names f_namedBlanks f_form f_formCount f_octets f_descriptions f_described f_message f_size f_words f_schedule f_thrown f_said)) (va_Qv (fun (u : (Nat → Int32) × (Nat → Int32)) => post (zF (u.1)) (zF (u.2))) (kB (dC, dI) cl (tX47 d) (va_A (wX47 ci ad d f_constants f_blanks f_counts f_points f_kept f_hashes f_news f_rounds f_hashed f_groups f_groupOf f_groupCount f_trial f_row f_names f_namedBlanks f_form f_formCount f_octets f_descriptions f_described f_message f_size f_words f_schedule f_thrown f_said) sz) (fun u : (Nat → Int32) × (Nat → Int32) => (wX47 ci ad d f_constants f_blanks f_counts f_points f_kept f_hashes f_news f_rounds f_hashed f_groups f_groupOf f_groupCount f_trial f_row (u.1) f_namedBlanks (u.2) f_formCount f_octets f_descriptions f_described f_message f_size f_words f_schedule f_thrown f_said))) (va_A (wX47 ci ad d f_constants f_blanks f_counts f_points f_kept f_hashes f_news f_rounds f_hashed f_groups f_groupOf f_groupCount f_trial f_row f_names f_namedBlanks f_form f_formCount f_octets f_descriptions f_described f_message f_size f_words f_schedule f_thrown f_said) sz)) 0 0 (va_A (wX47 ci ad d f_constants f_blanks f_counts f_points f_kept f_hashes f_news f_rounds f_hashed f_groups f_groupOf f_groupCount f_trial f_row f_names f_namedBlanks f_form f_formCount f_octets f_descriptions f_described f_message f_size f_words f_schedule f_thrown f_said) sz) := by
  refine k_enter (by decide) (Nat.le_of_ble_eq_true rfl) ?_
  intro p e s m below meth c ls X hsz hH hl
  subst hsz
  generalize va_A (wX47 ci ad d f_constants f_blanks f_counts f_points f_kept f_hashes f_news f_rounds f_hashed f_groups f_groupOf f_groupCount f_trial f_row f_names f_namedBlanks f_form f_formCount f_octets f_descriptions f_described f_message f_size f_words f_schedule f_thrown f_said) s.heap.size = A at hH ⊢
  have hx := X.1.1
  have hb := X.1.2.1
  have hl : lv_has ls 3 [(0, .ref (ad 0)), (1, .int x1)] := hl
  unfold wpX47_take at hw
  refine lv_iconst (v := 1) hx hb dX47_take_0 (by decide) ?_
  refine lv_istore_n (lv' := [(2, .int 1), (0, .ref (ad 0)), (1, .int x1)]) hx hb dX47_take_1 rfl hl (by decide) rfl (fun ls hl => ?_)
  obtain ⟨fu, hw⟩ := hw
  refine atX47_take_2 hc X ?_ fu 1 f_names hw _ _ ls hH (lv_sub hl [1, 2, 0] rfl)
  · intro f_names_9 hw H locs ls hH hl
    refine lv_iconst (v := 0) hx hb dX47_take_25 (by decide) ?_
    refine lv_istore_n (lv' := [(2, .int 0), (0, .ref (ad 0))]) hx hb dX47_take_26 rfl hl (by decide) rfl (fun ls hl => ?_)
    obtain ⟨fu, hw⟩ := hw
    refine atX47_take_27 hc X ?_ fu 0 f_form hw _ _ ls hH (lv_sub hl [1, 0] rfl)
    · intro f_form_21 hw H locs ls hH hl
      exact k_vret X hH (f_names_9, f_form_21) hw rfl dX47_take_58
set_option maxHeartbeats 4000000 in
theorem walkX47_change {l : Launch} {dC : Nat → ClassId} {dI : Nat → Nat → Nat} {cl : List vw_C} {ci : Nat} (hc : cl[ci]? = some (RX47, TX47, 27)) {ad : Nat → Nat} {d : Nat → ClassId} {sz : Nat} {f_constants : Nat → Int64} {f_blanks : Nat → Int32} {f_counts : Nat → Int32} {f_points : Nat → Int32} {f_kept : Int32} {f_hashes : Nat → Int64} {f_news : Nat → Int64} {f_rounds : Int32} {f_hashed : Int32} {f_groups : Nat → Int32} {f_groupOf : Nat → Int32} {f_groupCount : Int32} {f_trial : Nat → Int32} {f_row : Nat → Int32} {f_names : Nat → Int32} {f_namedBlanks : Int32} {f_form : Nat → Int32} {f_formCount : Int32} {f_octets : Nat → Int32} {f_descriptions : Nat → Int32} {f_described : Int32} {f_message : Nat → Int32} {f_size : Int32} {f_words : Nat → Int64} {f_schedule : Nat → Int64} {f_thrown : Int32} {f_said : Nat → Int32} {x1 : Int32} {x2 : Int32} {post : (Int → Int) → Prop} (hw : wpX47_change post (zF f_trial) x1.toInt x2.toInt) :
    Met l yX47_change (ws_ yX47_change cX47_change 4 none) ({ frames := 0, cells := 0, slots := 0, locals := 0 } : Room) (kPc (dC, dI) cl (tX47 d) [.ref (ad 0), .int x1, .int x2] sz (wX47 ci ad d f_constants f_blanks f_counts f_points f_kept f_hashes f_news f_rounds f_hashed f_groups f_groupOf f_groupCount f_trial f_row f_names f_namedBlanks f_form f_formCount f_octets f_descriptions f_described f_message f_size f_words f_schedule f_thrown f_said)) (va_Qv (fun (u : (Nat → Int32)) => post (zF (u))) (kB (dC, dI) cl (tX47 d) (va_A (wX47 ci ad d f_constants f_blanks f_counts f_points f_kept f_hashes f_news f_rounds f_hashed f_groups f_groupOf f_groupCount f_trial f_row f_names f_namedBlanks f_form f_formCount f_octets f_descriptions f_described f_message f_size f_words f_schedule f_thrown f_said) sz) (fun u : (Nat → Int32) => (wX47 ci ad d f_constants f_blanks f_counts f_points f_kept f_hashes f_news f_rounds f_hashed f_groups f_groupOf f_groupCount (u) f_row f_names f_namedBlanks f_form f_formCount f_octets f_descriptions f_described f_message f_size f_words f_schedule f_thrown f_said))) (va_A (wX47 ci ad d f_constants f_blanks f_counts f_points f_kept f_hashes f_news f_rounds f_hashed f_groups f_groupOf f_groupCount f_trial f_row f_names f_namedBlanks f_form f_formCount f_octets f_descriptions f_described f_message f_size f_words f_schedule f_thrown f_said) sz)) 0 0 (va_A (wX47 ci ad d f_constants f_blanks f_counts f_points f_kept f_hashes f_news f_rounds f_hashed f_groups f_groupOf f_groupCount f_trial f_row f_names f_namedBlanks f_form f_formCount f_octets f_descriptions f_described f_message f_size f_words f_schedule f_thrown f_said) sz) := by
  refine k_enter (by decide) (Nat.le_of_ble_eq_true rfl) ?_
  intro p e s m below meth c ls X hsz hH hl
  subst hsz
  generalize va_A (wX47 ci ad d f_constants f_blanks f_counts f_points f_kept f_hashes f_news f_rounds f_hashed f_groups f_groupOf f_groupCount f_trial f_row f_names f_namedBlanks f_form f_formCount f_octets f_descriptions f_described f_message f_size f_words f_schedule f_thrown f_said) s.heap.size = A at hH ⊢
  have hx := X.1.1
  have hb := X.1.2.1
  have hl : lv_has ls 4 [(0, .ref (ad 0)), (1, .int x1), (2, .int x2)] := hl
  unfold wpX47_change at hw
  refine lv_aload_n hx hb dX47_change_0 rfl (lv_at hl 0 rfl) ?_
  refine k_get X hH in_X47 0 rfl hc 12 (by decide) q5996 rfl dX47_change_1 ?_
  refine lv_iload_n hx hb dX47_change_4 rfl (lv_at hl 1 rfl) ?_
  have hq_1 := hw.1
  have hw := hw.2
  refine k_iald X hH 9 8 rfl rfl (z_in (rfl : x1.toInt = _) hq_1) dX47_change_5 ?_
  have e_2 := z_ld (f := f_trial) (rfl : x1.toInt = _) hq_1.1
  refine lv_topi (fun x3_3 ex3_3 => ?_)
  have hw := hw x3_3.toInt (by rw [ex3_3]; exact e_2)
  refine lv_istore_n (lv' := [(3, .int x3_3), (0, .ref (ad 0)), (1, .int x1), (2, .int x2)]) hx hb dX47_change_6 rfl hl (by decide) rfl (fun ls hl => ?_)
  refine lv_aload_n hx hb dX47_change_7 rfl (lv_at hl 1 rfl) ?_
  refine k_get X hH in_X47 0 rfl hc 12 (by decide) q5996 rfl dX47_change_8 ?_
  refine lv_iload_n hx hb dX47_change_11 rfl (lv_at hl 2 rfl) ?_
  refine lv_aload_n hx hb dX47_change_12 rfl (lv_at hl 1 rfl) ?_
  refine k_get X hH in_X47 0 rfl hc 12 (by decide) q5996 rfl dX47_change_13 ?_
  refine lv_iload_n hx hb dX47_change_16 rfl (lv_at hl 3 rfl) ?_
  have hq_4 := hw.1
  have hw := hw.2
  refine k_iald X hH 9 8 rfl rfl (z_in (rfl : x2.toInt = _) hq_4) dX47_change_17 ?_
  have e_5 := z_ld (f := f_trial) (rfl : x2.toInt = _) hq_4.1
  refine lv_topi (fun v_6 ev_6 => ?_)
  have hw := hw v_6.toInt (by rw [ev_6]; exact e_5)
  obtain ⟨f_trial_7, ef_trial_7⟩ : ∃ y : Nat → Int32, y = upd f_trial x1.toNatClampNeg v_6 := ⟨_, rfl⟩
  refine k_iast X hH 9 8 rfl rfl (z_in (rfl : x1.toInt = _) hq_1) dX47_change_18 ef_trial_7 (ws1 := (wX47 ci ad d f_constants f_blanks f_counts f_points f_kept f_hashes f_news f_rounds f_hashed f_groups f_groupOf f_groupCount f_trial_7 f_row f_names f_namedBlanks f_form f_formCount f_octets f_descriptions f_described f_message f_size f_words f_schedule f_thrown f_said)) rfl (fun H locs hH => ?_)
  have hw := hw (zF f_trial_7) (by rw [ef_trial_7]; exact z_st (f := f_trial) (rfl : x1.toInt = _) hq_1.1 (rfl : v_6.toInt = _))
  refine lv_aload_n hx hb dX47_change_19 rfl (lv_at hl 1 rfl) ?_
  refine k_get X hH in_X47 0 rfl hc 12 (by decide) q5996 rfl dX47_change_20 ?_
  refine lv_iload_n hx hb dX47_change_23 rfl (lv_at hl 3 rfl) ?_
  refine lv_iload_n hx hb dX47_change_24 rfl (lv_at hl 0 rfl) ?_
  obtain ⟨f_trial_8, ef_trial_8⟩ : ∃ y : Nat → Int32, y = upd f_trial_7 x2.toNatClampNeg x3_3 := ⟨_, rfl⟩
  refine k_iast X hH 9 8 rfl rfl (z_in (rfl : x2.toInt = _) hq_4) dX47_change_25 ef_trial_8 (ws1 := (wX47 ci ad d f_constants f_blanks f_counts f_points f_kept f_hashes f_news f_rounds f_hashed f_groups f_groupOf f_groupCount f_trial_8 f_row f_names f_namedBlanks f_form f_formCount f_octets f_descriptions f_described f_message f_size f_words f_schedule f_thrown f_said)) rfl (fun H locs hH => ?_)
  have hw := hw (zF f_trial_8) (by rw [ef_trial_8]; exact z_st (f := f_trial_7) (rfl : x2.toInt = _) hq_4.1 (rfl : x3_3.toInt = _))
  exact k_vret X hH (f_trial_8) hw rfl dX47_change_26
set_option maxHeartbeats 4000000 in
theorem atX47_turn_4 {p : Program} {l : Launch} {e : Env} {s : State} {m : MethodId} {args : Array Value} {below : List Frame} {meth : Method} {c : Code} {dC : Nat → ClassId} {dI : Nat → Nat → Nat} {cl : List vw_C} {ci : Nat} (hc : cl[ci]? = some (RX47, TX47, 27)) {ad : Nat → Nat} {d : Nat → ClassId} {A : Nat → Prop} {post : Int → (Int → Int) → Prop} {f_constants : Nat → Int64} {f_blanks : Nat → Int32} {f_counts : Nat → Int32} {f_points : Nat → Int32} {f_kept : Int32} {f_hashes : Nat → Int64} {f_news : Nat → Int64} {f_rounds : Int32} {f_hashed : Int32} {f_groups : Nat → Int32} {f_groupOf : Nat → Int32} {f_groupCount : Int32} {f_row : Nat → Int32} {f_names : Nat → Int32} {f_namedBlanks : Int32} {f_form : Nat → Int32} {f_formCount : Int32} {f_octets : Nat → Int32} {f_descriptions : Nat → Int32} {f_described : Int32} {f_message : Nat → Int32} {f_size : Int32} {f_words : Nat → Int64} {f_schedule : Nat → Int64} {f_thrown : Int32} {f_said : Nat → Int32} (X : kX p s m args meth c cX47_turn 5 RX47 (some .boolean) (dC, dI) cl (tX47 d)) {K32 : Int → Prop} {x1 : Int32} {f_trial : Nat → Int32} (hk32 : ∀ (x2 : Int32), K32 x2.toInt → ∀ (H : Heap) (locs : List Loc) (ls : Array Slot), kH (dC, dI) cl A s.heap H locs (wX47 ci ad d f_constants f_blanks f_counts f_points f_kept f_hashes f_news f_rounds f_hashed f_groups f_groupOf f_groupCount f_trial f_row f_names f_namedBlanks f_form f_formCount f_octets f_descriptions f_described f_message f_size f_words f_schedule f_thrown f_said) → lv_has ls 5 [(0, .ref (ad 0)), (1, .int x1), (2, .int x2)] → W p l e ({ frames := 1, cells := 0, slots := 0, locals := 23 } : Room) s m args below meth c H locs 0 0 (MQ below (va_Qi (fun (r : Int32) (u : (Nat → Int32)) => post r.toInt (zF (u))) (kB (dC, dI) cl (tX47 d) A (fun u : (Nat → Int32) => (wX47 ci ad d f_constants f_blanks f_counts f_points f_kept f_hashes f_news f_rounds f_hashed f_groups f_groupOf f_groupCount (u) f_row f_names f_namedBlanks f_form f_formCount f_octets f_descriptions f_described f_message f_size f_words f_schedule f_thrown f_said))) A) args s 0 0 A) (F0 m 32 ls [])) :
    ∀ (nn : Nat) (x2 : Int32), wX47_turn_4 K32 (zF f_trial) nn x2.toInt → ∀ (H : Heap) (locs : List Loc) (ls : Array Slot), kH (dC, dI) cl A s.heap H locs (wX47 ci ad d f_constants f_blanks f_counts f_points f_kept f_hashes f_news f_rounds f_hashed f_groups f_groupOf f_groupCount f_trial f_row f_names f_namedBlanks f_form f_formCount f_octets f_descriptions f_described f_message f_size f_words f_schedule f_thrown f_said) → lv_has ls 5 [(0, .ref (ad 0)), (1, .int x1), (2, .int x2)] → W p l e ({ frames := 1, cells := 0, slots := 0, locals := 23 } : Room) s m args below meth c H locs 0 0 (MQ below (va_Qi (fun (r : Int32) (u : (Nat → Int32)) => post r.toInt (zF (u))) (kB (dC, dI) cl (tX47 d) A (fun u : (Nat → Int32) => (wX47 ci ad d f_constants f_blanks f_counts f_points f_kept f_hashes f_news f_rounds f_hashed f_groups f_groupOf f_groupCount (u) f_row f_names f_namedBlanks f_form f_formCount f_octets f_descriptions f_described f_message f_size f_words f_schedule f_thrown f_said))) A) args s 0 0 A) (F0 m 4 ls []) := by
  have hx := X.1.1
  have hb := X.1.2.1
  intro nn
  induction nn with
  | zero =>
    intro x2 hw
    exact False.elim hw
  | succ n ih =>
    intro x2 hw H locs ls hH hl
    rw [wX47_turn_4] at hw
    refine lv_iload_n hx hb dX47_turn_4 rfl (lv_at hl 2 rfl) ?_
    refine lv_iconst (v := 1) hx hb dX47_turn_5 (by decide) ?_
    refine lv_icmp_lt (tgt := 32) hx hb dX47_turn_6 (by decide) (fun c_5 => ?_) (fun c_5 => ?_)
    · have hw := hw.1 (z_lt (rfl : x2.toInt = _) (rfl : (1 : Int32).toInt = 1) c_5)
      exact hk32 x2 hw _ _ ls hH (lv_sub hl [0, 1, 2] rfl)
    · have hw := hw.2 (z_nlt (rfl : x2.toInt = _) (rfl : (1 : Int32).toInt = 1) c_5)
      refine lv_aload_n hx hb dX47_turn_9 rfl (lv_at hl 0 rfl) ?_
      refine k_get X hH in_X47 0 rfl hc 12 (by decide) q5996 rfl dX47_turn_10 ?_
      refine lv_iload_n hx hb dX47_turn_13 rfl (lv_at hl 2 rfl) ?_
      have hq_6 := hw.1
      have hw := hw.2
      refine k_iald X hH 9 8 rfl rfl (z_in (rfl : x2.toInt = _) hq_6) dX47_turn_14 ?_
      have e_7 := z_ld (f := f_trial) (rfl : x2.toInt = _) hq_6.1
      refine lv_aload_n hx hb dX47_turn_15 rfl (lv_at hl 0 rfl) ?_
      refine k_get X hH in_X47 0 rfl hc 12 (by decide) q5996 rfl dX47_turn_16 ?_
      refine lv_iload_n hx hb dX47_turn_19 rfl (lv_at hl 2 rfl) ?_
      refine lv_iconst (v := 1) hx hb dX47_turn_20 (by decide) ?_
      refine lv_iadd hx hb dX47_turn_21 ?_
      have e_8 := z_add (z_m (rfl : x2.toInt = _)) (z_m (rfl : (1 : Int32).toInt = 1))
      have hq_9 := hw.1
      have hw := hw.2
      have e_10 := z_xi e_8 hq_9 (by decide)
      refine k_iald X hH 9 8 rfl rfl (z_in e_10 hq_9) dX47_turn_22 ?_
      have e_11 := z_ld (f := f_trial) e_10 hq_9.1
      refine lv_icmp_le (tgt := 32) hx hb dX47_turn_23 (by decide) (fun c_12 => ?_) (fun c_12 => ?_)
      · have hw := hw.1 (z_le e_7 e_11 c_12)
        exact hk32 x2 hw _ _ ls hH (lv_sub hl [0, 1, 2] rfl)
      · have hw := hw.2 (z_nle e_7 e_11 c_12)
        have hq_14 := hw.1
        have hw := hw.2
        obtain ⟨x2_13, ex2_13⟩ : ∃ y : Int32, y = x2 + (-1) := ⟨_, rfl⟩
        have hw := hw x2_13.toInt (by rw [ex2_13]; exact (z_x (z_add (z_m (rfl : x2.toInt = _)) (z_m (rfl : ((-1) : Int32).toInt = (-1)))) hq_14))
        refine lv_iinc (v := x2_13) (lv' := [(2, .int x2_13), (0, .ref (ad 0)), (1, .int x1)]) hx hb dX47_turn_26 hl (k := 2) rfl (by rw [ex2_13]; rfl) (by decide) rfl (fun ls hl => ?_)
        refine lv_goto (tgt := 4) hx hb dX47_turn_29 (by decide) ?_
        exact ih x2_13 hw _ _ ls hH (lv_sub hl [1, 2, 0] rfl)
set_option maxHeartbeats 4000000 in
theorem atX47_turn_41 {p : Program} {l : Launch} {e : Env} {s : State} {m : MethodId} {args : Array Value} {below : List Frame} {meth : Method} {c : Code} {dC : Nat → ClassId} {dI : Nat → Nat → Nat} {cl : List vw_C} {ci : Nat} (hc : cl[ci]? = some (RX47, TX47, 27)) {ad : Nat → Nat} {d : Nat → ClassId} {A : Nat → Prop} {post : Int → (Int → Int) → Prop} {f_constants : Nat → Int64} {f_blanks : Nat → Int32} {f_counts : Nat → Int32} {f_points : Nat → Int32} {f_kept : Int32} {f_hashes : Nat → Int64} {f_news : Nat → Int64} {f_rounds : Int32} {f_hashed : Int32} {f_groups : Nat → Int32} {f_groupOf : Nat → Int32} {f_groupCount : Int32} {f_row : Nat → Int32} {f_names : Nat → Int32} {f_namedBlanks : Int32} {f_form : Nat → Int32} {f_formCount : Int32} {f_octets : Nat → Int32} {f_descriptions : Nat → Int32} {f_described : Int32} {f_message : Nat → Int32} {f_size : Int32} {f_words : Nat → Int64} {f_schedule : Nat → Int64} {f_thrown : Int32} {f_said : Nat → Int32} (X : kX p s m args meth c cX47_turn 5 RX47 (some .boolean) (dC, dI) cl (tX47 d)) {K62 : Int → Prop} {x1 : Int32} {x2 : Int32} {f_trial : Nat → Int32} (hk62 : ∀ (x3 : Int32), K62 x3.toInt → ∀ (H : Heap) (locs : List Loc) (ls : Array Slot), kH (dC, dI) cl A s.heap H locs (wX47 ci ad d f_constants f_blanks f_counts f_points f_kept f_hashes f_news f_rounds f_hashed f_groups f_groupOf f_groupCount f_trial f_row f_names f_namedBlanks f_form f_formCount f_octets f_descriptions f_described f_message f_size f_words f_schedule f_thrown f_said) → lv_has ls 5 [(0, .ref (ad 0)), (1, .int x1), (2, .int x2), (3, .int x3)] → W p l e ({ frames := 1, cells := 0, slots := 0, locals := 23 } : Room) s m args below meth c H locs 0 0 (MQ below (va_Qi (fun (r : Int32) (u : (Nat → Int32)) => post r.toInt (zF (u))) (kB (dC, dI) cl (tX47 d) A (fun u : (Nat → Int32) => (wX47 ci ad d f_constants f_blanks f_counts f_points f_kept f_hashes f_news f_rounds f_hashed f_groups f_groupOf f_groupCount (u) f_row f_names f_namedBlanks f_form f_formCount f_octets f_descriptions f_described f_message f_size f_words f_schedule f_thrown f_said))) A) args s 0 0 A) (F0 m 62 ls [])) :
    ∀ (nn : Nat) (x3 : Int32), wX47_turn_41 K62 x2.toInt (zF f_trial) nn x3.toInt → ∀ (H : Heap) (locs : List Loc) (ls : Array Slot), kH (dC, dI) cl A s.heap H locs (wX47 ci ad d f_constants f_blanks f_counts f_points f_kept f_hashes f_news f_rounds f_hashed f_groups f_groupOf f_groupCount f_trial f_row f_names f_namedBlanks f_form f_formCount f_octets f_descriptions f_described f_message f_size f_words f_schedule f_thrown f_said) → lv_has ls 5 [(0, .ref (ad 0)), (1, .int x1), (2, .int x2), (3, .int x3)] → W p l e ({ frames := 1, cells := 0, slots := 0, locals := 23 } : Room) s m args below meth c H locs 0 0 (MQ below (va_Qi (fun (r : Int32) (u : (Nat → Int32)) => post r.toInt (zF (u))) (kB (dC, dI) cl (tX47 d) A (fun u : (Nat → Int32) => (wX47 ci ad d f_constants f_blanks f_counts f_points f_kept f_hashes f_news f_rounds f_hashed f_groups f_groupOf f_groupCount (u) f_row f_names f_namedBlanks f_form f_formCount f_octets f_descriptions f_described f_message f_size f_words f_schedule f_thrown f_said))) A) args s 0 0 A) (F0 m 41 ls []) := by
  have hx := X.1.1
  have hb := X.1.2.1
  intro nn
  induction nn with
  | zero =>
    intro x3 hw
    exact False.elim hw
  | succ n ih =>
    intro x3 hw H locs ls hH hl
    rw [wX47_turn_41] at hw
    refine lv_aload_n hx hb dX47_turn_41 rfl (lv_at hl 0 rfl) ?_
    refine k_get X hH in_X47 0 rfl hc 12 (by decide) q5996 rfl dX47_turn_42 ?_
    refine lv_iload_n hx hb dX47_turn_45 rfl (lv_at hl 3 rfl) ?_
    have hq_17 := hw.1
    have hw := hw.2
    refine k_iald X hH 9 8 rfl rfl (z_in (rfl : x3.toInt = _) hq_17) dX47_turn_46 ?_
    have e_18 := z_ld (f := f_trial) (rfl : x3.toInt = _) hq_17.1
    refine lv_aload_n hx hb dX47_turn_47 rfl (lv_at hl 0 rfl) ?_
    refine k_get X hH in_X47 0 rfl hc 12 (by decide) q5996 rfl dX47_turn_48 ?_
    refine lv_iload_n hx hb dX47_turn_51 rfl (lv_at hl 2 rfl) ?_
    have hq_19 := hw.1
    have hw := hw.2
    refine k_iald X hH 9 8 rfl rfl (z_in (rfl : x2.toInt = _) hq_19) dX47_turn_52 ?_
    have e_20 := z_ld (f := f_trial) (rfl : x2.toInt = _) hq_19.1
    refine lv_icmp_ge (tgt := 62) hx hb dX47_turn_53 (by decide) (fun c_21 => ?_) (fun c_21 => ?_)
    · have hw := hw.1 (z_le e_20 e_18 c_21)
      exact hk62 x3 hw _ _ ls hH (lv_sub hl [0, 1, 2, 3] rfl)
    · have hw := hw.2 (z_nle e_20 e_18 c_21)
      have hq_23 := hw.1
      have hw := hw.2
      obtain ⟨x3_22, ex3_22⟩ : ∃ y : Int32, y = x3 + (-1) := ⟨_, rfl⟩
      have hw := hw x3_22.toInt (by rw [ex3_22]; exact (z_x (z_add (z_m (rfl : x3.toInt = _)) (z_m (rfl : ((-1) : Int32).toInt = (-1)))) hq_23))
      refine lv_iinc (v := x3_22) (lv' := [(3, .int x3_22), (0, .ref (ad 0)), (1, .int x1), (2, .int x2)]) hx hb dX47_turn_56 hl (k := 3) rfl (by rw [ex3_22]; rfl) (by decide) rfl (fun ls hl => ?_)
      refine lv_goto (tgt := 41) hx hb dX47_turn_59 (by decide) ?_
      exact ih x3_22 hw _ _ ls hH (lv_sub hl [1, 2, 3, 0] rfl)
set_option maxHeartbeats 4000000 in
theorem atX47_turn_71 {p : Program} {l : Launch} {e : Env} {s : State} {m : MethodId} {args : Array Value} {below : List Frame} {meth : Method} {c : Code} {dC : Nat → ClassId} {dI : Nat → Nat → Nat} {cl : List vw_C} {ci : Nat} (hc : cl[ci]? = some (RX47, TX47, 27)) {ad : Nat → Nat} {d : Nat → ClassId} {A : Nat → Prop} {post : Int → (Int → Int) → Prop} {f_constants : Nat → Int64} {f_blanks : Nat → Int32} {f_counts : Nat → Int32} {f_points : Nat → Int32} {f_kept : Int32} {f_hashes : Nat → Int64} {f_news : Nat → Int64} {f_rounds : Int32} {f_hashed : Int32} {f_groups : Nat → Int32} {f_groupOf : Nat → Int32} {f_groupCount : Int32} {f_row : Nat → Int32} {f_names : Nat → Int32} {f_namedBlanks : Int32} {f_form : Nat → Int32} {f_formCount : Int32} {f_octets : Nat → Int32} {f_descriptions : Nat → Int32} {f_described : Int32} {f_message : Nat → Int32} {f_size : Int32} {f_words : Nat → Int64} {f_schedule : Nat → Int64} {f_thrown : Int32} {f_said : Nat → Int32} (X : kX p s m args meth c cX47_turn 5 RX47 (some .boolean) (dC, dI) cl (tX47 d)) {K104 : (Int → Int) → Prop} {x1 : Int32} {x2 : Int32}  (hk104 : ∀ (f_trial : Nat → Int32), K104 (zF f_trial) → ∀ (H : Heap) (locs : List Loc) (ls : Array Slot), kH (dC, dI) cl A s.heap H locs (wX47 ci ad d f_constants f_blanks f_counts f_points f_kept f_hashes f_news f_rounds f_hashed f_groups f_groupOf f_groupCount f_trial f_row f_names f_namedBlanks f_form f_formCount f_octets f_descriptions f_described f_message f_size f_words f_schedule f_thrown f_said) → lv_has ls 5 [] → W p l e ({ frames := 1, cells := 0, slots := 0, locals := 23 } : Room) s m args below meth c H locs 0 0 (MQ below (va_Qi (fun (r : Int32) (u : (Nat → Int32)) => post r.toInt (zF (u))) (kB (dC, dI) cl (tX47 d) A (fun u : (Nat → Int32) => (wX47 ci ad d f_constants f_blanks f_counts f_points f_kept f_hashes f_news f_rounds f_hashed f_groups f_groupOf f_groupCount (u) f_row f_names f_namedBlanks f_form f_formCount f_octets f_descriptions f_described f_message f_size f_words f_schedule f_thrown f_said))) A) args s 0 0 A) (F0 m 104 ls [])) :
    ∀ (nn : Nat) (x4 : Int32) (f_trial : Nat → Int32), wX47_turn_71 K104 x1.toInt x2.toInt nn x4.toInt (zF f_trial) → ∀ (H : Heap) (locs : List Loc) (ls : Array Slot), kH (dC, dI) cl A s.heap H locs (wX47 ci ad d f_constants f_blanks f_counts f_points f_kept f_hashes f_news f_rounds f_hashed f_groups f_groupOf f_groupCount f_trial f_row f_names f_namedBlanks f_form f_formCount f_octets f_descriptions f_described f_message f_size f_words f_schedule f_thrown f_said) → lv_has ls 5 [(0, .ref (ad 0)), (1, .int x1), (2, .int x2), (4, .int x4)] → W p l e ({ frames := 1, cells := 0, slots := 0, locals := 23 } : Room) s m args below meth c H locs 0 0 (MQ below (va_Qi (fun (r : Int32) (u : (Nat → Int32)) => post r.toInt (zF (u))) (kB (dC, dI) cl (tX47 d) A (fun u : (Nat → Int32) => (wX47 ci ad d f_constants f_blanks f_counts f_points f_kept f_hashes f_news f_rounds f_hashed f_groups f_groupOf f_groupCount (u) f_row f_names f_namedBlanks f_form f_formCount f_octets f_descriptions f_described f_message f_size f_words f_schedule f_thrown f_said))) A) args s 0 0 A) (F0 m 71 ls []) := by
  have hx := X.1.1
  have hb := X.1.2.1
  intro nn
  induction nn with
  | zero =>
    intro x4 f_trial hw
    exact False.elim hw
  | succ n ih =>
    intro x4 f_trial hw H locs ls hH hl
    rw [wX47_turn_71] at hw
    refine lv_iload_n hx hb dX47_turn_71 rfl (lv_at hl 2 rfl) ?_
    refine lv_iload hx hb dX47_turn_72 (lv_at hl 3 rfl) ?_
    refine lv_iadd hx hb dX47_turn_74 ?_
    have e_26 := z_add (z_m (rfl : x2.toInt = _)) (z_m (rfl : x4.toInt = _))
    refine lv_iload_n hx hb dX47_turn_75 rfl (lv_at hl 1 rfl) ?_
    refine lv_iconst (v := 1) hx hb dX47_turn_76 (by decide) ?_
    refine lv_iadd hx hb dX47_turn_77 ?_
    have e_27 := z_add (z_m (rfl : x1.toInt = _)) (z_m (rfl : (1 : Int32).toInt = 1))
    refine lv_iload hx hb dX47_turn_78 (lv_at hl 3 rfl) ?_
    refine lv_isub hx hb dX47_turn_80 ?_
    have e_28 := z_sub e_27 (z_m (rfl : x4.toInt = _))
    have hq_30 := hw.1
    have hw := hw.2
    have e_31 := z_x e_26 hq_30
    have hq_32 := hw.1
    have hw := hw.2
    have e_33 := z_x e_28 hq_32
    refine lv_icmp_ge (tgt := 104) hx hb dX47_turn_81 (by decide) (fun c_29 => ?_) (fun c_29 => ?_)
    · have hw := hw.1 (z_le e_33 e_31 c_29)
      exact hk104 f_trial hw _ _ ls hH (lv_sub hl [] rfl)
    · have hw := hw.2 (z_nle e_33 e_31 c_29)
      refine lv_aload_n hx hb dX47_turn_84 rfl (lv_at hl 0 rfl) ?_
      refine lv_iload_n hx hb dX47_turn_85 rfl (lv_at hl 2 rfl) ?_
      refine lv_iload hx hb dX47_turn_86 (lv_at hl 3 rfl) ?_
      refine lv_iadd hx hb dX47_turn_88 ?_
      have e_34 := z_add (z_m (rfl : x2.toInt = _)) (z_m (rfl : x4.toInt = _))
      refine lv_iload_n hx hb dX47_turn_89 rfl (lv_at hl 1 rfl) ?_
      refine lv_iconst (v := 1) hx hb dX47_turn_90 (by decide) ?_
      refine lv_iadd hx hb dX47_turn_91 ?_
      have e_35 := z_add (z_m (rfl : x1.toInt = _)) (z_m (rfl : (1 : Int32).toInt = 1))
      refine lv_iload hx hb dX47_turn_92 (lv_at hl 3 rfl) ?_
      refine lv_isub hx hb dX47_turn_94 ?_
      have e_36 := z_sub e_35 (z_m (rfl : x4.toInt = _))
      have e_37 := z_x e_34 hq_30
      have e_38 := z_x e_36 hq_32
      refine k_v0 hH (k_runV (As := [.int (x2 + x4), .int ((x1 + 1) - x4)]) (rest := []) X hH.1 hH.2.1 X.2.2.2 (walkX47_change hc (x1 := (x2 + x4)) (x2 := ((x1 + 1) - x4)) (f_constants := f_constants) (f_blanks := f_blanks) (f_counts := f_counts) (f_points := f_points) (f_kept := f_kept) (f_hashes := f_hashes) (f_news := f_news) (f_rounds := f_rounds) (f_hashed := f_hashed) (f_groups := f_groups) (f_groupOf := f_groupOf) (f_groupCount := f_groupCount) (f_trial := f_trial) (f_row := f_row) (f_names := f_names) (f_namedBlanks := f_namedBlanks) (f_form := f_form) (f_formCount := f_formCount) (f_octets := f_octets) (f_descriptions := f_descriptions) (f_described := f_described) (f_message := f_message) (f_size := f_size) (f_words := f_words) (f_schedule := f_schedule) (f_thrown := f_thrown) (f_said := f_said) (by rw [show (x2 + x4 : Int32).toInt = _ from e_37, show ((x1 + 1) - x4 : Int32).toInt = _ from e_38]; exact hw)) (cwV 2 X.1.2.2.2.2 gX47_297 rfl rfl rfl hX47_change ⟨Nat.le_of_ble_eq_true rfl, Nat.le_of_ble_eq_true rfl⟩) hc (q0 := 0) rfl rfl hl.1 rfl (Nat.le_of_ble_eq_true rfl) dX47_turn_95 ⟨Nat.le_refl 0, Nat.le_refl 0⟩) (fun u H locs hw hH => ?_)
      obtain ⟨f_trial_39, eu⟩ : ∃ z, z = u := ⟨_, rfl⟩
      subst eu
      have hH : kH (dC, dI) cl A s.heap H locs (wX47 ci ad d f_constants f_blanks f_counts f_points f_kept f_hashes f_news f_rounds f_hashed f_groups f_groupOf f_groupCount f_trial_39 f_row f_names f_namedBlanks f_form f_formCount f_octets f_descriptions f_described f_message f_size f_words f_schedule f_thrown f_said) := hH
      have hq_41 := hw.1
      have hw := hw.2
      obtain ⟨x4_40, ex4_40⟩ : ∃ y : Int32, y = x4 + 1 := ⟨_, rfl⟩
      have hw := hw x4_40.toInt (by rw [ex4_40]; exact (z_x (z_add (z_m (rfl : x4.toInt = _)) (z_m (rfl : (1 : Int32).toInt = 1))) hq_41))
      refine lv_iinc (v := x4_40) (lv' := [(4, .int x4_40), (0, .ref (ad 0)), (1, .int x1), (2, .int x2)]) hx hb dX47_turn_98 hl (k := 3) rfl (by rw [ex4_40]; rfl) (by decide) rfl (fun ls hl => ?_)
      refine lv_goto (tgt := 71) hx hb dX47_turn_101 (by decide) ?_
      exact ih x4_40 f_trial_39 hw _ _ ls hH (lv_sub hl [1, 2, 3, 0] rfl)
set_option maxHeartbeats 4000000 in
theorem walkX47_turn {l : Launch} {dC : Nat → ClassId} {dI : Nat → Nat → Nat} {cl : List vw_C} {ci : Nat} (hc : cl[ci]? = some (RX47, TX47, 27)) {ad : Nat → Nat} {d : Nat → ClassId} {sz : Nat} {f_constants : Nat → Int64} {f_blanks : Nat → Int32} {f_counts : Nat → Int32} {f_points : Nat → Int32} {f_kept : Int32} {f_hashes : Nat → Int64} {f_news : Nat → Int64} {f_rounds : Int32} {f_hashed : Int32} {f_groups : Nat → Int32} {f_groupOf : Nat → Int32} {f_groupCount : Int32} {f_trial : Nat → Int32} {f_row : Nat → Int32} {f_names : Nat → Int32} {f_namedBlanks : Int32} {f_form : Nat → Int32} {f_formCount : Int32} {f_octets : Nat → Int32} {f_descriptions : Nat → Int32} {f_described : Int32} {f_message : Nat → Int32} {f_size : Int32} {f_words : Nat → Int64} {f_schedule : Nat → Int64} {f_thrown : Int32} {f_said : Nat → Int32} {x1 : Int32} {post : Int → (Int → Int) → Prop} (hw : wpX47_turn post (zF f_trial) x1.toInt) :
    Met l yX47_turn (ws_ yX47_turn cX47_turn 5 (some .boolean)) ({ frames := 1, cells := 0, slots := 0, locals := 23 } : Room) (kPc (dC, dI) cl (tX47 d) [.ref (ad 0), .int x1] sz (wX47 ci ad d f_constants f_blanks f_counts f_points f_kept f_hashes f_news f_rounds f_hashed f_groups f_groupOf f_groupCount f_trial f_row f_names f_namedBlanks f_form f_formCount f_octets f_descriptions f_described f_message f_size f_words f_schedule f_thrown f_said)) (va_Qi (fun (r : Int32) (u : (Nat → Int32)) => post r.toInt (zF (u))) (kB (dC, dI) cl (tX47 d) (va_A (wX47 ci ad d f_constants f_blanks f_counts f_points f_kept f_hashes f_news f_rounds f_hashed f_groups f_groupOf f_groupCount f_trial f_row f_names f_namedBlanks f_form f_formCount f_octets f_descriptions f_described f_message f_size f_words f_schedule f_thrown f_said) sz) (fun u : (Nat → Int32) => (wX47 ci ad d f_constants f_blanks f_counts f_points f_kept f_hashes f_news f_rounds f_hashed f_groups f_groupOf f_groupCount (u) f_row f_names f_namedBlanks f_form f_formCount f_octets f_descriptions f_described f_message f_size f_words f_schedule f_thrown f_said))) (va_A (wX47 ci ad d f_constants f_blanks f_counts f_points f_kept f_hashes f_news f_rounds f_hashed f_groups f_groupOf f_groupCount f_trial f_row f_names f_namedBlanks f_form f_formCount f_octets f_descriptions f_described f_message f_size f_words f_schedule f_thrown f_said) sz)) 0 0 (va_A (wX47 ci ad d f_constants f_blanks f_counts f_points f_kept f_hashes f_news f_rounds f_hashed f_groups f_groupOf f_groupCount f_trial f_row f_names f_namedBlanks f_form f_formCount f_octets f_descriptions f_described f_message f_size f_words f_schedule f_thrown f_said) sz) := by
  refine k_enter (by decide) (Nat.le_of_ble_eq_true rfl) ?_
  intro p e s m below meth c ls X hsz hH hl
  subst hsz
  generalize va_A (wX47 ci ad d f_constants f_blanks f_counts f_points f_kept f_hashes f_news f_rounds f_hashed f_groups f_groupOf f_groupCount f_trial f_row f_names f_namedBlanks f_form f_formCount f_octets f_descriptions f_described f_message f_size f_words f_schedule f_thrown f_said) s.heap.size = A at hH ⊢
  have hx := X.1.1
  have hb := X.1.2.1
  have hl : lv_has ls 5 [(0, .ref (ad 0)), (1, .int x1)] := hl
  unfold wpX47_turn at hw
  refine lv_iload_n hx hb dX47_turn_0 rfl (lv_at hl 1 rfl) ?_
  refine lv_iconst (v := 1) hx hb dX47_turn_1 (by decide) ?_
  refine lv_isub hx hb dX47_turn_2 ?_
  have e_1 := z_sub (z_m (rfl : x1.toInt = _)) (z_m (rfl : (1 : Int32).toInt = 1))
  have hq_2 := hw.1
  have hw := hw.2
  have e_3 := z_x e_1 hq_2
  refine lv_topi (fun x2_4 ex2_4 => ?_)
  have hw := hw x2_4.toInt (by rw [ex2_4]; exact e_3)
  refine lv_istore_n (lv' := [(2, .int x2_4), (0, .ref (ad 0)), (1, .int x1)]) hx hb dX47_turn_3 rfl hl (by decide) rfl (fun ls hl => ?_)
  obtain ⟨fu, hw⟩ := hw
  refine atX47_turn_4 hc X ?_ fu x2_4 hw _ _ ls hH (lv_sub hl [1, 2, 0] rfl)
  · intro x2_15 hw H locs ls hH hl
    refine lv_iload_n hx hb dX47_turn_32 rfl (lv_at hl 2 rfl) ?_
    refine lv_iconst (v := 1) hx hb dX47_turn_33 (by decide) ?_
    refine lv_icmp_ge (tgt := 39) hx hb dX47_turn_34 (by decide) (fun c_16 => ?_) (fun c_16 => ?_)
    · have hw := hw.1 (z_le (rfl : (1 : Int32).toInt = 1) (rfl : x2_15.toInt = _) c_16)
      refine lv_iload_n hx hb dX47_turn_39 rfl (lv_at hl 1 rfl) ?_
      refine lv_istore_n (lv' := [(3, .int x1), (0, .ref (ad 0)), (1, .int x1), (2, .int x2_15)]) hx hb dX47_turn_40 rfl hl (by decide) rfl (fun ls hl => ?_)
      obtain ⟨fu, hw⟩ := hw
      refine atX47_turn_41 hc X ?_ fu x1 hw _ _ ls hH (lv_sub hl [1, 2, 3, 0] rfl)
      · intro x3_24 hw H locs ls hH hl
        refine lv_aload_n hx hb dX47_turn_62 rfl (lv_at hl 0 rfl) ?_
        refine lv_iload_n hx hb dX47_turn_63 rfl (lv_at hl 2 rfl) ?_
        refine lv_iload_n hx hb dX47_turn_64 rfl (lv_at hl 3 rfl) ?_
        refine k_v0 hH (k_runV (As := [.int x2_15, .int x3_24]) (rest := []) X hH.1 hH.2.1 X.2.2.2 (walkX47_change hc (x1 := x2_15) (x2 := x3_24) (f_constants := f_constants) (f_blanks := f_blanks) (f_counts := f_counts) (f_points := f_points) (f_kept := f_kept) (f_hashes := f_hashes) (f_news := f_news) (f_rounds := f_rounds) (f_hashed := f_hashed) (f_groups := f_groups) (f_groupOf := f_groupOf) (f_groupCount := f_groupCount) (f_trial := f_trial) (f_row := f_row) (f_names := f_names) (f_namedBlanks := f_namedBlanks) (f_form := f_form) (f_formCount := f_formCount) (f_octets := f_octets) (f_descriptions := f_descriptions) (f_described := f_described) (f_message := f_message) (f_size := f_size) (f_words := f_words) (f_schedule := f_schedule) (f_thrown := f_thrown) (f_said := f_said) hw) (cwV 2 X.1.2.2.2.2 gX47_297 rfl rfl rfl hX47_change ⟨Nat.le_of_ble_eq_true rfl, Nat.le_of_ble_eq_true rfl⟩) hc (q0 := 0) rfl rfl hl.1 rfl (Nat.le_of_ble_eq_true rfl) dX47_turn_65 ⟨Nat.le_refl 0, Nat.le_refl 0⟩) (fun u H locs hw hH => ?_)
        obtain ⟨f_trial_25, eu⟩ : ∃ z, z = u := ⟨_, rfl⟩
        subst eu
        have hH : kH (dC, dI) cl A s.heap H locs (wX47 ci ad d f_constants f_blanks f_counts f_points f_kept f_hashes f_news f_rounds f_hashed f_groups f_groupOf f_groupCount f_trial_25 f_row f_names f_namedBlanks f_form f_formCount f_octets f_descriptions f_described f_message f_size f_words f_schedule f_thrown f_said) := hH
        refine lv_iconst (v := 1) hx hb dX47_turn_68 (by decide) ?_
        refine lv_istore (lv' := [(4, .int 1), (0, .ref (ad 0)), (1, .int x1), (2, .int x2_15), (3, .int x3_24)]) hx hb dX47_turn_69 hl (by decide) rfl (fun ls hl => ?_)
        obtain ⟨fu, hw⟩ := hw
        refine atX47_turn_71 hc X ?_ fu 1 f_trial_25 hw _ _ ls hH (lv_sub hl [1, 2, 3, 0] rfl)
        · intro f_trial_42 hw H locs ls hH hl
          refine lv_iconst (v := 1) hx hb dX47_turn_104 (by decide) ?_
          exact k_iret (v := 1) X hH (f_trial_42) hw rfl rfl dX47_turn_105
    · have hw := hw.2 (z_nle (rfl : (1 : Int32).toInt = 1) (rfl : x2_15.toInt = _) c_16)
      refine lv_iconst (v := 0) hx hb dX47_turn_37 (by decide) ?_
      exact k_iret (v := 0) X hH (f_trial) hw rfl rfl dX47_turn_38
set_option maxHeartbeats 4000000 in
theorem atX47_name_81 {p : Program} {l : Launch} {e : Env} {s : State} {m : MethodId} {args : Array Value} {below : List Frame} {meth : Method} {c : Code} {dC : Nat → ClassId} {dI : Nat → Nat → Nat} {cl : List vw_C} {ci : Nat} (hc : cl[ci]? = some (RX47, TX47, 27)) {ad : Nat → Nat} {d : Nat → ClassId} {A : Nat → Prop} {post : Int → (Int → Int) → (Int → Int) → Int → Int → (Int → Int) → (Int → Int) → Int → (Int → Int) → (Int → Int) → (Int → Int) → Int → (Int → Int) → Int → (Int → Int) → (Int → Int) → Int → (Int → Int) → Int → (Int → Int) → (Int → Int) → Int → (Int → Int) → Prop} {f_constants : Nat → Int64} {f_blanks : Nat → Int32} {f_counts : Nat → Int32} {f_points : Nat → Int32} {f_kept : Int32} (X : kX p s m args meth c cX47_name 7 RX47 (some .int) (dC, dI) cl (tX47 d)) {K39 : Int → Int → (Int → Int) → (Int → Int) → (Int → Int) → (Int → Int) → Prop} {x3 : Int32} {f_hashes : Nat → Int64} {f_news : Nat → Int64} {f_rounds : Int32} {f_hashed : Int32} {f_groups : Nat → Int32} {f_groupOf : Nat → Int32} {f_groupCount : Int32} {f_namedBlanks : Int32} {f_formCount : Int32} {f_octets : Nat → Int32} {f_descriptions : Nat → Int32} {f_described : Int32} {f_message : Nat → Int32} {f_size : Int32} {f_words : Nat → Int64} {f_schedule : Nat → Int64} {f_thrown : Int32} {f_said : Nat → Int32} (hk39 : ∀ (x4 : Int32) (x5 : Int32) (f_trial : Nat → Int32) (f_row : Nat → Int32) (f_names : Nat → Int32) (f_form : Nat → Int32), K39 x4.toInt x5.toInt (zF f_trial) (zF f_row) (zF f_names) (zF f_form) → ∀ (H : Heap) (locs : List Loc) (ls : Array Slot), kH (dC, dI) cl A s.heap H locs (wX47 ci ad d f_constants f_blanks f_counts f_points f_kept f_hashes f_news f_rounds f_hashed f_groups f_groupOf f_groupCount f_trial f_row f_names f_namedBlanks f_form f_formCount f_octets f_descriptions f_described f_message f_size f_words f_schedule f_thrown f_said) → lv_has ls 7 [(0, .ref (ad 0)), (3, .int x3), (4, .int x4), (5, .int x5)] → W p l e ({ frames := 5, cells := 0, slots := 0, locals := 135 } : Room) s m args below meth c H locs 0 0 (MQ below (va_Qi (fun (r : Int32) (u : (Nat → Int64) × (Nat → Int64) × Int32 × Int32 × (Nat → Int32) × (Nat → Int32) × Int32 × (Nat → Int32) × (Nat → Int32) × (Nat → Int32) × Int32 × (Nat → Int32) × Int32 × (Nat → Int32) × (Nat → Int32) × Int32 × (Nat → Int32) × Int32 × (Nat → Int64) × (Nat → Int64) × Int32 × (Nat → Int32)) => post r.toInt (zG (u.1)) (zG (u.2.1)) (u.2.2.1).toInt (u.2.2.2.1).toInt (zF (u.2.2.2.2.1)) (zF (u.2.2.2.2.2.1)) (u.2.2.2.2.2.2.1).toInt (zF (u.2.2.2.2.2.2.2.1)) (zF (u.2.2.2.2.2.2.2.2.1)) (zF (u.2.2.2.2.2.2.2.2.2.1)) (u.2.2.2.2.2.2.2.2.2.2.1).toInt (zF (u.2.2.2.2.2.2.2.2.2.2.2.1)) (u.2.2.2.2.2.2.2.2.2.2.2.2.1).toInt (zF (u.2.2.2.2.2.2.2.2.2.2.2.2.2.1)) (zF (u.2.2.2.2.2.2.2.2.2.2.2.2.2.2.1)) (u.2.2.2.2.2.2.2.2.2.2.2.2.2.2.2.1).toInt (zF (u.2.2.2.2.2.2.2.2.2.2.2.2.2.2.2.2.1)) (u.2.2.2.2.2.2.2.2.2.2.2.2.2.2.2.2.2.1).toInt (zG (u.2.2.2.2.2.2.2.2.2.2.2.2.2.2.2.2.2.2.1)) (zG (u.2.2.2.2.2.2.2.2.2.2.2.2.2.2.2.2.2.2.2.1)) (u.2.2.2.2.2.2.2.2.2.2.2.2.2.2.2.2.2.2.2.2.1).toInt (zF (u.2.2.2.2.2.2.2.2.2.2.2.2.2.2.2.2.2.2.2.2.2))) (kB (dC, dI) cl (tX47 d) A (fun u : (Nat → Int64) × (Nat → Int64) × Int32 × Int32 × (Nat → Int32) × (Nat → Int32) × Int32 × (Nat → Int32) × (Nat → Int32) × (Nat → Int32) × Int32 × (Nat → Int32) × Int32 × (Nat → Int32) × (Nat → Int32) × Int32 × (Nat → Int32) × Int32 × (Nat → Int64) × (Nat → Int64) × Int32 × (Nat → Int32) => (wX47 ci ad d f_constants f_blanks f_counts f_points f_kept (u.1) (u.2.1) (u.2.2.1) (u.2.2.2.1) (u.2.2.2.2.1) (u.2.2.2.2.2.1) (u.2.2.2.2.2.2.1) (u.2.2.2.2.2.2.2.1) (u.2.2.2.2.2.2.2.2.1) (u.2.2.2.2.2.2.2.2.2.1) (u.2.2.2.2.2.2.2.2.2.2.1) (u.2.2.2.2.2.2.2.2.2.2.2.1) (u.2.2.2.2.2.2.2.2.2.2.2.2.1) (u.2.2.2.2.2.2.2.2.2.2.2.2.2.1) (u.2.2.2.2.2.2.2.2.2.2.2.2.2.2.1) (u.2.2.2.2.2.2.2.2.2.2.2.2.2.2.2.1) (u.2.2.2.2.2.2.2.2.2.2.2.2.2.2.2.2.1) (u.2.2.2.2.2.2.2.2.2.2.2.2.2.2.2.2.2.1) (u.2.2.2.2.2.2.2.2.2.2.2.2.2.2.2.2.2.2.1) (u.2.2.2.2.2.2.2.2.2.2.2.2.2.2.2.2.2.2.2.1) (u.2.2.2.2.2.2.2.2.2.2.2.2.2.2.2.2.2.2.2.2.1) (u.2.2.2.2.2.2.2.2.2.2.2.2.2.2.2.2.2.2.2.2.2)))) A) args s 0 0 A) (F0 m 39 ls [])) :
    ∀ (x4 : Int32) (x6 : Int32) (f_trial : Nat → Int32) (f_row : Nat → Int32) (f_names : Nat → Int32) (f_form : Nat → Int32), wX47_name_81 K39 x3.toInt x4.toInt x6.toInt (zF f_trial) (zF f_row) (zF f_names) (zF f_form) → ∀ (H : Heap) (locs : List Loc) (ls : Array Slot), kH (dC, dI) cl A s.heap H locs (wX47 ci ad d f_constants f_blanks f_counts f_points f_kept f_hashes f_news f_rounds f_hashed f_groups f_groupOf f_groupCount f_trial f_row f_names f_namedBlanks f_form f_formCount f_octets f_descriptions f_described f_message f_size f_words f_schedule f_thrown f_said) → lv_has ls 7 [(0, .ref (ad 0)), (3, .int x3), (4, .int x4), (6, .int x6)] → W p l e ({ frames := 5, cells := 0, slots := 0, locals := 135 } : Room) s m args below meth c H locs 0 0 (MQ below (va_Qi (fun (r : Int32) (u : (Nat → Int64) × (Nat → Int64) × Int32 × Int32 × (Nat → Int32) × (Nat → Int32) × Int32 × (Nat → Int32) × (Nat → Int32) × (Nat → Int32) × Int32 × (Nat → Int32) × Int32 × (Nat → Int32) × (Nat → Int32) × Int32 × (Nat → Int32) × Int32 × (Nat → Int64) × (Nat → Int64) × Int32 × (Nat → Int32)) => post r.toInt (zG (u.1)) (zG (u.2.1)) (u.2.2.1).toInt (u.2.2.2.1).toInt (zF (u.2.2.2.2.1)) (zF (u.2.2.2.2.2.1)) (u.2.2.2.2.2.2.1).toInt (zF (u.2.2.2.2.2.2.2.1)) (zF (u.2.2.2.2.2.2.2.2.1)) (zF (u.2.2.2.2.2.2.2.2.2.1)) (u.2.2.2.2.2.2.2.2.2.2.1).toInt (zF (u.2.2.2.2.2.2.2.2.2.2.2.1)) (u.2.2.2.2.2.2.2.2.2.2.2.2.1).toInt (zF (u.2.2.2.2.2.2.2.2.2.2.2.2.2.1)) (zF (u.2.2.2.2.2.2.2.2.2.2.2.2.2.2.1)) (u.2.2.2.2.2.2.2.2.2.2.2.2.2.2.2.1).toInt (zF (u.2.2.2.2.2.2.2.2.2.2.2.2.2.2.2.2.1)) (u.2.2.2.2.2.2.2.2.2.2.2.2.2.2.2.2.2.1).toInt (zG (u.2.2.2.2.2.2.2.2.2.2.2.2.2.2.2.2.2.2.1)) (zG (u.2.2.2.2.2.2.2.2.2.2.2.2.2.2.2.2.2.2.2.1)) (u.2.2.2.2.2.2.2.2.2.2.2.2.2.2.2.2.2.2.2.2.1).toInt (zF (u.2.2.2.2.2.2.2.2.2.2.2.2.2.2.2.2.2.2.2.2.2))) (kB (dC, dI) cl (tX47 d) A (fun u : (Nat → Int64) × (Nat → Int64) × Int32 × Int32 × (Nat → Int32) × (Nat → Int32) × Int32 × (Nat → Int32) × (Nat → Int32) × (Nat → Int32) × Int32 × (Nat → Int32) × Int32 × (Nat → Int32) × (Nat → Int32) × Int32 × (Nat → Int32) × Int32 × (Nat → Int64) × (Nat → Int64) × Int32 × (Nat → Int32) => (wX47 ci ad d f_constants f_blanks f_counts f_points f_kept (u.1) (u.2.1) (u.2.2.1) (u.2.2.2.1) (u.2.2.2.2.1) (u.2.2.2.2.2.1) (u.2.2.2.2.2.2.1) (u.2.2.2.2.2.2.2.1) (u.2.2.2.2.2.2.2.2.1) (u.2.2.2.2.2.2.2.2.2.1) (u.2.2.2.2.2.2.2.2.2.2.1) (u.2.2.2.2.2.2.2.2.2.2.2.1) (u.2.2.2.2.2.2.2.2.2.2.2.2.1) (u.2.2.2.2.2.2.2.2.2.2.2.2.2.1) (u.2.2.2.2.2.2.2.2.2.2.2.2.2.2.1) (u.2.2.2.2.2.2.2.2.2.2.2.2.2.2.2.1) (u.2.2.2.2.2.2.2.2.2.2.2.2.2.2.2.2.1) (u.2.2.2.2.2.2.2.2.2.2.2.2.2.2.2.2.2.1) (u.2.2.2.2.2.2.2.2.2.2.2.2.2.2.2.2.2.2.1) (u.2.2.2.2.2.2.2.2.2.2.2.2.2.2.2.2.2.2.2.1) (u.2.2.2.2.2.2.2.2.2.2.2.2.2.2.2.2.2.2.2.2.1) (u.2.2.2.2.2.2.2.2.2.2.2.2.2.2.2.2.2.2.2.2.2)))) A) args s 0 0 A) (F0 m 81 ls []) := by
  have hx := X.1.1
  have hb := X.1.2.1
  intro x4 x6 f_trial f_row f_names f_form hw H locs ls hH hl
  unfold wX47_name_81 at hw
  refine lv_iload hx hb dX47_name_81 (lv_at hl 3 rfl) ?_
  refine lv_if_ge (tgt := 90) hx hb dX47_name_83 (by decide) (fun c_29 => ?_) (fun c_29 => ?_)
  · have hw := hw.1 (z_le (rfl : (0 : Int32).toInt = 0) (rfl : x6.toInt = _) c_29)
    refine lv_iload hx hb dX47_name_90 (lv_at hl 3 rfl) ?_
    refine lv_if_ne (tgt := 102) hx hb dX47_name_92 (by decide) (fun c_30 => ?_) (fun c_30 => ?_)
    · have hw := hw.2 (z_ne (rfl : x6.toInt = _) (rfl : (0 : Int32).toInt = 0) c_30)
      refine lv_iload hx hb dX47_name_102 (lv_at hl 2 rfl) ?_
      refine lv_istore (lv' := [(4, .int x4), (0, .ref (ad 0)), (3, .int x3), (6, .int x6)]) hx hb dX47_name_104 hl (by decide) rfl (fun ls hl => ?_)
      refine lv_aload_n hx hb dX47_name_106 rfl (lv_at hl 1 rfl) ?_
      refine lv_iload_n hx hb dX47_name_107 rfl (lv_at hl 2 rfl) ?_
      refine k_i0 hH (k_runV (As := [.int x3]) (rest := []) X hH.1 hH.2.1 X.2.2.2 (walkX47_turn hc (x1 := x3) (f_constants := f_constants) (f_blanks := f_blanks) (f_counts := f_counts) (f_points := f_points) (f_kept := f_kept) (f_hashes := f_hashes) (f_news := f_news) (f_rounds := f_rounds) (f_hashed := f_hashed) (f_groups := f_groups) (f_groupOf := f_groupOf) (f_groupCount := f_groupCount) (f_trial := f_trial) (f_row := f_row) (f_names := f_names) (f_namedBlanks := f_namedBlanks) (f_form := f_form) (f_formCount := f_formCount) (f_octets := f_octets) (f_descriptions := f_descriptions) (f_described := f_described) (f_message := f_message) (f_size := f_size) (f_words := f_words) (f_schedule := f_schedule) (f_thrown := f_thrown) (f_said := f_said) hw) (cwV 1 X.1.2.2.2.2 gX47_328 rfl rfl rfl hX47_turn ⟨Nat.le_of_ble_eq_true rfl, Nat.le_of_ble_eq_true rfl⟩) hc (q0 := 0) rfl rfl hl.1 rfl (Nat.le_of_ble_eq_true rfl) dX47_name_108 ⟨Nat.le_refl 0, Nat.le_refl 0⟩) (fun r_31 u H locs hw hH => ?_)
      obtain ⟨f_trial_32, eu⟩ : ∃ z, z = u := ⟨_, rfl⟩
      subst eu
      have hH : kH (dC, dI) cl A s.heap H locs (wX47 ci ad d f_constants f_blanks f_counts f_points f_kept f_hashes f_news f_rounds f_hashed f_groups f_groupOf f_groupCount f_trial_32 f_row f_names f_namedBlanks f_form f_formCount f_octets f_descriptions f_described f_message f_size f_words f_schedule f_thrown f_said) := hH
      refine lv_istore (lv' := [(5, .int r_31), (4, .int x4), (0, .ref (ad 0)), (3, .int x3), (6, .int x6)]) hx hb dX47_name_111 hl (by decide) rfl (fun ls hl => ?_)
      refine lv_goto (tgt := 39) hx hb dX47_name_113 (by decide) ?_
      exact hk39 x4 r_31 f_trial_32 f_row f_names f_form hw _ _ ls hH (lv_sub hl [2, 3, 1, 0] rfl)
    · have hw := hw.1 (z_eq (rfl : x6.toInt = _) (rfl : (0 : Int32).toInt = 0) c_30)
      refine lv_iload hx hb dX47_name_95 (lv_at hl 2 rfl) ?_
      refine lv_iconst (v := 1) hx hb dX47_name_97 (by decide) ?_
      refine lv_iadd hx hb dX47_name_98 ?_
      have e_33 := z_add (z_m (rfl : x4.toInt = _)) (z_m (rfl : (1 : Int32).toInt = 1))
      refine lv_goto (tgt := 104) hx hb dX47_name_99 (by decide) ?_
      have hq_34 := hw.1
      have hw := hw.2
      have e_35 := z_x e_33 hq_34
      refine lv_topi (fun x4_36 ex4_36 => ?_)
      have hw := hw x4_36.toInt (by rw [ex4_36]; exact e_35)
      refine lv_istore (lv' := [(4, .int x4_36), (0, .ref (ad 0)), (3, .int x3), (6, .int x6)]) hx hb dX47_name_104 hl (by decide) rfl (fun ls hl => ?_)
      refine lv_aload_n hx hb dX47_name_106 rfl (lv_at hl 1 rfl) ?_
      refine lv_iload_n hx hb dX47_name_107 rfl (lv_at hl 2 rfl) ?_
      refine k_i0 hH (k_runV (As := [.int x3]) (rest := []) X hH.1 hH.2.1 X.2.2.2 (walkX47_turn hc (x1 := x3) (f_constants := f_constants) (f_blanks := f_blanks) (f_counts := f_counts) (f_points := f_points) (f_kept := f_kept) (f_hashes := f_hashes) (f_news := f_news) (f_rounds := f_rounds) (f_hashed := f_hashed) (f_groups := f_groups) (f_groupOf := f_groupOf) (f_groupCount := f_groupCount) (f_trial := f_trial) (f_row := f_row) (f_names := f_names) (f_namedBlanks := f_namedBlanks) (f_form := f_form) (f_formCount := f_formCount) (f_octets := f_octets) (f_descriptions := f_descriptions) (f_described := f_described) (f_message := f_message) (f_size := f_size) (f_words := f_words) (f_schedule := f_schedule) (f_thrown := f_thrown) (f_said := f_said) hw) (cwV 1 X.1.2.2.2.2 gX47_328 rfl rfl rfl hX47_turn ⟨Nat.le_of_ble_eq_true rfl, Nat.le_of_ble_eq_true rfl⟩) hc (q0 := 0) rfl rfl hl.1 rfl (Nat.le_of_ble_eq_true rfl) dX47_name_108 ⟨Nat.le_refl 0, Nat.le_refl 0⟩) (fun r_37 u H locs hw hH => ?_)
      obtain ⟨f_trial_38, eu⟩ : ∃ z, z = u := ⟨_, rfl⟩
      subst eu
      have hH : kH (dC, dI) cl A s.heap H locs (wX47 ci ad d f_constants f_blanks f_counts f_points f_kept f_hashes f_news f_rounds f_hashed f_groups f_groupOf f_groupCount f_trial_38 f_row f_names f_namedBlanks f_form f_formCount f_octets f_descriptions f_described f_message f_size f_words f_schedule f_thrown f_said) := hH
      refine lv_istore (lv' := [(5, .int r_37), (4, .int x4_36), (0, .ref (ad 0)), (3, .int x3), (6, .int x6)]) hx hb dX47_name_111 hl (by decide) rfl (fun ls hl => ?_)
      refine lv_goto (tgt := 39) hx hb dX47_name_113 (by decide) ?_
      exact hk39 x4_36 r_37 f_trial_38 f_row f_names f_form hw _ _ ls hH (lv_sub hl [2, 3, 1, 0] rfl)
  · have hw := hw.2 (z_nle (rfl : (0 : Int32).toInt = 0) (rfl : x6.toInt = _) c_29)
    refine lv_iconst (v := 1) hx hb dX47_name_86 (by decide) ?_
    refine lv_goto (tgt := 104) hx hb dX47_name_87 (by decide) ?_
    refine lv_istore (lv' := [(4, .int 1), (0, .ref (ad 0)), (3, .int x3), (6, .int x6)]) hx hb dX47_name_104 hl (by decide) rfl (fun ls hl => ?_)
    refine lv_aload_n hx hb dX47_name_106 rfl (lv_at hl 1 rfl) ?_
    refine lv_iload_n hx hb dX47_name_107 rfl (lv_at hl 2 rfl) ?_
    refine k_i0 hH (k_runV (As := [.int x3]) (rest := []) X hH.1 hH.2.1 X.2.2.2 (walkX47_turn hc (x1 := x3) (f_constants := f_constants) (f_blanks := f_blanks) (f_counts := f_counts) (f_points := f_points) (f_kept := f_kept) (f_hashes := f_hashes) (f_news := f_news) (f_rounds := f_rounds) (f_hashed := f_hashed) (f_groups := f_groups) (f_groupOf := f_groupOf) (f_groupCount := f_groupCount) (f_trial := f_trial) (f_row := f_row) (f_names := f_names) (f_namedBlanks := f_namedBlanks) (f_form := f_form) (f_formCount := f_formCount) (f_octets := f_octets) (f_descriptions := f_descriptions) (f_described := f_described) (f_message := f_message) (f_size := f_size) (f_words := f_words) (f_schedule := f_schedule) (f_thrown := f_thrown) (f_said := f_said) hw) (cwV 1 X.1.2.2.2.2 gX47_328 rfl rfl rfl hX47_turn ⟨Nat.le_of_ble_eq_true rfl, Nat.le_of_ble_eq_true rfl⟩) hc (q0 := 0) rfl rfl hl.1 rfl (Nat.le_of_ble_eq_true rfl) dX47_name_108 ⟨Nat.le_refl 0, Nat.le_refl 0⟩) (fun r_39 u H locs hw hH => ?_)
    obtain ⟨f_trial_40, eu⟩ : ∃ z, z = u := ⟨_, rfl⟩
    subst eu
    have hH : kH (dC, dI) cl A s.heap H locs (wX47 ci ad d f_constants f_blanks f_counts f_points f_kept f_hashes f_news f_rounds f_hashed f_groups f_groupOf f_groupCount f_trial_40 f_row f_names f_namedBlanks f_form f_formCount f_octets f_descriptions f_described f_message f_size f_words f_schedule f_thrown f_said) := hH
    refine lv_istore (lv' := [(5, .int r_39), (4, .int 1), (0, .ref (ad 0)), (3, .int x3), (6, .int x6)]) hx hb dX47_name_111 hl (by decide) rfl (fun ls hl => ?_)
    refine lv_goto (tgt := 39) hx hb dX47_name_113 (by decide) ?_
    exact hk39 1 r_39 f_trial_40 f_row f_names f_form hw _ _ ls hH (lv_sub hl [2, 3, 1, 0] rfl)
set_option maxHeartbeats 4000000 in
theorem atX47_name_39 {p : Program} {l : Launch} {e : Env} {s : State} {m : MethodId} {args : Array Value} {below : List Frame} {meth : Method} {c : Code} {dC : Nat → ClassId} {dI : Nat → Nat → Nat} {cl : List vw_C} {ci : Nat} (hc : cl[ci]? = some (RX47, TX47, 27)) {ad : Nat → Nat} {d : Nat → ClassId} {A : Nat → Prop} {post : Int → (Int → Int) → (Int → Int) → Int → Int → (Int → Int) → (Int → Int) → Int → (Int → Int) → (Int → Int) → (Int → Int) → Int → (Int → Int) → Int → (Int → Int) → (Int → Int) → Int → (Int → Int) → Int → (Int → Int) → (Int → Int) → Int → (Int → Int) → Prop} {f_constants : Nat → Int64} {f_blanks : Nat → Int32} {f_counts : Nat → Int32} {f_points : Nat → Int32} {f_kept : Int32} (X : kX p s m args meth c cX47_name 7 RX47 (some .int) (dC, dI) cl (tX47 d)) {K116 : Int → (Int → Int) → (Int → Int) → (Int → Int) → (Int → Int) → Prop} {x3 : Int32} {f_hashes : Nat → Int64} {f_news : Nat → Int64} {f_rounds : Int32} {f_hashed : Int32} {f_groups : Nat → Int32} {f_groupOf : Nat → Int32} {f_groupCount : Int32} {f_namedBlanks : Int32} {f_formCount : Int32} {f_octets : Nat → Int32} {f_descriptions : Nat → Int32} {f_described : Int32} {f_message : Nat → Int32} {f_size : Int32} {f_words : Nat → Int64} {f_schedule : Nat → Int64} {f_thrown : Int32} {f_said : Nat → Int32} (hk116 : ∀ (x4 : Int32) (f_trial : Nat → Int32) (f_row : Nat → Int32) (f_names : Nat → Int32) (f_form : Nat → Int32), K116 x4.toInt (zF f_trial) (zF f_row) (zF f_names) (zF f_form) → ∀ (H : Heap) (locs : List Loc) (ls : Array Slot), kH (dC, dI) cl A s.heap H locs (wX47 ci ad d f_constants f_blanks f_counts f_points f_kept f_hashes f_news f_rounds f_hashed f_groups f_groupOf f_groupCount f_trial f_row f_names f_namedBlanks f_form f_formCount f_octets f_descriptions f_described f_message f_size f_words f_schedule f_thrown f_said) → lv_has ls 7 [(0, .ref (ad 0)), (3, .int x3), (4, .int x4)] → W p l e ({ frames := 5, cells := 0, slots := 0, locals := 135 } : Room) s m args below meth c H locs 0 0 (MQ below (va_Qi (fun (r : Int32) (u : (Nat → Int64) × (Nat → Int64) × Int32 × Int32 × (Nat → Int32) × (Nat → Int32) × Int32 × (Nat → Int32) × (Nat → Int32) × (Nat → Int32) × Int32 × (Nat → Int32) × Int32 × (Nat → Int32) × (Nat → Int32) × Int32 × (Nat → Int32) × Int32 × (Nat → Int64) × (Nat → Int64) × Int32 × (Nat → Int32)) => post r.toInt (zG (u.1)) (zG (u.2.1)) (u.2.2.1).toInt (u.2.2.2.1).toInt (zF (u.2.2.2.2.1)) (zF (u.2.2.2.2.2.1)) (u.2.2.2.2.2.2.1).toInt (zF (u.2.2.2.2.2.2.2.1)) (zF (u.2.2.2.2.2.2.2.2.1)) (zF (u.2.2.2.2.2.2.2.2.2.1)) (u.2.2.2.2.2.2.2.2.2.2.1).toInt (zF (u.2.2.2.2.2.2.2.2.2.2.2.1)) (u.2.2.2.2.2.2.2.2.2.2.2.2.1).toInt (zF (u.2.2.2.2.2.2.2.2.2.2.2.2.2.1)) (zF (u.2.2.2.2.2.2.2.2.2.2.2.2.2.2.1)) (u.2.2.2.2.2.2.2.2.2.2.2.2.2.2.2.1).toInt (zF (u.2.2.2.2.2.2.2.2.2.2.2.2.2.2.2.2.1)) (u.2.2.2.2.2.2.2.2.2.2.2.2.2.2.2.2.2.1).toInt (zG (u.2.2.2.2.2.2.2.2.2.2.2.2.2.2.2.2.2.2.1)) (zG (u.2.2.2.2.2.2.2.2.2.2.2.2.2.2.2.2.2.2.2.1)) (u.2.2.2.2.2.2.2.2.2.2.2.2.2.2.2.2.2.2.2.2.1).toInt (zF (u.2.2.2.2.2.2.2.2.2.2.2.2.2.2.2.2.2.2.2.2.2))) (kB (dC, dI) cl (tX47 d) A (fun u : (Nat → Int64) × (Nat → Int64) × Int32 × Int32 × (Nat → Int32) × (Nat → Int32) × Int32 × (Nat → Int32) × (Nat → Int32) × (Nat → Int32) × Int32 × (Nat → Int32) × Int32 × (Nat → Int32) × (Nat → Int32) × Int32 × (Nat → Int32) × Int32 × (Nat → Int64) × (Nat → Int64) × Int32 × (Nat → Int32) => (wX47 ci ad d f_constants f_blanks f_counts f_points f_kept (u.1) (u.2.1) (u.2.2.1) (u.2.2.2.1) (u.2.2.2.2.1) (u.2.2.2.2.2.1) (u.2.2.2.2.2.2.1) (u.2.2.2.2.2.2.2.1) (u.2.2.2.2.2.2.2.2.1) (u.2.2.2.2.2.2.2.2.2.1) (u.2.2.2.2.2.2.2.2.2.2.1) (u.2.2.2.2.2.2.2.2.2.2.2.1) (u.2.2.2.2.2.2.2.2.2.2.2.2.1) (u.2.2.2.2.2.2.2.2.2.2.2.2.2.1) (u.2.2.2.2.2.2.2.2.2.2.2.2.2.2.1) (u.2.2.2.2.2.2.2.2.2.2.2.2.2.2.2.1) (u.2.2.2.2.2.2.2.2.2.2.2.2.2.2.2.2.1) (u.2.2.2.2.2.2.2.2.2.2.2.2.2.2.2.2.2.1) (u.2.2.2.2.2.2.2.2.2.2.2.2.2.2.2.2.2.2.1) (u.2.2.2.2.2.2.2.2.2.2.2.2.2.2.2.2.2.2.2.1) (u.2.2.2.2.2.2.2.2.2.2.2.2.2.2.2.2.2.2.2.2.1) (u.2.2.2.2.2.2.2.2.2.2.2.2.2.2.2.2.2.2.2.2.2)))) A) args s 0 0 A) (F0 m 116 ls [])) :
    ∀ (nn : Nat) (x4 : Int32) (x5 : Int32) (f_trial : Nat → Int32) (f_row : Nat → Int32) (f_names : Nat → Int32) (f_form : Nat → Int32), wX47_name_39 K116 x3.toInt (zF f_counts) (zF f_points) (zF f_groups) (zF f_groupOf) nn x4.toInt x5.toInt (zF f_trial) (zF f_row) (zF f_names) (zF f_form) → ∀ (H : Heap) (locs : List Loc) (ls : Array Slot), kH (dC, dI) cl A s.heap H locs (wX47 ci ad d f_constants f_blanks f_counts f_points f_kept f_hashes f_news f_rounds f_hashed f_groups f_groupOf f_groupCount f_trial f_row f_names f_namedBlanks f_form f_formCount f_octets f_descriptions f_described f_message f_size f_words f_schedule f_thrown f_said) → lv_has ls 7 [(0, .ref (ad 0)), (3, .int x3), (4, .int x4), (5, .int x5)] → W p l e ({ frames := 5, cells := 0, slots := 0, locals := 135 } : Room) s m args below meth c H locs 0 0 (MQ below (va_Qi (fun (r : Int32) (u : (Nat → Int64) × (Nat → Int64) × Int32 × Int32 × (Nat → Int32) × (Nat → Int32) × Int32 × (Nat → Int32) × (Nat → Int32) × (Nat → Int32) × Int32 × (Nat → Int32) × Int32 × (Nat → Int32) × (Nat → Int32) × Int32 × (Nat → Int32) × Int32 × (Nat → Int64) × (Nat → Int64) × Int32 × (Nat → Int32)) => post r.toInt (zG (u.1)) (zG (u.2.1)) (u.2.2.1).toInt (u.2.2.2.1).toInt (zF (u.2.2.2.2.1)) (zF (u.2.2.2.2.2.1)) (u.2.2.2.2.2.2.1).toInt (zF (u.2.2.2.2.2.2.2.1)) (zF (u.2.2.2.2.2.2.2.2.1)) (zF (u.2.2.2.2.2.2.2.2.2.1)) (u.2.2.2.2.2.2.2.2.2.2.1).toInt (zF (u.2.2.2.2.2.2.2.2.2.2.2.1)) (u.2.2.2.2.2.2.2.2.2.2.2.2.1).toInt (zF (u.2.2.2.2.2.2.2.2.2.2.2.2.2.1)) (zF (u.2.2.2.2.2.2.2.2.2.2.2.2.2.2.1)) (u.2.2.2.2.2.2.2.2.2.2.2.2.2.2.2.1).toInt (zF (u.2.2.2.2.2.2.2.2.2.2.2.2.2.2.2.2.1)) (u.2.2.2.2.2.2.2.2.2.2.2.2.2.2.2.2.2.1).toInt (zG (u.2.2.2.2.2.2.2.2.2.2.2.2.2.2.2.2.2.2.1)) (zG (u.2.2.2.2.2.2.2.2.2.2.2.2.2.2.2.2.2.2.2.1)) (u.2.2.2.2.2.2.2.2.2.2.2.2.2.2.2.2.2.2.2.2.1).toInt (zF (u.2.2.2.2.2.2.2.2.2.2.2.2.2.2.2.2.2.2.2.2.2))) (kB (dC, dI) cl (tX47 d) A (fun u : (Nat → Int64) × (Nat → Int64) × Int32 × Int32 × (Nat → Int32) × (Nat → Int32) × Int32 × (Nat → Int32) × (Nat → Int32) × (Nat → Int32) × Int32 × (Nat → Int32) × Int32 × (Nat → Int32) × (Nat → Int32) × Int32 × (Nat → Int32) × Int32 × (Nat → Int64) × (Nat → Int64) × Int32 × (Nat → Int32) => (wX47 ci ad d f_constants f_blanks f_counts f_points f_kept (u.1) (u.2.1) (u.2.2.1) (u.2.2.2.1) (u.2.2.2.2.1) (u.2.2.2.2.2.1) (u.2.2.2.2.2.2.1) (u.2.2.2.2.2.2.2.1) (u.2.2.2.2.2.2.2.2.1) (u.2.2.2.2.2.2.2.2.2.1) (u.2.2.2.2.2.2.2.2.2.2.1) (u.2.2.2.2.2.2.2.2.2.2.2.1) (u.2.2.2.2.2.2.2.2.2.2.2.2.1) (u.2.2.2.2.2.2.2.2.2.2.2.2.2.1) (u.2.2.2.2.2.2.2.2.2.2.2.2.2.2.1) (u.2.2.2.2.2.2.2.2.2.2.2.2.2.2.2.1) (u.2.2.2.2.2.2.2.2.2.2.2.2.2.2.2.2.1) (u.2.2.2.2.2.2.2.2.2.2.2.2.2.2.2.2.2.1) (u.2.2.2.2.2.2.2.2.2.2.2.2.2.2.2.2.2.2.1) (u.2.2.2.2.2.2.2.2.2.2.2.2.2.2.2.2.2.2.2.1) (u.2.2.2.2.2.2.2.2.2.2.2.2.2.2.2.2.2.2.2.2.1) (u.2.2.2.2.2.2.2.2.2.2.2.2.2.2.2.2.2.2.2.2.2)))) A) args s 0 0 A) (F0 m 39 ls []) := by
  have hx := X.1.1
  have hb := X.1.2.1
  intro nn
  induction nn with
  | zero =>
    intro x4 x5 f_trial f_row f_names f_form hw
    exact False.elim hw
  | succ n ih =>
    intro x4 x5 f_trial f_row f_names f_form hw H locs ls hH hl
    rw [wX47_name_39] at hw
    refine lv_iload hx hb dX47_name_39 (lv_at hl 3 rfl) ?_
    refine lv_if_eq (tgt := 116) hx hb dX47_name_41 (by decide) (fun c_20 => ?_) (fun c_20 => ?_)
    · have hw := hw.1 (z_eq (rfl : x5.toInt = _) (rfl : (0 : Int32).toInt = 0) c_20)
      exact hk116 x4 f_trial f_row f_names f_form hw _ _ ls hH (lv_sub hl [0, 1, 2] rfl)
    · have hw := hw.2 (z_neq (rfl : x5.toInt = _) (rfl : (0 : Int32).toInt = 0) c_20)
      refine lv_aload_n hx hb dX47_name_44 rfl (lv_at hl 0 rfl) ?_
      refine lv_iload_n hx hb dX47_name_45 rfl (lv_at hl 1 rfl) ?_
      refine k_i0 hH (k_runV (As := [.int x3]) (rest := []) X hH.1 hH.2.1 X.2.2.2 (walkX47_isNaming hc (x1 := x3) (f_constants := f_constants) (f_blanks := f_blanks) (f_counts := f_counts) (f_points := f_points) (f_kept := f_kept) (f_hashes := f_hashes) (f_news := f_news) (f_rounds := f_rounds) (f_hashed := f_hashed) (f_groups := f_groups) (f_groupOf := f_groupOf) (f_groupCount := f_groupCount) (f_trial := f_trial) (f_row := f_row) (f_names := f_names) (f_namedBlanks := f_namedBlanks) (f_form := f_form) (f_formCount := f_formCount) (f_octets := f_octets) (f_descriptions := f_descriptions) (f_described := f_described) (f_message := f_message) (f_size := f_size) (f_words := f_words) (f_schedule := f_schedule) (f_thrown := f_thrown) (f_said := f_said) hw) (cwV 1 X.1.2.2.2.2 gX47_315 rfl rfl rfl hX47_isNaming ⟨Nat.le_of_ble_eq_true rfl, Nat.le_of_ble_eq_true rfl⟩) hc (q0 := 0) rfl rfl hl.1 rfl (Nat.le_of_ble_eq_true rfl) dX47_name_46 ⟨Nat.le_refl 0, Nat.le_refl 0⟩) (fun r_21 _ H locs hw hH => ?_)
      have hH : kH (dC, dI) cl A s.heap H locs (wX47 ci ad d f_constants f_blanks f_counts f_points f_kept f_hashes f_news f_rounds f_hashed f_groups f_groupOf f_groupCount f_trial f_row f_names f_namedBlanks f_form f_formCount f_octets f_descriptions f_described f_message f_size f_words f_schedule f_thrown f_said) := hH
      refine lv_if_eq (tgt := 106) hx hb dX47_name_49 (by decide) (fun c_22 => ?_) (fun c_22 => ?_)
      · have hw := hw.1 (z_eq (rfl : r_21.toInt = _) (rfl : (0 : Int32).toInt = 0) c_22)
        refine lv_aload_n hx hb dX47_name_106 rfl (lv_at hl 0 rfl) ?_
        refine lv_iload_n hx hb dX47_name_107 rfl (lv_at hl 1 rfl) ?_
        refine k_i0 hH (k_runV (As := [.int x3]) (rest := []) X hH.1 hH.2.1 X.2.2.2 (walkX47_turn hc (x1 := x3) (f_constants := f_constants) (f_blanks := f_blanks) (f_counts := f_counts) (f_points := f_points) (f_kept := f_kept) (f_hashes := f_hashes) (f_news := f_news) (f_rounds := f_rounds) (f_hashed := f_hashed) (f_groups := f_groups) (f_groupOf := f_groupOf) (f_groupCount := f_groupCount) (f_trial := f_trial) (f_row := f_row) (f_names := f_names) (f_namedBlanks := f_namedBlanks) (f_form := f_form) (f_formCount := f_formCount) (f_octets := f_octets) (f_descriptions := f_descriptions) (f_described := f_described) (f_message := f_message) (f_size := f_size) (f_words := f_words) (f_schedule := f_schedule) (f_thrown := f_thrown) (f_said := f_said) hw) (cwV 1 X.1.2.2.2.2 gX47_328 rfl rfl rfl hX47_turn ⟨Nat.le_of_ble_eq_true rfl, Nat.le_of_ble_eq_true rfl⟩) hc (q0 := 0) rfl rfl hl.1 rfl (Nat.le_of_ble_eq_true rfl) dX47_name_108 ⟨Nat.le_refl 0, Nat.le_refl 0⟩) (fun r_23 u H locs hw hH => ?_)
        obtain ⟨f_trial_24, eu⟩ : ∃ z, z = u := ⟨_, rfl⟩
        subst eu
        have hH : kH (dC, dI) cl A s.heap H locs (wX47 ci ad d f_constants f_blanks f_counts f_points f_kept f_hashes f_news f_rounds f_hashed f_groups f_groupOf f_groupCount f_trial_24 f_row f_names f_namedBlanks f_form f_formCount f_octets f_descriptions f_described f_message f_size f_words f_schedule f_thrown f_said) := hH
        refine lv_istore (lv' := [(5, .int r_23), (0, .ref (ad 0)), (3, .int x3), (4, .int x4)]) hx hb dX47_name_111 hl (by decide) rfl (fun ls hl => ?_)
        refine lv_goto (tgt := 39) hx hb dX47_name_113 (by decide) ?_
        exact ih x4 r_23 f_trial_24 f_row f_names f_form hw _ _ ls hH (lv_sub hl [1, 2, 3, 0] rfl)
      · have hw := hw.2 (z_neq (rfl : r_21.toInt = _) (rfl : (0 : Int32).toInt = 0) c_22)
        refine lv_aload_n hx hb dX47_name_52 rfl (lv_at hl 0 rfl) ?_
        refine k_v0 hH (k_runV (As := []) (rest := []) X hH.1 hH.2.1 X.2.2.2 (walkX47_makeRow hc (f_constants := f_constants) (f_blanks := f_blanks) (f_counts := f_counts) (f_points := f_points) (f_kept := f_kept) (f_hashes := f_hashes) (f_news := f_news) (f_rounds := f_rounds) (f_hashed := f_hashed) (f_groups := f_groups) (f_groupOf := f_groupOf) (f_groupCount := f_groupCount) (f_trial := f_trial) (f_row := f_row) (f_names := f_names) (f_namedBlanks := f_namedBlanks) (f_form := f_form) (f_formCount := f_formCount) (f_octets := f_octets) (f_descriptions := f_descriptions) (f_described := f_described) (f_message := f_message) (f_size := f_size) (f_words := f_words) (f_schedule := f_schedule) (f_thrown := f_thrown) (f_said := f_said) hw) (cwV 0 X.1.2.2.2.2 gX47_318 rfl rfl rfl hX47_makeRow ⟨Nat.le_of_ble_eq_true rfl, Nat.le_of_ble_eq_true rfl⟩) hc (q0 := 0) rfl rfl hl.1 rfl (Nat.le_of_ble_eq_true rfl) dX47_name_53 ⟨Nat.le_refl 0, Nat.le_refl 0⟩) (fun u H locs hw hH => ?_)
        obtain ⟨f_row_25, eu⟩ : ∃ z, z = u := ⟨_, rfl⟩
        subst eu
        have hH : kH (dC, dI) cl A s.heap H locs (wX47 ci ad d f_constants f_blanks f_counts f_points f_kept f_hashes f_news f_rounds f_hashed f_groups f_groupOf f_groupCount f_trial f_row_25 f_names f_namedBlanks f_form f_formCount f_octets f_descriptions f_described f_message f_size f_words f_schedule f_thrown f_said) := hH
        refine lv_iload hx hb dX47_name_56 (lv_at hl 2 rfl) ?_
        refine lv_if_ne (tgt := 65) hx hb dX47_name_58 (by decide) (fun c_26 => ?_) (fun c_26 => ?_)
        · have hw := hw.2 (z_ne (rfl : x4.toInt = _) (rfl : (0 : Int32).toInt = 0) c_26)
          refine lv_aload_n hx hb dX47_name_65 rfl (lv_at hl 0 rfl) ?_
          refine k_i0 hH (k_runV (As := []) (rest := []) X hH.1 hH.2.1 X.2.2.2 (walkX47_compareForm hc (f_constants := f_constants) (f_blanks := f_blanks) (f_counts := f_counts) (f_points := f_points) (f_kept := f_kept) (f_hashes := f_hashes) (f_news := f_news) (f_rounds := f_rounds) (f_hashed := f_hashed) (f_groups := f_groups) (f_groupOf := f_groupOf) (f_groupCount := f_groupCount) (f_trial := f_trial) (f_row := f_row_25) (f_names := f_names) (f_namedBlanks := f_namedBlanks) (f_form := f_form) (f_formCount := f_formCount) (f_octets := f_octets) (f_descriptions := f_descriptions) (f_described := f_described) (f_message := f_message) (f_size := f_size) (f_words := f_words) (f_schedule := f_schedule) (f_thrown := f_thrown) (f_said := f_said) hw) (cwV 0 X.1.2.2.2.2 gX47_321 rfl rfl rfl hX47_compareForm ⟨Nat.le_of_ble_eq_true rfl, Nat.le_of_ble_eq_true rfl⟩) hc (q0 := 0) rfl rfl hl.1 rfl (Nat.le_of_ble_eq_true rfl) dX47_name_66 ⟨Nat.le_refl 0, Nat.le_refl 0⟩) (fun r_27 _ H locs hw hH => ?_)
          have hH : kH (dC, dI) cl A s.heap H locs (wX47 ci ad d f_constants f_blanks f_counts f_points f_kept f_hashes f_news f_rounds f_hashed f_groups f_groupOf f_groupCount f_trial f_row_25 f_names f_namedBlanks f_form f_formCount f_octets f_descriptions f_described f_message f_size f_words f_schedule f_thrown f_said) := hH
          refine lv_istore (lv' := [(6, .int r_27), (0, .ref (ad 0)), (3, .int x3), (4, .int x4), (5, .int x5)]) hx hb dX47_name_69 hl (by decide) rfl (fun ls hl => ?_)
          refine lv_iload hx hb dX47_name_71 (lv_at hl 0 rfl) ?_
          refine lv_if_ge (tgt := 81) hx hb dX47_name_73 (by decide) (fun c_28 => ?_) (fun c_28 => ?_)
          · have hw := hw.1 (z_le (rfl : (0 : Int32).toInt = 0) (rfl : r_27.toInt = _) c_28)
            exact atX47_name_81 hc X (fun x4 x5 f_trial f_row f_names f_form hw H locs ls hH hl => ih x4 x5 f_trial f_row f_names f_form hw _ _ ls hH (lv_sub hl [0, 1, 2, 3] rfl)) x4 r_27 f_trial f_row_25 f_names f_form hw _ _ ls hH (lv_sub hl [1, 2, 3, 0] rfl)
          · have hw := hw.2 (z_nle (rfl : (0 : Int32).toInt = 0) (rfl : r_27.toInt = _) c_28)
            refine lv_aload_n hx hb dX47_name_76 rfl (lv_at hl 1 rfl) ?_
            refine lv_iload_n hx hb dX47_name_77 rfl (lv_at hl 2 rfl) ?_
            refine k_v0 hH (k_runV (As := [.int x3]) (rest := []) X hH.1 hH.2.1 X.2.2.2 (walkX47_take hc (x1 := x3) (f_constants := f_constants) (f_blanks := f_blanks) (f_counts := f_counts) (f_points := f_points) (f_kept := f_kept) (f_hashes := f_hashes) (f_news := f_news) (f_rounds := f_rounds) (f_hashed := f_hashed) (f_groups := f_groups) (f_groupOf := f_groupOf) (f_groupCount := f_groupCount) (f_trial := f_trial) (f_row := f_row_25) (f_names := f_names) (f_namedBlanks := f_namedBlanks) (f_form := f_form) (f_formCount := f_formCount) (f_octets := f_octets) (f_descriptions := f_descriptions) (f_described := f_described) (f_message := f_message) (f_size := f_size) (f_words := f_words) (f_schedule := f_schedule) (f_thrown := f_thrown) (f_said := f_said) hw) (cwV 1 X.1.2.2.2.2 gX47_325 rfl rfl rfl hX47_take ⟨Nat.le_of_ble_eq_true rfl, Nat.le_of_ble_eq_true rfl⟩) hc (q0 := 0) rfl rfl hl.1 rfl (Nat.le_of_ble_eq_true rfl) dX47_name_78 ⟨Nat.le_refl 0, Nat.le_refl 0⟩) (fun u H locs hw hH => ?_)
            obtain ⟨f_names_41, f_form_42⟩ := u
            have hH : kH (dC, dI) cl A s.heap H locs (wX47 ci ad d f_constants f_blanks f_counts f_points f_kept f_hashes f_news f_rounds f_hashed f_groups f_groupOf f_groupCount f_trial f_row_25 f_names_41 f_namedBlanks f_form_42 f_formCount f_octets f_descriptions f_described f_message f_size f_words f_schedule f_thrown f_said) := hH
            exact atX47_name_81 hc X (fun x4 x5 f_trial f_row f_names f_form hw H locs ls hH hl => ih x4 x5 f_trial f_row f_names f_form hw _ _ ls hH (lv_sub hl [0, 1, 2, 3] rfl)) x4 r_27 f_trial f_row_25 f_names_41 f_form_42 hw _ _ ls hH (lv_sub hl [1, 2, 3, 0] rfl)
        · have hw := hw.1 (z_eq (rfl : x4.toInt = _) (rfl : (0 : Int32).toInt = 0) c_26)
          refine lv_iconst (v := (-1)) hx hb dX47_name_61 (by decide) ?_
          refine lv_goto (tgt := 69) hx hb dX47_name_62 (by decide) ?_
          refine lv_istore (lv' := [(6, .int ((-1))), (0, .ref (ad 0)), (3, .int x3), (4, .int x4), (5, .int x5)]) hx hb dX47_name_69 hl (by decide) rfl (fun ls hl => ?_)
          refine lv_iload hx hb dX47_name_71 (lv_at hl 0 rfl) ?_
          refine lv_if_ge (tgt := 81) hx hb dX47_name_73 (by decide) (fun c_43 => ?_) (fun c_43 => ?_)
          · have hw := hw.1 (z_le (rfl : (0 : Int32).toInt = 0) (rfl : ((-1) : Int32).toInt = (-1)) c_43)
            exact atX47_name_81 hc X (fun x4 x5 f_trial f_row f_names f_form hw H locs ls hH hl => ih x4 x5 f_trial f_row f_names f_form hw _ _ ls hH (lv_sub hl [0, 1, 2, 3] rfl)) x4 (-1) f_trial f_row_25 f_names f_form hw _ _ ls hH (lv_sub hl [1, 2, 3, 0] rfl)
          · have hw := hw.2 (z_nle (rfl : (0 : Int32).toInt = 0) (rfl : ((-1) : Int32).toInt = (-1)) c_43)
            refine lv_aload_n hx hb dX47_name_76 rfl (lv_at hl 1 rfl) ?_
            refine lv_iload_n hx hb dX47_name_77 rfl (lv_at hl 2 rfl) ?_
            refine k_v0 hH (k_runV (As := [.int x3]) (rest := []) X hH.1 hH.2.1 X.2.2.2 (walkX47_take hc (x1 := x3) (f_constants := f_constants) (f_blanks := f_blanks) (f_counts := f_counts) (f_points := f_points) (f_kept := f_kept) (f_hashes := f_hashes) (f_news := f_news) (f_rounds := f_rounds) (f_hashed := f_hashed) (f_groups := f_groups) (f_groupOf := f_groupOf) (f_groupCount := f_groupCount) (f_trial := f_trial) (f_row := f_row_25) (f_names := f_names) (f_namedBlanks := f_namedBlanks) (f_form := f_form) (f_formCount := f_formCount) (f_octets := f_octets) (f_descriptions := f_descriptions) (f_described := f_described) (f_message := f_message) (f_size := f_size) (f_words := f_words) (f_schedule := f_schedule) (f_thrown := f_thrown) (f_said := f_said) hw) (cwV 1 X.1.2.2.2.2 gX47_325 rfl rfl rfl hX47_take ⟨Nat.le_of_ble_eq_true rfl, Nat.le_of_ble_eq_true rfl⟩) hc (q0 := 0) rfl rfl hl.1 rfl (Nat.le_of_ble_eq_true rfl) dX47_name_78 ⟨Nat.le_refl 0, Nat.le_refl 0⟩) (fun u H locs hw hH => ?_)
            obtain ⟨f_names_44, f_form_45⟩ := u
            have hH : kH (dC, dI) cl A s.heap H locs (wX47 ci ad d f_constants f_blanks f_counts f_points f_kept f_hashes f_news f_rounds f_hashed f_groups f_groupOf f_groupCount f_trial f_row_25 f_names_44 f_namedBlanks f_form_45 f_formCount f_octets f_descriptions f_described f_message f_size f_words f_schedule f_thrown f_said) := hH
            exact atX47_name_81 hc X (fun x4 x5 f_trial f_row f_names f_form hw H locs ls hH hl => ih x4 x5 f_trial f_row f_names f_form hw _ _ ls hH (lv_sub hl [0, 1, 2, 3] rfl)) x4 (-1) f_trial f_row_25 f_names_44 f_form_45 hw _ _ ls hH (lv_sub hl [1, 2, 3, 0] rfl)
set_option maxHeartbeats 4000000 in
theorem atX47_name_140 {p : Program} {l : Launch} {e : Env} {s : State} {m : MethodId} {args : Array Value} {below : List Frame} {meth : Method} {c : Code} {dC : Nat → ClassId} {dI : Nat → Nat → Nat} {cl : List vw_C} {ci : Nat} (hc : cl[ci]? = some (RX47, TX47, 27)) {ad : Nat → Nat} {d : Nat → ClassId} {A : Nat → Prop} {post : Int → (Int → Int) → (Int → Int) → Int → Int → (Int → Int) → (Int → Int) → Int → (Int → Int) → (Int → Int) → (Int → Int) → Int → (Int → Int) → Int → (Int → Int) → (Int → Int) → Int → (Int → Int) → Int → (Int → Int) → (Int → Int) → Int → (Int → Int) → Prop} {f_constants : Nat → Int64} {f_blanks : Nat → Int32} {f_counts : Nat → Int32} {f_points : Nat → Int32} {f_kept : Int32} (X : kX p s m args meth c cX47_name 7 RX47 (some .int) (dC, dI) cl (tX47 d)) {K169 : (Int → Int) → Int → Prop} {x4 : Int32} {f_hashes : Nat → Int64} {f_news : Nat → Int64} {f_rounds : Int32} {f_hashed : Int32} {f_groups : Nat → Int32} {f_groupOf : Nat → Int32} {f_groupCount : Int32} {f_trial : Nat → Int32} {f_row : Nat → Int32} {f_names : Nat → Int32} {f_namedBlanks : Int32} {f_form : Nat → Int32} {f_formCount : Int32} {f_octets : Nat → Int32} {f_descriptions : Nat → Int32} {f_described : Int32} {f_words : Nat → Int64} {f_schedule : Nat → Int64} {f_thrown : Int32} {f_said : Nat → Int32} (hk169 : ∀ (f_message : Nat → Int32) (f_size : Int32), K169 (zF f_message) f_size.toInt → ∀ (H : Heap) (locs : List Loc) (ls : Array Slot), kH (dC, dI) cl A s.heap H locs (wX47 ci ad d f_constants f_blanks f_counts f_points f_kept f_hashes f_news f_rounds f_hashed f_groups f_groupOf f_groupCount f_trial f_row f_names f_namedBlanks f_form f_formCount f_octets f_descriptions f_described f_message f_size f_words f_schedule f_thrown f_said) → lv_has ls 7 [(0, .ref (ad 0)), (4, .int x4)] → W p l e ({ frames := 5, cells := 0, slots := 0, locals := 135 } : Room) s m args below meth c H locs 0 0 (MQ below (va_Qi (fun (r : Int32) (u : (Nat → Int64) × (Nat → Int64) × Int32 × Int32 × (Nat → Int32) × (Nat → Int32) × Int32 × (Nat → Int32) × (Nat → Int32) × (Nat → Int32) × Int32 × (Nat → Int32) × Int32 × (Nat → Int32) × (Nat → Int32) × Int32 × (Nat → Int32) × Int32 × (Nat → Int64) × (Nat → Int64) × Int32 × (Nat → Int32)) => post r.toInt (zG (u.1)) (zG (u.2.1)) (u.2.2.1).toInt (u.2.2.2.1).toInt (zF (u.2.2.2.2.1)) (zF (u.2.2.2.2.2.1)) (u.2.2.2.2.2.2.1).toInt (zF (u.2.2.2.2.2.2.2.1)) (zF (u.2.2.2.2.2.2.2.2.1)) (zF (u.2.2.2.2.2.2.2.2.2.1)) (u.2.2.2.2.2.2.2.2.2.2.1).toInt (zF (u.2.2.2.2.2.2.2.2.2.2.2.1)) (u.2.2.2.2.2.2.2.2.2.2.2.2.1).toInt (zF (u.2.2.2.2.2.2.2.2.2.2.2.2.2.1)) (zF (u.2.2.2.2.2.2.2.2.2.2.2.2.2.2.1)) (u.2.2.2.2.2.2.2.2.2.2.2.2.2.2.2.1).toInt (zF (u.2.2.2.2.2.2.2.2.2.2.2.2.2.2.2.2.1)) (u.2.2.2.2.2.2.2.2.2.2.2.2.2.2.2.2.2.1).toInt (zG (u.2.2.2.2.2.2.2.2.2.2.2.2.2.2.2.2.2.2.1)) (zG (u.2.2.2.2.2.2.2.2.2.2.2.2.2.2.2.2.2.2.2.1)) (u.2.2.2.2.2.2.2.2.2.2.2.2.2.2.2.2.2.2.2.2.1).toInt (zF (u.2.2.2.2.2.2.2.2.2.2.2.2.2.2.2.2.2.2.2.2.2))) (kB (dC, dI) cl (tX47 d) A (fun u : (Nat → Int64) × (Nat → Int64) × Int32 × Int32 × (Nat → Int32) × (Nat → Int32) × Int32 × (Nat → Int32) × (Nat → Int32) × (Nat → Int32) × Int32 × (Nat → Int32) × Int32 × (Nat → Int32) × (Nat → Int32) × Int32 × (Nat → Int32) × Int32 × (Nat → Int64) × (Nat → Int64) × Int32 × (Nat → Int32) => (wX47 ci ad d f_constants f_blanks f_counts f_points f_kept (u.1) (u.2.1) (u.2.2.1) (u.2.2.2.1) (u.2.2.2.2.1) (u.2.2.2.2.2.1) (u.2.2.2.2.2.2.1) (u.2.2.2.2.2.2.2.1) (u.2.2.2.2.2.2.2.2.1) (u.2.2.2.2.2.2.2.2.2.1) (u.2.2.2.2.2.2.2.2.2.2.1) (u.2.2.2.2.2.2.2.2.2.2.2.1) (u.2.2.2.2.2.2.2.2.2.2.2.2.1) (u.2.2.2.2.2.2.2.2.2.2.2.2.2.1) (u.2.2.2.2.2.2.2.2.2.2.2.2.2.2.1) (u.2.2.2.2.2.2.2.2.2.2.2.2.2.2.2.1) (u.2.2.2.2.2.2.2.2.2.2.2.2.2.2.2.2.1) (u.2.2.2.2.2.2.2.2.2.2.2.2.2.2.2.2.2.1) (u.2.2.2.2.2.2.2.2.2.2.2.2.2.2.2.2.2.2.1) (u.2.2.2.2.2.2.2.2.2.2.2.2.2.2.2.2.2.2.2.1) (u.2.2.2.2.2.2.2.2.2.2.2.2.2.2.2.2.2.2.2.2.1) (u.2.2.2.2.2.2.2.2.2.2.2.2.2.2.2.2.2.2.2.2.2)))) A) args s 0 0 A) (F0 m 169 ls [])) :
    ∀ (nn : Nat) (x6 : Int32) (f_message : Nat → Int32) (f_size : Int32), wX47_name_140 K169 (zF f_form) f_formCount.toInt nn x6.toInt (zF f_message) f_size.toInt → ∀ (H : Heap) (locs : List Loc) (ls : Array Slot), kH (dC, dI) cl A s.heap H locs (wX47 ci ad d f_constants f_blanks f_counts f_points f_kept f_hashes f_news f_rounds f_hashed f_groups f_groupOf f_groupCount f_trial f_row f_names f_namedBlanks f_form f_formCount f_octets f_descriptions f_described f_message f_size f_words f_schedule f_thrown f_said) → lv_has ls 7 [(0, .ref (ad 0)), (4, .int x4), (6, .int x6)] → W p l e ({ frames := 5, cells := 0, slots := 0, locals := 135 } : Room) s m args below meth c H locs 0 0 (MQ below (va_Qi (fun (r : Int32) (u : (Nat → Int64) × (Nat → Int64) × Int32 × Int32 × (Nat → Int32) × (Nat → Int32) × Int32 × (Nat → Int32) × (Nat → Int32) × (Nat → Int32) × Int32 × (Nat → Int32) × Int32 × (Nat → Int32) × (Nat → Int32) × Int32 × (Nat → Int32) × Int32 × (Nat → Int64) × (Nat → Int64) × Int32 × (Nat → Int32)) => post r.toInt (zG (u.1)) (zG (u.2.1)) (u.2.2.1).toInt (u.2.2.2.1).toInt (zF (u.2.2.2.2.1)) (zF (u.2.2.2.2.2.1)) (u.2.2.2.2.2.2.1).toInt (zF (u.2.2.2.2.2.2.2.1)) (zF (u.2.2.2.2.2.2.2.2.1)) (zF (u.2.2.2.2.2.2.2.2.2.1)) (u.2.2.2.2.2.2.2.2.2.2.1).toInt (zF (u.2.2.2.2.2.2.2.2.2.2.2.1)) (u.2.2.2.2.2.2.2.2.2.2.2.2.1).toInt (zF (u.2.2.2.2.2.2.2.2.2.2.2.2.2.1)) (zF (u.2.2.2.2.2.2.2.2.2.2.2.2.2.2.1)) (u.2.2.2.2.2.2.2.2.2.2.2.2.2.2.2.1).toInt (zF (u.2.2.2.2.2.2.2.2.2.2.2.2.2.2.2.2.1)) (u.2.2.2.2.2.2.2.2.2.2.2.2.2.2.2.2.2.1).toInt (zG (u.2.2.2.2.2.2.2.2.2.2.2.2.2.2.2.2.2.2.1)) (zG (u.2.2.2.2.2.2.2.2.2.2.2.2.2.2.2.2.2.2.2.1)) (u.2.2.2.2.2.2.2.2.2.2.2.2.2.2.2.2.2.2.2.2.1).toInt (zF (u.2.2.2.2.2.2.2.2.2.2.2.2.2.2.2.2.2.2.2.2.2))) (kB (dC, dI) cl (tX47 d) A (fun u : (Nat → Int64) × (Nat → Int64) × Int32 × Int32 × (Nat → Int32) × (Nat → Int32) × Int32 × (Nat → Int32) × (Nat → Int32) × (Nat → Int32) × Int32 × (Nat → Int32) × Int32 × (Nat → Int32) × (Nat → Int32) × Int32 × (Nat → Int32) × Int32 × (Nat → Int64) × (Nat → Int64) × Int32 × (Nat → Int32) => (wX47 ci ad d f_constants f_blanks f_counts f_points f_kept (u.1) (u.2.1) (u.2.2.1) (u.2.2.2.1) (u.2.2.2.2.1) (u.2.2.2.2.2.1) (u.2.2.2.2.2.2.1) (u.2.2.2.2.2.2.2.1) (u.2.2.2.2.2.2.2.2.1) (u.2.2.2.2.2.2.2.2.2.1) (u.2.2.2.2.2.2.2.2.2.2.1) (u.2.2.2.2.2.2.2.2.2.2.2.1) (u.2.2.2.2.2.2.2.2.2.2.2.2.1) (u.2.2.2.2.2.2.2.2.2.2.2.2.2.1) (u.2.2.2.2.2.2.2.2.2.2.2.2.2.2.1) (u.2.2.2.2.2.2.2.2.2.2.2.2.2.2.2.1) (u.2.2.2.2.2.2.2.2.2.2.2.2.2.2.2.2.1) (u.2.2.2.2.2.2.2.2.2.2.2.2.2.2.2.2.2.1) (u.2.2.2.2.2.2.2.2.2.2.2.2.2.2.2.2.2.2.1) (u.2.2.2.2.2.2.2.2.2.2.2.2.2.2.2.2.2.2.2.1) (u.2.2.2.2.2.2.2.2.2.2.2.2.2.2.2.2.2.2.2.2.1) (u.2.2.2.2.2.2.2.2.2.2.2.2.2.2.2.2.2.2.2.2.2)))) A) args s 0 0 A) (F0 m 140 ls []) := by
  have hx := X.1.1
  have hb := X.1.2.1
  intro nn
  induction nn with
  | zero =>
    intro x6 f_message f_size hw
    exact False.elim hw
  | succ n ih =>
    intro x6 f_message f_size hw H locs ls hH hl
    rw [wX47_name_140] at hw
    refine lv_iload hx hb dX47_name_140 (lv_at hl 2 rfl) ?_
    refine lv_iconst (v := 3) hx hb dX47_name_142 (by decide) ?_
    refine lv_aload_n hx hb dX47_name_143 rfl (lv_at hl 0 rfl) ?_
    refine k_get X hH in_X47 0 rfl hc 17 (by decide) q6001 rfl dX47_name_144 ?_
    refine lv_imul hx hb dX47_name_147 ?_
    have e_53 := z_mul (z_m (rfl : (3 : Int32).toInt = 3)) (z_m (rfl : f_formCount.toInt = _))
    have hq_55 := hw.1
    have hw := hw.2
    have e_56 := z_x e_53 hq_55
    refine lv_icmp_ge (tgt := 169) hx hb dX47_name_148 (by decide) (fun c_54 => ?_) (fun c_54 => ?_)
    · have hw := hw.1 (z_le e_56 (rfl : x6.toInt = _) c_54)
      exact hk169 f_message f_size hw _ _ ls hH (lv_sub hl [0, 1] rfl)
    · have hw := hw.2 (z_nle e_56 (rfl : x6.toInt = _) c_54)
      refine lv_aload_n hx hb dX47_name_151 rfl (lv_at hl 0 rfl) ?_
      refine lv_aload_n hx hb dX47_name_152 rfl (lv_at hl 0 rfl) ?_
      refine k_get X hH in_X47 0 rfl hc 16 (by decide) q6000 rfl dX47_name_153 ?_
      refine lv_iload hx hb dX47_name_156 (lv_at hl 2 rfl) ?_
      have hq_57 := hw.1
      have hw := hw.2
      refine k_iald X hH 12 11 rfl rfl (z_in (rfl : x6.toInt = _) hq_57) dX47_name_158 ?_
      have e_58 := z_ld (f := f_form) (rfl : x6.toInt = _) hq_57.1
      refine lv_i2l (v := (f_form x6.toNatClampNeg).toInt64) hx hb dX47_name_159 rfl ?_
      have e_59 := z_i2l e_58
      refine k_v0 hH (k_runV (As := [.long ((f_form x6.toNatClampNeg).toInt64)]) (rest := []) X hH.1 hH.2.1 X.2.2.2 (walkX47_sayNumber hc (x1 := ((f_form x6.toNatClampNeg).toInt64)) (f_constants := f_constants) (f_blanks := f_blanks) (f_counts := f_counts) (f_points := f_points) (f_kept := f_kept) (f_hashes := f_hashes) (f_news := f_news) (f_rounds := f_rounds) (f_hashed := f_hashed) (f_groups := f_groups) (f_groupOf := f_groupOf) (f_groupCount := f_groupCount) (f_trial := f_trial) (f_row := f_row) (f_names := f_names) (f_namedBlanks := f_namedBlanks) (f_form := f_form) (f_formCount := f_formCount) (f_octets := f_octets) (f_descriptions := f_descriptions) (f_described := f_described) (f_message := f_message) (f_size := f_size) (f_words := f_words) (f_schedule := f_schedule) (f_thrown := f_thrown) (f_said := f_said) (by rw [show ((f_form x6.toNatClampNeg).toInt64 : Int64).toInt = _ from e_59]; exact hw)) (cwV 1 X.1.2.2.2.2 gX47_266 rfl rfl rfl hX47_sayNumber ⟨Nat.le_of_ble_eq_true rfl, Nat.le_of_ble_eq_true rfl⟩) hc (q0 := 0) rfl rfl hl.1 rfl (Nat.le_of_ble_eq_true rfl) dX47_name_160 ⟨Nat.le_refl 0, Nat.le_refl 0⟩) (fun u H locs hw hH => ?_)
      obtain ⟨f_message_60, f_size_61⟩ := u
      have hH : kH (dC, dI) cl A s.heap H locs (wX47 ci ad d f_constants f_blanks f_counts f_points f_kept f_hashes f_news f_rounds f_hashed f_groups f_groupOf f_groupCount f_trial f_row f_names f_namedBlanks f_form f_formCount f_octets f_descriptions f_described f_message_60 f_size_61 f_words f_schedule f_thrown f_said) := hH
      have hq_63 := hw.1
      have hw := hw.2
      obtain ⟨x6_62, ex6_62⟩ : ∃ y : Int32, y = x6 + 1 := ⟨_, rfl⟩
      have hw := hw x6_62.toInt (by rw [ex6_62]; exact (z_x (z_add (z_m (rfl : x6.toInt = _)) (z_m (rfl : (1 : Int32).toInt = 1))) hq_63))
      refine lv_iinc (v := x6_62) (lv' := [(6, .int x6_62), (0, .ref (ad 0)), (4, .int x4)]) hx hb dX47_name_163 hl (k := 2) rfl (by rw [ex6_62]; rfl) (by decide) rfl (fun ls hl => ?_)
      refine lv_goto (tgt := 140) hx hb dX47_name_166 (by decide) ?_
      exact ih x6_62 f_message_60 f_size_61 hw _ _ ls hH (lv_sub hl [1, 2, 0] rfl)
set_option maxHeartbeats 4000000 in
theorem walkX47_name {l : Launch} {dC : Nat → ClassId} {dI : Nat → Nat → Nat} {cl : List vw_C} {ci : Nat} (hc : cl[ci]? = some (RX47, TX47, 27)) {ad : Nat → Nat} {d : Nat → ClassId} {sz : Nat} {f_constants : Nat → Int64} {f_blanks : Nat → Int32} {f_counts : Nat → Int32} {f_points : Nat → Int32} {f_kept : Int32} {f_hashes : Nat → Int64} {f_news : Nat → Int64} {f_rounds : Int32} {f_hashed : Int32} {f_groups : Nat → Int32} {f_groupOf : Nat → Int32} {f_groupCount : Int32} {f_trial : Nat → Int32} {f_row : Nat → Int32} {f_names : Nat → Int32} {f_namedBlanks : Int32} {f_form : Nat → Int32} {f_formCount : Int32} {f_octets : Nat → Int32} {f_descriptions : Nat → Int32} {f_described : Int32} {f_message : Nat → Int32} {f_size : Int32} {f_words : Nat → Int64} {f_schedule : Nat → Int64} {f_thrown : Int32} {f_said : Nat → Int32} {x1 : Int64} {post : Int → (Int → Int) → (Int → Int) → Int → Int → (Int → Int) → (Int → Int) → Int → (Int → Int) → (Int → Int) → (Int → Int) → Int → (Int → Int) → Int → (Int → Int) → (Int → Int) → Int → (Int → Int) → Int → (Int → Int) → (Int → Int) → Int → (Int → Int) → Prop} (hw : wpX47_name post (zG f_constants) (zF f_blanks) (zF f_counts) (zF f_points) (zG f_hashes) (zG f_news) f_rounds.toInt f_hashed.toInt (zF f_groups) (zF f_groupOf) f_groupCount.toInt (zF f_trial) (zF f_row) (zF f_names) f_namedBlanks.toInt (zF f_form) f_formCount.toInt (zF f_octets) (zF f_descriptions) f_described.toInt (zF f_message) f_size.toInt (zG f_words) (zG f_schedule) (zF f_said) x1.toInt) :
    Met l yX47_name (ws_ yX47_name cX47_name 7 (some .int)) ({ frames := 5, cells := 0, slots := 0, locals := 135 } : Room) (kPc (dC, dI) cl (tX47 d) [.ref (ad 0), .long x1] sz (wX47 ci ad d f_constants f_blanks f_counts f_points f_kept f_hashes f_news f_rounds f_hashed f_groups f_groupOf f_groupCount f_trial f_row f_names f_namedBlanks f_form f_formCount f_octets f_descriptions f_described f_message f_size f_words f_schedule f_thrown f_said)) (va_Qi (fun (r : Int32) (u : (Nat → Int64) × (Nat → Int64) × Int32 × Int32 × (Nat → Int32) × (Nat → Int32) × Int32 × (Nat → Int32) × (Nat → Int32) × (Nat → Int32) × Int32 × (Nat → Int32) × Int32 × (Nat → Int32) × (Nat → Int32) × Int32 × (Nat → Int32) × Int32 × (Nat → Int64) × (Nat → Int64) × Int32 × (Nat → Int32)) => post r.toInt (zG (u.1)) (zG (u.2.1)) (u.2.2.1).toInt (u.2.2.2.1).toInt (zF (u.2.2.2.2.1)) (zF (u.2.2.2.2.2.1)) (u.2.2.2.2.2.2.1).toInt (zF (u.2.2.2.2.2.2.2.1)) (zF (u.2.2.2.2.2.2.2.2.1)) (zF (u.2.2.2.2.2.2.2.2.2.1)) (u.2.2.2.2.2.2.2.2.2.2.1).toInt (zF (u.2.2.2.2.2.2.2.2.2.2.2.1)) (u.2.2.2.2.2.2.2.2.2.2.2.2.1).toInt (zF (u.2.2.2.2.2.2.2.2.2.2.2.2.2.1)) (zF (u.2.2.2.2.2.2.2.2.2.2.2.2.2.2.1)) (u.2.2.2.2.2.2.2.2.2.2.2.2.2.2.2.1).toInt (zF (u.2.2.2.2.2.2.2.2.2.2.2.2.2.2.2.2.1)) (u.2.2.2.2.2.2.2.2.2.2.2.2.2.2.2.2.2.1).toInt (zG (u.2.2.2.2.2.2.2.2.2.2.2.2.2.2.2.2.2.2.1)) (zG (u.2.2.2.2.2.2.2.2.2.2.2.2.2.2.2.2.2.2.2.1)) (u.2.2.2.2.2.2.2.2.2.2.2.2.2.2.2.2.2.2.2.2.1).toInt (zF (u.2.2.2.2.2.2.2.2.2.2.2.2.2.2.2.2.2.2.2.2.2))) (kB (dC, dI) cl (tX47 d) (va_A (wX47 ci ad d f_constants f_blanks f_counts f_points f_kept f_hashes f_news f_rounds f_hashed f_groups f_groupOf f_groupCount f_trial f_row f_names f_namedBlanks f_form f_formCount f_octets f_descriptions f_described f_message f_size f_words f_schedule f_thrown f_said) sz) (fun u : (Nat → Int64) × (Nat → Int64) × Int32 × Int32 × (Nat → Int32) × (Nat → Int32) × Int32 × (Nat → Int32) × (Nat → Int32) × (Nat → Int32) × Int32 × (Nat → Int32) × Int32 × (Nat → Int32) × (Nat → Int32) × Int32 × (Nat → Int32) × Int32 × (Nat → Int64) × (Nat → Int64) × Int32 × (Nat → Int32) => (wX47 ci ad d f_constants f_blanks f_counts f_points f_kept (u.1) (u.2.1) (u.2.2.1) (u.2.2.2.1) (u.2.2.2.2.1) (u.2.2.2.2.2.1) (u.2.2.2.2.2.2.1) (u.2.2.2.2.2.2.2.1) (u.2.2.2.2.2.2.2.2.1) (u.2.2.2.2.2.2.2.2.2.1) (u.2.2.2.2.2.2.2.2.2.2.1) (u.2.2.2.2.2.2.2.2.2.2.2.1) (u.2.2.2.2.2.2.2.2.2.2.2.2.1) (u.2.2.2.2.2.2.2.2.2.2.2.2.2.1) (u.2.2.2.2.2.2.2.2.2.2.2.2.2.2.1) (u.2.2.2.2.2.2.2.2.2.2.2.2.2.2.2.1) (u.2.2.2.2.2.2.2.2.2.2.2.2.2.2.2.2.1) (u.2.2.2.2.2.2.2.2.2.2.2.2.2.2.2.2.2.1) (u.2.2.2.2.2.2.2.2.2.2.2.2.2.2.2.2.2.2.1) (u.2.2.2.2.2.2.2.2.2.2.2.2.2.2.2.2.2.2.2.1) (u.2.2.2.2.2.2.2.2.2.2.2.2.2.2.2.2.2.2.2.2.1) (u.2.2.2.2.2.2.2.2.2.2.2.2.2.2.2.2.2.2.2.2.2)))) (va_A (wX47 ci ad d f_constants f_blanks f_counts f_points f_kept f_hashes f_news f_rounds f_hashed f_groups f_groupOf f_groupCount f_trial f_row f_names f_namedBlanks f_form f_formCount f_octets f_descriptions f_described f_message f_size f_words f_schedule f_thrown f_said) sz)) 0 0 (va_A (wX47 ci ad d f_constants f_blanks f_counts f_points f_kept f_hashes f_news f_rounds f_hashed f_groups f_groupOf f_groupCount f_trial f_row f_names f_namedBlanks f_form f_formCount f_octets f_descriptions f_described f_message f_size f_words f_schedule f_thrown f_said) sz) := by
  refine k_enter (by decide) (Nat.le_of_ble_eq_true rfl) ?_
  intro p e s m below meth c ls X hsz hH hl
  subst hsz
  generalize va_A (wX47 ci ad d f_constants f_blanks f_counts f_points f_kept f_hashes f_news f_rounds f_hashed f_groups f_groupOf f_groupCount f_trial f_row f_names f_namedBlanks f_form f_formCount f_octets f_descriptions f_described f_message f_size f_words f_schedule f_thrown f_said) s.heap.size = A at hH ⊢
  have hx := X.1.1
  have hb := X.1.2.1
  have hl : lv_has ls 7 [(0, .ref (ad 0)), (1, .long x1)] := hl
  unfold wpX47_name at hw
  refine lv_aload_n hx hb dX47_name_0 rfl (lv_at hl 0 rfl) ?_
  refine lv_iconst (v := 0) hx hb dX47_name_1 (by decide) ?_
  refine k_put X hH in_X47 tyX47_ok nmX47 0 rfl hc 25 (by decide) q6009 rfl (ty := .int) rfl rfl rfl (Nat.le_of_ble_eq_true rfl) dX47_name_2 (ws1 := (wX47 ci ad d f_constants f_blanks f_counts f_points f_kept f_hashes f_news f_rounds f_hashed f_groups f_groupOf f_groupCount f_trial f_row f_names f_namedBlanks f_form f_formCount f_octets f_descriptions f_described f_message f_size f_words f_schedule 0 f_said)) rfl (fun H locs hH => ?_)
  refine lv_aload_n hx hb dX47_name_5 rfl (lv_at hl 0 rfl) ?_
  refine k_v0 hH (k_runV (As := []) (rest := []) X hH.1 hH.2.1 X.2.2.2 (walkX47_makeHashes hc (f_constants := f_constants) (f_blanks := f_blanks) (f_counts := f_counts) (f_points := f_points) (f_kept := f_kept) (f_hashes := f_hashes) (f_news := f_news) (f_rounds := f_rounds) (f_hashed := f_hashed) (f_groups := f_groups) (f_groupOf := f_groupOf) (f_groupCount := f_groupCount) (f_trial := f_trial) (f_row := f_row) (f_names := f_names) (f_namedBlanks := f_namedBlanks) (f_form := f_form) (f_formCount := f_formCount) (f_octets := f_octets) (f_descriptions := f_descriptions) (f_described := f_described) (f_message := f_message) (f_size := f_size) (f_words := f_words) (f_schedule := f_schedule) (f_thrown := 0) (f_said := f_said) hw) (cwV 0 X.1.2.2.2.2 gX47_294 rfl rfl rfl hX47_makeHashes ⟨Nat.le_of_ble_eq_true rfl, Nat.le_of_ble_eq_true rfl⟩) hc (q0 := 0) rfl rfl hl.1 rfl (Nat.le_of_ble_eq_true rfl) dX47_name_6 ⟨Nat.le_refl 0, Nat.le_refl 0⟩) (fun u H locs hw hH => ?_)
  obtain ⟨f_hashes_1, f_news_2, f_rounds_3, f_hashed_4, f_groups_5, f_groupOf_6, f_groupCount_7, f_descriptions_8, f_described_9, f_message_10, f_size_11, f_words_12, f_schedule_13, f_said_14⟩ := u
  have hH : kH (dC, dI) cl A s.heap H locs (wX47 ci ad d f_constants f_blanks f_counts f_points f_kept f_hashes_1 f_news_2 f_rounds_3 f_hashed_4 f_groups_5 f_groupOf_6 f_groupCount_7 f_trial f_row f_names f_namedBlanks f_form f_formCount f_octets f_descriptions_8 f_described_9 f_message_10 f_size_11 f_words_12 f_schedule_13 0 f_said_14) := hH
  refine lv_aload_n hx hb dX47_name_9 rfl (lv_at hl 0 rfl) ?_
  refine k_l0 hH (k_runV (As := []) (rest := []) X hH.1 hH.2.1 X.2.2.2 (walkX47_namings hc (f_constants := f_constants) (f_blanks := f_blanks) (f_counts := f_counts) (f_points := f_points) (f_kept := f_kept) (f_hashes := f_hashes_1) (f_news := f_news_2) (f_rounds := f_rounds_3) (f_hashed := f_hashed_4) (f_groups := f_groups_5) (f_groupOf := f_groupOf_6) (f_groupCount := f_groupCount_7) (f_trial := f_trial) (f_row := f_row) (f_names := f_names) (f_namedBlanks := f_namedBlanks) (f_form := f_form) (f_formCount := f_formCount) (f_octets := f_octets) (f_descriptions := f_descriptions_8) (f_described := f_described_9) (f_message := f_message_10) (f_size := f_size_11) (f_words := f_words_12) (f_schedule := f_schedule_13) (f_thrown := 0) (f_said := f_said_14) hw) (cwV 0 X.1.2.2.2.2 gX47_308 rfl rfl rfl hX47_namings ⟨Nat.le_of_ble_eq_true rfl, Nat.le_of_ble_eq_true rfl⟩) hc (q0 := 0) rfl rfl hl.1 rfl (Nat.le_of_ble_eq_true rfl) dX47_name_10 ⟨Nat.le_refl 0, Nat.le_refl 0⟩) (fun r_15 _ H locs hw hH => ?_)
  have hH : kH (dC, dI) cl A s.heap H locs (wX47 ci ad d f_constants f_blanks f_counts f_points f_kept f_hashes_1 f_news_2 f_rounds_3 f_hashed_4 f_groups_5 f_groupOf_6 f_groupCount_7 f_trial f_row f_names f_namedBlanks f_form f_formCount f_octets f_descriptions_8 f_described_9 f_message_10 f_size_11 f_words_12 f_schedule_13 0 f_said_14) := hH
  refine lv_lload_n hx hb dX47_name_13 rfl (lv_at hl 1 rfl) ?_
  refine W.lcmp hx hb dX47_name_14 ?_
  refine lv_if_le (tgt := 20) hx hb dX47_name_15 (by decide) (fun c_16 => ?_) (fun c_16 => ?_)
  · have hw := hw.1 (zL_le (rfl : r_15.toInt = _) (rfl : x1.toInt = _) (k_lc_le.mp c_16))
    refine lv_aload_n hx hb dX47_name_20 rfl (lv_at hl 0 rfl) ?_
    refine k_get X hH in_X47 0 rfl hc 1 (by decide) q5985 rfl dX47_name_21 ?_
    refine lv_bipush (v := 8) hx hb dX47_name_24 (by decide) ?_
    refine k_iald X hH 2 1 rfl rfl (by unfold vp_in; decide) dX47_name_26 ?_
    have e_17 := z_ld (f := f_blanks) (rfl : (8 : Int32).toInt = 8) (by decide)
    refine lv_topi (fun x3_18 ex3_18 => ?_)
    have hw := hw x3_18.toInt (by rw [ex3_18]; exact e_17)
    refine lv_istore_n (lv' := [(3, .int x3_18), (0, .ref (ad 0)), (1, .long x1)]) hx hb dX47_name_27 rfl hl (by decide) rfl (fun ls hl => ?_)
    refine lv_iconst (v := 0) hx hb dX47_name_28 (by decide) ?_
    refine lv_istore (lv' := [(4, .int 0), (3, .int x3_18), (0, .ref (ad 0)), (1, .long x1)]) hx hb dX47_name_29 hl (by decide) rfl (fun ls hl => ?_)
    refine lv_aload_n hx hb dX47_name_31 rfl (lv_at hl 2 rfl) ?_
    refine lv_iload_n hx hb dX47_name_32 rfl (lv_at hl 1 rfl) ?_
    refine k_v0 hH (k_runV (As := [.int x3_18]) (rest := []) X hH.1 hH.2.1 X.2.2.2 (walkX47_begin hc (x1 := x3_18) (f_constants := f_constants) (f_blanks := f_blanks) (f_counts := f_counts) (f_points := f_points) (f_kept := f_kept) (f_hashes := f_hashes_1) (f_news := f_news_2) (f_rounds := f_rounds_3) (f_hashed := f_hashed_4) (f_groups := f_groups_5) (f_groupOf := f_groupOf_6) (f_groupCount := f_groupCount_7) (f_trial := f_trial) (f_row := f_row) (f_names := f_names) (f_namedBlanks := f_namedBlanks) (f_form := f_form) (f_formCount := f_formCount) (f_octets := f_octets) (f_descriptions := f_descriptions_8) (f_described := f_described_9) (f_message := f_message_10) (f_size := f_size_11) (f_words := f_words_12) (f_schedule := f_schedule_13) (f_thrown := 0) (f_said := f_said_14) hw) (cwV 1 X.1.2.2.2.2 gX47_312 rfl rfl rfl hX47_begin ⟨Nat.le_of_ble_eq_true rfl, Nat.le_of_ble_eq_true rfl⟩) hc (q0 := 0) rfl rfl hl.1 rfl (Nat.le_of_ble_eq_true rfl) dX47_name_33 ⟨Nat.le_refl 0, Nat.le_refl 0⟩) (fun u H locs hw hH => ?_)
    obtain ⟨f_trial_19, eu⟩ : ∃ z, z = u := ⟨_, rfl⟩
    subst eu
    have hH : kH (dC, dI) cl A s.heap H locs (wX47 ci ad d f_constants f_blanks f_counts f_points f_kept f_hashes_1 f_news_2 f_rounds_3 f_hashed_4 f_groups_5 f_groupOf_6 f_groupCount_7 f_trial_19 f_row f_names f_namedBlanks f_form f_formCount f_octets f_descriptions_8 f_described_9 f_message_10 f_size_11 f_words_12 f_schedule_13 0 f_said_14) := hH
    refine lv_iconst (v := 1) hx hb dX47_name_36 (by decide) ?_
    refine lv_istore (lv' := [(5, .int 1), (4, .int 0), (3, .int x3_18), (0, .ref (ad 0)), (1, .long x1)]) hx hb dX47_name_37 hl (by decide) rfl (fun ls hl => ?_)
    obtain ⟨fu, hw⟩ := hw
    refine atX47_name_39 hc X ?_ fu 0 1 f_trial_19 f_row f_names f_form hw _ _ ls hH (lv_sub hl [3, 2, 1, 0] rfl)
    · intro x4_46 f_trial_47 f_row_48 f_names_49 f_form_50 hw H locs ls hH hl
      refine lv_aload_n hx hb dX47_name_116 rfl (lv_at hl 0 rfl) ?_
      refine lv_iload_n hx hb dX47_name_117 rfl (lv_at hl 1 rfl) ?_
      refine k_put X hH in_X47 tyX47_ok nmX47 0 rfl hc 15 (by decide) q5999 rfl (ty := .int) rfl rfl rfl (Nat.le_of_ble_eq_true rfl) dX47_name_118 (ws1 := (wX47 ci ad d f_constants f_blanks f_counts f_points f_kept f_hashes_1 f_news_2 f_rounds_3 f_hashed_4 f_groups_5 f_groupOf_6 f_groupCount_7 f_trial_47 f_row_48 f_names_49 x3_18 f_form_50 f_formCount f_octets f_descriptions_8 f_described_9 f_message_10 f_size_11 f_words_12 f_schedule_13 0 f_said_14)) rfl (fun H locs hH => ?_)
      refine lv_aload_n hx hb dX47_name_121 rfl (lv_at hl 0 rfl) ?_
      refine lv_aload_n hx hb dX47_name_122 rfl (lv_at hl 0 rfl) ?_
      refine k_get X hH in_X47 0 rfl hc 2 (by decide) q5986 rfl dX47_name_123 ?_
      refine lv_bipush (v := 8) hx hb dX47_name_126 (by decide) ?_
      refine k_iald X hH 3 2 rfl rfl (by unfold vp_in; decide) dX47_name_128 ?_
      have e_51 := z_ld (f := f_counts) (rfl : (8 : Int32).toInt = 8) (by decide)
      refine lv_topi (fun f_formCount_52 ef_formCount_52 => ?_)
      have hw := hw f_formCount_52.toInt (by rw [ef_formCount_52]; exact e_51)
      refine k_put X hH in_X47 tyX47_ok nmX47 0 rfl hc 17 (by decide) q6001 rfl (ty := .int) rfl rfl rfl (Nat.le_of_ble_eq_true rfl) dX47_name_129 (ws1 := (wX47 ci ad d f_constants f_blanks f_counts f_points f_kept f_hashes_1 f_news_2 f_rounds_3 f_hashed_4 f_groups_5 f_groupOf_6 f_groupCount_7 f_trial_47 f_row_48 f_names_49 x3_18 f_form_50 f_formCount_52 f_octets f_descriptions_8 f_described_9 f_message_10 f_size_11 f_words_12 f_schedule_13 0 f_said_14)) rfl (fun H locs hH => ?_)
      refine lv_aload_n hx hb dX47_name_132 rfl (lv_at hl 0 rfl) ?_
      refine lv_iconst (v := 0) hx hb dX47_name_133 (by decide) ?_
      refine k_put X hH in_X47 tyX47_ok nmX47 0 rfl hc 22 (by decide) q6006 rfl (ty := .int) rfl rfl rfl (Nat.le_of_ble_eq_true rfl) dX47_name_134 (ws1 := (wX47 ci ad d f_constants f_blanks f_counts f_points f_kept f_hashes_1 f_news_2 f_rounds_3 f_hashed_4 f_groups_5 f_groupOf_6 f_groupCount_7 f_trial_47 f_row_48 f_names_49 x3_18 f_form_50 f_formCount_52 f_octets f_descriptions_8 f_described_9 f_message_10 0 f_words_12 f_schedule_13 0 f_said_14)) rfl (fun H locs hH => ?_)
      refine lv_iconst (v := 0) hx hb dX47_name_137 (by decide) ?_
      refine lv_istore (lv' := [(6, .int 0), (0, .ref (ad 0)), (3, .int x3_18), (4, .int x4_46)]) hx hb dX47_name_138 hl (by decide) rfl (fun ls hl => ?_)
      obtain ⟨fu, hw⟩ := hw
      refine atX47_name_140 hc X ?_ fu 0 f_message_10 0 hw _ _ ls hH (lv_sub hl [1, 3, 0] rfl)
      · intro f_message_64 f_size_65 hw H locs ls hH hl
        refine lv_aload_n hx hb dX47_name_169 rfl (lv_at hl 0 rfl) ?_
        refine lv_aload_n hx hb dX47_name_170 rfl (lv_at hl 0 rfl) ?_
        refine k_get X hH in_X47 0 rfl hc 22 (by decide) q6006 rfl dX47_name_171 ?_
        refine k_v0 hH (k_runV (As := [.int f_size_65]) (rest := []) X hH.1 hH.2.1 X.2.2.2 (walkX47_digestOf hc (x1 := f_size_65) (f_constants := f_constants) (f_blanks := f_blanks) (f_counts := f_counts) (f_points := f_points) (f_kept := f_kept) (f_hashes := f_hashes_1) (f_news := f_news_2) (f_rounds := f_rounds_3) (f_hashed := f_hashed_4) (f_groups := f_groups_5) (f_groupOf := f_groupOf_6) (f_groupCount := f_groupCount_7) (f_trial := f_trial_47) (f_row := f_row_48) (f_names := f_names_49) (f_namedBlanks := x3_18) (f_form := f_form_50) (f_formCount := f_formCount_52) (f_octets := f_octets) (f_descriptions := f_descriptions_8) (f_described := f_described_9) (f_message := f_message_64) (f_size := f_size_65) (f_words := f_words_12) (f_schedule := f_schedule_13) (f_thrown := 0) (f_said := f_said_14) hw) (cwV 1 X.1.2.2.2.2 gX47_199 rfl rfl rfl hX47_digestOf ⟨Nat.le_of_ble_eq_true rfl, Nat.le_of_ble_eq_true rfl⟩) hc (q0 := 0) rfl rfl hl.1 rfl (Nat.le_of_ble_eq_true rfl) dX47_name_174 ⟨Nat.le_refl 0, Nat.le_refl 0⟩) (fun u H locs hw hH => ?_)
        obtain ⟨f_message_66, f_words_67, f_schedule_68⟩ := u
        have hH : kH (dC, dI) cl A s.heap H locs (wX47 ci ad d f_constants f_blanks f_counts f_points f_kept f_hashes_1 f_news_2 f_rounds_3 f_hashed_4 f_groups_5 f_groupOf_6 f_groupCount_7 f_trial_47 f_row_48 f_names_49 x3_18 f_form_50 f_formCount_52 f_octets f_descriptions_8 f_described_9 f_message_66 f_size_65 f_words_67 f_schedule_68 0 f_said_14) := hH
        refine lv_aload_n hx hb dX47_name_177 rfl (lv_at hl 0 rfl) ?_
        refine k_v0 hH (k_runV (As := []) (rest := []) X hH.1 hH.2.1 X.2.2.2 (walkX47_octetsOf hc (f_constants := f_constants) (f_blanks := f_blanks) (f_counts := f_counts) (f_points := f_points) (f_kept := f_kept) (f_hashes := f_hashes_1) (f_news := f_news_2) (f_rounds := f_rounds_3) (f_hashed := f_hashed_4) (f_groups := f_groups_5) (f_groupOf := f_groupOf_6) (f_groupCount := f_groupCount_7) (f_trial := f_trial_47) (f_row := f_row_48) (f_names := f_names_49) (f_namedBlanks := x3_18) (f_form := f_form_50) (f_formCount := f_formCount_52) (f_octets := f_octets) (f_descriptions := f_descriptions_8) (f_described := f_described_9) (f_message := f_message_66) (f_size := f_size_65) (f_words := f_words_67) (f_schedule := f_schedule_68) (f_thrown := 0) (f_said := f_said_14) hw) (cwV 0 X.1.2.2.2.2 gX47_203 rfl rfl rfl hX47_octetsOf ⟨Nat.le_of_ble_eq_true rfl, Nat.le_of_ble_eq_true rfl⟩) hc (q0 := 0) rfl rfl hl.1 rfl (Nat.le_of_ble_eq_true rfl) dX47_name_178 ⟨Nat.le_refl 0, Nat.le_refl 0⟩) (fun u H locs hw hH => ?_)
        obtain ⟨f_octets_69, eu⟩ : ∃ z, z = u := ⟨_, rfl⟩
        subst eu
        have hH : kH (dC, dI) cl A s.heap H locs (wX47 ci ad d f_constants f_blanks f_counts f_points f_kept f_hashes_1 f_news_2 f_rounds_3 f_hashed_4 f_groups_5 f_groupOf_6 f_groupCount_7 f_trial_47 f_row_48 f_names_49 x3_18 f_form_50 f_formCount_52 f_octets_69 f_descriptions_8 f_described_9 f_message_66 f_size_65 f_words_67 f_schedule_68 0 f_said_14) := hH
        refine lv_iload hx hb dX47_name_181 (lv_at hl 1 rfl) ?_
        exact k_iret (v := x4_46) X hH (f_hashes_1, f_news_2, f_rounds_3, f_hashed_4, f_groups_5, f_groupOf_6, f_groupCount_7, f_trial_47, f_row_48, f_names_49, x3_18, f_form_50, f_formCount_52, f_octets_69, f_descriptions_8, f_described_9, f_message_66, f_size_65, f_words_67, f_schedule_68, 0, f_said_14) hw rfl rfl dX47_name_183
  · have hw := hw.2 (zL_nle (rfl : r_15.toInt = _) (rfl : x1.toInt = _) (fun z => c_16 (k_lc_le.mpr z)))
    refine lv_iconst (v := (-1)) hx hb dX47_name_18 (by decide) ?_
    exact k_iret (v := (-1)) X hH (f_hashes_1, f_news_2, f_rounds_3, f_hashed_4, f_groups_5, f_groupOf_6, f_groupCount_7, f_trial, f_row, f_names, f_namedBlanks, f_form, f_formCount, f_octets, f_descriptions_8, f_described_9, f_message_10, f_size_11, f_words_12, f_schedule_13, 0, f_said_14) hw rfl rfl dX47_name_19
set_option maxHeartbeats 4000000 in
theorem walkX47_isKept {l : Launch} {dC : Nat → ClassId} {dI : Nat → Nat → Nat} {cl : List vw_C} {ci : Nat} (hc : cl[ci]? = some (RX47, TX47, 27)) {ad : Nat → Nat} {d : Nat → ClassId} {sz : Nat} {f_constants : Nat → Int64} {f_blanks : Nat → Int32} {f_counts : Nat → Int32} {f_points : Nat → Int32} {f_kept : Int32} {f_hashes : Nat → Int64} {f_news : Nat → Int64} {f_rounds : Int32} {f_hashed : Int32} {f_groups : Nat → Int32} {f_groupOf : Nat → Int32} {f_groupCount : Int32} {f_trial : Nat → Int32} {f_row : Nat → Int32} {f_names : Nat → Int32} {f_namedBlanks : Int32} {f_form : Nat → Int32} {f_formCount : Int32} {f_octets : Nat → Int32} {f_descriptions : Nat → Int32} {f_described : Int32} {f_message : Nat → Int32} {f_size : Int32} {f_words : Nat → Int64} {f_schedule : Nat → Int64} {f_thrown : Int32} {f_said : Nat → Int32} {x1 : Int32} {post : Int → Prop} (hw : wpX47_isKept post f_kept.toInt x1.toInt) :
    Met l yX47_isKept (ws_ yX47_isKept cX47_isKept 2 (some .boolean)) ({ frames := 0, cells := 0, slots := 0, locals := 0 } : Room) (kPc (dC, dI) cl (tX47 d) [.ref (ad 0), .int x1] sz (wX47 ci ad d f_constants f_blanks f_counts f_points f_kept f_hashes f_news f_rounds f_hashed f_groups f_groupOf f_groupCount f_trial f_row f_names f_namedBlanks f_form f_formCount f_octets f_descriptions f_described f_message f_size f_words f_schedule f_thrown f_said)) (va_Qi (fun (r : Int32) (_ : Unit) => post r.toInt) (kB (dC, dI) cl (tX47 d) (va_A (wX47 ci ad d f_constants f_blanks f_counts f_points f_kept f_hashes f_news f_rounds f_hashed f_groups f_groupOf f_groupCount f_trial f_row f_names f_namedBlanks f_form f_formCount f_octets f_descriptions f_described f_message f_size f_words f_schedule f_thrown f_said) sz) (fun _ : Unit => (wX47 ci ad d f_constants f_blanks f_counts f_points f_kept f_hashes f_news f_rounds f_hashed f_groups f_groupOf f_groupCount f_trial f_row f_names f_namedBlanks f_form f_formCount f_octets f_descriptions f_described f_message f_size f_words f_schedule f_thrown f_said))) (va_A (wX47 ci ad d f_constants f_blanks f_counts f_points f_kept f_hashes f_news f_rounds f_hashed f_groups f_groupOf f_groupCount f_trial f_row f_names f_namedBlanks f_form f_formCount f_octets f_descriptions f_described f_message f_size f_words f_schedule f_thrown f_said) sz)) 0 0 (va_A (wX47 ci ad d f_constants f_blanks f_counts f_points f_kept f_hashes f_news f_rounds f_hashed f_groups f_groupOf f_groupCount f_trial f_row f_names f_namedBlanks f_form f_formCount f_octets f_descriptions f_described f_message f_size f_words f_schedule f_thrown f_said) sz) := by
  refine k_enter (by decide) (Nat.le_of_ble_eq_true rfl) ?_
  intro p e s m below meth c ls X hsz hH hl
  subst hsz
  generalize va_A (wX47 ci ad d f_constants f_blanks f_counts f_points f_kept f_hashes f_news f_rounds f_hashed f_groups f_groupOf f_groupCount f_trial f_row f_names f_namedBlanks f_form f_formCount f_octets f_descriptions f_described f_message f_size f_words f_schedule f_thrown f_said) s.heap.size = A at hH ⊢
  have hx := X.1.1
  have hb := X.1.2.1
  have hl : lv_has ls 2 [(0, .ref (ad 0)), (1, .int x1)] := hl
  unfold wpX47_isKept at hw
  refine lv_iload_n hx hb dX47_isKept_0 rfl (lv_at hl 1 rfl) ?_
  refine lv_if_lt (tgt := 16) hx hb dX47_isKept_1 (by decide) (fun c_1 => ?_) (fun c_1 => ?_)
  · have hw := hw.1 (z_lt (rfl : x1.toInt = _) (rfl : (0 : Int32).toInt = 0) c_1)
    refine lv_iconst (v := 0) hx hb dX47_isKept_16 (by decide) ?_
    exact k_iret (v := 0) X hH () hw rfl rfl dX47_isKept_17
  · have hw := hw.2 (z_nlt (rfl : x1.toInt = _) (rfl : (0 : Int32).toInt = 0) c_1)
    refine lv_iload_n hx hb dX47_isKept_4 rfl (lv_at hl 1 rfl) ?_
    refine lv_aload_n hx hb dX47_isKept_5 rfl (lv_at hl 0 rfl) ?_
    refine k_get X hH in_X47 0 rfl hc 4 (by decide) q5988 rfl dX47_isKept_6 ?_
    refine lv_icmp_ge (tgt := 16) hx hb dX47_isKept_9 (by decide) (fun c_2 => ?_) (fun c_2 => ?_)
    · have hw := hw.1 (z_le (rfl : f_kept.toInt = _) (rfl : x1.toInt = _) c_2)
      refine lv_iconst (v := 0) hx hb dX47_isKept_16 (by decide) ?_
      exact k_iret (v := 0) X hH () hw rfl rfl dX47_isKept_17
    · have hw := hw.2 (z_nle (rfl : f_kept.toInt = _) (rfl : x1.toInt = _) c_2)
      refine lv_iconst (v := 1) hx hb dX47_isKept_12 (by decide) ?_
      refine lv_goto (tgt := 17) hx hb dX47_isKept_13 (by decide) ?_
      exact k_iret (v := 1) X hH () hw rfl rfl dX47_isKept_17
set_option maxHeartbeats 4000000 in
theorem atX47_becomes_2 {p : Program} {l : Launch} {e : Env} {s : State} {m : MethodId} {args : Array Value} {below : List Frame} {meth : Method} {c : Code} {dC : Nat → ClassId} {dI : Nat → Nat → Nat} {cl : List vw_C} {ci : Nat} (hc : cl[ci]? = some (RX47, TX47, 27)) {ad : Nat → Nat} {d : Nat → ClassId} {A : Nat → Prop} {post : Int → Prop} {f_constants : Nat → Int64} {f_blanks : Nat → Int32} {f_counts : Nat → Int32} {f_points : Nat → Int32} {f_kept : Int32} {f_hashes : Nat → Int64} {f_news : Nat → Int64} {f_rounds : Int32} {f_hashed : Int32} {f_groups : Nat → Int32} {f_groupOf : Nat → Int32} {f_groupCount : Int32} {f_trial : Nat → Int32} {f_row : Nat → Int32} {f_names : Nat → Int32} {f_namedBlanks : Int32} {f_form : Nat → Int32} {f_formCount : Int32} {f_octets : Nat → Int32} {f_descriptions : Nat → Int32} {f_described : Int32} {f_message : Nat → Int32} {f_size : Int32} {f_words : Nat → Int64} {f_schedule : Nat → Int64} {f_thrown : Int32} {f_said : Nat → Int32} (X : kX p s m args meth c cX47_becomes 4 RX47 (some .boolean) (dC, dI) cl (tX47 d)) {K62 : Prop} {K70 : Prop} {x1 : Int32}  (hk62 : K62  → ∀ (H : Heap) (locs : List Loc) (ls : Array Slot), kH (dC, dI) cl A s.heap H locs (wX47 ci ad d f_constants f_blanks f_counts f_points f_kept f_hashes f_news f_rounds f_hashed f_groups f_groupOf f_groupCount f_trial f_row f_names f_namedBlanks f_form f_formCount f_octets f_descriptions f_described f_message f_size f_words f_schedule f_thrown f_said) → lv_has ls 4 [] → W p l e ({ frames := 2, cells := 0, slots := 0, locals := 47 } : Room) s m args below meth c H locs 0 0 (MQ below (va_Qi (fun (r : Int32) (_ : Unit) => post r.toInt) (kB (dC, dI) cl (tX47 d) A (fun _ : Unit => (wX47 ci ad d f_constants f_blanks f_counts f_points f_kept f_hashes f_news f_rounds f_hashed f_groups f_groupOf f_groupCount f_trial f_row f_names f_namedBlanks f_form f_formCount f_octets f_descriptions f_described f_message f_size f_words f_schedule f_thrown f_said))) A) args s 0 0 A) (F0 m 62 ls [])) (hk70 : K70  → ∀ (H : Heap) (locs : List Loc) (ls : Array Slot), kH (dC, dI) cl A s.heap H locs (wX47 ci ad d f_constants f_blanks f_counts f_points f_kept f_hashes f_news f_rounds f_hashed f_groups f_groupOf f_groupCount f_trial f_row f_names f_namedBlanks f_form f_formCount f_octets f_descriptions f_described f_message f_size f_words f_schedule f_thrown f_said) → lv_has ls 4 [] → W p l e ({ frames := 2, cells := 0, slots := 0, locals := 47 } : Room) s m args below meth c H locs 0 0 (MQ below (va_Qi (fun (r : Int32) (_ : Unit) => post r.toInt) (kB (dC, dI) cl (tX47 d) A (fun _ : Unit => (wX47 ci ad d f_constants f_blanks f_counts f_points f_kept f_hashes f_news f_rounds f_hashed f_groups f_groupOf f_groupCount f_trial f_row f_names f_namedBlanks f_form f_formCount f_octets f_descriptions f_described f_message f_size f_words f_schedule f_thrown f_said))) A) args s 0 0 A) (F0 m 70 ls [])) :
    ∀ (nn : Nat) (x2 : Int32), wX47_becomes_2 K62 K70 x1.toInt (zF f_counts) (zF f_points) (zF f_trial) nn x2.toInt → ∀ (H : Heap) (locs : List Loc) (ls : Array Slot), kH (dC, dI) cl A s.heap H locs (wX47 ci ad d f_constants f_blanks f_counts f_points f_kept f_hashes f_news f_rounds f_hashed f_groups f_groupOf f_groupCount f_trial f_row f_names f_namedBlanks f_form f_formCount f_octets f_descriptions f_described f_message f_size f_words f_schedule f_thrown f_said) → lv_has ls 4 [(0, .ref (ad 0)), (1, .int x1), (2, .int x2)] → W p l e ({ frames := 2, cells := 0, slots := 0, locals := 47 } : Room) s m args below meth c H locs 0 0 (MQ below (va_Qi (fun (r : Int32) (_ : Unit) => post r.toInt) (kB (dC, dI) cl (tX47 d) A (fun _ : Unit => (wX47 ci ad d f_constants f_blanks f_counts f_points f_kept f_hashes f_news f_rounds f_hashed f_groups f_groupOf f_groupCount f_trial f_row f_names f_namedBlanks f_form f_formCount f_octets f_descriptions f_described f_message f_size f_words f_schedule f_thrown f_said))) A) args s 0 0 A) (F0 m 2 ls []) := by
  have hx := X.1.1
  have hb := X.1.2.1
  intro nn
  induction nn with
  | zero =>
    intro x2 hw
    exact False.elim hw
  | succ n ih =>
    intro x2 hw H locs ls hH hl
    rw [wX47_becomes_2] at hw
    refine lv_iload_n hx hb dX47_becomes_2 rfl (lv_at hl 2 rfl) ?_
    refine lv_aload_n hx hb dX47_becomes_3 rfl (lv_at hl 0 rfl) ?_
    refine k_get X hH in_X47 0 rfl hc 2 (by decide) q5986 rfl dX47_becomes_4 ?_
    refine lv_bipush (v := 8) hx hb dX47_becomes_7 (by decide) ?_
    refine k_iald X hH 3 2 rfl rfl (by unfold vp_in; decide) dX47_becomes_9 ?_
    have e_1 := z_ld (f := f_counts) (rfl : (8 : Int32).toInt = 8) (by decide)
    refine lv_icmp_ge (tgt := 70) hx hb dX47_becomes_10 (by decide) (fun c_2 => ?_) (fun c_2 => ?_)
    · have hw := hw.1 (z_le e_1 (rfl : x2.toInt = _) c_2)
      exact hk70  hw _ _ ls hH (lv_sub hl [] rfl)
    · have hw := hw.2 (z_nle e_1 (rfl : x2.toInt = _) c_2)
      refine lv_bipush (v := 8) hx hb dX47_becomes_13 (by decide) ?_
      refine lv_iload_n hx hb dX47_becomes_15 rfl (lv_at hl 2 rfl) ?_
      refine k_i0 hH (k_runS (As := [.int 8, .int x2]) (rest := []) X hH.1 hH.2.1 X.2.2.2 (walkX47_at hc (x0 := 8) (x1 := x2) (f_constants := f_constants) (f_blanks := f_blanks) (f_counts := f_counts) (f_points := f_points) (f_kept := f_kept) (f_hashes := f_hashes) (f_news := f_news) (f_rounds := f_rounds) (f_hashed := f_hashed) (f_groups := f_groups) (f_groupOf := f_groupOf) (f_groupCount := f_groupCount) (f_trial := f_trial) (f_row := f_row) (f_names := f_names) (f_namedBlanks := f_namedBlanks) (f_form := f_form) (f_formCount := f_formCount) (f_octets := f_octets) (f_descriptions := f_descriptions) (f_described := f_described) (f_message := f_message) (f_size := f_size) (f_words := f_words) (f_schedule := f_schedule) (f_thrown := f_thrown) (f_said := f_said) hw) (va_cwS 2 X.1.2.2.2.2 gX47_245 rfl rfl rfl hX47_at ⟨Nat.le_of_ble_eq_true rfl, Nat.le_of_ble_eq_true rfl⟩) rfl hl.1 rfl (Nat.le_of_ble_eq_true rfl) dX47_becomes_16 ⟨Nat.le_refl 0, Nat.le_refl 0⟩) (fun r_3 _ H locs hw hH => ?_)
      have hH : kH (dC, dI) cl A s.heap H locs (wX47 ci ad d f_constants f_blanks f_counts f_points f_kept f_hashes f_news f_rounds f_hashed f_groups f_groupOf f_groupCount f_trial f_row f_names f_namedBlanks f_form f_formCount f_octets f_descriptions f_described f_message f_size f_words f_schedule f_thrown f_said) := hH
      refine lv_istore_n (lv' := [(3, .int r_3), (0, .ref (ad 0)), (1, .int x1), (2, .int x2)]) hx hb dX47_becomes_19 rfl hl (by decide) rfl (fun ls hl => ?_)
      refine lv_aload_n hx hb dX47_becomes_20 rfl (lv_at hl 1 rfl) ?_
      refine lv_iload_n hx hb dX47_becomes_21 rfl (lv_at hl 2 rfl) ?_
      refine lv_aload_n hx hb dX47_becomes_22 rfl (lv_at hl 1 rfl) ?_
      refine lv_aload_n hx hb dX47_becomes_23 rfl (lv_at hl 1 rfl) ?_
      refine k_get X hH in_X47 0 rfl hc 3 (by decide) q5987 rfl dX47_becomes_24 ?_
      refine lv_iload_n hx hb dX47_becomes_27 rfl (lv_at hl 0 rfl) ?_
      have hq_4 := hw.1
      have hw := hw.2
      refine k_iald X hH 4 3 rfl rfl (z_in (rfl : r_3.toInt = _) hq_4) dX47_becomes_28 ?_
      have e_5 := z_ld (f := f_points) (rfl : r_3.toInt = _) hq_4.1
      refine k_i0 hH (k_runV (As := [.int (f_points r_3.toNatClampNeg)]) (rest := [.int x1, .ref (ad 0)]) X hH.1 hH.2.1 X.2.2.2 (walkX47_numbered hc (x1 := (f_points r_3.toNatClampNeg)) (f_constants := f_constants) (f_blanks := f_blanks) (f_counts := f_counts) (f_points := f_points) (f_kept := f_kept) (f_hashes := f_hashes) (f_news := f_news) (f_rounds := f_rounds) (f_hashed := f_hashed) (f_groups := f_groups) (f_groupOf := f_groupOf) (f_groupCount := f_groupCount) (f_trial := f_trial) (f_row := f_row) (f_names := f_names) (f_namedBlanks := f_namedBlanks) (f_form := f_form) (f_formCount := f_formCount) (f_octets := f_octets) (f_descriptions := f_descriptions) (f_described := f_described) (f_message := f_message) (f_size := f_size) (f_words := f_words) (f_schedule := f_schedule) (f_thrown := f_thrown) (f_said := f_said) (by rw [show (f_points r_3.toNatClampNeg : Int32).toInt = _ from e_5]; exact hw)) (cwV 1 X.1.2.2.2.2 gX47_300 rfl rfl rfl hX47_numbered ⟨Nat.le_of_ble_eq_true rfl, Nat.le_of_ble_eq_true rfl⟩) hc (q0 := 0) rfl rfl hl.1 rfl (Nat.le_of_ble_eq_true rfl) dX47_becomes_29 ⟨Nat.le_refl 0, Nat.le_refl 0⟩) (fun r_6 _ H locs hw hH => ?_)
      have hH : kH (dC, dI) cl A s.heap H locs (wX47 ci ad d f_constants f_blanks f_counts f_points f_kept f_hashes f_news f_rounds f_hashed f_groups f_groupOf f_groupCount f_trial f_row f_names f_namedBlanks f_form f_formCount f_octets f_descriptions f_described f_message f_size f_words f_schedule f_thrown f_said) := hH
      refine lv_aload_n hx hb dX47_becomes_32 rfl (lv_at hl 1 rfl) ?_
      refine lv_aload_n hx hb dX47_becomes_33 rfl (lv_at hl 1 rfl) ?_
      refine k_get X hH in_X47 0 rfl hc 3 (by decide) q5987 rfl dX47_becomes_34 ?_
      refine lv_iload_n hx hb dX47_becomes_37 rfl (lv_at hl 0 rfl) ?_
      refine lv_iconst (v := 1) hx hb dX47_becomes_38 (by decide) ?_
      refine lv_iadd hx hb dX47_becomes_39 ?_
      have e_7 := z_add (z_m (rfl : r_3.toInt = _)) (z_m (rfl : (1 : Int32).toInt = 1))
      have hq_8 := hw.1
      have hw := hw.2
      have e_9 := z_xi e_7 hq_8 (by decide)
      refine k_iald X hH 4 3 rfl rfl (z_in e_9 hq_8) dX47_becomes_40 ?_
      have e_10 := z_ld (f := f_points) e_9 hq_8.1
      refine k_i0 hH (k_runV (As := [.int (f_points (r_3 + 1).toNatClampNeg)]) (rest := [.int r_6, .int x1, .ref (ad 0)]) X hH.1 hH.2.1 X.2.2.2 (walkX47_numbered hc (x1 := (f_points (r_3 + 1).toNatClampNeg)) (f_constants := f_constants) (f_blanks := f_blanks) (f_counts := f_counts) (f_points := f_points) (f_kept := f_kept) (f_hashes := f_hashes) (f_news := f_news) (f_rounds := f_rounds) (f_hashed := f_hashed) (f_groups := f_groups) (f_groupOf := f_groupOf) (f_groupCount := f_groupCount) (f_trial := f_trial) (f_row := f_row) (f_names := f_names) (f_namedBlanks := f_namedBlanks) (f_form := f_form) (f_formCount := f_formCount) (f_octets := f_octets) (f_descriptions := f_descriptions) (f_described := f_described) (f_message := f_message) (f_size := f_size) (f_words := f_words) (f_schedule := f_schedule) (f_thrown := f_thrown) (f_said := f_said) (by rw [show (f_points (r_3 + 1).toNatClampNeg : Int32).toInt = _ from e_10]; exact hw)) (cwV 1 X.1.2.2.2.2 gX47_300 rfl rfl rfl hX47_numbered ⟨Nat.le_of_ble_eq_true rfl, Nat.le_of_ble_eq_true rfl⟩) hc (q0 := 0) rfl rfl hl.1 rfl (Nat.le_of_ble_eq_true rfl) dX47_becomes_41 ⟨Nat.le_refl 0, Nat.le_refl 0⟩) (fun r_11 _ H locs hw hH => ?_)
      have hH : kH (dC, dI) cl A s.heap H locs (wX47 ci ad d f_constants f_blanks f_counts f_points f_kept f_hashes f_news f_rounds f_hashed f_groups f_groupOf f_groupCount f_trial f_row f_names f_namedBlanks f_form f_formCount f_octets f_descriptions f_described f_message f_size f_words f_schedule f_thrown f_said) := hH
      refine lv_aload_n hx hb dX47_becomes_44 rfl (lv_at hl 1 rfl) ?_
      refine lv_aload_n hx hb dX47_becomes_45 rfl (lv_at hl 1 rfl) ?_
      refine k_get X hH in_X47 0 rfl hc 3 (by decide) q5987 rfl dX47_becomes_46 ?_
      refine lv_iload_n hx hb dX47_becomes_49 rfl (lv_at hl 0 rfl) ?_
      refine lv_iconst (v := 2) hx hb dX47_becomes_50 (by decide) ?_
      refine lv_iadd hx hb dX47_becomes_51 ?_
      have e_12 := z_add (z_m (rfl : r_3.toInt = _)) (z_m (rfl : (2 : Int32).toInt = 2))
      have hq_13 := hw.1
      have hw := hw.2
      have e_14 := z_xi e_12 hq_13 (by decide)
      refine k_iald X hH 4 3 rfl rfl (z_in e_14 hq_13) dX47_becomes_52 ?_
      have e_15 := z_ld (f := f_points) e_14 hq_13.1
      refine k_i0 hH (k_runV (As := [.int (f_points (r_3 + 2).toNatClampNeg)]) (rest := [.int r_11, .int r_6, .int x1, .ref (ad 0)]) X hH.1 hH.2.1 X.2.2.2 (walkX47_numbered hc (x1 := (f_points (r_3 + 2).toNatClampNeg)) (f_constants := f_constants) (f_blanks := f_blanks) (f_counts := f_counts) (f_points := f_points) (f_kept := f_kept) (f_hashes := f_hashes) (f_news := f_news) (f_rounds := f_rounds) (f_hashed := f_hashed) (f_groups := f_groups) (f_groupOf := f_groupOf) (f_groupCount := f_groupCount) (f_trial := f_trial) (f_row := f_row) (f_names := f_names) (f_namedBlanks := f_namedBlanks) (f_form := f_form) (f_formCount := f_formCount) (f_octets := f_octets) (f_descriptions := f_descriptions) (f_described := f_described) (f_message := f_message) (f_size := f_size) (f_words := f_words) (f_schedule := f_schedule) (f_thrown := f_thrown) (f_said := f_said) (by rw [show (f_points (r_3 + 2).toNatClampNeg : Int32).toInt = _ from e_15]; exact hw)) (cwV 1 X.1.2.2.2.2 gX47_300 rfl rfl rfl hX47_numbered ⟨Nat.le_of_ble_eq_true rfl, Nat.le_of_ble_eq_true rfl⟩) hc (q0 := 0) rfl rfl hl.1 rfl (Nat.le_of_ble_eq_true rfl) dX47_becomes_53 ⟨Nat.le_refl 0, Nat.le_refl 0⟩) (fun r_16 _ H locs hw hH => ?_)
      have hH : kH (dC, dI) cl A s.heap H locs (wX47 ci ad d f_constants f_blanks f_counts f_points f_kept f_hashes f_news f_rounds f_hashed f_groups f_groupOf f_groupCount f_trial f_row f_names f_namedBlanks f_form f_formCount f_octets f_descriptions f_described f_message f_size f_words f_schedule f_thrown f_said) := hH
      refine k_i0 hH (k_runV (As := [.int x1, .int r_6, .int r_11, .int r_16]) (rest := []) X hH.1 hH.2.1 X.2.2.2 (walkX47_find hc (x1 := x1) (x2 := r_6) (x3 := r_11) (x4 := r_16) (f_constants := f_constants) (f_blanks := f_blanks) (f_counts := f_counts) (f_points := f_points) (f_kept := f_kept) (f_hashes := f_hashes) (f_news := f_news) (f_rounds := f_rounds) (f_hashed := f_hashed) (f_groups := f_groups) (f_groupOf := f_groupOf) (f_groupCount := f_groupCount) (f_trial := f_trial) (f_row := f_row) (f_names := f_names) (f_namedBlanks := f_namedBlanks) (f_form := f_form) (f_formCount := f_formCount) (f_octets := f_octets) (f_descriptions := f_descriptions) (f_described := f_described) (f_message := f_message) (f_size := f_size) (f_words := f_words) (f_schedule := f_schedule) (f_thrown := f_thrown) (f_said := f_said) hw) (cwV 4 X.1.2.2.2.2 gX47_253 rfl rfl rfl hX47_find ⟨Nat.le_of_ble_eq_true rfl, Nat.le_of_ble_eq_true rfl⟩) hc (q0 := 0) rfl rfl hl.1 rfl (Nat.le_of_ble_eq_true rfl) dX47_becomes_56 ⟨Nat.le_refl 0, Nat.le_refl 0⟩) (fun r_17 _ H locs hw hH => ?_)
      have hH : kH (dC, dI) cl A s.heap H locs (wX47 ci ad d f_constants f_blanks f_counts f_points f_kept f_hashes f_news f_rounds f_hashed f_groups f_groupOf f_groupCount f_trial f_row f_names f_namedBlanks f_form f_formCount f_octets f_descriptions f_described f_message f_size f_words f_schedule f_thrown f_said) := hH
      refine lv_if_ge (tgt := 64) hx hb dX47_becomes_59 (by decide) (fun c_18 => ?_) (fun c_18 => ?_)
      · have hw := hw.1 (z_le (rfl : (0 : Int32).toInt = 0) (rfl : r_17.toInt = _) c_18)
        have hq_20 := hw.1
        have hw := hw.2
        obtain ⟨x2_19, ex2_19⟩ : ∃ y : Int32, y = x2 + 1 := ⟨_, rfl⟩
        have hw := hw x2_19.toInt (by rw [ex2_19]; exact (z_x (z_add (z_m (rfl : x2.toInt = _)) (z_m (rfl : (1 : Int32).toInt = 1))) hq_20))
        refine lv_iinc (v := x2_19) (lv' := [(2, .int x2_19), (3, .int r_3), (0, .ref (ad 0)), (1, .int x1)]) hx hb dX47_becomes_64 hl (k := 3) rfl (by rw [ex2_19]; rfl) (by decide) rfl (fun ls hl => ?_)
        refine lv_goto (tgt := 2) hx hb dX47_becomes_67 (by decide) ?_
        exact ih x2_19 hw _ _ ls hH (lv_sub hl [2, 3, 0] rfl)
      · have hw := hw.2 (z_nle (rfl : (0 : Int32).toInt = 0) (rfl : r_17.toInt = _) c_18)
        exact hk62  hw _ _ ls hH (lv_sub hl [] rfl)
set_option maxHeartbeats 4000000 in
theorem walkX47_becomes {l : Launch} {dC : Nat → ClassId} {dI : Nat → Nat → Nat} {cl : List vw_C} {ci : Nat} (hc : cl[ci]? = some (RX47, TX47, 27)) {ad : Nat → Nat} {d : Nat → ClassId} {sz : Nat} {f_constants : Nat → Int64} {f_blanks : Nat → Int32} {f_counts : Nat → Int32} {f_points : Nat → Int32} {f_kept : Int32} {f_hashes : Nat → Int64} {f_news : Nat → Int64} {f_rounds : Int32} {f_hashed : Int32} {f_groups : Nat → Int32} {f_groupOf : Nat → Int32} {f_groupCount : Int32} {f_trial : Nat → Int32} {f_row : Nat → Int32} {f_names : Nat → Int32} {f_namedBlanks : Int32} {f_form : Nat → Int32} {f_formCount : Int32} {f_octets : Nat → Int32} {f_descriptions : Nat → Int32} {f_described : Int32} {f_message : Nat → Int32} {f_size : Int32} {f_words : Nat → Int64} {f_schedule : Nat → Int64} {f_thrown : Int32} {f_said : Nat → Int32} {x1 : Int32} {post : Int → Prop} (hw : wpX47_becomes post (zF f_counts) (zF f_points) (zF f_trial) x1.toInt) :
    Met l yX47_becomes (ws_ yX47_becomes cX47_becomes 4 (some .boolean)) ({ frames := 2, cells := 0, slots := 0, locals := 47 } : Room) (kPc (dC, dI) cl (tX47 d) [.ref (ad 0), .int x1] sz (wX47 ci ad d f_constants f_blanks f_counts f_points f_kept f_hashes f_news f_rounds f_hashed f_groups f_groupOf f_groupCount f_trial f_row f_names f_namedBlanks f_form f_formCount f_octets f_descriptions f_described f_message f_size f_words f_schedule f_thrown f_said)) (va_Qi (fun (r : Int32) (_ : Unit) => post r.toInt) (kB (dC, dI) cl (tX47 d) (va_A (wX47 ci ad d f_constants f_blanks f_counts f_points f_kept f_hashes f_news f_rounds f_hashed f_groups f_groupOf f_groupCount f_trial f_row f_names f_namedBlanks f_form f_formCount f_octets f_descriptions f_described f_message f_size f_words f_schedule f_thrown f_said) sz) (fun _ : Unit => (wX47 ci ad d f_constants f_blanks f_counts f_points f_kept f_hashes f_news f_rounds f_hashed f_groups f_groupOf f_groupCount f_trial f_row f_names f_namedBlanks f_form f_formCount f_octets f_descriptions f_described f_message f_size f_words f_schedule f_thrown f_said))) (va_A (wX47 ci ad d f_constants f_blanks f_counts f_points f_kept f_hashes f_news f_rounds f_hashed f_groups f_groupOf f_groupCount f_trial f_row f_names f_namedBlanks f_form f_formCount f_octets f_descriptions f_described f_message f_size f_words f_schedule f_thrown f_said) sz)) 0 0 (va_A (wX47 ci ad d f_constants f_blanks f_counts f_points f_kept f_hashes f_news f_rounds f_hashed f_groups f_groupOf f_groupCount f_trial f_row f_names f_namedBlanks f_form f_formCount f_octets f_descriptions f_described f_message f_size f_words f_schedule f_thrown f_said) sz) := by
  refine k_enter (by decide) (Nat.le_of_ble_eq_true rfl) ?_
  intro p e s m below meth c ls X hsz hH hl
  subst hsz
  generalize va_A (wX47 ci ad d f_constants f_blanks f_counts f_points f_kept f_hashes f_news f_rounds f_hashed f_groups f_groupOf f_groupCount f_trial f_row f_names f_namedBlanks f_form f_formCount f_octets f_descriptions f_described f_message f_size f_words f_schedule f_thrown f_said) s.heap.size = A at hH ⊢
  have hx := X.1.1
  have hb := X.1.2.1
  have hl : lv_has ls 4 [(0, .ref (ad 0)), (1, .int x1)] := hl
  unfold wpX47_becomes at hw
  refine lv_iconst (v := 0) hx hb dX47_becomes_0 (by decide) ?_
  refine lv_istore_n (lv' := [(2, .int 0), (0, .ref (ad 0)), (1, .int x1)]) hx hb dX47_becomes_1 rfl hl (by decide) rfl (fun ls hl => ?_)
  obtain ⟨fu, hw⟩ := hw
  refine atX47_becomes_2 hc X ?_ ?_ fu 0 hw _ _ ls hH (lv_sub hl [1, 2, 0] rfl)
  · intro hw H locs ls hH hl
    refine lv_iconst (v := 0) hx hb dX47_becomes_62 (by decide) ?_
    exact k_iret (v := 0) X hH () hw rfl rfl dX47_becomes_63
  · intro hw H locs ls hH hl
    refine lv_iconst (v := 1) hx hb dX47_becomes_70 (by decide) ?_
    exact k_iret (v := 1) X hH () hw rfl rfl dX47_becomes_71
set_option maxHeartbeats 4000000 in
theorem atX47_ways_61 {p : Program} {l : Launch} {e : Env} {s : State} {m : MethodId} {args : Array Value} {below : List Frame} {meth : Method} {c : Code} {dC : Nat → ClassId} {dI : Nat → Nat → Nat} {cl : List vw_C} {ci : Nat} (hc : cl[ci]? = some (RX47, TX47, 27)) {ad : Nat → Nat} {d : Nat → ClassId} {A : Nat → Prop} {post : Int → (Int → Int) → Int → Prop} {f_constants : Nat → Int64} {f_blanks : Nat → Int32} {f_counts : Nat → Int32} {f_points : Nat → Int32} {f_kept : Int32} {f_hashes : Nat → Int64} {f_news : Nat → Int64} {f_rounds : Int32} {f_hashed : Int32} {f_groups : Nat → Int32} {f_groupOf : Nat → Int32} {f_groupCount : Int32} {f_row : Nat → Int32} {f_names : Nat → Int32} {f_namedBlanks : Int32} {f_form : Nat → Int32} {f_formCount : Int32} {f_octets : Nat → Int32} {f_descriptions : Nat → Int32} {f_described : Int32} {f_message : Nat → Int32} {f_size : Int32} {f_words : Nat → Int64} {f_schedule : Nat → Int64} {f_said : Nat → Int32} (X : kX p s m args meth c cX47_ways 5 RX47 (some .int) (dC, dI) cl (tX47 d)) {K92 : Int → (Int → Int) → Prop} {x1 : Int32} {x2 : Int32} {f_thrown : Int32} (hk92 : ∀ (x3 : Int32) (f_trial : Nat → Int32), K92 x3.toInt (zF f_trial) → ∀ (H : Heap) (locs : List Loc) (ls : Array Slot), kH (dC, dI) cl A s.heap H locs (wX47 ci ad d f_constants f_blanks f_counts f_points f_kept f_hashes f_news f_rounds f_hashed f_groups f_groupOf f_groupCount f_trial f_row f_names f_namedBlanks f_form f_formCount f_octets f_descriptions f_described f_message f_size f_words f_schedule f_thrown f_said) → lv_has ls 5 [(3, .int x3)] → W p l e ({ frames := 3, cells := 0, slots := 0, locals := 70 } : Room) s m args below meth c H locs 0 0 (MQ below (va_Qi (fun (r : Int32) (u : (Nat → Int32) × Int32) => post r.toInt (zF (u.1)) (u.2).toInt) (kB (dC, dI) cl (tX47 d) A (fun u : (Nat → Int32) × Int32 => (wX47 ci ad d f_constants f_blanks f_counts f_points f_kept f_hashes f_news f_rounds f_hashed f_groups f_groupOf f_groupCount (u.1) f_row f_names f_namedBlanks f_form f_formCount f_octets f_descriptions f_described f_message f_size f_words f_schedule (u.2) f_said))) A) args s 0 0 A) (F0 m 92 ls [])) :
    ∀ (nn : Nat) (x3 : Int32) (x4 : Int32) (f_trial : Nat → Int32), wX47_ways_61 K92 x1.toInt x2.toInt (zF f_counts) (zF f_points) nn x3.toInt x4.toInt (zF f_trial) → ∀ (H : Heap) (locs : List Loc) (ls : Array Slot), kH (dC, dI) cl A s.heap H locs (wX47 ci ad d f_constants f_blanks f_counts f_points f_kept f_hashes f_news f_rounds f_hashed f_groups f_groupOf f_groupCount f_trial f_row f_names f_namedBlanks f_form f_formCount f_octets f_descriptions f_described f_message f_size f_words f_schedule f_thrown f_said) → lv_has ls 5 [(0, .ref (ad 0)), (1, .int x1), (2, .int x2), (3, .int x3), (4, .int x4)] → W p l e ({ frames := 3, cells := 0, slots := 0, locals := 70 } : Room) s m args below meth c H locs 0 0 (MQ below (va_Qi (fun (r : Int32) (u : (Nat → Int32) × Int32) => post r.toInt (zF (u.1)) (u.2).toInt) (kB (dC, dI) cl (tX47 d) A (fun u : (Nat → Int32) × Int32 => (wX47 ci ad d f_constants f_blanks f_counts f_points f_kept f_hashes f_news f_rounds f_hashed f_groups f_groupOf f_groupCount (u.1) f_row f_names f_namedBlanks f_form f_formCount f_octets f_descriptions f_described f_message f_size f_words f_schedule (u.2) f_said))) A) args s 0 0 A) (F0 m 61 ls []) := by
  have hx := X.1.1
  have hb := X.1.2.1
  intro nn
  induction nn with
  | zero =>
    intro x3 x4 f_trial hw
    exact False.elim hw
  | succ n ih =>
    intro x3 x4 f_trial hw H locs ls hH hl
    rw [wX47_ways_61] at hw
    refine lv_iload hx hb dX47_ways_61 (lv_at hl 4 rfl) ?_
    refine lv_if_eq (tgt := 92) hx hb dX47_ways_63 (by decide) (fun c_12 => ?_) (fun c_12 => ?_)
    · have hw := hw.1 (z_eq (rfl : x4.toInt = _) (rfl : (0 : Int32).toInt = 0) c_12)
      exact hk92 x3 f_trial hw _ _ ls hH (lv_sub hl [3] rfl)
    · have hw := hw.2 (z_neq (rfl : x4.toInt = _) (rfl : (0 : Int32).toInt = 0) c_12)
      refine lv_iload_n hx hb dX47_ways_66 rfl (lv_at hl 3 rfl) ?_
      refine lv_aload_n hx hb dX47_ways_67 rfl (lv_at hl 0 rfl) ?_
      refine lv_iload_n hx hb dX47_ways_68 rfl (lv_at hl 1 rfl) ?_
      refine k_i0 hH (k_runV (As := [.int x1]) (rest := [.int x3]) X hH.1 hH.2.1 X.2.2.2 (walkX47_becomes hc (x1 := x1) (f_constants := f_constants) (f_blanks := f_blanks) (f_counts := f_counts) (f_points := f_points) (f_kept := f_kept) (f_hashes := f_hashes) (f_news := f_news) (f_rounds := f_rounds) (f_hashed := f_hashed) (f_groups := f_groups) (f_groupOf := f_groupOf) (f_groupCount := f_groupCount) (f_trial := f_trial) (f_row := f_row) (f_names := f_names) (f_namedBlanks := f_namedBlanks) (f_form := f_form) (f_formCount := f_formCount) (f_octets := f_octets) (f_descriptions := f_descriptions) (f_described := f_described) (f_message := f_message) (f_size := f_size) (f_words := f_words) (f_schedule := f_schedule) (f_thrown := f_thrown) (f_said := f_said) hw) (cwV 1 X.1.2.2.2.2 gX47_343 rfl rfl rfl hX47_becomes ⟨Nat.le_of_ble_eq_true rfl, Nat.le_of_ble_eq_true rfl⟩) hc (q0 := 0) rfl rfl hl.1 rfl (Nat.le_of_ble_eq_true rfl) dX47_ways_69 ⟨Nat.le_refl 0, Nat.le_refl 0⟩) (fun r_13 _ H locs hw hH => ?_)
      have hH : kH (dC, dI) cl A s.heap H locs (wX47 ci ad d f_constants f_blanks f_counts f_points f_kept f_hashes f_news f_rounds f_hashed f_groups f_groupOf f_groupCount f_trial f_row f_names f_namedBlanks f_form f_formCount f_octets f_descriptions f_described f_message f_size f_words f_schedule f_thrown f_said) := hH
      refine lv_if_eq (tgt := 79) hx hb dX47_ways_72 (by decide) (fun c_14 => ?_) (fun c_14 => ?_)
      · have hw := hw.1 (z_eq (rfl : r_13.toInt = _) (rfl : (0 : Int32).toInt = 0) c_14)
        refine lv_iconst (v := 0) hx hb dX47_ways_79 (by decide) ?_
        refine lv_iadd hx hb dX47_ways_80 ?_
        have e_15 := z_add (z_m (rfl : x3.toInt = _)) (z_m (rfl : (0 : Int32).toInt = 0))
        have hq_16 := hw.1
        have hw := hw.2
        have e_17 := z_x e_15 hq_16
        refine lv_topi (fun x3_18 ex3_18 => ?_)
        have hw := hw x3_18.toInt (by rw [ex3_18]; exact e_17)
        refine lv_istore_n (lv' := [(3, .int x3_18), (0, .ref (ad 0)), (1, .int x1), (2, .int x2), (4, .int x4)]) hx hb dX47_ways_81 rfl hl (by decide) rfl (fun ls hl => ?_)
        refine lv_aload_n hx hb dX47_ways_82 rfl (lv_at hl 1 rfl) ?_
        refine lv_iload_n hx hb dX47_ways_83 rfl (lv_at hl 3 rfl) ?_
        refine k_i0 hH (k_runV (As := [.int x2]) (rest := []) X hH.1 hH.2.1 X.2.2.2 (walkX47_turn hc (x1 := x2) (f_constants := f_constants) (f_blanks := f_blanks) (f_counts := f_counts) (f_points := f_points) (f_kept := f_kept) (f_hashes := f_hashes) (f_news := f_news) (f_rounds := f_rounds) (f_hashed := f_hashed) (f_groups := f_groups) (f_groupOf := f_groupOf) (f_groupCount := f_groupCount) (f_trial := f_trial) (f_row := f_row) (f_names := f_names) (f_namedBlanks := f_namedBlanks) (f_form := f_form) (f_formCount := f_formCount) (f_octets := f_octets) (f_descriptions := f_descriptions) (f_described := f_described) (f_message := f_message) (f_size := f_size) (f_words := f_words) (f_schedule := f_schedule) (f_thrown := f_thrown) (f_said := f_said) hw) (cwV 1 X.1.2.2.2.2 gX47_328 rfl rfl rfl hX47_turn ⟨Nat.le_of_ble_eq_true rfl, Nat.le_of_ble_eq_true rfl⟩) hc (q0 := 0) rfl rfl hl.1 rfl (Nat.le_of_ble_eq_true rfl) dX47_ways_84 ⟨Nat.le_refl 0, Nat.le_refl 0⟩) (fun r_19 u H locs hw hH => ?_)
        obtain ⟨f_trial_20, eu⟩ : ∃ z, z = u := ⟨_, rfl⟩
        subst eu
        have hH : kH (dC, dI) cl A s.heap H locs (wX47 ci ad d f_constants f_blanks f_counts f_points f_kept f_hashes f_news f_rounds f_hashed f_groups f_groupOf f_groupCount f_trial_20 f_row f_names f_namedBlanks f_form f_formCount f_octets f_descriptions f_described f_message f_size f_words f_schedule f_thrown f_said) := hH
        refine lv_istore (lv' := [(4, .int r_19), (3, .int x3_18), (0, .ref (ad 0)), (1, .int x1), (2, .int x2)]) hx hb dX47_ways_87 hl (by decide) rfl (fun ls hl => ?_)
        refine lv_goto (tgt := 61) hx hb dX47_ways_89 (by decide) ?_
        exact ih x3_18 r_19 f_trial_20 hw _ _ ls hH (lv_sub hl [2, 3, 4, 1, 0] rfl)
      · have hw := hw.2 (z_neq (rfl : r_13.toInt = _) (rfl : (0 : Int32).toInt = 0) c_14)
        refine lv_iconst (v := 1) hx hb dX47_ways_75 (by decide) ?_
        refine lv_goto (tgt := 80) hx hb dX47_ways_76 (by decide) ?_
        refine lv_iadd hx hb dX47_ways_80 ?_
        have e_21 := z_add (z_m (rfl : x3.toInt = _)) (z_m (rfl : (1 : Int32).toInt = 1))
        have hq_22 := hw.1
        have hw := hw.2
        have e_23 := z_x e_21 hq_22
        refine lv_topi (fun x3_24 ex3_24 => ?_)
        have hw := hw x3_24.toInt (by rw [ex3_24]; exact e_23)
        refine lv_istore_n (lv' := [(3, .int x3_24), (0, .ref (ad 0)), (1, .int x1), (2, .int x2), (4, .int x4)]) hx hb dX47_ways_81 rfl hl (by decide) rfl (fun ls hl => ?_)
        refine lv_aload_n hx hb dX47_ways_82 rfl (lv_at hl 1 rfl) ?_
        refine lv_iload_n hx hb dX47_ways_83 rfl (lv_at hl 3 rfl) ?_
        refine k_i0 hH (k_runV (As := [.int x2]) (rest := []) X hH.1 hH.2.1 X.2.2.2 (walkX47_turn hc (x1 := x2) (f_constants := f_constants) (f_blanks := f_blanks) (f_counts := f_counts) (f_points := f_points) (f_kept := f_kept) (f_hashes := f_hashes) (f_news := f_news) (f_rounds := f_rounds) (f_hashed := f_hashed) (f_groups := f_groups) (f_groupOf := f_groupOf) (f_groupCount := f_groupCount) (f_trial := f_trial) (f_row := f_row) (f_names := f_names) (f_namedBlanks := f_namedBlanks) (f_form := f_form) (f_formCount := f_formCount) (f_octets := f_octets) (f_descriptions := f_descriptions) (f_described := f_described) (f_message := f_message) (f_size := f_size) (f_words := f_words) (f_schedule := f_schedule) (f_thrown := f_thrown) (f_said := f_said) hw) (cwV 1 X.1.2.2.2.2 gX47_328 rfl rfl rfl hX47_turn ⟨Nat.le_of_ble_eq_true rfl, Nat.le_of_ble_eq_true rfl⟩) hc (q0 := 0) rfl rfl hl.1 rfl (Nat.le_of_ble_eq_true rfl) dX47_ways_84 ⟨Nat.le_refl 0, Nat.le_refl 0⟩) (fun r_25 u H locs hw hH => ?_)
        obtain ⟨f_trial_26, eu⟩ : ∃ z, z = u := ⟨_, rfl⟩
        subst eu
        have hH : kH (dC, dI) cl A s.heap H locs (wX47 ci ad d f_constants f_blanks f_counts f_points f_kept f_hashes f_news f_rounds f_hashed f_groups f_groupOf f_groupCount f_trial_26 f_row f_names f_namedBlanks f_form f_formCount f_octets f_descriptions f_described f_message f_size f_words f_schedule f_thrown f_said) := hH
        refine lv_istore (lv' := [(4, .int r_25), (3, .int x3_24), (0, .ref (ad 0)), (1, .int x1), (2, .int x2)]) hx hb dX47_ways_87 hl (by decide) rfl (fun ls hl => ?_)
        refine lv_goto (tgt := 61) hx hb dX47_ways_89 (by decide) ?_
        exact ih x3_24 r_25 f_trial_26 hw _ _ ls hH (lv_sub hl [2, 3, 4, 1, 0] rfl)
set_option maxHeartbeats 4000000 in
theorem walkX47_ways {l : Launch} {dC : Nat → ClassId} {dI : Nat → Nat → Nat} {cl : List vw_C} {ci : Nat} (hc : cl[ci]? = some (RX47, TX47, 27)) {ad : Nat → Nat} {d : Nat → ClassId} {sz : Nat} {f_constants : Nat → Int64} {f_blanks : Nat → Int32} {f_counts : Nat → Int32} {f_points : Nat → Int32} {f_kept : Int32} {f_hashes : Nat → Int64} {f_news : Nat → Int64} {f_rounds : Int32} {f_hashed : Int32} {f_groups : Nat → Int32} {f_groupOf : Nat → Int32} {f_groupCount : Int32} {f_trial : Nat → Int32} {f_row : Nat → Int32} {f_names : Nat → Int32} {f_namedBlanks : Int32} {f_form : Nat → Int32} {f_formCount : Int32} {f_octets : Nat → Int32} {f_descriptions : Nat → Int32} {f_described : Int32} {f_message : Nat → Int32} {f_size : Int32} {f_words : Nat → Int64} {f_schedule : Nat → Int64} {f_thrown : Int32} {f_said : Nat → Int32} {x1 : Int32} {post : Int → (Int → Int) → Int → Prop} (hw : wpX47_ways post (zF f_blanks) (zF f_counts) (zF f_points) f_kept.toInt (zF f_trial) x1.toInt) :
    Met l yX47_ways (ws_ yX47_ways cX47_ways 5 (some .int)) ({ frames := 3, cells := 0, slots := 0, locals := 70 } : Room) (kPc (dC, dI) cl (tX47 d) [.ref (ad 0), .int x1] sz (wX47 ci ad d f_constants f_blanks f_counts f_points f_kept f_hashes f_news f_rounds f_hashed f_groups f_groupOf f_groupCount f_trial f_row f_names f_namedBlanks f_form f_formCount f_octets f_descriptions f_described f_message f_size f_words f_schedule f_thrown f_said)) (va_Qi (fun (r : Int32) (u : (Nat → Int32) × Int32) => post r.toInt (zF (u.1)) (u.2).toInt) (kB (dC, dI) cl (tX47 d) (va_A (wX47 ci ad d f_constants f_blanks f_counts f_points f_kept f_hashes f_news f_rounds f_hashed f_groups f_groupOf f_groupCount f_trial f_row f_names f_namedBlanks f_form f_formCount f_octets f_descriptions f_described f_message f_size f_words f_schedule f_thrown f_said) sz) (fun u : (Nat → Int32) × Int32 => (wX47 ci ad d f_constants f_blanks f_counts f_points f_kept f_hashes f_news f_rounds f_hashed f_groups f_groupOf f_groupCount (u.1) f_row f_names f_namedBlanks f_form f_formCount f_octets f_descriptions f_described f_message f_size f_words f_schedule (u.2) f_said))) (va_A (wX47 ci ad d f_constants f_blanks f_counts f_points f_kept f_hashes f_news f_rounds f_hashed f_groups f_groupOf f_groupCount f_trial f_row f_names f_namedBlanks f_form f_formCount f_octets f_descriptions f_described f_message f_size f_words f_schedule f_thrown f_said) sz)) 0 0 (va_A (wX47 ci ad d f_constants f_blanks f_counts f_points f_kept f_hashes f_news f_rounds f_hashed f_groups f_groupOf f_groupCount f_trial f_row f_names f_namedBlanks f_form f_formCount f_octets f_descriptions f_described f_message f_size f_words f_schedule f_thrown f_said) sz) := by
  refine k_enter (by decide) (Nat.le_of_ble_eq_true rfl) ?_
  intro p e s m below meth c ls X hsz hH hl
  subst hsz
  generalize va_A (wX47 ci ad d f_constants f_blanks f_counts f_points f_kept f_hashes f_news f_rounds f_hashed f_groups f_groupOf f_groupCount f_trial f_row f_names f_namedBlanks f_form f_formCount f_octets f_descriptions f_described f_message f_size f_words f_schedule f_thrown f_said) s.heap.size = A at hH ⊢
  have hx := X.1.1
  have hb := X.1.2.1
  have hl : lv_has ls 5 [(0, .ref (ad 0)), (1, .int x1)] := hl
  unfold wpX47_ways at hw
  refine lv_aload_n hx hb dX47_ways_0 rfl (lv_at hl 0 rfl) ?_
  refine lv_iconst (v := 0) hx hb dX47_ways_1 (by decide) ?_
  refine k_put X hH in_X47 tyX47_ok nmX47 0 rfl hc 25 (by decide) q6009 rfl (ty := .int) rfl rfl rfl (Nat.le_of_ble_eq_true rfl) dX47_ways_2 (ws1 := (wX47 ci ad d f_constants f_blanks f_counts f_points f_kept f_hashes f_news f_rounds f_hashed f_groups f_groupOf f_groupCount f_trial f_row f_names f_namedBlanks f_form f_formCount f_octets f_descriptions f_described f_message f_size f_words f_schedule 0 f_said)) rfl (fun H locs hH => ?_)
  refine lv_aload_n hx hb dX47_ways_5 rfl (lv_at hl 0 rfl) ?_
  refine lv_iload_n hx hb dX47_ways_6 rfl (lv_at hl 1 rfl) ?_
  refine k_i0 hH (k_runV (As := [.int x1]) (rest := []) X hH.1 hH.2.1 X.2.2.2 (walkX47_isKept hc (x1 := x1) (f_constants := f_constants) (f_blanks := f_blanks) (f_counts := f_counts) (f_points := f_points) (f_kept := f_kept) (f_hashes := f_hashes) (f_news := f_news) (f_rounds := f_rounds) (f_hashed := f_hashed) (f_groups := f_groups) (f_groupOf := f_groupOf) (f_groupCount := f_groupCount) (f_trial := f_trial) (f_row := f_row) (f_names := f_names) (f_namedBlanks := f_namedBlanks) (f_form := f_form) (f_formCount := f_formCount) (f_octets := f_octets) (f_descriptions := f_descriptions) (f_described := f_described) (f_message := f_message) (f_size := f_size) (f_words := f_words) (f_schedule := f_schedule) (f_thrown := 0) (f_said := f_said) hw) (cwV 1 X.1.2.2.2.2 gX47_340 rfl rfl rfl hX47_isKept ⟨Nat.le_of_ble_eq_true rfl, Nat.le_of_ble_eq_true rfl⟩) hc (q0 := 0) rfl rfl hl.1 rfl (Nat.le_of_ble_eq_true rfl) dX47_ways_7 ⟨Nat.le_refl 0, Nat.le_refl 0⟩) (fun r_1 _ H locs hw hH => ?_)
  have hH : kH (dC, dI) cl A s.heap H locs (wX47 ci ad d f_constants f_blanks f_counts f_points f_kept f_hashes f_news f_rounds f_hashed f_groups f_groupOf f_groupCount f_trial f_row f_names f_namedBlanks f_form f_formCount f_octets f_descriptions f_described f_message f_size f_words f_schedule 0 f_said) := hH
  refine lv_if_ne (tgt := 15) hx hb dX47_ways_10 (by decide) (fun c_2 => ?_) (fun c_2 => ?_)
  · have hw := hw.2 (z_ne (rfl : r_1.toInt = _) (rfl : (0 : Int32).toInt = 0) c_2)
    refine lv_aload_n hx hb dX47_ways_15 rfl (lv_at hl 0 rfl) ?_
    refine k_get X hH in_X47 0 rfl hc 1 (by decide) q5985 rfl dX47_ways_16 ?_
    refine lv_bipush (v := 8) hx hb dX47_ways_19 (by decide) ?_
    refine k_iald X hH 2 1 rfl rfl (by unfold vp_in; decide) dX47_ways_21 ?_
    have e_3 := z_ld (f := f_blanks) (rfl : (8 : Int32).toInt = 8) (by decide)
    refine lv_topi (fun x2_4 ex2_4 => ?_)
    have hw := hw x2_4.toInt (by rw [ex2_4]; exact e_3)
    refine lv_istore_n (lv' := [(2, .int x2_4), (0, .ref (ad 0)), (1, .int x1)]) hx hb dX47_ways_22 rfl hl (by decide) rfl (fun ls hl => ?_)
    refine lv_aload_n hx hb dX47_ways_23 rfl (lv_at hl 1 rfl) ?_
    refine k_get X hH in_X47 0 rfl hc 1 (by decide) q5985 rfl dX47_ways_24 ?_
    refine lv_iload_n hx hb dX47_ways_27 rfl (lv_at hl 2 rfl) ?_
    have hq_5 := hw.1
    have hw := hw.2
    refine k_iald X hH 2 1 rfl rfl (z_in (rfl : x1.toInt = _) hq_5) dX47_ways_28 ?_
    have e_6 := z_ld (f := f_blanks) (rfl : x1.toInt = _) hq_5.1
    refine lv_iload_n hx hb dX47_ways_29 rfl (lv_at hl 0 rfl) ?_
    refine lv_icmp_ne (tgt := 49) hx hb dX47_ways_30 (by decide) (fun c_7 => ?_) (fun c_7 => ?_)
    · have hw := hw.2 (z_ne e_6 (rfl : x2_4.toInt = _) c_7)
      refine lv_iconst (v := 0) hx hb dX47_ways_49 (by decide) ?_
      exact k_iret (v := 0) X hH (f_trial, 0) hw rfl rfl dX47_ways_50
    · have hw := hw.1 (z_eq e_6 (rfl : x2_4.toInt = _) c_7)
      refine lv_aload_n hx hb dX47_ways_33 rfl (lv_at hl 1 rfl) ?_
      refine k_get X hH in_X47 0 rfl hc 2 (by decide) q5986 rfl dX47_ways_34 ?_
      refine lv_iload_n hx hb dX47_ways_37 rfl (lv_at hl 2 rfl) ?_
      refine k_iald X hH 3 2 rfl rfl (z_in (rfl : x1.toInt = _) hq_5) dX47_ways_38 ?_
      have e_8 := z_ld (f := f_counts) (rfl : x1.toInt = _) hq_5.1
      refine lv_aload_n hx hb dX47_ways_39 rfl (lv_at hl 1 rfl) ?_
      refine k_get X hH in_X47 0 rfl hc 2 (by decide) q5986 rfl dX47_ways_40 ?_
      refine lv_bipush (v := 8) hx hb dX47_ways_43 (by decide) ?_
      refine k_iald X hH 3 2 rfl rfl (by unfold vp_in; decide) dX47_ways_45 ?_
      have e_9 := z_ld (f := f_counts) (rfl : (8 : Int32).toInt = 8) (by decide)
      refine lv_icmp_eq (tgt := 51) hx hb dX47_ways_46 (by decide) (fun c_10 => ?_) (fun c_10 => ?_)
      · have hw := hw.1 (z_eq e_8 e_9 c_10)
        refine lv_iconst (v := 0) hx hb dX47_ways_51 (by decide) ?_
        refine lv_istore_n (lv' := [(3, .int 0), (2, .int x2_4), (0, .ref (ad 0)), (1, .int x1)]) hx hb dX47_ways_52 rfl hl (by decide) rfl (fun ls hl => ?_)
        refine lv_aload_n hx hb dX47_ways_53 rfl (lv_at hl 2 rfl) ?_
        refine lv_iload_n hx hb dX47_ways_54 rfl (lv_at hl 1 rfl) ?_
        refine k_v0 hH (k_runV (As := [.int x2_4]) (rest := []) X hH.1 hH.2.1 X.2.2.2 (walkX47_begin hc (x1 := x2_4) (f_constants := f_constants) (f_blanks := f_blanks) (f_counts := f_counts) (f_points := f_points) (f_kept := f_kept) (f_hashes := f_hashes) (f_news := f_news) (f_rounds := f_rounds) (f_hashed := f_hashed) (f_groups := f_groups) (f_groupOf := f_groupOf) (f_groupCount := f_groupCount) (f_trial := f_trial) (f_row := f_row) (f_names := f_names) (f_namedBlanks := f_namedBlanks) (f_form := f_form) (f_formCount := f_formCount) (f_octets := f_octets) (f_descriptions := f_descriptions) (f_described := f_described) (f_message := f_message) (f_size := f_size) (f_words := f_words) (f_schedule := f_schedule) (f_thrown := 0) (f_said := f_said) hw) (cwV 1 X.1.2.2.2.2 gX47_312 rfl rfl rfl hX47_begin ⟨Nat.le_of_ble_eq_true rfl, Nat.le_of_ble_eq_true rfl⟩) hc (q0 := 0) rfl rfl hl.1 rfl (Nat.le_of_ble_eq_true rfl) dX47_ways_55 ⟨Nat.le_refl 0, Nat.le_refl 0⟩) (fun u H locs hw hH => ?_)
        obtain ⟨f_trial_11, eu⟩ : ∃ z, z = u := ⟨_, rfl⟩
        subst eu
        have hH : kH (dC, dI) cl A s.heap H locs (wX47 ci ad d f_constants f_blanks f_counts f_points f_kept f_hashes f_news f_rounds f_hashed f_groups f_groupOf f_groupCount f_trial_11 f_row f_names f_namedBlanks f_form f_formCount f_octets f_descriptions f_described f_message f_size f_words f_schedule 0 f_said) := hH
        refine lv_iconst (v := 1) hx hb dX47_ways_58 (by decide) ?_
        refine lv_istore (lv' := [(4, .int 1), (3, .int 0), (2, .int x2_4), (0, .ref (ad 0)), (1, .int x1)]) hx hb dX47_ways_59 hl (by decide) rfl (fun ls hl => ?_)
        obtain ⟨fu, hw⟩ := hw
        refine atX47_ways_61 hc X ?_ fu 0 1 f_trial_11 hw _ _ ls hH (lv_sub hl [3, 4, 2, 1, 0] rfl)
        · intro x3_27 f_trial_28 hw H locs ls hH hl
          refine lv_iload_n hx hb dX47_ways_92 rfl (lv_at hl 0 rfl) ?_
          exact k_iret (v := x3_27) X hH (f_trial_28, 0) hw rfl rfl dX47_ways_93
      · have hw := hw.2 (z_neq e_8 e_9 c_10)
        refine lv_iconst (v := 0) hx hb dX47_ways_49 (by decide) ?_
        exact k_iret (v := 0) X hH (f_trial, 0) hw rfl rfl dX47_ways_50
  · have hw := hw.1 (z_eq (rfl : r_1.toInt = _) (rfl : (0 : Int32).toInt = 0) c_2)
    refine lv_iconst (v := (-1)) hx hb dX47_ways_13 (by decide) ?_
    exact k_iret (v := (-1)) X hH (f_trial, 0) hw rfl rfl dX47_ways_14
set_option maxHeartbeats 4000000 in
theorem walkX47_isomorphic {l : Launch} {dC : Nat → ClassId} {dI : Nat → Nat → Nat} {cl : List vw_C} {ci : Nat} (hc : cl[ci]? = some (RX47, TX47, 27)) {ad : Nat → Nat} {d : Nat → ClassId} {sz : Nat} {f_constants : Nat → Int64} {f_blanks : Nat → Int32} {f_counts : Nat → Int32} {f_points : Nat → Int32} {f_kept : Int32} {f_hashes : Nat → Int64} {f_news : Nat → Int64} {f_rounds : Int32} {f_hashed : Int32} {f_groups : Nat → Int32} {f_groupOf : Nat → Int32} {f_groupCount : Int32} {f_trial : Nat → Int32} {f_row : Nat → Int32} {f_names : Nat → Int32} {f_namedBlanks : Int32} {f_form : Nat → Int32} {f_formCount : Int32} {f_octets : Nat → Int32} {f_descriptions : Nat → Int32} {f_described : Int32} {f_message : Nat → Int32} {f_size : Int32} {f_words : Nat → Int64} {f_schedule : Nat → Int64} {f_thrown : Int32} {f_said : Nat → Int32} {x1 : Int32} {post : Int → (Int → Int) → Int → Prop} (hw : wpX47_isomorphic post (zF f_blanks) (zF f_counts) (zF f_points) f_kept.toInt (zF f_trial) x1.toInt) :
    Met l yX47_isomorphic (ws_ yX47_isomorphic cX47_isomorphic 3 (some .int)) ({ frames := 4, cells := 0, slots := 0, locals := 94 } : Room) (kPc (dC, dI) cl (tX47 d) [.ref (ad 0), .int x1] sz (wX47 ci ad d f_constants f_blanks f_counts f_points f_kept f_hashes f_news f_rounds f_hashed f_groups f_groupOf f_groupCount f_trial f_row f_names f_namedBlanks f_form f_formCount f_octets f_descriptions f_described f_message f_size f_words f_schedule f_thrown f_said)) (va_Qi (fun (r : Int32) (u : (Nat → Int32) × Int32) => post r.toInt (zF (u.1)) (u.2).toInt) (kB (dC, dI) cl (tX47 d) (va_A (wX47 ci ad d f_constants f_blanks f_counts f_points f_kept f_hashes f_news f_rounds f_hashed f_groups f_groupOf f_groupCount f_trial f_row f_names f_namedBlanks f_form f_formCount f_octets f_descriptions f_described f_message f_size f_words f_schedule f_thrown f_said) sz) (fun u : (Nat → Int32) × Int32 => (wX47 ci ad d f_constants f_blanks f_counts f_points f_kept f_hashes f_news f_rounds f_hashed f_groups f_groupOf f_groupCount (u.1) f_row f_names f_namedBlanks f_form f_formCount f_octets f_descriptions f_described f_message f_size f_words f_schedule (u.2) f_said))) (va_A (wX47 ci ad d f_constants f_blanks f_counts f_points f_kept f_hashes f_news f_rounds f_hashed f_groups f_groupOf f_groupCount f_trial f_row f_names f_namedBlanks f_form f_formCount f_octets f_descriptions f_described f_message f_size f_words f_schedule f_thrown f_said) sz)) 0 0 (va_A (wX47 ci ad d f_constants f_blanks f_counts f_points f_kept f_hashes f_news f_rounds f_hashed f_groups f_groupOf f_groupCount f_trial f_row f_names f_namedBlanks f_form f_formCount f_octets f_descriptions f_described f_message f_size f_words f_schedule f_thrown f_said) sz) := by
  refine k_enter (by decide) (Nat.le_of_ble_eq_true rfl) ?_
  intro p e s m below meth c ls X hsz hH hl
  subst hsz
  generalize va_A (wX47 ci ad d f_constants f_blanks f_counts f_points f_kept f_hashes f_news f_rounds f_hashed f_groups f_groupOf f_groupCount f_trial f_row f_names f_namedBlanks f_form f_formCount f_octets f_descriptions f_described f_message f_size f_words f_schedule f_thrown f_said) s.heap.size = A at hH ⊢
  have hx := X.1.1
  have hb := X.1.2.1
  have hl : lv_has ls 3 [(0, .ref (ad 0)), (1, .int x1)] := hl
  unfold wpX47_isomorphic at hw
  refine lv_aload_n hx hb dX47_isomorphic_0 rfl (lv_at hl 0 rfl) ?_
  refine lv_iconst (v := 0) hx hb dX47_isomorphic_1 (by decide) ?_
  refine k_put X hH in_X47 tyX47_ok nmX47 0 rfl hc 25 (by decide) q6009 rfl (ty := .int) rfl rfl rfl (Nat.le_of_ble_eq_true rfl) dX47_isomorphic_2 (ws1 := (wX47 ci ad d f_constants f_blanks f_counts f_points f_kept f_hashes f_news f_rounds f_hashed f_groups f_groupOf f_groupCount f_trial f_row f_names f_namedBlanks f_form f_formCount f_octets f_descriptions f_described f_message f_size f_words f_schedule 0 f_said)) rfl (fun H locs hH => ?_)
  refine lv_aload_n hx hb dX47_isomorphic_5 rfl (lv_at hl 0 rfl) ?_
  refine lv_iload_n hx hb dX47_isomorphic_6 rfl (lv_at hl 1 rfl) ?_
  refine k_i0 hH (k_runV (As := [.int x1]) (rest := []) X hH.1 hH.2.1 X.2.2.2 (walkX47_ways hc (x1 := x1) (f_constants := f_constants) (f_blanks := f_blanks) (f_counts := f_counts) (f_points := f_points) (f_kept := f_kept) (f_hashes := f_hashes) (f_news := f_news) (f_rounds := f_rounds) (f_hashed := f_hashed) (f_groups := f_groups) (f_groupOf := f_groupOf) (f_groupCount := f_groupCount) (f_trial := f_trial) (f_row := f_row) (f_names := f_names) (f_namedBlanks := f_namedBlanks) (f_form := f_form) (f_formCount := f_formCount) (f_octets := f_octets) (f_descriptions := f_descriptions) (f_described := f_described) (f_message := f_message) (f_size := f_size) (f_words := f_words) (f_schedule := f_schedule) (f_thrown := 0) (f_said := f_said) hw) (cwV 1 X.1.2.2.2.2 gX47_346 rfl rfl rfl hX47_ways ⟨Nat.le_of_ble_eq_true rfl, Nat.le_of_ble_eq_true rfl⟩) hc (q0 := 0) rfl rfl hl.1 rfl (Nat.le_of_ble_eq_true rfl) dX47_isomorphic_7 ⟨Nat.le_refl 0, Nat.le_refl 0⟩) (fun r_1 u H locs hw hH => ?_)
  obtain ⟨f_trial_2, f_thrown_3⟩ := u
  have hH : kH (dC, dI) cl A s.heap H locs (wX47 ci ad d f_constants f_blanks f_counts f_points f_kept f_hashes f_news f_rounds f_hashed f_groups f_groupOf f_groupCount f_trial_2 f_row f_names f_namedBlanks f_form f_formCount f_octets f_descriptions f_described f_message f_size f_words f_schedule f_thrown_3 f_said) := hH
  refine lv_istore_n (lv' := [(2, .int r_1), (0, .ref (ad 0)), (1, .int x1)]) hx hb dX47_isomorphic_10 rfl hl (by decide) rfl (fun ls hl => ?_)
  refine lv_iload_n hx hb dX47_isomorphic_11 rfl (lv_at hl 0 rfl) ?_
  refine lv_if_le (tgt := 19) hx hb dX47_isomorphic_12 (by decide) (fun c_4 => ?_) (fun c_4 => ?_)
  · have hw := hw.1 (z_le (rfl : r_1.toInt = _) (rfl : (0 : Int32).toInt = 0) c_4)
    refine lv_iload_n hx hb dX47_isomorphic_19 rfl (lv_at hl 0 rfl) ?_
    exact k_iret (v := r_1) X hH (f_trial_2, f_thrown_3) hw rfl rfl dX47_isomorphic_20
  · have hw := hw.2 (z_nle (rfl : r_1.toInt = _) (rfl : (0 : Int32).toInt = 0) c_4)
    refine lv_iconst (v := 1) hx hb dX47_isomorphic_15 (by decide) ?_
    refine lv_goto (tgt := 20) hx hb dX47_isomorphic_16 (by decide) ?_
    exact k_iret (v := 1) X hH (f_trial_2, f_thrown_3) hw rfl rfl dX47_isomorphic_20
set_option maxHeartbeats 4000000 in
theorem walkX47_triples {l : Launch} {dC : Nat → ClassId} {dI : Nat → Nat → Nat} {cl : List vw_C} {ci : Nat} (hc : cl[ci]? = some (RX47, TX47, 27)) {ad : Nat → Nat} {d : Nat → ClassId} {sz : Nat} {f_constants : Nat → Int64} {f_blanks : Nat → Int32} {f_counts : Nat → Int32} {f_points : Nat → Int32} {f_kept : Int32} {f_hashes : Nat → Int64} {f_news : Nat → Int64} {f_rounds : Int32} {f_hashed : Int32} {f_groups : Nat → Int32} {f_groupOf : Nat → Int32} {f_groupCount : Int32} {f_trial : Nat → Int32} {f_row : Nat → Int32} {f_names : Nat → Int32} {f_namedBlanks : Int32} {f_form : Nat → Int32} {f_formCount : Int32} {f_octets : Nat → Int32} {f_descriptions : Nat → Int32} {f_described : Int32} {f_message : Nat → Int32} {f_size : Int32} {f_words : Nat → Int64} {f_schedule : Nat → Int64} {f_thrown : Int32} {f_said : Nat → Int32}  {post : Int → Int → Prop} (hw : wpX47_triples post (zF f_counts) ) :
    Met l yX47_triples (ws_ yX47_triples cX47_triples 1 (some .int)) ({ frames := 0, cells := 0, slots := 0, locals := 0 } : Room) (kPc (dC, dI) cl (tX47 d) [.ref (ad 0)] sz (wX47 ci ad d f_constants f_blanks f_counts f_points f_kept f_hashes f_news f_rounds f_hashed f_groups f_groupOf f_groupCount f_trial f_row f_names f_namedBlanks f_form f_formCount f_octets f_descriptions f_described f_message f_size f_words f_schedule f_thrown f_said)) (va_Qi (fun (r : Int32) (u : Int32) => post r.toInt (u).toInt) (kB (dC, dI) cl (tX47 d) (va_A (wX47 ci ad d f_constants f_blanks f_counts f_points f_kept f_hashes f_news f_rounds f_hashed f_groups f_groupOf f_groupCount f_trial f_row f_names f_namedBlanks f_form f_formCount f_octets f_descriptions f_described f_message f_size f_words f_schedule f_thrown f_said) sz) (fun u : Int32 => (wX47 ci ad d f_constants f_blanks f_counts f_points f_kept f_hashes f_news f_rounds f_hashed f_groups f_groupOf f_groupCount f_trial f_row f_names f_namedBlanks f_form f_formCount f_octets f_descriptions f_described f_message f_size f_words f_schedule (u) f_said))) (va_A (wX47 ci ad d f_constants f_blanks f_counts f_points f_kept f_hashes f_news f_rounds f_hashed f_groups f_groupOf f_groupCount f_trial f_row f_names f_namedBlanks f_form f_formCount f_octets f_descriptions f_described f_message f_size f_words f_schedule f_thrown f_said) sz)) 0 0 (va_A (wX47 ci ad d f_constants f_blanks f_counts f_points f_kept f_hashes f_news f_rounds f_hashed f_groups f_groupOf f_groupCount f_trial f_row f_names f_namedBlanks f_form f_formCount f_octets f_descriptions f_described f_message f_size f_words f_schedule f_thrown f_said) sz) := by
  refine k_enter (by decide) (Nat.le_of_ble_eq_true rfl) ?_
  intro p e s m below meth c ls X hsz hH hl
  subst hsz
  generalize va_A (wX47 ci ad d f_constants f_blanks f_counts f_points f_kept f_hashes f_news f_rounds f_hashed f_groups f_groupOf f_groupCount f_trial f_row f_names f_namedBlanks f_form f_formCount f_octets f_descriptions f_described f_message f_size f_words f_schedule f_thrown f_said) s.heap.size = A at hH ⊢
  have hx := X.1.1
  have hb := X.1.2.1
  have hl : lv_has ls 1 [(0, .ref (ad 0))] := hl
  unfold wpX47_triples at hw
  refine lv_aload_n hx hb dX47_triples_0 rfl (lv_at hl 0 rfl) ?_
  refine lv_iconst (v := 0) hx hb dX47_triples_1 (by decide) ?_
  refine k_put X hH in_X47 tyX47_ok nmX47 0 rfl hc 25 (by decide) q6009 rfl (ty := .int) rfl rfl rfl (Nat.le_of_ble_eq_true rfl) dX47_triples_2 (ws1 := (wX47 ci ad d f_constants f_blanks f_counts f_points f_kept f_hashes f_news f_rounds f_hashed f_groups f_groupOf f_groupCount f_trial f_row f_names f_namedBlanks f_form f_formCount f_octets f_descriptions f_described f_message f_size f_words f_schedule 0 f_said)) rfl (fun H locs hH => ?_)
  refine lv_aload_n hx hb dX47_triples_5 rfl (lv_at hl 0 rfl) ?_
  refine k_get X hH in_X47 0 rfl hc 2 (by decide) q5986 rfl dX47_triples_6 ?_
  refine lv_bipush (v := 8) hx hb dX47_triples_9 (by decide) ?_
  refine k_iald X hH 3 2 rfl rfl (by unfold vp_in; decide) dX47_triples_11 ?_
  have e_1 := z_ld (f := f_counts) (rfl : (8 : Int32).toInt = 8) (by decide)
  exact k_iret (v := f_counts (8 : Int32).toNatClampNeg) X hH (0) (by rw [show (f_counts (8 : Int32).toNatClampNeg : Int32).toInt = _ from e_1]; exact hw) rfl rfl dX47_triples_12
set_option maxHeartbeats 4000000 in
theorem atX47_drop_43 {p : Program} {l : Launch} {e : Env} {s : State} {m : MethodId} {args : Array Value} {below : List Frame} {meth : Method} {c : Code} {dC : Nat → ClassId} {dI : Nat → Nat → Nat} {cl : List vw_C} {ci : Nat} (hc : cl[ci]? = some (RX47, TX47, 27)) {ad : Nat → Nat} {d : Nat → ClassId} {A : Nat → Prop} {post : Int → (Int → Int) → (Int → Int) → Int → Int → Prop} {f_constants : Nat → Int64} {f_blanks : Nat → Int32} {f_kept : Int32} {f_hashes : Nat → Int64} {f_news : Nat → Int64} {f_rounds : Int32} {f_groups : Nat → Int32} {f_groupOf : Nat → Int32} {f_groupCount : Int32} {f_trial : Nat → Int32} {f_row : Nat → Int32} {f_names : Nat → Int32} {f_namedBlanks : Int32} {f_form : Nat → Int32} {f_formCount : Int32} {f_octets : Nat → Int32} {f_descriptions : Nat → Int32} {f_described : Int32} {f_message : Nat → Int32} {f_size : Int32} {f_words : Nat → Int64} {f_schedule : Nat → Int64} {f_said : Nat → Int32} (X : kX p s m args meth c cX47_drop 6 RX47 (some .int) (dC, dI) cl (tX47 d)) {K82 : (Int → Int) → Prop}  {f_counts : Nat → Int32} {f_hashed : Int32} {f_thrown : Int32} (hk82 : ∀ (f_points : Nat → Int32), K82 (zF f_points) → ∀ (H : Heap) (locs : List Loc) (ls : Array Slot), kH (dC, dI) cl A s.heap H locs (wX47 ci ad d f_constants f_blanks f_counts f_points f_kept f_hashes f_news f_rounds f_hashed f_groups f_groupOf f_groupCount f_trial f_row f_names f_namedBlanks f_form f_formCount f_octets f_descriptions f_described f_message f_size f_words f_schedule f_thrown f_said) → lv_has ls 6 [(0, .ref (ad 0))] → W p l e ({ frames := 2, cells := 0, slots := 0, locals := 47 } : Room) s m args below meth c H locs 0 0 (MQ below (va_Qi (fun (r : Int32) (u : (Nat → Int32) × (Nat → Int32) × Int32 × Int32) => post r.toInt (zF (u.1)) (zF (u.2.1)) (u.2.2.1).toInt (u.2.2.2).toInt) (kB (dC, dI) cl (tX47 d) A (fun u : (Nat → Int32) × (Nat → Int32) × Int32 × Int32 => (wX47 ci ad d f_constants f_blanks (u.1) (u.2.1) f_kept f_hashes f_news f_rounds (u.2.2.1) f_groups f_groupOf f_groupCount f_trial f_row f_names f_namedBlanks f_form f_formCount f_octets f_descriptions f_described f_message f_size f_words f_schedule (u.2.2.2) f_said))) A) args s 0 0 A) (F0 m 82 ls [])) :
    ∀ (nn : Nat) (x5 : Int32) (f_points : Nat → Int32), wX47_drop_43 K82 (zF f_counts) nn x5.toInt (zF f_points) → ∀ (H : Heap) (locs : List Loc) (ls : Array Slot), kH (dC, dI) cl A s.heap H locs (wX47 ci ad d f_constants f_blanks f_counts f_points f_kept f_hashes f_news f_rounds f_hashed f_groups f_groupOf f_groupCount f_trial f_row f_names f_namedBlanks f_form f_formCount f_octets f_descriptions f_described f_message f_size f_words f_schedule f_thrown f_said) → lv_has ls 6 [(0, .ref (ad 0)), (5, .int x5)] → W p l e ({ frames := 2, cells := 0, slots := 0, locals := 47 } : Room) s m args below meth c H locs 0 0 (MQ below (va_Qi (fun (r : Int32) (u : (Nat → Int32) × (Nat → Int32) × Int32 × Int32) => post r.toInt (zF (u.1)) (zF (u.2.1)) (u.2.2.1).toInt (u.2.2.2).toInt) (kB (dC, dI) cl (tX47 d) A (fun u : (Nat → Int32) × (Nat → Int32) × Int32 × Int32 => (wX47 ci ad d f_constants f_blanks (u.1) (u.2.1) f_kept f_hashes f_news f_rounds (u.2.2.1) f_groups f_groupOf f_groupCount f_trial f_row f_names f_namedBlanks f_form f_formCount f_octets f_descriptions f_described f_message f_size f_words f_schedule (u.2.2.2) f_said))) A) args s 0 0 A) (F0 m 43 ls []) := by
  have hx := X.1.1
  have hb := X.1.2.1
  intro nn
  induction nn with
  | zero =>
    intro x5 f_points hw
    exact False.elim hw
  | succ n ih =>
    intro x5 f_points hw H locs ls hH hl
    rw [wX47_drop_43] at hw
    refine lv_iload hx hb dX47_drop_43 (lv_at hl 1 rfl) ?_
    refine lv_bipush (v := 8) hx hb dX47_drop_45 (by decide) ?_
    refine lv_aload_n hx hb dX47_drop_47 rfl (lv_at hl 0 rfl) ?_
    refine k_get X hH in_X47 0 rfl hc 2 (by decide) q5986 rfl dX47_drop_48 ?_
    refine lv_bipush (v := 8) hx hb dX47_drop_51 (by decide) ?_
    refine k_iald X hH 3 2 rfl rfl (by unfold vp_in; decide) dX47_drop_53 ?_
    have e_10 := z_ld (f := f_counts) (rfl : (8 : Int32).toInt = 8) (by decide)
    refine k_i0 hH (k_runS (As := [.int 8, .int (f_counts (8 : Int32).toNatClampNeg)]) (rest := [.int x5]) X hH.1 hH.2.1 X.2.2.2 (walkX47_at hc (x0 := 8) (x1 := (f_counts (8 : Int32).toNatClampNeg)) (f_constants := f_constants) (f_blanks := f_blanks) (f_counts := f_counts) (f_points := f_points) (f_kept := f_kept) (f_hashes := f_hashes) (f_news := f_news) (f_rounds := f_rounds) (f_hashed := f_hashed) (f_groups := f_groups) (f_groupOf := f_groupOf) (f_groupCount := f_groupCount) (f_trial := f_trial) (f_row := f_row) (f_names := f_names) (f_namedBlanks := f_namedBlanks) (f_form := f_form) (f_formCount := f_formCount) (f_octets := f_octets) (f_descriptions := f_descriptions) (f_described := f_described) (f_message := f_message) (f_size := f_size) (f_words := f_words) (f_schedule := f_schedule) (f_thrown := f_thrown) (f_said := f_said) (by rw [show (f_counts (8 : Int32).toNatClampNeg : Int32).toInt = _ from e_10]; exact hw)) (va_cwS 2 X.1.2.2.2.2 gX47_245 rfl rfl rfl hX47_at ⟨Nat.le_of_ble_eq_true rfl, Nat.le_of_ble_eq_true rfl⟩) rfl hl.1 rfl (Nat.le_of_ble_eq_true rfl) dX47_drop_54 ⟨Nat.le_refl 0, Nat.le_refl 0⟩) (fun r_11 _ H locs hw hH => ?_)
    have hH : kH (dC, dI) cl A s.heap H locs (wX47 ci ad d f_constants f_blanks f_counts f_points f_kept f_hashes f_news f_rounds f_hashed f_groups f_groupOf f_groupCount f_trial f_row f_names f_namedBlanks f_form f_formCount f_octets f_descriptions f_described f_message f_size f_words f_schedule f_thrown f_said) := hH
    refine lv_icmp_ge (tgt := 82) hx hb dX47_drop_57 (by decide) (fun c_12 => ?_) (fun c_12 => ?_)
    · have hw := hw.1 (z_le (rfl : r_11.toInt = _) (rfl : x5.toInt = _) c_12)
      exact hk82 f_points hw _ _ ls hH (lv_sub hl [0] rfl)
    · have hw := hw.2 (z_nle (rfl : r_11.toInt = _) (rfl : x5.toInt = _) c_12)
      refine lv_aload_n hx hb dX47_drop_60 rfl (lv_at hl 0 rfl) ?_
      refine k_get X hH in_X47 0 rfl hc 3 (by decide) q5987 rfl dX47_drop_61 ?_
      refine lv_iload hx hb dX47_drop_64 (lv_at hl 1 rfl) ?_
      refine lv_aload_n hx hb dX47_drop_66 rfl (lv_at hl 0 rfl) ?_
      refine k_get X hH in_X47 0 rfl hc 3 (by decide) q5987 rfl dX47_drop_67 ?_
      refine lv_iload hx hb dX47_drop_70 (lv_at hl 1 rfl) ?_
      refine lv_iconst (v := 3) hx hb dX47_drop_72 (by decide) ?_
      refine lv_iadd hx hb dX47_drop_73 ?_
      have e_13 := z_add (z_m (rfl : x5.toInt = _)) (z_m (rfl : (3 : Int32).toInt = 3))
      have hq_14 := hw.1
      have hw := hw.2
      have e_15 := z_xi e_13 hq_14 (by decide)
      refine k_iald X hH 4 3 rfl rfl (z_in e_15 hq_14) dX47_drop_74 ?_
      have e_16 := z_ld (f := f_points) e_15 hq_14.1
      refine lv_topi (fun v_17 ev_17 => ?_)
      have hw := hw v_17.toInt (by rw [ev_17]; exact e_16)
      have hq_19 := hw.1
      have hw := hw.2
      obtain ⟨f_points_18, ef_points_18⟩ : ∃ y : Nat → Int32, y = upd f_points x5.toNatClampNeg v_17 := ⟨_, rfl⟩
      refine k_iast X hH 4 3 rfl rfl (z_in (rfl : x5.toInt = _) hq_19) dX47_drop_75 ef_points_18 (ws1 := (wX47 ci ad d f_constants f_blanks f_counts f_points_18 f_kept f_hashes f_news f_rounds f_hashed f_groups f_groupOf f_groupCount f_trial f_row f_names f_namedBlanks f_form f_formCount f_octets f_descriptions f_described f_message f_size f_words f_schedule f_thrown f_said)) rfl (fun H locs hH => ?_)
      have hw := hw (zF f_points_18) (by rw [ef_points_18]; exact z_st (f := f_points) (rfl : x5.toInt = _) hq_19.1 (rfl : v_17.toInt = _))
      have hq_21 := hw.1
      have hw := hw.2
      obtain ⟨x5_20, ex5_20⟩ : ∃ y : Int32, y = x5 + 1 := ⟨_, rfl⟩
      have hw := hw x5_20.toInt (by rw [ex5_20]; exact (z_x (z_add (z_m (rfl : x5.toInt = _)) (z_m (rfl : (1 : Int32).toInt = 1))) hq_21))
      refine lv_iinc (v := x5_20) (lv' := [(5, .int x5_20), (0, .ref (ad 0))]) hx hb dX47_drop_76 hl (k := 1) rfl (by rw [ex5_20]; rfl) (by decide) rfl (fun ls hl => ?_)
      refine lv_goto (tgt := 43) hx hb dX47_drop_79 (by decide) ?_
      exact ih x5_20 f_points_18 hw _ _ ls hH (lv_sub hl [1, 0] rfl)
set_option maxHeartbeats 4000000 in
theorem walkX47_drop {l : Launch} {dC : Nat → ClassId} {dI : Nat → Nat → Nat} {cl : List vw_C} {ci : Nat} (hc : cl[ci]? = some (RX47, TX47, 27)) {ad : Nat → Nat} {d : Nat → ClassId} {sz : Nat} {f_constants : Nat → Int64} {f_blanks : Nat → Int32} {f_counts : Nat → Int32} {f_points : Nat → Int32} {f_kept : Int32} {f_hashes : Nat → Int64} {f_news : Nat → Int64} {f_rounds : Int32} {f_hashed : Int32} {f_groups : Nat → Int32} {f_groupOf : Nat → Int32} {f_groupCount : Int32} {f_trial : Nat → Int32} {f_row : Nat → Int32} {f_names : Nat → Int32} {f_namedBlanks : Int32} {f_form : Nat → Int32} {f_formCount : Int32} {f_octets : Nat → Int32} {f_descriptions : Nat → Int32} {f_described : Int32} {f_message : Nat → Int32} {f_size : Int32} {f_words : Nat → Int64} {f_schedule : Nat → Int64} {f_thrown : Int32} {f_said : Nat → Int32} {x1 : Int32} {x2 : Int32} {x3 : Int32} {post : Int → (Int → Int) → (Int → Int) → Int → Int → Prop} (hw : wpX47_drop post (zF f_counts) (zF f_points) f_hashed.toInt x1.toInt x2.toInt x3.toInt) :
    Met l yX47_drop (ws_ yX47_drop cX47_drop 6 (some .int)) ({ frames := 2, cells := 0, slots := 0, locals := 47 } : Room) (kPc (dC, dI) cl (tX47 d) [.ref (ad 0), .int x1, .int x2, .int x3] sz (wX47 ci ad d f_constants f_blanks f_counts f_points f_kept f_hashes f_news f_rounds f_hashed f_groups f_groupOf f_groupCount f_trial f_row f_names f_namedBlanks f_form f_formCount f_octets f_descriptions f_described f_message f_size f_words f_schedule f_thrown f_said)) (va_Qi (fun (r : Int32) (u : (Nat → Int32) × (Nat → Int32) × Int32 × Int32) => post r.toInt (zF (u.1)) (zF (u.2.1)) (u.2.2.1).toInt (u.2.2.2).toInt) (kB (dC, dI) cl (tX47 d) (va_A (wX47 ci ad d f_constants f_blanks f_counts f_points f_kept f_hashes f_news f_rounds f_hashed f_groups f_groupOf f_groupCount f_trial f_row f_names f_namedBlanks f_form f_formCount f_octets f_descriptions f_described f_message f_size f_words f_schedule f_thrown f_said) sz) (fun u : (Nat → Int32) × (Nat → Int32) × Int32 × Int32 => (wX47 ci ad d f_constants f_blanks (u.1) (u.2.1) f_kept f_hashes f_news f_rounds (u.2.2.1) f_groups f_groupOf f_groupCount f_trial f_row f_names f_namedBlanks f_form f_formCount f_octets f_descriptions f_described f_message f_size f_words f_schedule (u.2.2.2) f_said))) (va_A (wX47 ci ad d f_constants f_blanks f_counts f_points f_kept f_hashes f_news f_rounds f_hashed f_groups f_groupOf f_groupCount f_trial f_row f_names f_namedBlanks f_form f_formCount f_octets f_descriptions f_described f_message f_size f_words f_schedule f_thrown f_said) sz)) 0 0 (va_A (wX47 ci ad d f_constants f_blanks f_counts f_points f_kept f_hashes f_news f_rounds f_hashed f_groups f_groupOf f_groupCount f_trial f_row f_names f_namedBlanks f_form f_formCount f_octets f_descriptions f_described f_message f_size f_words f_schedule f_thrown f_said) sz) := by
  refine k_enter (by decide) (Nat.le_of_ble_eq_true rfl) ?_
  intro p e s m below meth c ls X hsz hH hl
  subst hsz
  generalize va_A (wX47 ci ad d f_constants f_blanks f_counts f_points f_kept f_hashes f_news f_rounds f_hashed f_groups f_groupOf f_groupCount f_trial f_row f_names f_namedBlanks f_form f_formCount f_octets f_descriptions f_described f_message f_size f_words f_schedule f_thrown f_said) s.heap.size = A at hH ⊢
  have hx := X.1.1
  have hb := X.1.2.1
  have hl : lv_has ls 6 [(0, .ref (ad 0)), (1, .int x1), (2, .int x2), (3, .int x3)] := hl
  unfold wpX47_drop at hw
  refine lv_aload_n hx hb dX47_drop_0 rfl (lv_at hl 0 rfl) ?_
  refine lv_iconst (v := 0) hx hb dX47_drop_1 (by decide) ?_
  refine k_put X hH in_X47 tyX47_ok nmX47 0 rfl hc 25 (by decide) q6009 rfl (ty := .int) rfl rfl rfl (Nat.le_of_ble_eq_true rfl) dX47_drop_2 (ws1 := (wX47 ci ad d f_constants f_blanks f_counts f_points f_kept f_hashes f_news f_rounds f_hashed f_groups f_groupOf f_groupCount f_trial f_row f_names f_namedBlanks f_form f_formCount f_octets f_descriptions f_described f_message f_size f_words f_schedule 0 f_said)) rfl (fun H locs hH => ?_)
  refine lv_aload_n hx hb dX47_drop_5 rfl (lv_at hl 0 rfl) ?_
  refine lv_bipush (v := 8) hx hb dX47_drop_6 (by decide) ?_
  refine lv_iload_n hx hb dX47_drop_8 rfl (lv_at hl 1 rfl) ?_
  refine lv_iload_n hx hb dX47_drop_9 rfl (lv_at hl 2 rfl) ?_
  refine lv_iload_n hx hb dX47_drop_10 rfl (lv_at hl 3 rfl) ?_
  refine k_i0 hH (k_runV (As := [.int 8, .int x1, .int x2, .int x3]) (rest := []) X hH.1 hH.2.1 X.2.2.2 (walkX47_find hc (x1 := 8) (x2 := x1) (x3 := x2) (x4 := x3) (f_constants := f_constants) (f_blanks := f_blanks) (f_counts := f_counts) (f_points := f_points) (f_kept := f_kept) (f_hashes := f_hashes) (f_news := f_news) (f_rounds := f_rounds) (f_hashed := f_hashed) (f_groups := f_groups) (f_groupOf := f_groupOf) (f_groupCount := f_groupCount) (f_trial := f_trial) (f_row := f_row) (f_names := f_names) (f_namedBlanks := f_namedBlanks) (f_form := f_form) (f_formCount := f_formCount) (f_octets := f_octets) (f_descriptions := f_descriptions) (f_described := f_described) (f_message := f_message) (f_size := f_size) (f_words := f_words) (f_schedule := f_schedule) (f_thrown := 0) (f_said := f_said) hw) (cwV 4 X.1.2.2.2.2 gX47_253 rfl rfl rfl hX47_find ⟨Nat.le_of_ble_eq_true rfl, Nat.le_of_ble_eq_true rfl⟩) hc (q0 := 0) rfl rfl hl.1 rfl (Nat.le_of_ble_eq_true rfl) dX47_drop_11 ⟨Nat.le_refl 0, Nat.le_refl 0⟩) (fun r_1 _ H locs hw hH => ?_)
  have hH : kH (dC, dI) cl A s.heap H locs (wX47 ci ad d f_constants f_blanks f_counts f_points f_kept f_hashes f_news f_rounds f_hashed f_groups f_groupOf f_groupCount f_trial f_row f_names f_namedBlanks f_form f_formCount f_octets f_descriptions f_described f_message f_size f_words f_schedule 0 f_said) := hH
  refine lv_istore (lv' := [(4, .int r_1), (0, .ref (ad 0)), (1, .int x1), (2, .int x2), (3, .int x3)]) hx hb dX47_drop_14 hl (by decide) rfl (fun ls hl => ?_)
  refine lv_iload hx hb dX47_drop_16 (lv_at hl 0 rfl) ?_
  refine lv_if_ge (tgt := 23) hx hb dX47_drop_18 (by decide) (fun c_2 => ?_) (fun c_2 => ?_)
  · have hw := hw.1 (z_le (rfl : (0 : Int32).toInt = 0) (rfl : r_1.toInt = _) c_2)
    refine lv_aload_n hx hb dX47_drop_23 rfl (lv_at hl 1 rfl) ?_
    refine k_get X hH in_X47 0 rfl hc 2 (by decide) q5986 rfl dX47_drop_24 ?_
    refine lv_bipush (v := 8) hx hb dX47_drop_27 (by decide) ?_
    refine lv_dup2_11 hx hb dX47_drop_29 rfl rfl ?_
    refine k_iald X hH 3 2 rfl rfl (by unfold vp_in; decide) dX47_drop_30 ?_
    have e_3 := z_ld (f := f_counts) (rfl : (8 : Int32).toInt = 8) (by decide)
    refine lv_iconst (v := 1) hx hb dX47_drop_31 (by decide) ?_
    refine lv_isub hx hb dX47_drop_32 ?_
    have e_4 := z_sub (z_m e_3) (z_m (rfl : (1 : Int32).toInt = 1))
    have hq_5 := hw.1
    have hw := hw.2
    have e_6 := z_x e_4 hq_5
    refine lv_topi (fun v_7 ev_7 => ?_)
    have hw := hw v_7.toInt (by rw [ev_7]; exact e_6)
    obtain ⟨f_counts_8, ef_counts_8⟩ : ∃ y : Nat → Int32, y = upd f_counts (8 : Int32).toNatClampNeg v_7 := ⟨_, rfl⟩
    refine k_iast X hH 3 2 rfl rfl (by unfold vp_in; decide) dX47_drop_33 ef_counts_8 (ws1 := (wX47 ci ad d f_constants f_blanks f_counts_8 f_points f_kept f_hashes f_news f_rounds f_hashed f_groups f_groupOf f_groupCount f_trial f_row f_names f_namedBlanks f_form f_formCount f_octets f_descriptions f_described f_message f_size f_words f_schedule 0 f_said)) rfl (fun H locs hH => ?_)
    have hw := hw (zF f_counts_8) (by rw [ef_counts_8]; exact z_st (f := f_counts) (rfl : (8 : Int32).toInt = 8) (by decide) (rfl : v_7.toInt = _))
    refine lv_bipush (v := 8) hx hb dX47_drop_34 (by decide) ?_
    refine lv_iload hx hb dX47_drop_36 (lv_at hl 0 rfl) ?_
    refine k_i0 hH (k_runS (As := [.int 8, .int r_1]) (rest := []) X hH.1 hH.2.1 X.2.2.2 (walkX47_at hc (x0 := 8) (x1 := r_1) (f_constants := f_constants) (f_blanks := f_blanks) (f_counts := f_counts_8) (f_points := f_points) (f_kept := f_kept) (f_hashes := f_hashes) (f_news := f_news) (f_rounds := f_rounds) (f_hashed := f_hashed) (f_groups := f_groups) (f_groupOf := f_groupOf) (f_groupCount := f_groupCount) (f_trial := f_trial) (f_row := f_row) (f_names := f_names) (f_namedBlanks := f_namedBlanks) (f_form := f_form) (f_formCount := f_formCount) (f_octets := f_octets) (f_descriptions := f_descriptions) (f_described := f_described) (f_message := f_message) (f_size := f_size) (f_words := f_words) (f_schedule := f_schedule) (f_thrown := 0) (f_said := f_said) hw) (va_cwS 2 X.1.2.2.2.2 gX47_245 rfl rfl rfl hX47_at ⟨Nat.le_of_ble_eq_true rfl, Nat.le_of_ble_eq_true rfl⟩) rfl hl.1 rfl (Nat.le_of_ble_eq_true rfl) dX47_drop_38 ⟨Nat.le_refl 0, Nat.le_refl 0⟩) (fun r_9 _ H locs hw hH => ?_)
    have hH : kH (dC, dI) cl A s.heap H locs (wX47 ci ad d f_constants f_blanks f_counts_8 f_points f_kept f_hashes f_news f_rounds f_hashed f_groups f_groupOf f_groupCount f_trial f_row f_names f_namedBlanks f_form f_formCount f_octets f_descriptions f_described f_message f_size f_words f_schedule 0 f_said) := hH
    refine lv_istore (lv' := [(5, .int r_9), (4, .int r_1), (0, .ref (ad 0)), (1, .int x1), (2, .int x2), (3, .int x3)]) hx hb dX47_drop_41 hl (by decide) rfl (fun ls hl => ?_)
    obtain ⟨fu, hw⟩ := hw
    refine atX47_drop_43 hc X ?_ fu r_9 f_points hw _ _ ls hH (lv_sub hl [2, 0] rfl)
    · intro f_points_22 hw H locs ls hH hl
      refine lv_aload_n hx hb dX47_drop_82 rfl (lv_at hl 0 rfl) ?_
      refine lv_iconst (v := 0) hx hb dX47_drop_83 (by decide) ?_
      refine k_put X hH in_X47 tyX47_ok nmX47 0 rfl hc 8 (by decide) q5992 rfl (ty := .boolean) rfl rfl rfl (Nat.le_of_ble_eq_true rfl) dX47_drop_84 (ws1 := (wX47 ci ad d f_constants f_blanks f_counts_8 f_points_22 f_kept f_hashes f_news f_rounds 0 f_groups f_groupOf f_groupCount f_trial f_row f_names f_namedBlanks f_form f_formCount f_octets f_descriptions f_described f_message f_size f_words f_schedule 0 f_said)) rfl (fun H locs hH => ?_)
      refine lv_iconst (v := 1) hx hb dX47_drop_87 (by decide) ?_
      exact k_iret (v := 1) X hH (f_counts_8, f_points_22, 0, 0) hw rfl rfl dX47_drop_88
  · have hw := hw.2 (z_nle (rfl : (0 : Int32).toInt = 0) (rfl : r_1.toInt = _) c_2)
    refine lv_iconst (v := 0) hx hb dX47_drop_21 (by decide) ?_
    exact k_iret (v := 0) X hH (f_counts, f_points, f_hashed, 0) hw rfl rfl dX47_drop_22
set_option maxHeartbeats 4000000 in
theorem walkX47_named {l : Launch} {dC : Nat → ClassId} {dI : Nat → Nat → Nat} {cl : List vw_C} {ci : Nat} (hc : cl[ci]? = some (RX47, TX47, 27)) {ad : Nat → Nat} {d : Nat → ClassId} {sz : Nat} {f_constants : Nat → Int64} {f_blanks : Nat → Int32} {f_counts : Nat → Int32} {f_points : Nat → Int32} {f_kept : Int32} {f_hashes : Nat → Int64} {f_news : Nat → Int64} {f_rounds : Int32} {f_hashed : Int32} {f_groups : Nat → Int32} {f_groupOf : Nat → Int32} {f_groupCount : Int32} {f_trial : Nat → Int32} {f_row : Nat → Int32} {f_names : Nat → Int32} {f_namedBlanks : Int32} {f_form : Nat → Int32} {f_formCount : Int32} {f_octets : Nat → Int32} {f_descriptions : Nat → Int32} {f_described : Int32} {f_message : Nat → Int32} {f_size : Int32} {f_words : Nat → Int64} {f_schedule : Nat → Int64} {f_thrown : Int32} {f_said : Nat → Int32} {x1 : Int32} {post : Int → Int → Prop} (hw : wpX47_named post (zF f_names) f_namedBlanks.toInt x1.toInt) :
    Met l yX47_named (ws_ yX47_named cX47_named 2 (some .int)) ({ frames := 0, cells := 0, slots := 0, locals := 0 } : Room) (kPc (dC, dI) cl (tX47 d) [.ref (ad 0), .int x1] sz (wX47 ci ad d f_constants f_blanks f_counts f_points f_kept f_hashes f_news f_rounds f_hashed f_groups f_groupOf f_groupCount f_trial f_row f_names f_namedBlanks f_form f_formCount f_octets f_descriptions f_described f_message f_size f_words f_schedule f_thrown f_said)) (va_Qi (fun (r : Int32) (u : Int32) => post r.toInt (u).toInt) (kB (dC, dI) cl (tX47 d) (va_A (wX47 ci ad d f_constants f_blanks f_counts f_points f_kept f_hashes f_news f_rounds f_hashed f_groups f_groupOf f_groupCount f_trial f_row f_names f_namedBlanks f_form f_formCount f_octets f_descriptions f_described f_message f_size f_words f_schedule f_thrown f_said) sz) (fun u : Int32 => (wX47 ci ad d f_constants f_blanks f_counts f_points f_kept f_hashes f_news f_rounds f_hashed f_groups f_groupOf f_groupCount f_trial f_row f_names f_namedBlanks f_form f_formCount f_octets f_descriptions f_described f_message f_size f_words f_schedule (u) f_said))) (va_A (wX47 ci ad d f_constants f_blanks f_counts f_points f_kept f_hashes f_news f_rounds f_hashed f_groups f_groupOf f_groupCount f_trial f_row f_names f_namedBlanks f_form f_formCount f_octets f_descriptions f_described f_message f_size f_words f_schedule f_thrown f_said) sz)) 0 0 (va_A (wX47 ci ad d f_constants f_blanks f_counts f_points f_kept f_hashes f_news f_rounds f_hashed f_groups f_groupOf f_groupCount f_trial f_row f_names f_namedBlanks f_form f_formCount f_octets f_descriptions f_described f_message f_size f_words f_schedule f_thrown f_said) sz) := by
  refine k_enter (by decide) (Nat.le_of_ble_eq_true rfl) ?_
  intro p e s m below meth c ls X hsz hH hl
  subst hsz
  generalize va_A (wX47 ci ad d f_constants f_blanks f_counts f_points f_kept f_hashes f_news f_rounds f_hashed f_groups f_groupOf f_groupCount f_trial f_row f_names f_namedBlanks f_form f_formCount f_octets f_descriptions f_described f_message f_size f_words f_schedule f_thrown f_said) s.heap.size = A at hH ⊢
  have hx := X.1.1
  have hb := X.1.2.1
  have hl : lv_has ls 2 [(0, .ref (ad 0)), (1, .int x1)] := hl
  unfold wpX47_named at hw
  refine lv_aload_n hx hb dX47_named_0 rfl (lv_at hl 0 rfl) ?_
  refine lv_iconst (v := 0) hx hb dX47_named_1 (by decide) ?_
  refine k_put X hH in_X47 tyX47_ok nmX47 0 rfl hc 25 (by decide) q6009 rfl (ty := .int) rfl rfl rfl (Nat.le_of_ble_eq_true rfl) dX47_named_2 (ws1 := (wX47 ci ad d f_constants f_blanks f_counts f_points f_kept f_hashes f_news f_rounds f_hashed f_groups f_groupOf f_groupCount f_trial f_row f_names f_namedBlanks f_form f_formCount f_octets f_descriptions f_described f_message f_size f_words f_schedule 0 f_said)) rfl (fun H locs hH => ?_)
  refine lv_iload_n hx hb dX47_named_5 rfl (lv_at hl 1 rfl) ?_
  refine lv_iconst (v := 1) hx hb dX47_named_6 (by decide) ?_
  refine lv_icmp_lt (tgt := 27) hx hb dX47_named_7 (by decide) (fun c_1 => ?_) (fun c_1 => ?_)
  · have hw := hw.1 (z_lt (rfl : x1.toInt = _) (rfl : (1 : Int32).toInt = 1) c_1)
    refine lv_iconst (v := (-1)) hx hb dX47_named_27 (by decide) ?_
    exact k_iret (v := (-1)) X hH (0) hw rfl rfl dX47_named_28
  · have hw := hw.2 (z_nlt (rfl : x1.toInt = _) (rfl : (1 : Int32).toInt = 1) c_1)
    refine lv_iload_n hx hb dX47_named_10 rfl (lv_at hl 1 rfl) ?_
    refine lv_aload_n hx hb dX47_named_11 rfl (lv_at hl 0 rfl) ?_
    refine k_get X hH in_X47 0 rfl hc 15 (by decide) q5999 rfl dX47_named_12 ?_
    refine lv_icmp_gt (tgt := 27) hx hb dX47_named_15 (by decide) (fun c_2 => ?_) (fun c_2 => ?_)
    · have hw := hw.1 (z_lt (rfl : f_namedBlanks.toInt = _) (rfl : x1.toInt = _) c_2)
      refine lv_iconst (v := (-1)) hx hb dX47_named_27 (by decide) ?_
      exact k_iret (v := (-1)) X hH (0) hw rfl rfl dX47_named_28
    · have hw := hw.2 (z_nlt (rfl : f_namedBlanks.toInt = _) (rfl : x1.toInt = _) c_2)
      refine lv_aload_n hx hb dX47_named_18 rfl (lv_at hl 0 rfl) ?_
      refine k_get X hH in_X47 0 rfl hc 14 (by decide) q5998 rfl dX47_named_19 ?_
      refine lv_iload_n hx hb dX47_named_22 rfl (lv_at hl 1 rfl) ?_
      have hq_3 := hw.1
      have hw := hw.2
      refine k_iald X hH 11 10 rfl rfl (z_in (rfl : x1.toInt = _) hq_3) dX47_named_23 ?_
      have e_4 := z_ld (f := f_names) (rfl : x1.toInt = _) hq_3.1
      refine lv_goto (tgt := 28) hx hb dX47_named_24 (by decide) ?_
      exact k_iret (v := f_names x1.toNatClampNeg) X hH (0) (by rw [show (f_names x1.toNatClampNeg : Int32).toInt = _ from e_4]; exact hw) rfl rfl dX47_named_28
set_option maxHeartbeats 4000000 in
theorem walkX47_form {l : Launch} {dC : Nat → ClassId} {dI : Nat → Nat → Nat} {cl : List vw_C} {ci : Nat} (hc : cl[ci]? = some (RX47, TX47, 27)) {ad : Nat → Nat} {d : Nat → ClassId} {sz : Nat} {f_constants : Nat → Int64} {f_blanks : Nat → Int32} {f_counts : Nat → Int32} {f_points : Nat → Int32} {f_kept : Int32} {f_hashes : Nat → Int64} {f_news : Nat → Int64} {f_rounds : Int32} {f_hashed : Int32} {f_groups : Nat → Int32} {f_groupOf : Nat → Int32} {f_groupCount : Int32} {f_trial : Nat → Int32} {f_row : Nat → Int32} {f_names : Nat → Int32} {f_namedBlanks : Int32} {f_form : Nat → Int32} {f_formCount : Int32} {f_octets : Nat → Int32} {f_descriptions : Nat → Int32} {f_described : Int32} {f_message : Nat → Int32} {f_size : Int32} {f_words : Nat → Int64} {f_schedule : Nat → Int64} {f_thrown : Int32} {f_said : Nat → Int32} {x1 : Int32} {x2 : Int32} {post : Int → Int → Prop} (hw : wpX47_form post (zF f_form) f_formCount.toInt x1.toInt x2.toInt) :
    Met l yX47_form (ws_ yX47_form cX47_form 3 (some .int)) ({ frames := 0, cells := 0, slots := 0, locals := 0 } : Room) (kPc (dC, dI) cl (tX47 d) [.ref (ad 0), .int x1, .int x2] sz (wX47 ci ad d f_constants f_blanks f_counts f_points f_kept f_hashes f_news f_rounds f_hashed f_groups f_groupOf f_groupCount f_trial f_row f_names f_namedBlanks f_form f_formCount f_octets f_descriptions f_described f_message f_size f_words f_schedule f_thrown f_said)) (va_Qi (fun (r : Int32) (u : Int32) => post r.toInt (u).toInt) (kB (dC, dI) cl (tX47 d) (va_A (wX47 ci ad d f_constants f_blanks f_counts f_points f_kept f_hashes f_news f_rounds f_hashed f_groups f_groupOf f_groupCount f_trial f_row f_names f_namedBlanks f_form f_formCount f_octets f_descriptions f_described f_message f_size f_words f_schedule f_thrown f_said) sz) (fun u : Int32 => (wX47 ci ad d f_constants f_blanks f_counts f_points f_kept f_hashes f_news f_rounds f_hashed f_groups f_groupOf f_groupCount f_trial f_row f_names f_namedBlanks f_form f_formCount f_octets f_descriptions f_described f_message f_size f_words f_schedule (u) f_said))) (va_A (wX47 ci ad d f_constants f_blanks f_counts f_points f_kept f_hashes f_news f_rounds f_hashed f_groups f_groupOf f_groupCount f_trial f_row f_names f_namedBlanks f_form f_formCount f_octets f_descriptions f_described f_message f_size f_words f_schedule f_thrown f_said) sz)) 0 0 (va_A (wX47 ci ad d f_constants f_blanks f_counts f_points f_kept f_hashes f_news f_rounds f_hashed f_groups f_groupOf f_groupCount f_trial f_row f_names f_namedBlanks f_form f_formCount f_octets f_descriptions f_described f_message f_size f_words f_schedule f_thrown f_said) sz) := by
  refine k_enter (by decide) (Nat.le_of_ble_eq_true rfl) ?_
  intro p e s m below meth c ls X hsz hH hl
  subst hsz
  generalize va_A (wX47 ci ad d f_constants f_blanks f_counts f_points f_kept f_hashes f_news f_rounds f_hashed f_groups f_groupOf f_groupCount f_trial f_row f_names f_namedBlanks f_form f_formCount f_octets f_descriptions f_described f_message f_size f_words f_schedule f_thrown f_said) s.heap.size = A at hH ⊢
  have hx := X.1.1
  have hb := X.1.2.1
  have hl : lv_has ls 3 [(0, .ref (ad 0)), (1, .int x1), (2, .int x2)] := hl
  unfold wpX47_form at hw
  refine lv_aload_n hx hb dX47_form_0 rfl (lv_at hl 0 rfl) ?_
  refine lv_iconst (v := 0) hx hb dX47_form_1 (by decide) ?_
  refine k_put X hH in_X47 tyX47_ok nmX47 0 rfl hc 25 (by decide) q6009 rfl (ty := .int) rfl rfl rfl (Nat.le_of_ble_eq_true rfl) dX47_form_2 (ws1 := (wX47 ci ad d f_constants f_blanks f_counts f_points f_kept f_hashes f_news f_rounds f_hashed f_groups f_groupOf f_groupCount f_trial f_row f_names f_namedBlanks f_form f_formCount f_octets f_descriptions f_described f_message f_size f_words f_schedule 0 f_said)) rfl (fun H locs hH => ?_)
  refine lv_iload_n hx hb dX47_form_5 rfl (lv_at hl 1 rfl) ?_
  refine lv_if_lt (tgt := 26) hx hb dX47_form_6 (by decide) (fun c_1 => ?_) (fun c_1 => ?_)
  · have hw := hw.1 (z_lt (rfl : x1.toInt = _) (rfl : (0 : Int32).toInt = 0) c_1)
    refine lv_iconst (v := 0) hx hb dX47_form_26 (by decide) ?_
    refine lv_goto (tgt := 40) hx hb dX47_form_27 (by decide) ?_
    exact k_iret (v := 0) X hH (0) hw rfl rfl dX47_form_40
  · have hw := hw.2 (z_nlt (rfl : x1.toInt = _) (rfl : (0 : Int32).toInt = 0) c_1)
    refine lv_iload_n hx hb dX47_form_9 rfl (lv_at hl 1 rfl) ?_
    refine lv_aload_n hx hb dX47_form_10 rfl (lv_at hl 0 rfl) ?_
    refine k_get X hH in_X47 0 rfl hc 17 (by decide) q6001 rfl dX47_form_11 ?_
    refine lv_icmp_ge (tgt := 26) hx hb dX47_form_14 (by decide) (fun c_2 => ?_) (fun c_2 => ?_)
    · have hw := hw.1 (z_le (rfl : f_formCount.toInt = _) (rfl : x1.toInt = _) c_2)
      refine lv_iconst (v := 0) hx hb dX47_form_26 (by decide) ?_
      refine lv_goto (tgt := 40) hx hb dX47_form_27 (by decide) ?_
      exact k_iret (v := 0) X hH (0) hw rfl rfl dX47_form_40
    · have hw := hw.2 (z_nle (rfl : f_formCount.toInt = _) (rfl : x1.toInt = _) c_2)
      refine lv_iload_n hx hb dX47_form_17 rfl (lv_at hl 2 rfl) ?_
      refine lv_if_lt (tgt := 26) hx hb dX47_form_18 (by decide) (fun c_3 => ?_) (fun c_3 => ?_)
      · have hw := hw.1 (z_lt (rfl : x2.toInt = _) (rfl : (0 : Int32).toInt = 0) c_3)
        refine lv_iconst (v := 0) hx hb dX47_form_26 (by decide) ?_
        refine lv_goto (tgt := 40) hx hb dX47_form_27 (by decide) ?_
        exact k_iret (v := 0) X hH (0) hw rfl rfl dX47_form_40
      · have hw := hw.2 (z_nlt (rfl : x2.toInt = _) (rfl : (0 : Int32).toInt = 0) c_3)
        refine lv_iload_n hx hb dX47_form_21 rfl (lv_at hl 2 rfl) ?_
        refine lv_iconst (v := 2) hx hb dX47_form_22 (by decide) ?_
        refine lv_icmp_le (tgt := 30) hx hb dX47_form_23 (by decide) (fun c_4 => ?_) (fun c_4 => ?_)
        · have hw := hw.1 (z_le (rfl : x2.toInt = _) (rfl : (2 : Int32).toInt = 2) c_4)
          refine lv_aload_n hx hb dX47_form_30 rfl (lv_at hl 0 rfl) ?_
          refine k_get X hH in_X47 0 rfl hc 16 (by decide) q6000 rfl dX47_form_31 ?_
          refine lv_iconst (v := 3) hx hb dX47_form_34 (by decide) ?_
          refine lv_iload_n hx hb dX47_form_35 rfl (lv_at hl 1 rfl) ?_
          refine lv_imul hx hb dX47_form_36 ?_
          have e_5 := z_mul (z_m (rfl : (3 : Int32).toInt = 3)) (z_m (rfl : x1.toInt = _))
          refine lv_iload_n hx hb dX47_form_37 rfl (lv_at hl 2 rfl) ?_
          refine lv_iadd hx hb dX47_form_38 ?_
          have e_6 := z_add e_5 (z_m (rfl : x2.toInt = _))
          have hq_7 := hw.1
          have hw := hw.2
          have e_8 := z_xi e_6 hq_7 (by decide)
          refine k_iald X hH 12 11 rfl rfl (z_in e_8 hq_7) dX47_form_39 ?_
          have e_9 := z_ld (f := f_form) e_8 hq_7.1
          exact k_iret (v := f_form ((3 * x1) + x2).toNatClampNeg) X hH (0) (by rw [show (f_form ((3 * x1) + x2).toNatClampNeg : Int32).toInt = _ from e_9]; exact hw) rfl rfl dX47_form_40
        · have hw := hw.2 (z_nle (rfl : x2.toInt = _) (rfl : (2 : Int32).toInt = 2) c_4)
          refine lv_iconst (v := 0) hx hb dX47_form_26 (by decide) ?_
          refine lv_goto (tgt := 40) hx hb dX47_form_27 (by decide) ?_
          exact k_iret (v := 0) X hH (0) hw rfl rfl dX47_form_40
set_option maxHeartbeats 4000000 in
theorem walkX47_hash {l : Launch} {dC : Nat → ClassId} {dI : Nat → Nat → Nat} {cl : List vw_C} {ci : Nat} (hc : cl[ci]? = some (RX47, TX47, 27)) {ad : Nat → Nat} {d : Nat → ClassId} {sz : Nat} {f_constants : Nat → Int64} {f_blanks : Nat → Int32} {f_counts : Nat → Int32} {f_points : Nat → Int32} {f_kept : Int32} {f_hashes : Nat → Int64} {f_news : Nat → Int64} {f_rounds : Int32} {f_hashed : Int32} {f_groups : Nat → Int32} {f_groupOf : Nat → Int32} {f_groupCount : Int32} {f_trial : Nat → Int32} {f_row : Nat → Int32} {f_names : Nat → Int32} {f_namedBlanks : Int32} {f_form : Nat → Int32} {f_formCount : Int32} {f_octets : Nat → Int32} {f_descriptions : Nat → Int32} {f_described : Int32} {f_message : Nat → Int32} {f_size : Int32} {f_words : Nat → Int64} {f_schedule : Nat → Int64} {f_thrown : Int32} {f_said : Nat → Int32} {x1 : Int32} {x2 : Int32} {post : Int → (Int → Int) → (Int → Int) → Int → Int → (Int → Int) → (Int → Int) → Int → (Int → Int) → Int → (Int → Int) → Int → (Int → Int) → (Int → Int) → Int → (Int → Int) → Prop} (hw : wpX47_hash post (zG f_constants) (zF f_blanks) (zF f_counts) (zF f_points) (zG f_hashes) (zG f_news) f_rounds.toInt f_hashed.toInt (zF f_groups) (zF f_groupOf) f_groupCount.toInt (zF f_descriptions) f_described.toInt (zF f_message) f_size.toInt (zG f_words) (zG f_schedule) (zF f_said) x1.toInt x2.toInt) :
    Met l yX47_hash (ws_ yX47_hash cX47_hash 3 (some .int)) ({ frames := 5, cells := 0, slots := 0, locals := 135 } : Room) (kPc (dC, dI) cl (tX47 d) [.ref (ad 0), .int x1, .int x2] sz (wX47 ci ad d f_constants f_blanks f_counts f_points f_kept f_hashes f_news f_rounds f_hashed f_groups f_groupOf f_groupCount f_trial f_row f_names f_namedBlanks f_form f_formCount f_octets f_descriptions f_described f_message f_size f_words f_schedule f_thrown f_said)) (va_Qi (fun (r : Int32) (u : (Nat → Int64) × (Nat → Int64) × Int32 × Int32 × (Nat → Int32) × (Nat → Int32) × Int32 × (Nat → Int32) × Int32 × (Nat → Int32) × Int32 × (Nat → Int64) × (Nat → Int64) × Int32 × (Nat → Int32)) => post r.toInt (zG (u.1)) (zG (u.2.1)) (u.2.2.1).toInt (u.2.2.2.1).toInt (zF (u.2.2.2.2.1)) (zF (u.2.2.2.2.2.1)) (u.2.2.2.2.2.2.1).toInt (zF (u.2.2.2.2.2.2.2.1)) (u.2.2.2.2.2.2.2.2.1).toInt (zF (u.2.2.2.2.2.2.2.2.2.1)) (u.2.2.2.2.2.2.2.2.2.2.1).toInt (zG (u.2.2.2.2.2.2.2.2.2.2.2.1)) (zG (u.2.2.2.2.2.2.2.2.2.2.2.2.1)) (u.2.2.2.2.2.2.2.2.2.2.2.2.2.1).toInt (zF (u.2.2.2.2.2.2.2.2.2.2.2.2.2.2))) (kB (dC, dI) cl (tX47 d) (va_A (wX47 ci ad d f_constants f_blanks f_counts f_points f_kept f_hashes f_news f_rounds f_hashed f_groups f_groupOf f_groupCount f_trial f_row f_names f_namedBlanks f_form f_formCount f_octets f_descriptions f_described f_message f_size f_words f_schedule f_thrown f_said) sz) (fun u : (Nat → Int64) × (Nat → Int64) × Int32 × Int32 × (Nat → Int32) × (Nat → Int32) × Int32 × (Nat → Int32) × Int32 × (Nat → Int32) × Int32 × (Nat → Int64) × (Nat → Int64) × Int32 × (Nat → Int32) => (wX47 ci ad d f_constants f_blanks f_counts f_points f_kept (u.1) (u.2.1) (u.2.2.1) (u.2.2.2.1) (u.2.2.2.2.1) (u.2.2.2.2.2.1) (u.2.2.2.2.2.2.1) f_trial f_row f_names f_namedBlanks f_form f_formCount f_octets (u.2.2.2.2.2.2.2.1) (u.2.2.2.2.2.2.2.2.1) (u.2.2.2.2.2.2.2.2.2.1) (u.2.2.2.2.2.2.2.2.2.2.1) (u.2.2.2.2.2.2.2.2.2.2.2.1) (u.2.2.2.2.2.2.2.2.2.2.2.2.1) (u.2.2.2.2.2.2.2.2.2.2.2.2.2.1) (u.2.2.2.2.2.2.2.2.2.2.2.2.2.2)))) (va_A (wX47 ci ad d f_constants f_blanks f_counts f_points f_kept f_hashes f_news f_rounds f_hashed f_groups f_groupOf f_groupCount f_trial f_row f_names f_namedBlanks f_form f_formCount f_octets f_descriptions f_described f_message f_size f_words f_schedule f_thrown f_said) sz)) 0 0 (va_A (wX47 ci ad d f_constants f_blanks f_counts f_points f_kept f_hashes f_news f_rounds f_hashed f_groups f_groupOf f_groupCount f_trial f_row f_names f_namedBlanks f_form f_formCount f_octets f_descriptions f_described f_message f_size f_words f_schedule f_thrown f_said) sz) := by
  refine k_enter (by decide) (Nat.le_of_ble_eq_true rfl) ?_
  intro p e s m below meth c ls X hsz hH hl
  subst hsz
  generalize va_A (wX47 ci ad d f_constants f_blanks f_counts f_points f_kept f_hashes f_news f_rounds f_hashed f_groups f_groupOf f_groupCount f_trial f_row f_names f_namedBlanks f_form f_formCount f_octets f_descriptions f_described f_message f_size f_words f_schedule f_thrown f_said) s.heap.size = A at hH ⊢
  have hx := X.1.1
  have hb := X.1.2.1
  have hl : lv_has ls 3 [(0, .ref (ad 0)), (1, .int x1), (2, .int x2)] := hl
  unfold wpX47_hash at hw
  refine lv_aload_n hx hb dX47_hash_0 rfl (lv_at hl 0 rfl) ?_
  refine lv_iconst (v := 0) hx hb dX47_hash_1 (by decide) ?_
  refine k_put X hH in_X47 tyX47_ok nmX47 0 rfl hc 25 (by decide) q6009 rfl (ty := .int) rfl rfl rfl (Nat.le_of_ble_eq_true rfl) dX47_hash_2 (ws1 := (wX47 ci ad d f_constants f_blanks f_counts f_points f_kept f_hashes f_news f_rounds f_hashed f_groups f_groupOf f_groupCount f_trial f_row f_names f_namedBlanks f_form f_formCount f_octets f_descriptions f_described f_message f_size f_words f_schedule 0 f_said)) rfl (fun H locs hH => ?_)
  refine lv_aload_n hx hb dX47_hash_5 rfl (lv_at hl 0 rfl) ?_
  refine k_v0 hH (k_runV (As := []) (rest := []) X hH.1 hH.2.1 X.2.2.2 (walkX47_makeHashes hc (f_constants := f_constants) (f_blanks := f_blanks) (f_counts := f_counts) (f_points := f_points) (f_kept := f_kept) (f_hashes := f_hashes) (f_news := f_news) (f_rounds := f_rounds) (f_hashed := f_hashed) (f_groups := f_groups) (f_groupOf := f_groupOf) (f_groupCount := f_groupCount) (f_trial := f_trial) (f_row := f_row) (f_names := f_names) (f_namedBlanks := f_namedBlanks) (f_form := f_form) (f_formCount := f_formCount) (f_octets := f_octets) (f_descriptions := f_descriptions) (f_described := f_described) (f_message := f_message) (f_size := f_size) (f_words := f_words) (f_schedule := f_schedule) (f_thrown := 0) (f_said := f_said) hw) (cwV 0 X.1.2.2.2.2 gX47_294 rfl rfl rfl hX47_makeHashes ⟨Nat.le_of_ble_eq_true rfl, Nat.le_of_ble_eq_true rfl⟩) hc (q0 := 0) rfl rfl hl.1 rfl (Nat.le_of_ble_eq_true rfl) dX47_hash_6 ⟨Nat.le_refl 0, Nat.le_refl 0⟩) (fun u H locs hw hH => ?_)
  obtain ⟨f_hashes_1, f_news_2, f_rounds_3, f_hashed_4, f_groups_5, f_groupOf_6, f_groupCount_7, f_descriptions_8, f_described_9, f_message_10, f_size_11, f_words_12, f_schedule_13, f_said_14⟩ := u
  have hH : kH (dC, dI) cl A s.heap H locs (wX47 ci ad d f_constants f_blanks f_counts f_points f_kept f_hashes_1 f_news_2 f_rounds_3 f_hashed_4 f_groups_5 f_groupOf_6 f_groupCount_7 f_trial f_row f_names f_namedBlanks f_form f_formCount f_octets f_descriptions_8 f_described_9 f_message_10 f_size_11 f_words_12 f_schedule_13 0 f_said_14) := hH
  refine lv_iload_n hx hb dX47_hash_9 rfl (lv_at hl 1 rfl) ?_
  refine lv_iconst (v := 1) hx hb dX47_hash_10 (by decide) ?_
  refine lv_icmp_lt (tgt := 35) hx hb dX47_hash_11 (by decide) (fun c_15 => ?_) (fun c_15 => ?_)
  · have hw := hw.1 (z_lt (rfl : x1.toInt = _) (rfl : (1 : Int32).toInt = 1) c_15)
    refine lv_iconst (v := 0) hx hb dX47_hash_35 (by decide) ?_
    refine lv_goto (tgt := 51) hx hb dX47_hash_36 (by decide) ?_
    exact k_iret (v := 0) X hH (f_hashes_1, f_news_2, f_rounds_3, f_hashed_4, f_groups_5, f_groupOf_6, f_groupCount_7, f_descriptions_8, f_described_9, f_message_10, f_size_11, f_words_12, f_schedule_13, 0, f_said_14) hw rfl rfl dX47_hash_51
  · have hw := hw.2 (z_nlt (rfl : x1.toInt = _) (rfl : (1 : Int32).toInt = 1) c_15)
    refine lv_iload_n hx hb dX47_hash_14 rfl (lv_at hl 1 rfl) ?_
    refine lv_aload_n hx hb dX47_hash_15 rfl (lv_at hl 0 rfl) ?_
    refine k_get X hH in_X47 0 rfl hc 1 (by decide) q5985 rfl dX47_hash_16 ?_
    refine lv_bipush (v := 8) hx hb dX47_hash_19 (by decide) ?_
    refine k_iald X hH 2 1 rfl rfl (by unfold vp_in; decide) dX47_hash_21 ?_
    have e_16 := z_ld (f := f_blanks) (rfl : (8 : Int32).toInt = 8) (by decide)
    refine lv_icmp_gt (tgt := 35) hx hb dX47_hash_22 (by decide) (fun c_17 => ?_) (fun c_17 => ?_)
    · have hw := hw.1 (z_lt e_16 (rfl : x1.toInt = _) c_17)
      refine lv_iconst (v := 0) hx hb dX47_hash_35 (by decide) ?_
      refine lv_goto (tgt := 51) hx hb dX47_hash_36 (by decide) ?_
      exact k_iret (v := 0) X hH (f_hashes_1, f_news_2, f_rounds_3, f_hashed_4, f_groups_5, f_groupOf_6, f_groupCount_7, f_descriptions_8, f_described_9, f_message_10, f_size_11, f_words_12, f_schedule_13, 0, f_said_14) hw rfl rfl dX47_hash_51
    · have hw := hw.2 (z_nlt e_16 (rfl : x1.toInt = _) c_17)
      refine lv_iload_n hx hb dX47_hash_25 rfl (lv_at hl 2 rfl) ?_
      refine lv_if_lt (tgt := 35) hx hb dX47_hash_26 (by decide) (fun c_18 => ?_) (fun c_18 => ?_)
      · have hw := hw.1 (z_lt (rfl : x2.toInt = _) (rfl : (0 : Int32).toInt = 0) c_18)
        refine lv_iconst (v := 0) hx hb dX47_hash_35 (by decide) ?_
        refine lv_goto (tgt := 51) hx hb dX47_hash_36 (by decide) ?_
        exact k_iret (v := 0) X hH (f_hashes_1, f_news_2, f_rounds_3, f_hashed_4, f_groups_5, f_groupOf_6, f_groupCount_7, f_descriptions_8, f_described_9, f_message_10, f_size_11, f_words_12, f_schedule_13, 0, f_said_14) hw rfl rfl dX47_hash_51
      · have hw := hw.2 (z_nlt (rfl : x2.toInt = _) (rfl : (0 : Int32).toInt = 0) c_18)
        refine lv_iload_n hx hb dX47_hash_29 rfl (lv_at hl 2 rfl) ?_
        refine lv_bipush (v := 7) hx hb dX47_hash_30 (by decide) ?_
        refine lv_icmp_le (tgt := 39) hx hb dX47_hash_32 (by decide) (fun c_19 => ?_) (fun c_19 => ?_)
        · have hw := hw.1 (z_le (rfl : x2.toInt = _) (rfl : (7 : Int32).toInt = 7) c_19)
          refine lv_aload_n hx hb dX47_hash_39 rfl (lv_at hl 0 rfl) ?_
          refine k_get X hH in_X47 0 rfl hc 5 (by decide) q5989 rfl dX47_hash_40 ?_
          refine lv_bipush (v := 8) hx hb dX47_hash_43 (by decide) ?_
          refine lv_iload_n hx hb dX47_hash_45 rfl (lv_at hl 1 rfl) ?_
          refine lv_imul hx hb dX47_hash_46 ?_
          have e_20 := z_mulw (rfl : (8 : Int32).toInt = 8) (rfl : x1.toInt = _)
          refine lv_iload_n hx hb dX47_hash_47 rfl (lv_at hl 2 rfl) ?_
          refine lv_iadd hx hb dX47_hash_48 ?_
          have e_21 := z_addw e_20 (rfl : x2.toInt = _)
          have hq_22 := hw.1
          have hw := hw.2
          refine k_lald X hH 5 4 rfl rfl (z_in e_21 hq_22) dX47_hash_49 ?_
          have e_23 := z_ldL (f := f_hashes_1) e_21 hq_22.1
          refine lv_l2i (v := (f_hashes_1 ((8 * x1) + x2).toNatClampNeg).toInt32) hx hb dX47_hash_50 rfl ?_
          have e_24 := z_l2i e_23
          exact k_iret (v := (f_hashes_1 ((8 * x1) + x2).toNatClampNeg).toInt32) X hH (f_hashes_1, f_news_2, f_rounds_3, f_hashed_4, f_groups_5, f_groupOf_6, f_groupCount_7, f_descriptions_8, f_described_9, f_message_10, f_size_11, f_words_12, f_schedule_13, 0, f_said_14) (by rw [show ((f_hashes_1 ((8 * x1) + x2).toNatClampNeg).toInt32 : Int32).toInt = _ from e_24]; exact hw) rfl rfl dX47_hash_51
        · have hw := hw.2 (z_nle (rfl : x2.toInt = _) (rfl : (7 : Int32).toInt = 7) c_19)
          refine lv_iconst (v := 0) hx hb dX47_hash_35 (by decide) ?_
          refine lv_goto (tgt := 51) hx hb dX47_hash_36 (by decide) ?_
          exact k_iret (v := 0) X hH (f_hashes_1, f_news_2, f_rounds_3, f_hashed_4, f_groups_5, f_groupOf_6, f_groupCount_7, f_descriptions_8, f_described_9, f_message_10, f_size_11, f_words_12, f_schedule_13, 0, f_said_14) hw rfl rfl dX47_hash_51
set_option maxHeartbeats 4000000 in
theorem walkX47_rounds {l : Launch} {dC : Nat → ClassId} {dI : Nat → Nat → Nat} {cl : List vw_C} {ci : Nat} (hc : cl[ci]? = some (RX47, TX47, 27)) {ad : Nat → Nat} {d : Nat → ClassId} {sz : Nat} {f_constants : Nat → Int64} {f_blanks : Nat → Int32} {f_counts : Nat → Int32} {f_points : Nat → Int32} {f_kept : Int32} {f_hashes : Nat → Int64} {f_news : Nat → Int64} {f_rounds : Int32} {f_hashed : Int32} {f_groups : Nat → Int32} {f_groupOf : Nat → Int32} {f_groupCount : Int32} {f_trial : Nat → Int32} {f_row : Nat → Int32} {f_names : Nat → Int32} {f_namedBlanks : Int32} {f_form : Nat → Int32} {f_formCount : Int32} {f_octets : Nat → Int32} {f_descriptions : Nat → Int32} {f_described : Int32} {f_message : Nat → Int32} {f_size : Int32} {f_words : Nat → Int64} {f_schedule : Nat → Int64} {f_thrown : Int32} {f_said : Nat → Int32}  {post : Int → (Int → Int) → (Int → Int) → Int → Int → (Int → Int) → (Int → Int) → Int → (Int → Int) → Int → (Int → Int) → Int → (Int → Int) → (Int → Int) → Int → (Int → Int) → Prop} (hw : wpX47_rounds post (zG f_constants) (zF f_blanks) (zF f_counts) (zF f_points) (zG f_hashes) (zG f_news) f_rounds.toInt f_hashed.toInt (zF f_groups) (zF f_groupOf) f_groupCount.toInt (zF f_descriptions) f_described.toInt (zF f_message) f_size.toInt (zG f_words) (zG f_schedule) (zF f_said) ) :
    Met l yX47_rounds (ws_ yX47_rounds cX47_rounds 1 (some .int)) ({ frames := 5, cells := 0, slots := 0, locals := 135 } : Room) (kPc (dC, dI) cl (tX47 d) [.ref (ad 0)] sz (wX47 ci ad d f_constants f_blanks f_counts f_points f_kept f_hashes f_news f_rounds f_hashed f_groups f_groupOf f_groupCount f_trial f_row f_names f_namedBlanks f_form f_formCount f_octets f_descriptions f_described f_message f_size f_words f_schedule f_thrown f_said)) (va_Qi (fun (r : Int32) (u : (Nat → Int64) × (Nat → Int64) × Int32 × Int32 × (Nat → Int32) × (Nat → Int32) × Int32 × (Nat → Int32) × Int32 × (Nat → Int32) × Int32 × (Nat → Int64) × (Nat → Int64) × Int32 × (Nat → Int32)) => post r.toInt (zG (u.1)) (zG (u.2.1)) (u.2.2.1).toInt (u.2.2.2.1).toInt (zF (u.2.2.2.2.1)) (zF (u.2.2.2.2.2.1)) (u.2.2.2.2.2.2.1).toInt (zF (u.2.2.2.2.2.2.2.1)) (u.2.2.2.2.2.2.2.2.1).toInt (zF (u.2.2.2.2.2.2.2.2.2.1)) (u.2.2.2.2.2.2.2.2.2.2.1).toInt (zG (u.2.2.2.2.2.2.2.2.2.2.2.1)) (zG (u.2.2.2.2.2.2.2.2.2.2.2.2.1)) (u.2.2.2.2.2.2.2.2.2.2.2.2.2.1).toInt (zF (u.2.2.2.2.2.2.2.2.2.2.2.2.2.2))) (kB (dC, dI) cl (tX47 d) (va_A (wX47 ci ad d f_constants f_blanks f_counts f_points f_kept f_hashes f_news f_rounds f_hashed f_groups f_groupOf f_groupCount f_trial f_row f_names f_namedBlanks f_form f_formCount f_octets f_descriptions f_described f_message f_size f_words f_schedule f_thrown f_said) sz) (fun u : (Nat → Int64) × (Nat → Int64) × Int32 × Int32 × (Nat → Int32) × (Nat → Int32) × Int32 × (Nat → Int32) × Int32 × (Nat → Int32) × Int32 × (Nat → Int64) × (Nat → Int64) × Int32 × (Nat → Int32) => (wX47 ci ad d f_constants f_blanks f_counts f_points f_kept (u.1) (u.2.1) (u.2.2.1) (u.2.2.2.1) (u.2.2.2.2.1) (u.2.2.2.2.2.1) (u.2.2.2.2.2.2.1) f_trial f_row f_names f_namedBlanks f_form f_formCount f_octets (u.2.2.2.2.2.2.2.1) (u.2.2.2.2.2.2.2.2.1) (u.2.2.2.2.2.2.2.2.2.1) (u.2.2.2.2.2.2.2.2.2.2.1) (u.2.2.2.2.2.2.2.2.2.2.2.1) (u.2.2.2.2.2.2.2.2.2.2.2.2.1) (u.2.2.2.2.2.2.2.2.2.2.2.2.2.1) (u.2.2.2.2.2.2.2.2.2.2.2.2.2.2)))) (va_A (wX47 ci ad d f_constants f_blanks f_counts f_points f_kept f_hashes f_news f_rounds f_hashed f_groups f_groupOf f_groupCount f_trial f_row f_names f_namedBlanks f_form f_formCount f_octets f_descriptions f_described f_message f_size f_words f_schedule f_thrown f_said) sz)) 0 0 (va_A (wX47 ci ad d f_constants f_blanks f_counts f_points f_kept f_hashes f_news f_rounds f_hashed f_groups f_groupOf f_groupCount f_trial f_row f_names f_namedBlanks f_form f_formCount f_octets f_descriptions f_described f_message f_size f_words f_schedule f_thrown f_said) sz) := by
  refine k_enter (by decide) (Nat.le_of_ble_eq_true rfl) ?_
  intro p e s m below meth c ls X hsz hH hl
  subst hsz
  generalize va_A (wX47 ci ad d f_constants f_blanks f_counts f_points f_kept f_hashes f_news f_rounds f_hashed f_groups f_groupOf f_groupCount f_trial f_row f_names f_namedBlanks f_form f_formCount f_octets f_descriptions f_described f_message f_size f_words f_schedule f_thrown f_said) s.heap.size = A at hH ⊢
  have hx := X.1.1
  have hb := X.1.2.1
  have hl : lv_has ls 1 [(0, .ref (ad 0))] := hl
  unfold wpX47_rounds at hw
  refine lv_aload_n hx hb dX47_rounds_0 rfl (lv_at hl 0 rfl) ?_
  refine lv_iconst (v := 0) hx hb dX47_rounds_1 (by decide) ?_
  refine k_put X hH in_X47 tyX47_ok nmX47 0 rfl hc 25 (by decide) q6009 rfl (ty := .int) rfl rfl rfl (Nat.le_of_ble_eq_true rfl) dX47_rounds_2 (ws1 := (wX47 ci ad d f_constants f_blanks f_counts f_points f_kept f_hashes f_news f_rounds f_hashed f_groups f_groupOf f_groupCount f_trial f_row f_names f_namedBlanks f_form f_formCount f_octets f_descriptions f_described f_message f_size f_words f_schedule 0 f_said)) rfl (fun H locs hH => ?_)
  refine lv_aload_n hx hb dX47_rounds_5 rfl (lv_at hl 0 rfl) ?_
  refine k_v0 hH (k_runV (As := []) (rest := []) X hH.1 hH.2.1 X.2.2.2 (walkX47_makeHashes hc (f_constants := f_constants) (f_blanks := f_blanks) (f_counts := f_counts) (f_points := f_points) (f_kept := f_kept) (f_hashes := f_hashes) (f_news := f_news) (f_rounds := f_rounds) (f_hashed := f_hashed) (f_groups := f_groups) (f_groupOf := f_groupOf) (f_groupCount := f_groupCount) (f_trial := f_trial) (f_row := f_row) (f_names := f_names) (f_namedBlanks := f_namedBlanks) (f_form := f_form) (f_formCount := f_formCount) (f_octets := f_octets) (f_descriptions := f_descriptions) (f_described := f_described) (f_message := f_message) (f_size := f_size) (f_words := f_words) (f_schedule := f_schedule) (f_thrown := 0) (f_said := f_said) hw) (cwV 0 X.1.2.2.2.2 gX47_294 rfl rfl rfl hX47_makeHashes ⟨Nat.le_of_ble_eq_true rfl, Nat.le_of_ble_eq_true rfl⟩) hc (q0 := 0) rfl rfl hl.1 rfl (Nat.le_of_ble_eq_true rfl) dX47_rounds_6 ⟨Nat.le_refl 0, Nat.le_refl 0⟩) (fun u H locs hw hH => ?_)
  obtain ⟨f_hashes_1, f_news_2, f_rounds_3, f_hashed_4, f_groups_5, f_groupOf_6, f_groupCount_7, f_descriptions_8, f_described_9, f_message_10, f_size_11, f_words_12, f_schedule_13, f_said_14⟩ := u
  have hH : kH (dC, dI) cl A s.heap H locs (wX47 ci ad d f_constants f_blanks f_counts f_points f_kept f_hashes_1 f_news_2 f_rounds_3 f_hashed_4 f_groups_5 f_groupOf_6 f_groupCount_7 f_trial f_row f_names f_namedBlanks f_form f_formCount f_octets f_descriptions_8 f_described_9 f_message_10 f_size_11 f_words_12 f_schedule_13 0 f_said_14) := hH
  refine lv_aload_n hx hb dX47_rounds_9 rfl (lv_at hl 0 rfl) ?_
  refine k_get X hH in_X47 0 rfl hc 7 (by decide) q5991 rfl dX47_rounds_10 ?_
  exact k_iret (v := f_rounds_3) X hH (f_hashes_1, f_news_2, f_rounds_3, f_hashed_4, f_groups_5, f_groupOf_6, f_groupCount_7, f_descriptions_8, f_described_9, f_message_10, f_size_11, f_words_12, f_schedule_13, 0, f_said_14) hw rfl rfl dX47_rounds_13
set_option maxHeartbeats 4000000 in
theorem atX47_first_32 {p : Program} {l : Launch} {e : Env} {s : State} {m : MethodId} {args : Array Value} {below : List Frame} {meth : Method} {c : Code} {dC : Nat → ClassId} {dI : Nat → Nat → Nat} {cl : List vw_C} {ci : Nat} (hc : cl[ci]? = some (RX47, TX47, 27)) {ad : Nat → Nat} {d : Nat → ClassId} {A : Nat → Prop} {post : Int → (Int → Int) → (Int → Int) → Int → Int → (Int → Int) → (Int → Int) → Int → (Int → Int) → Int → (Int → Int) → Int → (Int → Int) → (Int → Int) → Int → (Int → Int) → Prop} {f_constants : Nat → Int64} {f_blanks : Nat → Int32} {f_counts : Nat → Int32} {f_points : Nat → Int32} {f_kept : Int32} {f_trial : Nat → Int32} {f_row : Nat → Int32} {f_names : Nat → Int32} {f_namedBlanks : Int32} {f_form : Nat → Int32} {f_formCount : Int32} {f_octets : Nat → Int32} (X : kX p s m args meth c cX47_first 5 RX47 (some .int) (dC, dI) cl (tX47 d)) {K62 : Int → Prop} {K74 : Prop} {x1 : Int32} {f_hashes : Nat → Int64} {f_news : Nat → Int64} {f_rounds : Int32} {f_hashed : Int32} {f_groups : Nat → Int32} {f_groupOf : Nat → Int32} {f_groupCount : Int32} {f_descriptions : Nat → Int32} {f_described : Int32} {f_message : Nat → Int32} {f_size : Int32} {f_words : Nat → Int64} {f_schedule : Nat → Int64} {f_thrown : Int32} {f_said : Nat → Int32} (hk62 : ∀ (x4 : Int32), K62 x4.toInt → ∀ (H : Heap) (locs : List Loc) (ls : Array Slot), kH (dC, dI) cl A s.heap H locs (wX47 ci ad d f_constants f_blanks f_counts f_points f_kept f_hashes f_news f_rounds f_hashed f_groups f_groupOf f_groupCount f_trial f_row f_names f_namedBlanks f_form f_formCount f_octets f_descriptions f_described f_message f_size f_words f_schedule f_thrown f_said) → lv_has ls 5 [(4, .int x4)] → W p l e ({ frames := 5, cells := 0, slots := 0, locals := 135 } : Room) s m args below meth c H locs 0 0 (MQ below (va_Qi (fun (r : Int32) (u : (Nat → Int64) × (Nat → Int64) × Int32 × Int32 × (Nat → Int32) × (Nat → Int32) × Int32 × (Nat → Int32) × Int32 × (Nat → Int32) × Int32 × (Nat → Int64) × (Nat → Int64) × Int32 × (Nat → Int32)) => post r.toInt (zG (u.1)) (zG (u.2.1)) (u.2.2.1).toInt (u.2.2.2.1).toInt (zF (u.2.2.2.2.1)) (zF (u.2.2.2.2.2.1)) (u.2.2.2.2.2.2.1).toInt (zF (u.2.2.2.2.2.2.2.1)) (u.2.2.2.2.2.2.2.2.1).toInt (zF (u.2.2.2.2.2.2.2.2.2.1)) (u.2.2.2.2.2.2.2.2.2.2.1).toInt (zG (u.2.2.2.2.2.2.2.2.2.2.2.1)) (zG (u.2.2.2.2.2.2.2.2.2.2.2.2.1)) (u.2.2.2.2.2.2.2.2.2.2.2.2.2.1).toInt (zF (u.2.2.2.2.2.2.2.2.2.2.2.2.2.2))) (kB (dC, dI) cl (tX47 d) A (fun u : (Nat → Int64) × (Nat → Int64) × Int32 × Int32 × (Nat → Int32) × (Nat → Int32) × Int32 × (Nat → Int32) × Int32 × (Nat → Int32) × Int32 × (Nat → Int64) × (Nat → Int64) × Int32 × (Nat → Int32) => (wX47 ci ad d f_constants f_blanks f_counts f_points f_kept (u.1) (u.2.1) (u.2.2.1) (u.2.2.2.1) (u.2.2.2.2.1) (u.2.2.2.2.2.1) (u.2.2.2.2.2.2.1) f_trial f_row f_names f_namedBlanks f_form f_formCount f_octets (u.2.2.2.2.2.2.2.1) (u.2.2.2.2.2.2.2.2.1) (u.2.2.2.2.2.2.2.2.2.1) (u.2.2.2.2.2.2.2.2.2.2.1) (u.2.2.2.2.2.2.2.2.2.2.2.1) (u.2.2.2.2.2.2.2.2.2.2.2.2.1) (u.2.2.2.2.2.2.2.2.2.2.2.2.2.1) (u.2.2.2.2.2.2.2.2.2.2.2.2.2.2)))) A) args s 0 0 A) (F0 m 62 ls [])) (hk74 : K74  → ∀ (H : Heap) (locs : List Loc) (ls : Array Slot), kH (dC, dI) cl A s.heap H locs (wX47 ci ad d f_constants f_blanks f_counts f_points f_kept f_hashes f_news f_rounds f_hashed f_groups f_groupOf f_groupCount f_trial f_row f_names f_namedBlanks f_form f_formCount f_octets f_descriptions f_described f_message f_size f_words f_schedule f_thrown f_said) → lv_has ls 5 [] → W p l e ({ frames := 5, cells := 0, slots := 0, locals := 135 } : Room) s m args below meth c H locs 0 0 (MQ below (va_Qi (fun (r : Int32) (u : (Nat → Int64) × (Nat → Int64) × Int32 × Int32 × (Nat → Int32) × (Nat → Int32) × Int32 × (Nat → Int32) × Int32 × (Nat → Int32) × Int32 × (Nat → Int64) × (Nat → Int64) × Int32 × (Nat → Int32)) => post r.toInt (zG (u.1)) (zG (u.2.1)) (u.2.2.1).toInt (u.2.2.2.1).toInt (zF (u.2.2.2.2.1)) (zF (u.2.2.2.2.2.1)) (u.2.2.2.2.2.2.1).toInt (zF (u.2.2.2.2.2.2.2.1)) (u.2.2.2.2.2.2.2.2.1).toInt (zF (u.2.2.2.2.2.2.2.2.2.1)) (u.2.2.2.2.2.2.2.2.2.2.1).toInt (zG (u.2.2.2.2.2.2.2.2.2.2.2.1)) (zG (u.2.2.2.2.2.2.2.2.2.2.2.2.1)) (u.2.2.2.2.2.2.2.2.2.2.2.2.2.1).toInt (zF (u.2.2.2.2.2.2.2.2.2.2.2.2.2.2))) (kB (dC, dI) cl (tX47 d) A (fun u : (Nat → Int64) × (Nat → Int64) × Int32 × Int32 × (Nat → Int32) × (Nat → Int32) × Int32 × (Nat → Int32) × Int32 × (Nat → Int32) × Int32 × (Nat → Int64) × (Nat → Int64) × Int32 × (Nat → Int32) => (wX47 ci ad d f_constants f_blanks f_counts f_points f_kept (u.1) (u.2.1) (u.2.2.1) (u.2.2.2.1) (u.2.2.2.2.1) (u.2.2.2.2.2.1) (u.2.2.2.2.2.2.1) f_trial f_row f_names f_namedBlanks f_form f_formCount f_octets (u.2.2.2.2.2.2.2.1) (u.2.2.2.2.2.2.2.2.1) (u.2.2.2.2.2.2.2.2.2.1) (u.2.2.2.2.2.2.2.2.2.2.1) (u.2.2.2.2.2.2.2.2.2.2.2.1) (u.2.2.2.2.2.2.2.2.2.2.2.2.1) (u.2.2.2.2.2.2.2.2.2.2.2.2.2.1) (u.2.2.2.2.2.2.2.2.2.2.2.2.2.2)))) A) args s 0 0 A) (F0 m 74 ls [])) :
    ∀ (nn : Nat) (x3 : Int32) (x4 : Int32), wX47_first_32 K62 K74 x1.toInt (zF f_blanks) (zF f_groups) nn x3.toInt x4.toInt → ∀ (H : Heap) (locs : List Loc) (ls : Array Slot), kH (dC, dI) cl A s.heap H locs (wX47 ci ad d f_constants f_blanks f_counts f_points f_kept f_hashes f_news f_rounds f_hashed f_groups f_groupOf f_groupCount f_trial f_row f_names f_namedBlanks f_form f_formCount f_octets f_descriptions f_described f_message f_size f_words f_schedule f_thrown f_said) → lv_has ls 5 [(0, .ref (ad 0)), (1, .int x1), (3, .int x3), (4, .int x4)] → W p l e ({ frames := 5, cells := 0, slots := 0, locals := 135 } : Room) s m args below meth c H locs 0 0 (MQ below (va_Qi (fun (r : Int32) (u : (Nat → Int64) × (Nat → Int64) × Int32 × Int32 × (Nat → Int32) × (Nat → Int32) × Int32 × (Nat → Int32) × Int32 × (Nat → Int32) × Int32 × (Nat → Int64) × (Nat → Int64) × Int32 × (Nat → Int32)) => post r.toInt (zG (u.1)) (zG (u.2.1)) (u.2.2.1).toInt (u.2.2.2.1).toInt (zF (u.2.2.2.2.1)) (zF (u.2.2.2.2.2.1)) (u.2.2.2.2.2.2.1).toInt (zF (u.2.2.2.2.2.2.2.1)) (u.2.2.2.2.2.2.2.2.1).toInt (zF (u.2.2.2.2.2.2.2.2.2.1)) (u.2.2.2.2.2.2.2.2.2.2.1).toInt (zG (u.2.2.2.2.2.2.2.2.2.2.2.1)) (zG (u.2.2.2.2.2.2.2.2.2.2.2.2.1)) (u.2.2.2.2.2.2.2.2.2.2.2.2.2.1).toInt (zF (u.2.2.2.2.2.2.2.2.2.2.2.2.2.2))) (kB (dC, dI) cl (tX47 d) A (fun u : (Nat → Int64) × (Nat → Int64) × Int32 × Int32 × (Nat → Int32) × (Nat → Int32) × Int32 × (Nat → Int32) × Int32 × (Nat → Int32) × Int32 × (Nat → Int64) × (Nat → Int64) × Int32 × (Nat → Int32) => (wX47 ci ad d f_constants f_blanks f_counts f_points f_kept (u.1) (u.2.1) (u.2.2.1) (u.2.2.2.1) (u.2.2.2.2.1) (u.2.2.2.2.2.1) (u.2.2.2.2.2.2.1) f_trial f_row f_names f_namedBlanks f_form f_formCount f_octets (u.2.2.2.2.2.2.2.1) (u.2.2.2.2.2.2.2.2.1) (u.2.2.2.2.2.2.2.2.2.1) (u.2.2.2.2.2.2.2.2.2.2.1) (u.2.2.2.2.2.2.2.2.2.2.2.1) (u.2.2.2.2.2.2.2.2.2.2.2.2.1) (u.2.2.2.2.2.2.2.2.2.2.2.2.2.1) (u.2.2.2.2.2.2.2.2.2.2.2.2.2.2)))) A) args s 0 0 A) (F0 m 32 ls []) := by
  have hx := X.1.1
  have hb := X.1.2.1
  intro nn
  induction nn with
  | zero =>
    intro x3 x4 hw
    exact False.elim hw
  | succ n ih =>
    intro x3 x4 hw H locs ls hH hl
    rw [wX47_first_32] at hw
    refine lv_iload hx hb dX47_first_32 (lv_at hl 3 rfl) ?_
    refine lv_aload_n hx hb dX47_first_34 rfl (lv_at hl 0 rfl) ?_
    refine k_get X hH in_X47 0 rfl hc 1 (by decide) q5985 rfl dX47_first_35 ?_
    refine lv_bipush (v := 8) hx hb dX47_first_38 (by decide) ?_
    refine k_iald X hH 2 1 rfl rfl (by unfold vp_in; decide) dX47_first_40 ?_
    have e_18 := z_ld (f := f_blanks) (rfl : (8 : Int32).toInt = 8) (by decide)
    refine lv_icmp_gt (tgt := 74) hx hb dX47_first_41 (by decide) (fun c_19 => ?_) (fun c_19 => ?_)
    · have hw := hw.1 (z_lt e_18 (rfl : x4.toInt = _) c_19)
      exact hk74  hw _ _ ls hH (lv_sub hl [] rfl)
    · have hw := hw.2 (z_nlt e_18 (rfl : x4.toInt = _) c_19)
      refine lv_aload_n hx hb dX47_first_44 rfl (lv_at hl 0 rfl) ?_
      refine k_get X hH in_X47 0 rfl hc 9 (by decide) q5993 rfl dX47_first_45 ?_
      refine lv_iload hx hb dX47_first_48 (lv_at hl 3 rfl) ?_
      have hq_20 := hw.1
      have hw := hw.2
      refine k_iald X hH 7 6 rfl rfl (z_in (rfl : x4.toInt = _) hq_20) dX47_first_50 ?_
      have e_21 := z_ld (f := f_groups) (rfl : x4.toInt = _) hq_20.1
      refine lv_iload_n hx hb dX47_first_51 rfl (lv_at hl 1 rfl) ?_
      refine lv_icmp_eq (tgt := 58) hx hb dX47_first_52 (by decide) (fun c_22 => ?_) (fun c_22 => ?_)
      · have hw := hw.1 (z_eq e_21 (rfl : x1.toInt = _) c_22)
        refine lv_iload_n hx hb dX47_first_58 rfl (lv_at hl 2 rfl) ?_
        refine lv_if_ne (tgt := 65) hx hb dX47_first_59 (by decide) (fun c_23 => ?_) (fun c_23 => ?_)
        · have hw := hw.2 (z_ne (rfl : x3.toInt = _) (rfl : (0 : Int32).toInt = 0) c_23)
          have hq_25 := hw.1
          have hw := hw.2
          obtain ⟨x3_24, ex3_24⟩ : ∃ y : Int32, y = x3 + (-1) := ⟨_, rfl⟩
          have hw := hw x3_24.toInt (by rw [ex3_24]; exact (z_x (z_add (z_m (rfl : x3.toInt = _)) (z_m (rfl : ((-1) : Int32).toInt = (-1)))) hq_25))
          refine lv_iinc (v := x3_24) (lv' := [(3, .int x3_24), (0, .ref (ad 0)), (1, .int x1), (4, .int x4)]) hx hb dX47_first_65 hl (k := 2) rfl (by rw [ex3_24]; rfl) (by decide) rfl (fun ls hl => ?_)
          have hq_27 := hw.1
          have hw := hw.2
          obtain ⟨x4_26, ex4_26⟩ : ∃ y : Int32, y = x4 + 1 := ⟨_, rfl⟩
          have hw := hw x4_26.toInt (by rw [ex4_26]; exact (z_x (z_add (z_m (rfl : x4.toInt = _)) (z_m (rfl : (1 : Int32).toInt = 1))) hq_27))
          refine lv_iinc (v := x4_26) (lv' := [(4, .int x4_26), (3, .int x3_24), (0, .ref (ad 0)), (1, .int x1)]) hx hb dX47_first_68 hl (k := 3) rfl (by rw [ex4_26]; rfl) (by decide) rfl (fun ls hl => ?_)
          refine lv_goto (tgt := 32) hx hb dX47_first_71 (by decide) ?_
          exact ih x3_24 x4_26 hw _ _ ls hH (lv_sub hl [2, 3, 1, 0] rfl)
        · have hw := hw.1 (z_eq (rfl : x3.toInt = _) (rfl : (0 : Int32).toInt = 0) c_23)
          exact hk62 x4 hw _ _ ls hH (lv_sub hl [3] rfl)
      · have hw := hw.2 (z_neq e_21 (rfl : x1.toInt = _) c_22)
        refine lv_goto (tgt := 68) hx hb dX47_first_55 (by decide) ?_
        have hq_29 := hw.1
        have hw := hw.2
        obtain ⟨x4_28, ex4_28⟩ : ∃ y : Int32, y = x4 + 1 := ⟨_, rfl⟩
        have hw := hw x4_28.toInt (by rw [ex4_28]; exact (z_x (z_add (z_m (rfl : x4.toInt = _)) (z_m (rfl : (1 : Int32).toInt = 1))) hq_29))
        refine lv_iinc (v := x4_28) (lv' := [(4, .int x4_28), (0, .ref (ad 0)), (1, .int x1), (3, .int x3)]) hx hb dX47_first_68 hl (k := 3) rfl (by rw [ex4_28]; rfl) (by decide) rfl (fun ls hl => ?_)
        refine lv_goto (tgt := 32) hx hb dX47_first_71 (by decide) ?_
        exact ih x3 x4_28 hw _ _ ls hH (lv_sub hl [1, 2, 3, 0] rfl)
set_option maxHeartbeats 4000000 in
theorem walkX47_first {l : Launch} {dC : Nat → ClassId} {dI : Nat → Nat → Nat} {cl : List vw_C} {ci : Nat} (hc : cl[ci]? = some (RX47, TX47, 27)) {ad : Nat → Nat} {d : Nat → ClassId} {sz : Nat} {f_constants : Nat → Int64} {f_blanks : Nat → Int32} {f_counts : Nat → Int32} {f_points : Nat → Int32} {f_kept : Int32} {f_hashes : Nat → Int64} {f_news : Nat → Int64} {f_rounds : Int32} {f_hashed : Int32} {f_groups : Nat → Int32} {f_groupOf : Nat → Int32} {f_groupCount : Int32} {f_trial : Nat → Int32} {f_row : Nat → Int32} {f_names : Nat → Int32} {f_namedBlanks : Int32} {f_form : Nat → Int32} {f_formCount : Int32} {f_octets : Nat → Int32} {f_descriptions : Nat → Int32} {f_described : Int32} {f_message : Nat → Int32} {f_size : Int32} {f_words : Nat → Int64} {f_schedule : Nat → Int64} {f_thrown : Int32} {f_said : Nat → Int32} {x1 : Int32} {x2 : Int32} {post : Int → (Int → Int) → (Int → Int) → Int → Int → (Int → Int) → (Int → Int) → Int → (Int → Int) → Int → (Int → Int) → Int → (Int → Int) → (Int → Int) → Int → (Int → Int) → Prop} (hw : wpX47_first post (zG f_constants) (zF f_blanks) (zF f_counts) (zF f_points) (zG f_hashes) (zG f_news) f_rounds.toInt f_hashed.toInt (zF f_groups) (zF f_groupOf) f_groupCount.toInt (zF f_descriptions) f_described.toInt (zF f_message) f_size.toInt (zG f_words) (zG f_schedule) (zF f_said) x1.toInt x2.toInt) :
    Met l yX47_first (ws_ yX47_first cX47_first 5 (some .int)) ({ frames := 5, cells := 0, slots := 0, locals := 135 } : Room) (kPc (dC, dI) cl (tX47 d) [.ref (ad 0), .int x1, .int x2] sz (wX47 ci ad d f_constants f_blanks f_counts f_points f_kept f_hashes f_news f_rounds f_hashed f_groups f_groupOf f_groupCount f_trial f_row f_names f_namedBlanks f_form f_formCount f_octets f_descriptions f_described f_message f_size f_words f_schedule f_thrown f_said)) (va_Qi (fun (r : Int32) (u : (Nat → Int64) × (Nat → Int64) × Int32 × Int32 × (Nat → Int32) × (Nat → Int32) × Int32 × (Nat → Int32) × Int32 × (Nat → Int32) × Int32 × (Nat → Int64) × (Nat → Int64) × Int32 × (Nat → Int32)) => post r.toInt (zG (u.1)) (zG (u.2.1)) (u.2.2.1).toInt (u.2.2.2.1).toInt (zF (u.2.2.2.2.1)) (zF (u.2.2.2.2.2.1)) (u.2.2.2.2.2.2.1).toInt (zF (u.2.2.2.2.2.2.2.1)) (u.2.2.2.2.2.2.2.2.1).toInt (zF (u.2.2.2.2.2.2.2.2.2.1)) (u.2.2.2.2.2.2.2.2.2.2.1).toInt (zG (u.2.2.2.2.2.2.2.2.2.2.2.1)) (zG (u.2.2.2.2.2.2.2.2.2.2.2.2.1)) (u.2.2.2.2.2.2.2.2.2.2.2.2.2.1).toInt (zF (u.2.2.2.2.2.2.2.2.2.2.2.2.2.2))) (kB (dC, dI) cl (tX47 d) (va_A (wX47 ci ad d f_constants f_blanks f_counts f_points f_kept f_hashes f_news f_rounds f_hashed f_groups f_groupOf f_groupCount f_trial f_row f_names f_namedBlanks f_form f_formCount f_octets f_descriptions f_described f_message f_size f_words f_schedule f_thrown f_said) sz) (fun u : (Nat → Int64) × (Nat → Int64) × Int32 × Int32 × (Nat → Int32) × (Nat → Int32) × Int32 × (Nat → Int32) × Int32 × (Nat → Int32) × Int32 × (Nat → Int64) × (Nat → Int64) × Int32 × (Nat → Int32) => (wX47 ci ad d f_constants f_blanks f_counts f_points f_kept (u.1) (u.2.1) (u.2.2.1) (u.2.2.2.1) (u.2.2.2.2.1) (u.2.2.2.2.2.1) (u.2.2.2.2.2.2.1) f_trial f_row f_names f_namedBlanks f_form f_formCount f_octets (u.2.2.2.2.2.2.2.1) (u.2.2.2.2.2.2.2.2.1) (u.2.2.2.2.2.2.2.2.2.1) (u.2.2.2.2.2.2.2.2.2.2.1) (u.2.2.2.2.2.2.2.2.2.2.2.1) (u.2.2.2.2.2.2.2.2.2.2.2.2.1) (u.2.2.2.2.2.2.2.2.2.2.2.2.2.1) (u.2.2.2.2.2.2.2.2.2.2.2.2.2.2)))) (va_A (wX47 ci ad d f_constants f_blanks f_counts f_points f_kept f_hashes f_news f_rounds f_hashed f_groups f_groupOf f_groupCount f_trial f_row f_names f_namedBlanks f_form f_formCount f_octets f_descriptions f_described f_message f_size f_words f_schedule f_thrown f_said) sz)) 0 0 (va_A (wX47 ci ad d f_constants f_blanks f_counts f_points f_kept f_hashes f_news f_rounds f_hashed f_groups f_groupOf f_groupCount f_trial f_row f_names f_namedBlanks f_form f_formCount f_octets f_descriptions f_described f_message f_size f_words f_schedule f_thrown f_said) sz) := by
  refine k_enter (by decide) (Nat.le_of_ble_eq_true rfl) ?_
  intro p e s m below meth c ls X hsz hH hl
  subst hsz
  generalize va_A (wX47 ci ad d f_constants f_blanks f_counts f_points f_kept f_hashes f_news f_rounds f_hashed f_groups f_groupOf f_groupCount f_trial f_row f_names f_namedBlanks f_form f_formCount f_octets f_descriptions f_described f_message f_size f_words f_schedule f_thrown f_said) s.heap.size = A at hH ⊢
  have hx := X.1.1
  have hb := X.1.2.1
  have hl : lv_has ls 5 [(0, .ref (ad 0)), (1, .int x1), (2, .int x2)] := hl
  unfold wpX47_first at hw
  refine lv_aload_n hx hb dX47_first_0 rfl (lv_at hl 0 rfl) ?_
  refine lv_iconst (v := 0) hx hb dX47_first_1 (by decide) ?_
  refine k_put X hH in_X47 tyX47_ok nmX47 0 rfl hc 25 (by decide) q6009 rfl (ty := .int) rfl rfl rfl (Nat.le_of_ble_eq_true rfl) dX47_first_2 (ws1 := (wX47 ci ad d f_constants f_blanks f_counts f_points f_kept f_hashes f_news f_rounds f_hashed f_groups f_groupOf f_groupCount f_trial f_row f_names f_namedBlanks f_form f_formCount f_octets f_descriptions f_described f_message f_size f_words f_schedule 0 f_said)) rfl (fun H locs hH => ?_)
  refine lv_aload_n hx hb dX47_first_5 rfl (lv_at hl 0 rfl) ?_
  refine k_v0 hH (k_runV (As := []) (rest := []) X hH.1 hH.2.1 X.2.2.2 (walkX47_makeHashes hc (f_constants := f_constants) (f_blanks := f_blanks) (f_counts := f_counts) (f_points := f_points) (f_kept := f_kept) (f_hashes := f_hashes) (f_news := f_news) (f_rounds := f_rounds) (f_hashed := f_hashed) (f_groups := f_groups) (f_groupOf := f_groupOf) (f_groupCount := f_groupCount) (f_trial := f_trial) (f_row := f_row) (f_names := f_names) (f_namedBlanks := f_namedBlanks) (f_form := f_form) (f_formCount := f_formCount) (f_octets := f_octets) (f_descriptions := f_descriptions) (f_described := f_described) (f_message := f_message) (f_size := f_size) (f_words := f_words) (f_schedule := f_schedule) (f_thrown := 0) (f_said := f_said) hw) (cwV 0 X.1.2.2.2.2 gX47_294 rfl rfl rfl hX47_makeHashes ⟨Nat.le_of_ble_eq_true rfl, Nat.le_of_ble_eq_true rfl⟩) hc (q0 := 0) rfl rfl hl.1 rfl (Nat.le_of_ble_eq_true rfl) dX47_first_6 ⟨Nat.le_refl 0, Nat.le_refl 0⟩) (fun u H locs hw hH => ?_)
  obtain ⟨f_hashes_1, f_news_2, f_rounds_3, f_hashed_4, f_groups_5, f_groupOf_6, f_groupCount_7, f_descriptions_8, f_described_9, f_message_10, f_size_11, f_words_12, f_schedule_13, f_said_14⟩ := u
  have hH : kH (dC, dI) cl A s.heap H locs (wX47 ci ad d f_constants f_blanks f_counts f_points f_kept f_hashes_1 f_news_2 f_rounds_3 f_hashed_4 f_groups_5 f_groupOf_6 f_groupCount_7 f_trial f_row f_names f_namedBlanks f_form f_formCount f_octets f_descriptions_8 f_described_9 f_message_10 f_size_11 f_words_12 f_schedule_13 0 f_said_14) := hH
  refine lv_iload_n hx hb dX47_first_9 rfl (lv_at hl 1 rfl) ?_
  refine lv_if_lt (tgt := 25) hx hb dX47_first_10 (by decide) (fun c_15 => ?_) (fun c_15 => ?_)
  · have hw := hw.1 (z_lt (rfl : x1.toInt = _) (rfl : (0 : Int32).toInt = 0) c_15)
    refine lv_iconst (v := (-1)) hx hb dX47_first_25 (by decide) ?_
    exact k_iret (v := (-1)) X hH (f_hashes_1, f_news_2, f_rounds_3, f_hashed_4, f_groups_5, f_groupOf_6, f_groupCount_7, f_descriptions_8, f_described_9, f_message_10, f_size_11, f_words_12, f_schedule_13, 0, f_said_14) hw rfl rfl dX47_first_26
  · have hw := hw.2 (z_nlt (rfl : x1.toInt = _) (rfl : (0 : Int32).toInt = 0) c_15)
    refine lv_iload_n hx hb dX47_first_13 rfl (lv_at hl 1 rfl) ?_
    refine lv_aload_n hx hb dX47_first_14 rfl (lv_at hl 0 rfl) ?_
    refine k_get X hH in_X47 0 rfl hc 11 (by decide) q5995 rfl dX47_first_15 ?_
    refine lv_icmp_ge (tgt := 25) hx hb dX47_first_18 (by decide) (fun c_16 => ?_) (fun c_16 => ?_)
    · have hw := hw.1 (z_le (rfl : f_groupCount_7.toInt = _) (rfl : x1.toInt = _) c_16)
      refine lv_iconst (v := (-1)) hx hb dX47_first_25 (by decide) ?_
      exact k_iret (v := (-1)) X hH (f_hashes_1, f_news_2, f_rounds_3, f_hashed_4, f_groups_5, f_groupOf_6, f_groupCount_7, f_descriptions_8, f_described_9, f_message_10, f_size_11, f_words_12, f_schedule_13, 0, f_said_14) hw rfl rfl dX47_first_26
    · have hw := hw.2 (z_nle (rfl : f_groupCount_7.toInt = _) (rfl : x1.toInt = _) c_16)
      refine lv_iload_n hx hb dX47_first_21 rfl (lv_at hl 2 rfl) ?_
      refine lv_if_ge (tgt := 27) hx hb dX47_first_22 (by decide) (fun c_17 => ?_) (fun c_17 => ?_)
      · have hw := hw.1 (z_le (rfl : (0 : Int32).toInt = 0) (rfl : x2.toInt = _) c_17)
        refine lv_iload_n hx hb dX47_first_27 rfl (lv_at hl 2 rfl) ?_
        refine lv_istore_n (lv' := [(3, .int x2), (0, .ref (ad 0)), (1, .int x1), (2, .int x2)]) hx hb dX47_first_28 rfl hl (by decide) rfl (fun ls hl => ?_)
        refine lv_iconst (v := 1) hx hb dX47_first_29 (by decide) ?_
        refine lv_istore (lv' := [(4, .int 1), (3, .int x2), (0, .ref (ad 0)), (1, .int x1), (2, .int x2)]) hx hb dX47_first_30 hl (by decide) rfl (fun ls hl => ?_)
        obtain ⟨fu, hw⟩ := hw
        refine atX47_first_32 hc X ?_ ?_ fu x2 1 hw _ _ ls hH (lv_sub hl [2, 3, 1, 0] rfl)
        · intro x4_30 hw H locs ls hH hl
          refine lv_iload hx hb dX47_first_62 (lv_at hl 0 rfl) ?_
          exact k_iret (v := x4_30) X hH (f_hashes_1, f_news_2, f_rounds_3, f_hashed_4, f_groups_5, f_groupOf_6, f_groupCount_7, f_descriptions_8, f_described_9, f_message_10, f_size_11, f_words_12, f_schedule_13, 0, f_said_14) hw rfl rfl dX47_first_64
        · intro hw H locs ls hH hl
          refine lv_iconst (v := (-1)) hx hb dX47_first_74 (by decide) ?_
          exact k_iret (v := (-1)) X hH (f_hashes_1, f_news_2, f_rounds_3, f_hashed_4, f_groups_5, f_groupOf_6, f_groupCount_7, f_descriptions_8, f_described_9, f_message_10, f_size_11, f_words_12, f_schedule_13, 0, f_said_14) hw rfl rfl dX47_first_75
      · have hw := hw.2 (z_nle (rfl : (0 : Int32).toInt = 0) (rfl : x2.toInt = _) c_17)
        refine lv_iconst (v := (-1)) hx hb dX47_first_25 (by decide) ?_
        exact k_iret (v := (-1)) X hH (f_hashes_1, f_news_2, f_rounds_3, f_hashed_4, f_groups_5, f_groupOf_6, f_groupCount_7, f_descriptions_8, f_described_9, f_message_10, f_size_11, f_words_12, f_schedule_13, 0, f_said_14) hw rfl rfl dX47_first_26
set_option maxHeartbeats 4000000 in
theorem walkX47_equal {l : Launch} {dC : Nat → ClassId} {dI : Nat → Nat → Nat} {cl : List vw_C} {ci : Nat} (hc : cl[ci]? = some (RX47, TX47, 27)) {ad : Nat → Nat} {d : Nat → ClassId} {sz : Nat} {f_constants : Nat → Int64} {f_blanks : Nat → Int32} {f_counts : Nat → Int32} {f_points : Nat → Int32} {f_kept : Int32} {f_hashes : Nat → Int64} {f_news : Nat → Int64} {f_rounds : Int32} {f_hashed : Int32} {f_groups : Nat → Int32} {f_groupOf : Nat → Int32} {f_groupCount : Int32} {f_trial : Nat → Int32} {f_row : Nat → Int32} {f_names : Nat → Int32} {f_namedBlanks : Int32} {f_form : Nat → Int32} {f_formCount : Int32} {f_octets : Nat → Int32} {f_descriptions : Nat → Int32} {f_described : Int32} {f_message : Nat → Int32} {f_size : Int32} {f_words : Nat → Int64} {f_schedule : Nat → Int64} {f_thrown : Int32} {f_said : Nat → Int32} {x1 : Int32} {post : Int → (Int → Int) → Int → Prop} (hw : wpX47_equal post (zF f_blanks) (zF f_counts) (zF f_points) f_kept.toInt (zF f_trial) x1.toInt) :
    Met l yX47_equal (ws_ yX47_equal cX47_equal 2 (some .int)) ({ frames := 3, cells := 0, slots := 0, locals := 70 } : Room) (kPc (dC, dI) cl (tX47 d) [.ref (ad 0), .int x1] sz (wX47 ci ad d f_constants f_blanks f_counts f_points f_kept f_hashes f_news f_rounds f_hashed f_groups f_groupOf f_groupCount f_trial f_row f_names f_namedBlanks f_form f_formCount f_octets f_descriptions f_described f_message f_size f_words f_schedule f_thrown f_said)) (va_Qi (fun (r : Int32) (u : (Nat → Int32) × Int32) => post r.toInt (zF (u.1)) (u.2).toInt) (kB (dC, dI) cl (tX47 d) (va_A (wX47 ci ad d f_constants f_blanks f_counts f_points f_kept f_hashes f_news f_rounds f_hashed f_groups f_groupOf f_groupCount f_trial f_row f_names f_namedBlanks f_form f_formCount f_octets f_descriptions f_described f_message f_size f_words f_schedule f_thrown f_said) sz) (fun u : (Nat → Int32) × Int32 => (wX47 ci ad d f_constants f_blanks f_counts f_points f_kept f_hashes f_news f_rounds f_hashed f_groups f_groupOf f_groupCount (u.1) f_row f_names f_namedBlanks f_form f_formCount f_octets f_descriptions f_described f_message f_size f_words f_schedule (u.2) f_said))) (va_A (wX47 ci ad d f_constants f_blanks f_counts f_points f_kept f_hashes f_news f_rounds f_hashed f_groups f_groupOf f_groupCount f_trial f_row f_names f_namedBlanks f_form f_formCount f_octets f_descriptions f_described f_message f_size f_words f_schedule f_thrown f_said) sz)) 0 0 (va_A (wX47 ci ad d f_constants f_blanks f_counts f_points f_kept f_hashes f_news f_rounds f_hashed f_groups f_groupOf f_groupCount f_trial f_row f_names f_namedBlanks f_form f_formCount f_octets f_descriptions f_described f_message f_size f_words f_schedule f_thrown f_said) sz) := by
  refine k_enter (by decide) (Nat.le_of_ble_eq_true rfl) ?_
  intro p e s m below meth c ls X hsz hH hl
  subst hsz
  generalize va_A (wX47 ci ad d f_constants f_blanks f_counts f_points f_kept f_hashes f_news f_rounds f_hashed f_groups f_groupOf f_groupCount f_trial f_row f_names f_namedBlanks f_form f_formCount f_octets f_descriptions f_described f_message f_size f_words f_schedule f_thrown f_said) s.heap.size = A at hH ⊢
  have hx := X.1.1
  have hb := X.1.2.1
  have hl : lv_has ls 2 [(0, .ref (ad 0)), (1, .int x1)] := hl
  unfold wpX47_equal at hw
  refine lv_aload_n hx hb dX47_equal_0 rfl (lv_at hl 0 rfl) ?_
  refine lv_iconst (v := 0) hx hb dX47_equal_1 (by decide) ?_
  refine k_put X hH in_X47 tyX47_ok nmX47 0 rfl hc 25 (by decide) q6009 rfl (ty := .int) rfl rfl rfl (Nat.le_of_ble_eq_true rfl) dX47_equal_2 (ws1 := (wX47 ci ad d f_constants f_blanks f_counts f_points f_kept f_hashes f_news f_rounds f_hashed f_groups f_groupOf f_groupCount f_trial f_row f_names f_namedBlanks f_form f_formCount f_octets f_descriptions f_described f_message f_size f_words f_schedule 0 f_said)) rfl (fun H locs hH => ?_)
  refine lv_aload_n hx hb dX47_equal_5 rfl (lv_at hl 0 rfl) ?_
  refine lv_iload_n hx hb dX47_equal_6 rfl (lv_at hl 1 rfl) ?_
  refine k_i0 hH (k_runV (As := [.int x1]) (rest := []) X hH.1 hH.2.1 X.2.2.2 (walkX47_isKept hc (x1 := x1) (f_constants := f_constants) (f_blanks := f_blanks) (f_counts := f_counts) (f_points := f_points) (f_kept := f_kept) (f_hashes := f_hashes) (f_news := f_news) (f_rounds := f_rounds) (f_hashed := f_hashed) (f_groups := f_groups) (f_groupOf := f_groupOf) (f_groupCount := f_groupCount) (f_trial := f_trial) (f_row := f_row) (f_names := f_names) (f_namedBlanks := f_namedBlanks) (f_form := f_form) (f_formCount := f_formCount) (f_octets := f_octets) (f_descriptions := f_descriptions) (f_described := f_described) (f_message := f_message) (f_size := f_size) (f_words := f_words) (f_schedule := f_schedule) (f_thrown := 0) (f_said := f_said) hw) (cwV 1 X.1.2.2.2.2 gX47_340 rfl rfl rfl hX47_isKept ⟨Nat.le_of_ble_eq_true rfl, Nat.le_of_ble_eq_true rfl⟩) hc (q0 := 0) rfl rfl hl.1 rfl (Nat.le_of_ble_eq_true rfl) dX47_equal_7 ⟨Nat.le_refl 0, Nat.le_refl 0⟩) (fun r_1 _ H locs hw hH => ?_)
  have hH : kH (dC, dI) cl A s.heap H locs (wX47 ci ad d f_constants f_blanks f_counts f_points f_kept f_hashes f_news f_rounds f_hashed f_groups f_groupOf f_groupCount f_trial f_row f_names f_namedBlanks f_form f_formCount f_octets f_descriptions f_described f_message f_size f_words f_schedule 0 f_said) := hH
  refine lv_if_ne (tgt := 15) hx hb dX47_equal_10 (by decide) (fun c_2 => ?_) (fun c_2 => ?_)
  · have hw := hw.2 (z_ne (rfl : r_1.toInt = _) (rfl : (0 : Int32).toInt = 0) c_2)
    refine lv_aload_n hx hb dX47_equal_15 rfl (lv_at hl 0 rfl) ?_
    refine k_get X hH in_X47 0 rfl hc 1 (by decide) q5985 rfl dX47_equal_16 ?_
    refine lv_iload_n hx hb dX47_equal_19 rfl (lv_at hl 1 rfl) ?_
    have hq_3 := hw.1
    have hw := hw.2
    refine k_iald X hH 2 1 rfl rfl (z_in (rfl : x1.toInt = _) hq_3) dX47_equal_20 ?_
    have e_4 := z_ld (f := f_blanks) (rfl : x1.toInt = _) hq_3.1
    refine lv_aload_n hx hb dX47_equal_21 rfl (lv_at hl 0 rfl) ?_
    refine k_get X hH in_X47 0 rfl hc 1 (by decide) q5985 rfl dX47_equal_22 ?_
    refine lv_bipush (v := 8) hx hb dX47_equal_25 (by decide) ?_
    refine k_iald X hH 2 1 rfl rfl (by unfold vp_in; decide) dX47_equal_27 ?_
    have e_5 := z_ld (f := f_blanks) (rfl : (8 : Int32).toInt = 8) (by decide)
    refine lv_icmp_ne (tgt := 47) hx hb dX47_equal_28 (by decide) (fun c_6 => ?_) (fun c_6 => ?_)
    · have hw := hw.2 (z_ne e_4 e_5 c_6)
      refine lv_iconst (v := 0) hx hb dX47_equal_47 (by decide) ?_
      exact k_iret (v := 0) X hH (f_trial, 0) hw rfl rfl dX47_equal_48
    · have hw := hw.1 (z_eq e_4 e_5 c_6)
      refine lv_aload_n hx hb dX47_equal_31 rfl (lv_at hl 0 rfl) ?_
      refine k_get X hH in_X47 0 rfl hc 2 (by decide) q5986 rfl dX47_equal_32 ?_
      refine lv_iload_n hx hb dX47_equal_35 rfl (lv_at hl 1 rfl) ?_
      refine k_iald X hH 3 2 rfl rfl (z_in (rfl : x1.toInt = _) hq_3) dX47_equal_36 ?_
      have e_7 := z_ld (f := f_counts) (rfl : x1.toInt = _) hq_3.1
      refine lv_aload_n hx hb dX47_equal_37 rfl (lv_at hl 0 rfl) ?_
      refine k_get X hH in_X47 0 rfl hc 2 (by decide) q5986 rfl dX47_equal_38 ?_
      refine lv_bipush (v := 8) hx hb dX47_equal_41 (by decide) ?_
      refine k_iald X hH 3 2 rfl rfl (by unfold vp_in; decide) dX47_equal_43 ?_
      have e_8 := z_ld (f := f_counts) (rfl : (8 : Int32).toInt = 8) (by decide)
      refine lv_icmp_eq (tgt := 49) hx hb dX47_equal_44 (by decide) (fun c_9 => ?_) (fun c_9 => ?_)
      · have hw := hw.1 (z_eq e_7 e_8 c_9)
        refine lv_aload_n hx hb dX47_equal_49 rfl (lv_at hl 0 rfl) ?_
        refine lv_aload_n hx hb dX47_equal_50 rfl (lv_at hl 0 rfl) ?_
        refine k_get X hH in_X47 0 rfl hc 1 (by decide) q5985 rfl dX47_equal_51 ?_
        refine lv_bipush (v := 8) hx hb dX47_equal_54 (by decide) ?_
        refine k_iald X hH 2 1 rfl rfl (by unfold vp_in; decide) dX47_equal_56 ?_
        have e_10 := z_ld (f := f_blanks) (rfl : (8 : Int32).toInt = 8) (by decide)
        refine k_v0 hH (k_runV (As := [.int (f_blanks (8 : Int32).toNatClampNeg)]) (rest := []) X hH.1 hH.2.1 X.2.2.2 (walkX47_begin hc (x1 := (f_blanks (8 : Int32).toNatClampNeg)) (f_constants := f_constants) (f_blanks := f_blanks) (f_counts := f_counts) (f_points := f_points) (f_kept := f_kept) (f_hashes := f_hashes) (f_news := f_news) (f_rounds := f_rounds) (f_hashed := f_hashed) (f_groups := f_groups) (f_groupOf := f_groupOf) (f_groupCount := f_groupCount) (f_trial := f_trial) (f_row := f_row) (f_names := f_names) (f_namedBlanks := f_namedBlanks) (f_form := f_form) (f_formCount := f_formCount) (f_octets := f_octets) (f_descriptions := f_descriptions) (f_described := f_described) (f_message := f_message) (f_size := f_size) (f_words := f_words) (f_schedule := f_schedule) (f_thrown := 0) (f_said := f_said) (by rw [show (f_blanks (8 : Int32).toNatClampNeg : Int32).toInt = _ from e_10]; exact hw)) (cwV 1 X.1.2.2.2.2 gX47_312 rfl rfl rfl hX47_begin ⟨Nat.le_of_ble_eq_true rfl, Nat.le_of_ble_eq_true rfl⟩) hc (q0 := 0) rfl rfl hl.1 rfl (Nat.le_of_ble_eq_true rfl) dX47_equal_57 ⟨Nat.le_refl 0, Nat.le_refl 0⟩) (fun u H locs hw hH => ?_)
        obtain ⟨f_trial_11, eu⟩ : ∃ z, z = u := ⟨_, rfl⟩
        subst eu
        have hH : kH (dC, dI) cl A s.heap H locs (wX47 ci ad d f_constants f_blanks f_counts f_points f_kept f_hashes f_news f_rounds f_hashed f_groups f_groupOf f_groupCount f_trial_11 f_row f_names f_namedBlanks f_form f_formCount f_octets f_descriptions f_described f_message f_size f_words f_schedule 0 f_said) := hH
        refine lv_aload_n hx hb dX47_equal_60 rfl (lv_at hl 0 rfl) ?_
        refine lv_iload_n hx hb dX47_equal_61 rfl (lv_at hl 1 rfl) ?_
        refine k_i0 hH (k_runV (As := [.int x1]) (rest := []) X hH.1 hH.2.1 X.2.2.2 (walkX47_becomes hc (x1 := x1) (f_constants := f_constants) (f_blanks := f_blanks) (f_counts := f_counts) (f_points := f_points) (f_kept := f_kept) (f_hashes := f_hashes) (f_news := f_news) (f_rounds := f_rounds) (f_hashed := f_hashed) (f_groups := f_groups) (f_groupOf := f_groupOf) (f_groupCount := f_groupCount) (f_trial := f_trial_11) (f_row := f_row) (f_names := f_names) (f_namedBlanks := f_namedBlanks) (f_form := f_form) (f_formCount := f_formCount) (f_octets := f_octets) (f_descriptions := f_descriptions) (f_described := f_described) (f_message := f_message) (f_size := f_size) (f_words := f_words) (f_schedule := f_schedule) (f_thrown := 0) (f_said := f_said) hw) (cwV 1 X.1.2.2.2.2 gX47_343 rfl rfl rfl hX47_becomes ⟨Nat.le_of_ble_eq_true rfl, Nat.le_of_ble_eq_true rfl⟩) hc (q0 := 0) rfl rfl hl.1 rfl (Nat.le_of_ble_eq_true rfl) dX47_equal_62 ⟨Nat.le_refl 0, Nat.le_refl 0⟩) (fun r_12 _ H locs hw hH => ?_)
        have hH : kH (dC, dI) cl A s.heap H locs (wX47 ci ad d f_constants f_blanks f_counts f_points f_kept f_hashes f_news f_rounds f_hashed f_groups f_groupOf f_groupCount f_trial_11 f_row f_names f_namedBlanks f_form f_formCount f_octets f_descriptions f_described f_message f_size f_words f_schedule 0 f_said) := hH
        refine lv_if_eq (tgt := 72) hx hb dX47_equal_65 (by decide) (fun c_13 => ?_) (fun c_13 => ?_)
        · have hw := hw.1 (z_eq (rfl : r_12.toInt = _) (rfl : (0 : Int32).toInt = 0) c_13)
          refine lv_iconst (v := 0) hx hb dX47_equal_72 (by decide) ?_
          exact k_iret (v := 0) X hH (f_trial_11, 0) hw rfl rfl dX47_equal_73
        · have hw := hw.2 (z_neq (rfl : r_12.toInt = _) (rfl : (0 : Int32).toInt = 0) c_13)
          refine lv_iconst (v := 1) hx hb dX47_equal_68 (by decide) ?_
          refine lv_goto (tgt := 73) hx hb dX47_equal_69 (by decide) ?_
          exact k_iret (v := 1) X hH (f_trial_11, 0) hw rfl rfl dX47_equal_73
      · have hw := hw.2 (z_neq e_7 e_8 c_9)
        refine lv_iconst (v := 0) hx hb dX47_equal_47 (by decide) ?_
        exact k_iret (v := 0) X hH (f_trial, 0) hw rfl rfl dX47_equal_48
  · have hw := hw.1 (z_eq (rfl : r_1.toInt = _) (rfl : (0 : Int32).toInt = 0) c_2)
    refine lv_iconst (v := (-1)) hx hb dX47_equal_13 (by decide) ?_
    exact k_iret (v := (-1)) X hH (f_trial, 0) hw rfl rfl dX47_equal_14
set_option maxHeartbeats 4000000 in
theorem walkX47_blanks {l : Launch} {dC : Nat → ClassId} {dI : Nat → Nat → Nat} {cl : List vw_C} {ci : Nat} (hc : cl[ci]? = some (RX47, TX47, 27)) {ad : Nat → Nat} {d : Nat → ClassId} {sz : Nat} {f_constants : Nat → Int64} {f_blanks : Nat → Int32} {f_counts : Nat → Int32} {f_points : Nat → Int32} {f_kept : Int32} {f_hashes : Nat → Int64} {f_news : Nat → Int64} {f_rounds : Int32} {f_hashed : Int32} {f_groups : Nat → Int32} {f_groupOf : Nat → Int32} {f_groupCount : Int32} {f_trial : Nat → Int32} {f_row : Nat → Int32} {f_names : Nat → Int32} {f_namedBlanks : Int32} {f_form : Nat → Int32} {f_formCount : Int32} {f_octets : Nat → Int32} {f_descriptions : Nat → Int32} {f_described : Int32} {f_message : Nat → Int32} {f_size : Int32} {f_words : Nat → Int64} {f_schedule : Nat → Int64} {f_thrown : Int32} {f_said : Nat → Int32}  {post : Int → Int → Prop} (hw : wpX47_blanks post (zF f_blanks) ) :
    Met l yX47_blanks (ws_ yX47_blanks cX47_blanks 1 (some .int)) ({ frames := 0, cells := 0, slots := 0, locals := 0 } : Room) (kPc (dC, dI) cl (tX47 d) [.ref (ad 0)] sz (wX47 ci ad d f_constants f_blanks f_counts f_points f_kept f_hashes f_news f_rounds f_hashed f_groups f_groupOf f_groupCount f_trial f_row f_names f_namedBlanks f_form f_formCount f_octets f_descriptions f_described f_message f_size f_words f_schedule f_thrown f_said)) (va_Qi (fun (r : Int32) (u : Int32) => post r.toInt (u).toInt) (kB (dC, dI) cl (tX47 d) (va_A (wX47 ci ad d f_constants f_blanks f_counts f_points f_kept f_hashes f_news f_rounds f_hashed f_groups f_groupOf f_groupCount f_trial f_row f_names f_namedBlanks f_form f_formCount f_octets f_descriptions f_described f_message f_size f_words f_schedule f_thrown f_said) sz) (fun u : Int32 => (wX47 ci ad d f_constants f_blanks f_counts f_points f_kept f_hashes f_news f_rounds f_hashed f_groups f_groupOf f_groupCount f_trial f_row f_names f_namedBlanks f_form f_formCount f_octets f_descriptions f_described f_message f_size f_words f_schedule (u) f_said))) (va_A (wX47 ci ad d f_constants f_blanks f_counts f_points f_kept f_hashes f_news f_rounds f_hashed f_groups f_groupOf f_groupCount f_trial f_row f_names f_namedBlanks f_form f_formCount f_octets f_descriptions f_described f_message f_size f_words f_schedule f_thrown f_said) sz)) 0 0 (va_A (wX47 ci ad d f_constants f_blanks f_counts f_points f_kept f_hashes f_news f_rounds f_hashed f_groups f_groupOf f_groupCount f_trial f_row f_names f_namedBlanks f_form f_formCount f_octets f_descriptions f_described f_message f_size f_words f_schedule f_thrown f_said) sz) := by
  refine k_enter (by decide) (Nat.le_of_ble_eq_true rfl) ?_
  intro p e s m below meth c ls X hsz hH hl
  subst hsz
  generalize va_A (wX47 ci ad d f_constants f_blanks f_counts f_points f_kept f_hashes f_news f_rounds f_hashed f_groups f_groupOf f_groupCount f_trial f_row f_names f_namedBlanks f_form f_formCount f_octets f_descriptions f_described f_message f_size f_words f_schedule f_thrown f_said) s.heap.size = A at hH ⊢
  have hx := X.1.1
  have hb := X.1.2.1
  have hl : lv_has ls 1 [(0, .ref (ad 0))] := hl
  unfold wpX47_blanks at hw
  refine lv_aload_n hx hb dX47_blanks_0 rfl (lv_at hl 0 rfl) ?_
  refine lv_iconst (v := 0) hx hb dX47_blanks_1 (by decide) ?_
  refine k_put X hH in_X47 tyX47_ok nmX47 0 rfl hc 25 (by decide) q6009 rfl (ty := .int) rfl rfl rfl (Nat.le_of_ble_eq_true rfl) dX47_blanks_2 (ws1 := (wX47 ci ad d f_constants f_blanks f_counts f_points f_kept f_hashes f_news f_rounds f_hashed f_groups f_groupOf f_groupCount f_trial f_row f_names f_namedBlanks f_form f_formCount f_octets f_descriptions f_described f_message f_size f_words f_schedule 0 f_said)) rfl (fun H locs hH => ?_)
  refine lv_aload_n hx hb dX47_blanks_5 rfl (lv_at hl 0 rfl) ?_
  refine k_get X hH in_X47 0 rfl hc 1 (by decide) q5985 rfl dX47_blanks_6 ?_
  refine lv_bipush (v := 8) hx hb dX47_blanks_9 (by decide) ?_
  refine k_iald X hH 2 1 rfl rfl (by unfold vp_in; decide) dX47_blanks_11 ?_
  have e_1 := z_ld (f := f_blanks) (rfl : (8 : Int32).toInt = 8) (by decide)
  exact k_iret (v := f_blanks (8 : Int32).toNatClampNeg) X hH (0) (by rw [show (f_blanks (8 : Int32).toNatClampNeg : Int32).toInt = _ from e_1]; exact hw) rfl rfl dX47_blanks_12
